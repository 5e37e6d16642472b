set_option maxRecDepth 100000
/-! AbbeyNotes -/
set_option maxRecDepth 100000
def RX0 : String := "AbbeyNotes"
def TX0 : u_T := fun k => match k with
  | 0 => ("AbbeyNotes", "land", "LAbbeyNotes$Land;", true)
  | 1 => ("AbbeyNotes", "now", "LAbbeyNotes$Land;", true)
  | 2 => ("AbbeyNotes", "images", "[LAbbeyNotes$Land;", true)
  | 3 => ("AbbeyNotes", "signs", "I", false)
  | 4 => ("AbbeyNotes", "sign", "[C", true)
  | 5 => ("AbbeyNotes", "reason", "I", false)
  | 6 => ("AbbeyNotes", "acts", "I", false)
  | 7 => ("AbbeyNotes", "ended", "I", false)
  | 8 => ("AbbeyNotes", "rates", "[I", true)
  | 9 => ("AbbeyNotes", "net", "[I", true)
  | 10 => ("AbbeyNotes", "parts", "[I", true)
  | 11 => ("AbbeyNotes", "worth", "[J", true)
  | 12 => ("AbbeyNotes", "later", "[J", true)
  | _ => ("AbbeyNotes", "lies", "[I", true)
def tyX0 : Nat → FieldType := fun k => match k with
  | 0 => .object "AbbeyNotes$Land"
  | 1 => .object "AbbeyNotes$Land"
  | 2 => .array (.object "AbbeyNotes$Land")
  | 3 => .int
  | 4 => .array .char
  | 5 => .int
  | 6 => .int
  | 7 => .int
  | 8 => .array .int
  | 9 => .array .int
  | 10 => .array .int
  | 11 => .array .long
  | 12 => .array .long
  | _ => .array .int
abbrev wsX00 : List Cond := u_ws RX0 TX0 14
set_option maxRecDepth 100000 in
theorem nmX0 : ∀ a, a < 14 → ∀ b, b < 14 → a ≠ b → (TX0 a).2.1 ≠ (TX0 b).2.1 := by decide +kernel
set_option maxRecDepth 100000 in
theorem tyX0_ok : ∀ k, k < 14 → parseFieldDescriptor (TX0 k).2.2.1 = some (tyX0 k) := by decide +kernel
abbrev cX0_init : ByteArray := prog_1_method_5_code
def yX0_init : MethodName := ⟨RX0, "<init>", "()V"⟩
def dkwX0_init_4 : List UInt8 := [162, 0, 22, 42, 180, 0, 27, 27, 187, 0, 17, 89, 183, 0, 19, 83, 132, 1, 1, 167, 255, 235, 177]
abbrev dktX0_init_4 : List UInt8 := dkwX0_init_4 ++ []
def dkwX0_init_3 : List UInt8 := [181, 0, 45, 42, 16, 69, 188, 11, 181, 0, 49, 42, 16, 8, 188, 10, 181, 0, 52, 3, 60, 27, 5]
abbrev dktX0_init_3 : List UInt8 := dkwX0_init_3 ++ dktX0_init_4
def dkwX0_init_2 : List UInt8 := [181, 0, 35, 42, 16, 6, 188, 10, 181, 0, 39, 42, 16, 64, 188, 10, 181, 0, 42, 42, 16, 69, 188, 11]
abbrev dktX0_init_2 : List UInt8 := dkwX0_init_2 ++ dktX0_init_3
def dkwX0_init_1 : List UInt8 := [181, 0, 24, 42, 5, 189, 0, 17, 181, 0, 27, 42, 16, 60, 188, 5, 181, 0, 31, 42, 16, 60, 188, 10]
abbrev dktX0_init_1 : List UInt8 := dkwX0_init_1 ++ dktX0_init_2
def dkwX0_init_0 : List UInt8 := [42, 183, 0, 11, 42, 187, 0, 17, 89, 183, 0, 19, 181, 0, 20, 42, 187, 0, 17, 89, 183, 0, 19]
abbrev dktX0_init_0 : List UInt8 := dkwX0_init_0 ++ dktX0_init_1
theorem dksX0_init_0 : cX0_init.data.toList.drop 0 = dktX0_init_0 := by decide +kernel
theorem dksX0_init_1 : cX0_init.data.toList.drop 23 = dktX0_init_1 := dk_seg dksX0_init_0 23 rfl rfl
theorem dksX0_init_2 : cX0_init.data.toList.drop 47 = dktX0_init_2 := dk_seg dksX0_init_1 24 rfl rfl
theorem dksX0_init_3 : cX0_init.data.toList.drop 71 = dktX0_init_3 := dk_seg dksX0_init_2 24 rfl rfl
theorem dksX0_init_4 : cX0_init.data.toList.drop 94 = dktX0_init_4 := dk_seg dksX0_init_3 23 rfl rfl
theorem dX0_init_0 : decode cX0_init 0 = .ok (.aload_n 0, 1) := dk_42 (dk_at dksX0_init_0 0 rfl rfl)
theorem dX0_init_1 : decode cX0_init 1 = .ok (.invokespecial 11, 3) := dk_183 0 11 (dk_at dksX0_init_0 1 rfl rfl)
theorem dX0_init_4 : decode cX0_init 4 = .ok (.aload_n 0, 1) := dk_42 (dk_at dksX0_init_0 4 rfl rfl)
theorem dX0_init_5 : decode cX0_init 5 = .ok (.new 17, 3) := dk_187 0 17 (dk_at dksX0_init_0 5 rfl rfl)
theorem dX0_init_8 : decode cX0_init 8 = .ok (.dup, 1) := dk_89 (dk_at dksX0_init_0 8 rfl rfl)
theorem dX0_init_9 : decode cX0_init 9 = .ok (.invokespecial 19, 3) := dk_183 0 19 (dk_at dksX0_init_0 9 rfl rfl)
theorem dX0_init_12 : decode cX0_init 12 = .ok (.putfield 20, 3) := dk_181 0 20 (dk_at dksX0_init_0 12 rfl rfl)
theorem dX0_init_15 : decode cX0_init 15 = .ok (.aload_n 0, 1) := dk_42 (dk_at dksX0_init_0 15 rfl rfl)
theorem dX0_init_16 : decode cX0_init 16 = .ok (.new 17, 3) := dk_187 0 17 (dk_at dksX0_init_0 16 rfl rfl)
theorem dX0_init_19 : decode cX0_init 19 = .ok (.dup, 1) := dk_89 (dk_at dksX0_init_0 19 rfl rfl)
theorem dX0_init_20 : decode cX0_init 20 = .ok (.invokespecial 19, 3) := dk_183 0 19 (dk_at dksX0_init_0 20 rfl rfl)
theorem dX0_init_23 : decode cX0_init 23 = .ok (.putfield 24, 3) := dk_181 0 24 (dk_at dksX0_init_1 0 rfl rfl)
theorem dX0_init_26 : decode cX0_init 26 = .ok (.aload_n 0, 1) := dk_42 (dk_at dksX0_init_1 3 rfl rfl)
theorem dX0_init_27 : decode cX0_init 27 = .ok (.iconst 2, 1) := dk_5 (dk_at dksX0_init_1 4 rfl rfl)
theorem dX0_init_28 : decode cX0_init 28 = .ok (.anewarray 17, 3) := dk_189 0 17 (dk_at dksX0_init_1 5 rfl rfl)
theorem dX0_init_31 : decode cX0_init 31 = .ok (.putfield 27, 3) := dk_181 0 27 (dk_at dksX0_init_1 8 rfl rfl)
theorem dX0_init_34 : decode cX0_init 34 = .ok (.aload_n 0, 1) := dk_42 (dk_at dksX0_init_1 11 rfl rfl)
theorem dX0_init_35 : decode cX0_init 35 = .ok (.bipush 60, 2) := dk_16 60 (dk_at dksX0_init_1 12 rfl rfl)
theorem dX0_init_37 : decode cX0_init 37 = .ok (.newarray .char, 2) := dk_188_5 (dk_at dksX0_init_1 14 rfl rfl)
theorem dX0_init_39 : decode cX0_init 39 = .ok (.putfield 31, 3) := dk_181 0 31 (dk_at dksX0_init_1 16 rfl rfl)
theorem dX0_init_42 : decode cX0_init 42 = .ok (.aload_n 0, 1) := dk_42 (dk_at dksX0_init_1 19 rfl rfl)
theorem dX0_init_43 : decode cX0_init 43 = .ok (.bipush 60, 2) := dk_16 60 (dk_at dksX0_init_1 20 rfl rfl)
theorem dX0_init_45 : decode cX0_init 45 = .ok (.newarray .int, 2) := dk_188_10 (dk_at dksX0_init_1 22 rfl rfl)
theorem dX0_init_47 : decode cX0_init 47 = .ok (.putfield 35, 3) := dk_181 0 35 (dk_at dksX0_init_2 0 rfl rfl)
theorem dX0_init_50 : decode cX0_init 50 = .ok (.aload_n 0, 1) := dk_42 (dk_at dksX0_init_2 3 rfl rfl)
theorem dX0_init_51 : decode cX0_init 51 = .ok (.bipush 6, 2) := dk_16 6 (dk_at dksX0_init_2 4 rfl rfl)
theorem dX0_init_53 : decode cX0_init 53 = .ok (.newarray .int, 2) := dk_188_10 (dk_at dksX0_init_2 6 rfl rfl)
theorem dX0_init_55 : decode cX0_init 55 = .ok (.putfield 39, 3) := dk_181 0 39 (dk_at dksX0_init_2 8 rfl rfl)
theorem dX0_init_58 : decode cX0_init 58 = .ok (.aload_n 0, 1) := dk_42 (dk_at dksX0_init_2 11 rfl rfl)
theorem dX0_init_59 : decode cX0_init 59 = .ok (.bipush 64, 2) := dk_16 64 (dk_at dksX0_init_2 12 rfl rfl)
theorem dX0_init_61 : decode cX0_init 61 = .ok (.newarray .int, 2) := dk_188_10 (dk_at dksX0_init_2 14 rfl rfl)
theorem dX0_init_63 : decode cX0_init 63 = .ok (.putfield 42, 3) := dk_181 0 42 (dk_at dksX0_init_2 16 rfl rfl)
theorem dX0_init_66 : decode cX0_init 66 = .ok (.aload_n 0, 1) := dk_42 (dk_at dksX0_init_2 19 rfl rfl)
theorem dX0_init_67 : decode cX0_init 67 = .ok (.bipush 69, 2) := dk_16 69 (dk_at dksX0_init_2 20 rfl rfl)
theorem dX0_init_69 : decode cX0_init 69 = .ok (.newarray .long, 2) := dk_188_11 (dk_at dksX0_init_2 22 rfl rfl)
theorem dX0_init_71 : decode cX0_init 71 = .ok (.putfield 45, 3) := dk_181 0 45 (dk_at dksX0_init_3 0 rfl rfl)
theorem dX0_init_74 : decode cX0_init 74 = .ok (.aload_n 0, 1) := dk_42 (dk_at dksX0_init_3 3 rfl rfl)
theorem dX0_init_75 : decode cX0_init 75 = .ok (.bipush 69, 2) := dk_16 69 (dk_at dksX0_init_3 4 rfl rfl)
theorem dX0_init_77 : decode cX0_init 77 = .ok (.newarray .long, 2) := dk_188_11 (dk_at dksX0_init_3 6 rfl rfl)
theorem dX0_init_79 : decode cX0_init 79 = .ok (.putfield 49, 3) := dk_181 0 49 (dk_at dksX0_init_3 8 rfl rfl)
theorem dX0_init_82 : decode cX0_init 82 = .ok (.aload_n 0, 1) := dk_42 (dk_at dksX0_init_3 11 rfl rfl)
theorem dX0_init_83 : decode cX0_init 83 = .ok (.bipush 8, 2) := dk_16 8 (dk_at dksX0_init_3 12 rfl rfl)
theorem dX0_init_85 : decode cX0_init 85 = .ok (.newarray .int, 2) := dk_188_10 (dk_at dksX0_init_3 14 rfl rfl)
theorem dX0_init_87 : decode cX0_init 87 = .ok (.putfield 52, 3) := dk_181 0 52 (dk_at dksX0_init_3 16 rfl rfl)
theorem dX0_init_90 : decode cX0_init 90 = .ok (.iconst 0, 1) := dk_3 (dk_at dksX0_init_3 19 rfl rfl)
theorem dX0_init_91 : decode cX0_init 91 = .ok (.istore_n 1, 1) := dk_60 (dk_at dksX0_init_3 20 rfl rfl)
theorem dX0_init_92 : decode cX0_init 92 = .ok (.iload_n 1, 1) := dk_27 (dk_at dksX0_init_3 21 rfl rfl)
theorem dX0_init_93 : decode cX0_init 93 = .ok (.iconst 2, 1) := dk_5 (dk_at dksX0_init_3 22 rfl rfl)
theorem dX0_init_94 : decode cX0_init 94 = .ok (.if_icmp .ge 22, 3) := dk_162 0 22 (dk_at dksX0_init_4 0 rfl rfl)
theorem dX0_init_97 : decode cX0_init 97 = .ok (.aload_n 0, 1) := dk_42 (dk_at dksX0_init_4 3 rfl rfl)
theorem dX0_init_98 : decode cX0_init 98 = .ok (.getfield 27, 3) := dk_180 0 27 (dk_at dksX0_init_4 4 rfl rfl)
theorem dX0_init_101 : decode cX0_init 101 = .ok (.iload_n 1, 1) := dk_27 (dk_at dksX0_init_4 7 rfl rfl)
theorem dX0_init_102 : decode cX0_init 102 = .ok (.new 17, 3) := dk_187 0 17 (dk_at dksX0_init_4 8 rfl rfl)
theorem dX0_init_105 : decode cX0_init 105 = .ok (.dup, 1) := dk_89 (dk_at dksX0_init_4 11 rfl rfl)
theorem dX0_init_106 : decode cX0_init 106 = .ok (.invokespecial 19, 3) := dk_183 0 19 (dk_at dksX0_init_4 12 rfl rfl)
theorem dX0_init_109 : decode cX0_init 109 = .ok (.aastore, 1) := dk_83 (dk_at dksX0_init_4 15 rfl rfl)
theorem dX0_init_110 : decode cX0_init 110 = .ok (.iinc 1 1, 3) := dk_132 1 1 (dk_at dksX0_init_4 16 rfl rfl)
theorem dX0_init_113 : decode cX0_init 113 = .ok (.goto (-21), 3) := dk_167 255 235 (dk_at dksX0_init_4 19 rfl rfl)
theorem dX0_init_116 : decode cX0_init 116 = .ok (.return_, 1) := dk_177 (dk_at dksX0_init_4 22 rfl rfl)
abbrev cX0_one : ByteArray := prog_1_method_9_code
def yX0_one : MethodName := ⟨RX0, "one", "(III)I"⟩
def dkwX0_one_3 : List UInt8 := [180, 0, 20, 180, 0, 66, 27, 29, 79, 21, 4, 172]
abbrev dktX0_one_3 : List UInt8 := dkwX0_one_3 ++ []
def dkwX0_one_2 : List UInt8 := [104, 42, 180, 0, 20, 180, 0, 66, 27, 46, 96, 54, 4, 42, 180, 0, 20, 180, 0, 63, 27, 28, 79, 42]
abbrev dktX0_one_2 : List UInt8 := dkwX0_one_2 ++ dktX0_one_3
def dkwX0_one_1 : List UInt8 := [17, 39, 15, 184, 0, 55, 154, 0, 6, 16, 254, 172, 17, 39, 16, 42, 180, 0, 20, 180, 0, 63, 27, 46]
abbrev dktX0_one_1 : List UInt8 := dkwX0_one_1 ++ dktX0_one_2
def dkwX0_one_0 : List UInt8 := [27, 184, 0, 59, 154, 0, 5, 2, 172, 28, 3, 17, 39, 15, 184, 0, 55, 153, 0, 14, 29, 3]
abbrev dktX0_one_0 : List UInt8 := dkwX0_one_0 ++ dktX0_one_1
theorem dksX0_one_0 : cX0_one.data.toList.drop 0 = dktX0_one_0 := by decide +kernel
theorem dksX0_one_1 : cX0_one.data.toList.drop 22 = dktX0_one_1 := dk_seg dksX0_one_0 22 rfl rfl
theorem dksX0_one_2 : cX0_one.data.toList.drop 46 = dktX0_one_2 := dk_seg dksX0_one_1 24 rfl rfl
theorem dksX0_one_3 : cX0_one.data.toList.drop 70 = dktX0_one_3 := dk_seg dksX0_one_2 24 rfl rfl
theorem dX0_one_0 : decode cX0_one 0 = .ok (.iload_n 1, 1) := dk_27 (dk_at dksX0_one_0 0 rfl rfl)
theorem dX0_one_1 : decode cX0_one 1 = .ok (.invokestatic 59, 3) := dk_184 0 59 (dk_at dksX0_one_0 1 rfl rfl)
theorem dX0_one_4 : decode cX0_one 4 = .ok (.ifCond .ne 5, 3) := dk_154 0 5 (dk_at dksX0_one_0 4 rfl rfl)
theorem dX0_one_7 : decode cX0_one 7 = .ok (.iconst (-1), 1) := dk_2 (dk_at dksX0_one_0 7 rfl rfl)
theorem dX0_one_8 : decode cX0_one 8 = .ok (.ireturn, 1) := dk_172 (dk_at dksX0_one_0 8 rfl rfl)
theorem dX0_one_9 : decode cX0_one 9 = .ok (.iload_n 2, 1) := dk_28 (dk_at dksX0_one_0 9 rfl rfl)
theorem dX0_one_10 : decode cX0_one 10 = .ok (.iconst 0, 1) := dk_3 (dk_at dksX0_one_0 10 rfl rfl)
theorem dX0_one_11 : decode cX0_one 11 = .ok (.sipush 9999, 3) := dk_17 39 15 (dk_at dksX0_one_0 11 rfl rfl)
theorem dX0_one_14 : decode cX0_one 14 = .ok (.invokestatic 55, 3) := dk_184 0 55 (dk_at dksX0_one_0 14 rfl rfl)
theorem dX0_one_17 : decode cX0_one 17 = .ok (.ifCond .eq 14, 3) := dk_153 0 14 (dk_at dksX0_one_0 17 rfl rfl)
theorem dX0_one_20 : decode cX0_one 20 = .ok (.iload_n 3, 1) := dk_29 (dk_at dksX0_one_0 20 rfl rfl)
theorem dX0_one_21 : decode cX0_one 21 = .ok (.iconst 0, 1) := dk_3 (dk_at dksX0_one_0 21 rfl rfl)
theorem dX0_one_22 : decode cX0_one 22 = .ok (.sipush 9999, 3) := dk_17 39 15 (dk_at dksX0_one_1 0 rfl rfl)
theorem dX0_one_25 : decode cX0_one 25 = .ok (.invokestatic 55, 3) := dk_184 0 55 (dk_at dksX0_one_1 3 rfl rfl)
theorem dX0_one_28 : decode cX0_one 28 = .ok (.ifCond .ne 6, 3) := dk_154 0 6 (dk_at dksX0_one_1 6 rfl rfl)
theorem dX0_one_31 : decode cX0_one 31 = .ok (.bipush (-2), 2) := dk_16 254 (dk_at dksX0_one_1 9 rfl rfl)
theorem dX0_one_33 : decode cX0_one 33 = .ok (.ireturn, 1) := dk_172 (dk_at dksX0_one_1 11 rfl rfl)
theorem dX0_one_34 : decode cX0_one 34 = .ok (.sipush 10000, 3) := dk_17 39 16 (dk_at dksX0_one_1 12 rfl rfl)
theorem dX0_one_37 : decode cX0_one 37 = .ok (.aload_n 0, 1) := dk_42 (dk_at dksX0_one_1 15 rfl rfl)
theorem dX0_one_38 : decode cX0_one 38 = .ok (.getfield 20, 3) := dk_180 0 20 (dk_at dksX0_one_1 16 rfl rfl)
theorem dX0_one_41 : decode cX0_one 41 = .ok (.getfield 63, 3) := dk_180 0 63 (dk_at dksX0_one_1 19 rfl rfl)
theorem dX0_one_44 : decode cX0_one 44 = .ok (.iload_n 1, 1) := dk_27 (dk_at dksX0_one_1 22 rfl rfl)
theorem dX0_one_45 : decode cX0_one 45 = .ok (.iaload, 1) := dk_46 (dk_at dksX0_one_1 23 rfl rfl)
theorem dX0_one_46 : decode cX0_one 46 = .ok (.imul, 1) := dk_104 (dk_at dksX0_one_2 0 rfl rfl)
theorem dX0_one_47 : decode cX0_one 47 = .ok (.aload_n 0, 1) := dk_42 (dk_at dksX0_one_2 1 rfl rfl)
theorem dX0_one_48 : decode cX0_one 48 = .ok (.getfield 20, 3) := dk_180 0 20 (dk_at dksX0_one_2 2 rfl rfl)
theorem dX0_one_51 : decode cX0_one 51 = .ok (.getfield 66, 3) := dk_180 0 66 (dk_at dksX0_one_2 5 rfl rfl)
theorem dX0_one_54 : decode cX0_one 54 = .ok (.iload_n 1, 1) := dk_27 (dk_at dksX0_one_2 8 rfl rfl)
theorem dX0_one_55 : decode cX0_one 55 = .ok (.iaload, 1) := dk_46 (dk_at dksX0_one_2 9 rfl rfl)
theorem dX0_one_56 : decode cX0_one 56 = .ok (.iadd, 1) := dk_96 (dk_at dksX0_one_2 10 rfl rfl)
theorem dX0_one_57 : decode cX0_one 57 = .ok (.istore 4, 2) := dk_54 4 (dk_at dksX0_one_2 11 rfl rfl)
theorem dX0_one_59 : decode cX0_one 59 = .ok (.aload_n 0, 1) := dk_42 (dk_at dksX0_one_2 13 rfl rfl)
theorem dX0_one_60 : decode cX0_one 60 = .ok (.getfield 20, 3) := dk_180 0 20 (dk_at dksX0_one_2 14 rfl rfl)
theorem dX0_one_63 : decode cX0_one 63 = .ok (.getfield 63, 3) := dk_180 0 63 (dk_at dksX0_one_2 17 rfl rfl)
theorem dX0_one_66 : decode cX0_one 66 = .ok (.iload_n 1, 1) := dk_27 (dk_at dksX0_one_2 20 rfl rfl)
theorem dX0_one_67 : decode cX0_one 67 = .ok (.iload_n 2, 1) := dk_28 (dk_at dksX0_one_2 21 rfl rfl)
theorem dX0_one_68 : decode cX0_one 68 = .ok (.iastore, 1) := dk_79 (dk_at dksX0_one_2 22 rfl rfl)
theorem dX0_one_69 : decode cX0_one 69 = .ok (.aload_n 0, 1) := dk_42 (dk_at dksX0_one_2 23 rfl rfl)
theorem dX0_one_70 : decode cX0_one 70 = .ok (.getfield 20, 3) := dk_180 0 20 (dk_at dksX0_one_3 0 rfl rfl)
theorem dX0_one_73 : decode cX0_one 73 = .ok (.getfield 66, 3) := dk_180 0 66 (dk_at dksX0_one_3 3 rfl rfl)
theorem dX0_one_76 : decode cX0_one 76 = .ok (.iload_n 1, 1) := dk_27 (dk_at dksX0_one_3 6 rfl rfl)
theorem dX0_one_77 : decode cX0_one 77 = .ok (.iload_n 3, 1) := dk_29 (dk_at dksX0_one_3 7 rfl rfl)
theorem dX0_one_78 : decode cX0_one 78 = .ok (.iastore, 1) := dk_79 (dk_at dksX0_one_3 8 rfl rfl)
theorem dX0_one_79 : decode cX0_one 79 = .ok (.iload 4, 2) := dk_21 4 (dk_at dksX0_one_3 9 rfl rfl)
theorem dX0_one_81 : decode cX0_one 81 = .ok (.ireturn, 1) := dk_172 (dk_at dksX0_one_3 11 rfl rfl)
abbrev cX0_isOne : ByteArray := prog_1_method_6_code
def yX0_isOne : MethodName := ⟨RX0, "isOne", "(I)Z"⟩
def dkwX0_isOne_0 : List UInt8 := [26, 3, 8, 184, 0, 55, 172]
abbrev dktX0_isOne_0 : List UInt8 := dkwX0_isOne_0 ++ []
theorem dksX0_isOne_0 : cX0_isOne.data.toList.drop 0 = dktX0_isOne_0 := by decide +kernel
theorem dX0_isOne_0 : decode cX0_isOne 0 = .ok (.iload_n 0, 1) := dk_26 (dk_at dksX0_isOne_0 0 rfl rfl)
theorem dX0_isOne_1 : decode cX0_isOne 1 = .ok (.iconst 0, 1) := dk_3 (dk_at dksX0_isOne_0 1 rfl rfl)
theorem dX0_isOne_2 : decode cX0_isOne 2 = .ok (.iconst 5, 1) := dk_8 (dk_at dksX0_isOne_0 2 rfl rfl)
theorem dX0_isOne_3 : decode cX0_isOne 3 = .ok (.invokestatic 55, 3) := dk_184 0 55 (dk_at dksX0_isOne_0 3 rfl rfl)
theorem dX0_isOne_6 : decode cX0_isOne 6 = .ok (.ireturn, 1) := dk_172 (dk_at dksX0_isOne_0 6 rfl rfl)
abbrev cX0_isIn : ByteArray := prog_1_method_1_code
def yX0_isIn : MethodName := ⟨RX0, "isIn", "(III)Z"⟩
def dkwX0_isIn_0 : List UInt8 := [26, 27, 161, 0, 12, 26, 28, 163, 0, 7, 4, 167, 0, 4, 3, 172]
abbrev dktX0_isIn_0 : List UInt8 := dkwX0_isIn_0 ++ []
theorem dksX0_isIn_0 : cX0_isIn.data.toList.drop 0 = dktX0_isIn_0 := by decide +kernel
theorem dX0_isIn_0 : decode cX0_isIn 0 = .ok (.iload_n 0, 1) := dk_26 (dk_at dksX0_isIn_0 0 rfl rfl)
theorem dX0_isIn_1 : decode cX0_isIn 1 = .ok (.iload_n 1, 1) := dk_27 (dk_at dksX0_isIn_0 1 rfl rfl)
theorem dX0_isIn_2 : decode cX0_isIn 2 = .ok (.if_icmp .lt 12, 3) := dk_161 0 12 (dk_at dksX0_isIn_0 2 rfl rfl)
theorem dX0_isIn_5 : decode cX0_isIn 5 = .ok (.iload_n 0, 1) := dk_26 (dk_at dksX0_isIn_0 5 rfl rfl)
theorem dX0_isIn_6 : decode cX0_isIn 6 = .ok (.iload_n 2, 1) := dk_28 (dk_at dksX0_isIn_0 6 rfl rfl)
theorem dX0_isIn_7 : decode cX0_isIn 7 = .ok (.if_icmp .gt 7, 3) := dk_163 0 7 (dk_at dksX0_isIn_0 7 rfl rfl)
theorem dX0_isIn_10 : decode cX0_isIn 10 = .ok (.iconst 1, 1) := dk_4 (dk_at dksX0_isIn_0 10 rfl rfl)
theorem dX0_isIn_11 : decode cX0_isIn 11 = .ok (.goto 4, 3) := dk_167 0 4 (dk_at dksX0_isIn_0 11 rfl rfl)
theorem dX0_isIn_14 : decode cX0_isIn 14 = .ok (.iconst 0, 1) := dk_3 (dk_at dksX0_isIn_0 14 rfl rfl)
theorem dX0_isIn_15 : decode cX0_isIn 15 = .ok (.ireturn, 1) := dk_172 (dk_at dksX0_isIn_0 15 rfl rfl)
abbrev cX0_owe : ByteArray := prog_1_method_10_code
def yX0_owe : MethodName := ⟨RX0, "owe", "(III)I"⟩
def dkwX0_owe_2 : List UInt8 := [79, 21, 4, 172]
abbrev dktX0_owe_2 : List UInt8 := dkwX0_owe_2 ++ []
def dkwX0_owe_1 : List UInt8 := [42, 180, 0, 20, 180, 0, 73, 27, 50, 28, 46, 54, 4, 42, 180, 0, 20, 180, 0, 73, 27, 50, 28, 29]
abbrev dktX0_owe_1 : List UInt8 := dkwX0_owe_1 ++ dktX0_owe_2
def dkwX0_owe_0 : List UInt8 := [27, 28, 184, 0, 69, 154, 0, 5, 2, 172, 29, 3, 17, 3, 231, 184, 0, 55, 154, 0, 6, 16, 254, 172]
abbrev dktX0_owe_0 : List UInt8 := dkwX0_owe_0 ++ dktX0_owe_1
theorem dksX0_owe_0 : cX0_owe.data.toList.drop 0 = dktX0_owe_0 := by decide +kernel
theorem dksX0_owe_1 : cX0_owe.data.toList.drop 24 = dktX0_owe_1 := dk_seg dksX0_owe_0 24 rfl rfl
theorem dksX0_owe_2 : cX0_owe.data.toList.drop 48 = dktX0_owe_2 := dk_seg dksX0_owe_1 24 rfl rfl
theorem dX0_owe_0 : decode cX0_owe 0 = .ok (.iload_n 1, 1) := dk_27 (dk_at dksX0_owe_0 0 rfl rfl)
theorem dX0_owe_1 : decode cX0_owe 1 = .ok (.iload_n 2, 1) := dk_28 (dk_at dksX0_owe_0 1 rfl rfl)
theorem dX0_owe_2 : decode cX0_owe 2 = .ok (.invokestatic 69, 3) := dk_184 0 69 (dk_at dksX0_owe_0 2 rfl rfl)
theorem dX0_owe_5 : decode cX0_owe 5 = .ok (.ifCond .ne 5, 3) := dk_154 0 5 (dk_at dksX0_owe_0 5 rfl rfl)
theorem dX0_owe_8 : decode cX0_owe 8 = .ok (.iconst (-1), 1) := dk_2 (dk_at dksX0_owe_0 8 rfl rfl)
theorem dX0_owe_9 : decode cX0_owe 9 = .ok (.ireturn, 1) := dk_172 (dk_at dksX0_owe_0 9 rfl rfl)
theorem dX0_owe_10 : decode cX0_owe 10 = .ok (.iload_n 3, 1) := dk_29 (dk_at dksX0_owe_0 10 rfl rfl)
theorem dX0_owe_11 : decode cX0_owe 11 = .ok (.iconst 0, 1) := dk_3 (dk_at dksX0_owe_0 11 rfl rfl)
theorem dX0_owe_12 : decode cX0_owe 12 = .ok (.sipush 999, 3) := dk_17 3 231 (dk_at dksX0_owe_0 12 rfl rfl)
theorem dX0_owe_15 : decode cX0_owe 15 = .ok (.invokestatic 55, 3) := dk_184 0 55 (dk_at dksX0_owe_0 15 rfl rfl)
theorem dX0_owe_18 : decode cX0_owe 18 = .ok (.ifCond .ne 6, 3) := dk_154 0 6 (dk_at dksX0_owe_0 18 rfl rfl)
theorem dX0_owe_21 : decode cX0_owe 21 = .ok (.bipush (-2), 2) := dk_16 254 (dk_at dksX0_owe_0 21 rfl rfl)
theorem dX0_owe_23 : decode cX0_owe 23 = .ok (.ireturn, 1) := dk_172 (dk_at dksX0_owe_0 23 rfl rfl)
theorem dX0_owe_24 : decode cX0_owe 24 = .ok (.aload_n 0, 1) := dk_42 (dk_at dksX0_owe_1 0 rfl rfl)
theorem dX0_owe_25 : decode cX0_owe 25 = .ok (.getfield 20, 3) := dk_180 0 20 (dk_at dksX0_owe_1 1 rfl rfl)
theorem dX0_owe_28 : decode cX0_owe 28 = .ok (.getfield 73, 3) := dk_180 0 73 (dk_at dksX0_owe_1 4 rfl rfl)
theorem dX0_owe_31 : decode cX0_owe 31 = .ok (.iload_n 1, 1) := dk_27 (dk_at dksX0_owe_1 7 rfl rfl)
theorem dX0_owe_32 : decode cX0_owe 32 = .ok (.aaload, 1) := dk_50 (dk_at dksX0_owe_1 8 rfl rfl)
theorem dX0_owe_33 : decode cX0_owe 33 = .ok (.iload_n 2, 1) := dk_28 (dk_at dksX0_owe_1 9 rfl rfl)
theorem dX0_owe_34 : decode cX0_owe 34 = .ok (.iaload, 1) := dk_46 (dk_at dksX0_owe_1 10 rfl rfl)
theorem dX0_owe_35 : decode cX0_owe 35 = .ok (.istore 4, 2) := dk_54 4 (dk_at dksX0_owe_1 11 rfl rfl)
theorem dX0_owe_37 : decode cX0_owe 37 = .ok (.aload_n 0, 1) := dk_42 (dk_at dksX0_owe_1 13 rfl rfl)
theorem dX0_owe_38 : decode cX0_owe 38 = .ok (.getfield 20, 3) := dk_180 0 20 (dk_at dksX0_owe_1 14 rfl rfl)
theorem dX0_owe_41 : decode cX0_owe 41 = .ok (.getfield 73, 3) := dk_180 0 73 (dk_at dksX0_owe_1 17 rfl rfl)
theorem dX0_owe_44 : decode cX0_owe 44 = .ok (.iload_n 1, 1) := dk_27 (dk_at dksX0_owe_1 20 rfl rfl)
theorem dX0_owe_45 : decode cX0_owe 45 = .ok (.aaload, 1) := dk_50 (dk_at dksX0_owe_1 21 rfl rfl)
theorem dX0_owe_46 : decode cX0_owe 46 = .ok (.iload_n 2, 1) := dk_28 (dk_at dksX0_owe_1 22 rfl rfl)
theorem dX0_owe_47 : decode cX0_owe 47 = .ok (.iload_n 3, 1) := dk_29 (dk_at dksX0_owe_1 23 rfl rfl)
theorem dX0_owe_48 : decode cX0_owe 48 = .ok (.iastore, 1) := dk_79 (dk_at dksX0_owe_2 0 rfl rfl)
theorem dX0_owe_49 : decode cX0_owe 49 = .ok (.iload 4, 2) := dk_21 4 (dk_at dksX0_owe_2 1 rfl rfl)
theorem dX0_owe_51 : decode cX0_owe 51 = .ok (.ireturn, 1) := dk_172 (dk_at dksX0_owe_2 3 rfl rfl)
abbrev cX0_areTwo : ByteArray := prog_1_method_7_code
def yX0_areTwo : MethodName := ⟨RX0, "areTwo", "(II)Z"⟩
def dkwX0_areTwo_1 : List UInt8 := [172]
abbrev dktX0_areTwo_1 : List UInt8 := dkwX0_areTwo_1 ++ []
def dkwX0_areTwo_0 : List UInt8 := [26, 184, 0, 59, 153, 0, 19, 27, 184, 0, 59, 153, 0, 12, 26, 27, 159, 0, 7, 4, 167, 0, 4, 3]
abbrev dktX0_areTwo_0 : List UInt8 := dkwX0_areTwo_0 ++ dktX0_areTwo_1
theorem dksX0_areTwo_0 : cX0_areTwo.data.toList.drop 0 = dktX0_areTwo_0 := by decide +kernel
theorem dksX0_areTwo_1 : cX0_areTwo.data.toList.drop 24 = dktX0_areTwo_1 := dk_seg dksX0_areTwo_0 24 rfl rfl
theorem dX0_areTwo_0 : decode cX0_areTwo 0 = .ok (.iload_n 0, 1) := dk_26 (dk_at dksX0_areTwo_0 0 rfl rfl)
theorem dX0_areTwo_1 : decode cX0_areTwo 1 = .ok (.invokestatic 59, 3) := dk_184 0 59 (dk_at dksX0_areTwo_0 1 rfl rfl)
theorem dX0_areTwo_4 : decode cX0_areTwo 4 = .ok (.ifCond .eq 19, 3) := dk_153 0 19 (dk_at dksX0_areTwo_0 4 rfl rfl)
theorem dX0_areTwo_7 : decode cX0_areTwo 7 = .ok (.iload_n 1, 1) := dk_27 (dk_at dksX0_areTwo_0 7 rfl rfl)
theorem dX0_areTwo_8 : decode cX0_areTwo 8 = .ok (.invokestatic 59, 3) := dk_184 0 59 (dk_at dksX0_areTwo_0 8 rfl rfl)
theorem dX0_areTwo_11 : decode cX0_areTwo 11 = .ok (.ifCond .eq 12, 3) := dk_153 0 12 (dk_at dksX0_areTwo_0 11 rfl rfl)
theorem dX0_areTwo_14 : decode cX0_areTwo 14 = .ok (.iload_n 0, 1) := dk_26 (dk_at dksX0_areTwo_0 14 rfl rfl)
theorem dX0_areTwo_15 : decode cX0_areTwo 15 = .ok (.iload_n 1, 1) := dk_27 (dk_at dksX0_areTwo_0 15 rfl rfl)
theorem dX0_areTwo_16 : decode cX0_areTwo 16 = .ok (.if_icmp .eq 7, 3) := dk_159 0 7 (dk_at dksX0_areTwo_0 16 rfl rfl)
theorem dX0_areTwo_19 : decode cX0_areTwo 19 = .ok (.iconst 1, 1) := dk_4 (dk_at dksX0_areTwo_0 19 rfl rfl)
theorem dX0_areTwo_20 : decode cX0_areTwo 20 = .ok (.goto 4, 3) := dk_167 0 4 (dk_at dksX0_areTwo_0 20 rfl rfl)
theorem dX0_areTwo_23 : decode cX0_areTwo 23 = .ok (.iconst 0, 1) := dk_3 (dk_at dksX0_areTwo_0 23 rfl rfl)
theorem dX0_areTwo_24 : decode cX0_areTwo 24 = .ok (.ireturn, 1) := dk_172 (dk_at dksX0_areTwo_1 0 rfl rfl)
abbrev cX0_lot : ByteArray := prog_1_method_11_code
def yX0_lot : MethodName := ⟨RX0, "lot", "(III)I"⟩
def dkwX0_lot_3 : List UInt8 := [167, 0, 4, 29, 79, 21, 4, 172]
abbrev dktX0_lot_3 : List UInt8 := dkwX0_lot_3 ++ []
def dkwX0_lot_2 : List UInt8 := [180, 0, 20, 180, 0, 80, 27, 28, 79, 42, 180, 0, 20, 180, 0, 83, 27, 29, 156, 0, 8, 16, 250]
abbrev dktX0_lot_2 : List UInt8 := dkwX0_lot_2 ++ dktX0_lot_3
def dkwX0_lot_1 : List UInt8 := [17, 3, 231, 184, 0, 55, 154, 0, 6, 16, 254, 172, 42, 180, 0, 20, 180, 0, 80, 27, 46, 54, 4, 42]
abbrev dktX0_lot_1 : List UInt8 := dkwX0_lot_1 ++ dktX0_lot_2
def dkwX0_lot_0 : List UInt8 := [27, 184, 0, 77, 153, 0, 15, 29, 2, 159, 0, 12, 29, 184, 0, 59, 154, 0, 5, 2, 172, 28, 4]
abbrev dktX0_lot_0 : List UInt8 := dkwX0_lot_0 ++ dktX0_lot_1
theorem dksX0_lot_0 : cX0_lot.data.toList.drop 0 = dktX0_lot_0 := by decide +kernel
theorem dksX0_lot_1 : cX0_lot.data.toList.drop 23 = dktX0_lot_1 := dk_seg dksX0_lot_0 23 rfl rfl
theorem dksX0_lot_2 : cX0_lot.data.toList.drop 47 = dktX0_lot_2 := dk_seg dksX0_lot_1 24 rfl rfl
theorem dksX0_lot_3 : cX0_lot.data.toList.drop 70 = dktX0_lot_3 := dk_seg dksX0_lot_2 23 rfl rfl
theorem dX0_lot_0 : decode cX0_lot 0 = .ok (.iload_n 1, 1) := dk_27 (dk_at dksX0_lot_0 0 rfl rfl)
theorem dX0_lot_1 : decode cX0_lot 1 = .ok (.invokestatic 77, 3) := dk_184 0 77 (dk_at dksX0_lot_0 1 rfl rfl)
theorem dX0_lot_4 : decode cX0_lot 4 = .ok (.ifCond .eq 15, 3) := dk_153 0 15 (dk_at dksX0_lot_0 4 rfl rfl)
theorem dX0_lot_7 : decode cX0_lot 7 = .ok (.iload_n 3, 1) := dk_29 (dk_at dksX0_lot_0 7 rfl rfl)
theorem dX0_lot_8 : decode cX0_lot 8 = .ok (.iconst (-1), 1) := dk_2 (dk_at dksX0_lot_0 8 rfl rfl)
theorem dX0_lot_9 : decode cX0_lot 9 = .ok (.if_icmp .eq 12, 3) := dk_159 0 12 (dk_at dksX0_lot_0 9 rfl rfl)
theorem dX0_lot_12 : decode cX0_lot 12 = .ok (.iload_n 3, 1) := dk_29 (dk_at dksX0_lot_0 12 rfl rfl)
theorem dX0_lot_13 : decode cX0_lot 13 = .ok (.invokestatic 59, 3) := dk_184 0 59 (dk_at dksX0_lot_0 13 rfl rfl)
theorem dX0_lot_16 : decode cX0_lot 16 = .ok (.ifCond .ne 5, 3) := dk_154 0 5 (dk_at dksX0_lot_0 16 rfl rfl)
theorem dX0_lot_19 : decode cX0_lot 19 = .ok (.iconst (-1), 1) := dk_2 (dk_at dksX0_lot_0 19 rfl rfl)
theorem dX0_lot_20 : decode cX0_lot 20 = .ok (.ireturn, 1) := dk_172 (dk_at dksX0_lot_0 20 rfl rfl)
theorem dX0_lot_21 : decode cX0_lot 21 = .ok (.iload_n 2, 1) := dk_28 (dk_at dksX0_lot_0 21 rfl rfl)
theorem dX0_lot_22 : decode cX0_lot 22 = .ok (.iconst 1, 1) := dk_4 (dk_at dksX0_lot_0 22 rfl rfl)
theorem dX0_lot_23 : decode cX0_lot 23 = .ok (.sipush 999, 3) := dk_17 3 231 (dk_at dksX0_lot_1 0 rfl rfl)
theorem dX0_lot_26 : decode cX0_lot 26 = .ok (.invokestatic 55, 3) := dk_184 0 55 (dk_at dksX0_lot_1 3 rfl rfl)
theorem dX0_lot_29 : decode cX0_lot 29 = .ok (.ifCond .ne 6, 3) := dk_154 0 6 (dk_at dksX0_lot_1 6 rfl rfl)
theorem dX0_lot_32 : decode cX0_lot 32 = .ok (.bipush (-2), 2) := dk_16 254 (dk_at dksX0_lot_1 9 rfl rfl)
theorem dX0_lot_34 : decode cX0_lot 34 = .ok (.ireturn, 1) := dk_172 (dk_at dksX0_lot_1 11 rfl rfl)
theorem dX0_lot_35 : decode cX0_lot 35 = .ok (.aload_n 0, 1) := dk_42 (dk_at dksX0_lot_1 12 rfl rfl)
theorem dX0_lot_36 : decode cX0_lot 36 = .ok (.getfield 20, 3) := dk_180 0 20 (dk_at dksX0_lot_1 13 rfl rfl)
theorem dX0_lot_39 : decode cX0_lot 39 = .ok (.getfield 80, 3) := dk_180 0 80 (dk_at dksX0_lot_1 16 rfl rfl)
theorem dX0_lot_42 : decode cX0_lot 42 = .ok (.iload_n 1, 1) := dk_27 (dk_at dksX0_lot_1 19 rfl rfl)
theorem dX0_lot_43 : decode cX0_lot 43 = .ok (.iaload, 1) := dk_46 (dk_at dksX0_lot_1 20 rfl rfl)
theorem dX0_lot_44 : decode cX0_lot 44 = .ok (.istore 4, 2) := dk_54 4 (dk_at dksX0_lot_1 21 rfl rfl)
theorem dX0_lot_46 : decode cX0_lot 46 = .ok (.aload_n 0, 1) := dk_42 (dk_at dksX0_lot_1 23 rfl rfl)
theorem dX0_lot_47 : decode cX0_lot 47 = .ok (.getfield 20, 3) := dk_180 0 20 (dk_at dksX0_lot_2 0 rfl rfl)
theorem dX0_lot_50 : decode cX0_lot 50 = .ok (.getfield 80, 3) := dk_180 0 80 (dk_at dksX0_lot_2 3 rfl rfl)
theorem dX0_lot_53 : decode cX0_lot 53 = .ok (.iload_n 1, 1) := dk_27 (dk_at dksX0_lot_2 6 rfl rfl)
theorem dX0_lot_54 : decode cX0_lot 54 = .ok (.iload_n 2, 1) := dk_28 (dk_at dksX0_lot_2 7 rfl rfl)
theorem dX0_lot_55 : decode cX0_lot 55 = .ok (.iastore, 1) := dk_79 (dk_at dksX0_lot_2 8 rfl rfl)
theorem dX0_lot_56 : decode cX0_lot 56 = .ok (.aload_n 0, 1) := dk_42 (dk_at dksX0_lot_2 9 rfl rfl)
theorem dX0_lot_57 : decode cX0_lot 57 = .ok (.getfield 20, 3) := dk_180 0 20 (dk_at dksX0_lot_2 10 rfl rfl)
theorem dX0_lot_60 : decode cX0_lot 60 = .ok (.getfield 83, 3) := dk_180 0 83 (dk_at dksX0_lot_2 13 rfl rfl)
theorem dX0_lot_63 : decode cX0_lot 63 = .ok (.iload_n 1, 1) := dk_27 (dk_at dksX0_lot_2 16 rfl rfl)
theorem dX0_lot_64 : decode cX0_lot 64 = .ok (.iload_n 3, 1) := dk_29 (dk_at dksX0_lot_2 17 rfl rfl)
theorem dX0_lot_65 : decode cX0_lot 65 = .ok (.ifCond .ge 8, 3) := dk_156 0 8 (dk_at dksX0_lot_2 18 rfl rfl)
theorem dX0_lot_68 : decode cX0_lot 68 = .ok (.bipush (-6), 2) := dk_16 250 (dk_at dksX0_lot_2 21 rfl rfl)
theorem dX0_lot_70 : decode cX0_lot 70 = .ok (.goto 4, 3) := dk_167 0 4 (dk_at dksX0_lot_3 0 rfl rfl)
theorem dX0_lot_73 : decode cX0_lot 73 = .ok (.iload_n 3, 1) := dk_29 (dk_at dksX0_lot_3 3 rfl rfl)
theorem dX0_lot_74 : decode cX0_lot 74 = .ok (.iastore, 1) := dk_79 (dk_at dksX0_lot_3 4 rfl rfl)
theorem dX0_lot_75 : decode cX0_lot 75 = .ok (.iload 4, 2) := dk_21 4 (dk_at dksX0_lot_3 5 rfl rfl)
theorem dX0_lot_77 : decode cX0_lot 77 = .ok (.ireturn, 1) := dk_172 (dk_at dksX0_lot_3 7 rfl rfl)
abbrev cX0_isLot : ByteArray := prog_1_method_8_code
def yX0_isLot : MethodName := ⟨RX0, "isLot", "(I)Z"⟩
def dkwX0_isLot_0 : List UInt8 := [26, 3, 16, 7, 184, 0, 55, 172]
abbrev dktX0_isLot_0 : List UInt8 := dkwX0_isLot_0 ++ []
theorem dksX0_isLot_0 : cX0_isLot.data.toList.drop 0 = dktX0_isLot_0 := by decide +kernel
theorem dX0_isLot_0 : decode cX0_isLot 0 = .ok (.iload_n 0, 1) := dk_26 (dk_at dksX0_isLot_0 0 rfl rfl)
theorem dX0_isLot_1 : decode cX0_isLot 1 = .ok (.iconst 0, 1) := dk_3 (dk_at dksX0_isLot_0 1 rfl rfl)
theorem dX0_isLot_2 : decode cX0_isLot 2 = .ok (.bipush 7, 2) := dk_16 7 (dk_at dksX0_isLot_0 2 rfl rfl)
theorem dX0_isLot_4 : decode cX0_isLot 4 = .ok (.invokestatic 55, 3) := dk_184 0 55 (dk_at dksX0_isLot_0 4 rfl rfl)
theorem dX0_isLot_7 : decode cX0_isLot 7 = .ok (.ireturn, 1) := dk_172 (dk_at dksX0_isLot_0 7 rfl rfl)
abbrev cX0_set : ByteArray := prog_1_method_12_code
def yX0_set : MethodName := ⟨RX0, "set", "(II)I"⟩
def dkwX0_set_1 : List UInt8 := [180, 0, 20, 180, 0, 87, 27, 46, 62, 42, 180, 0, 20, 180, 0, 87, 27, 28, 79, 29, 172]
abbrev dktX0_set_1 : List UInt8 := dkwX0_set_1 ++ []
def dkwX0_set_0 : List UInt8 := [27, 3, 4, 184, 0, 55, 153, 0, 13, 28, 3, 18, 86, 184, 0, 55, 154, 0, 6, 16, 254, 172, 42]
abbrev dktX0_set_0 : List UInt8 := dkwX0_set_0 ++ dktX0_set_1
theorem dksX0_set_0 : cX0_set.data.toList.drop 0 = dktX0_set_0 := by decide +kernel
theorem dksX0_set_1 : cX0_set.data.toList.drop 23 = dktX0_set_1 := dk_seg dksX0_set_0 23 rfl rfl
theorem dX0_set_0 : decode cX0_set 0 = .ok (.iload_n 1, 1) := dk_27 (dk_at dksX0_set_0 0 rfl rfl)
theorem dX0_set_1 : decode cX0_set 1 = .ok (.iconst 0, 1) := dk_3 (dk_at dksX0_set_0 1 rfl rfl)
theorem dX0_set_2 : decode cX0_set 2 = .ok (.iconst 1, 1) := dk_4 (dk_at dksX0_set_0 2 rfl rfl)
theorem dX0_set_3 : decode cX0_set 3 = .ok (.invokestatic 55, 3) := dk_184 0 55 (dk_at dksX0_set_0 3 rfl rfl)
theorem dX0_set_6 : decode cX0_set 6 = .ok (.ifCond .eq 13, 3) := dk_153 0 13 (dk_at dksX0_set_0 6 rfl rfl)
theorem dX0_set_9 : decode cX0_set 9 = .ok (.iload_n 2, 1) := dk_28 (dk_at dksX0_set_0 9 rfl rfl)
theorem dX0_set_10 : decode cX0_set 10 = .ok (.iconst 0, 1) := dk_3 (dk_at dksX0_set_0 10 rfl rfl)
theorem dX0_set_11 : decode cX0_set 11 = .ok (.ldc 86, 2) := dk_18 86 (dk_at dksX0_set_0 11 rfl rfl)
theorem dX0_set_13 : decode cX0_set 13 = .ok (.invokestatic 55, 3) := dk_184 0 55 (dk_at dksX0_set_0 13 rfl rfl)
theorem dX0_set_16 : decode cX0_set 16 = .ok (.ifCond .ne 6, 3) := dk_154 0 6 (dk_at dksX0_set_0 16 rfl rfl)
theorem dX0_set_19 : decode cX0_set 19 = .ok (.bipush (-2), 2) := dk_16 254 (dk_at dksX0_set_0 19 rfl rfl)
theorem dX0_set_21 : decode cX0_set 21 = .ok (.ireturn, 1) := dk_172 (dk_at dksX0_set_0 21 rfl rfl)
theorem dX0_set_22 : decode cX0_set 22 = .ok (.aload_n 0, 1) := dk_42 (dk_at dksX0_set_0 22 rfl rfl)
theorem dX0_set_23 : decode cX0_set 23 = .ok (.getfield 20, 3) := dk_180 0 20 (dk_at dksX0_set_1 0 rfl rfl)
theorem dX0_set_26 : decode cX0_set 26 = .ok (.getfield 87, 3) := dk_180 0 87 (dk_at dksX0_set_1 3 rfl rfl)
theorem dX0_set_29 : decode cX0_set 29 = .ok (.iload_n 1, 1) := dk_27 (dk_at dksX0_set_1 6 rfl rfl)
theorem dX0_set_30 : decode cX0_set 30 = .ok (.iaload, 1) := dk_46 (dk_at dksX0_set_1 7 rfl rfl)
theorem dX0_set_31 : decode cX0_set 31 = .ok (.istore_n 3, 1) := dk_62 (dk_at dksX0_set_1 8 rfl rfl)
theorem dX0_set_32 : decode cX0_set 32 = .ok (.aload_n 0, 1) := dk_42 (dk_at dksX0_set_1 9 rfl rfl)
theorem dX0_set_33 : decode cX0_set 33 = .ok (.getfield 20, 3) := dk_180 0 20 (dk_at dksX0_set_1 10 rfl rfl)
theorem dX0_set_36 : decode cX0_set 36 = .ok (.getfield 87, 3) := dk_180 0 87 (dk_at dksX0_set_1 13 rfl rfl)
theorem dX0_set_39 : decode cX0_set 39 = .ok (.iload_n 1, 1) := dk_27 (dk_at dksX0_set_1 16 rfl rfl)
theorem dX0_set_40 : decode cX0_set 40 = .ok (.iload_n 2, 1) := dk_28 (dk_at dksX0_set_1 17 rfl rfl)
theorem dX0_set_41 : decode cX0_set 41 = .ok (.iastore, 1) := dk_79 (dk_at dksX0_set_1 18 rfl rfl)
theorem dX0_set_42 : decode cX0_set 42 = .ok (.iload_n 3, 1) := dk_29 (dk_at dksX0_set_1 19 rfl rfl)
theorem dX0_set_43 : decode cX0_set 43 = .ok (.ireturn, 1) := dk_172 (dk_at dksX0_set_1 20 rfl rfl)
abbrev cX0_say : ByteArray := prog_1_method_13_code
def yX0_say : MethodName := ⟨RX0, "say", "(I)I"⟩
def dkwX0_say_2 : List UInt8 := [42, 180, 0, 90, 172]
abbrev dktX0_say_2 : List UInt8 := dkwX0_say_2 ++ []
def dkwX0_say_1 : List UInt8 := [16, 252, 172, 42, 180, 0, 31, 42, 180, 0, 90, 27, 146, 85, 42, 89, 180, 0, 90, 4, 96, 181, 0, 90]
abbrev dktX0_say_1 : List UInt8 := dkwX0_say_1 ++ dktX0_say_2
def dkwX0_say_0 : List UInt8 := [27, 16, 33, 16, 126, 184, 0, 55, 154, 0, 6, 16, 254, 172, 42, 180, 0, 90, 16, 60, 160, 0, 6]
abbrev dktX0_say_0 : List UInt8 := dkwX0_say_0 ++ dktX0_say_1
theorem dksX0_say_0 : cX0_say.data.toList.drop 0 = dktX0_say_0 := by decide +kernel
theorem dksX0_say_1 : cX0_say.data.toList.drop 23 = dktX0_say_1 := dk_seg dksX0_say_0 23 rfl rfl
theorem dksX0_say_2 : cX0_say.data.toList.drop 47 = dktX0_say_2 := dk_seg dksX0_say_1 24 rfl rfl
theorem dX0_say_0 : decode cX0_say 0 = .ok (.iload_n 1, 1) := dk_27 (dk_at dksX0_say_0 0 rfl rfl)
theorem dX0_say_1 : decode cX0_say 1 = .ok (.bipush 33, 2) := dk_16 33 (dk_at dksX0_say_0 1 rfl rfl)
theorem dX0_say_3 : decode cX0_say 3 = .ok (.bipush 126, 2) := dk_16 126 (dk_at dksX0_say_0 3 rfl rfl)
theorem dX0_say_5 : decode cX0_say 5 = .ok (.invokestatic 55, 3) := dk_184 0 55 (dk_at dksX0_say_0 5 rfl rfl)
theorem dX0_say_8 : decode cX0_say 8 = .ok (.ifCond .ne 6, 3) := dk_154 0 6 (dk_at dksX0_say_0 8 rfl rfl)
theorem dX0_say_11 : decode cX0_say 11 = .ok (.bipush (-2), 2) := dk_16 254 (dk_at dksX0_say_0 11 rfl rfl)
theorem dX0_say_13 : decode cX0_say 13 = .ok (.ireturn, 1) := dk_172 (dk_at dksX0_say_0 13 rfl rfl)
theorem dX0_say_14 : decode cX0_say 14 = .ok (.aload_n 0, 1) := dk_42 (dk_at dksX0_say_0 14 rfl rfl)
theorem dX0_say_15 : decode cX0_say 15 = .ok (.getfield 90, 3) := dk_180 0 90 (dk_at dksX0_say_0 15 rfl rfl)
theorem dX0_say_18 : decode cX0_say 18 = .ok (.bipush 60, 2) := dk_16 60 (dk_at dksX0_say_0 18 rfl rfl)
theorem dX0_say_20 : decode cX0_say 20 = .ok (.if_icmp .ne 6, 3) := dk_160 0 6 (dk_at dksX0_say_0 20 rfl rfl)
theorem dX0_say_23 : decode cX0_say 23 = .ok (.bipush (-4), 2) := dk_16 252 (dk_at dksX0_say_1 0 rfl rfl)
theorem dX0_say_25 : decode cX0_say 25 = .ok (.ireturn, 1) := dk_172 (dk_at dksX0_say_1 2 rfl rfl)
theorem dX0_say_26 : decode cX0_say 26 = .ok (.aload_n 0, 1) := dk_42 (dk_at dksX0_say_1 3 rfl rfl)
theorem dX0_say_27 : decode cX0_say 27 = .ok (.getfield 31, 3) := dk_180 0 31 (dk_at dksX0_say_1 4 rfl rfl)
theorem dX0_say_30 : decode cX0_say 30 = .ok (.aload_n 0, 1) := dk_42 (dk_at dksX0_say_1 7 rfl rfl)
theorem dX0_say_31 : decode cX0_say 31 = .ok (.getfield 90, 3) := dk_180 0 90 (dk_at dksX0_say_1 8 rfl rfl)
theorem dX0_say_34 : decode cX0_say 34 = .ok (.iload_n 1, 1) := dk_27 (dk_at dksX0_say_1 11 rfl rfl)
theorem dX0_say_35 : decode cX0_say 35 = .ok (.i2c, 1) := dk_146 (dk_at dksX0_say_1 12 rfl rfl)
theorem dX0_say_36 : decode cX0_say 36 = .ok (.castore, 1) := dk_85 (dk_at dksX0_say_1 13 rfl rfl)
theorem dX0_say_37 : decode cX0_say 37 = .ok (.aload_n 0, 1) := dk_42 (dk_at dksX0_say_1 14 rfl rfl)
theorem dX0_say_38 : decode cX0_say 38 = .ok (.dup, 1) := dk_89 (dk_at dksX0_say_1 15 rfl rfl)
theorem dX0_say_39 : decode cX0_say 39 = .ok (.getfield 90, 3) := dk_180 0 90 (dk_at dksX0_say_1 16 rfl rfl)
theorem dX0_say_42 : decode cX0_say 42 = .ok (.iconst 1, 1) := dk_4 (dk_at dksX0_say_1 19 rfl rfl)
theorem dX0_say_43 : decode cX0_say 43 = .ok (.iadd, 1) := dk_96 (dk_at dksX0_say_1 20 rfl rfl)
theorem dX0_say_44 : decode cX0_say 44 = .ok (.putfield 90, 3) := dk_181 0 90 (dk_at dksX0_say_1 21 rfl rfl)
theorem dX0_say_47 : decode cX0_say 47 = .ok (.aload_n 0, 1) := dk_42 (dk_at dksX0_say_2 0 rfl rfl)
theorem dX0_say_48 : decode cX0_say 48 = .ok (.getfield 90, 3) := dk_180 0 90 (dk_at dksX0_say_2 1 rfl rfl)
theorem dX0_say_51 : decode cX0_say 51 = .ok (.ireturn, 1) := dk_172 (dk_at dksX0_say_2 4 rfl rfl)
abbrev cX0_wipe : ByteArray := prog_1_method_14_code
def yX0_wipe : MethodName := ⟨RX0, "wipe", "()I"⟩
def dkwX0_wipe_0 : List UInt8 := [42, 180, 0, 90, 60, 42, 3, 181, 0, 90, 27, 172]
abbrev dktX0_wipe_0 : List UInt8 := dkwX0_wipe_0 ++ []
theorem dksX0_wipe_0 : cX0_wipe.data.toList.drop 0 = dktX0_wipe_0 := by decide +kernel
theorem dX0_wipe_0 : decode cX0_wipe 0 = .ok (.aload_n 0, 1) := dk_42 (dk_at dksX0_wipe_0 0 rfl rfl)
theorem dX0_wipe_1 : decode cX0_wipe 1 = .ok (.getfield 90, 3) := dk_180 0 90 (dk_at dksX0_wipe_0 1 rfl rfl)
theorem dX0_wipe_4 : decode cX0_wipe 4 = .ok (.istore_n 1, 1) := dk_60 (dk_at dksX0_wipe_0 4 rfl rfl)
theorem dX0_wipe_5 : decode cX0_wipe 5 = .ok (.aload_n 0, 1) := dk_42 (dk_at dksX0_wipe_0 5 rfl rfl)
theorem dX0_wipe_6 : decode cX0_wipe 6 = .ok (.iconst 0, 1) := dk_3 (dk_at dksX0_wipe_0 6 rfl rfl)
theorem dX0_wipe_7 : decode cX0_wipe 7 = .ok (.putfield 90, 3) := dk_181 0 90 (dk_at dksX0_wipe_0 7 rfl rfl)
theorem dX0_wipe_10 : decode cX0_wipe 10 = .ok (.iload_n 1, 1) := dk_27 (dk_at dksX0_wipe_0 10 rfl rfl)
theorem dX0_wipe_11 : decode cX0_wipe 11 = .ok (.ireturn, 1) := dk_172 (dk_at dksX0_wipe_0 11 rfl rfl)
abbrev cX0_fault : ByteArray := prog_1_method_17_code
def yX0_fault : MethodName := ⟨RX0, "fault", "()I"⟩
theorem dX0_fault_0 : decode cX0_fault 0 = .ok (.aload_n 0, 1) := by decide +kernel
theorem dX0_fault_1 : decode cX0_fault 1 = .ok (.invokevirtual 98, 3) := by decide +kernel
theorem dX0_fault_4 : decode cX0_fault 4 = .ok (.ireturn, 1) := by decide +kernel
abbrev cX0_faultOf : ByteArray := prog_1_method_16_code
def yX0_faultOf : MethodName := ⟨RX0, "faultOf", "()I"⟩
def dkwX0_faultOf_2 : List UInt8 := [172]
abbrev dktX0_faultOf_2 : List UInt8 := dkwX0_faultOf_2 ++ []
def dkwX0_faultOf_1 : List UInt8 := [156, 0, 5, 28, 172, 132, 2, 1, 167, 255, 228, 27, 154, 0, 8, 16, 250, 167, 0, 7, 42, 180, 0, 90]
abbrev dktX0_faultOf_1 : List UInt8 := dkwX0_faultOf_1 ++ dktX0_faultOf_2
def dkwX0_faultOf_0 : List UInt8 := [3, 60, 3, 61, 28, 42, 180, 0, 90, 162, 0, 26, 27, 42, 180, 0, 31, 28, 52, 184, 0, 94, 60, 27]
abbrev dktX0_faultOf_0 : List UInt8 := dkwX0_faultOf_0 ++ dktX0_faultOf_1
theorem dksX0_faultOf_0 : cX0_faultOf.data.toList.drop 0 = dktX0_faultOf_0 := by decide +kernel
theorem dksX0_faultOf_1 : cX0_faultOf.data.toList.drop 24 = dktX0_faultOf_1 := dk_seg dksX0_faultOf_0 24 rfl rfl
theorem dksX0_faultOf_2 : cX0_faultOf.data.toList.drop 48 = dktX0_faultOf_2 := dk_seg dksX0_faultOf_1 24 rfl rfl
theorem dX0_faultOf_0 : decode cX0_faultOf 0 = .ok (.iconst 0, 1) := dk_3 (dk_at dksX0_faultOf_0 0 rfl rfl)
theorem dX0_faultOf_1 : decode cX0_faultOf 1 = .ok (.istore_n 1, 1) := dk_60 (dk_at dksX0_faultOf_0 1 rfl rfl)
theorem dX0_faultOf_2 : decode cX0_faultOf 2 = .ok (.iconst 0, 1) := dk_3 (dk_at dksX0_faultOf_0 2 rfl rfl)
theorem dX0_faultOf_3 : decode cX0_faultOf 3 = .ok (.istore_n 2, 1) := dk_61 (dk_at dksX0_faultOf_0 3 rfl rfl)
theorem dX0_faultOf_4 : decode cX0_faultOf 4 = .ok (.iload_n 2, 1) := dk_28 (dk_at dksX0_faultOf_0 4 rfl rfl)
theorem dX0_faultOf_5 : decode cX0_faultOf 5 = .ok (.aload_n 0, 1) := dk_42 (dk_at dksX0_faultOf_0 5 rfl rfl)
theorem dX0_faultOf_6 : decode cX0_faultOf 6 = .ok (.getfield 90, 3) := dk_180 0 90 (dk_at dksX0_faultOf_0 6 rfl rfl)
theorem dX0_faultOf_9 : decode cX0_faultOf 9 = .ok (.if_icmp .ge 26, 3) := dk_162 0 26 (dk_at dksX0_faultOf_0 9 rfl rfl)
theorem dX0_faultOf_12 : decode cX0_faultOf 12 = .ok (.iload_n 1, 1) := dk_27 (dk_at dksX0_faultOf_0 12 rfl rfl)
theorem dX0_faultOf_13 : decode cX0_faultOf 13 = .ok (.aload_n 0, 1) := dk_42 (dk_at dksX0_faultOf_0 13 rfl rfl)
theorem dX0_faultOf_14 : decode cX0_faultOf 14 = .ok (.getfield 31, 3) := dk_180 0 31 (dk_at dksX0_faultOf_0 14 rfl rfl)
theorem dX0_faultOf_17 : decode cX0_faultOf 17 = .ok (.iload_n 2, 1) := dk_28 (dk_at dksX0_faultOf_0 17 rfl rfl)
theorem dX0_faultOf_18 : decode cX0_faultOf 18 = .ok (.caload, 1) := dk_52 (dk_at dksX0_faultOf_0 18 rfl rfl)
theorem dX0_faultOf_19 : decode cX0_faultOf 19 = .ok (.invokestatic 94, 3) := dk_184 0 94 (dk_at dksX0_faultOf_0 19 rfl rfl)
theorem dX0_faultOf_22 : decode cX0_faultOf 22 = .ok (.istore_n 1, 1) := dk_60 (dk_at dksX0_faultOf_0 22 rfl rfl)
theorem dX0_faultOf_23 : decode cX0_faultOf 23 = .ok (.iload_n 1, 1) := dk_27 (dk_at dksX0_faultOf_0 23 rfl rfl)
theorem dX0_faultOf_24 : decode cX0_faultOf 24 = .ok (.ifCond .ge 5, 3) := dk_156 0 5 (dk_at dksX0_faultOf_1 0 rfl rfl)
theorem dX0_faultOf_27 : decode cX0_faultOf 27 = .ok (.iload_n 2, 1) := dk_28 (dk_at dksX0_faultOf_1 3 rfl rfl)
theorem dX0_faultOf_28 : decode cX0_faultOf 28 = .ok (.ireturn, 1) := dk_172 (dk_at dksX0_faultOf_1 4 rfl rfl)
theorem dX0_faultOf_29 : decode cX0_faultOf 29 = .ok (.iinc 2 1, 3) := dk_132 2 1 (dk_at dksX0_faultOf_1 5 rfl rfl)
theorem dX0_faultOf_32 : decode cX0_faultOf 32 = .ok (.goto (-28), 3) := dk_167 255 228 (dk_at dksX0_faultOf_1 8 rfl rfl)
theorem dX0_faultOf_35 : decode cX0_faultOf 35 = .ok (.iload_n 1, 1) := dk_27 (dk_at dksX0_faultOf_1 11 rfl rfl)
theorem dX0_faultOf_36 : decode cX0_faultOf 36 = .ok (.ifCond .ne 8, 3) := dk_154 0 8 (dk_at dksX0_faultOf_1 12 rfl rfl)
theorem dX0_faultOf_39 : decode cX0_faultOf 39 = .ok (.bipush (-6), 2) := dk_16 250 (dk_at dksX0_faultOf_1 15 rfl rfl)
theorem dX0_faultOf_41 : decode cX0_faultOf 41 = .ok (.goto 7, 3) := dk_167 0 7 (dk_at dksX0_faultOf_1 17 rfl rfl)
theorem dX0_faultOf_44 : decode cX0_faultOf 44 = .ok (.aload_n 0, 1) := dk_42 (dk_at dksX0_faultOf_1 20 rfl rfl)
theorem dX0_faultOf_45 : decode cX0_faultOf 45 = .ok (.getfield 90, 3) := dk_180 0 90 (dk_at dksX0_faultOf_1 21 rfl rfl)
theorem dX0_faultOf_48 : decode cX0_faultOf 48 = .ok (.ireturn, 1) := dk_172 (dk_at dksX0_faultOf_2 0 rfl rfl)
abbrev cX0_step : ByteArray := prog_1_method_15_code
def yX0_step : MethodName := ⟨RX0, "step", "(IC)I"⟩
def dkwX0_step_7 : List UInt8 := [28, 153, 0, 7, 5, 167, 0, 5, 16, 250, 172, 28, 153, 0, 7, 3, 167, 0, 5, 16, 250, 172]
abbrev dktX0_step_7 : List UInt8 := dkwX0_step_7 ++ []
def dkwX0_step_6 : List UInt8 := [167, 0, 5, 16, 250, 172, 27, 16, 48, 16, 55, 184, 0, 55, 153, 0, 7, 3, 167, 0, 5, 16, 250, 172]
abbrev dktX0_step_6 : List UInt8 := dkwX0_step_6 ++ dktX0_step_7
def dkwX0_step_5 : List UInt8 := [160, 0, 7, 7, 167, 0, 5, 16, 250, 172, 27, 16, 49, 16, 57, 184, 0, 55, 153, 0, 7, 3]
abbrev dktX0_step_5 : List UInt8 := dkwX0_step_5 ++ dktX0_step_6
def dkwX0_step_4 : List UInt8 := [167, 0, 31, 27, 16, 47, 159, 0, 9, 27, 16, 64, 160, 0, 7, 5, 167, 0, 15, 27, 16, 62]
abbrev dktX0_step_4 : List UInt8 := dkwX0_step_4 ++ dktX0_step_5
def dkwX0_step_3 : List UInt8 := [8, 167, 0, 15, 27, 16, 46, 160, 0, 7, 3, 167, 0, 5, 16, 250, 172, 27, 16, 36, 160, 0, 7, 6]
abbrev dktX0_step_3 : List UInt8 := dkwX0_step_3 ++ dktX0_step_4
def dkwX0_step_2 : List UInt8 := [28, 153, 0, 7, 4, 167, 0, 35, 27, 16, 43, 160, 0, 7, 5, 167, 0, 25, 27, 16, 33, 160, 0, 7]
abbrev dktX0_step_2 : List UInt8 := dkwX0_step_2 ++ dktX0_step_3
def dkwX0_step_1 : List UInt8 := [170, 0, 0, 0, 0, 0, 166, 0, 0, 0, 0, 0, 0, 0, 5, 0, 0, 0, 39, 0, 0, 0, 80, 0, 0, 0, 119, 0, 0, 0, 137, 0, 0, 0, 166, 0, 0, 0, 155]
abbrev dktX0_step_1 : List UInt8 := dkwX0_step_1 ++ dktX0_step_2
def dkwX0_step_0 : List UInt8 := [27, 16, 65, 100, 184, 0, 59, 61, 26]
abbrev dktX0_step_0 : List UInt8 := dkwX0_step_0 ++ dktX0_step_1
theorem dksX0_step_0 : cX0_step.data.toList.drop 0 = dktX0_step_0 := by decide +kernel
theorem dksX0_step_1 : cX0_step.data.toList.drop 9 = dktX0_step_1 := dk_seg dksX0_step_0 9 rfl rfl
theorem dksX0_step_2 : cX0_step.data.toList.drop 48 = dktX0_step_2 := dk_seg dksX0_step_1 39 rfl rfl
theorem dksX0_step_3 : cX0_step.data.toList.drop 72 = dktX0_step_3 := dk_seg dksX0_step_2 24 rfl rfl
theorem dksX0_step_4 : cX0_step.data.toList.drop 96 = dktX0_step_4 := dk_seg dksX0_step_3 24 rfl rfl
theorem dksX0_step_5 : cX0_step.data.toList.drop 118 = dktX0_step_5 := dk_seg dksX0_step_4 22 rfl rfl
theorem dksX0_step_6 : cX0_step.data.toList.drop 140 = dktX0_step_6 := dk_seg dksX0_step_5 22 rfl rfl
theorem dksX0_step_7 : cX0_step.data.toList.drop 164 = dktX0_step_7 := dk_seg dksX0_step_6 24 rfl rfl
theorem dX0_step_0 : decode cX0_step 0 = .ok (.iload_n 1, 1) := dk_27 (dk_at dksX0_step_0 0 rfl rfl)
theorem dX0_step_1 : decode cX0_step 1 = .ok (.bipush 65, 2) := dk_16 65 (dk_at dksX0_step_0 1 rfl rfl)
theorem dX0_step_3 : decode cX0_step 3 = .ok (.isub, 1) := dk_100 (dk_at dksX0_step_0 3 rfl rfl)
theorem dX0_step_4 : decode cX0_step 4 = .ok (.invokestatic 59, 3) := dk_184 0 59 (dk_at dksX0_step_0 4 rfl rfl)
theorem dX0_step_7 : decode cX0_step 7 = .ok (.istore_n 2, 1) := dk_61 (dk_at dksX0_step_0 7 rfl rfl)
theorem dX0_step_8 : decode cX0_step 8 = .ok (.iload_n 0, 1) := dk_26 (dk_at dksX0_step_0 8 rfl rfl)
theorem dX0_step_9 : decode cX0_step 9 = .ok (.tableswitch 166 0 5 #[39, 80, 119, 137, 166, 155], 39) := by decide +kernel
theorem dX0_step_48 : decode cX0_step 48 = .ok (.iload_n 2, 1) := dk_28 (dk_at dksX0_step_2 0 rfl rfl)
theorem dX0_step_49 : decode cX0_step 49 = .ok (.ifCond .eq 7, 3) := dk_153 0 7 (dk_at dksX0_step_2 1 rfl rfl)
theorem dX0_step_52 : decode cX0_step 52 = .ok (.iconst 1, 1) := dk_4 (dk_at dksX0_step_2 4 rfl rfl)
theorem dX0_step_53 : decode cX0_step 53 = .ok (.goto 35, 3) := dk_167 0 35 (dk_at dksX0_step_2 5 rfl rfl)
theorem dX0_step_56 : decode cX0_step 56 = .ok (.iload_n 1, 1) := dk_27 (dk_at dksX0_step_2 8 rfl rfl)
theorem dX0_step_57 : decode cX0_step 57 = .ok (.bipush 43, 2) := dk_16 43 (dk_at dksX0_step_2 9 rfl rfl)
theorem dX0_step_59 : decode cX0_step 59 = .ok (.if_icmp .ne 7, 3) := dk_160 0 7 (dk_at dksX0_step_2 11 rfl rfl)
theorem dX0_step_62 : decode cX0_step 62 = .ok (.iconst 2, 1) := dk_5 (dk_at dksX0_step_2 14 rfl rfl)
theorem dX0_step_63 : decode cX0_step 63 = .ok (.goto 25, 3) := dk_167 0 25 (dk_at dksX0_step_2 15 rfl rfl)
theorem dX0_step_66 : decode cX0_step 66 = .ok (.iload_n 1, 1) := dk_27 (dk_at dksX0_step_2 18 rfl rfl)
theorem dX0_step_67 : decode cX0_step 67 = .ok (.bipush 33, 2) := dk_16 33 (dk_at dksX0_step_2 19 rfl rfl)
theorem dX0_step_69 : decode cX0_step 69 = .ok (.if_icmp .ne 7, 3) := dk_160 0 7 (dk_at dksX0_step_2 21 rfl rfl)
theorem dX0_step_72 : decode cX0_step 72 = .ok (.iconst 5, 1) := dk_8 (dk_at dksX0_step_3 0 rfl rfl)
theorem dX0_step_73 : decode cX0_step 73 = .ok (.goto 15, 3) := dk_167 0 15 (dk_at dksX0_step_3 1 rfl rfl)
theorem dX0_step_76 : decode cX0_step 76 = .ok (.iload_n 1, 1) := dk_27 (dk_at dksX0_step_3 4 rfl rfl)
theorem dX0_step_77 : decode cX0_step 77 = .ok (.bipush 46, 2) := dk_16 46 (dk_at dksX0_step_3 5 rfl rfl)
theorem dX0_step_79 : decode cX0_step 79 = .ok (.if_icmp .ne 7, 3) := dk_160 0 7 (dk_at dksX0_step_3 7 rfl rfl)
theorem dX0_step_82 : decode cX0_step 82 = .ok (.iconst 0, 1) := dk_3 (dk_at dksX0_step_3 10 rfl rfl)
theorem dX0_step_83 : decode cX0_step 83 = .ok (.goto 5, 3) := dk_167 0 5 (dk_at dksX0_step_3 11 rfl rfl)
theorem dX0_step_86 : decode cX0_step 86 = .ok (.bipush (-6), 2) := dk_16 250 (dk_at dksX0_step_3 14 rfl rfl)
theorem dX0_step_88 : decode cX0_step 88 = .ok (.ireturn, 1) := dk_172 (dk_at dksX0_step_3 16 rfl rfl)
theorem dX0_step_89 : decode cX0_step 89 = .ok (.iload_n 1, 1) := dk_27 (dk_at dksX0_step_3 17 rfl rfl)
theorem dX0_step_90 : decode cX0_step 90 = .ok (.bipush 36, 2) := dk_16 36 (dk_at dksX0_step_3 18 rfl rfl)
theorem dX0_step_92 : decode cX0_step 92 = .ok (.if_icmp .ne 7, 3) := dk_160 0 7 (dk_at dksX0_step_3 20 rfl rfl)
theorem dX0_step_95 : decode cX0_step 95 = .ok (.iconst 3, 1) := dk_6 (dk_at dksX0_step_3 23 rfl rfl)
theorem dX0_step_96 : decode cX0_step 96 = .ok (.goto 31, 3) := dk_167 0 31 (dk_at dksX0_step_4 0 rfl rfl)
theorem dX0_step_99 : decode cX0_step 99 = .ok (.iload_n 1, 1) := dk_27 (dk_at dksX0_step_4 3 rfl rfl)
theorem dX0_step_100 : decode cX0_step 100 = .ok (.bipush 47, 2) := dk_16 47 (dk_at dksX0_step_4 4 rfl rfl)
theorem dX0_step_102 : decode cX0_step 102 = .ok (.if_icmp .eq 9, 3) := dk_159 0 9 (dk_at dksX0_step_4 6 rfl rfl)
theorem dX0_step_105 : decode cX0_step 105 = .ok (.iload_n 1, 1) := dk_27 (dk_at dksX0_step_4 9 rfl rfl)
theorem dX0_step_106 : decode cX0_step 106 = .ok (.bipush 64, 2) := dk_16 64 (dk_at dksX0_step_4 10 rfl rfl)
theorem dX0_step_108 : decode cX0_step 108 = .ok (.if_icmp .ne 7, 3) := dk_160 0 7 (dk_at dksX0_step_4 12 rfl rfl)
theorem dX0_step_111 : decode cX0_step 111 = .ok (.iconst 2, 1) := dk_5 (dk_at dksX0_step_4 15 rfl rfl)
theorem dX0_step_112 : decode cX0_step 112 = .ok (.goto 15, 3) := dk_167 0 15 (dk_at dksX0_step_4 16 rfl rfl)
theorem dX0_step_115 : decode cX0_step 115 = .ok (.iload_n 1, 1) := dk_27 (dk_at dksX0_step_4 19 rfl rfl)
theorem dX0_step_116 : decode cX0_step 116 = .ok (.bipush 62, 2) := dk_16 62 (dk_at dksX0_step_4 20 rfl rfl)
theorem dX0_step_118 : decode cX0_step 118 = .ok (.if_icmp .ne 7, 3) := dk_160 0 7 (dk_at dksX0_step_5 0 rfl rfl)
theorem dX0_step_121 : decode cX0_step 121 = .ok (.iconst 4, 1) := dk_7 (dk_at dksX0_step_5 3 rfl rfl)
theorem dX0_step_122 : decode cX0_step 122 = .ok (.goto 5, 3) := dk_167 0 5 (dk_at dksX0_step_5 4 rfl rfl)
theorem dX0_step_125 : decode cX0_step 125 = .ok (.bipush (-6), 2) := dk_16 250 (dk_at dksX0_step_5 7 rfl rfl)
theorem dX0_step_127 : decode cX0_step 127 = .ok (.ireturn, 1) := dk_172 (dk_at dksX0_step_5 9 rfl rfl)
theorem dX0_step_128 : decode cX0_step 128 = .ok (.iload_n 1, 1) := dk_27 (dk_at dksX0_step_5 10 rfl rfl)
theorem dX0_step_129 : decode cX0_step 129 = .ok (.bipush 49, 2) := dk_16 49 (dk_at dksX0_step_5 11 rfl rfl)
theorem dX0_step_131 : decode cX0_step 131 = .ok (.bipush 57, 2) := dk_16 57 (dk_at dksX0_step_5 13 rfl rfl)
theorem dX0_step_133 : decode cX0_step 133 = .ok (.invokestatic 55, 3) := dk_184 0 55 (dk_at dksX0_step_5 15 rfl rfl)
theorem dX0_step_136 : decode cX0_step 136 = .ok (.ifCond .eq 7, 3) := dk_153 0 7 (dk_at dksX0_step_5 18 rfl rfl)
theorem dX0_step_139 : decode cX0_step 139 = .ok (.iconst 0, 1) := dk_3 (dk_at dksX0_step_5 21 rfl rfl)
theorem dX0_step_140 : decode cX0_step 140 = .ok (.goto 5, 3) := dk_167 0 5 (dk_at dksX0_step_6 0 rfl rfl)
theorem dX0_step_143 : decode cX0_step 143 = .ok (.bipush (-6), 2) := dk_16 250 (dk_at dksX0_step_6 3 rfl rfl)
theorem dX0_step_145 : decode cX0_step 145 = .ok (.ireturn, 1) := dk_172 (dk_at dksX0_step_6 5 rfl rfl)
theorem dX0_step_146 : decode cX0_step 146 = .ok (.iload_n 1, 1) := dk_27 (dk_at dksX0_step_6 6 rfl rfl)
theorem dX0_step_147 : decode cX0_step 147 = .ok (.bipush 48, 2) := dk_16 48 (dk_at dksX0_step_6 7 rfl rfl)
theorem dX0_step_149 : decode cX0_step 149 = .ok (.bipush 55, 2) := dk_16 55 (dk_at dksX0_step_6 9 rfl rfl)
theorem dX0_step_151 : decode cX0_step 151 = .ok (.invokestatic 55, 3) := dk_184 0 55 (dk_at dksX0_step_6 11 rfl rfl)
theorem dX0_step_154 : decode cX0_step 154 = .ok (.ifCond .eq 7, 3) := dk_153 0 7 (dk_at dksX0_step_6 14 rfl rfl)
theorem dX0_step_157 : decode cX0_step 157 = .ok (.iconst 0, 1) := dk_3 (dk_at dksX0_step_6 17 rfl rfl)
theorem dX0_step_158 : decode cX0_step 158 = .ok (.goto 5, 3) := dk_167 0 5 (dk_at dksX0_step_6 18 rfl rfl)
theorem dX0_step_161 : decode cX0_step 161 = .ok (.bipush (-6), 2) := dk_16 250 (dk_at dksX0_step_6 21 rfl rfl)
theorem dX0_step_163 : decode cX0_step 163 = .ok (.ireturn, 1) := dk_172 (dk_at dksX0_step_6 23 rfl rfl)
theorem dX0_step_164 : decode cX0_step 164 = .ok (.iload_n 2, 1) := dk_28 (dk_at dksX0_step_7 0 rfl rfl)
theorem dX0_step_165 : decode cX0_step 165 = .ok (.ifCond .eq 7, 3) := dk_153 0 7 (dk_at dksX0_step_7 1 rfl rfl)
theorem dX0_step_168 : decode cX0_step 168 = .ok (.iconst 2, 1) := dk_5 (dk_at dksX0_step_7 4 rfl rfl)
theorem dX0_step_169 : decode cX0_step 169 = .ok (.goto 5, 3) := dk_167 0 5 (dk_at dksX0_step_7 5 rfl rfl)
theorem dX0_step_172 : decode cX0_step 172 = .ok (.bipush (-6), 2) := dk_16 250 (dk_at dksX0_step_7 8 rfl rfl)
theorem dX0_step_174 : decode cX0_step 174 = .ok (.ireturn, 1) := dk_172 (dk_at dksX0_step_7 10 rfl rfl)
theorem dX0_step_175 : decode cX0_step 175 = .ok (.iload_n 2, 1) := dk_28 (dk_at dksX0_step_7 11 rfl rfl)
theorem dX0_step_176 : decode cX0_step 176 = .ok (.ifCond .eq 7, 3) := dk_153 0 7 (dk_at dksX0_step_7 12 rfl rfl)
theorem dX0_step_179 : decode cX0_step 179 = .ok (.iconst 0, 1) := dk_3 (dk_at dksX0_step_7 15 rfl rfl)
theorem dX0_step_180 : decode cX0_step 180 = .ok (.goto 5, 3) := dk_167 0 5 (dk_at dksX0_step_7 16 rfl rfl)
theorem dX0_step_183 : decode cX0_step 183 = .ok (.bipush (-6), 2) := dk_16 250 (dk_at dksX0_step_7 19 rfl rfl)
theorem dX0_step_185 : decode cX0_step 185 = .ok (.ireturn, 1) := dk_172 (dk_at dksX0_step_7 21 rfl rfl)
abbrev cX0_judge : ByteArray := prog_1_method_21_code
def yX0_judge : MethodName := ⟨RX0, "judge", "(I)I"⟩
def dkwX0_judge_2 : List UInt8 := [180, 0, 119, 172, 28, 155, 0, 8, 16, 253, 167, 0, 7, 42, 180, 0, 128, 172]
abbrev dktX0_judge_2 : List UInt8 := dkwX0_judge_2 ++ []
def dkwX0_judge_1 : List UInt8 := [182, 0, 148, 61, 27, 5, 162, 0, 20, 28, 155, 0, 7, 27, 154, 0, 7, 28, 167, 0, 7, 42]
abbrev dktX0_judge_1 : List UInt8 := dkwX0_judge_1 ++ dktX0_judge_2
def dkwX0_judge_0 : List UInt8 := [27, 3, 5, 184, 0, 55, 154, 0, 6, 16, 254, 172, 42, 182, 0, 98, 155, 0, 6, 16, 251, 172, 42]
abbrev dktX0_judge_0 : List UInt8 := dkwX0_judge_0 ++ dktX0_judge_1
theorem dksX0_judge_0 : cX0_judge.data.toList.drop 0 = dktX0_judge_0 := by decide +kernel
theorem dksX0_judge_1 : cX0_judge.data.toList.drop 23 = dktX0_judge_1 := dk_seg dksX0_judge_0 23 rfl rfl
theorem dksX0_judge_2 : cX0_judge.data.toList.drop 45 = dktX0_judge_2 := dk_seg dksX0_judge_1 22 rfl rfl
theorem dX0_judge_0 : decode cX0_judge 0 = .ok (.iload_n 1, 1) := dk_27 (dk_at dksX0_judge_0 0 rfl rfl)
theorem dX0_judge_1 : decode cX0_judge 1 = .ok (.iconst 0, 1) := dk_3 (dk_at dksX0_judge_0 1 rfl rfl)
theorem dX0_judge_2 : decode cX0_judge 2 = .ok (.iconst 2, 1) := dk_5 (dk_at dksX0_judge_0 2 rfl rfl)
theorem dX0_judge_3 : decode cX0_judge 3 = .ok (.invokestatic 55, 3) := dk_184 0 55 (dk_at dksX0_judge_0 3 rfl rfl)
theorem dX0_judge_6 : decode cX0_judge 6 = .ok (.ifCond .ne 6, 3) := dk_154 0 6 (dk_at dksX0_judge_0 6 rfl rfl)
theorem dX0_judge_9 : decode cX0_judge 9 = .ok (.bipush (-2), 2) := dk_16 254 (dk_at dksX0_judge_0 9 rfl rfl)
theorem dX0_judge_11 : decode cX0_judge 11 = .ok (.ireturn, 1) := dk_172 (dk_at dksX0_judge_0 11 rfl rfl)
theorem dX0_judge_12 : decode cX0_judge 12 = .ok (.aload_n 0, 1) := dk_42 (dk_at dksX0_judge_0 12 rfl rfl)
theorem dX0_judge_13 : decode cX0_judge 13 = .ok (.invokevirtual 98, 3) := dk_182 0 98 (dk_at dksX0_judge_0 13 rfl rfl)
theorem dX0_judge_16 : decode cX0_judge 16 = .ok (.ifCond .lt 6, 3) := dk_155 0 6 (dk_at dksX0_judge_0 16 rfl rfl)
theorem dX0_judge_19 : decode cX0_judge 19 = .ok (.bipush (-5), 2) := dk_16 251 (dk_at dksX0_judge_0 19 rfl rfl)
theorem dX0_judge_21 : decode cX0_judge 21 = .ok (.ireturn, 1) := dk_172 (dk_at dksX0_judge_0 21 rfl rfl)
theorem dX0_judge_22 : decode cX0_judge 22 = .ok (.aload_n 0, 1) := dk_42 (dk_at dksX0_judge_0 22 rfl rfl)
theorem dX0_judge_23 : decode cX0_judge 23 = .ok (.invokevirtual 148, 3) := dk_182 0 148 (dk_at dksX0_judge_1 0 rfl rfl)
theorem dX0_judge_26 : decode cX0_judge 26 = .ok (.istore_n 2, 1) := dk_61 (dk_at dksX0_judge_1 3 rfl rfl)
theorem dX0_judge_27 : decode cX0_judge 27 = .ok (.iload_n 1, 1) := dk_27 (dk_at dksX0_judge_1 4 rfl rfl)
theorem dX0_judge_28 : decode cX0_judge 28 = .ok (.iconst 2, 1) := dk_5 (dk_at dksX0_judge_1 5 rfl rfl)
theorem dX0_judge_29 : decode cX0_judge 29 = .ok (.if_icmp .ge 20, 3) := dk_162 0 20 (dk_at dksX0_judge_1 6 rfl rfl)
theorem dX0_judge_32 : decode cX0_judge 32 = .ok (.iload_n 2, 1) := dk_28 (dk_at dksX0_judge_1 9 rfl rfl)
theorem dX0_judge_33 : decode cX0_judge 33 = .ok (.ifCond .lt 7, 3) := dk_155 0 7 (dk_at dksX0_judge_1 10 rfl rfl)
theorem dX0_judge_36 : decode cX0_judge 36 = .ok (.iload_n 1, 1) := dk_27 (dk_at dksX0_judge_1 13 rfl rfl)
theorem dX0_judge_37 : decode cX0_judge 37 = .ok (.ifCond .ne 7, 3) := dk_154 0 7 (dk_at dksX0_judge_1 14 rfl rfl)
theorem dX0_judge_40 : decode cX0_judge 40 = .ok (.iload_n 2, 1) := dk_28 (dk_at dksX0_judge_1 17 rfl rfl)
theorem dX0_judge_41 : decode cX0_judge 41 = .ok (.goto 7, 3) := dk_167 0 7 (dk_at dksX0_judge_1 18 rfl rfl)
theorem dX0_judge_44 : decode cX0_judge 44 = .ok (.aload_n 0, 1) := dk_42 (dk_at dksX0_judge_1 21 rfl rfl)
theorem dX0_judge_45 : decode cX0_judge 45 = .ok (.getfield 119, 3) := dk_180 0 119 (dk_at dksX0_judge_2 0 rfl rfl)
theorem dX0_judge_48 : decode cX0_judge 48 = .ok (.ireturn, 1) := dk_172 (dk_at dksX0_judge_2 3 rfl rfl)
theorem dX0_judge_49 : decode cX0_judge 49 = .ok (.iload_n 2, 1) := dk_28 (dk_at dksX0_judge_2 4 rfl rfl)
theorem dX0_judge_50 : decode cX0_judge 50 = .ok (.ifCond .lt 8, 3) := dk_155 0 8 (dk_at dksX0_judge_2 5 rfl rfl)
theorem dX0_judge_53 : decode cX0_judge 53 = .ok (.bipush (-3), 2) := dk_16 253 (dk_at dksX0_judge_2 8 rfl rfl)
theorem dX0_judge_55 : decode cX0_judge 55 = .ok (.goto 7, 3) := dk_167 0 7 (dk_at dksX0_judge_2 10 rfl rfl)
theorem dX0_judge_58 : decode cX0_judge 58 = .ok (.aload_n 0, 1) := dk_42 (dk_at dksX0_judge_2 13 rfl rfl)
theorem dX0_judge_59 : decode cX0_judge 59 = .ok (.getfield 128, 3) := dk_180 0 128 (dk_at dksX0_judge_2 14 rfl rfl)
theorem dX0_judge_62 : decode cX0_judge 62 = .ok (.ireturn, 1) := dk_172 (dk_at dksX0_judge_2 17 rfl rfl)
abbrev cX0_goMonths : ByteArray := prog_1_method_20_code
def yX0_goMonths : MethodName := ⟨RX0, "goMonths", "()I"⟩
def dkwX0_goMonths_2 : List UInt8 := [172, 42, 89, 180, 0, 142, 4, 96, 181, 0, 142, 167, 255, 220, 16, 250, 172]
abbrev dktX0_goMonths_2 : List UInt8 := dkwX0_goMonths_2 ++ []
def dkwX0_goMonths_1 : List UInt8 := [42, 180, 0, 90, 162, 0, 34, 42, 27, 182, 0, 145, 60, 42, 180, 0, 119, 158, 0, 8, 42, 180, 0, 142]
abbrev dktX0_goMonths_1 : List UInt8 := dkwX0_goMonths_1 ++ dktX0_goMonths_2
def dkwX0_goMonths_0 : List UInt8 := [42, 180, 0, 24, 42, 180, 0, 20, 182, 0, 138, 42, 3, 181, 0, 142, 42, 3, 181, 0, 128, 3, 60, 27]
abbrev dktX0_goMonths_0 : List UInt8 := dkwX0_goMonths_0 ++ dktX0_goMonths_1
theorem dksX0_goMonths_0 : cX0_goMonths.data.toList.drop 0 = dktX0_goMonths_0 := by decide +kernel
theorem dksX0_goMonths_1 : cX0_goMonths.data.toList.drop 24 = dktX0_goMonths_1 := dk_seg dksX0_goMonths_0 24 rfl rfl
theorem dksX0_goMonths_2 : cX0_goMonths.data.toList.drop 48 = dktX0_goMonths_2 := dk_seg dksX0_goMonths_1 24 rfl rfl
theorem dX0_goMonths_0 : decode cX0_goMonths 0 = .ok (.aload_n 0, 1) := dk_42 (dk_at dksX0_goMonths_0 0 rfl rfl)
theorem dX0_goMonths_1 : decode cX0_goMonths 1 = .ok (.getfield 24, 3) := dk_180 0 24 (dk_at dksX0_goMonths_0 1 rfl rfl)
theorem dX0_goMonths_4 : decode cX0_goMonths 4 = .ok (.aload_n 0, 1) := dk_42 (dk_at dksX0_goMonths_0 4 rfl rfl)
theorem dX0_goMonths_5 : decode cX0_goMonths 5 = .ok (.getfield 20, 3) := dk_180 0 20 (dk_at dksX0_goMonths_0 5 rfl rfl)
theorem dX0_goMonths_8 : decode cX0_goMonths 8 = .ok (.invokevirtual 138, 3) := dk_182 0 138 (dk_at dksX0_goMonths_0 8 rfl rfl)
theorem dX0_goMonths_11 : decode cX0_goMonths 11 = .ok (.aload_n 0, 1) := dk_42 (dk_at dksX0_goMonths_0 11 rfl rfl)
theorem dX0_goMonths_12 : decode cX0_goMonths 12 = .ok (.iconst 0, 1) := dk_3 (dk_at dksX0_goMonths_0 12 rfl rfl)
theorem dX0_goMonths_13 : decode cX0_goMonths 13 = .ok (.putfield 142, 3) := dk_181 0 142 (dk_at dksX0_goMonths_0 13 rfl rfl)
theorem dX0_goMonths_16 : decode cX0_goMonths 16 = .ok (.aload_n 0, 1) := dk_42 (dk_at dksX0_goMonths_0 16 rfl rfl)
theorem dX0_goMonths_17 : decode cX0_goMonths 17 = .ok (.iconst 0, 1) := dk_3 (dk_at dksX0_goMonths_0 17 rfl rfl)
theorem dX0_goMonths_18 : decode cX0_goMonths 18 = .ok (.putfield 128, 3) := dk_181 0 128 (dk_at dksX0_goMonths_0 18 rfl rfl)
theorem dX0_goMonths_21 : decode cX0_goMonths 21 = .ok (.iconst 0, 1) := dk_3 (dk_at dksX0_goMonths_0 21 rfl rfl)
theorem dX0_goMonths_22 : decode cX0_goMonths 22 = .ok (.istore_n 1, 1) := dk_60 (dk_at dksX0_goMonths_0 22 rfl rfl)
theorem dX0_goMonths_23 : decode cX0_goMonths 23 = .ok (.iload_n 1, 1) := dk_27 (dk_at dksX0_goMonths_0 23 rfl rfl)
theorem dX0_goMonths_24 : decode cX0_goMonths 24 = .ok (.aload_n 0, 1) := dk_42 (dk_at dksX0_goMonths_1 0 rfl rfl)
theorem dX0_goMonths_25 : decode cX0_goMonths 25 = .ok (.getfield 90, 3) := dk_180 0 90 (dk_at dksX0_goMonths_1 1 rfl rfl)
theorem dX0_goMonths_28 : decode cX0_goMonths 28 = .ok (.if_icmp .ge 34, 3) := dk_162 0 34 (dk_at dksX0_goMonths_1 4 rfl rfl)
theorem dX0_goMonths_31 : decode cX0_goMonths 31 = .ok (.aload_n 0, 1) := dk_42 (dk_at dksX0_goMonths_1 7 rfl rfl)
theorem dX0_goMonths_32 : decode cX0_goMonths 32 = .ok (.iload_n 1, 1) := dk_27 (dk_at dksX0_goMonths_1 8 rfl rfl)
theorem dX0_goMonths_33 : decode cX0_goMonths 33 = .ok (.invokevirtual 145, 3) := dk_182 0 145 (dk_at dksX0_goMonths_1 9 rfl rfl)
theorem dX0_goMonths_36 : decode cX0_goMonths 36 = .ok (.istore_n 1, 1) := dk_60 (dk_at dksX0_goMonths_1 12 rfl rfl)
theorem dX0_goMonths_37 : decode cX0_goMonths 37 = .ok (.aload_n 0, 1) := dk_42 (dk_at dksX0_goMonths_1 13 rfl rfl)
theorem dX0_goMonths_38 : decode cX0_goMonths 38 = .ok (.getfield 119, 3) := dk_180 0 119 (dk_at dksX0_goMonths_1 14 rfl rfl)
theorem dX0_goMonths_41 : decode cX0_goMonths 41 = .ok (.ifCond .le 8, 3) := dk_158 0 8 (dk_at dksX0_goMonths_1 17 rfl rfl)
theorem dX0_goMonths_44 : decode cX0_goMonths 44 = .ok (.aload_n 0, 1) := dk_42 (dk_at dksX0_goMonths_1 20 rfl rfl)
theorem dX0_goMonths_45 : decode cX0_goMonths 45 = .ok (.getfield 142, 3) := dk_180 0 142 (dk_at dksX0_goMonths_1 21 rfl rfl)
theorem dX0_goMonths_48 : decode cX0_goMonths 48 = .ok (.ireturn, 1) := dk_172 (dk_at dksX0_goMonths_2 0 rfl rfl)
theorem dX0_goMonths_49 : decode cX0_goMonths 49 = .ok (.aload_n 0, 1) := dk_42 (dk_at dksX0_goMonths_2 1 rfl rfl)
theorem dX0_goMonths_50 : decode cX0_goMonths 50 = .ok (.dup, 1) := dk_89 (dk_at dksX0_goMonths_2 2 rfl rfl)
theorem dX0_goMonths_51 : decode cX0_goMonths 51 = .ok (.getfield 142, 3) := dk_180 0 142 (dk_at dksX0_goMonths_2 3 rfl rfl)
theorem dX0_goMonths_54 : decode cX0_goMonths 54 = .ok (.iconst 1, 1) := dk_4 (dk_at dksX0_goMonths_2 6 rfl rfl)
theorem dX0_goMonths_55 : decode cX0_goMonths 55 = .ok (.iadd, 1) := dk_96 (dk_at dksX0_goMonths_2 7 rfl rfl)
theorem dX0_goMonths_56 : decode cX0_goMonths 56 = .ok (.putfield 142, 3) := dk_181 0 142 (dk_at dksX0_goMonths_2 8 rfl rfl)
theorem dX0_goMonths_59 : decode cX0_goMonths 59 = .ok (.goto (-36), 3) := dk_167 255 220 (dk_at dksX0_goMonths_2 11 rfl rfl)
theorem dX0_goMonths_62 : decode cX0_goMonths 62 = .ok (.bipush (-6), 2) := dk_16 250 (dk_at dksX0_goMonths_2 14 rfl rfl)
theorem dX0_goMonths_64 : decode cX0_goMonths 64 = .ok (.ireturn, 1) := dk_172 (dk_at dksX0_goMonths_2 16 rfl rfl)
abbrev cX0_act : ByteArray := prog_1_method_19_code
def yX0_act : MethodName := ⟨RX0, "act", "(I)I"⟩
def dkwX0_act_8 : List UInt8 := [181, 0, 119, 27, 6, 96, 172]
abbrev dktX0_act_8 : List UInt8 := dkwX0_act_8 ++ []
def dkwX0_act_7 : List UInt8 := [27, 52, 16, 65, 100, 42, 180, 0, 31, 27, 4, 96, 52, 42, 180, 0, 31, 27, 5, 96, 52, 182, 0, 134]
abbrev dktX0_act_7 : List UInt8 := dkwX0_act_7 ++ dktX0_act_8
def dkwX0_act_6 : List UInt8 := [182, 0, 131, 79, 42, 89, 180, 0, 128, 4, 96, 181, 0, 128, 27, 4, 96, 172, 42, 42, 42, 180, 0, 31]
abbrev dktX0_act_6 : List UInt8 := dkwX0_act_6 ++ dktX0_act_7
def dkwX0_act_5 : List UInt8 := [42, 42, 180, 0, 24, 182, 0, 125, 181, 0, 119, 42, 180, 0, 35, 42, 180, 0, 128, 42, 180, 0, 24]
abbrev dktX0_act_5 : List UInt8 := dkwX0_act_5 ++ dktX0_act_6
def dkwX0_act_4 : List UInt8 := [16, 100, 42, 180, 0, 31, 27, 5, 96, 52, 16, 48, 100, 104, 182, 0, 122, 181, 0, 119, 27, 6, 96, 172]
abbrev dktX0_act_4 : List UInt8 := dkwX0_act_4 ++ dktX0_act_5
def dkwX0_act_3 : List UInt8 := [181, 0, 119, 27, 5, 96, 172, 42, 42, 180, 0, 24, 42, 180, 0, 31, 27, 4, 96, 52, 16, 65, 100]
abbrev dktX0_act_3 : List UInt8 := dkwX0_act_3 ++ dktX0_act_4
def dkwX0_act_2 : List UInt8 := [42, 42, 180, 0, 24, 16, 100, 42, 180, 0, 31, 27, 4, 96, 52, 16, 48, 100, 104, 182, 0, 115]
abbrev dktX0_act_2 : List UInt8 := dkwX0_act_2 ++ dktX0_act_3
def dkwX0_act_1 : List UInt8 := [171, 0, 0, 0, 0, 144, 0, 0, 0, 3, 0, 0, 0, 33, 0, 0, 0, 63, 0, 0, 0, 43, 0, 0, 0, 34, 0, 0, 0, 46, 0, 0, 0, 103]
abbrev dktX0_act_1 : List UInt8 := dkwX0_act_1 ++ dktX0_act_2
def dkwX0_act_0 : List UInt8 := [42, 180, 0, 31, 27, 52]
abbrev dktX0_act_0 : List UInt8 := dkwX0_act_0 ++ dktX0_act_1
theorem dksX0_act_0 : cX0_act.data.toList.drop 0 = dktX0_act_0 := by decide +kernel
theorem dksX0_act_1 : cX0_act.data.toList.drop 6 = dktX0_act_1 := dk_seg dksX0_act_0 6 rfl rfl
theorem dksX0_act_2 : cX0_act.data.toList.drop 40 = dktX0_act_2 := dk_seg dksX0_act_1 34 rfl rfl
theorem dksX0_act_3 : cX0_act.data.toList.drop 62 = dktX0_act_3 := dk_seg dksX0_act_2 22 rfl rfl
theorem dksX0_act_4 : cX0_act.data.toList.drop 85 = dktX0_act_4 := dk_seg dksX0_act_3 23 rfl rfl
theorem dksX0_act_5 : cX0_act.data.toList.drop 109 = dktX0_act_5 := dk_seg dksX0_act_4 24 rfl rfl
theorem dksX0_act_6 : cX0_act.data.toList.drop 132 = dktX0_act_6 := dk_seg dksX0_act_5 23 rfl rfl
theorem dksX0_act_7 : cX0_act.data.toList.drop 156 = dktX0_act_7 := dk_seg dksX0_act_6 24 rfl rfl
theorem dksX0_act_8 : cX0_act.data.toList.drop 180 = dktX0_act_8 := dk_seg dksX0_act_7 24 rfl rfl
theorem dX0_act_0 : decode cX0_act 0 = .ok (.aload_n 0, 1) := dk_42 (dk_at dksX0_act_0 0 rfl rfl)
theorem dX0_act_1 : decode cX0_act 1 = .ok (.getfield 31, 3) := dk_180 0 31 (dk_at dksX0_act_0 1 rfl rfl)
theorem dX0_act_4 : decode cX0_act 4 = .ok (.iload_n 1, 1) := dk_27 (dk_at dksX0_act_0 4 rfl rfl)
theorem dX0_act_5 : decode cX0_act 5 = .ok (.caload, 1) := dk_52 (dk_at dksX0_act_0 5 rfl rfl)
theorem dX0_act_6 : decode cX0_act 6 = .ok (.lookupswitch 144 #[(33, 63), (43, 34), (46, 103)], 34) := by decide +kernel
theorem dX0_act_40 : decode cX0_act 40 = .ok (.aload_n 0, 1) := dk_42 (dk_at dksX0_act_2 0 rfl rfl)
theorem dX0_act_41 : decode cX0_act 41 = .ok (.aload_n 0, 1) := dk_42 (dk_at dksX0_act_2 1 rfl rfl)
theorem dX0_act_42 : decode cX0_act 42 = .ok (.getfield 24, 3) := dk_180 0 24 (dk_at dksX0_act_2 2 rfl rfl)
theorem dX0_act_45 : decode cX0_act 45 = .ok (.bipush 100, 2) := dk_16 100 (dk_at dksX0_act_2 5 rfl rfl)
theorem dX0_act_47 : decode cX0_act 47 = .ok (.aload_n 0, 1) := dk_42 (dk_at dksX0_act_2 7 rfl rfl)
theorem dX0_act_48 : decode cX0_act 48 = .ok (.getfield 31, 3) := dk_180 0 31 (dk_at dksX0_act_2 8 rfl rfl)
theorem dX0_act_51 : decode cX0_act 51 = .ok (.iload_n 1, 1) := dk_27 (dk_at dksX0_act_2 11 rfl rfl)
theorem dX0_act_52 : decode cX0_act 52 = .ok (.iconst 1, 1) := dk_4 (dk_at dksX0_act_2 12 rfl rfl)
theorem dX0_act_53 : decode cX0_act 53 = .ok (.iadd, 1) := dk_96 (dk_at dksX0_act_2 13 rfl rfl)
theorem dX0_act_54 : decode cX0_act 54 = .ok (.caload, 1) := dk_52 (dk_at dksX0_act_2 14 rfl rfl)
theorem dX0_act_55 : decode cX0_act 55 = .ok (.bipush 48, 2) := dk_16 48 (dk_at dksX0_act_2 15 rfl rfl)
theorem dX0_act_57 : decode cX0_act 57 = .ok (.isub, 1) := dk_100 (dk_at dksX0_act_2 17 rfl rfl)
theorem dX0_act_58 : decode cX0_act 58 = .ok (.imul, 1) := dk_104 (dk_at dksX0_act_2 18 rfl rfl)
theorem dX0_act_59 : decode cX0_act 59 = .ok (.invokevirtual 115, 3) := dk_182 0 115 (dk_at dksX0_act_2 19 rfl rfl)
theorem dX0_act_62 : decode cX0_act 62 = .ok (.putfield 119, 3) := dk_181 0 119 (dk_at dksX0_act_3 0 rfl rfl)
theorem dX0_act_65 : decode cX0_act 65 = .ok (.iload_n 1, 1) := dk_27 (dk_at dksX0_act_3 3 rfl rfl)
theorem dX0_act_66 : decode cX0_act 66 = .ok (.iconst 2, 1) := dk_5 (dk_at dksX0_act_3 4 rfl rfl)
theorem dX0_act_67 : decode cX0_act 67 = .ok (.iadd, 1) := dk_96 (dk_at dksX0_act_3 5 rfl rfl)
theorem dX0_act_68 : decode cX0_act 68 = .ok (.ireturn, 1) := dk_172 (dk_at dksX0_act_3 6 rfl rfl)
theorem dX0_act_69 : decode cX0_act 69 = .ok (.aload_n 0, 1) := dk_42 (dk_at dksX0_act_3 7 rfl rfl)
theorem dX0_act_70 : decode cX0_act 70 = .ok (.aload_n 0, 1) := dk_42 (dk_at dksX0_act_3 8 rfl rfl)
theorem dX0_act_71 : decode cX0_act 71 = .ok (.getfield 24, 3) := dk_180 0 24 (dk_at dksX0_act_3 9 rfl rfl)
theorem dX0_act_74 : decode cX0_act 74 = .ok (.aload_n 0, 1) := dk_42 (dk_at dksX0_act_3 12 rfl rfl)
theorem dX0_act_75 : decode cX0_act 75 = .ok (.getfield 31, 3) := dk_180 0 31 (dk_at dksX0_act_3 13 rfl rfl)
theorem dX0_act_78 : decode cX0_act 78 = .ok (.iload_n 1, 1) := dk_27 (dk_at dksX0_act_3 16 rfl rfl)
theorem dX0_act_79 : decode cX0_act 79 = .ok (.iconst 1, 1) := dk_4 (dk_at dksX0_act_3 17 rfl rfl)
theorem dX0_act_80 : decode cX0_act 80 = .ok (.iadd, 1) := dk_96 (dk_at dksX0_act_3 18 rfl rfl)
theorem dX0_act_81 : decode cX0_act 81 = .ok (.caload, 1) := dk_52 (dk_at dksX0_act_3 19 rfl rfl)
theorem dX0_act_82 : decode cX0_act 82 = .ok (.bipush 65, 2) := dk_16 65 (dk_at dksX0_act_3 20 rfl rfl)
theorem dX0_act_84 : decode cX0_act 84 = .ok (.isub, 1) := dk_100 (dk_at dksX0_act_3 22 rfl rfl)
theorem dX0_act_85 : decode cX0_act 85 = .ok (.bipush 100, 2) := dk_16 100 (dk_at dksX0_act_4 0 rfl rfl)
theorem dX0_act_87 : decode cX0_act 87 = .ok (.aload_n 0, 1) := dk_42 (dk_at dksX0_act_4 2 rfl rfl)
theorem dX0_act_88 : decode cX0_act 88 = .ok (.getfield 31, 3) := dk_180 0 31 (dk_at dksX0_act_4 3 rfl rfl)
theorem dX0_act_91 : decode cX0_act 91 = .ok (.iload_n 1, 1) := dk_27 (dk_at dksX0_act_4 6 rfl rfl)
theorem dX0_act_92 : decode cX0_act 92 = .ok (.iconst 2, 1) := dk_5 (dk_at dksX0_act_4 7 rfl rfl)
theorem dX0_act_93 : decode cX0_act 93 = .ok (.iadd, 1) := dk_96 (dk_at dksX0_act_4 8 rfl rfl)
theorem dX0_act_94 : decode cX0_act 94 = .ok (.caload, 1) := dk_52 (dk_at dksX0_act_4 9 rfl rfl)
theorem dX0_act_95 : decode cX0_act 95 = .ok (.bipush 48, 2) := dk_16 48 (dk_at dksX0_act_4 10 rfl rfl)
theorem dX0_act_97 : decode cX0_act 97 = .ok (.isub, 1) := dk_100 (dk_at dksX0_act_4 12 rfl rfl)
theorem dX0_act_98 : decode cX0_act 98 = .ok (.imul, 1) := dk_104 (dk_at dksX0_act_4 13 rfl rfl)
theorem dX0_act_99 : decode cX0_act 99 = .ok (.invokevirtual 122, 3) := dk_182 0 122 (dk_at dksX0_act_4 14 rfl rfl)
theorem dX0_act_102 : decode cX0_act 102 = .ok (.putfield 119, 3) := dk_181 0 119 (dk_at dksX0_act_4 17 rfl rfl)
theorem dX0_act_105 : decode cX0_act 105 = .ok (.iload_n 1, 1) := dk_27 (dk_at dksX0_act_4 20 rfl rfl)
theorem dX0_act_106 : decode cX0_act 106 = .ok (.iconst 3, 1) := dk_6 (dk_at dksX0_act_4 21 rfl rfl)
theorem dX0_act_107 : decode cX0_act 107 = .ok (.iadd, 1) := dk_96 (dk_at dksX0_act_4 22 rfl rfl)
theorem dX0_act_108 : decode cX0_act 108 = .ok (.ireturn, 1) := dk_172 (dk_at dksX0_act_4 23 rfl rfl)
theorem dX0_act_109 : decode cX0_act 109 = .ok (.aload_n 0, 1) := dk_42 (dk_at dksX0_act_5 0 rfl rfl)
theorem dX0_act_110 : decode cX0_act 110 = .ok (.aload_n 0, 1) := dk_42 (dk_at dksX0_act_5 1 rfl rfl)
theorem dX0_act_111 : decode cX0_act 111 = .ok (.getfield 24, 3) := dk_180 0 24 (dk_at dksX0_act_5 2 rfl rfl)
theorem dX0_act_114 : decode cX0_act 114 = .ok (.invokevirtual 125, 3) := dk_182 0 125 (dk_at dksX0_act_5 5 rfl rfl)
theorem dX0_act_117 : decode cX0_act 117 = .ok (.putfield 119, 3) := dk_181 0 119 (dk_at dksX0_act_5 8 rfl rfl)
theorem dX0_act_120 : decode cX0_act 120 = .ok (.aload_n 0, 1) := dk_42 (dk_at dksX0_act_5 11 rfl rfl)
theorem dX0_act_121 : decode cX0_act 121 = .ok (.getfield 35, 3) := dk_180 0 35 (dk_at dksX0_act_5 12 rfl rfl)
theorem dX0_act_124 : decode cX0_act 124 = .ok (.aload_n 0, 1) := dk_42 (dk_at dksX0_act_5 15 rfl rfl)
theorem dX0_act_125 : decode cX0_act 125 = .ok (.getfield 128, 3) := dk_180 0 128 (dk_at dksX0_act_5 16 rfl rfl)
theorem dX0_act_128 : decode cX0_act 128 = .ok (.aload_n 0, 1) := dk_42 (dk_at dksX0_act_5 19 rfl rfl)
theorem dX0_act_129 : decode cX0_act 129 = .ok (.getfield 24, 3) := dk_180 0 24 (dk_at dksX0_act_5 20 rfl rfl)
theorem dX0_act_132 : decode cX0_act 132 = .ok (.invokevirtual 131, 3) := dk_182 0 131 (dk_at dksX0_act_6 0 rfl rfl)
theorem dX0_act_135 : decode cX0_act 135 = .ok (.iastore, 1) := dk_79 (dk_at dksX0_act_6 3 rfl rfl)
theorem dX0_act_136 : decode cX0_act 136 = .ok (.aload_n 0, 1) := dk_42 (dk_at dksX0_act_6 4 rfl rfl)
theorem dX0_act_137 : decode cX0_act 137 = .ok (.dup, 1) := dk_89 (dk_at dksX0_act_6 5 rfl rfl)
theorem dX0_act_138 : decode cX0_act 138 = .ok (.getfield 128, 3) := dk_180 0 128 (dk_at dksX0_act_6 6 rfl rfl)
theorem dX0_act_141 : decode cX0_act 141 = .ok (.iconst 1, 1) := dk_4 (dk_at dksX0_act_6 9 rfl rfl)
theorem dX0_act_142 : decode cX0_act 142 = .ok (.iadd, 1) := dk_96 (dk_at dksX0_act_6 10 rfl rfl)
theorem dX0_act_143 : decode cX0_act 143 = .ok (.putfield 128, 3) := dk_181 0 128 (dk_at dksX0_act_6 11 rfl rfl)
theorem dX0_act_146 : decode cX0_act 146 = .ok (.iload_n 1, 1) := dk_27 (dk_at dksX0_act_6 14 rfl rfl)
theorem dX0_act_147 : decode cX0_act 147 = .ok (.iconst 1, 1) := dk_4 (dk_at dksX0_act_6 15 rfl rfl)
theorem dX0_act_148 : decode cX0_act 148 = .ok (.iadd, 1) := dk_96 (dk_at dksX0_act_6 16 rfl rfl)
theorem dX0_act_149 : decode cX0_act 149 = .ok (.ireturn, 1) := dk_172 (dk_at dksX0_act_6 17 rfl rfl)
theorem dX0_act_150 : decode cX0_act 150 = .ok (.aload_n 0, 1) := dk_42 (dk_at dksX0_act_6 18 rfl rfl)
theorem dX0_act_151 : decode cX0_act 151 = .ok (.aload_n 0, 1) := dk_42 (dk_at dksX0_act_6 19 rfl rfl)
theorem dX0_act_152 : decode cX0_act 152 = .ok (.aload_n 0, 1) := dk_42 (dk_at dksX0_act_6 20 rfl rfl)
theorem dX0_act_153 : decode cX0_act 153 = .ok (.getfield 31, 3) := dk_180 0 31 (dk_at dksX0_act_6 21 rfl rfl)
theorem dX0_act_156 : decode cX0_act 156 = .ok (.iload_n 1, 1) := dk_27 (dk_at dksX0_act_7 0 rfl rfl)
theorem dX0_act_157 : decode cX0_act 157 = .ok (.caload, 1) := dk_52 (dk_at dksX0_act_7 1 rfl rfl)
theorem dX0_act_158 : decode cX0_act 158 = .ok (.bipush 65, 2) := dk_16 65 (dk_at dksX0_act_7 2 rfl rfl)
theorem dX0_act_160 : decode cX0_act 160 = .ok (.isub, 1) := dk_100 (dk_at dksX0_act_7 4 rfl rfl)
theorem dX0_act_161 : decode cX0_act 161 = .ok (.aload_n 0, 1) := dk_42 (dk_at dksX0_act_7 5 rfl rfl)
theorem dX0_act_162 : decode cX0_act 162 = .ok (.getfield 31, 3) := dk_180 0 31 (dk_at dksX0_act_7 6 rfl rfl)
theorem dX0_act_165 : decode cX0_act 165 = .ok (.iload_n 1, 1) := dk_27 (dk_at dksX0_act_7 9 rfl rfl)
theorem dX0_act_166 : decode cX0_act 166 = .ok (.iconst 1, 1) := dk_4 (dk_at dksX0_act_7 10 rfl rfl)
theorem dX0_act_167 : decode cX0_act 167 = .ok (.iadd, 1) := dk_96 (dk_at dksX0_act_7 11 rfl rfl)
theorem dX0_act_168 : decode cX0_act 168 = .ok (.caload, 1) := dk_52 (dk_at dksX0_act_7 12 rfl rfl)
theorem dX0_act_169 : decode cX0_act 169 = .ok (.aload_n 0, 1) := dk_42 (dk_at dksX0_act_7 13 rfl rfl)
theorem dX0_act_170 : decode cX0_act 170 = .ok (.getfield 31, 3) := dk_180 0 31 (dk_at dksX0_act_7 14 rfl rfl)
theorem dX0_act_173 : decode cX0_act 173 = .ok (.iload_n 1, 1) := dk_27 (dk_at dksX0_act_7 17 rfl rfl)
theorem dX0_act_174 : decode cX0_act 174 = .ok (.iconst 2, 1) := dk_5 (dk_at dksX0_act_7 18 rfl rfl)
theorem dX0_act_175 : decode cX0_act 175 = .ok (.iadd, 1) := dk_96 (dk_at dksX0_act_7 19 rfl rfl)
theorem dX0_act_176 : decode cX0_act 176 = .ok (.caload, 1) := dk_52 (dk_at dksX0_act_7 20 rfl rfl)
theorem dX0_act_177 : decode cX0_act 177 = .ok (.invokevirtual 134, 3) := dk_182 0 134 (dk_at dksX0_act_7 21 rfl rfl)
theorem dX0_act_180 : decode cX0_act 180 = .ok (.putfield 119, 3) := dk_181 0 119 (dk_at dksX0_act_8 0 rfl rfl)
theorem dX0_act_183 : decode cX0_act 183 = .ok (.iload_n 1, 1) := dk_27 (dk_at dksX0_act_8 3 rfl rfl)
theorem dX0_act_184 : decode cX0_act 184 = .ok (.iconst 3, 1) := dk_6 (dk_at dksX0_act_8 4 rfl rfl)
theorem dX0_act_185 : decode cX0_act 185 = .ok (.iadd, 1) := dk_96 (dk_at dksX0_act_8 5 rfl rfl)
theorem dX0_act_186 : decode cX0_act 186 = .ok (.ireturn, 1) := dk_172 (dk_at dksX0_act_8 6 rfl rfl)
abbrev cX0_rateOf : ByteArray := prog_1_method_4_code
def yX0_rateOf : MethodName := ⟨RX0, "rateOf", "(IJ)I"⟩
def dkwX0_rateOf_1 : List UInt8 := [184, 0, 5, 136, 172]
abbrev dktX0_rateOf_1 : List UInt8 := dkwX0_rateOf_1 ++ []
def dkwX0_rateOf_0 : List UInt8 := [31, 9, 148, 154, 0, 8, 16, 100, 167, 0, 18, 20, 0, 3, 20, 0, 3, 26, 133, 105, 31, 109]
abbrev dktX0_rateOf_0 : List UInt8 := dkwX0_rateOf_0 ++ dktX0_rateOf_1
theorem dksX0_rateOf_0 : cX0_rateOf.data.toList.drop 0 = dktX0_rateOf_0 := by decide +kernel
theorem dksX0_rateOf_1 : cX0_rateOf.data.toList.drop 22 = dktX0_rateOf_1 := dk_seg dksX0_rateOf_0 22 rfl rfl
theorem dX0_rateOf_0 : decode cX0_rateOf 0 = .ok (.lload_n 1, 1) := dk_31 (dk_at dksX0_rateOf_0 0 rfl rfl)
theorem dX0_rateOf_1 : decode cX0_rateOf 1 = .ok (.lconst 0, 1) := dk_9 (dk_at dksX0_rateOf_0 1 rfl rfl)
theorem dX0_rateOf_2 : decode cX0_rateOf 2 = .ok (.lcmp, 1) := dk_148 (dk_at dksX0_rateOf_0 2 rfl rfl)
theorem dX0_rateOf_3 : decode cX0_rateOf 3 = .ok (.ifCond .ne 8, 3) := dk_154 0 8 (dk_at dksX0_rateOf_0 3 rfl rfl)
theorem dX0_rateOf_6 : decode cX0_rateOf 6 = .ok (.bipush 100, 2) := dk_16 100 (dk_at dksX0_rateOf_0 6 rfl rfl)
theorem dX0_rateOf_8 : decode cX0_rateOf 8 = .ok (.goto 18, 3) := dk_167 0 18 (dk_at dksX0_rateOf_0 8 rfl rfl)
theorem dX0_rateOf_11 : decode cX0_rateOf 11 = .ok (.ldc2_w 3, 3) := dk_20 0 3 (dk_at dksX0_rateOf_0 11 rfl rfl)
theorem dX0_rateOf_14 : decode cX0_rateOf 14 = .ok (.ldc2_w 3, 3) := dk_20 0 3 (dk_at dksX0_rateOf_0 14 rfl rfl)
theorem dX0_rateOf_17 : decode cX0_rateOf 17 = .ok (.iload_n 0, 1) := dk_26 (dk_at dksX0_rateOf_0 17 rfl rfl)
theorem dX0_rateOf_18 : decode cX0_rateOf 18 = .ok (.i2l, 1) := dk_133 (dk_at dksX0_rateOf_0 18 rfl rfl)
theorem dX0_rateOf_19 : decode cX0_rateOf 19 = .ok (.lmul, 1) := dk_105 (dk_at dksX0_rateOf_0 19 rfl rfl)
theorem dX0_rateOf_20 : decode cX0_rateOf 20 = .ok (.lload_n 1, 1) := dk_31 (dk_at dksX0_rateOf_0 20 rfl rfl)
theorem dX0_rateOf_21 : decode cX0_rateOf 21 = .ok (.ldiv, 1) := dk_109 (dk_at dksX0_rateOf_0 21 rfl rfl)
theorem dX0_rateOf_22 : decode cX0_rateOf 22 = .ok (.invokestatic 5, 3) := dk_184 0 5 (dk_at dksX0_rateOf_1 0 rfl rfl)
theorem dX0_rateOf_25 : decode cX0_rateOf 25 = .ok (.l2i, 1) := dk_136 (dk_at dksX0_rateOf_1 3 rfl rfl)
theorem dX0_rateOf_26 : decode cX0_rateOf 26 = .ok (.ireturn, 1) := dk_172 (dk_at dksX0_rateOf_1 4 rfl rfl)
abbrev cX0_verb : ByteArray := prog_1_method_18_code
def yX0_verb : MethodName := ⟨RX0, "verb", "(ICC)I"⟩
def dkwX0_verb_4 : List UInt8 := [16, 100, 29, 16, 48, 100, 104, 182, 0, 112, 172]
abbrev dktX0_verb_4 : List UInt8 := dkwX0_verb_4 ++ []
def dkwX0_verb_3 : List UInt8 := [104, 182, 0, 106, 172, 42, 180, 0, 24, 27, 29, 16, 65, 100, 182, 0, 109, 172, 42, 180, 0, 24, 27]
abbrev dktX0_verb_3 : List UInt8 := dkwX0_verb_3 ++ dktX0_verb_4
def dkwX0_verb_2 : List UInt8 := [42, 180, 0, 24, 27, 29, 16, 48, 100, 182, 0, 102, 172, 42, 180, 0, 24, 27, 16, 10, 29, 16, 48, 100]
abbrev dktX0_verb_2 : List UInt8 := dkwX0_verb_2 ++ dktX0_verb_3
def dkwX0_verb_1 : List UInt8 := [171, 0, 0, 0, 0, 0, 77, 0, 0, 0, 3, 0, 0, 0, 36, 0, 0, 0, 35, 0, 0, 0, 47, 0, 0, 0, 48, 0, 0, 0, 62, 0, 0, 0, 64]
abbrev dktX0_verb_1 : List UInt8 := dkwX0_verb_1 ++ dktX0_verb_2
def dkwX0_verb_0 : List UInt8 := [28]
abbrev dktX0_verb_0 : List UInt8 := dkwX0_verb_0 ++ dktX0_verb_1
theorem dksX0_verb_0 : cX0_verb.data.toList.drop 0 = dktX0_verb_0 := by decide +kernel
theorem dksX0_verb_1 : cX0_verb.data.toList.drop 1 = dktX0_verb_1 := dk_seg dksX0_verb_0 1 rfl rfl
theorem dksX0_verb_2 : cX0_verb.data.toList.drop 36 = dktX0_verb_2 := dk_seg dksX0_verb_1 35 rfl rfl
theorem dksX0_verb_3 : cX0_verb.data.toList.drop 60 = dktX0_verb_3 := dk_seg dksX0_verb_2 24 rfl rfl
theorem dksX0_verb_4 : cX0_verb.data.toList.drop 83 = dktX0_verb_4 := dk_seg dksX0_verb_3 23 rfl rfl
theorem dX0_verb_0 : decode cX0_verb 0 = .ok (.iload_n 2, 1) := dk_28 (dk_at dksX0_verb_0 0 rfl rfl)
theorem dX0_verb_1 : decode cX0_verb 1 = .ok (.lookupswitch 77 #[(36, 35), (47, 48), (62, 64)], 35) := by decide +kernel
theorem dX0_verb_36 : decode cX0_verb 36 = .ok (.aload_n 0, 1) := dk_42 (dk_at dksX0_verb_2 0 rfl rfl)
theorem dX0_verb_37 : decode cX0_verb 37 = .ok (.getfield 24, 3) := dk_180 0 24 (dk_at dksX0_verb_2 1 rfl rfl)
theorem dX0_verb_40 : decode cX0_verb 40 = .ok (.iload_n 1, 1) := dk_27 (dk_at dksX0_verb_2 4 rfl rfl)
theorem dX0_verb_41 : decode cX0_verb 41 = .ok (.iload_n 3, 1) := dk_29 (dk_at dksX0_verb_2 5 rfl rfl)
theorem dX0_verb_42 : decode cX0_verb 42 = .ok (.bipush 48, 2) := dk_16 48 (dk_at dksX0_verb_2 6 rfl rfl)
theorem dX0_verb_44 : decode cX0_verb 44 = .ok (.isub, 1) := dk_100 (dk_at dksX0_verb_2 8 rfl rfl)
theorem dX0_verb_45 : decode cX0_verb 45 = .ok (.invokevirtual 102, 3) := dk_182 0 102 (dk_at dksX0_verb_2 9 rfl rfl)
theorem dX0_verb_48 : decode cX0_verb 48 = .ok (.ireturn, 1) := dk_172 (dk_at dksX0_verb_2 12 rfl rfl)
theorem dX0_verb_49 : decode cX0_verb 49 = .ok (.aload_n 0, 1) := dk_42 (dk_at dksX0_verb_2 13 rfl rfl)
theorem dX0_verb_50 : decode cX0_verb 50 = .ok (.getfield 24, 3) := dk_180 0 24 (dk_at dksX0_verb_2 14 rfl rfl)
theorem dX0_verb_53 : decode cX0_verb 53 = .ok (.iload_n 1, 1) := dk_27 (dk_at dksX0_verb_2 17 rfl rfl)
theorem dX0_verb_54 : decode cX0_verb 54 = .ok (.bipush 10, 2) := dk_16 10 (dk_at dksX0_verb_2 18 rfl rfl)
theorem dX0_verb_56 : decode cX0_verb 56 = .ok (.iload_n 3, 1) := dk_29 (dk_at dksX0_verb_2 20 rfl rfl)
theorem dX0_verb_57 : decode cX0_verb 57 = .ok (.bipush 48, 2) := dk_16 48 (dk_at dksX0_verb_2 21 rfl rfl)
theorem dX0_verb_59 : decode cX0_verb 59 = .ok (.isub, 1) := dk_100 (dk_at dksX0_verb_2 23 rfl rfl)
theorem dX0_verb_60 : decode cX0_verb 60 = .ok (.imul, 1) := dk_104 (dk_at dksX0_verb_3 0 rfl rfl)
theorem dX0_verb_61 : decode cX0_verb 61 = .ok (.invokevirtual 106, 3) := dk_182 0 106 (dk_at dksX0_verb_3 1 rfl rfl)
theorem dX0_verb_64 : decode cX0_verb 64 = .ok (.ireturn, 1) := dk_172 (dk_at dksX0_verb_3 4 rfl rfl)
theorem dX0_verb_65 : decode cX0_verb 65 = .ok (.aload_n 0, 1) := dk_42 (dk_at dksX0_verb_3 5 rfl rfl)
theorem dX0_verb_66 : decode cX0_verb 66 = .ok (.getfield 24, 3) := dk_180 0 24 (dk_at dksX0_verb_3 6 rfl rfl)
theorem dX0_verb_69 : decode cX0_verb 69 = .ok (.iload_n 1, 1) := dk_27 (dk_at dksX0_verb_3 9 rfl rfl)
theorem dX0_verb_70 : decode cX0_verb 70 = .ok (.iload_n 3, 1) := dk_29 (dk_at dksX0_verb_3 10 rfl rfl)
theorem dX0_verb_71 : decode cX0_verb 71 = .ok (.bipush 65, 2) := dk_16 65 (dk_at dksX0_verb_3 11 rfl rfl)
theorem dX0_verb_73 : decode cX0_verb 73 = .ok (.isub, 1) := dk_100 (dk_at dksX0_verb_3 13 rfl rfl)
theorem dX0_verb_74 : decode cX0_verb 74 = .ok (.invokevirtual 109, 3) := dk_182 0 109 (dk_at dksX0_verb_3 14 rfl rfl)
theorem dX0_verb_77 : decode cX0_verb 77 = .ok (.ireturn, 1) := dk_172 (dk_at dksX0_verb_3 17 rfl rfl)
theorem dX0_verb_78 : decode cX0_verb 78 = .ok (.aload_n 0, 1) := dk_42 (dk_at dksX0_verb_3 18 rfl rfl)
theorem dX0_verb_79 : decode cX0_verb 79 = .ok (.getfield 24, 3) := dk_180 0 24 (dk_at dksX0_verb_3 19 rfl rfl)
theorem dX0_verb_82 : decode cX0_verb 82 = .ok (.iload_n 1, 1) := dk_27 (dk_at dksX0_verb_3 22 rfl rfl)
theorem dX0_verb_83 : decode cX0_verb 83 = .ok (.bipush 100, 2) := dk_16 100 (dk_at dksX0_verb_4 0 rfl rfl)
theorem dX0_verb_85 : decode cX0_verb 85 = .ok (.iload_n 3, 1) := dk_29 (dk_at dksX0_verb_4 2 rfl rfl)
theorem dX0_verb_86 : decode cX0_verb 86 = .ok (.bipush 48, 2) := dk_16 48 (dk_at dksX0_verb_4 3 rfl rfl)
theorem dX0_verb_88 : decode cX0_verb 88 = .ok (.isub, 1) := dk_100 (dk_at dksX0_verb_4 5 rfl rfl)
theorem dX0_verb_89 : decode cX0_verb 89 = .ok (.imul, 1) := dk_104 (dk_at dksX0_verb_4 6 rfl rfl)
theorem dX0_verb_90 : decode cX0_verb 90 = .ok (.invokevirtual 112, 3) := dk_182 0 112 (dk_at dksX0_verb_4 7 rfl rfl)
theorem dX0_verb_93 : decode cX0_verb 93 = .ok (.ireturn, 1) := dk_172 (dk_at dksX0_verb_4 10 rfl rfl)
abbrev cX0_behind : ByteArray := prog_1_method_23_code
def yX0_behind : MethodName := ⟨RX0, "behind", "(II)I"⟩
def dkwX0_behind_3 : List UInt8 := [160, 0, 14, 42, 180, 0, 24, 27, 182, 0, 154, 167, 0, 11, 42, 180, 0, 24, 27, 182, 0, 157, 172]
abbrev dktX0_behind_3 : List UInt8 := dkwX0_behind_3 ++ []
def dkwX0_behind_2 : List UInt8 := [167, 0, 44, 28, 4, 160, 0, 15, 42, 180, 0, 24, 180, 0, 66, 27, 46, 167, 0, 27, 28, 5]
abbrev dktX0_behind_2 : List UInt8 := dkwX0_behind_2 ++ dktX0_behind_3
def dkwX0_behind_1 : List UInt8 := [182, 0, 151, 62, 29, 156, 0, 5, 29, 172, 28, 154, 0, 15, 42, 180, 0, 24, 180, 0, 63, 27, 46]
abbrev dktX0_behind_1 : List UInt8 := dkwX0_behind_1 ++ dktX0_behind_2
def dkwX0_behind_0 : List UInt8 := [27, 184, 0, 59, 154, 0, 5, 2, 172, 28, 3, 6, 184, 0, 55, 154, 0, 6, 16, 254, 172, 42]
abbrev dktX0_behind_0 : List UInt8 := dkwX0_behind_0 ++ dktX0_behind_1
theorem dksX0_behind_0 : cX0_behind.data.toList.drop 0 = dktX0_behind_0 := by decide +kernel
theorem dksX0_behind_1 : cX0_behind.data.toList.drop 22 = dktX0_behind_1 := dk_seg dksX0_behind_0 22 rfl rfl
theorem dksX0_behind_2 : cX0_behind.data.toList.drop 45 = dktX0_behind_2 := dk_seg dksX0_behind_1 23 rfl rfl
theorem dksX0_behind_3 : cX0_behind.data.toList.drop 67 = dktX0_behind_3 := dk_seg dksX0_behind_2 22 rfl rfl
theorem dX0_behind_0 : decode cX0_behind 0 = .ok (.iload_n 1, 1) := dk_27 (dk_at dksX0_behind_0 0 rfl rfl)
theorem dX0_behind_1 : decode cX0_behind 1 = .ok (.invokestatic 59, 3) := dk_184 0 59 (dk_at dksX0_behind_0 1 rfl rfl)
theorem dX0_behind_4 : decode cX0_behind 4 = .ok (.ifCond .ne 5, 3) := dk_154 0 5 (dk_at dksX0_behind_0 4 rfl rfl)
theorem dX0_behind_7 : decode cX0_behind 7 = .ok (.iconst (-1), 1) := dk_2 (dk_at dksX0_behind_0 7 rfl rfl)
theorem dX0_behind_8 : decode cX0_behind 8 = .ok (.ireturn, 1) := dk_172 (dk_at dksX0_behind_0 8 rfl rfl)
theorem dX0_behind_9 : decode cX0_behind 9 = .ok (.iload_n 2, 1) := dk_28 (dk_at dksX0_behind_0 9 rfl rfl)
theorem dX0_behind_10 : decode cX0_behind 10 = .ok (.iconst 0, 1) := dk_3 (dk_at dksX0_behind_0 10 rfl rfl)
theorem dX0_behind_11 : decode cX0_behind 11 = .ok (.iconst 3, 1) := dk_6 (dk_at dksX0_behind_0 11 rfl rfl)
theorem dX0_behind_12 : decode cX0_behind 12 = .ok (.invokestatic 55, 3) := dk_184 0 55 (dk_at dksX0_behind_0 12 rfl rfl)
theorem dX0_behind_15 : decode cX0_behind 15 = .ok (.ifCond .ne 6, 3) := dk_154 0 6 (dk_at dksX0_behind_0 15 rfl rfl)
theorem dX0_behind_18 : decode cX0_behind 18 = .ok (.bipush (-2), 2) := dk_16 254 (dk_at dksX0_behind_0 18 rfl rfl)
theorem dX0_behind_20 : decode cX0_behind 20 = .ok (.ireturn, 1) := dk_172 (dk_at dksX0_behind_0 20 rfl rfl)
theorem dX0_behind_21 : decode cX0_behind 21 = .ok (.aload_n 0, 1) := dk_42 (dk_at dksX0_behind_0 21 rfl rfl)
theorem dX0_behind_22 : decode cX0_behind 22 = .ok (.invokevirtual 151, 3) := dk_182 0 151 (dk_at dksX0_behind_1 0 rfl rfl)
theorem dX0_behind_25 : decode cX0_behind 25 = .ok (.istore_n 3, 1) := dk_62 (dk_at dksX0_behind_1 3 rfl rfl)
theorem dX0_behind_26 : decode cX0_behind 26 = .ok (.iload_n 3, 1) := dk_29 (dk_at dksX0_behind_1 4 rfl rfl)
theorem dX0_behind_27 : decode cX0_behind 27 = .ok (.ifCond .ge 5, 3) := dk_156 0 5 (dk_at dksX0_behind_1 5 rfl rfl)
theorem dX0_behind_30 : decode cX0_behind 30 = .ok (.iload_n 3, 1) := dk_29 (dk_at dksX0_behind_1 8 rfl rfl)
theorem dX0_behind_31 : decode cX0_behind 31 = .ok (.ireturn, 1) := dk_172 (dk_at dksX0_behind_1 9 rfl rfl)
theorem dX0_behind_32 : decode cX0_behind 32 = .ok (.iload_n 2, 1) := dk_28 (dk_at dksX0_behind_1 10 rfl rfl)
theorem dX0_behind_33 : decode cX0_behind 33 = .ok (.ifCond .ne 15, 3) := dk_154 0 15 (dk_at dksX0_behind_1 11 rfl rfl)
theorem dX0_behind_36 : decode cX0_behind 36 = .ok (.aload_n 0, 1) := dk_42 (dk_at dksX0_behind_1 14 rfl rfl)
theorem dX0_behind_37 : decode cX0_behind 37 = .ok (.getfield 24, 3) := dk_180 0 24 (dk_at dksX0_behind_1 15 rfl rfl)
theorem dX0_behind_40 : decode cX0_behind 40 = .ok (.getfield 63, 3) := dk_180 0 63 (dk_at dksX0_behind_1 18 rfl rfl)
theorem dX0_behind_43 : decode cX0_behind 43 = .ok (.iload_n 1, 1) := dk_27 (dk_at dksX0_behind_1 21 rfl rfl)
theorem dX0_behind_44 : decode cX0_behind 44 = .ok (.iaload, 1) := dk_46 (dk_at dksX0_behind_1 22 rfl rfl)
theorem dX0_behind_45 : decode cX0_behind 45 = .ok (.goto 44, 3) := dk_167 0 44 (dk_at dksX0_behind_2 0 rfl rfl)
theorem dX0_behind_48 : decode cX0_behind 48 = .ok (.iload_n 2, 1) := dk_28 (dk_at dksX0_behind_2 3 rfl rfl)
theorem dX0_behind_49 : decode cX0_behind 49 = .ok (.iconst 1, 1) := dk_4 (dk_at dksX0_behind_2 4 rfl rfl)
theorem dX0_behind_50 : decode cX0_behind 50 = .ok (.if_icmp .ne 15, 3) := dk_160 0 15 (dk_at dksX0_behind_2 5 rfl rfl)
theorem dX0_behind_53 : decode cX0_behind 53 = .ok (.aload_n 0, 1) := dk_42 (dk_at dksX0_behind_2 8 rfl rfl)
theorem dX0_behind_54 : decode cX0_behind 54 = .ok (.getfield 24, 3) := dk_180 0 24 (dk_at dksX0_behind_2 9 rfl rfl)
theorem dX0_behind_57 : decode cX0_behind 57 = .ok (.getfield 66, 3) := dk_180 0 66 (dk_at dksX0_behind_2 12 rfl rfl)
theorem dX0_behind_60 : decode cX0_behind 60 = .ok (.iload_n 1, 1) := dk_27 (dk_at dksX0_behind_2 15 rfl rfl)
theorem dX0_behind_61 : decode cX0_behind 61 = .ok (.iaload, 1) := dk_46 (dk_at dksX0_behind_2 16 rfl rfl)
theorem dX0_behind_62 : decode cX0_behind 62 = .ok (.goto 27, 3) := dk_167 0 27 (dk_at dksX0_behind_2 17 rfl rfl)
theorem dX0_behind_65 : decode cX0_behind 65 = .ok (.iload_n 2, 1) := dk_28 (dk_at dksX0_behind_2 20 rfl rfl)
theorem dX0_behind_66 : decode cX0_behind 66 = .ok (.iconst 2, 1) := dk_5 (dk_at dksX0_behind_2 21 rfl rfl)
theorem dX0_behind_67 : decode cX0_behind 67 = .ok (.if_icmp .ne 14, 3) := dk_160 0 14 (dk_at dksX0_behind_3 0 rfl rfl)
theorem dX0_behind_70 : decode cX0_behind 70 = .ok (.aload_n 0, 1) := dk_42 (dk_at dksX0_behind_3 3 rfl rfl)
theorem dX0_behind_71 : decode cX0_behind 71 = .ok (.getfield 24, 3) := dk_180 0 24 (dk_at dksX0_behind_3 4 rfl rfl)
theorem dX0_behind_74 : decode cX0_behind 74 = .ok (.iload_n 1, 1) := dk_27 (dk_at dksX0_behind_3 7 rfl rfl)
theorem dX0_behind_75 : decode cX0_behind 75 = .ok (.invokevirtual 154, 3) := dk_182 0 154 (dk_at dksX0_behind_3 8 rfl rfl)
theorem dX0_behind_78 : decode cX0_behind 78 = .ok (.goto 11, 3) := dk_167 0 11 (dk_at dksX0_behind_3 11 rfl rfl)
theorem dX0_behind_81 : decode cX0_behind 81 = .ok (.aload_n 0, 1) := dk_42 (dk_at dksX0_behind_3 14 rfl rfl)
theorem dX0_behind_82 : decode cX0_behind 82 = .ok (.getfield 24, 3) := dk_180 0 24 (dk_at dksX0_behind_3 15 rfl rfl)
theorem dX0_behind_85 : decode cX0_behind 85 = .ok (.iload_n 1, 1) := dk_27 (dk_at dksX0_behind_3 18 rfl rfl)
theorem dX0_behind_86 : decode cX0_behind 86 = .ok (.invokevirtual 157, 3) := dk_182 0 157 (dk_at dksX0_behind_3 19 rfl rfl)
theorem dX0_behind_89 : decode cX0_behind 89 = .ok (.ireturn, 1) := dk_172 (dk_at dksX0_behind_3 22 rfl rfl)
abbrev cX0_barOfMonths : ByteArray := prog_1_method_22_code
def yX0_barOfMonths : MethodName := ⟨RX0, "barOfMonths", "()I"⟩
def dkwX0_barOfMonths_1 : List UInt8 := [3, 172]
abbrev dktX0_barOfMonths_1 : List UInt8 := dkwX0_barOfMonths_1 ++ []
def dkwX0_barOfMonths_0 : List UInt8 := [42, 182, 0, 98, 155, 0, 8, 16, 251, 167, 0, 16, 42, 182, 0, 148, 155, 0, 8, 16, 253, 167, 0, 4]
abbrev dktX0_barOfMonths_0 : List UInt8 := dkwX0_barOfMonths_0 ++ dktX0_barOfMonths_1
theorem dksX0_barOfMonths_0 : cX0_barOfMonths.data.toList.drop 0 = dktX0_barOfMonths_0 := by decide +kernel
theorem dksX0_barOfMonths_1 : cX0_barOfMonths.data.toList.drop 24 = dktX0_barOfMonths_1 := dk_seg dksX0_barOfMonths_0 24 rfl rfl
theorem dX0_barOfMonths_0 : decode cX0_barOfMonths 0 = .ok (.aload_n 0, 1) := dk_42 (dk_at dksX0_barOfMonths_0 0 rfl rfl)
theorem dX0_barOfMonths_1 : decode cX0_barOfMonths 1 = .ok (.invokevirtual 98, 3) := dk_182 0 98 (dk_at dksX0_barOfMonths_0 1 rfl rfl)
theorem dX0_barOfMonths_4 : decode cX0_barOfMonths 4 = .ok (.ifCond .lt 8, 3) := dk_155 0 8 (dk_at dksX0_barOfMonths_0 4 rfl rfl)
theorem dX0_barOfMonths_7 : decode cX0_barOfMonths 7 = .ok (.bipush (-5), 2) := dk_16 251 (dk_at dksX0_barOfMonths_0 7 rfl rfl)
theorem dX0_barOfMonths_9 : decode cX0_barOfMonths 9 = .ok (.goto 16, 3) := dk_167 0 16 (dk_at dksX0_barOfMonths_0 9 rfl rfl)
theorem dX0_barOfMonths_12 : decode cX0_barOfMonths 12 = .ok (.aload_n 0, 1) := dk_42 (dk_at dksX0_barOfMonths_0 12 rfl rfl)
theorem dX0_barOfMonths_13 : decode cX0_barOfMonths 13 = .ok (.invokevirtual 148, 3) := dk_182 0 148 (dk_at dksX0_barOfMonths_0 13 rfl rfl)
theorem dX0_barOfMonths_16 : decode cX0_barOfMonths 16 = .ok (.ifCond .lt 8, 3) := dk_155 0 8 (dk_at dksX0_barOfMonths_0 16 rfl rfl)
theorem dX0_barOfMonths_19 : decode cX0_barOfMonths 19 = .ok (.bipush (-3), 2) := dk_16 253 (dk_at dksX0_barOfMonths_0 19 rfl rfl)
theorem dX0_barOfMonths_21 : decode cX0_barOfMonths 21 = .ok (.goto 4, 3) := dk_167 0 4 (dk_at dksX0_barOfMonths_0 21 rfl rfl)
theorem dX0_barOfMonths_24 : decode cX0_barOfMonths 24 = .ok (.iconst 0, 1) := dk_3 (dk_at dksX0_barOfMonths_1 0 rfl rfl)
theorem dX0_barOfMonths_25 : decode cX0_barOfMonths 25 = .ok (.ireturn, 1) := dk_172 (dk_at dksX0_barOfMonths_1 1 rfl rfl)
abbrev cX0_asNumber : ByteArray := prog_1_method_2_code
def yX0_asNumber : MethodName := ⟨RX0, "asNumber", "(Z)I"⟩
def dkwX0_asNumber_0 : List UInt8 := [26, 153, 0, 7, 4, 167, 0, 4, 3, 172]
abbrev dktX0_asNumber_0 : List UInt8 := dkwX0_asNumber_0 ++ []
theorem dksX0_asNumber_0 : cX0_asNumber.data.toList.drop 0 = dktX0_asNumber_0 := by decide +kernel
theorem dX0_asNumber_0 : decode cX0_asNumber 0 = .ok (.iload_n 0, 1) := dk_26 (dk_at dksX0_asNumber_0 0 rfl rfl)
theorem dX0_asNumber_1 : decode cX0_asNumber 1 = .ok (.ifCond .eq 7, 3) := dk_153 0 7 (dk_at dksX0_asNumber_0 1 rfl rfl)
theorem dX0_asNumber_4 : decode cX0_asNumber 4 = .ok (.iconst 1, 1) := dk_4 (dk_at dksX0_asNumber_0 4 rfl rfl)
theorem dX0_asNumber_5 : decode cX0_asNumber 5 = .ok (.goto 4, 3) := dk_167 0 4 (dk_at dksX0_asNumber_0 5 rfl rfl)
theorem dX0_asNumber_8 : decode cX0_asNumber 8 = .ok (.iconst 0, 1) := dk_3 (dk_at dksX0_asNumber_0 8 rfl rfl)
theorem dX0_asNumber_9 : decode cX0_asNumber 9 = .ok (.ireturn, 1) := dk_172 (dk_at dksX0_asNumber_0 9 rfl rfl)
abbrev cX0_total : ByteArray := prog_1_method_24_code
def yX0_total : MethodName := ⟨RX0, "total", "(I)I"⟩
def dkwX0_total_4 : List UInt8 := [180, 0, 168, 172]
abbrev dktX0_total_4 : List UInt8 := dkwX0_total_4 ++ []
def dkwX0_total_3 : List UInt8 := [42, 180, 0, 24, 180, 0, 165, 172, 42, 180, 0, 24, 180, 0, 87, 4, 46, 172, 42, 180, 0, 24]
abbrev dktX0_total_3 : List UInt8 := dkwX0_total_3 ++ dktX0_total_4
def dkwX0_total_2 : List UInt8 := [42, 180, 0, 24, 182, 0, 160, 172, 42, 180, 0, 24, 182, 0, 163, 172, 42, 180, 0, 24, 182, 0, 131, 172]
abbrev dktX0_total_2 : List UInt8 := dkwX0_total_2 ++ dktX0_total_3
def dkwX0_total_1 : List UInt8 := [170, 0, 0, 0, 0, 0, 0, 78, 0, 0, 0, 0, 0, 0, 0, 4, 0, 0, 0, 36, 0, 0, 0, 44, 0, 0, 0, 52, 0, 0, 0, 60, 0, 0, 0, 68]
abbrev dktX0_total_1 : List UInt8 := dkwX0_total_1 ++ dktX0_total_2
def dkwX0_total_0 : List UInt8 := [27, 3, 8, 184, 0, 55, 154, 0, 6, 16, 254, 172, 42, 182, 0, 151, 61, 28, 156, 0, 5, 28, 172, 27]
abbrev dktX0_total_0 : List UInt8 := dkwX0_total_0 ++ dktX0_total_1
theorem dksX0_total_0 : cX0_total.data.toList.drop 0 = dktX0_total_0 := by decide +kernel
theorem dksX0_total_1 : cX0_total.data.toList.drop 24 = dktX0_total_1 := dk_seg dksX0_total_0 24 rfl rfl
theorem dksX0_total_2 : cX0_total.data.toList.drop 60 = dktX0_total_2 := dk_seg dksX0_total_1 36 rfl rfl
theorem dksX0_total_3 : cX0_total.data.toList.drop 84 = dktX0_total_3 := dk_seg dksX0_total_2 24 rfl rfl
theorem dksX0_total_4 : cX0_total.data.toList.drop 106 = dktX0_total_4 := dk_seg dksX0_total_3 22 rfl rfl
theorem dX0_total_0 : decode cX0_total 0 = .ok (.iload_n 1, 1) := dk_27 (dk_at dksX0_total_0 0 rfl rfl)
theorem dX0_total_1 : decode cX0_total 1 = .ok (.iconst 0, 1) := dk_3 (dk_at dksX0_total_0 1 rfl rfl)
theorem dX0_total_2 : decode cX0_total 2 = .ok (.iconst 5, 1) := dk_8 (dk_at dksX0_total_0 2 rfl rfl)
theorem dX0_total_3 : decode cX0_total 3 = .ok (.invokestatic 55, 3) := dk_184 0 55 (dk_at dksX0_total_0 3 rfl rfl)
theorem dX0_total_6 : decode cX0_total 6 = .ok (.ifCond .ne 6, 3) := dk_154 0 6 (dk_at dksX0_total_0 6 rfl rfl)
theorem dX0_total_9 : decode cX0_total 9 = .ok (.bipush (-2), 2) := dk_16 254 (dk_at dksX0_total_0 9 rfl rfl)
theorem dX0_total_11 : decode cX0_total 11 = .ok (.ireturn, 1) := dk_172 (dk_at dksX0_total_0 11 rfl rfl)
theorem dX0_total_12 : decode cX0_total 12 = .ok (.aload_n 0, 1) := dk_42 (dk_at dksX0_total_0 12 rfl rfl)
theorem dX0_total_13 : decode cX0_total 13 = .ok (.invokevirtual 151, 3) := dk_182 0 151 (dk_at dksX0_total_0 13 rfl rfl)
theorem dX0_total_16 : decode cX0_total 16 = .ok (.istore_n 2, 1) := dk_61 (dk_at dksX0_total_0 16 rfl rfl)
theorem dX0_total_17 : decode cX0_total 17 = .ok (.iload_n 2, 1) := dk_28 (dk_at dksX0_total_0 17 rfl rfl)
theorem dX0_total_18 : decode cX0_total 18 = .ok (.ifCond .ge 5, 3) := dk_156 0 5 (dk_at dksX0_total_0 18 rfl rfl)
theorem dX0_total_21 : decode cX0_total 21 = .ok (.iload_n 2, 1) := dk_28 (dk_at dksX0_total_0 21 rfl rfl)
theorem dX0_total_22 : decode cX0_total 22 = .ok (.ireturn, 1) := dk_172 (dk_at dksX0_total_0 22 rfl rfl)
theorem dX0_total_23 : decode cX0_total 23 = .ok (.iload_n 1, 1) := dk_27 (dk_at dksX0_total_0 23 rfl rfl)
theorem dX0_total_24 : decode cX0_total 24 = .ok (.tableswitch 78 0 4 #[36, 44, 52, 60, 68], 36) := by decide +kernel
theorem dX0_total_60 : decode cX0_total 60 = .ok (.aload_n 0, 1) := dk_42 (dk_at dksX0_total_2 0 rfl rfl)
theorem dX0_total_61 : decode cX0_total 61 = .ok (.getfield 24, 3) := dk_180 0 24 (dk_at dksX0_total_2 1 rfl rfl)
theorem dX0_total_64 : decode cX0_total 64 = .ok (.invokevirtual 160, 3) := dk_182 0 160 (dk_at dksX0_total_2 4 rfl rfl)
theorem dX0_total_67 : decode cX0_total 67 = .ok (.ireturn, 1) := dk_172 (dk_at dksX0_total_2 7 rfl rfl)
theorem dX0_total_68 : decode cX0_total 68 = .ok (.aload_n 0, 1) := dk_42 (dk_at dksX0_total_2 8 rfl rfl)
theorem dX0_total_69 : decode cX0_total 69 = .ok (.getfield 24, 3) := dk_180 0 24 (dk_at dksX0_total_2 9 rfl rfl)
theorem dX0_total_72 : decode cX0_total 72 = .ok (.invokevirtual 163, 3) := dk_182 0 163 (dk_at dksX0_total_2 12 rfl rfl)
theorem dX0_total_75 : decode cX0_total 75 = .ok (.ireturn, 1) := dk_172 (dk_at dksX0_total_2 15 rfl rfl)
theorem dX0_total_76 : decode cX0_total 76 = .ok (.aload_n 0, 1) := dk_42 (dk_at dksX0_total_2 16 rfl rfl)
theorem dX0_total_77 : decode cX0_total 77 = .ok (.getfield 24, 3) := dk_180 0 24 (dk_at dksX0_total_2 17 rfl rfl)
theorem dX0_total_80 : decode cX0_total 80 = .ok (.invokevirtual 131, 3) := dk_182 0 131 (dk_at dksX0_total_2 20 rfl rfl)
theorem dX0_total_83 : decode cX0_total 83 = .ok (.ireturn, 1) := dk_172 (dk_at dksX0_total_2 23 rfl rfl)
theorem dX0_total_84 : decode cX0_total 84 = .ok (.aload_n 0, 1) := dk_42 (dk_at dksX0_total_3 0 rfl rfl)
theorem dX0_total_85 : decode cX0_total 85 = .ok (.getfield 24, 3) := dk_180 0 24 (dk_at dksX0_total_3 1 rfl rfl)
theorem dX0_total_88 : decode cX0_total 88 = .ok (.getfield 165, 3) := dk_180 0 165 (dk_at dksX0_total_3 4 rfl rfl)
theorem dX0_total_91 : decode cX0_total 91 = .ok (.ireturn, 1) := dk_172 (dk_at dksX0_total_3 7 rfl rfl)
theorem dX0_total_92 : decode cX0_total 92 = .ok (.aload_n 0, 1) := dk_42 (dk_at dksX0_total_3 8 rfl rfl)
theorem dX0_total_93 : decode cX0_total 93 = .ok (.getfield 24, 3) := dk_180 0 24 (dk_at dksX0_total_3 9 rfl rfl)
theorem dX0_total_96 : decode cX0_total 96 = .ok (.getfield 87, 3) := dk_180 0 87 (dk_at dksX0_total_3 12 rfl rfl)
theorem dX0_total_99 : decode cX0_total 99 = .ok (.iconst 1, 1) := dk_4 (dk_at dksX0_total_3 15 rfl rfl)
theorem dX0_total_100 : decode cX0_total 100 = .ok (.iaload, 1) := dk_46 (dk_at dksX0_total_3 16 rfl rfl)
theorem dX0_total_101 : decode cX0_total 101 = .ok (.ireturn, 1) := dk_172 (dk_at dksX0_total_3 17 rfl rfl)
theorem dX0_total_102 : decode cX0_total 102 = .ok (.aload_n 0, 1) := dk_42 (dk_at dksX0_total_3 18 rfl rfl)
theorem dX0_total_103 : decode cX0_total 103 = .ok (.getfield 24, 3) := dk_180 0 24 (dk_at dksX0_total_3 19 rfl rfl)
theorem dX0_total_106 : decode cX0_total 106 = .ok (.getfield 168, 3) := dk_180 0 168 (dk_at dksX0_total_4 0 rfl rfl)
theorem dX0_total_109 : decode cX0_total 109 = .ok (.ireturn, 1) := dk_172 (dk_at dksX0_total_4 3 rfl rfl)
abbrev cX0_fell : ByteArray := prog_1_method_25_code
def yX0_fell : MethodName := ⟨RX0, "fell", "(I)I"⟩
def dkwX0_fell_2 : List UInt8 := [132, 3, 1, 167, 255, 233, 16, 250, 172]
abbrev dktX0_fell_2 : List UInt8 := dkwX0_fell_2 ++ []
def dkwX0_fell_1 : List UInt8 := [3, 62, 29, 42, 180, 0, 128, 162, 0, 21, 42, 180, 0, 35, 29, 46, 27, 162, 0, 5, 29, 172]
abbrev dktX0_fell_1 : List UInt8 := dkwX0_fell_1 ++ dktX0_fell_2
def dkwX0_fell_0 : List UInt8 := [27, 3, 16, 100, 184, 0, 55, 154, 0, 6, 16, 254, 172, 42, 182, 0, 151, 61, 28, 156, 0, 5, 28, 172]
abbrev dktX0_fell_0 : List UInt8 := dkwX0_fell_0 ++ dktX0_fell_1
theorem dksX0_fell_0 : cX0_fell.data.toList.drop 0 = dktX0_fell_0 := by decide +kernel
theorem dksX0_fell_1 : cX0_fell.data.toList.drop 24 = dktX0_fell_1 := dk_seg dksX0_fell_0 24 rfl rfl
theorem dksX0_fell_2 : cX0_fell.data.toList.drop 46 = dktX0_fell_2 := dk_seg dksX0_fell_1 22 rfl rfl
theorem dX0_fell_0 : decode cX0_fell 0 = .ok (.iload_n 1, 1) := dk_27 (dk_at dksX0_fell_0 0 rfl rfl)
theorem dX0_fell_1 : decode cX0_fell 1 = .ok (.iconst 0, 1) := dk_3 (dk_at dksX0_fell_0 1 rfl rfl)
theorem dX0_fell_2 : decode cX0_fell 2 = .ok (.bipush 100, 2) := dk_16 100 (dk_at dksX0_fell_0 2 rfl rfl)
theorem dX0_fell_4 : decode cX0_fell 4 = .ok (.invokestatic 55, 3) := dk_184 0 55 (dk_at dksX0_fell_0 4 rfl rfl)
theorem dX0_fell_7 : decode cX0_fell 7 = .ok (.ifCond .ne 6, 3) := dk_154 0 6 (dk_at dksX0_fell_0 7 rfl rfl)
theorem dX0_fell_10 : decode cX0_fell 10 = .ok (.bipush (-2), 2) := dk_16 254 (dk_at dksX0_fell_0 10 rfl rfl)
theorem dX0_fell_12 : decode cX0_fell 12 = .ok (.ireturn, 1) := dk_172 (dk_at dksX0_fell_0 12 rfl rfl)
theorem dX0_fell_13 : decode cX0_fell 13 = .ok (.aload_n 0, 1) := dk_42 (dk_at dksX0_fell_0 13 rfl rfl)
theorem dX0_fell_14 : decode cX0_fell 14 = .ok (.invokevirtual 151, 3) := dk_182 0 151 (dk_at dksX0_fell_0 14 rfl rfl)
theorem dX0_fell_17 : decode cX0_fell 17 = .ok (.istore_n 2, 1) := dk_61 (dk_at dksX0_fell_0 17 rfl rfl)
theorem dX0_fell_18 : decode cX0_fell 18 = .ok (.iload_n 2, 1) := dk_28 (dk_at dksX0_fell_0 18 rfl rfl)
theorem dX0_fell_19 : decode cX0_fell 19 = .ok (.ifCond .ge 5, 3) := dk_156 0 5 (dk_at dksX0_fell_0 19 rfl rfl)
theorem dX0_fell_22 : decode cX0_fell 22 = .ok (.iload_n 2, 1) := dk_28 (dk_at dksX0_fell_0 22 rfl rfl)
theorem dX0_fell_23 : decode cX0_fell 23 = .ok (.ireturn, 1) := dk_172 (dk_at dksX0_fell_0 23 rfl rfl)
theorem dX0_fell_24 : decode cX0_fell 24 = .ok (.iconst 0, 1) := dk_3 (dk_at dksX0_fell_1 0 rfl rfl)
theorem dX0_fell_25 : decode cX0_fell 25 = .ok (.istore_n 3, 1) := dk_62 (dk_at dksX0_fell_1 1 rfl rfl)
theorem dX0_fell_26 : decode cX0_fell 26 = .ok (.iload_n 3, 1) := dk_29 (dk_at dksX0_fell_1 2 rfl rfl)
theorem dX0_fell_27 : decode cX0_fell 27 = .ok (.aload_n 0, 1) := dk_42 (dk_at dksX0_fell_1 3 rfl rfl)
theorem dX0_fell_28 : decode cX0_fell 28 = .ok (.getfield 128, 3) := dk_180 0 128 (dk_at dksX0_fell_1 4 rfl rfl)
theorem dX0_fell_31 : decode cX0_fell 31 = .ok (.if_icmp .ge 21, 3) := dk_162 0 21 (dk_at dksX0_fell_1 7 rfl rfl)
theorem dX0_fell_34 : decode cX0_fell 34 = .ok (.aload_n 0, 1) := dk_42 (dk_at dksX0_fell_1 10 rfl rfl)
theorem dX0_fell_35 : decode cX0_fell 35 = .ok (.getfield 35, 3) := dk_180 0 35 (dk_at dksX0_fell_1 11 rfl rfl)
theorem dX0_fell_38 : decode cX0_fell 38 = .ok (.iload_n 3, 1) := dk_29 (dk_at dksX0_fell_1 14 rfl rfl)
theorem dX0_fell_39 : decode cX0_fell 39 = .ok (.iaload, 1) := dk_46 (dk_at dksX0_fell_1 15 rfl rfl)
theorem dX0_fell_40 : decode cX0_fell 40 = .ok (.iload_n 1, 1) := dk_27 (dk_at dksX0_fell_1 16 rfl rfl)
theorem dX0_fell_41 : decode cX0_fell 41 = .ok (.if_icmp .ge 5, 3) := dk_162 0 5 (dk_at dksX0_fell_1 17 rfl rfl)
theorem dX0_fell_44 : decode cX0_fell 44 = .ok (.iload_n 3, 1) := dk_29 (dk_at dksX0_fell_1 20 rfl rfl)
theorem dX0_fell_45 : decode cX0_fell 45 = .ok (.ireturn, 1) := dk_172 (dk_at dksX0_fell_1 21 rfl rfl)
theorem dX0_fell_46 : decode cX0_fell 46 = .ok (.iinc 3 1, 3) := dk_132 3 1 (dk_at dksX0_fell_2 0 rfl rfl)
theorem dX0_fell_49 : decode cX0_fell 49 = .ok (.goto (-23), 3) := dk_167 255 233 (dk_at dksX0_fell_2 3 rfl rfl)
theorem dX0_fell_52 : decode cX0_fell 52 = .ok (.bipush (-6), 2) := dk_16 250 (dk_at dksX0_fell_2 6 rfl rfl)
theorem dX0_fell_54 : decode cX0_fell 54 = .ok (.ireturn, 1) := dk_172 (dk_at dksX0_fell_2 8 rfl rfl)
abbrev cX0_done : ByteArray := prog_1_method_26_code
def yX0_done : MethodName := ⟨RX0, "done", "()I"⟩
def dkwX0_done_1 : List UInt8 := [181, 0, 90, 42, 180, 0, 142, 172]
abbrev dktX0_done_1 : List UInt8 := dkwX0_done_1 ++ []
def dkwX0_done_0 : List UInt8 := [42, 182, 0, 151, 60, 27, 156, 0, 5, 27, 172, 42, 180, 0, 20, 42, 180, 0, 24, 182, 0, 138, 42, 3]
abbrev dktX0_done_0 : List UInt8 := dkwX0_done_0 ++ dktX0_done_1
theorem dksX0_done_0 : cX0_done.data.toList.drop 0 = dktX0_done_0 := by decide +kernel
theorem dksX0_done_1 : cX0_done.data.toList.drop 24 = dktX0_done_1 := dk_seg dksX0_done_0 24 rfl rfl
theorem dX0_done_0 : decode cX0_done 0 = .ok (.aload_n 0, 1) := dk_42 (dk_at dksX0_done_0 0 rfl rfl)
theorem dX0_done_1 : decode cX0_done 1 = .ok (.invokevirtual 151, 3) := dk_182 0 151 (dk_at dksX0_done_0 1 rfl rfl)
theorem dX0_done_4 : decode cX0_done 4 = .ok (.istore_n 1, 1) := dk_60 (dk_at dksX0_done_0 4 rfl rfl)
theorem dX0_done_5 : decode cX0_done 5 = .ok (.iload_n 1, 1) := dk_27 (dk_at dksX0_done_0 5 rfl rfl)
theorem dX0_done_6 : decode cX0_done 6 = .ok (.ifCond .ge 5, 3) := dk_156 0 5 (dk_at dksX0_done_0 6 rfl rfl)
theorem dX0_done_9 : decode cX0_done 9 = .ok (.iload_n 1, 1) := dk_27 (dk_at dksX0_done_0 9 rfl rfl)
theorem dX0_done_10 : decode cX0_done 10 = .ok (.ireturn, 1) := dk_172 (dk_at dksX0_done_0 10 rfl rfl)
theorem dX0_done_11 : decode cX0_done 11 = .ok (.aload_n 0, 1) := dk_42 (dk_at dksX0_done_0 11 rfl rfl)
theorem dX0_done_12 : decode cX0_done 12 = .ok (.getfield 20, 3) := dk_180 0 20 (dk_at dksX0_done_0 12 rfl rfl)
theorem dX0_done_15 : decode cX0_done 15 = .ok (.aload_n 0, 1) := dk_42 (dk_at dksX0_done_0 15 rfl rfl)
theorem dX0_done_16 : decode cX0_done 16 = .ok (.getfield 24, 3) := dk_180 0 24 (dk_at dksX0_done_0 16 rfl rfl)
theorem dX0_done_19 : decode cX0_done 19 = .ok (.invokevirtual 138, 3) := dk_182 0 138 (dk_at dksX0_done_0 19 rfl rfl)
theorem dX0_done_22 : decode cX0_done 22 = .ok (.aload_n 0, 1) := dk_42 (dk_at dksX0_done_0 22 rfl rfl)
theorem dX0_done_23 : decode cX0_done 23 = .ok (.iconst 0, 1) := dk_3 (dk_at dksX0_done_0 23 rfl rfl)
theorem dX0_done_24 : decode cX0_done 24 = .ok (.putfield 90, 3) := dk_181 0 90 (dk_at dksX0_done_1 0 rfl rfl)
theorem dX0_done_27 : decode cX0_done 27 = .ok (.aload_n 0, 1) := dk_42 (dk_at dksX0_done_1 3 rfl rfl)
theorem dX0_done_28 : decode cX0_done 28 = .ok (.getfield 142, 3) := dk_180 0 142 (dk_at dksX0_done_1 4 rfl rfl)
theorem dX0_done_31 : decode cX0_done 31 = .ok (.ireturn, 1) := dk_172 (dk_at dksX0_done_1 7 rfl rfl)
abbrev cX0_struck : ByteArray := prog_1_method_29_code
def yX0_struck : MethodName := ⟨RX0, "struck", "(I)I"⟩
def dkwX0_struck_9 : List UInt8 := [42, 180, 0, 42, 29, 46, 100, 172]
abbrev dktX0_struck_9 : List UInt8 := dkwX0_struck_9 ++ []
def dkwX0_struck_8 : List UInt8 := [3, 184, 0, 186, 96, 79, 132, 4, 1, 167, 255, 144, 29, 154, 0, 7, 3, 167, 0, 14, 29, 184, 0, 193]
abbrev dktX0_struck_8 : List UInt8 := dkwX0_struck_8 ++ dktX0_struck_9
def dkwX0_struck_7 : List UInt8 := [167, 255, 195, 42, 180, 0, 42, 21, 4, 92, 46, 42, 21, 4, 182, 0, 190, 154, 0, 7, 4, 167, 0, 4]
abbrev dktX0_struck_7 : List UInt8 := dkwX0_struck_7 ++ dktX0_struck_8
def dkwX0_struck_6 : List UInt8 := [21, 5, 120, 2, 130, 126, 46, 184, 0, 183, 167, 0, 10, 42, 180, 0, 42, 21, 4, 46, 79, 132, 5, 1]
abbrev dktX0_struck_6 : List UInt8 := dkwX0_struck_6 ++ dktX0_struck_7
def dkwX0_struck_5 : List UInt8 := [21, 4, 21, 5, 184, 0, 177, 153, 0, 30, 42, 180, 0, 42, 21, 4, 46, 42, 180, 0, 42, 21, 4, 4]
abbrev dktX0_struck_5 : List UInt8 := dkwX0_struck_5 ++ dktX0_struck_6
def dkwX0_struck_4 : List UInt8 := [180, 0, 42, 21, 4, 3, 79, 3, 54, 5, 21, 5, 16, 6, 162, 0, 60, 42, 180, 0, 42, 21, 4]
abbrev dktX0_struck_4 : List UInt8 := dkwX0_struck_4 ++ dktX0_struck_5
def dkwX0_struck_3 : List UInt8 := [132, 4, 1, 167, 255, 208, 27, 4, 160, 0, 5, 28, 172, 4, 54, 4, 21, 4, 16, 64, 162, 0, 111, 42]
abbrev dktX0_struck_3 : List UInt8 := dkwX0_struck_3 ++ dktX0_struck_4
def dkwX0_struck_2 : List UInt8 := [180, 0, 39, 21, 4, 46, 153, 0, 7, 4, 167, 0, 4, 3, 184, 0, 186, 21, 4, 120, 128, 62]
abbrev dktX0_struck_2 : List UInt8 := dkwX0_struck_2 ++ dktX0_struck_3
def dkwX0_struck_1 : List UInt8 := [21, 4, 16, 6, 162, 0, 47, 28, 3, 42, 180, 0, 39, 21, 4, 46, 184, 0, 183, 96, 61, 29, 42]
abbrev dktX0_struck_1 : List UInt8 := dkwX0_struck_1 ++ dktX0_struck_2
def dkwX0_struck_0 : List UInt8 := [27, 3, 4, 184, 0, 55, 154, 0, 6, 16, 254, 172, 42, 182, 0, 180, 3, 61, 3, 62, 3, 54, 4]
abbrev dktX0_struck_0 : List UInt8 := dkwX0_struck_0 ++ dktX0_struck_1
theorem dksX0_struck_0 : cX0_struck.data.toList.drop 0 = dktX0_struck_0 := by decide +kernel
theorem dksX0_struck_1 : cX0_struck.data.toList.drop 23 = dktX0_struck_1 := dk_seg dksX0_struck_0 23 rfl rfl
theorem dksX0_struck_2 : cX0_struck.data.toList.drop 46 = dktX0_struck_2 := dk_seg dksX0_struck_1 23 rfl rfl
theorem dksX0_struck_3 : cX0_struck.data.toList.drop 68 = dktX0_struck_3 := dk_seg dksX0_struck_2 22 rfl rfl
theorem dksX0_struck_4 : cX0_struck.data.toList.drop 92 = dktX0_struck_4 := dk_seg dksX0_struck_3 24 rfl rfl
theorem dksX0_struck_5 : cX0_struck.data.toList.drop 115 = dktX0_struck_5 := dk_seg dksX0_struck_4 23 rfl rfl
theorem dksX0_struck_6 : cX0_struck.data.toList.drop 139 = dktX0_struck_6 := dk_seg dksX0_struck_5 24 rfl rfl
theorem dksX0_struck_7 : cX0_struck.data.toList.drop 163 = dktX0_struck_7 := dk_seg dksX0_struck_6 24 rfl rfl
theorem dksX0_struck_8 : cX0_struck.data.toList.drop 187 = dktX0_struck_8 := dk_seg dksX0_struck_7 24 rfl rfl
theorem dksX0_struck_9 : cX0_struck.data.toList.drop 211 = dktX0_struck_9 := dk_seg dksX0_struck_8 24 rfl rfl
theorem dX0_struck_0 : decode cX0_struck 0 = .ok (.iload_n 1, 1) := dk_27 (dk_at dksX0_struck_0 0 rfl rfl)
theorem dX0_struck_1 : decode cX0_struck 1 = .ok (.iconst 0, 1) := dk_3 (dk_at dksX0_struck_0 1 rfl rfl)
theorem dX0_struck_2 : decode cX0_struck 2 = .ok (.iconst 1, 1) := dk_4 (dk_at dksX0_struck_0 2 rfl rfl)
theorem dX0_struck_3 : decode cX0_struck 3 = .ok (.invokestatic 55, 3) := dk_184 0 55 (dk_at dksX0_struck_0 3 rfl rfl)
theorem dX0_struck_6 : decode cX0_struck 6 = .ok (.ifCond .ne 6, 3) := dk_154 0 6 (dk_at dksX0_struck_0 6 rfl rfl)
theorem dX0_struck_9 : decode cX0_struck 9 = .ok (.bipush (-2), 2) := dk_16 254 (dk_at dksX0_struck_0 9 rfl rfl)
theorem dX0_struck_11 : decode cX0_struck 11 = .ok (.ireturn, 1) := dk_172 (dk_at dksX0_struck_0 11 rfl rfl)
theorem dX0_struck_12 : decode cX0_struck 12 = .ok (.aload_n 0, 1) := dk_42 (dk_at dksX0_struck_0 12 rfl rfl)
theorem dX0_struck_13 : decode cX0_struck 13 = .ok (.invokevirtual 180, 3) := dk_182 0 180 (dk_at dksX0_struck_0 13 rfl rfl)
theorem dX0_struck_16 : decode cX0_struck 16 = .ok (.iconst 0, 1) := dk_3 (dk_at dksX0_struck_0 16 rfl rfl)
theorem dX0_struck_17 : decode cX0_struck 17 = .ok (.istore_n 2, 1) := dk_61 (dk_at dksX0_struck_0 17 rfl rfl)
theorem dX0_struck_18 : decode cX0_struck 18 = .ok (.iconst 0, 1) := dk_3 (dk_at dksX0_struck_0 18 rfl rfl)
theorem dX0_struck_19 : decode cX0_struck 19 = .ok (.istore_n 3, 1) := dk_62 (dk_at dksX0_struck_0 19 rfl rfl)
theorem dX0_struck_20 : decode cX0_struck 20 = .ok (.iconst 0, 1) := dk_3 (dk_at dksX0_struck_0 20 rfl rfl)
theorem dX0_struck_21 : decode cX0_struck 21 = .ok (.istore 4, 2) := dk_54 4 (dk_at dksX0_struck_0 21 rfl rfl)
theorem dX0_struck_23 : decode cX0_struck 23 = .ok (.iload 4, 2) := dk_21 4 (dk_at dksX0_struck_1 0 rfl rfl)
theorem dX0_struck_25 : decode cX0_struck 25 = .ok (.bipush 6, 2) := dk_16 6 (dk_at dksX0_struck_1 2 rfl rfl)
theorem dX0_struck_27 : decode cX0_struck 27 = .ok (.if_icmp .ge 47, 3) := dk_162 0 47 (dk_at dksX0_struck_1 4 rfl rfl)
theorem dX0_struck_30 : decode cX0_struck 30 = .ok (.iload_n 2, 1) := dk_28 (dk_at dksX0_struck_1 7 rfl rfl)
theorem dX0_struck_31 : decode cX0_struck 31 = .ok (.iconst 0, 1) := dk_3 (dk_at dksX0_struck_1 8 rfl rfl)
theorem dX0_struck_32 : decode cX0_struck 32 = .ok (.aload_n 0, 1) := dk_42 (dk_at dksX0_struck_1 9 rfl rfl)
theorem dX0_struck_33 : decode cX0_struck 33 = .ok (.getfield 39, 3) := dk_180 0 39 (dk_at dksX0_struck_1 10 rfl rfl)
theorem dX0_struck_36 : decode cX0_struck 36 = .ok (.iload 4, 2) := dk_21 4 (dk_at dksX0_struck_1 13 rfl rfl)
theorem dX0_struck_38 : decode cX0_struck 38 = .ok (.iaload, 1) := dk_46 (dk_at dksX0_struck_1 15 rfl rfl)
theorem dX0_struck_39 : decode cX0_struck 39 = .ok (.invokestatic 183, 3) := dk_184 0 183 (dk_at dksX0_struck_1 16 rfl rfl)
theorem dX0_struck_42 : decode cX0_struck 42 = .ok (.iadd, 1) := dk_96 (dk_at dksX0_struck_1 19 rfl rfl)
theorem dX0_struck_43 : decode cX0_struck 43 = .ok (.istore_n 2, 1) := dk_61 (dk_at dksX0_struck_1 20 rfl rfl)
theorem dX0_struck_44 : decode cX0_struck 44 = .ok (.iload_n 3, 1) := dk_29 (dk_at dksX0_struck_1 21 rfl rfl)
theorem dX0_struck_45 : decode cX0_struck 45 = .ok (.aload_n 0, 1) := dk_42 (dk_at dksX0_struck_1 22 rfl rfl)
theorem dX0_struck_46 : decode cX0_struck 46 = .ok (.getfield 39, 3) := dk_180 0 39 (dk_at dksX0_struck_2 0 rfl rfl)
theorem dX0_struck_49 : decode cX0_struck 49 = .ok (.iload 4, 2) := dk_21 4 (dk_at dksX0_struck_2 3 rfl rfl)
theorem dX0_struck_51 : decode cX0_struck 51 = .ok (.iaload, 1) := dk_46 (dk_at dksX0_struck_2 5 rfl rfl)
theorem dX0_struck_52 : decode cX0_struck 52 = .ok (.ifCond .eq 7, 3) := dk_153 0 7 (dk_at dksX0_struck_2 6 rfl rfl)
theorem dX0_struck_55 : decode cX0_struck 55 = .ok (.iconst 1, 1) := dk_4 (dk_at dksX0_struck_2 9 rfl rfl)
theorem dX0_struck_56 : decode cX0_struck 56 = .ok (.goto 4, 3) := dk_167 0 4 (dk_at dksX0_struck_2 10 rfl rfl)
theorem dX0_struck_59 : decode cX0_struck 59 = .ok (.iconst 0, 1) := dk_3 (dk_at dksX0_struck_2 13 rfl rfl)
theorem dX0_struck_60 : decode cX0_struck 60 = .ok (.invokestatic 186, 3) := dk_184 0 186 (dk_at dksX0_struck_2 14 rfl rfl)
theorem dX0_struck_63 : decode cX0_struck 63 = .ok (.iload 4, 2) := dk_21 4 (dk_at dksX0_struck_2 17 rfl rfl)
theorem dX0_struck_65 : decode cX0_struck 65 = .ok (.ishl, 1) := dk_120 (dk_at dksX0_struck_2 19 rfl rfl)
theorem dX0_struck_66 : decode cX0_struck 66 = .ok (.ior, 1) := dk_128 (dk_at dksX0_struck_2 20 rfl rfl)
theorem dX0_struck_67 : decode cX0_struck 67 = .ok (.istore_n 3, 1) := dk_62 (dk_at dksX0_struck_2 21 rfl rfl)
theorem dX0_struck_68 : decode cX0_struck 68 = .ok (.iinc 4 1, 3) := dk_132 4 1 (dk_at dksX0_struck_3 0 rfl rfl)
theorem dX0_struck_71 : decode cX0_struck 71 = .ok (.goto (-48), 3) := dk_167 255 208 (dk_at dksX0_struck_3 3 rfl rfl)
theorem dX0_struck_74 : decode cX0_struck 74 = .ok (.iload_n 1, 1) := dk_27 (dk_at dksX0_struck_3 6 rfl rfl)
theorem dX0_struck_75 : decode cX0_struck 75 = .ok (.iconst 1, 1) := dk_4 (dk_at dksX0_struck_3 7 rfl rfl)
theorem dX0_struck_76 : decode cX0_struck 76 = .ok (.if_icmp .ne 5, 3) := dk_160 0 5 (dk_at dksX0_struck_3 8 rfl rfl)
theorem dX0_struck_79 : decode cX0_struck 79 = .ok (.iload_n 2, 1) := dk_28 (dk_at dksX0_struck_3 11 rfl rfl)
theorem dX0_struck_80 : decode cX0_struck 80 = .ok (.ireturn, 1) := dk_172 (dk_at dksX0_struck_3 12 rfl rfl)
theorem dX0_struck_81 : decode cX0_struck 81 = .ok (.iconst 1, 1) := dk_4 (dk_at dksX0_struck_3 13 rfl rfl)
theorem dX0_struck_82 : decode cX0_struck 82 = .ok (.istore 4, 2) := dk_54 4 (dk_at dksX0_struck_3 14 rfl rfl)
theorem dX0_struck_84 : decode cX0_struck 84 = .ok (.iload 4, 2) := dk_21 4 (dk_at dksX0_struck_3 16 rfl rfl)
theorem dX0_struck_86 : decode cX0_struck 86 = .ok (.bipush 64, 2) := dk_16 64 (dk_at dksX0_struck_3 18 rfl rfl)
theorem dX0_struck_88 : decode cX0_struck 88 = .ok (.if_icmp .ge 111, 3) := dk_162 0 111 (dk_at dksX0_struck_3 20 rfl rfl)
theorem dX0_struck_91 : decode cX0_struck 91 = .ok (.aload_n 0, 1) := dk_42 (dk_at dksX0_struck_3 23 rfl rfl)
theorem dX0_struck_92 : decode cX0_struck 92 = .ok (.getfield 42, 3) := dk_180 0 42 (dk_at dksX0_struck_4 0 rfl rfl)
theorem dX0_struck_95 : decode cX0_struck 95 = .ok (.iload 4, 2) := dk_21 4 (dk_at dksX0_struck_4 3 rfl rfl)
theorem dX0_struck_97 : decode cX0_struck 97 = .ok (.iconst 0, 1) := dk_3 (dk_at dksX0_struck_4 5 rfl rfl)
theorem dX0_struck_98 : decode cX0_struck 98 = .ok (.iastore, 1) := dk_79 (dk_at dksX0_struck_4 6 rfl rfl)
theorem dX0_struck_99 : decode cX0_struck 99 = .ok (.iconst 0, 1) := dk_3 (dk_at dksX0_struck_4 7 rfl rfl)
theorem dX0_struck_100 : decode cX0_struck 100 = .ok (.istore 5, 2) := dk_54 5 (dk_at dksX0_struck_4 8 rfl rfl)
theorem dX0_struck_102 : decode cX0_struck 102 = .ok (.iload 5, 2) := dk_21 5 (dk_at dksX0_struck_4 10 rfl rfl)
theorem dX0_struck_104 : decode cX0_struck 104 = .ok (.bipush 6, 2) := dk_16 6 (dk_at dksX0_struck_4 12 rfl rfl)
theorem dX0_struck_106 : decode cX0_struck 106 = .ok (.if_icmp .ge 60, 3) := dk_162 0 60 (dk_at dksX0_struck_4 14 rfl rfl)
theorem dX0_struck_109 : decode cX0_struck 109 = .ok (.aload_n 0, 1) := dk_42 (dk_at dksX0_struck_4 17 rfl rfl)
theorem dX0_struck_110 : decode cX0_struck 110 = .ok (.getfield 42, 3) := dk_180 0 42 (dk_at dksX0_struck_4 18 rfl rfl)
theorem dX0_struck_113 : decode cX0_struck 113 = .ok (.iload 4, 2) := dk_21 4 (dk_at dksX0_struck_4 21 rfl rfl)
theorem dX0_struck_115 : decode cX0_struck 115 = .ok (.iload 4, 2) := dk_21 4 (dk_at dksX0_struck_5 0 rfl rfl)
theorem dX0_struck_117 : decode cX0_struck 117 = .ok (.iload 5, 2) := dk_21 5 (dk_at dksX0_struck_5 2 rfl rfl)
theorem dX0_struck_119 : decode cX0_struck 119 = .ok (.invokestatic 177, 3) := dk_184 0 177 (dk_at dksX0_struck_5 4 rfl rfl)
theorem dX0_struck_122 : decode cX0_struck 122 = .ok (.ifCond .eq 30, 3) := dk_153 0 30 (dk_at dksX0_struck_5 7 rfl rfl)
theorem dX0_struck_125 : decode cX0_struck 125 = .ok (.aload_n 0, 1) := dk_42 (dk_at dksX0_struck_5 10 rfl rfl)
theorem dX0_struck_126 : decode cX0_struck 126 = .ok (.getfield 42, 3) := dk_180 0 42 (dk_at dksX0_struck_5 11 rfl rfl)
theorem dX0_struck_129 : decode cX0_struck 129 = .ok (.iload 4, 2) := dk_21 4 (dk_at dksX0_struck_5 14 rfl rfl)
theorem dX0_struck_131 : decode cX0_struck 131 = .ok (.iaload, 1) := dk_46 (dk_at dksX0_struck_5 16 rfl rfl)
theorem dX0_struck_132 : decode cX0_struck 132 = .ok (.aload_n 0, 1) := dk_42 (dk_at dksX0_struck_5 17 rfl rfl)
theorem dX0_struck_133 : decode cX0_struck 133 = .ok (.getfield 42, 3) := dk_180 0 42 (dk_at dksX0_struck_5 18 rfl rfl)
theorem dX0_struck_136 : decode cX0_struck 136 = .ok (.iload 4, 2) := dk_21 4 (dk_at dksX0_struck_5 21 rfl rfl)
theorem dX0_struck_138 : decode cX0_struck 138 = .ok (.iconst 1, 1) := dk_4 (dk_at dksX0_struck_5 23 rfl rfl)
theorem dX0_struck_139 : decode cX0_struck 139 = .ok (.iload 5, 2) := dk_21 5 (dk_at dksX0_struck_6 0 rfl rfl)
theorem dX0_struck_141 : decode cX0_struck 141 = .ok (.ishl, 1) := dk_120 (dk_at dksX0_struck_6 2 rfl rfl)
theorem dX0_struck_142 : decode cX0_struck 142 = .ok (.iconst (-1), 1) := dk_2 (dk_at dksX0_struck_6 3 rfl rfl)
theorem dX0_struck_143 : decode cX0_struck 143 = .ok (.ixor, 1) := dk_130 (dk_at dksX0_struck_6 4 rfl rfl)
theorem dX0_struck_144 : decode cX0_struck 144 = .ok (.iand, 1) := dk_126 (dk_at dksX0_struck_6 5 rfl rfl)
theorem dX0_struck_145 : decode cX0_struck 145 = .ok (.iaload, 1) := dk_46 (dk_at dksX0_struck_6 6 rfl rfl)
theorem dX0_struck_146 : decode cX0_struck 146 = .ok (.invokestatic 183, 3) := dk_184 0 183 (dk_at dksX0_struck_6 7 rfl rfl)
theorem dX0_struck_149 : decode cX0_struck 149 = .ok (.goto 10, 3) := dk_167 0 10 (dk_at dksX0_struck_6 10 rfl rfl)
theorem dX0_struck_152 : decode cX0_struck 152 = .ok (.aload_n 0, 1) := dk_42 (dk_at dksX0_struck_6 13 rfl rfl)
theorem dX0_struck_153 : decode cX0_struck 153 = .ok (.getfield 42, 3) := dk_180 0 42 (dk_at dksX0_struck_6 14 rfl rfl)
theorem dX0_struck_156 : decode cX0_struck 156 = .ok (.iload 4, 2) := dk_21 4 (dk_at dksX0_struck_6 17 rfl rfl)
theorem dX0_struck_158 : decode cX0_struck 158 = .ok (.iaload, 1) := dk_46 (dk_at dksX0_struck_6 19 rfl rfl)
theorem dX0_struck_159 : decode cX0_struck 159 = .ok (.iastore, 1) := dk_79 (dk_at dksX0_struck_6 20 rfl rfl)
theorem dX0_struck_160 : decode cX0_struck 160 = .ok (.iinc 5 1, 3) := dk_132 5 1 (dk_at dksX0_struck_6 21 rfl rfl)
theorem dX0_struck_163 : decode cX0_struck 163 = .ok (.goto (-61), 3) := dk_167 255 195 (dk_at dksX0_struck_7 0 rfl rfl)
theorem dX0_struck_166 : decode cX0_struck 166 = .ok (.aload_n 0, 1) := dk_42 (dk_at dksX0_struck_7 3 rfl rfl)
theorem dX0_struck_167 : decode cX0_struck 167 = .ok (.getfield 42, 3) := dk_180 0 42 (dk_at dksX0_struck_7 4 rfl rfl)
theorem dX0_struck_170 : decode cX0_struck 170 = .ok (.iload 4, 2) := dk_21 4 (dk_at dksX0_struck_7 7 rfl rfl)
theorem dX0_struck_172 : decode cX0_struck 172 = .ok (.dup2, 1) := dk_92 (dk_at dksX0_struck_7 9 rfl rfl)
theorem dX0_struck_173 : decode cX0_struck 173 = .ok (.iaload, 1) := dk_46 (dk_at dksX0_struck_7 10 rfl rfl)
theorem dX0_struck_174 : decode cX0_struck 174 = .ok (.aload_n 0, 1) := dk_42 (dk_at dksX0_struck_7 11 rfl rfl)
theorem dX0_struck_175 : decode cX0_struck 175 = .ok (.iload 4, 2) := dk_21 4 (dk_at dksX0_struck_7 12 rfl rfl)
theorem dX0_struck_177 : decode cX0_struck 177 = .ok (.invokevirtual 190, 3) := dk_182 0 190 (dk_at dksX0_struck_7 14 rfl rfl)
theorem dX0_struck_180 : decode cX0_struck 180 = .ok (.ifCond .ne 7, 3) := dk_154 0 7 (dk_at dksX0_struck_7 17 rfl rfl)
theorem dX0_struck_183 : decode cX0_struck 183 = .ok (.iconst 1, 1) := dk_4 (dk_at dksX0_struck_7 20 rfl rfl)
theorem dX0_struck_184 : decode cX0_struck 184 = .ok (.goto 4, 3) := dk_167 0 4 (dk_at dksX0_struck_7 21 rfl rfl)
theorem dX0_struck_187 : decode cX0_struck 187 = .ok (.iconst 0, 1) := dk_3 (dk_at dksX0_struck_8 0 rfl rfl)
theorem dX0_struck_188 : decode cX0_struck 188 = .ok (.invokestatic 186, 3) := dk_184 0 186 (dk_at dksX0_struck_8 1 rfl rfl)
theorem dX0_struck_191 : decode cX0_struck 191 = .ok (.iadd, 1) := dk_96 (dk_at dksX0_struck_8 4 rfl rfl)
theorem dX0_struck_192 : decode cX0_struck 192 = .ok (.iastore, 1) := dk_79 (dk_at dksX0_struck_8 5 rfl rfl)
theorem dX0_struck_193 : decode cX0_struck 193 = .ok (.iinc 4 1, 3) := dk_132 4 1 (dk_at dksX0_struck_8 6 rfl rfl)
theorem dX0_struck_196 : decode cX0_struck 196 = .ok (.goto (-112), 3) := dk_167 255 144 (dk_at dksX0_struck_8 9 rfl rfl)
theorem dX0_struck_199 : decode cX0_struck 199 = .ok (.iload_n 3, 1) := dk_29 (dk_at dksX0_struck_8 12 rfl rfl)
theorem dX0_struck_200 : decode cX0_struck 200 = .ok (.ifCond .ne 7, 3) := dk_154 0 7 (dk_at dksX0_struck_8 13 rfl rfl)
theorem dX0_struck_203 : decode cX0_struck 203 = .ok (.iconst 0, 1) := dk_3 (dk_at dksX0_struck_8 16 rfl rfl)
theorem dX0_struck_204 : decode cX0_struck 204 = .ok (.goto 14, 3) := dk_167 0 14 (dk_at dksX0_struck_8 17 rfl rfl)
theorem dX0_struck_207 : decode cX0_struck 207 = .ok (.iload_n 3, 1) := dk_29 (dk_at dksX0_struck_8 20 rfl rfl)
theorem dX0_struck_208 : decode cX0_struck 208 = .ok (.invokestatic 193, 3) := dk_184 0 193 (dk_at dksX0_struck_8 21 rfl rfl)
theorem dX0_struck_211 : decode cX0_struck 211 = .ok (.aload_n 0, 1) := dk_42 (dk_at dksX0_struck_9 0 rfl rfl)
theorem dX0_struck_212 : decode cX0_struck 212 = .ok (.getfield 42, 3) := dk_180 0 42 (dk_at dksX0_struck_9 1 rfl rfl)
theorem dX0_struck_215 : decode cX0_struck 215 = .ok (.iload_n 3, 1) := dk_29 (dk_at dksX0_struck_9 4 rfl rfl)
theorem dX0_struck_216 : decode cX0_struck 216 = .ok (.iaload, 1) := dk_46 (dk_at dksX0_struck_9 5 rfl rfl)
theorem dX0_struck_217 : decode cX0_struck 217 = .ok (.isub, 1) := dk_100 (dk_at dksX0_struck_9 6 rfl rfl)
theorem dX0_struck_218 : decode cX0_struck 218 = .ok (.ireturn, 1) := dk_172 (dk_at dksX0_struck_9 7 rfl rfl)
abbrev cX0_layNet : ByteArray := prog_1_method_27_code
def yX0_layNet : MethodName := ⟨RX0, "layNet", "()V"⟩
def dkwX0_layNet_3 : List UInt8 := [132, 1, 1, 167, 255, 193, 177]
abbrev dktX0_layNet_3 : List UInt8 := dkwX0_layNet_3 ++ []
def dkwX0_layNet_2 : List UInt8 := [28, 92, 46, 42, 180, 0, 20, 180, 0, 73, 27, 50, 28, 46, 96, 79, 132, 2, 1, 167, 255, 207]
abbrev dktX0_layNet_2 : List UInt8 := dkwX0_layNet_2 ++ dktX0_layNet_3
def dkwX0_layNet_1 : List UInt8 := [42, 180, 0, 39, 27, 92, 46, 42, 180, 0, 20, 180, 0, 73, 27, 50, 28, 46, 100, 79, 42, 180, 0, 39]
abbrev dktX0_layNet_1 : List UInt8 := dkwX0_layNet_1 ++ dktX0_layNet_2
def dkwX0_layNet_0 : List UInt8 := [42, 180, 0, 39, 3, 184, 0, 171, 3, 60, 27, 16, 6, 162, 0, 63, 3, 61, 28, 16, 6, 162, 0, 49]
abbrev dktX0_layNet_0 : List UInt8 := dkwX0_layNet_0 ++ dktX0_layNet_1
theorem dksX0_layNet_0 : cX0_layNet.data.toList.drop 0 = dktX0_layNet_0 := by decide +kernel
theorem dksX0_layNet_1 : cX0_layNet.data.toList.drop 24 = dktX0_layNet_1 := dk_seg dksX0_layNet_0 24 rfl rfl
theorem dksX0_layNet_2 : cX0_layNet.data.toList.drop 48 = dktX0_layNet_2 := dk_seg dksX0_layNet_1 24 rfl rfl
theorem dksX0_layNet_3 : cX0_layNet.data.toList.drop 70 = dktX0_layNet_3 := dk_seg dksX0_layNet_2 22 rfl rfl
theorem dX0_layNet_0 : decode cX0_layNet 0 = .ok (.aload_n 0, 1) := dk_42 (dk_at dksX0_layNet_0 0 rfl rfl)
theorem dX0_layNet_1 : decode cX0_layNet 1 = .ok (.getfield 39, 3) := dk_180 0 39 (dk_at dksX0_layNet_0 1 rfl rfl)
theorem dX0_layNet_4 : decode cX0_layNet 4 = .ok (.iconst 0, 1) := dk_3 (dk_at dksX0_layNet_0 4 rfl rfl)
theorem dX0_layNet_5 : decode cX0_layNet 5 = .ok (.invokestatic 171, 3) := dk_184 0 171 (dk_at dksX0_layNet_0 5 rfl rfl)
theorem dX0_layNet_8 : decode cX0_layNet 8 = .ok (.iconst 0, 1) := dk_3 (dk_at dksX0_layNet_0 8 rfl rfl)
theorem dX0_layNet_9 : decode cX0_layNet 9 = .ok (.istore_n 1, 1) := dk_60 (dk_at dksX0_layNet_0 9 rfl rfl)
theorem dX0_layNet_10 : decode cX0_layNet 10 = .ok (.iload_n 1, 1) := dk_27 (dk_at dksX0_layNet_0 10 rfl rfl)
theorem dX0_layNet_11 : decode cX0_layNet 11 = .ok (.bipush 6, 2) := dk_16 6 (dk_at dksX0_layNet_0 11 rfl rfl)
theorem dX0_layNet_13 : decode cX0_layNet 13 = .ok (.if_icmp .ge 63, 3) := dk_162 0 63 (dk_at dksX0_layNet_0 13 rfl rfl)
theorem dX0_layNet_16 : decode cX0_layNet 16 = .ok (.iconst 0, 1) := dk_3 (dk_at dksX0_layNet_0 16 rfl rfl)
theorem dX0_layNet_17 : decode cX0_layNet 17 = .ok (.istore_n 2, 1) := dk_61 (dk_at dksX0_layNet_0 17 rfl rfl)
theorem dX0_layNet_18 : decode cX0_layNet 18 = .ok (.iload_n 2, 1) := dk_28 (dk_at dksX0_layNet_0 18 rfl rfl)
theorem dX0_layNet_19 : decode cX0_layNet 19 = .ok (.bipush 6, 2) := dk_16 6 (dk_at dksX0_layNet_0 19 rfl rfl)
theorem dX0_layNet_21 : decode cX0_layNet 21 = .ok (.if_icmp .ge 49, 3) := dk_162 0 49 (dk_at dksX0_layNet_0 21 rfl rfl)
theorem dX0_layNet_24 : decode cX0_layNet 24 = .ok (.aload_n 0, 1) := dk_42 (dk_at dksX0_layNet_1 0 rfl rfl)
theorem dX0_layNet_25 : decode cX0_layNet 25 = .ok (.getfield 39, 3) := dk_180 0 39 (dk_at dksX0_layNet_1 1 rfl rfl)
theorem dX0_layNet_28 : decode cX0_layNet 28 = .ok (.iload_n 1, 1) := dk_27 (dk_at dksX0_layNet_1 4 rfl rfl)
theorem dX0_layNet_29 : decode cX0_layNet 29 = .ok (.dup2, 1) := dk_92 (dk_at dksX0_layNet_1 5 rfl rfl)
theorem dX0_layNet_30 : decode cX0_layNet 30 = .ok (.iaload, 1) := dk_46 (dk_at dksX0_layNet_1 6 rfl rfl)
theorem dX0_layNet_31 : decode cX0_layNet 31 = .ok (.aload_n 0, 1) := dk_42 (dk_at dksX0_layNet_1 7 rfl rfl)
theorem dX0_layNet_32 : decode cX0_layNet 32 = .ok (.getfield 20, 3) := dk_180 0 20 (dk_at dksX0_layNet_1 8 rfl rfl)
theorem dX0_layNet_35 : decode cX0_layNet 35 = .ok (.getfield 73, 3) := dk_180 0 73 (dk_at dksX0_layNet_1 11 rfl rfl)
theorem dX0_layNet_38 : decode cX0_layNet 38 = .ok (.iload_n 1, 1) := dk_27 (dk_at dksX0_layNet_1 14 rfl rfl)
theorem dX0_layNet_39 : decode cX0_layNet 39 = .ok (.aaload, 1) := dk_50 (dk_at dksX0_layNet_1 15 rfl rfl)
theorem dX0_layNet_40 : decode cX0_layNet 40 = .ok (.iload_n 2, 1) := dk_28 (dk_at dksX0_layNet_1 16 rfl rfl)
theorem dX0_layNet_41 : decode cX0_layNet 41 = .ok (.iaload, 1) := dk_46 (dk_at dksX0_layNet_1 17 rfl rfl)
theorem dX0_layNet_42 : decode cX0_layNet 42 = .ok (.isub, 1) := dk_100 (dk_at dksX0_layNet_1 18 rfl rfl)
theorem dX0_layNet_43 : decode cX0_layNet 43 = .ok (.iastore, 1) := dk_79 (dk_at dksX0_layNet_1 19 rfl rfl)
theorem dX0_layNet_44 : decode cX0_layNet 44 = .ok (.aload_n 0, 1) := dk_42 (dk_at dksX0_layNet_1 20 rfl rfl)
theorem dX0_layNet_45 : decode cX0_layNet 45 = .ok (.getfield 39, 3) := dk_180 0 39 (dk_at dksX0_layNet_1 21 rfl rfl)
theorem dX0_layNet_48 : decode cX0_layNet 48 = .ok (.iload_n 2, 1) := dk_28 (dk_at dksX0_layNet_2 0 rfl rfl)
theorem dX0_layNet_49 : decode cX0_layNet 49 = .ok (.dup2, 1) := dk_92 (dk_at dksX0_layNet_2 1 rfl rfl)
theorem dX0_layNet_50 : decode cX0_layNet 50 = .ok (.iaload, 1) := dk_46 (dk_at dksX0_layNet_2 2 rfl rfl)
theorem dX0_layNet_51 : decode cX0_layNet 51 = .ok (.aload_n 0, 1) := dk_42 (dk_at dksX0_layNet_2 3 rfl rfl)
theorem dX0_layNet_52 : decode cX0_layNet 52 = .ok (.getfield 20, 3) := dk_180 0 20 (dk_at dksX0_layNet_2 4 rfl rfl)
theorem dX0_layNet_55 : decode cX0_layNet 55 = .ok (.getfield 73, 3) := dk_180 0 73 (dk_at dksX0_layNet_2 7 rfl rfl)
theorem dX0_layNet_58 : decode cX0_layNet 58 = .ok (.iload_n 1, 1) := dk_27 (dk_at dksX0_layNet_2 10 rfl rfl)
theorem dX0_layNet_59 : decode cX0_layNet 59 = .ok (.aaload, 1) := dk_50 (dk_at dksX0_layNet_2 11 rfl rfl)
theorem dX0_layNet_60 : decode cX0_layNet 60 = .ok (.iload_n 2, 1) := dk_28 (dk_at dksX0_layNet_2 12 rfl rfl)
theorem dX0_layNet_61 : decode cX0_layNet 61 = .ok (.iaload, 1) := dk_46 (dk_at dksX0_layNet_2 13 rfl rfl)
theorem dX0_layNet_62 : decode cX0_layNet 62 = .ok (.iadd, 1) := dk_96 (dk_at dksX0_layNet_2 14 rfl rfl)
theorem dX0_layNet_63 : decode cX0_layNet 63 = .ok (.iastore, 1) := dk_79 (dk_at dksX0_layNet_2 15 rfl rfl)
theorem dX0_layNet_64 : decode cX0_layNet 64 = .ok (.iinc 2 1, 3) := dk_132 2 1 (dk_at dksX0_layNet_2 16 rfl rfl)
theorem dX0_layNet_67 : decode cX0_layNet 67 = .ok (.goto (-49), 3) := dk_167 255 207 (dk_at dksX0_layNet_2 19 rfl rfl)
theorem dX0_layNet_70 : decode cX0_layNet 70 = .ok (.iinc 1 1, 3) := dk_132 1 1 (dk_at dksX0_layNet_3 0 rfl rfl)
theorem dX0_layNet_73 : decode cX0_layNet 73 = .ok (.goto (-63), 3) := dk_167 255 193 (dk_at dksX0_layNet_3 3 rfl rfl)
theorem dX0_layNet_76 : decode cX0_layNet 76 = .ok (.return_, 1) := dk_177 (dk_at dksX0_layNet_3 6 rfl rfl)
abbrev cX0_has : ByteArray := prog_1_method_3_code
def yX0_has : MethodName := ⟨RX0, "has", "(II)Z"⟩
def dkwX0_has_0 : List UInt8 := [26, 27, 122, 4, 126, 4, 160, 0, 7, 4, 167, 0, 4, 3, 172]
abbrev dktX0_has_0 : List UInt8 := dkwX0_has_0 ++ []
theorem dksX0_has_0 : cX0_has.data.toList.drop 0 = dktX0_has_0 := by decide +kernel
theorem dX0_has_0 : decode cX0_has 0 = .ok (.iload_n 0, 1) := dk_26 (dk_at dksX0_has_0 0 rfl rfl)
theorem dX0_has_1 : decode cX0_has 1 = .ok (.iload_n 1, 1) := dk_27 (dk_at dksX0_has_0 1 rfl rfl)
theorem dX0_has_2 : decode cX0_has 2 = .ok (.ishr, 1) := dk_122 (dk_at dksX0_has_0 2 rfl rfl)
theorem dX0_has_3 : decode cX0_has 3 = .ok (.iconst 1, 1) := dk_4 (dk_at dksX0_has_0 3 rfl rfl)
theorem dX0_has_4 : decode cX0_has 4 = .ok (.iand, 1) := dk_126 (dk_at dksX0_has_0 4 rfl rfl)
theorem dX0_has_5 : decode cX0_has 5 = .ok (.iconst 1, 1) := dk_4 (dk_at dksX0_has_0 5 rfl rfl)
theorem dX0_has_6 : decode cX0_has 6 = .ok (.if_icmp .ne 7, 3) := dk_160 0 7 (dk_at dksX0_has_0 6 rfl rfl)
theorem dX0_has_9 : decode cX0_has 9 = .ok (.iconst 1, 1) := dk_4 (dk_at dksX0_has_0 9 rfl rfl)
theorem dX0_has_10 : decode cX0_has 10 = .ok (.goto 4, 3) := dk_167 0 4 (dk_at dksX0_has_0 10 rfl rfl)
theorem dX0_has_13 : decode cX0_has 13 = .ok (.iconst 0, 1) := dk_3 (dk_at dksX0_has_0 13 rfl rfl)
theorem dX0_has_14 : decode cX0_has 14 = .ok (.ireturn, 1) := dk_172 (dk_at dksX0_has_0 14 rfl rfl)
abbrev cX0_netOf : ByteArray := prog_1_method_28_code
def yX0_netOf : MethodName := ⟨RX0, "netOf", "(I)I"⟩
def dkwX0_netOf_1 : List UInt8 := [46, 167, 0, 4, 3, 96, 61, 132, 3, 1, 167, 255, 226, 28, 172]
abbrev dktX0_netOf_1 : List UInt8 := dkwX0_netOf_1 ++ []
def dkwX0_netOf_0 : List UInt8 := [3, 61, 3, 62, 29, 16, 6, 162, 0, 30, 28, 27, 29, 184, 0, 177, 153, 0, 12, 42, 180, 0, 39, 29]
abbrev dktX0_netOf_0 : List UInt8 := dkwX0_netOf_0 ++ dktX0_netOf_1
theorem dksX0_netOf_0 : cX0_netOf.data.toList.drop 0 = dktX0_netOf_0 := by decide +kernel
theorem dksX0_netOf_1 : cX0_netOf.data.toList.drop 24 = dktX0_netOf_1 := dk_seg dksX0_netOf_0 24 rfl rfl
theorem dX0_netOf_0 : decode cX0_netOf 0 = .ok (.iconst 0, 1) := dk_3 (dk_at dksX0_netOf_0 0 rfl rfl)
theorem dX0_netOf_1 : decode cX0_netOf 1 = .ok (.istore_n 2, 1) := dk_61 (dk_at dksX0_netOf_0 1 rfl rfl)
theorem dX0_netOf_2 : decode cX0_netOf 2 = .ok (.iconst 0, 1) := dk_3 (dk_at dksX0_netOf_0 2 rfl rfl)
theorem dX0_netOf_3 : decode cX0_netOf 3 = .ok (.istore_n 3, 1) := dk_62 (dk_at dksX0_netOf_0 3 rfl rfl)
theorem dX0_netOf_4 : decode cX0_netOf 4 = .ok (.iload_n 3, 1) := dk_29 (dk_at dksX0_netOf_0 4 rfl rfl)
theorem dX0_netOf_5 : decode cX0_netOf 5 = .ok (.bipush 6, 2) := dk_16 6 (dk_at dksX0_netOf_0 5 rfl rfl)
theorem dX0_netOf_7 : decode cX0_netOf 7 = .ok (.if_icmp .ge 30, 3) := dk_162 0 30 (dk_at dksX0_netOf_0 7 rfl rfl)
theorem dX0_netOf_10 : decode cX0_netOf 10 = .ok (.iload_n 2, 1) := dk_28 (dk_at dksX0_netOf_0 10 rfl rfl)
theorem dX0_netOf_11 : decode cX0_netOf 11 = .ok (.iload_n 1, 1) := dk_27 (dk_at dksX0_netOf_0 11 rfl rfl)
theorem dX0_netOf_12 : decode cX0_netOf 12 = .ok (.iload_n 3, 1) := dk_29 (dk_at dksX0_netOf_0 12 rfl rfl)
theorem dX0_netOf_13 : decode cX0_netOf 13 = .ok (.invokestatic 177, 3) := dk_184 0 177 (dk_at dksX0_netOf_0 13 rfl rfl)
theorem dX0_netOf_16 : decode cX0_netOf 16 = .ok (.ifCond .eq 12, 3) := dk_153 0 12 (dk_at dksX0_netOf_0 16 rfl rfl)
theorem dX0_netOf_19 : decode cX0_netOf 19 = .ok (.aload_n 0, 1) := dk_42 (dk_at dksX0_netOf_0 19 rfl rfl)
theorem dX0_netOf_20 : decode cX0_netOf 20 = .ok (.getfield 39, 3) := dk_180 0 39 (dk_at dksX0_netOf_0 20 rfl rfl)
theorem dX0_netOf_23 : decode cX0_netOf 23 = .ok (.iload_n 3, 1) := dk_29 (dk_at dksX0_netOf_0 23 rfl rfl)
theorem dX0_netOf_24 : decode cX0_netOf 24 = .ok (.iaload, 1) := dk_46 (dk_at dksX0_netOf_1 0 rfl rfl)
theorem dX0_netOf_25 : decode cX0_netOf 25 = .ok (.goto 4, 3) := dk_167 0 4 (dk_at dksX0_netOf_1 1 rfl rfl)
theorem dX0_netOf_28 : decode cX0_netOf 28 = .ok (.iconst 0, 1) := dk_3 (dk_at dksX0_netOf_1 4 rfl rfl)
theorem dX0_netOf_29 : decode cX0_netOf 29 = .ok (.iadd, 1) := dk_96 (dk_at dksX0_netOf_1 5 rfl rfl)
theorem dX0_netOf_30 : decode cX0_netOf 30 = .ok (.istore_n 2, 1) := dk_61 (dk_at dksX0_netOf_1 6 rfl rfl)
theorem dX0_netOf_31 : decode cX0_netOf 31 = .ok (.iinc 3 1, 3) := dk_132 3 1 (dk_at dksX0_netOf_1 7 rfl rfl)
theorem dX0_netOf_34 : decode cX0_netOf 34 = .ok (.goto (-30), 3) := dk_167 255 226 (dk_at dksX0_netOf_1 10 rfl rfl)
theorem dX0_netOf_37 : decode cX0_netOf 37 = .ok (.iload_n 2, 1) := dk_28 (dk_at dksX0_netOf_1 13 rfl rfl)
theorem dX0_netOf_38 : decode cX0_netOf 38 = .ok (.ireturn, 1) := dk_172 (dk_at dksX0_netOf_1 14 rfl rfl)
abbrev cX0_prints : ByteArray := prog_1_method_30_code
def yX0_prints : MethodName := ⟨RX0, "prints", "(I)I"⟩
def dkwX0_prints_3 : List UInt8 := [167, 255, 225, 21, 5, 172]
abbrev dktX0_prints_3 : List UInt8 := dkwX0_prints_3 ++ []
def dkwX0_prints_2 : List UInt8 := [33, 16, 100, 21, 6, 104, 133, 97, 184, 0, 198, 27, 161, 0, 13, 21, 6, 54, 5, 132, 6, 1]
abbrev dktX0_prints_2 : List UInt8 := dkwX0_prints_2 ++ dktX0_prints_3
def dkwX0_prints_1 : List UInt8 := [180, 0, 20, 182, 0, 160, 133, 66, 16, 250, 54, 5, 3, 54, 6, 21, 6, 17, 3, 231, 163, 0, 29, 28]
abbrev dktX0_prints_1 : List UInt8 := dkwX0_prints_1 ++ dktX0_prints_2
def dkwX0_prints_0 : List UInt8 := [27, 4, 16, 100, 184, 0, 55, 154, 0, 6, 16, 254, 172, 42, 180, 0, 20, 182, 0, 163, 61, 42]
abbrev dktX0_prints_0 : List UInt8 := dkwX0_prints_0 ++ dktX0_prints_1
theorem dksX0_prints_0 : cX0_prints.data.toList.drop 0 = dktX0_prints_0 := by decide +kernel
theorem dksX0_prints_1 : cX0_prints.data.toList.drop 22 = dktX0_prints_1 := dk_seg dksX0_prints_0 22 rfl rfl
theorem dksX0_prints_2 : cX0_prints.data.toList.drop 46 = dktX0_prints_2 := dk_seg dksX0_prints_1 24 rfl rfl
theorem dksX0_prints_3 : cX0_prints.data.toList.drop 68 = dktX0_prints_3 := dk_seg dksX0_prints_2 22 rfl rfl
theorem dX0_prints_0 : decode cX0_prints 0 = .ok (.iload_n 1, 1) := dk_27 (dk_at dksX0_prints_0 0 rfl rfl)
theorem dX0_prints_1 : decode cX0_prints 1 = .ok (.iconst 1, 1) := dk_4 (dk_at dksX0_prints_0 1 rfl rfl)
theorem dX0_prints_2 : decode cX0_prints 2 = .ok (.bipush 100, 2) := dk_16 100 (dk_at dksX0_prints_0 2 rfl rfl)
theorem dX0_prints_4 : decode cX0_prints 4 = .ok (.invokestatic 55, 3) := dk_184 0 55 (dk_at dksX0_prints_0 4 rfl rfl)
theorem dX0_prints_7 : decode cX0_prints 7 = .ok (.ifCond .ne 6, 3) := dk_154 0 6 (dk_at dksX0_prints_0 7 rfl rfl)
theorem dX0_prints_10 : decode cX0_prints 10 = .ok (.bipush (-2), 2) := dk_16 254 (dk_at dksX0_prints_0 10 rfl rfl)
theorem dX0_prints_12 : decode cX0_prints 12 = .ok (.ireturn, 1) := dk_172 (dk_at dksX0_prints_0 12 rfl rfl)
theorem dX0_prints_13 : decode cX0_prints 13 = .ok (.aload_n 0, 1) := dk_42 (dk_at dksX0_prints_0 13 rfl rfl)
theorem dX0_prints_14 : decode cX0_prints 14 = .ok (.getfield 20, 3) := dk_180 0 20 (dk_at dksX0_prints_0 14 rfl rfl)
theorem dX0_prints_17 : decode cX0_prints 17 = .ok (.invokevirtual 163, 3) := dk_182 0 163 (dk_at dksX0_prints_0 17 rfl rfl)
theorem dX0_prints_20 : decode cX0_prints 20 = .ok (.istore_n 2, 1) := dk_61 (dk_at dksX0_prints_0 20 rfl rfl)
theorem dX0_prints_21 : decode cX0_prints 21 = .ok (.aload_n 0, 1) := dk_42 (dk_at dksX0_prints_0 21 rfl rfl)
theorem dX0_prints_22 : decode cX0_prints 22 = .ok (.getfield 20, 3) := dk_180 0 20 (dk_at dksX0_prints_1 0 rfl rfl)
theorem dX0_prints_25 : decode cX0_prints 25 = .ok (.invokevirtual 160, 3) := dk_182 0 160 (dk_at dksX0_prints_1 3 rfl rfl)
theorem dX0_prints_28 : decode cX0_prints 28 = .ok (.i2l, 1) := dk_133 (dk_at dksX0_prints_1 6 rfl rfl)
theorem dX0_prints_29 : decode cX0_prints 29 = .ok (.lstore_n 3, 1) := dk_66 (dk_at dksX0_prints_1 7 rfl rfl)
theorem dX0_prints_30 : decode cX0_prints 30 = .ok (.bipush (-6), 2) := dk_16 250 (dk_at dksX0_prints_1 8 rfl rfl)
theorem dX0_prints_32 : decode cX0_prints 32 = .ok (.istore 5, 2) := dk_54 5 (dk_at dksX0_prints_1 10 rfl rfl)
theorem dX0_prints_34 : decode cX0_prints 34 = .ok (.iconst 0, 1) := dk_3 (dk_at dksX0_prints_1 12 rfl rfl)
theorem dX0_prints_35 : decode cX0_prints 35 = .ok (.istore 6, 2) := dk_54 6 (dk_at dksX0_prints_1 13 rfl rfl)
theorem dX0_prints_37 : decode cX0_prints 37 = .ok (.iload 6, 2) := dk_21 6 (dk_at dksX0_prints_1 15 rfl rfl)
theorem dX0_prints_39 : decode cX0_prints 39 = .ok (.sipush 999, 3) := dk_17 3 231 (dk_at dksX0_prints_1 17 rfl rfl)
theorem dX0_prints_42 : decode cX0_prints 42 = .ok (.if_icmp .gt 29, 3) := dk_163 0 29 (dk_at dksX0_prints_1 20 rfl rfl)
theorem dX0_prints_45 : decode cX0_prints 45 = .ok (.iload_n 2, 1) := dk_28 (dk_at dksX0_prints_1 23 rfl rfl)
theorem dX0_prints_46 : decode cX0_prints 46 = .ok (.lload_n 3, 1) := dk_33 (dk_at dksX0_prints_2 0 rfl rfl)
theorem dX0_prints_47 : decode cX0_prints 47 = .ok (.bipush 100, 2) := dk_16 100 (dk_at dksX0_prints_2 1 rfl rfl)
theorem dX0_prints_49 : decode cX0_prints 49 = .ok (.iload 6, 2) := dk_21 6 (dk_at dksX0_prints_2 3 rfl rfl)
theorem dX0_prints_51 : decode cX0_prints 51 = .ok (.imul, 1) := dk_104 (dk_at dksX0_prints_2 5 rfl rfl)
theorem dX0_prints_52 : decode cX0_prints 52 = .ok (.i2l, 1) := dk_133 (dk_at dksX0_prints_2 6 rfl rfl)
theorem dX0_prints_53 : decode cX0_prints 53 = .ok (.ladd, 1) := dk_97 (dk_at dksX0_prints_2 7 rfl rfl)
theorem dX0_prints_54 : decode cX0_prints 54 = .ok (.invokestatic 198, 3) := dk_184 0 198 (dk_at dksX0_prints_2 8 rfl rfl)
theorem dX0_prints_57 : decode cX0_prints 57 = .ok (.iload_n 1, 1) := dk_27 (dk_at dksX0_prints_2 11 rfl rfl)
theorem dX0_prints_58 : decode cX0_prints 58 = .ok (.if_icmp .lt 13, 3) := dk_161 0 13 (dk_at dksX0_prints_2 12 rfl rfl)
theorem dX0_prints_61 : decode cX0_prints 61 = .ok (.iload 6, 2) := dk_21 6 (dk_at dksX0_prints_2 15 rfl rfl)
theorem dX0_prints_63 : decode cX0_prints 63 = .ok (.istore 5, 2) := dk_54 5 (dk_at dksX0_prints_2 17 rfl rfl)
theorem dX0_prints_65 : decode cX0_prints 65 = .ok (.iinc 6 1, 3) := dk_132 6 1 (dk_at dksX0_prints_2 19 rfl rfl)
theorem dX0_prints_68 : decode cX0_prints 68 = .ok (.goto (-31), 3) := dk_167 255 225 (dk_at dksX0_prints_3 0 rfl rfl)
theorem dX0_prints_71 : decode cX0_prints 71 = .ok (.iload 5, 2) := dk_21 5 (dk_at dksX0_prints_3 3 rfl rfl)
theorem dX0_prints_73 : decode cX0_prints 73 = .ok (.ireturn, 1) := dk_172 (dk_at dksX0_prints_3 5 rfl rfl)
abbrev cX0_buys : ByteArray := prog_1_method_31_code
def yX0_buys : MethodName := ⟨RX0, "buys", "(II)I"⟩
def dkwX0_buys_8 : List UInt8 := [21, 4, 172]
abbrev dktX0_buys_8 : List UInt8 := dkwX0_buys_8 ++ []
def dkwX0_buys_7 : List UInt8 := [153, 0, 8, 21, 6, 167, 0, 4, 29, 62, 132, 5, 1, 167, 255, 111, 28, 154, 0, 7, 29, 167, 0, 5]
abbrev dktX0_buys_7 : List UInt8 := dkwX0_buys_7 ++ dktX0_buys_8
def dkwX0_buys_6 : List UInt8 := [167, 0, 4, 3, 54, 8, 21, 8, 153, 0, 8, 21, 5, 167, 0, 5, 21, 4, 54, 4, 21, 8]
abbrev dktX0_buys_6 : List UInt8 := dkwX0_buys_6 ++ dktX0_buys_7
def dkwX0_buys_5 : List UInt8 := [132, 8, 1, 167, 255, 184, 21, 7, 153, 0, 19, 21, 6, 27, 163, 0, 13, 21, 6, 29, 164, 0, 7, 4]
abbrev dktX0_buys_5 : List UInt8 := dkwX0_buys_5 ++ dktX0_buys_6
def dkwX0_buys_4 : List UInt8 := [153, 0, 16, 42, 180, 0, 20, 180, 0, 83, 21, 8, 46, 156, 0, 7, 4, 167, 0, 4, 3, 126, 54, 7]
abbrev dktX0_buys_4 : List UInt8 := dkwX0_buys_4 ++ dktX0_buys_5
def dkwX0_buys_3 : List UInt8 := [180, 0, 80, 21, 8, 46, 167, 0, 4, 3, 96, 54, 6, 21, 7, 21, 5, 21, 8, 184, 0, 177]
abbrev dktX0_buys_3 : List UInt8 := dkwX0_buys_3 ++ dktX0_buys_4
def dkwX0_buys_2 : List UInt8 := [21, 8, 16, 8, 162, 0, 71, 21, 6, 21, 5, 21, 8, 184, 0, 177, 153, 0, 16, 42, 180, 0, 20]
abbrev dktX0_buys_2 : List UInt8 := dkwX0_buys_2 ++ dktX0_buys_3
def dkwX0_buys_1 : List UInt8 := [62, 3, 54, 4, 3, 54, 5, 21, 5, 17, 1, 0, 162, 0, 143, 3, 54, 6, 4, 54, 7, 3, 54, 8]
abbrev dktX0_buys_1 : List UInt8 := dkwX0_buys_1 ++ dktX0_buys_2
def dkwX0_buys_0 : List UInt8 := [27, 3, 17, 39, 15, 184, 0, 55, 153, 0, 12, 28, 3, 4, 184, 0, 55, 154, 0, 6, 16, 254, 172, 3]
abbrev dktX0_buys_0 : List UInt8 := dkwX0_buys_0 ++ dktX0_buys_1
theorem dksX0_buys_0 : cX0_buys.data.toList.drop 0 = dktX0_buys_0 := by decide +kernel
theorem dksX0_buys_1 : cX0_buys.data.toList.drop 24 = dktX0_buys_1 := dk_seg dksX0_buys_0 24 rfl rfl
theorem dksX0_buys_2 : cX0_buys.data.toList.drop 48 = dktX0_buys_2 := dk_seg dksX0_buys_1 24 rfl rfl
theorem dksX0_buys_3 : cX0_buys.data.toList.drop 71 = dktX0_buys_3 := dk_seg dksX0_buys_2 23 rfl rfl
theorem dksX0_buys_4 : cX0_buys.data.toList.drop 93 = dktX0_buys_4 := dk_seg dksX0_buys_3 22 rfl rfl
theorem dksX0_buys_5 : cX0_buys.data.toList.drop 117 = dktX0_buys_5 := dk_seg dksX0_buys_4 24 rfl rfl
theorem dksX0_buys_6 : cX0_buys.data.toList.drop 141 = dktX0_buys_6 := dk_seg dksX0_buys_5 24 rfl rfl
theorem dksX0_buys_7 : cX0_buys.data.toList.drop 163 = dktX0_buys_7 := dk_seg dksX0_buys_6 22 rfl rfl
theorem dksX0_buys_8 : cX0_buys.data.toList.drop 187 = dktX0_buys_8 := dk_seg dksX0_buys_7 24 rfl rfl
theorem dX0_buys_0 : decode cX0_buys 0 = .ok (.iload_n 1, 1) := dk_27 (dk_at dksX0_buys_0 0 rfl rfl)
theorem dX0_buys_1 : decode cX0_buys 1 = .ok (.iconst 0, 1) := dk_3 (dk_at dksX0_buys_0 1 rfl rfl)
theorem dX0_buys_2 : decode cX0_buys 2 = .ok (.sipush 9999, 3) := dk_17 39 15 (dk_at dksX0_buys_0 2 rfl rfl)
theorem dX0_buys_5 : decode cX0_buys 5 = .ok (.invokestatic 55, 3) := dk_184 0 55 (dk_at dksX0_buys_0 5 rfl rfl)
theorem dX0_buys_8 : decode cX0_buys 8 = .ok (.ifCond .eq 12, 3) := dk_153 0 12 (dk_at dksX0_buys_0 8 rfl rfl)
theorem dX0_buys_11 : decode cX0_buys 11 = .ok (.iload_n 2, 1) := dk_28 (dk_at dksX0_buys_0 11 rfl rfl)
theorem dX0_buys_12 : decode cX0_buys 12 = .ok (.iconst 0, 1) := dk_3 (dk_at dksX0_buys_0 12 rfl rfl)
theorem dX0_buys_13 : decode cX0_buys 13 = .ok (.iconst 1, 1) := dk_4 (dk_at dksX0_buys_0 13 rfl rfl)
theorem dX0_buys_14 : decode cX0_buys 14 = .ok (.invokestatic 55, 3) := dk_184 0 55 (dk_at dksX0_buys_0 14 rfl rfl)
theorem dX0_buys_17 : decode cX0_buys 17 = .ok (.ifCond .ne 6, 3) := dk_154 0 6 (dk_at dksX0_buys_0 17 rfl rfl)
theorem dX0_buys_20 : decode cX0_buys 20 = .ok (.bipush (-2), 2) := dk_16 254 (dk_at dksX0_buys_0 20 rfl rfl)
theorem dX0_buys_22 : decode cX0_buys 22 = .ok (.ireturn, 1) := dk_172 (dk_at dksX0_buys_0 22 rfl rfl)
theorem dX0_buys_23 : decode cX0_buys 23 = .ok (.iconst 0, 1) := dk_3 (dk_at dksX0_buys_0 23 rfl rfl)
theorem dX0_buys_24 : decode cX0_buys 24 = .ok (.istore_n 3, 1) := dk_62 (dk_at dksX0_buys_1 0 rfl rfl)
theorem dX0_buys_25 : decode cX0_buys 25 = .ok (.iconst 0, 1) := dk_3 (dk_at dksX0_buys_1 1 rfl rfl)
theorem dX0_buys_26 : decode cX0_buys 26 = .ok (.istore 4, 2) := dk_54 4 (dk_at dksX0_buys_1 2 rfl rfl)
theorem dX0_buys_28 : decode cX0_buys 28 = .ok (.iconst 0, 1) := dk_3 (dk_at dksX0_buys_1 4 rfl rfl)
theorem dX0_buys_29 : decode cX0_buys 29 = .ok (.istore 5, 2) := dk_54 5 (dk_at dksX0_buys_1 5 rfl rfl)
theorem dX0_buys_31 : decode cX0_buys 31 = .ok (.iload 5, 2) := dk_21 5 (dk_at dksX0_buys_1 7 rfl rfl)
theorem dX0_buys_33 : decode cX0_buys 33 = .ok (.sipush 256, 3) := dk_17 1 0 (dk_at dksX0_buys_1 9 rfl rfl)
theorem dX0_buys_36 : decode cX0_buys 36 = .ok (.if_icmp .ge 143, 3) := dk_162 0 143 (dk_at dksX0_buys_1 12 rfl rfl)
theorem dX0_buys_39 : decode cX0_buys 39 = .ok (.iconst 0, 1) := dk_3 (dk_at dksX0_buys_1 15 rfl rfl)
theorem dX0_buys_40 : decode cX0_buys 40 = .ok (.istore 6, 2) := dk_54 6 (dk_at dksX0_buys_1 16 rfl rfl)
theorem dX0_buys_42 : decode cX0_buys 42 = .ok (.iconst 1, 1) := dk_4 (dk_at dksX0_buys_1 18 rfl rfl)
theorem dX0_buys_43 : decode cX0_buys 43 = .ok (.istore 7, 2) := dk_54 7 (dk_at dksX0_buys_1 19 rfl rfl)
theorem dX0_buys_45 : decode cX0_buys 45 = .ok (.iconst 0, 1) := dk_3 (dk_at dksX0_buys_1 21 rfl rfl)
theorem dX0_buys_46 : decode cX0_buys 46 = .ok (.istore 8, 2) := dk_54 8 (dk_at dksX0_buys_1 22 rfl rfl)
theorem dX0_buys_48 : decode cX0_buys 48 = .ok (.iload 8, 2) := dk_21 8 (dk_at dksX0_buys_2 0 rfl rfl)
theorem dX0_buys_50 : decode cX0_buys 50 = .ok (.bipush 8, 2) := dk_16 8 (dk_at dksX0_buys_2 2 rfl rfl)
theorem dX0_buys_52 : decode cX0_buys 52 = .ok (.if_icmp .ge 71, 3) := dk_162 0 71 (dk_at dksX0_buys_2 4 rfl rfl)
theorem dX0_buys_55 : decode cX0_buys 55 = .ok (.iload 6, 2) := dk_21 6 (dk_at dksX0_buys_2 7 rfl rfl)
theorem dX0_buys_57 : decode cX0_buys 57 = .ok (.iload 5, 2) := dk_21 5 (dk_at dksX0_buys_2 9 rfl rfl)
theorem dX0_buys_59 : decode cX0_buys 59 = .ok (.iload 8, 2) := dk_21 8 (dk_at dksX0_buys_2 11 rfl rfl)
theorem dX0_buys_61 : decode cX0_buys 61 = .ok (.invokestatic 177, 3) := dk_184 0 177 (dk_at dksX0_buys_2 13 rfl rfl)
theorem dX0_buys_64 : decode cX0_buys 64 = .ok (.ifCond .eq 16, 3) := dk_153 0 16 (dk_at dksX0_buys_2 16 rfl rfl)
theorem dX0_buys_67 : decode cX0_buys 67 = .ok (.aload_n 0, 1) := dk_42 (dk_at dksX0_buys_2 19 rfl rfl)
theorem dX0_buys_68 : decode cX0_buys 68 = .ok (.getfield 20, 3) := dk_180 0 20 (dk_at dksX0_buys_2 20 rfl rfl)
theorem dX0_buys_71 : decode cX0_buys 71 = .ok (.getfield 80, 3) := dk_180 0 80 (dk_at dksX0_buys_3 0 rfl rfl)
theorem dX0_buys_74 : decode cX0_buys 74 = .ok (.iload 8, 2) := dk_21 8 (dk_at dksX0_buys_3 3 rfl rfl)
theorem dX0_buys_76 : decode cX0_buys 76 = .ok (.iaload, 1) := dk_46 (dk_at dksX0_buys_3 5 rfl rfl)
theorem dX0_buys_77 : decode cX0_buys 77 = .ok (.goto 4, 3) := dk_167 0 4 (dk_at dksX0_buys_3 6 rfl rfl)
theorem dX0_buys_80 : decode cX0_buys 80 = .ok (.iconst 0, 1) := dk_3 (dk_at dksX0_buys_3 9 rfl rfl)
theorem dX0_buys_81 : decode cX0_buys 81 = .ok (.iadd, 1) := dk_96 (dk_at dksX0_buys_3 10 rfl rfl)
theorem dX0_buys_82 : decode cX0_buys 82 = .ok (.istore 6, 2) := dk_54 6 (dk_at dksX0_buys_3 11 rfl rfl)
theorem dX0_buys_84 : decode cX0_buys 84 = .ok (.iload 7, 2) := dk_21 7 (dk_at dksX0_buys_3 13 rfl rfl)
theorem dX0_buys_86 : decode cX0_buys 86 = .ok (.iload 5, 2) := dk_21 5 (dk_at dksX0_buys_3 15 rfl rfl)
theorem dX0_buys_88 : decode cX0_buys 88 = .ok (.iload 8, 2) := dk_21 8 (dk_at dksX0_buys_3 17 rfl rfl)
theorem dX0_buys_90 : decode cX0_buys 90 = .ok (.invokestatic 177, 3) := dk_184 0 177 (dk_at dksX0_buys_3 19 rfl rfl)
theorem dX0_buys_93 : decode cX0_buys 93 = .ok (.ifCond .eq 16, 3) := dk_153 0 16 (dk_at dksX0_buys_4 0 rfl rfl)
theorem dX0_buys_96 : decode cX0_buys 96 = .ok (.aload_n 0, 1) := dk_42 (dk_at dksX0_buys_4 3 rfl rfl)
theorem dX0_buys_97 : decode cX0_buys 97 = .ok (.getfield 20, 3) := dk_180 0 20 (dk_at dksX0_buys_4 4 rfl rfl)
theorem dX0_buys_100 : decode cX0_buys 100 = .ok (.getfield 83, 3) := dk_180 0 83 (dk_at dksX0_buys_4 7 rfl rfl)
theorem dX0_buys_103 : decode cX0_buys 103 = .ok (.iload 8, 2) := dk_21 8 (dk_at dksX0_buys_4 10 rfl rfl)
theorem dX0_buys_105 : decode cX0_buys 105 = .ok (.iaload, 1) := dk_46 (dk_at dksX0_buys_4 12 rfl rfl)
theorem dX0_buys_106 : decode cX0_buys 106 = .ok (.ifCond .ge 7, 3) := dk_156 0 7 (dk_at dksX0_buys_4 13 rfl rfl)
theorem dX0_buys_109 : decode cX0_buys 109 = .ok (.iconst 1, 1) := dk_4 (dk_at dksX0_buys_4 16 rfl rfl)
theorem dX0_buys_110 : decode cX0_buys 110 = .ok (.goto 4, 3) := dk_167 0 4 (dk_at dksX0_buys_4 17 rfl rfl)
theorem dX0_buys_113 : decode cX0_buys 113 = .ok (.iconst 0, 1) := dk_3 (dk_at dksX0_buys_4 20 rfl rfl)
theorem dX0_buys_114 : decode cX0_buys 114 = .ok (.iand, 1) := dk_126 (dk_at dksX0_buys_4 21 rfl rfl)
theorem dX0_buys_115 : decode cX0_buys 115 = .ok (.istore 7, 2) := dk_54 7 (dk_at dksX0_buys_4 22 rfl rfl)
theorem dX0_buys_117 : decode cX0_buys 117 = .ok (.iinc 8 1, 3) := dk_132 8 1 (dk_at dksX0_buys_5 0 rfl rfl)
theorem dX0_buys_120 : decode cX0_buys 120 = .ok (.goto (-72), 3) := dk_167 255 184 (dk_at dksX0_buys_5 3 rfl rfl)
theorem dX0_buys_123 : decode cX0_buys 123 = .ok (.iload 7, 2) := dk_21 7 (dk_at dksX0_buys_5 6 rfl rfl)
theorem dX0_buys_125 : decode cX0_buys 125 = .ok (.ifCond .eq 19, 3) := dk_153 0 19 (dk_at dksX0_buys_5 8 rfl rfl)
theorem dX0_buys_128 : decode cX0_buys 128 = .ok (.iload 6, 2) := dk_21 6 (dk_at dksX0_buys_5 11 rfl rfl)
theorem dX0_buys_130 : decode cX0_buys 130 = .ok (.iload_n 1, 1) := dk_27 (dk_at dksX0_buys_5 13 rfl rfl)
theorem dX0_buys_131 : decode cX0_buys 131 = .ok (.if_icmp .gt 13, 3) := dk_163 0 13 (dk_at dksX0_buys_5 14 rfl rfl)
theorem dX0_buys_134 : decode cX0_buys 134 = .ok (.iload 6, 2) := dk_21 6 (dk_at dksX0_buys_5 17 rfl rfl)
theorem dX0_buys_136 : decode cX0_buys 136 = .ok (.iload_n 3, 1) := dk_29 (dk_at dksX0_buys_5 19 rfl rfl)
theorem dX0_buys_137 : decode cX0_buys 137 = .ok (.if_icmp .le 7, 3) := dk_164 0 7 (dk_at dksX0_buys_5 20 rfl rfl)
theorem dX0_buys_140 : decode cX0_buys 140 = .ok (.iconst 1, 1) := dk_4 (dk_at dksX0_buys_5 23 rfl rfl)
theorem dX0_buys_141 : decode cX0_buys 141 = .ok (.goto 4, 3) := dk_167 0 4 (dk_at dksX0_buys_6 0 rfl rfl)
theorem dX0_buys_144 : decode cX0_buys 144 = .ok (.iconst 0, 1) := dk_3 (dk_at dksX0_buys_6 3 rfl rfl)
theorem dX0_buys_145 : decode cX0_buys 145 = .ok (.istore 8, 2) := dk_54 8 (dk_at dksX0_buys_6 4 rfl rfl)
theorem dX0_buys_147 : decode cX0_buys 147 = .ok (.iload 8, 2) := dk_21 8 (dk_at dksX0_buys_6 6 rfl rfl)
theorem dX0_buys_149 : decode cX0_buys 149 = .ok (.ifCond .eq 8, 3) := dk_153 0 8 (dk_at dksX0_buys_6 8 rfl rfl)
theorem dX0_buys_152 : decode cX0_buys 152 = .ok (.iload 5, 2) := dk_21 5 (dk_at dksX0_buys_6 11 rfl rfl)
theorem dX0_buys_154 : decode cX0_buys 154 = .ok (.goto 5, 3) := dk_167 0 5 (dk_at dksX0_buys_6 13 rfl rfl)
theorem dX0_buys_157 : decode cX0_buys 157 = .ok (.iload 4, 2) := dk_21 4 (dk_at dksX0_buys_6 16 rfl rfl)
theorem dX0_buys_159 : decode cX0_buys 159 = .ok (.istore 4, 2) := dk_54 4 (dk_at dksX0_buys_6 18 rfl rfl)
theorem dX0_buys_161 : decode cX0_buys 161 = .ok (.iload 8, 2) := dk_21 8 (dk_at dksX0_buys_6 20 rfl rfl)
theorem dX0_buys_163 : decode cX0_buys 163 = .ok (.ifCond .eq 8, 3) := dk_153 0 8 (dk_at dksX0_buys_7 0 rfl rfl)
theorem dX0_buys_166 : decode cX0_buys 166 = .ok (.iload 6, 2) := dk_21 6 (dk_at dksX0_buys_7 3 rfl rfl)
theorem dX0_buys_168 : decode cX0_buys 168 = .ok (.goto 4, 3) := dk_167 0 4 (dk_at dksX0_buys_7 5 rfl rfl)
theorem dX0_buys_171 : decode cX0_buys 171 = .ok (.iload_n 3, 1) := dk_29 (dk_at dksX0_buys_7 8 rfl rfl)
theorem dX0_buys_172 : decode cX0_buys 172 = .ok (.istore_n 3, 1) := dk_62 (dk_at dksX0_buys_7 9 rfl rfl)
theorem dX0_buys_173 : decode cX0_buys 173 = .ok (.iinc 5 1, 3) := dk_132 5 1 (dk_at dksX0_buys_7 10 rfl rfl)
theorem dX0_buys_176 : decode cX0_buys 176 = .ok (.goto (-145), 3) := dk_167 255 111 (dk_at dksX0_buys_7 13 rfl rfl)
theorem dX0_buys_179 : decode cX0_buys 179 = .ok (.iload_n 2, 1) := dk_28 (dk_at dksX0_buys_7 16 rfl rfl)
theorem dX0_buys_180 : decode cX0_buys 180 = .ok (.ifCond .ne 7, 3) := dk_154 0 7 (dk_at dksX0_buys_7 17 rfl rfl)
theorem dX0_buys_183 : decode cX0_buys 183 = .ok (.iload_n 3, 1) := dk_29 (dk_at dksX0_buys_7 20 rfl rfl)
theorem dX0_buys_184 : decode cX0_buys 184 = .ok (.goto 5, 3) := dk_167 0 5 (dk_at dksX0_buys_7 21 rfl rfl)
theorem dX0_buys_187 : decode cX0_buys 187 = .ok (.iload 4, 2) := dk_21 4 (dk_at dksX0_buys_8 0 rfl rfl)
theorem dX0_buys_189 : decode cX0_buys 189 = .ok (.ireturn, 1) := dk_172 (dk_at dksX0_buys_8 2 rfl rfl)
abbrev cX0_runs : ByteArray := prog_1_method_32_code
def yX0_runs : MethodName := ⟨RX0, "runs", "(III)I"⟩
def dkwX0_runs_4 : List UInt8 := [97, 97, 55, 5, 132, 7, 1, 167, 255, 203, 16, 250, 172]
abbrev dktX0_runs_4 : List UInt8 := dkwX0_runs_4 ++ []
def dkwX0_runs_3 : List UInt8 := [21, 7, 172, 22, 5, 22, 5, 28, 133, 105, 20, 0, 3, 109, 20, 0, 3, 16, 100, 21, 8, 100, 133, 105]
abbrev dktX0_runs_3 : List UInt8 := dkwX0_runs_3 ++ dktX0_runs_4
def dkwX0_runs_2 : List UInt8 := [54, 7, 21, 7, 16, 100, 163, 0, 52, 21, 4, 22, 5, 184, 0, 198, 54, 8, 21, 8, 29, 162, 0, 6]
abbrev dktX0_runs_2 : List UInt8 := dkwX0_runs_2 ++ dktX0_runs_3
def dkwX0_runs_1 : List UInt8 := [184, 0, 55, 154, 0, 6, 16, 254, 172, 42, 180, 0, 20, 182, 0, 163, 54, 4, 27, 133, 55, 5, 3]
abbrev dktX0_runs_1 : List UInt8 := dkwX0_runs_1 ++ dktX0_runs_2
def dkwX0_runs_0 : List UInt8 := [27, 4, 18, 86, 184, 0, 55, 153, 0, 23, 28, 3, 16, 99, 184, 0, 55, 153, 0, 13, 29, 4, 16, 100]
abbrev dktX0_runs_0 : List UInt8 := dkwX0_runs_0 ++ dktX0_runs_1
theorem dksX0_runs_0 : cX0_runs.data.toList.drop 0 = dktX0_runs_0 := by decide +kernel
theorem dksX0_runs_1 : cX0_runs.data.toList.drop 24 = dktX0_runs_1 := dk_seg dksX0_runs_0 24 rfl rfl
theorem dksX0_runs_2 : cX0_runs.data.toList.drop 47 = dktX0_runs_2 := dk_seg dksX0_runs_1 23 rfl rfl
theorem dksX0_runs_3 : cX0_runs.data.toList.drop 71 = dktX0_runs_3 := dk_seg dksX0_runs_2 24 rfl rfl
theorem dksX0_runs_4 : cX0_runs.data.toList.drop 95 = dktX0_runs_4 := dk_seg dksX0_runs_3 24 rfl rfl
theorem dX0_runs_0 : decode cX0_runs 0 = .ok (.iload_n 1, 1) := dk_27 (dk_at dksX0_runs_0 0 rfl rfl)
theorem dX0_runs_1 : decode cX0_runs 1 = .ok (.iconst 1, 1) := dk_4 (dk_at dksX0_runs_0 1 rfl rfl)
theorem dX0_runs_2 : decode cX0_runs 2 = .ok (.ldc 86, 2) := dk_18 86 (dk_at dksX0_runs_0 2 rfl rfl)
theorem dX0_runs_4 : decode cX0_runs 4 = .ok (.invokestatic 55, 3) := dk_184 0 55 (dk_at dksX0_runs_0 4 rfl rfl)
theorem dX0_runs_7 : decode cX0_runs 7 = .ok (.ifCond .eq 23, 3) := dk_153 0 23 (dk_at dksX0_runs_0 7 rfl rfl)
theorem dX0_runs_10 : decode cX0_runs 10 = .ok (.iload_n 2, 1) := dk_28 (dk_at dksX0_runs_0 10 rfl rfl)
theorem dX0_runs_11 : decode cX0_runs 11 = .ok (.iconst 0, 1) := dk_3 (dk_at dksX0_runs_0 11 rfl rfl)
theorem dX0_runs_12 : decode cX0_runs 12 = .ok (.bipush 99, 2) := dk_16 99 (dk_at dksX0_runs_0 12 rfl rfl)
theorem dX0_runs_14 : decode cX0_runs 14 = .ok (.invokestatic 55, 3) := dk_184 0 55 (dk_at dksX0_runs_0 14 rfl rfl)
theorem dX0_runs_17 : decode cX0_runs 17 = .ok (.ifCond .eq 13, 3) := dk_153 0 13 (dk_at dksX0_runs_0 17 rfl rfl)
theorem dX0_runs_20 : decode cX0_runs 20 = .ok (.iload_n 3, 1) := dk_29 (dk_at dksX0_runs_0 20 rfl rfl)
theorem dX0_runs_21 : decode cX0_runs 21 = .ok (.iconst 1, 1) := dk_4 (dk_at dksX0_runs_0 21 rfl rfl)
theorem dX0_runs_22 : decode cX0_runs 22 = .ok (.bipush 100, 2) := dk_16 100 (dk_at dksX0_runs_0 22 rfl rfl)
theorem dX0_runs_24 : decode cX0_runs 24 = .ok (.invokestatic 55, 3) := dk_184 0 55 (dk_at dksX0_runs_1 0 rfl rfl)
theorem dX0_runs_27 : decode cX0_runs 27 = .ok (.ifCond .ne 6, 3) := dk_154 0 6 (dk_at dksX0_runs_1 3 rfl rfl)
theorem dX0_runs_30 : decode cX0_runs 30 = .ok (.bipush (-2), 2) := dk_16 254 (dk_at dksX0_runs_1 6 rfl rfl)
theorem dX0_runs_32 : decode cX0_runs 32 = .ok (.ireturn, 1) := dk_172 (dk_at dksX0_runs_1 8 rfl rfl)
theorem dX0_runs_33 : decode cX0_runs 33 = .ok (.aload_n 0, 1) := dk_42 (dk_at dksX0_runs_1 9 rfl rfl)
theorem dX0_runs_34 : decode cX0_runs 34 = .ok (.getfield 20, 3) := dk_180 0 20 (dk_at dksX0_runs_1 10 rfl rfl)
theorem dX0_runs_37 : decode cX0_runs 37 = .ok (.invokevirtual 163, 3) := dk_182 0 163 (dk_at dksX0_runs_1 13 rfl rfl)
theorem dX0_runs_40 : decode cX0_runs 40 = .ok (.istore 4, 2) := dk_54 4 (dk_at dksX0_runs_1 16 rfl rfl)
theorem dX0_runs_42 : decode cX0_runs 42 = .ok (.iload_n 1, 1) := dk_27 (dk_at dksX0_runs_1 18 rfl rfl)
theorem dX0_runs_43 : decode cX0_runs 43 = .ok (.i2l, 1) := dk_133 (dk_at dksX0_runs_1 19 rfl rfl)
theorem dX0_runs_44 : decode cX0_runs 44 = .ok (.lstore 5, 2) := dk_55 5 (dk_at dksX0_runs_1 20 rfl rfl)
theorem dX0_runs_46 : decode cX0_runs 46 = .ok (.iconst 0, 1) := dk_3 (dk_at dksX0_runs_1 22 rfl rfl)
theorem dX0_runs_47 : decode cX0_runs 47 = .ok (.istore 7, 2) := dk_54 7 (dk_at dksX0_runs_2 0 rfl rfl)
theorem dX0_runs_49 : decode cX0_runs 49 = .ok (.iload 7, 2) := dk_21 7 (dk_at dksX0_runs_2 2 rfl rfl)
theorem dX0_runs_51 : decode cX0_runs 51 = .ok (.bipush 100, 2) := dk_16 100 (dk_at dksX0_runs_2 4 rfl rfl)
theorem dX0_runs_53 : decode cX0_runs 53 = .ok (.if_icmp .gt 52, 3) := dk_163 0 52 (dk_at dksX0_runs_2 6 rfl rfl)
theorem dX0_runs_56 : decode cX0_runs 56 = .ok (.iload 4, 2) := dk_21 4 (dk_at dksX0_runs_2 9 rfl rfl)
theorem dX0_runs_58 : decode cX0_runs 58 = .ok (.lload 5, 2) := dk_22 5 (dk_at dksX0_runs_2 11 rfl rfl)
theorem dX0_runs_60 : decode cX0_runs 60 = .ok (.invokestatic 198, 3) := dk_184 0 198 (dk_at dksX0_runs_2 13 rfl rfl)
theorem dX0_runs_63 : decode cX0_runs 63 = .ok (.istore 8, 2) := dk_54 8 (dk_at dksX0_runs_2 16 rfl rfl)
theorem dX0_runs_65 : decode cX0_runs 65 = .ok (.iload 8, 2) := dk_21 8 (dk_at dksX0_runs_2 18 rfl rfl)
theorem dX0_runs_67 : decode cX0_runs 67 = .ok (.iload_n 3, 1) := dk_29 (dk_at dksX0_runs_2 20 rfl rfl)
theorem dX0_runs_68 : decode cX0_runs 68 = .ok (.if_icmp .ge 6, 3) := dk_162 0 6 (dk_at dksX0_runs_2 21 rfl rfl)
theorem dX0_runs_71 : decode cX0_runs 71 = .ok (.iload 7, 2) := dk_21 7 (dk_at dksX0_runs_3 0 rfl rfl)
theorem dX0_runs_73 : decode cX0_runs 73 = .ok (.ireturn, 1) := dk_172 (dk_at dksX0_runs_3 2 rfl rfl)
theorem dX0_runs_74 : decode cX0_runs 74 = .ok (.lload 5, 2) := dk_22 5 (dk_at dksX0_runs_3 3 rfl rfl)
theorem dX0_runs_76 : decode cX0_runs 76 = .ok (.lload 5, 2) := dk_22 5 (dk_at dksX0_runs_3 5 rfl rfl)
theorem dX0_runs_78 : decode cX0_runs 78 = .ok (.iload_n 2, 1) := dk_28 (dk_at dksX0_runs_3 7 rfl rfl)
theorem dX0_runs_79 : decode cX0_runs 79 = .ok (.i2l, 1) := dk_133 (dk_at dksX0_runs_3 8 rfl rfl)
theorem dX0_runs_80 : decode cX0_runs 80 = .ok (.lmul, 1) := dk_105 (dk_at dksX0_runs_3 9 rfl rfl)
theorem dX0_runs_81 : decode cX0_runs 81 = .ok (.ldc2_w 3, 3) := dk_20 0 3 (dk_at dksX0_runs_3 10 rfl rfl)
theorem dX0_runs_84 : decode cX0_runs 84 = .ok (.ldiv, 1) := dk_109 (dk_at dksX0_runs_3 13 rfl rfl)
theorem dX0_runs_85 : decode cX0_runs 85 = .ok (.ldc2_w 3, 3) := dk_20 0 3 (dk_at dksX0_runs_3 14 rfl rfl)
theorem dX0_runs_88 : decode cX0_runs 88 = .ok (.bipush 100, 2) := dk_16 100 (dk_at dksX0_runs_3 17 rfl rfl)
theorem dX0_runs_90 : decode cX0_runs 90 = .ok (.iload 8, 2) := dk_21 8 (dk_at dksX0_runs_3 19 rfl rfl)
theorem dX0_runs_92 : decode cX0_runs 92 = .ok (.isub, 1) := dk_100 (dk_at dksX0_runs_3 21 rfl rfl)
theorem dX0_runs_93 : decode cX0_runs 93 = .ok (.i2l, 1) := dk_133 (dk_at dksX0_runs_3 22 rfl rfl)
theorem dX0_runs_94 : decode cX0_runs 94 = .ok (.lmul, 1) := dk_105 (dk_at dksX0_runs_3 23 rfl rfl)
theorem dX0_runs_95 : decode cX0_runs 95 = .ok (.ladd, 1) := dk_97 (dk_at dksX0_runs_4 0 rfl rfl)
theorem dX0_runs_96 : decode cX0_runs 96 = .ok (.ladd, 1) := dk_97 (dk_at dksX0_runs_4 1 rfl rfl)
theorem dX0_runs_97 : decode cX0_runs 97 = .ok (.lstore 5, 2) := dk_55 5 (dk_at dksX0_runs_4 2 rfl rfl)
theorem dX0_runs_99 : decode cX0_runs 99 = .ok (.iinc 7 1, 3) := dk_132 7 1 (dk_at dksX0_runs_4 4 rfl rfl)
theorem dX0_runs_102 : decode cX0_runs 102 = .ok (.goto (-53), 3) := dk_167 255 203 (dk_at dksX0_runs_4 7 rfl rfl)
theorem dX0_runs_105 : decode cX0_runs 105 = .ok (.bipush (-6), 2) := dk_16 250 (dk_at dksX0_runs_4 10 rfl rfl)
theorem dX0_runs_107 : decode cX0_runs 107 = .ok (.ireturn, 1) := dk_172 (dk_at dksX0_runs_4 12 rfl rfl)
abbrev cX0_wages : ByteArray := prog_1_method_34_code
def yX0_wages : MethodName := ⟨RX0, "wages", "(II)I"⟩
def dkwX0_wages_3 : List UInt8 := [184, 0, 183, 96, 62, 132, 4, 1, 167, 255, 206, 29, 172]
abbrev dktX0_wages_3 : List UInt8 := dkwX0_wages_3 ++ []
def dkwX0_wages_2 : List UInt8 := [28, 100, 16, 9, 184, 0, 203, 54, 5, 29, 3, 27, 21, 4, 16, 9, 184, 0, 203, 21, 5, 100]
abbrev dktX0_wages_2 : List UInt8 := dkwX0_wages_2 ++ dktX0_wages_3
def dkwX0_wages_1 : List UInt8 := [62, 3, 54, 4, 21, 4, 16, 9, 162, 0, 49, 21, 4, 28, 162, 0, 7, 3, 167, 0, 13, 27, 21, 4]
abbrev dktX0_wages_1 : List UInt8 := dkwX0_wages_1 ++ dktX0_wages_2
def dkwX0_wages_0 : List UInt8 := [27, 3, 18, 202, 184, 0, 55, 153, 0, 13, 28, 3, 16, 8, 184, 0, 55, 154, 0, 6, 16, 254, 172, 3]
abbrev dktX0_wages_0 : List UInt8 := dkwX0_wages_0 ++ dktX0_wages_1
theorem dksX0_wages_0 : cX0_wages.data.toList.drop 0 = dktX0_wages_0 := by decide +kernel
theorem dksX0_wages_1 : cX0_wages.data.toList.drop 24 = dktX0_wages_1 := dk_seg dksX0_wages_0 24 rfl rfl
theorem dksX0_wages_2 : cX0_wages.data.toList.drop 48 = dktX0_wages_2 := dk_seg dksX0_wages_1 24 rfl rfl
theorem dksX0_wages_3 : cX0_wages.data.toList.drop 70 = dktX0_wages_3 := dk_seg dksX0_wages_2 22 rfl rfl
theorem dX0_wages_0 : decode cX0_wages 0 = .ok (.iload_n 1, 1) := dk_27 (dk_at dksX0_wages_0 0 rfl rfl)
theorem dX0_wages_1 : decode cX0_wages 1 = .ok (.iconst 0, 1) := dk_3 (dk_at dksX0_wages_0 1 rfl rfl)
theorem dX0_wages_2 : decode cX0_wages 2 = .ok (.ldc 202, 2) := dk_18 202 (dk_at dksX0_wages_0 2 rfl rfl)
theorem dX0_wages_4 : decode cX0_wages 4 = .ok (.invokestatic 55, 3) := dk_184 0 55 (dk_at dksX0_wages_0 4 rfl rfl)
theorem dX0_wages_7 : decode cX0_wages 7 = .ok (.ifCond .eq 13, 3) := dk_153 0 13 (dk_at dksX0_wages_0 7 rfl rfl)
theorem dX0_wages_10 : decode cX0_wages 10 = .ok (.iload_n 2, 1) := dk_28 (dk_at dksX0_wages_0 10 rfl rfl)
theorem dX0_wages_11 : decode cX0_wages 11 = .ok (.iconst 0, 1) := dk_3 (dk_at dksX0_wages_0 11 rfl rfl)
theorem dX0_wages_12 : decode cX0_wages 12 = .ok (.bipush 8, 2) := dk_16 8 (dk_at dksX0_wages_0 12 rfl rfl)
theorem dX0_wages_14 : decode cX0_wages 14 = .ok (.invokestatic 55, 3) := dk_184 0 55 (dk_at dksX0_wages_0 14 rfl rfl)
theorem dX0_wages_17 : decode cX0_wages 17 = .ok (.ifCond .ne 6, 3) := dk_154 0 6 (dk_at dksX0_wages_0 17 rfl rfl)
theorem dX0_wages_20 : decode cX0_wages 20 = .ok (.bipush (-2), 2) := dk_16 254 (dk_at dksX0_wages_0 20 rfl rfl)
theorem dX0_wages_22 : decode cX0_wages 22 = .ok (.ireturn, 1) := dk_172 (dk_at dksX0_wages_0 22 rfl rfl)
theorem dX0_wages_23 : decode cX0_wages 23 = .ok (.iconst 0, 1) := dk_3 (dk_at dksX0_wages_0 23 rfl rfl)
theorem dX0_wages_24 : decode cX0_wages 24 = .ok (.istore_n 3, 1) := dk_62 (dk_at dksX0_wages_1 0 rfl rfl)
theorem dX0_wages_25 : decode cX0_wages 25 = .ok (.iconst 0, 1) := dk_3 (dk_at dksX0_wages_1 1 rfl rfl)
theorem dX0_wages_26 : decode cX0_wages 26 = .ok (.istore 4, 2) := dk_54 4 (dk_at dksX0_wages_1 2 rfl rfl)
theorem dX0_wages_28 : decode cX0_wages 28 = .ok (.iload 4, 2) := dk_21 4 (dk_at dksX0_wages_1 4 rfl rfl)
theorem dX0_wages_30 : decode cX0_wages 30 = .ok (.bipush 9, 2) := dk_16 9 (dk_at dksX0_wages_1 6 rfl rfl)
theorem dX0_wages_32 : decode cX0_wages 32 = .ok (.if_icmp .ge 49, 3) := dk_162 0 49 (dk_at dksX0_wages_1 8 rfl rfl)
theorem dX0_wages_35 : decode cX0_wages 35 = .ok (.iload 4, 2) := dk_21 4 (dk_at dksX0_wages_1 11 rfl rfl)
theorem dX0_wages_37 : decode cX0_wages 37 = .ok (.iload_n 2, 1) := dk_28 (dk_at dksX0_wages_1 13 rfl rfl)
theorem dX0_wages_38 : decode cX0_wages 38 = .ok (.if_icmp .ge 7, 3) := dk_162 0 7 (dk_at dksX0_wages_1 14 rfl rfl)
theorem dX0_wages_41 : decode cX0_wages 41 = .ok (.iconst 0, 1) := dk_3 (dk_at dksX0_wages_1 17 rfl rfl)
theorem dX0_wages_42 : decode cX0_wages 42 = .ok (.goto 13, 3) := dk_167 0 13 (dk_at dksX0_wages_1 18 rfl rfl)
theorem dX0_wages_45 : decode cX0_wages 45 = .ok (.iload_n 1, 1) := dk_27 (dk_at dksX0_wages_1 21 rfl rfl)
theorem dX0_wages_46 : decode cX0_wages 46 = .ok (.iload 4, 2) := dk_21 4 (dk_at dksX0_wages_1 22 rfl rfl)
theorem dX0_wages_48 : decode cX0_wages 48 = .ok (.iload_n 2, 1) := dk_28 (dk_at dksX0_wages_2 0 rfl rfl)
theorem dX0_wages_49 : decode cX0_wages 49 = .ok (.isub, 1) := dk_100 (dk_at dksX0_wages_2 1 rfl rfl)
theorem dX0_wages_50 : decode cX0_wages 50 = .ok (.bipush 9, 2) := dk_16 9 (dk_at dksX0_wages_2 2 rfl rfl)
theorem dX0_wages_52 : decode cX0_wages 52 = .ok (.invokestatic 203, 3) := dk_184 0 203 (dk_at dksX0_wages_2 4 rfl rfl)
theorem dX0_wages_55 : decode cX0_wages 55 = .ok (.istore 5, 2) := dk_54 5 (dk_at dksX0_wages_2 7 rfl rfl)
theorem dX0_wages_57 : decode cX0_wages 57 = .ok (.iload_n 3, 1) := dk_29 (dk_at dksX0_wages_2 9 rfl rfl)
theorem dX0_wages_58 : decode cX0_wages 58 = .ok (.iconst 0, 1) := dk_3 (dk_at dksX0_wages_2 10 rfl rfl)
theorem dX0_wages_59 : decode cX0_wages 59 = .ok (.iload_n 1, 1) := dk_27 (dk_at dksX0_wages_2 11 rfl rfl)
theorem dX0_wages_60 : decode cX0_wages 60 = .ok (.iload 4, 2) := dk_21 4 (dk_at dksX0_wages_2 12 rfl rfl)
theorem dX0_wages_62 : decode cX0_wages 62 = .ok (.bipush 9, 2) := dk_16 9 (dk_at dksX0_wages_2 14 rfl rfl)
theorem dX0_wages_64 : decode cX0_wages 64 = .ok (.invokestatic 203, 3) := dk_184 0 203 (dk_at dksX0_wages_2 16 rfl rfl)
theorem dX0_wages_67 : decode cX0_wages 67 = .ok (.iload 5, 2) := dk_21 5 (dk_at dksX0_wages_2 19 rfl rfl)
theorem dX0_wages_69 : decode cX0_wages 69 = .ok (.isub, 1) := dk_100 (dk_at dksX0_wages_2 21 rfl rfl)
theorem dX0_wages_70 : decode cX0_wages 70 = .ok (.invokestatic 183, 3) := dk_184 0 183 (dk_at dksX0_wages_3 0 rfl rfl)
theorem dX0_wages_73 : decode cX0_wages 73 = .ok (.iadd, 1) := dk_96 (dk_at dksX0_wages_3 3 rfl rfl)
theorem dX0_wages_74 : decode cX0_wages 74 = .ok (.istore_n 3, 1) := dk_62 (dk_at dksX0_wages_3 4 rfl rfl)
theorem dX0_wages_75 : decode cX0_wages 75 = .ok (.iinc 4 1, 3) := dk_132 4 1 (dk_at dksX0_wages_3 5 rfl rfl)
theorem dX0_wages_78 : decode cX0_wages 78 = .ok (.goto (-50), 3) := dk_167 255 206 (dk_at dksX0_wages_3 8 rfl rfl)
theorem dX0_wages_81 : decode cX0_wages 81 = .ok (.iload_n 3, 1) := dk_29 (dk_at dksX0_wages_3 11 rfl rfl)
theorem dX0_wages_82 : decode cX0_wages 82 = .ok (.ireturn, 1) := dk_172 (dk_at dksX0_wages_3 12 rfl rfl)
abbrev cX0_digit : ByteArray := prog_1_method_33_code
def yX0_digit : MethodName := ⟨RX0, "digit", "(III)I"⟩
def dkwX0_digit_1 : List UInt8 := [29, 16, 10, 112, 172]
abbrev dktX0_digit_1 : List UInt8 := dkwX0_digit_1 ++ []
def dkwX0_digit_0 : List UInt8 := [26, 62, 28, 4, 100, 54, 4, 21, 4, 27, 164, 0, 14, 29, 16, 10, 108, 62, 132, 4, 255, 167, 255, 242]
abbrev dktX0_digit_0 : List UInt8 := dkwX0_digit_0 ++ dktX0_digit_1
theorem dksX0_digit_0 : cX0_digit.data.toList.drop 0 = dktX0_digit_0 := by decide +kernel
theorem dksX0_digit_1 : cX0_digit.data.toList.drop 24 = dktX0_digit_1 := dk_seg dksX0_digit_0 24 rfl rfl
theorem dX0_digit_0 : decode cX0_digit 0 = .ok (.iload_n 0, 1) := dk_26 (dk_at dksX0_digit_0 0 rfl rfl)
theorem dX0_digit_1 : decode cX0_digit 1 = .ok (.istore_n 3, 1) := dk_62 (dk_at dksX0_digit_0 1 rfl rfl)
theorem dX0_digit_2 : decode cX0_digit 2 = .ok (.iload_n 2, 1) := dk_28 (dk_at dksX0_digit_0 2 rfl rfl)
theorem dX0_digit_3 : decode cX0_digit 3 = .ok (.iconst 1, 1) := dk_4 (dk_at dksX0_digit_0 3 rfl rfl)
theorem dX0_digit_4 : decode cX0_digit 4 = .ok (.isub, 1) := dk_100 (dk_at dksX0_digit_0 4 rfl rfl)
theorem dX0_digit_5 : decode cX0_digit 5 = .ok (.istore 4, 2) := dk_54 4 (dk_at dksX0_digit_0 5 rfl rfl)
theorem dX0_digit_7 : decode cX0_digit 7 = .ok (.iload 4, 2) := dk_21 4 (dk_at dksX0_digit_0 7 rfl rfl)
theorem dX0_digit_9 : decode cX0_digit 9 = .ok (.iload_n 1, 1) := dk_27 (dk_at dksX0_digit_0 9 rfl rfl)
theorem dX0_digit_10 : decode cX0_digit 10 = .ok (.if_icmp .le 14, 3) := dk_164 0 14 (dk_at dksX0_digit_0 10 rfl rfl)
theorem dX0_digit_13 : decode cX0_digit 13 = .ok (.iload_n 3, 1) := dk_29 (dk_at dksX0_digit_0 13 rfl rfl)
theorem dX0_digit_14 : decode cX0_digit 14 = .ok (.bipush 10, 2) := dk_16 10 (dk_at dksX0_digit_0 14 rfl rfl)
theorem dX0_digit_16 : decode cX0_digit 16 = .ok (.idiv, 1) := dk_108 (dk_at dksX0_digit_0 16 rfl rfl)
theorem dX0_digit_17 : decode cX0_digit 17 = .ok (.istore_n 3, 1) := dk_62 (dk_at dksX0_digit_0 17 rfl rfl)
theorem dX0_digit_18 : decode cX0_digit 18 = .ok (.iinc 4 (-1), 3) := dk_132 4 255 (dk_at dksX0_digit_0 18 rfl rfl)
theorem dX0_digit_21 : decode cX0_digit 21 = .ok (.goto (-14), 3) := dk_167 255 242 (dk_at dksX0_digit_0 21 rfl rfl)
theorem dX0_digit_24 : decode cX0_digit 24 = .ok (.iload_n 3, 1) := dk_29 (dk_at dksX0_digit_1 0 rfl rfl)
theorem dX0_digit_25 : decode cX0_digit 25 = .ok (.bipush 10, 2) := dk_16 10 (dk_at dksX0_digit_1 1 rfl rfl)
theorem dX0_digit_27 : decode cX0_digit 27 = .ok (.irem, 1) := dk_112 (dk_at dksX0_digit_1 3 rfl rfl)
theorem dX0_digit_28 : decode cX0_digit 28 = .ok (.ireturn, 1) := dk_172 (dk_at dksX0_digit_1 4 rfl rfl)
abbrev cX0_change : ByteArray := prog_1_method_36_code
def yX0_change : MethodName := ⟨RX0, "change", "(IIIII)J"⟩
def dkwX0_change_12 : List UInt8 := [173]
abbrev dktX0_change_12 : List UInt8 := dkwX0_change_12 ++ []
def dkwX0_change_11 : List UInt8 := [55, 9, 21, 5, 154, 0, 15, 42, 180, 0, 45, 27, 47, 22, 9, 109, 167, 0, 8, 22, 6, 22, 9, 109]
abbrev dktX0_change_11 : List UInt8 := dkwX0_change_11 ++ dktX0_change_12
def dkwX0_change_10 : List UInt8 := [21, 4, 4, 160, 0, 10, 21, 8, 184, 0, 186, 133, 173, 42, 180, 0, 45, 27, 47, 22, 6, 184, 0, 207]
abbrev dktX0_change_10 : List UInt8 := dkwX0_change_10 ++ dktX0_change_11
def dkwX0_change_9 : List UInt8 := [167, 0, 9, 3, 167, 0, 5, 21, 8, 54, 8, 132, 10, 1, 167, 255, 158, 132, 9, 1, 167, 255, 117]
abbrev dktX0_change_9 : List UInt8 := dkwX0_change_9 ++ dktX0_change_10
def dkwX0_change_8 : List UInt8 := [184, 0, 220, 80, 21, 10, 27, 160, 0, 23, 21, 10, 133, 22, 6, 105, 22, 11, 148, 155, 0, 7, 4]
abbrev dktX0_change_8 : List UInt8 := dkwX0_change_8 ++ dktX0_change_9
def dkwX0_change_7 : List UInt8 := [21, 10, 4, 96, 47, 105, 97, 55, 11, 42, 180, 0, 45, 21, 10, 21, 10, 133, 22, 6, 105, 22, 11]
abbrev dktX0_change_7 : List UInt8 := dkwX0_change_7 ++ dktX0_change_8
def dkwX0_change_6 : List UInt8 := [133, 42, 180, 0, 49, 3, 21, 10, 6, 100, 184, 0, 183, 47, 105, 16, 10, 29, 100, 133, 42, 180, 0, 49]
abbrev dktX0_change_6 : List UInt8 := dkwX0_change_6 ++ dktX0_change_7
def dkwX0_change_5 : List UInt8 := [180, 0, 45, 190, 184, 0, 214, 3, 54, 10, 21, 10, 42, 180, 0, 45, 190, 21, 9, 100, 162, 0, 91, 29]
abbrev dktX0_change_5 : List UInt8 := dkwX0_change_5 ++ dktX0_change_6
def dkwX0_change_4 : List UInt8 := [28, 163, 0, 139, 22, 6, 20, 0, 212, 105, 55, 6, 42, 180, 0, 45, 3, 42, 180, 0, 49, 3, 42]
abbrev dktX0_change_4 : List UInt8 := dkwX0_change_4 ++ dktX0_change_5
def dkwX0_change_3 : List UInt8 := [162, 0, 19, 42, 180, 0, 45, 21, 9, 21, 9, 133, 80, 132, 9, 1, 167, 255, 233, 4, 54, 9, 21, 9]
abbrev dktX0_change_3 : List UInt8 := dkwX0_change_3 ++ dktX0_change_4
def dkwX0_change_2 : List UInt8 := [154, 0, 7, 20, 0, 210, 173, 10, 55, 6, 4, 54, 8, 3, 54, 9, 21, 9, 42, 180, 0, 45, 190]
abbrev dktX0_change_2 : List UInt8 := dkwX0_change_2 ++ dktX0_change_3
def dkwX0_change_1 : List UInt8 := [184, 0, 55, 153, 0, 23, 21, 4, 3, 4, 184, 0, 55, 153, 0, 13, 21, 5, 3, 4, 184, 0, 55]
abbrev dktX0_change_1 : List UInt8 := dkwX0_change_1 ++ dktX0_change_2
def dkwX0_change_0 : List UInt8 := [27, 3, 16, 60, 184, 0, 55, 153, 0, 43, 28, 3, 16, 8, 184, 0, 55, 153, 0, 33, 29, 3, 16, 10]
abbrev dktX0_change_0 : List UInt8 := dkwX0_change_0 ++ dktX0_change_1
theorem dksX0_change_0 : cX0_change.data.toList.drop 0 = dktX0_change_0 := by decide +kernel
theorem dksX0_change_1 : cX0_change.data.toList.drop 24 = dktX0_change_1 := dk_seg dksX0_change_0 24 rfl rfl
theorem dksX0_change_2 : cX0_change.data.toList.drop 47 = dktX0_change_2 := dk_seg dksX0_change_1 23 rfl rfl
theorem dksX0_change_3 : cX0_change.data.toList.drop 70 = dktX0_change_3 := dk_seg dksX0_change_2 23 rfl rfl
theorem dksX0_change_4 : cX0_change.data.toList.drop 94 = dktX0_change_4 := dk_seg dksX0_change_3 24 rfl rfl
theorem dksX0_change_5 : cX0_change.data.toList.drop 117 = dktX0_change_5 := dk_seg dksX0_change_4 23 rfl rfl
theorem dksX0_change_6 : cX0_change.data.toList.drop 141 = dktX0_change_6 := dk_seg dksX0_change_5 24 rfl rfl
theorem dksX0_change_7 : cX0_change.data.toList.drop 165 = dktX0_change_7 := dk_seg dksX0_change_6 24 rfl rfl
theorem dksX0_change_8 : cX0_change.data.toList.drop 188 = dktX0_change_8 := dk_seg dksX0_change_7 23 rfl rfl
theorem dksX0_change_9 : cX0_change.data.toList.drop 211 = dktX0_change_9 := dk_seg dksX0_change_8 23 rfl rfl
theorem dksX0_change_10 : cX0_change.data.toList.drop 234 = dktX0_change_10 := dk_seg dksX0_change_9 23 rfl rfl
theorem dksX0_change_11 : cX0_change.data.toList.drop 258 = dktX0_change_11 := dk_seg dksX0_change_10 24 rfl rfl
theorem dksX0_change_12 : cX0_change.data.toList.drop 282 = dktX0_change_12 := dk_seg dksX0_change_11 24 rfl rfl
theorem dX0_change_0 : decode cX0_change 0 = .ok (.iload_n 1, 1) := dk_27 (dk_at dksX0_change_0 0 rfl rfl)
theorem dX0_change_1 : decode cX0_change 1 = .ok (.iconst 0, 1) := dk_3 (dk_at dksX0_change_0 1 rfl rfl)
theorem dX0_change_2 : decode cX0_change 2 = .ok (.bipush 60, 2) := dk_16 60 (dk_at dksX0_change_0 2 rfl rfl)
theorem dX0_change_4 : decode cX0_change 4 = .ok (.invokestatic 55, 3) := dk_184 0 55 (dk_at dksX0_change_0 4 rfl rfl)
theorem dX0_change_7 : decode cX0_change 7 = .ok (.ifCond .eq 43, 3) := dk_153 0 43 (dk_at dksX0_change_0 7 rfl rfl)
theorem dX0_change_10 : decode cX0_change 10 = .ok (.iload_n 2, 1) := dk_28 (dk_at dksX0_change_0 10 rfl rfl)
theorem dX0_change_11 : decode cX0_change 11 = .ok (.iconst 0, 1) := dk_3 (dk_at dksX0_change_0 11 rfl rfl)
theorem dX0_change_12 : decode cX0_change 12 = .ok (.bipush 8, 2) := dk_16 8 (dk_at dksX0_change_0 12 rfl rfl)
theorem dX0_change_14 : decode cX0_change 14 = .ok (.invokestatic 55, 3) := dk_184 0 55 (dk_at dksX0_change_0 14 rfl rfl)
theorem dX0_change_17 : decode cX0_change 17 = .ok (.ifCond .eq 33, 3) := dk_153 0 33 (dk_at dksX0_change_0 17 rfl rfl)
theorem dX0_change_20 : decode cX0_change 20 = .ok (.iload_n 3, 1) := dk_29 (dk_at dksX0_change_0 20 rfl rfl)
theorem dX0_change_21 : decode cX0_change 21 = .ok (.iconst 0, 1) := dk_3 (dk_at dksX0_change_0 21 rfl rfl)
theorem dX0_change_22 : decode cX0_change 22 = .ok (.bipush 10, 2) := dk_16 10 (dk_at dksX0_change_0 22 rfl rfl)
theorem dX0_change_24 : decode cX0_change 24 = .ok (.invokestatic 55, 3) := dk_184 0 55 (dk_at dksX0_change_1 0 rfl rfl)
theorem dX0_change_27 : decode cX0_change 27 = .ok (.ifCond .eq 23, 3) := dk_153 0 23 (dk_at dksX0_change_1 3 rfl rfl)
theorem dX0_change_30 : decode cX0_change 30 = .ok (.iload 4, 2) := dk_21 4 (dk_at dksX0_change_1 6 rfl rfl)
theorem dX0_change_32 : decode cX0_change 32 = .ok (.iconst 0, 1) := dk_3 (dk_at dksX0_change_1 8 rfl rfl)
theorem dX0_change_33 : decode cX0_change 33 = .ok (.iconst 1, 1) := dk_4 (dk_at dksX0_change_1 9 rfl rfl)
theorem dX0_change_34 : decode cX0_change 34 = .ok (.invokestatic 55, 3) := dk_184 0 55 (dk_at dksX0_change_1 10 rfl rfl)
theorem dX0_change_37 : decode cX0_change 37 = .ok (.ifCond .eq 13, 3) := dk_153 0 13 (dk_at dksX0_change_1 13 rfl rfl)
theorem dX0_change_40 : decode cX0_change 40 = .ok (.iload 5, 2) := dk_21 5 (dk_at dksX0_change_1 16 rfl rfl)
theorem dX0_change_42 : decode cX0_change 42 = .ok (.iconst 0, 1) := dk_3 (dk_at dksX0_change_1 18 rfl rfl)
theorem dX0_change_43 : decode cX0_change 43 = .ok (.iconst 1, 1) := dk_4 (dk_at dksX0_change_1 19 rfl rfl)
theorem dX0_change_44 : decode cX0_change 44 = .ok (.invokestatic 55, 3) := dk_184 0 55 (dk_at dksX0_change_1 20 rfl rfl)
theorem dX0_change_47 : decode cX0_change 47 = .ok (.ifCond .ne 7, 3) := dk_154 0 7 (dk_at dksX0_change_2 0 rfl rfl)
theorem dX0_change_50 : decode cX0_change 50 = .ok (.ldc2_w 210, 3) := dk_20 0 210 (dk_at dksX0_change_2 3 rfl rfl)
theorem dX0_change_53 : decode cX0_change 53 = .ok (.lreturn, 1) := dk_173 (dk_at dksX0_change_2 6 rfl rfl)
theorem dX0_change_54 : decode cX0_change 54 = .ok (.lconst 1, 1) := dk_10 (dk_at dksX0_change_2 7 rfl rfl)
theorem dX0_change_55 : decode cX0_change 55 = .ok (.lstore 6, 2) := dk_55 6 (dk_at dksX0_change_2 8 rfl rfl)
theorem dX0_change_57 : decode cX0_change 57 = .ok (.iconst 1, 1) := dk_4 (dk_at dksX0_change_2 10 rfl rfl)
theorem dX0_change_58 : decode cX0_change 58 = .ok (.istore 8, 2) := dk_54 8 (dk_at dksX0_change_2 11 rfl rfl)
theorem dX0_change_60 : decode cX0_change 60 = .ok (.iconst 0, 1) := dk_3 (dk_at dksX0_change_2 13 rfl rfl)
theorem dX0_change_61 : decode cX0_change 61 = .ok (.istore 9, 2) := dk_54 9 (dk_at dksX0_change_2 14 rfl rfl)
theorem dX0_change_63 : decode cX0_change 63 = .ok (.iload 9, 2) := dk_21 9 (dk_at dksX0_change_2 16 rfl rfl)
theorem dX0_change_65 : decode cX0_change 65 = .ok (.aload_n 0, 1) := dk_42 (dk_at dksX0_change_2 18 rfl rfl)
theorem dX0_change_66 : decode cX0_change 66 = .ok (.getfield 45, 3) := dk_180 0 45 (dk_at dksX0_change_2 19 rfl rfl)
theorem dX0_change_69 : decode cX0_change 69 = .ok (.arraylength, 1) := dk_190 (dk_at dksX0_change_2 22 rfl rfl)
theorem dX0_change_70 : decode cX0_change 70 = .ok (.if_icmp .ge 19, 3) := dk_162 0 19 (dk_at dksX0_change_3 0 rfl rfl)
theorem dX0_change_73 : decode cX0_change 73 = .ok (.aload_n 0, 1) := dk_42 (dk_at dksX0_change_3 3 rfl rfl)
theorem dX0_change_74 : decode cX0_change 74 = .ok (.getfield 45, 3) := dk_180 0 45 (dk_at dksX0_change_3 4 rfl rfl)
theorem dX0_change_77 : decode cX0_change 77 = .ok (.iload 9, 2) := dk_21 9 (dk_at dksX0_change_3 7 rfl rfl)
theorem dX0_change_79 : decode cX0_change 79 = .ok (.iload 9, 2) := dk_21 9 (dk_at dksX0_change_3 9 rfl rfl)
theorem dX0_change_81 : decode cX0_change 81 = .ok (.i2l, 1) := dk_133 (dk_at dksX0_change_3 11 rfl rfl)
theorem dX0_change_82 : decode cX0_change 82 = .ok (.lastore, 1) := dk_80 (dk_at dksX0_change_3 12 rfl rfl)
theorem dX0_change_83 : decode cX0_change 83 = .ok (.iinc 9 1, 3) := dk_132 9 1 (dk_at dksX0_change_3 13 rfl rfl)
theorem dX0_change_86 : decode cX0_change 86 = .ok (.goto (-23), 3) := dk_167 255 233 (dk_at dksX0_change_3 16 rfl rfl)
theorem dX0_change_89 : decode cX0_change 89 = .ok (.iconst 1, 1) := dk_4 (dk_at dksX0_change_3 19 rfl rfl)
theorem dX0_change_90 : decode cX0_change 90 = .ok (.istore 9, 2) := dk_54 9 (dk_at dksX0_change_3 20 rfl rfl)
theorem dX0_change_92 : decode cX0_change 92 = .ok (.iload 9, 2) := dk_21 9 (dk_at dksX0_change_3 22 rfl rfl)
theorem dX0_change_94 : decode cX0_change 94 = .ok (.iload_n 2, 1) := dk_28 (dk_at dksX0_change_4 0 rfl rfl)
theorem dX0_change_95 : decode cX0_change 95 = .ok (.if_icmp .gt 139, 3) := dk_163 0 139 (dk_at dksX0_change_4 1 rfl rfl)
theorem dX0_change_98 : decode cX0_change 98 = .ok (.lload 6, 2) := dk_22 6 (dk_at dksX0_change_4 4 rfl rfl)
theorem dX0_change_100 : decode cX0_change 100 = .ok (.ldc2_w 212, 3) := dk_20 0 212 (dk_at dksX0_change_4 6 rfl rfl)
theorem dX0_change_103 : decode cX0_change 103 = .ok (.lmul, 1) := dk_105 (dk_at dksX0_change_4 9 rfl rfl)
theorem dX0_change_104 : decode cX0_change 104 = .ok (.lstore 6, 2) := dk_55 6 (dk_at dksX0_change_4 10 rfl rfl)
theorem dX0_change_106 : decode cX0_change 106 = .ok (.aload_n 0, 1) := dk_42 (dk_at dksX0_change_4 12 rfl rfl)
theorem dX0_change_107 : decode cX0_change 107 = .ok (.getfield 45, 3) := dk_180 0 45 (dk_at dksX0_change_4 13 rfl rfl)
theorem dX0_change_110 : decode cX0_change 110 = .ok (.iconst 0, 1) := dk_3 (dk_at dksX0_change_4 16 rfl rfl)
theorem dX0_change_111 : decode cX0_change 111 = .ok (.aload_n 0, 1) := dk_42 (dk_at dksX0_change_4 17 rfl rfl)
theorem dX0_change_112 : decode cX0_change 112 = .ok (.getfield 49, 3) := dk_180 0 49 (dk_at dksX0_change_4 18 rfl rfl)
theorem dX0_change_115 : decode cX0_change 115 = .ok (.iconst 0, 1) := dk_3 (dk_at dksX0_change_4 21 rfl rfl)
theorem dX0_change_116 : decode cX0_change 116 = .ok (.aload_n 0, 1) := dk_42 (dk_at dksX0_change_4 22 rfl rfl)
theorem dX0_change_117 : decode cX0_change 117 = .ok (.getfield 45, 3) := dk_180 0 45 (dk_at dksX0_change_5 0 rfl rfl)
theorem dX0_change_120 : decode cX0_change 120 = .ok (.arraylength, 1) := dk_190 (dk_at dksX0_change_5 3 rfl rfl)
theorem dX0_change_121 : decode cX0_change 121 = .ok (.invokestatic 214, 3) := dk_184 0 214 (dk_at dksX0_change_5 4 rfl rfl)
theorem dX0_change_124 : decode cX0_change 124 = .ok (.iconst 0, 1) := dk_3 (dk_at dksX0_change_5 7 rfl rfl)
theorem dX0_change_125 : decode cX0_change 125 = .ok (.istore 10, 2) := dk_54 10 (dk_at dksX0_change_5 8 rfl rfl)
theorem dX0_change_127 : decode cX0_change 127 = .ok (.iload 10, 2) := dk_21 10 (dk_at dksX0_change_5 10 rfl rfl)
theorem dX0_change_129 : decode cX0_change 129 = .ok (.aload_n 0, 1) := dk_42 (dk_at dksX0_change_5 12 rfl rfl)
theorem dX0_change_130 : decode cX0_change 130 = .ok (.getfield 45, 3) := dk_180 0 45 (dk_at dksX0_change_5 13 rfl rfl)
theorem dX0_change_133 : decode cX0_change 133 = .ok (.arraylength, 1) := dk_190 (dk_at dksX0_change_5 16 rfl rfl)
theorem dX0_change_134 : decode cX0_change 134 = .ok (.iload 9, 2) := dk_21 9 (dk_at dksX0_change_5 17 rfl rfl)
theorem dX0_change_136 : decode cX0_change 136 = .ok (.isub, 1) := dk_100 (dk_at dksX0_change_5 19 rfl rfl)
theorem dX0_change_137 : decode cX0_change 137 = .ok (.if_icmp .ge 91, 3) := dk_162 0 91 (dk_at dksX0_change_5 20 rfl rfl)
theorem dX0_change_140 : decode cX0_change 140 = .ok (.iload_n 3, 1) := dk_29 (dk_at dksX0_change_5 23 rfl rfl)
theorem dX0_change_141 : decode cX0_change 141 = .ok (.i2l, 1) := dk_133 (dk_at dksX0_change_6 0 rfl rfl)
theorem dX0_change_142 : decode cX0_change 142 = .ok (.aload_n 0, 1) := dk_42 (dk_at dksX0_change_6 1 rfl rfl)
theorem dX0_change_143 : decode cX0_change 143 = .ok (.getfield 49, 3) := dk_180 0 49 (dk_at dksX0_change_6 2 rfl rfl)
theorem dX0_change_146 : decode cX0_change 146 = .ok (.iconst 0, 1) := dk_3 (dk_at dksX0_change_6 5 rfl rfl)
theorem dX0_change_147 : decode cX0_change 147 = .ok (.iload 10, 2) := dk_21 10 (dk_at dksX0_change_6 6 rfl rfl)
theorem dX0_change_149 : decode cX0_change 149 = .ok (.iconst 3, 1) := dk_6 (dk_at dksX0_change_6 8 rfl rfl)
theorem dX0_change_150 : decode cX0_change 150 = .ok (.isub, 1) := dk_100 (dk_at dksX0_change_6 9 rfl rfl)
theorem dX0_change_151 : decode cX0_change 151 = .ok (.invokestatic 183, 3) := dk_184 0 183 (dk_at dksX0_change_6 10 rfl rfl)
theorem dX0_change_154 : decode cX0_change 154 = .ok (.laload, 1) := dk_47 (dk_at dksX0_change_6 13 rfl rfl)
theorem dX0_change_155 : decode cX0_change 155 = .ok (.lmul, 1) := dk_105 (dk_at dksX0_change_6 14 rfl rfl)
theorem dX0_change_156 : decode cX0_change 156 = .ok (.bipush 10, 2) := dk_16 10 (dk_at dksX0_change_6 15 rfl rfl)
theorem dX0_change_158 : decode cX0_change 158 = .ok (.iload_n 3, 1) := dk_29 (dk_at dksX0_change_6 17 rfl rfl)
theorem dX0_change_159 : decode cX0_change 159 = .ok (.isub, 1) := dk_100 (dk_at dksX0_change_6 18 rfl rfl)
theorem dX0_change_160 : decode cX0_change 160 = .ok (.i2l, 1) := dk_133 (dk_at dksX0_change_6 19 rfl rfl)
theorem dX0_change_161 : decode cX0_change 161 = .ok (.aload_n 0, 1) := dk_42 (dk_at dksX0_change_6 20 rfl rfl)
theorem dX0_change_162 : decode cX0_change 162 = .ok (.getfield 49, 3) := dk_180 0 49 (dk_at dksX0_change_6 21 rfl rfl)
theorem dX0_change_165 : decode cX0_change 165 = .ok (.iload 10, 2) := dk_21 10 (dk_at dksX0_change_7 0 rfl rfl)
theorem dX0_change_167 : decode cX0_change 167 = .ok (.iconst 1, 1) := dk_4 (dk_at dksX0_change_7 2 rfl rfl)
theorem dX0_change_168 : decode cX0_change 168 = .ok (.iadd, 1) := dk_96 (dk_at dksX0_change_7 3 rfl rfl)
theorem dX0_change_169 : decode cX0_change 169 = .ok (.laload, 1) := dk_47 (dk_at dksX0_change_7 4 rfl rfl)
theorem dX0_change_170 : decode cX0_change 170 = .ok (.lmul, 1) := dk_105 (dk_at dksX0_change_7 5 rfl rfl)
theorem dX0_change_171 : decode cX0_change 171 = .ok (.ladd, 1) := dk_97 (dk_at dksX0_change_7 6 rfl rfl)
theorem dX0_change_172 : decode cX0_change 172 = .ok (.lstore 11, 2) := dk_55 11 (dk_at dksX0_change_7 7 rfl rfl)
theorem dX0_change_174 : decode cX0_change 174 = .ok (.aload_n 0, 1) := dk_42 (dk_at dksX0_change_7 9 rfl rfl)
theorem dX0_change_175 : decode cX0_change 175 = .ok (.getfield 45, 3) := dk_180 0 45 (dk_at dksX0_change_7 10 rfl rfl)
theorem dX0_change_178 : decode cX0_change 178 = .ok (.iload 10, 2) := dk_21 10 (dk_at dksX0_change_7 13 rfl rfl)
theorem dX0_change_180 : decode cX0_change 180 = .ok (.iload 10, 2) := dk_21 10 (dk_at dksX0_change_7 15 rfl rfl)
theorem dX0_change_182 : decode cX0_change 182 = .ok (.i2l, 1) := dk_133 (dk_at dksX0_change_7 17 rfl rfl)
theorem dX0_change_183 : decode cX0_change 183 = .ok (.lload 6, 2) := dk_22 6 (dk_at dksX0_change_7 18 rfl rfl)
theorem dX0_change_185 : decode cX0_change 185 = .ok (.lmul, 1) := dk_105 (dk_at dksX0_change_7 20 rfl rfl)
theorem dX0_change_186 : decode cX0_change 186 = .ok (.lload 11, 2) := dk_22 11 (dk_at dksX0_change_7 21 rfl rfl)
theorem dX0_change_188 : decode cX0_change 188 = .ok (.invokestatic 220, 3) := dk_184 0 220 (dk_at dksX0_change_8 0 rfl rfl)
theorem dX0_change_191 : decode cX0_change 191 = .ok (.lastore, 1) := dk_80 (dk_at dksX0_change_8 3 rfl rfl)
theorem dX0_change_192 : decode cX0_change 192 = .ok (.iload 10, 2) := dk_21 10 (dk_at dksX0_change_8 4 rfl rfl)
theorem dX0_change_194 : decode cX0_change 194 = .ok (.iload_n 1, 1) := dk_27 (dk_at dksX0_change_8 6 rfl rfl)
theorem dX0_change_195 : decode cX0_change 195 = .ok (.if_icmp .ne 23, 3) := dk_160 0 23 (dk_at dksX0_change_8 7 rfl rfl)
theorem dX0_change_198 : decode cX0_change 198 = .ok (.iload 10, 2) := dk_21 10 (dk_at dksX0_change_8 10 rfl rfl)
theorem dX0_change_200 : decode cX0_change 200 = .ok (.i2l, 1) := dk_133 (dk_at dksX0_change_8 12 rfl rfl)
theorem dX0_change_201 : decode cX0_change 201 = .ok (.lload 6, 2) := dk_22 6 (dk_at dksX0_change_8 13 rfl rfl)
theorem dX0_change_203 : decode cX0_change 203 = .ok (.lmul, 1) := dk_105 (dk_at dksX0_change_8 15 rfl rfl)
theorem dX0_change_204 : decode cX0_change 204 = .ok (.lload 11, 2) := dk_22 11 (dk_at dksX0_change_8 16 rfl rfl)
theorem dX0_change_206 : decode cX0_change 206 = .ok (.lcmp, 1) := dk_148 (dk_at dksX0_change_8 18 rfl rfl)
theorem dX0_change_207 : decode cX0_change 207 = .ok (.ifCond .lt 7, 3) := dk_155 0 7 (dk_at dksX0_change_8 19 rfl rfl)
theorem dX0_change_210 : decode cX0_change 210 = .ok (.iconst 1, 1) := dk_4 (dk_at dksX0_change_8 22 rfl rfl)
theorem dX0_change_211 : decode cX0_change 211 = .ok (.goto 9, 3) := dk_167 0 9 (dk_at dksX0_change_9 0 rfl rfl)
theorem dX0_change_214 : decode cX0_change 214 = .ok (.iconst 0, 1) := dk_3 (dk_at dksX0_change_9 3 rfl rfl)
theorem dX0_change_215 : decode cX0_change 215 = .ok (.goto 5, 3) := dk_167 0 5 (dk_at dksX0_change_9 4 rfl rfl)
theorem dX0_change_218 : decode cX0_change 218 = .ok (.iload 8, 2) := dk_21 8 (dk_at dksX0_change_9 7 rfl rfl)
theorem dX0_change_220 : decode cX0_change 220 = .ok (.istore 8, 2) := dk_54 8 (dk_at dksX0_change_9 9 rfl rfl)
theorem dX0_change_222 : decode cX0_change 222 = .ok (.iinc 10 1, 3) := dk_132 10 1 (dk_at dksX0_change_9 11 rfl rfl)
theorem dX0_change_225 : decode cX0_change 225 = .ok (.goto (-98), 3) := dk_167 255 158 (dk_at dksX0_change_9 14 rfl rfl)
theorem dX0_change_228 : decode cX0_change 228 = .ok (.iinc 9 1, 3) := dk_132 9 1 (dk_at dksX0_change_9 17 rfl rfl)
theorem dX0_change_231 : decode cX0_change 231 = .ok (.goto (-139), 3) := dk_167 255 117 (dk_at dksX0_change_9 20 rfl rfl)
theorem dX0_change_234 : decode cX0_change 234 = .ok (.iload 4, 2) := dk_21 4 (dk_at dksX0_change_10 0 rfl rfl)
theorem dX0_change_236 : decode cX0_change 236 = .ok (.iconst 1, 1) := dk_4 (dk_at dksX0_change_10 2 rfl rfl)
theorem dX0_change_237 : decode cX0_change 237 = .ok (.if_icmp .ne 10, 3) := dk_160 0 10 (dk_at dksX0_change_10 3 rfl rfl)
theorem dX0_change_240 : decode cX0_change 240 = .ok (.iload 8, 2) := dk_21 8 (dk_at dksX0_change_10 6 rfl rfl)
theorem dX0_change_242 : decode cX0_change 242 = .ok (.invokestatic 186, 3) := dk_184 0 186 (dk_at dksX0_change_10 8 rfl rfl)
theorem dX0_change_245 : decode cX0_change 245 = .ok (.i2l, 1) := dk_133 (dk_at dksX0_change_10 11 rfl rfl)
theorem dX0_change_246 : decode cX0_change 246 = .ok (.lreturn, 1) := dk_173 (dk_at dksX0_change_10 12 rfl rfl)
theorem dX0_change_247 : decode cX0_change 247 = .ok (.aload_n 0, 1) := dk_42 (dk_at dksX0_change_10 13 rfl rfl)
theorem dX0_change_248 : decode cX0_change 248 = .ok (.getfield 45, 3) := dk_180 0 45 (dk_at dksX0_change_10 14 rfl rfl)
theorem dX0_change_251 : decode cX0_change 251 = .ok (.iload_n 1, 1) := dk_27 (dk_at dksX0_change_10 17 rfl rfl)
theorem dX0_change_252 : decode cX0_change 252 = .ok (.laload, 1) := dk_47 (dk_at dksX0_change_10 18 rfl rfl)
theorem dX0_change_253 : decode cX0_change 253 = .ok (.lload 6, 2) := dk_22 6 (dk_at dksX0_change_10 19 rfl rfl)
theorem dX0_change_255 : decode cX0_change 255 = .ok (.invokestatic 207, 3) := dk_184 0 207 (dk_at dksX0_change_10 21 rfl rfl)
theorem dX0_change_258 : decode cX0_change 258 = .ok (.lstore 9, 2) := dk_55 9 (dk_at dksX0_change_11 0 rfl rfl)
theorem dX0_change_260 : decode cX0_change 260 = .ok (.iload 5, 2) := dk_21 5 (dk_at dksX0_change_11 2 rfl rfl)
theorem dX0_change_262 : decode cX0_change 262 = .ok (.ifCond .ne 15, 3) := dk_154 0 15 (dk_at dksX0_change_11 4 rfl rfl)
theorem dX0_change_265 : decode cX0_change 265 = .ok (.aload_n 0, 1) := dk_42 (dk_at dksX0_change_11 7 rfl rfl)
theorem dX0_change_266 : decode cX0_change 266 = .ok (.getfield 45, 3) := dk_180 0 45 (dk_at dksX0_change_11 8 rfl rfl)
theorem dX0_change_269 : decode cX0_change 269 = .ok (.iload_n 1, 1) := dk_27 (dk_at dksX0_change_11 11 rfl rfl)
theorem dX0_change_270 : decode cX0_change 270 = .ok (.laload, 1) := dk_47 (dk_at dksX0_change_11 12 rfl rfl)
theorem dX0_change_271 : decode cX0_change 271 = .ok (.lload 9, 2) := dk_22 9 (dk_at dksX0_change_11 13 rfl rfl)
theorem dX0_change_273 : decode cX0_change 273 = .ok (.ldiv, 1) := dk_109 (dk_at dksX0_change_11 15 rfl rfl)
theorem dX0_change_274 : decode cX0_change 274 = .ok (.goto 8, 3) := dk_167 0 8 (dk_at dksX0_change_11 16 rfl rfl)
theorem dX0_change_277 : decode cX0_change 277 = .ok (.lload 6, 2) := dk_22 6 (dk_at dksX0_change_11 19 rfl rfl)
theorem dX0_change_279 : decode cX0_change 279 = .ok (.lload 9, 2) := dk_22 9 (dk_at dksX0_change_11 21 rfl rfl)
theorem dX0_change_281 : decode cX0_change 281 = .ok (.ldiv, 1) := dk_109 (dk_at dksX0_change_11 23 rfl rfl)
theorem dX0_change_282 : decode cX0_change 282 = .ok (.lreturn, 1) := dk_173 (dk_at dksX0_change_12 0 rfl rfl)
abbrev cX0_divisor : ByteArray := prog_1_method_35_code
def yX0_divisor : MethodName := ⟨RX0, "divisor", "(JJ)J"⟩
def dkwX0_divisor_0 : List UInt8 := [32, 9, 148, 154, 0, 7, 30, 167, 0, 10, 32, 30, 32, 113, 184, 0, 207, 173]
abbrev dktX0_divisor_0 : List UInt8 := dkwX0_divisor_0 ++ []
theorem dksX0_divisor_0 : cX0_divisor.data.toList.drop 0 = dktX0_divisor_0 := by decide +kernel
theorem dX0_divisor_0 : decode cX0_divisor 0 = .ok (.lload_n 2, 1) := dk_32 (dk_at dksX0_divisor_0 0 rfl rfl)
theorem dX0_divisor_1 : decode cX0_divisor 1 = .ok (.lconst 0, 1) := dk_9 (dk_at dksX0_divisor_0 1 rfl rfl)
theorem dX0_divisor_2 : decode cX0_divisor 2 = .ok (.lcmp, 1) := dk_148 (dk_at dksX0_divisor_0 2 rfl rfl)
theorem dX0_divisor_3 : decode cX0_divisor 3 = .ok (.ifCond .ne 7, 3) := dk_154 0 7 (dk_at dksX0_divisor_0 3 rfl rfl)
theorem dX0_divisor_6 : decode cX0_divisor 6 = .ok (.lload_n 0, 1) := dk_30 (dk_at dksX0_divisor_0 6 rfl rfl)
theorem dX0_divisor_7 : decode cX0_divisor 7 = .ok (.goto 10, 3) := dk_167 0 10 (dk_at dksX0_divisor_0 7 rfl rfl)
theorem dX0_divisor_10 : decode cX0_divisor 10 = .ok (.lload_n 2, 1) := dk_32 (dk_at dksX0_divisor_0 10 rfl rfl)
theorem dX0_divisor_11 : decode cX0_divisor 11 = .ok (.lload_n 0, 1) := dk_30 (dk_at dksX0_divisor_0 11 rfl rfl)
theorem dX0_divisor_12 : decode cX0_divisor 12 = .ok (.lload_n 2, 1) := dk_32 (dk_at dksX0_divisor_0 12 rfl rfl)
theorem dX0_divisor_13 : decode cX0_divisor 13 = .ok (.lrem, 1) := dk_113 (dk_at dksX0_divisor_0 13 rfl rfl)
theorem dX0_divisor_14 : decode cX0_divisor 14 = .ok (.invokestatic 207, 3) := dk_184 0 207 (dk_at dksX0_divisor_0 14 rfl rfl)
theorem dX0_divisor_17 : decode cX0_divisor 17 = .ok (.lreturn, 1) := dk_173 (dk_at dksX0_divisor_0 17 rfl rfl)
abbrev cX0_sample : ByteArray := prog_1_method_38_code
def yX0_sample : MethodName := ⟨RX0, "sample", "(IIIII)J"⟩
def dkwX0_sample_4 : List UInt8 := [22, 6, 22, 10, 109, 167, 0, 8, 22, 8, 22, 10, 109, 173]
abbrev dktX0_sample_4 : List UInt8 := dkwX0_sample_4 ++ []
def dkwX0_sample_3 : List UInt8 := [55, 6, 27, 29, 184, 0, 222, 55, 8, 22, 6, 22, 8, 184, 0, 207, 55, 10, 21, 5, 154, 0, 11]
abbrev dktX0_sample_3 : List UInt8 := dkwX0_sample_3 ++ dktX0_sample_4
def dkwX0_sample_2 : List UInt8 := [154, 0, 7, 20, 0, 210, 173, 28, 21, 4, 184, 0, 222, 27, 28, 100, 29, 21, 4, 100, 184, 0, 222, 105]
abbrev dktX0_sample_2 : List UInt8 := dkwX0_sample_2 ++ dktX0_sample_3
def dkwX0_sample_1 : List UInt8 := [184, 0, 55, 153, 0, 23, 21, 4, 3, 29, 184, 0, 55, 153, 0, 13, 21, 5, 3, 4, 184, 0, 55]
abbrev dktX0_sample_1 : List UInt8 := dkwX0_sample_1 ++ dktX0_sample_2
def dkwX0_sample_0 : List UInt8 := [27, 4, 16, 30, 184, 0, 55, 153, 0, 41, 28, 3, 27, 184, 0, 55, 153, 0, 32, 29, 3, 27]
abbrev dktX0_sample_0 : List UInt8 := dkwX0_sample_0 ++ dktX0_sample_1
theorem dksX0_sample_0 : cX0_sample.data.toList.drop 0 = dktX0_sample_0 := by decide +kernel
theorem dksX0_sample_1 : cX0_sample.data.toList.drop 22 = dktX0_sample_1 := dk_seg dksX0_sample_0 22 rfl rfl
theorem dksX0_sample_2 : cX0_sample.data.toList.drop 45 = dktX0_sample_2 := dk_seg dksX0_sample_1 23 rfl rfl
theorem dksX0_sample_3 : cX0_sample.data.toList.drop 69 = dktX0_sample_3 := dk_seg dksX0_sample_2 24 rfl rfl
theorem dksX0_sample_4 : cX0_sample.data.toList.drop 92 = dktX0_sample_4 := dk_seg dksX0_sample_3 23 rfl rfl
theorem dX0_sample_0 : decode cX0_sample 0 = .ok (.iload_n 1, 1) := dk_27 (dk_at dksX0_sample_0 0 rfl rfl)
theorem dX0_sample_1 : decode cX0_sample 1 = .ok (.iconst 1, 1) := dk_4 (dk_at dksX0_sample_0 1 rfl rfl)
theorem dX0_sample_2 : decode cX0_sample 2 = .ok (.bipush 30, 2) := dk_16 30 (dk_at dksX0_sample_0 2 rfl rfl)
theorem dX0_sample_4 : decode cX0_sample 4 = .ok (.invokestatic 55, 3) := dk_184 0 55 (dk_at dksX0_sample_0 4 rfl rfl)
theorem dX0_sample_7 : decode cX0_sample 7 = .ok (.ifCond .eq 41, 3) := dk_153 0 41 (dk_at dksX0_sample_0 7 rfl rfl)
theorem dX0_sample_10 : decode cX0_sample 10 = .ok (.iload_n 2, 1) := dk_28 (dk_at dksX0_sample_0 10 rfl rfl)
theorem dX0_sample_11 : decode cX0_sample 11 = .ok (.iconst 0, 1) := dk_3 (dk_at dksX0_sample_0 11 rfl rfl)
theorem dX0_sample_12 : decode cX0_sample 12 = .ok (.iload_n 1, 1) := dk_27 (dk_at dksX0_sample_0 12 rfl rfl)
theorem dX0_sample_13 : decode cX0_sample 13 = .ok (.invokestatic 55, 3) := dk_184 0 55 (dk_at dksX0_sample_0 13 rfl rfl)
theorem dX0_sample_16 : decode cX0_sample 16 = .ok (.ifCond .eq 32, 3) := dk_153 0 32 (dk_at dksX0_sample_0 16 rfl rfl)
theorem dX0_sample_19 : decode cX0_sample 19 = .ok (.iload_n 3, 1) := dk_29 (dk_at dksX0_sample_0 19 rfl rfl)
theorem dX0_sample_20 : decode cX0_sample 20 = .ok (.iconst 0, 1) := dk_3 (dk_at dksX0_sample_0 20 rfl rfl)
theorem dX0_sample_21 : decode cX0_sample 21 = .ok (.iload_n 1, 1) := dk_27 (dk_at dksX0_sample_0 21 rfl rfl)
theorem dX0_sample_22 : decode cX0_sample 22 = .ok (.invokestatic 55, 3) := dk_184 0 55 (dk_at dksX0_sample_1 0 rfl rfl)
theorem dX0_sample_25 : decode cX0_sample 25 = .ok (.ifCond .eq 23, 3) := dk_153 0 23 (dk_at dksX0_sample_1 3 rfl rfl)
theorem dX0_sample_28 : decode cX0_sample 28 = .ok (.iload 4, 2) := dk_21 4 (dk_at dksX0_sample_1 6 rfl rfl)
theorem dX0_sample_30 : decode cX0_sample 30 = .ok (.iconst 0, 1) := dk_3 (dk_at dksX0_sample_1 8 rfl rfl)
theorem dX0_sample_31 : decode cX0_sample 31 = .ok (.iload_n 3, 1) := dk_29 (dk_at dksX0_sample_1 9 rfl rfl)
theorem dX0_sample_32 : decode cX0_sample 32 = .ok (.invokestatic 55, 3) := dk_184 0 55 (dk_at dksX0_sample_1 10 rfl rfl)
theorem dX0_sample_35 : decode cX0_sample 35 = .ok (.ifCond .eq 13, 3) := dk_153 0 13 (dk_at dksX0_sample_1 13 rfl rfl)
theorem dX0_sample_38 : decode cX0_sample 38 = .ok (.iload 5, 2) := dk_21 5 (dk_at dksX0_sample_1 16 rfl rfl)
theorem dX0_sample_40 : decode cX0_sample 40 = .ok (.iconst 0, 1) := dk_3 (dk_at dksX0_sample_1 18 rfl rfl)
theorem dX0_sample_41 : decode cX0_sample 41 = .ok (.iconst 1, 1) := dk_4 (dk_at dksX0_sample_1 19 rfl rfl)
theorem dX0_sample_42 : decode cX0_sample 42 = .ok (.invokestatic 55, 3) := dk_184 0 55 (dk_at dksX0_sample_1 20 rfl rfl)
theorem dX0_sample_45 : decode cX0_sample 45 = .ok (.ifCond .ne 7, 3) := dk_154 0 7 (dk_at dksX0_sample_2 0 rfl rfl)
theorem dX0_sample_48 : decode cX0_sample 48 = .ok (.ldc2_w 210, 3) := dk_20 0 210 (dk_at dksX0_sample_2 3 rfl rfl)
theorem dX0_sample_51 : decode cX0_sample 51 = .ok (.lreturn, 1) := dk_173 (dk_at dksX0_sample_2 6 rfl rfl)
theorem dX0_sample_52 : decode cX0_sample 52 = .ok (.iload_n 2, 1) := dk_28 (dk_at dksX0_sample_2 7 rfl rfl)
theorem dX0_sample_53 : decode cX0_sample 53 = .ok (.iload 4, 2) := dk_21 4 (dk_at dksX0_sample_2 8 rfl rfl)
theorem dX0_sample_55 : decode cX0_sample 55 = .ok (.invokestatic 222, 3) := dk_184 0 222 (dk_at dksX0_sample_2 10 rfl rfl)
theorem dX0_sample_58 : decode cX0_sample 58 = .ok (.iload_n 1, 1) := dk_27 (dk_at dksX0_sample_2 13 rfl rfl)
theorem dX0_sample_59 : decode cX0_sample 59 = .ok (.iload_n 2, 1) := dk_28 (dk_at dksX0_sample_2 14 rfl rfl)
theorem dX0_sample_60 : decode cX0_sample 60 = .ok (.isub, 1) := dk_100 (dk_at dksX0_sample_2 15 rfl rfl)
theorem dX0_sample_61 : decode cX0_sample 61 = .ok (.iload_n 3, 1) := dk_29 (dk_at dksX0_sample_2 16 rfl rfl)
theorem dX0_sample_62 : decode cX0_sample 62 = .ok (.iload 4, 2) := dk_21 4 (dk_at dksX0_sample_2 17 rfl rfl)
theorem dX0_sample_64 : decode cX0_sample 64 = .ok (.isub, 1) := dk_100 (dk_at dksX0_sample_2 19 rfl rfl)
theorem dX0_sample_65 : decode cX0_sample 65 = .ok (.invokestatic 222, 3) := dk_184 0 222 (dk_at dksX0_sample_2 20 rfl rfl)
theorem dX0_sample_68 : decode cX0_sample 68 = .ok (.lmul, 1) := dk_105 (dk_at dksX0_sample_2 23 rfl rfl)
theorem dX0_sample_69 : decode cX0_sample 69 = .ok (.lstore 6, 2) := dk_55 6 (dk_at dksX0_sample_3 0 rfl rfl)
theorem dX0_sample_71 : decode cX0_sample 71 = .ok (.iload_n 1, 1) := dk_27 (dk_at dksX0_sample_3 2 rfl rfl)
theorem dX0_sample_72 : decode cX0_sample 72 = .ok (.iload_n 3, 1) := dk_29 (dk_at dksX0_sample_3 3 rfl rfl)
theorem dX0_sample_73 : decode cX0_sample 73 = .ok (.invokestatic 222, 3) := dk_184 0 222 (dk_at dksX0_sample_3 4 rfl rfl)
theorem dX0_sample_76 : decode cX0_sample 76 = .ok (.lstore 8, 2) := dk_55 8 (dk_at dksX0_sample_3 7 rfl rfl)
theorem dX0_sample_78 : decode cX0_sample 78 = .ok (.lload 6, 2) := dk_22 6 (dk_at dksX0_sample_3 9 rfl rfl)
theorem dX0_sample_80 : decode cX0_sample 80 = .ok (.lload 8, 2) := dk_22 8 (dk_at dksX0_sample_3 11 rfl rfl)
theorem dX0_sample_82 : decode cX0_sample 82 = .ok (.invokestatic 207, 3) := dk_184 0 207 (dk_at dksX0_sample_3 13 rfl rfl)
theorem dX0_sample_85 : decode cX0_sample 85 = .ok (.lstore 10, 2) := dk_55 10 (dk_at dksX0_sample_3 16 rfl rfl)
theorem dX0_sample_87 : decode cX0_sample 87 = .ok (.iload 5, 2) := dk_21 5 (dk_at dksX0_sample_3 18 rfl rfl)
theorem dX0_sample_89 : decode cX0_sample 89 = .ok (.ifCond .ne 11, 3) := dk_154 0 11 (dk_at dksX0_sample_3 20 rfl rfl)
theorem dX0_sample_92 : decode cX0_sample 92 = .ok (.lload 6, 2) := dk_22 6 (dk_at dksX0_sample_4 0 rfl rfl)
theorem dX0_sample_94 : decode cX0_sample 94 = .ok (.lload 10, 2) := dk_22 10 (dk_at dksX0_sample_4 2 rfl rfl)
theorem dX0_sample_96 : decode cX0_sample 96 = .ok (.ldiv, 1) := dk_109 (dk_at dksX0_sample_4 4 rfl rfl)
theorem dX0_sample_97 : decode cX0_sample 97 = .ok (.goto 8, 3) := dk_167 0 8 (dk_at dksX0_sample_4 5 rfl rfl)
theorem dX0_sample_100 : decode cX0_sample 100 = .ok (.lload 8, 2) := dk_22 8 (dk_at dksX0_sample_4 8 rfl rfl)
theorem dX0_sample_102 : decode cX0_sample 102 = .ok (.lload 10, 2) := dk_22 10 (dk_at dksX0_sample_4 10 rfl rfl)
theorem dX0_sample_104 : decode cX0_sample 104 = .ok (.ldiv, 1) := dk_109 (dk_at dksX0_sample_4 12 rfl rfl)
theorem dX0_sample_105 : decode cX0_sample 105 = .ok (.lreturn, 1) := dk_173 (dk_at dksX0_sample_4 13 rfl rfl)
abbrev cX0_choose : ByteArray := prog_1_method_37_code
def yX0_choose : MethodName := ⟨RX0, "choose", "(II)J"⟩
def dkwX0_choose_1 : List UInt8 := [21, 4, 100, 133, 105, 21, 4, 4, 96, 133, 109, 65, 132, 4, 1, 167, 255, 233, 32, 173]
abbrev dktX0_choose_1 : List UInt8 := dkwX0_choose_1 ++ []
def dkwX0_choose_0 : List UInt8 := [27, 155, 0, 8, 27, 26, 164, 0, 5, 9, 173, 10, 65, 3, 54, 4, 21, 4, 27, 162, 0, 23, 32, 26]
abbrev dktX0_choose_0 : List UInt8 := dkwX0_choose_0 ++ dktX0_choose_1
theorem dksX0_choose_0 : cX0_choose.data.toList.drop 0 = dktX0_choose_0 := by decide +kernel
theorem dksX0_choose_1 : cX0_choose.data.toList.drop 24 = dktX0_choose_1 := dk_seg dksX0_choose_0 24 rfl rfl
theorem dX0_choose_0 : decode cX0_choose 0 = .ok (.iload_n 1, 1) := dk_27 (dk_at dksX0_choose_0 0 rfl rfl)
theorem dX0_choose_1 : decode cX0_choose 1 = .ok (.ifCond .lt 8, 3) := dk_155 0 8 (dk_at dksX0_choose_0 1 rfl rfl)
theorem dX0_choose_4 : decode cX0_choose 4 = .ok (.iload_n 1, 1) := dk_27 (dk_at dksX0_choose_0 4 rfl rfl)
theorem dX0_choose_5 : decode cX0_choose 5 = .ok (.iload_n 0, 1) := dk_26 (dk_at dksX0_choose_0 5 rfl rfl)
theorem dX0_choose_6 : decode cX0_choose 6 = .ok (.if_icmp .le 5, 3) := dk_164 0 5 (dk_at dksX0_choose_0 6 rfl rfl)
theorem dX0_choose_9 : decode cX0_choose 9 = .ok (.lconst 0, 1) := dk_9 (dk_at dksX0_choose_0 9 rfl rfl)
theorem dX0_choose_10 : decode cX0_choose 10 = .ok (.lreturn, 1) := dk_173 (dk_at dksX0_choose_0 10 rfl rfl)
theorem dX0_choose_11 : decode cX0_choose 11 = .ok (.lconst 1, 1) := dk_10 (dk_at dksX0_choose_0 11 rfl rfl)
theorem dX0_choose_12 : decode cX0_choose 12 = .ok (.lstore_n 2, 1) := dk_65 (dk_at dksX0_choose_0 12 rfl rfl)
theorem dX0_choose_13 : decode cX0_choose 13 = .ok (.iconst 0, 1) := dk_3 (dk_at dksX0_choose_0 13 rfl rfl)
theorem dX0_choose_14 : decode cX0_choose 14 = .ok (.istore 4, 2) := dk_54 4 (dk_at dksX0_choose_0 14 rfl rfl)
theorem dX0_choose_16 : decode cX0_choose 16 = .ok (.iload 4, 2) := dk_21 4 (dk_at dksX0_choose_0 16 rfl rfl)
theorem dX0_choose_18 : decode cX0_choose 18 = .ok (.iload_n 1, 1) := dk_27 (dk_at dksX0_choose_0 18 rfl rfl)
theorem dX0_choose_19 : decode cX0_choose 19 = .ok (.if_icmp .ge 23, 3) := dk_162 0 23 (dk_at dksX0_choose_0 19 rfl rfl)
theorem dX0_choose_22 : decode cX0_choose 22 = .ok (.lload_n 2, 1) := dk_32 (dk_at dksX0_choose_0 22 rfl rfl)
theorem dX0_choose_23 : decode cX0_choose 23 = .ok (.iload_n 0, 1) := dk_26 (dk_at dksX0_choose_0 23 rfl rfl)
theorem dX0_choose_24 : decode cX0_choose 24 = .ok (.iload 4, 2) := dk_21 4 (dk_at dksX0_choose_1 0 rfl rfl)
theorem dX0_choose_26 : decode cX0_choose 26 = .ok (.isub, 1) := dk_100 (dk_at dksX0_choose_1 2 rfl rfl)
theorem dX0_choose_27 : decode cX0_choose 27 = .ok (.i2l, 1) := dk_133 (dk_at dksX0_choose_1 3 rfl rfl)
theorem dX0_choose_28 : decode cX0_choose 28 = .ok (.lmul, 1) := dk_105 (dk_at dksX0_choose_1 4 rfl rfl)
theorem dX0_choose_29 : decode cX0_choose 29 = .ok (.iload 4, 2) := dk_21 4 (dk_at dksX0_choose_1 5 rfl rfl)
theorem dX0_choose_31 : decode cX0_choose 31 = .ok (.iconst 1, 1) := dk_4 (dk_at dksX0_choose_1 7 rfl rfl)
theorem dX0_choose_32 : decode cX0_choose 32 = .ok (.iadd, 1) := dk_96 (dk_at dksX0_choose_1 8 rfl rfl)
theorem dX0_choose_33 : decode cX0_choose 33 = .ok (.i2l, 1) := dk_133 (dk_at dksX0_choose_1 9 rfl rfl)
theorem dX0_choose_34 : decode cX0_choose 34 = .ok (.ldiv, 1) := dk_109 (dk_at dksX0_choose_1 10 rfl rfl)
theorem dX0_choose_35 : decode cX0_choose 35 = .ok (.lstore_n 2, 1) := dk_65 (dk_at dksX0_choose_1 11 rfl rfl)
theorem dX0_choose_36 : decode cX0_choose 36 = .ok (.iinc 4 1, 3) := dk_132 4 1 (dk_at dksX0_choose_1 12 rfl rfl)
theorem dX0_choose_39 : decode cX0_choose 39 = .ok (.goto (-23), 3) := dk_167 255 233 (dk_at dksX0_choose_1 15 rfl rfl)
theorem dX0_choose_42 : decode cX0_choose 42 = .ok (.lload_n 2, 1) := dk_32 (dk_at dksX0_choose_1 18 rfl rfl)
theorem dX0_choose_43 : decode cX0_choose 43 = .ok (.lreturn, 1) := dk_173 (dk_at dksX0_choose_1 19 rfl rfl)
abbrev cX0_seen : ByteArray := prog_1_method_39_code
def yX0_seen : MethodName := ⟨RX0, "seen", "(III)I"⟩
def dkwX0_seen_4 : List UInt8 := [42, 180, 0, 20, 89, 180, 0, 226, 4, 96, 181, 0, 226, 42, 180, 0, 20, 180, 0, 226, 172]
abbrev dktX0_seen_4 : List UInt8 := dkwX0_seen_4 ++ []
def dkwX0_seen_3 : List UInt8 := [180, 0, 20, 180, 0, 226, 28, 79, 42, 180, 0, 20, 180, 0, 235, 42, 180, 0, 20, 180, 0, 226, 29, 79]
abbrev dktX0_seen_3 : List UInt8 := dkwX0_seen_3 ++ dktX0_seen_4
def dkwX0_seen_2 : List UInt8 := [42, 180, 0, 20, 180, 0, 229, 42, 180, 0, 20, 180, 0, 226, 27, 79, 42, 180, 0, 20, 180, 0, 232, 42]
abbrev dktX0_seen_2 : List UInt8 := dkwX0_seen_2 ++ dktX0_seen_3
def dkwX0_seen_1 : List UInt8 := [184, 0, 55, 154, 0, 6, 16, 254, 172, 42, 180, 0, 20, 180, 0, 226, 16, 8, 160, 0, 6, 16, 252, 172]
abbrev dktX0_seen_1 : List UInt8 := dkwX0_seen_1 ++ dktX0_seen_2
def dkwX0_seen_0 : List UInt8 := [27, 3, 17, 0, 255, 184, 0, 55, 153, 0, 22, 28, 3, 16, 8, 184, 0, 55, 153, 0, 12, 29, 3, 4]
abbrev dktX0_seen_0 : List UInt8 := dkwX0_seen_0 ++ dktX0_seen_1
theorem dksX0_seen_0 : cX0_seen.data.toList.drop 0 = dktX0_seen_0 := by decide +kernel
theorem dksX0_seen_1 : cX0_seen.data.toList.drop 24 = dktX0_seen_1 := dk_seg dksX0_seen_0 24 rfl rfl
theorem dksX0_seen_2 : cX0_seen.data.toList.drop 48 = dktX0_seen_2 := dk_seg dksX0_seen_1 24 rfl rfl
theorem dksX0_seen_3 : cX0_seen.data.toList.drop 72 = dktX0_seen_3 := dk_seg dksX0_seen_2 24 rfl rfl
theorem dksX0_seen_4 : cX0_seen.data.toList.drop 96 = dktX0_seen_4 := dk_seg dksX0_seen_3 24 rfl rfl
theorem dX0_seen_0 : decode cX0_seen 0 = .ok (.iload_n 1, 1) := dk_27 (dk_at dksX0_seen_0 0 rfl rfl)
theorem dX0_seen_1 : decode cX0_seen 1 = .ok (.iconst 0, 1) := dk_3 (dk_at dksX0_seen_0 1 rfl rfl)
theorem dX0_seen_2 : decode cX0_seen 2 = .ok (.sipush 255, 3) := dk_17 0 255 (dk_at dksX0_seen_0 2 rfl rfl)
theorem dX0_seen_5 : decode cX0_seen 5 = .ok (.invokestatic 55, 3) := dk_184 0 55 (dk_at dksX0_seen_0 5 rfl rfl)
theorem dX0_seen_8 : decode cX0_seen 8 = .ok (.ifCond .eq 22, 3) := dk_153 0 22 (dk_at dksX0_seen_0 8 rfl rfl)
theorem dX0_seen_11 : decode cX0_seen 11 = .ok (.iload_n 2, 1) := dk_28 (dk_at dksX0_seen_0 11 rfl rfl)
theorem dX0_seen_12 : decode cX0_seen 12 = .ok (.iconst 0, 1) := dk_3 (dk_at dksX0_seen_0 12 rfl rfl)
theorem dX0_seen_13 : decode cX0_seen 13 = .ok (.bipush 8, 2) := dk_16 8 (dk_at dksX0_seen_0 13 rfl rfl)
theorem dX0_seen_15 : decode cX0_seen 15 = .ok (.invokestatic 55, 3) := dk_184 0 55 (dk_at dksX0_seen_0 15 rfl rfl)
theorem dX0_seen_18 : decode cX0_seen 18 = .ok (.ifCond .eq 12, 3) := dk_153 0 12 (dk_at dksX0_seen_0 18 rfl rfl)
theorem dX0_seen_21 : decode cX0_seen 21 = .ok (.iload_n 3, 1) := dk_29 (dk_at dksX0_seen_0 21 rfl rfl)
theorem dX0_seen_22 : decode cX0_seen 22 = .ok (.iconst 0, 1) := dk_3 (dk_at dksX0_seen_0 22 rfl rfl)
theorem dX0_seen_23 : decode cX0_seen 23 = .ok (.iconst 1, 1) := dk_4 (dk_at dksX0_seen_0 23 rfl rfl)
theorem dX0_seen_24 : decode cX0_seen 24 = .ok (.invokestatic 55, 3) := dk_184 0 55 (dk_at dksX0_seen_1 0 rfl rfl)
theorem dX0_seen_27 : decode cX0_seen 27 = .ok (.ifCond .ne 6, 3) := dk_154 0 6 (dk_at dksX0_seen_1 3 rfl rfl)
theorem dX0_seen_30 : decode cX0_seen 30 = .ok (.bipush (-2), 2) := dk_16 254 (dk_at dksX0_seen_1 6 rfl rfl)
theorem dX0_seen_32 : decode cX0_seen 32 = .ok (.ireturn, 1) := dk_172 (dk_at dksX0_seen_1 8 rfl rfl)
theorem dX0_seen_33 : decode cX0_seen 33 = .ok (.aload_n 0, 1) := dk_42 (dk_at dksX0_seen_1 9 rfl rfl)
theorem dX0_seen_34 : decode cX0_seen 34 = .ok (.getfield 20, 3) := dk_180 0 20 (dk_at dksX0_seen_1 10 rfl rfl)
theorem dX0_seen_37 : decode cX0_seen 37 = .ok (.getfield 226, 3) := dk_180 0 226 (dk_at dksX0_seen_1 13 rfl rfl)
theorem dX0_seen_40 : decode cX0_seen 40 = .ok (.bipush 8, 2) := dk_16 8 (dk_at dksX0_seen_1 16 rfl rfl)
theorem dX0_seen_42 : decode cX0_seen 42 = .ok (.if_icmp .ne 6, 3) := dk_160 0 6 (dk_at dksX0_seen_1 18 rfl rfl)
theorem dX0_seen_45 : decode cX0_seen 45 = .ok (.bipush (-4), 2) := dk_16 252 (dk_at dksX0_seen_1 21 rfl rfl)
theorem dX0_seen_47 : decode cX0_seen 47 = .ok (.ireturn, 1) := dk_172 (dk_at dksX0_seen_1 23 rfl rfl)
theorem dX0_seen_48 : decode cX0_seen 48 = .ok (.aload_n 0, 1) := dk_42 (dk_at dksX0_seen_2 0 rfl rfl)
theorem dX0_seen_49 : decode cX0_seen 49 = .ok (.getfield 20, 3) := dk_180 0 20 (dk_at dksX0_seen_2 1 rfl rfl)
theorem dX0_seen_52 : decode cX0_seen 52 = .ok (.getfield 229, 3) := dk_180 0 229 (dk_at dksX0_seen_2 4 rfl rfl)
theorem dX0_seen_55 : decode cX0_seen 55 = .ok (.aload_n 0, 1) := dk_42 (dk_at dksX0_seen_2 7 rfl rfl)
theorem dX0_seen_56 : decode cX0_seen 56 = .ok (.getfield 20, 3) := dk_180 0 20 (dk_at dksX0_seen_2 8 rfl rfl)
theorem dX0_seen_59 : decode cX0_seen 59 = .ok (.getfield 226, 3) := dk_180 0 226 (dk_at dksX0_seen_2 11 rfl rfl)
theorem dX0_seen_62 : decode cX0_seen 62 = .ok (.iload_n 1, 1) := dk_27 (dk_at dksX0_seen_2 14 rfl rfl)
theorem dX0_seen_63 : decode cX0_seen 63 = .ok (.iastore, 1) := dk_79 (dk_at dksX0_seen_2 15 rfl rfl)
theorem dX0_seen_64 : decode cX0_seen 64 = .ok (.aload_n 0, 1) := dk_42 (dk_at dksX0_seen_2 16 rfl rfl)
theorem dX0_seen_65 : decode cX0_seen 65 = .ok (.getfield 20, 3) := dk_180 0 20 (dk_at dksX0_seen_2 17 rfl rfl)
theorem dX0_seen_68 : decode cX0_seen 68 = .ok (.getfield 232, 3) := dk_180 0 232 (dk_at dksX0_seen_2 20 rfl rfl)
theorem dX0_seen_71 : decode cX0_seen 71 = .ok (.aload_n 0, 1) := dk_42 (dk_at dksX0_seen_2 23 rfl rfl)
theorem dX0_seen_72 : decode cX0_seen 72 = .ok (.getfield 20, 3) := dk_180 0 20 (dk_at dksX0_seen_3 0 rfl rfl)
theorem dX0_seen_75 : decode cX0_seen 75 = .ok (.getfield 226, 3) := dk_180 0 226 (dk_at dksX0_seen_3 3 rfl rfl)
theorem dX0_seen_78 : decode cX0_seen 78 = .ok (.iload_n 2, 1) := dk_28 (dk_at dksX0_seen_3 6 rfl rfl)
theorem dX0_seen_79 : decode cX0_seen 79 = .ok (.iastore, 1) := dk_79 (dk_at dksX0_seen_3 7 rfl rfl)
theorem dX0_seen_80 : decode cX0_seen 80 = .ok (.aload_n 0, 1) := dk_42 (dk_at dksX0_seen_3 8 rfl rfl)
theorem dX0_seen_81 : decode cX0_seen 81 = .ok (.getfield 20, 3) := dk_180 0 20 (dk_at dksX0_seen_3 9 rfl rfl)
theorem dX0_seen_84 : decode cX0_seen 84 = .ok (.getfield 235, 3) := dk_180 0 235 (dk_at dksX0_seen_3 12 rfl rfl)
theorem dX0_seen_87 : decode cX0_seen 87 = .ok (.aload_n 0, 1) := dk_42 (dk_at dksX0_seen_3 15 rfl rfl)
theorem dX0_seen_88 : decode cX0_seen 88 = .ok (.getfield 20, 3) := dk_180 0 20 (dk_at dksX0_seen_3 16 rfl rfl)
theorem dX0_seen_91 : decode cX0_seen 91 = .ok (.getfield 226, 3) := dk_180 0 226 (dk_at dksX0_seen_3 19 rfl rfl)
theorem dX0_seen_94 : decode cX0_seen 94 = .ok (.iload_n 3, 1) := dk_29 (dk_at dksX0_seen_3 22 rfl rfl)
theorem dX0_seen_95 : decode cX0_seen 95 = .ok (.iastore, 1) := dk_79 (dk_at dksX0_seen_3 23 rfl rfl)
theorem dX0_seen_96 : decode cX0_seen 96 = .ok (.aload_n 0, 1) := dk_42 (dk_at dksX0_seen_4 0 rfl rfl)
theorem dX0_seen_97 : decode cX0_seen 97 = .ok (.getfield 20, 3) := dk_180 0 20 (dk_at dksX0_seen_4 1 rfl rfl)
theorem dX0_seen_100 : decode cX0_seen 100 = .ok (.dup, 1) := dk_89 (dk_at dksX0_seen_4 4 rfl rfl)
theorem dX0_seen_101 : decode cX0_seen 101 = .ok (.getfield 226, 3) := dk_180 0 226 (dk_at dksX0_seen_4 5 rfl rfl)
theorem dX0_seen_104 : decode cX0_seen 104 = .ok (.iconst 1, 1) := dk_4 (dk_at dksX0_seen_4 8 rfl rfl)
theorem dX0_seen_105 : decode cX0_seen 105 = .ok (.iadd, 1) := dk_96 (dk_at dksX0_seen_4 9 rfl rfl)
theorem dX0_seen_106 : decode cX0_seen 106 = .ok (.putfield 226, 3) := dk_181 0 226 (dk_at dksX0_seen_4 10 rfl rfl)
theorem dX0_seen_109 : decode cX0_seen 109 = .ok (.aload_n 0, 1) := dk_42 (dk_at dksX0_seen_4 13 rfl rfl)
theorem dX0_seen_110 : decode cX0_seen 110 = .ok (.getfield 20, 3) := dk_180 0 20 (dk_at dksX0_seen_4 14 rfl rfl)
theorem dX0_seen_113 : decode cX0_seen 113 = .ok (.getfield 226, 3) := dk_180 0 226 (dk_at dksX0_seen_4 17 rfl rfl)
theorem dX0_seen_116 : decode cX0_seen 116 = .ok (.ireturn, 1) := dk_172 (dk_at dksX0_seen_4 20 rfl rfl)
abbrev cX0_forget : ByteArray := prog_1_method_40_code
def yX0_forget : MethodName := ⟨RX0, "forget", "()I"⟩
def dkwX0_forget_0 : List UInt8 := [42, 180, 0, 20, 180, 0, 226, 60, 42, 180, 0, 20, 3, 181, 0, 226, 27, 172]
abbrev dktX0_forget_0 : List UInt8 := dkwX0_forget_0 ++ []
theorem dksX0_forget_0 : cX0_forget.data.toList.drop 0 = dktX0_forget_0 := by decide +kernel
theorem dX0_forget_0 : decode cX0_forget 0 = .ok (.aload_n 0, 1) := dk_42 (dk_at dksX0_forget_0 0 rfl rfl)
theorem dX0_forget_1 : decode cX0_forget 1 = .ok (.getfield 20, 3) := dk_180 0 20 (dk_at dksX0_forget_0 1 rfl rfl)
theorem dX0_forget_4 : decode cX0_forget 4 = .ok (.getfield 226, 3) := dk_180 0 226 (dk_at dksX0_forget_0 4 rfl rfl)
theorem dX0_forget_7 : decode cX0_forget 7 = .ok (.istore_n 1, 1) := dk_60 (dk_at dksX0_forget_0 7 rfl rfl)
theorem dX0_forget_8 : decode cX0_forget 8 = .ok (.aload_n 0, 1) := dk_42 (dk_at dksX0_forget_0 8 rfl rfl)
theorem dX0_forget_9 : decode cX0_forget 9 = .ok (.getfield 20, 3) := dk_180 0 20 (dk_at dksX0_forget_0 9 rfl rfl)
theorem dX0_forget_12 : decode cX0_forget 12 = .ok (.iconst 0, 1) := dk_3 (dk_at dksX0_forget_0 12 rfl rfl)
theorem dX0_forget_13 : decode cX0_forget 13 = .ok (.putfield 226, 3) := dk_181 0 226 (dk_at dksX0_forget_0 13 rfl rfl)
theorem dX0_forget_16 : decode cX0_forget 16 = .ok (.iload_n 1, 1) := dk_27 (dk_at dksX0_forget_0 16 rfl rfl)
theorem dX0_forget_17 : decode cX0_forget 17 = .ok (.ireturn, 1) := dk_172 (dk_at dksX0_forget_0 17 rfl rfl)
abbrev cX0_clerks : ByteArray := prog_1_method_42_code
def yX0_clerks : MethodName := ⟨RX0, "clerks", "(II)I"⟩
def dkwX0_clerks_2 : List UInt8 := [132, 4, 1, 167, 255, 224, 28, 2, 160, 0, 7, 29, 167, 0, 5, 16, 250, 172]
abbrev dktX0_clerks_2 : List UInt8 := dkwX0_clerks_2 ++ []
def dkwX0_clerks_1 : List UInt8 := [162, 0, 30, 42, 21, 4, 27, 182, 0, 238, 153, 0, 14, 29, 28, 160, 0, 6, 21, 4, 172, 132, 3, 1]
abbrev dktX0_clerks_1 : List UInt8 := dkwX0_clerks_1 ++ dktX0_clerks_2
def dkwX0_clerks_0 : List UInt8 := [27, 3, 6, 184, 0, 55, 154, 0, 6, 16, 254, 172, 3, 62, 3, 54, 4, 21, 4, 17, 1, 0]
abbrev dktX0_clerks_0 : List UInt8 := dkwX0_clerks_0 ++ dktX0_clerks_1
theorem dksX0_clerks_0 : cX0_clerks.data.toList.drop 0 = dktX0_clerks_0 := by decide +kernel
theorem dksX0_clerks_1 : cX0_clerks.data.toList.drop 22 = dktX0_clerks_1 := dk_seg dksX0_clerks_0 22 rfl rfl
theorem dksX0_clerks_2 : cX0_clerks.data.toList.drop 46 = dktX0_clerks_2 := dk_seg dksX0_clerks_1 24 rfl rfl
theorem dX0_clerks_0 : decode cX0_clerks 0 = .ok (.iload_n 1, 1) := dk_27 (dk_at dksX0_clerks_0 0 rfl rfl)
theorem dX0_clerks_1 : decode cX0_clerks 1 = .ok (.iconst 0, 1) := dk_3 (dk_at dksX0_clerks_0 1 rfl rfl)
theorem dX0_clerks_2 : decode cX0_clerks 2 = .ok (.iconst 3, 1) := dk_6 (dk_at dksX0_clerks_0 2 rfl rfl)
theorem dX0_clerks_3 : decode cX0_clerks 3 = .ok (.invokestatic 55, 3) := dk_184 0 55 (dk_at dksX0_clerks_0 3 rfl rfl)
theorem dX0_clerks_6 : decode cX0_clerks 6 = .ok (.ifCond .ne 6, 3) := dk_154 0 6 (dk_at dksX0_clerks_0 6 rfl rfl)
theorem dX0_clerks_9 : decode cX0_clerks 9 = .ok (.bipush (-2), 2) := dk_16 254 (dk_at dksX0_clerks_0 9 rfl rfl)
theorem dX0_clerks_11 : decode cX0_clerks 11 = .ok (.ireturn, 1) := dk_172 (dk_at dksX0_clerks_0 11 rfl rfl)
theorem dX0_clerks_12 : decode cX0_clerks 12 = .ok (.iconst 0, 1) := dk_3 (dk_at dksX0_clerks_0 12 rfl rfl)
theorem dX0_clerks_13 : decode cX0_clerks 13 = .ok (.istore_n 3, 1) := dk_62 (dk_at dksX0_clerks_0 13 rfl rfl)
theorem dX0_clerks_14 : decode cX0_clerks 14 = .ok (.iconst 0, 1) := dk_3 (dk_at dksX0_clerks_0 14 rfl rfl)
theorem dX0_clerks_15 : decode cX0_clerks 15 = .ok (.istore 4, 2) := dk_54 4 (dk_at dksX0_clerks_0 15 rfl rfl)
theorem dX0_clerks_17 : decode cX0_clerks 17 = .ok (.iload 4, 2) := dk_21 4 (dk_at dksX0_clerks_0 17 rfl rfl)
theorem dX0_clerks_19 : decode cX0_clerks 19 = .ok (.sipush 256, 3) := dk_17 1 0 (dk_at dksX0_clerks_0 19 rfl rfl)
theorem dX0_clerks_22 : decode cX0_clerks 22 = .ok (.if_icmp .ge 30, 3) := dk_162 0 30 (dk_at dksX0_clerks_1 0 rfl rfl)
theorem dX0_clerks_25 : decode cX0_clerks 25 = .ok (.aload_n 0, 1) := dk_42 (dk_at dksX0_clerks_1 3 rfl rfl)
theorem dX0_clerks_26 : decode cX0_clerks 26 = .ok (.iload 4, 2) := dk_21 4 (dk_at dksX0_clerks_1 4 rfl rfl)
theorem dX0_clerks_28 : decode cX0_clerks 28 = .ok (.iload_n 1, 1) := dk_27 (dk_at dksX0_clerks_1 6 rfl rfl)
theorem dX0_clerks_29 : decode cX0_clerks 29 = .ok (.invokevirtual 238, 3) := dk_182 0 238 (dk_at dksX0_clerks_1 7 rfl rfl)
theorem dX0_clerks_32 : decode cX0_clerks 32 = .ok (.ifCond .eq 14, 3) := dk_153 0 14 (dk_at dksX0_clerks_1 10 rfl rfl)
theorem dX0_clerks_35 : decode cX0_clerks 35 = .ok (.iload_n 3, 1) := dk_29 (dk_at dksX0_clerks_1 13 rfl rfl)
theorem dX0_clerks_36 : decode cX0_clerks 36 = .ok (.iload_n 2, 1) := dk_28 (dk_at dksX0_clerks_1 14 rfl rfl)
theorem dX0_clerks_37 : decode cX0_clerks 37 = .ok (.if_icmp .ne 6, 3) := dk_160 0 6 (dk_at dksX0_clerks_1 15 rfl rfl)
theorem dX0_clerks_40 : decode cX0_clerks 40 = .ok (.iload 4, 2) := dk_21 4 (dk_at dksX0_clerks_1 18 rfl rfl)
theorem dX0_clerks_42 : decode cX0_clerks 42 = .ok (.ireturn, 1) := dk_172 (dk_at dksX0_clerks_1 20 rfl rfl)
theorem dX0_clerks_43 : decode cX0_clerks 43 = .ok (.iinc 3 1, 3) := dk_132 3 1 (dk_at dksX0_clerks_1 21 rfl rfl)
theorem dX0_clerks_46 : decode cX0_clerks 46 = .ok (.iinc 4 1, 3) := dk_132 4 1 (dk_at dksX0_clerks_2 0 rfl rfl)
theorem dX0_clerks_49 : decode cX0_clerks 49 = .ok (.goto (-32), 3) := dk_167 255 224 (dk_at dksX0_clerks_2 3 rfl rfl)
theorem dX0_clerks_52 : decode cX0_clerks 52 = .ok (.iload_n 2, 1) := dk_28 (dk_at dksX0_clerks_2 6 rfl rfl)
theorem dX0_clerks_53 : decode cX0_clerks 53 = .ok (.iconst (-1), 1) := dk_2 (dk_at dksX0_clerks_2 7 rfl rfl)
theorem dX0_clerks_54 : decode cX0_clerks 54 = .ok (.if_icmp .ne 7, 3) := dk_160 0 7 (dk_at dksX0_clerks_2 8 rfl rfl)
theorem dX0_clerks_57 : decode cX0_clerks 57 = .ok (.iload_n 3, 1) := dk_29 (dk_at dksX0_clerks_2 11 rfl rfl)
theorem dX0_clerks_58 : decode cX0_clerks 58 = .ok (.goto 5, 3) := dk_167 0 5 (dk_at dksX0_clerks_2 12 rfl rfl)
theorem dX0_clerks_61 : decode cX0_clerks 61 = .ok (.bipush (-6), 2) := dk_16 250 (dk_at dksX0_clerks_2 15 rfl rfl)
theorem dX0_clerks_63 : decode cX0_clerks 63 = .ok (.ireturn, 1) := dk_172 (dk_at dksX0_clerks_2 17 rfl rfl)
abbrev cX0_canBe : ByteArray := prog_1_method_41_code
def yX0_canBe : MethodName := ⟨RX0, "canBe", "(II)Z"⟩
def dkwX0_canBe_4 : List UInt8 := [180, 0, 232, 21, 4, 46, 161, 0, 7, 4, 167, 0, 4, 3, 62, 132, 4, 1, 167, 255, 161, 29, 172]
abbrev dktX0_canBe_4 : List UInt8 := dkwX0_canBe_4 ++ []
def dkwX0_canBe_3 : List UInt8 := [180, 0, 232, 21, 4, 46, 160, 0, 7, 4, 167, 0, 27, 3, 167, 0, 23, 21, 5, 42, 180, 0, 20]
abbrev dktX0_canBe_3 : List UInt8 := dkwX0_canBe_3 ++ dktX0_canBe_4
def dkwX0_canBe_2 : List UInt8 := [184, 0, 193, 54, 5, 42, 180, 0, 20, 180, 0, 235, 21, 4, 46, 154, 0, 26, 21, 5, 42, 180, 0, 20]
abbrev dktX0_canBe_2 : List UInt8 := dkwX0_canBe_2 ++ dktX0_canBe_3
def dkwX0_canBe_1 : List UInt8 := [180, 0, 226, 162, 0, 89, 29, 153, 0, 85, 42, 180, 0, 20, 180, 0, 229, 21, 4, 46, 27, 2, 130, 126]
abbrev dktX0_canBe_1 : List UInt8 := dkwX0_canBe_1 ++ dktX0_canBe_2
def dkwX0_canBe_0 : List UInt8 := [27, 184, 0, 193, 28, 163, 0, 7, 4, 167, 0, 4, 3, 62, 3, 54, 4, 21, 4, 42, 180, 0, 20]
abbrev dktX0_canBe_0 : List UInt8 := dkwX0_canBe_0 ++ dktX0_canBe_1
theorem dksX0_canBe_0 : cX0_canBe.data.toList.drop 0 = dktX0_canBe_0 := by decide +kernel
theorem dksX0_canBe_1 : cX0_canBe.data.toList.drop 23 = dktX0_canBe_1 := dk_seg dksX0_canBe_0 23 rfl rfl
theorem dksX0_canBe_2 : cX0_canBe.data.toList.drop 47 = dktX0_canBe_2 := dk_seg dksX0_canBe_1 24 rfl rfl
theorem dksX0_canBe_3 : cX0_canBe.data.toList.drop 71 = dktX0_canBe_3 := dk_seg dksX0_canBe_2 24 rfl rfl
theorem dksX0_canBe_4 : cX0_canBe.data.toList.drop 94 = dktX0_canBe_4 := dk_seg dksX0_canBe_3 23 rfl rfl
theorem dX0_canBe_0 : decode cX0_canBe 0 = .ok (.iload_n 1, 1) := dk_27 (dk_at dksX0_canBe_0 0 rfl rfl)
theorem dX0_canBe_1 : decode cX0_canBe 1 = .ok (.invokestatic 193, 3) := dk_184 0 193 (dk_at dksX0_canBe_0 1 rfl rfl)
theorem dX0_canBe_4 : decode cX0_canBe 4 = .ok (.iload_n 2, 1) := dk_28 (dk_at dksX0_canBe_0 4 rfl rfl)
theorem dX0_canBe_5 : decode cX0_canBe 5 = .ok (.if_icmp .gt 7, 3) := dk_163 0 7 (dk_at dksX0_canBe_0 5 rfl rfl)
theorem dX0_canBe_8 : decode cX0_canBe 8 = .ok (.iconst 1, 1) := dk_4 (dk_at dksX0_canBe_0 8 rfl rfl)
theorem dX0_canBe_9 : decode cX0_canBe 9 = .ok (.goto 4, 3) := dk_167 0 4 (dk_at dksX0_canBe_0 9 rfl rfl)
theorem dX0_canBe_12 : decode cX0_canBe 12 = .ok (.iconst 0, 1) := dk_3 (dk_at dksX0_canBe_0 12 rfl rfl)
theorem dX0_canBe_13 : decode cX0_canBe 13 = .ok (.istore_n 3, 1) := dk_62 (dk_at dksX0_canBe_0 13 rfl rfl)
theorem dX0_canBe_14 : decode cX0_canBe 14 = .ok (.iconst 0, 1) := dk_3 (dk_at dksX0_canBe_0 14 rfl rfl)
theorem dX0_canBe_15 : decode cX0_canBe 15 = .ok (.istore 4, 2) := dk_54 4 (dk_at dksX0_canBe_0 15 rfl rfl)
theorem dX0_canBe_17 : decode cX0_canBe 17 = .ok (.iload 4, 2) := dk_21 4 (dk_at dksX0_canBe_0 17 rfl rfl)
theorem dX0_canBe_19 : decode cX0_canBe 19 = .ok (.aload_n 0, 1) := dk_42 (dk_at dksX0_canBe_0 19 rfl rfl)
theorem dX0_canBe_20 : decode cX0_canBe 20 = .ok (.getfield 20, 3) := dk_180 0 20 (dk_at dksX0_canBe_0 20 rfl rfl)
theorem dX0_canBe_23 : decode cX0_canBe 23 = .ok (.getfield 226, 3) := dk_180 0 226 (dk_at dksX0_canBe_1 0 rfl rfl)
theorem dX0_canBe_26 : decode cX0_canBe 26 = .ok (.if_icmp .ge 89, 3) := dk_162 0 89 (dk_at dksX0_canBe_1 3 rfl rfl)
theorem dX0_canBe_29 : decode cX0_canBe 29 = .ok (.iload_n 3, 1) := dk_29 (dk_at dksX0_canBe_1 6 rfl rfl)
theorem dX0_canBe_30 : decode cX0_canBe 30 = .ok (.ifCond .eq 85, 3) := dk_153 0 85 (dk_at dksX0_canBe_1 7 rfl rfl)
theorem dX0_canBe_33 : decode cX0_canBe 33 = .ok (.aload_n 0, 1) := dk_42 (dk_at dksX0_canBe_1 10 rfl rfl)
theorem dX0_canBe_34 : decode cX0_canBe 34 = .ok (.getfield 20, 3) := dk_180 0 20 (dk_at dksX0_canBe_1 11 rfl rfl)
theorem dX0_canBe_37 : decode cX0_canBe 37 = .ok (.getfield 229, 3) := dk_180 0 229 (dk_at dksX0_canBe_1 14 rfl rfl)
theorem dX0_canBe_40 : decode cX0_canBe 40 = .ok (.iload 4, 2) := dk_21 4 (dk_at dksX0_canBe_1 17 rfl rfl)
theorem dX0_canBe_42 : decode cX0_canBe 42 = .ok (.iaload, 1) := dk_46 (dk_at dksX0_canBe_1 19 rfl rfl)
theorem dX0_canBe_43 : decode cX0_canBe 43 = .ok (.iload_n 1, 1) := dk_27 (dk_at dksX0_canBe_1 20 rfl rfl)
theorem dX0_canBe_44 : decode cX0_canBe 44 = .ok (.iconst (-1), 1) := dk_2 (dk_at dksX0_canBe_1 21 rfl rfl)
theorem dX0_canBe_45 : decode cX0_canBe 45 = .ok (.ixor, 1) := dk_130 (dk_at dksX0_canBe_1 22 rfl rfl)
theorem dX0_canBe_46 : decode cX0_canBe 46 = .ok (.iand, 1) := dk_126 (dk_at dksX0_canBe_1 23 rfl rfl)
theorem dX0_canBe_47 : decode cX0_canBe 47 = .ok (.invokestatic 193, 3) := dk_184 0 193 (dk_at dksX0_canBe_2 0 rfl rfl)
theorem dX0_canBe_50 : decode cX0_canBe 50 = .ok (.istore 5, 2) := dk_54 5 (dk_at dksX0_canBe_2 3 rfl rfl)
theorem dX0_canBe_52 : decode cX0_canBe 52 = .ok (.aload_n 0, 1) := dk_42 (dk_at dksX0_canBe_2 5 rfl rfl)
theorem dX0_canBe_53 : decode cX0_canBe 53 = .ok (.getfield 20, 3) := dk_180 0 20 (dk_at dksX0_canBe_2 6 rfl rfl)
theorem dX0_canBe_56 : decode cX0_canBe 56 = .ok (.getfield 235, 3) := dk_180 0 235 (dk_at dksX0_canBe_2 9 rfl rfl)
theorem dX0_canBe_59 : decode cX0_canBe 59 = .ok (.iload 4, 2) := dk_21 4 (dk_at dksX0_canBe_2 12 rfl rfl)
theorem dX0_canBe_61 : decode cX0_canBe 61 = .ok (.iaload, 1) := dk_46 (dk_at dksX0_canBe_2 14 rfl rfl)
theorem dX0_canBe_62 : decode cX0_canBe 62 = .ok (.ifCond .ne 26, 3) := dk_154 0 26 (dk_at dksX0_canBe_2 15 rfl rfl)
theorem dX0_canBe_65 : decode cX0_canBe 65 = .ok (.iload 5, 2) := dk_21 5 (dk_at dksX0_canBe_2 18 rfl rfl)
theorem dX0_canBe_67 : decode cX0_canBe 67 = .ok (.aload_n 0, 1) := dk_42 (dk_at dksX0_canBe_2 20 rfl rfl)
theorem dX0_canBe_68 : decode cX0_canBe 68 = .ok (.getfield 20, 3) := dk_180 0 20 (dk_at dksX0_canBe_2 21 rfl rfl)
theorem dX0_canBe_71 : decode cX0_canBe 71 = .ok (.getfield 232, 3) := dk_180 0 232 (dk_at dksX0_canBe_3 0 rfl rfl)
theorem dX0_canBe_74 : decode cX0_canBe 74 = .ok (.iload 4, 2) := dk_21 4 (dk_at dksX0_canBe_3 3 rfl rfl)
theorem dX0_canBe_76 : decode cX0_canBe 76 = .ok (.iaload, 1) := dk_46 (dk_at dksX0_canBe_3 5 rfl rfl)
theorem dX0_canBe_77 : decode cX0_canBe 77 = .ok (.if_icmp .ne 7, 3) := dk_160 0 7 (dk_at dksX0_canBe_3 6 rfl rfl)
theorem dX0_canBe_80 : decode cX0_canBe 80 = .ok (.iconst 1, 1) := dk_4 (dk_at dksX0_canBe_3 9 rfl rfl)
theorem dX0_canBe_81 : decode cX0_canBe 81 = .ok (.goto 27, 3) := dk_167 0 27 (dk_at dksX0_canBe_3 10 rfl rfl)
theorem dX0_canBe_84 : decode cX0_canBe 84 = .ok (.iconst 0, 1) := dk_3 (dk_at dksX0_canBe_3 13 rfl rfl)
theorem dX0_canBe_85 : decode cX0_canBe 85 = .ok (.goto 23, 3) := dk_167 0 23 (dk_at dksX0_canBe_3 14 rfl rfl)
theorem dX0_canBe_88 : decode cX0_canBe 88 = .ok (.iload 5, 2) := dk_21 5 (dk_at dksX0_canBe_3 17 rfl rfl)
theorem dX0_canBe_90 : decode cX0_canBe 90 = .ok (.aload_n 0, 1) := dk_42 (dk_at dksX0_canBe_3 19 rfl rfl)
theorem dX0_canBe_91 : decode cX0_canBe 91 = .ok (.getfield 20, 3) := dk_180 0 20 (dk_at dksX0_canBe_3 20 rfl rfl)
theorem dX0_canBe_94 : decode cX0_canBe 94 = .ok (.getfield 232, 3) := dk_180 0 232 (dk_at dksX0_canBe_4 0 rfl rfl)
theorem dX0_canBe_97 : decode cX0_canBe 97 = .ok (.iload 4, 2) := dk_21 4 (dk_at dksX0_canBe_4 3 rfl rfl)
theorem dX0_canBe_99 : decode cX0_canBe 99 = .ok (.iaload, 1) := dk_46 (dk_at dksX0_canBe_4 5 rfl rfl)
theorem dX0_canBe_100 : decode cX0_canBe 100 = .ok (.if_icmp .lt 7, 3) := dk_161 0 7 (dk_at dksX0_canBe_4 6 rfl rfl)
theorem dX0_canBe_103 : decode cX0_canBe 103 = .ok (.iconst 1, 1) := dk_4 (dk_at dksX0_canBe_4 9 rfl rfl)
theorem dX0_canBe_104 : decode cX0_canBe 104 = .ok (.goto 4, 3) := dk_167 0 4 (dk_at dksX0_canBe_4 10 rfl rfl)
theorem dX0_canBe_107 : decode cX0_canBe 107 = .ok (.iconst 0, 1) := dk_3 (dk_at dksX0_canBe_4 13 rfl rfl)
theorem dX0_canBe_108 : decode cX0_canBe 108 = .ok (.istore_n 3, 1) := dk_62 (dk_at dksX0_canBe_4 14 rfl rfl)
theorem dX0_canBe_109 : decode cX0_canBe 109 = .ok (.iinc 4 1, 3) := dk_132 4 1 (dk_at dksX0_canBe_4 15 rfl rfl)
theorem dX0_canBe_112 : decode cX0_canBe 112 = .ok (.goto (-95), 3) := dk_167 255 161 (dk_at dksX0_canBe_4 18 rfl rfl)
theorem dX0_canBe_115 : decode cX0_canBe 115 = .ok (.iload_n 3, 1) := dk_29 (dk_at dksX0_canBe_4 21 rfl rfl)
theorem dX0_canBe_116 : decode cX0_canBe 116 = .ok (.ireturn, 1) := dk_172 (dk_at dksX0_canBe_4 22 rfl rfl)
abbrev cX0_count : ByteArray := prog_1_method_43_code
def yX0_count : MethodName := ⟨RX0, "count", "(II)I"⟩
def dkwX0_count_8 : List UInt8 := [172]
abbrev dktX0_count_8 : List UInt8 := dkwX0_count_8 ++ []
def dkwX0_count_7 : List UInt8 := [54, 5, 132, 6, 1, 167, 255, 196, 21, 4, 155, 0, 7, 28, 154, 0, 8, 21, 4, 167, 0, 5, 21, 5]
abbrev dktX0_count_7 : List UInt8 := dkwX0_count_7 ++ dktX0_count_8
def dkwX0_count_6 : List UInt8 := [21, 7, 21, 5, 162, 0, 8, 21, 6, 167, 0, 5, 21, 4, 54, 4, 21, 5, 21, 7, 184, 0, 242]
abbrev dktX0_count_6 : List UInt8 := dkwX0_count_6 ++ dktX0_count_7
def dkwX0_count_5 : List UInt8 := [158, 0, 55, 42, 180, 0, 52, 21, 6, 46, 29, 42, 180, 0, 52, 21, 6, 46, 100, 184, 0, 183, 54, 7]
abbrev dktX0_count_5 : List UInt8 := dkwX0_count_5 ++ dktX0_count_6
def dkwX0_count_4 : List UInt8 := [167, 255, 199, 16, 250, 54, 4, 18, 241, 54, 5, 3, 54, 6, 21, 6, 16, 8, 162, 0, 59, 29]
abbrev dktX0_count_4 : List UInt8 := dkwX0_count_4 ++ dktX0_count_5
def dkwX0_count_3 : List UInt8 := [21, 5, 92, 46, 21, 4, 21, 5, 122, 4, 126, 96, 79, 132, 5, 1, 167, 255, 229, 132, 4, 1]
abbrev dktX0_count_3 : List UInt8 := dkwX0_count_3 ++ dktX0_count_4
def dkwX0_count_2 : List UInt8 := [182, 0, 238, 153, 0, 39, 132, 3, 1, 3, 54, 5, 21, 5, 16, 8, 162, 0, 26, 42, 180, 0, 52]
abbrev dktX0_count_2 : List UInt8 := dkwX0_count_2 ++ dktX0_count_3
def dkwX0_count_1 : List UInt8 := [180, 0, 52, 3, 184, 0, 171, 3, 62, 3, 54, 4, 21, 4, 17, 1, 0, 162, 0, 55, 42, 21, 4, 27]
abbrev dktX0_count_1 : List UInt8 := dkwX0_count_1 ++ dktX0_count_2
def dkwX0_count_0 : List UInt8 := [27, 3, 6, 184, 0, 55, 153, 0, 12, 28, 3, 4, 184, 0, 55, 154, 0, 6, 16, 254, 172, 42]
abbrev dktX0_count_0 : List UInt8 := dkwX0_count_0 ++ dktX0_count_1
theorem dksX0_count_0 : cX0_count.data.toList.drop 0 = dktX0_count_0 := by decide +kernel
theorem dksX0_count_1 : cX0_count.data.toList.drop 22 = dktX0_count_1 := dk_seg dksX0_count_0 22 rfl rfl
theorem dksX0_count_2 : cX0_count.data.toList.drop 46 = dktX0_count_2 := dk_seg dksX0_count_1 24 rfl rfl
theorem dksX0_count_3 : cX0_count.data.toList.drop 69 = dktX0_count_3 := dk_seg dksX0_count_2 23 rfl rfl
theorem dksX0_count_4 : cX0_count.data.toList.drop 91 = dktX0_count_4 := dk_seg dksX0_count_3 22 rfl rfl
theorem dksX0_count_5 : cX0_count.data.toList.drop 113 = dktX0_count_5 := dk_seg dksX0_count_4 22 rfl rfl
theorem dksX0_count_6 : cX0_count.data.toList.drop 137 = dktX0_count_6 := dk_seg dksX0_count_5 24 rfl rfl
theorem dksX0_count_7 : cX0_count.data.toList.drop 160 = dktX0_count_7 := dk_seg dksX0_count_6 23 rfl rfl
theorem dksX0_count_8 : cX0_count.data.toList.drop 184 = dktX0_count_8 := dk_seg dksX0_count_7 24 rfl rfl
theorem dX0_count_0 : decode cX0_count 0 = .ok (.iload_n 1, 1) := dk_27 (dk_at dksX0_count_0 0 rfl rfl)
theorem dX0_count_1 : decode cX0_count 1 = .ok (.iconst 0, 1) := dk_3 (dk_at dksX0_count_0 1 rfl rfl)
theorem dX0_count_2 : decode cX0_count 2 = .ok (.iconst 3, 1) := dk_6 (dk_at dksX0_count_0 2 rfl rfl)
theorem dX0_count_3 : decode cX0_count 3 = .ok (.invokestatic 55, 3) := dk_184 0 55 (dk_at dksX0_count_0 3 rfl rfl)
theorem dX0_count_6 : decode cX0_count 6 = .ok (.ifCond .eq 12, 3) := dk_153 0 12 (dk_at dksX0_count_0 6 rfl rfl)
theorem dX0_count_9 : decode cX0_count 9 = .ok (.iload_n 2, 1) := dk_28 (dk_at dksX0_count_0 9 rfl rfl)
theorem dX0_count_10 : decode cX0_count 10 = .ok (.iconst 0, 1) := dk_3 (dk_at dksX0_count_0 10 rfl rfl)
theorem dX0_count_11 : decode cX0_count 11 = .ok (.iconst 1, 1) := dk_4 (dk_at dksX0_count_0 11 rfl rfl)
theorem dX0_count_12 : decode cX0_count 12 = .ok (.invokestatic 55, 3) := dk_184 0 55 (dk_at dksX0_count_0 12 rfl rfl)
theorem dX0_count_15 : decode cX0_count 15 = .ok (.ifCond .ne 6, 3) := dk_154 0 6 (dk_at dksX0_count_0 15 rfl rfl)
theorem dX0_count_18 : decode cX0_count 18 = .ok (.bipush (-2), 2) := dk_16 254 (dk_at dksX0_count_0 18 rfl rfl)
theorem dX0_count_20 : decode cX0_count 20 = .ok (.ireturn, 1) := dk_172 (dk_at dksX0_count_0 20 rfl rfl)
theorem dX0_count_21 : decode cX0_count 21 = .ok (.aload_n 0, 1) := dk_42 (dk_at dksX0_count_0 21 rfl rfl)
theorem dX0_count_22 : decode cX0_count 22 = .ok (.getfield 52, 3) := dk_180 0 52 (dk_at dksX0_count_1 0 rfl rfl)
theorem dX0_count_25 : decode cX0_count 25 = .ok (.iconst 0, 1) := dk_3 (dk_at dksX0_count_1 3 rfl rfl)
theorem dX0_count_26 : decode cX0_count 26 = .ok (.invokestatic 171, 3) := dk_184 0 171 (dk_at dksX0_count_1 4 rfl rfl)
theorem dX0_count_29 : decode cX0_count 29 = .ok (.iconst 0, 1) := dk_3 (dk_at dksX0_count_1 7 rfl rfl)
theorem dX0_count_30 : decode cX0_count 30 = .ok (.istore_n 3, 1) := dk_62 (dk_at dksX0_count_1 8 rfl rfl)
theorem dX0_count_31 : decode cX0_count 31 = .ok (.iconst 0, 1) := dk_3 (dk_at dksX0_count_1 9 rfl rfl)
theorem dX0_count_32 : decode cX0_count 32 = .ok (.istore 4, 2) := dk_54 4 (dk_at dksX0_count_1 10 rfl rfl)
theorem dX0_count_34 : decode cX0_count 34 = .ok (.iload 4, 2) := dk_21 4 (dk_at dksX0_count_1 12 rfl rfl)
theorem dX0_count_36 : decode cX0_count 36 = .ok (.sipush 256, 3) := dk_17 1 0 (dk_at dksX0_count_1 14 rfl rfl)
theorem dX0_count_39 : decode cX0_count 39 = .ok (.if_icmp .ge 55, 3) := dk_162 0 55 (dk_at dksX0_count_1 17 rfl rfl)
theorem dX0_count_42 : decode cX0_count 42 = .ok (.aload_n 0, 1) := dk_42 (dk_at dksX0_count_1 20 rfl rfl)
theorem dX0_count_43 : decode cX0_count 43 = .ok (.iload 4, 2) := dk_21 4 (dk_at dksX0_count_1 21 rfl rfl)
theorem dX0_count_45 : decode cX0_count 45 = .ok (.iload_n 1, 1) := dk_27 (dk_at dksX0_count_1 23 rfl rfl)
theorem dX0_count_46 : decode cX0_count 46 = .ok (.invokevirtual 238, 3) := dk_182 0 238 (dk_at dksX0_count_2 0 rfl rfl)
theorem dX0_count_49 : decode cX0_count 49 = .ok (.ifCond .eq 39, 3) := dk_153 0 39 (dk_at dksX0_count_2 3 rfl rfl)
theorem dX0_count_52 : decode cX0_count 52 = .ok (.iinc 3 1, 3) := dk_132 3 1 (dk_at dksX0_count_2 6 rfl rfl)
theorem dX0_count_55 : decode cX0_count 55 = .ok (.iconst 0, 1) := dk_3 (dk_at dksX0_count_2 9 rfl rfl)
theorem dX0_count_56 : decode cX0_count 56 = .ok (.istore 5, 2) := dk_54 5 (dk_at dksX0_count_2 10 rfl rfl)
theorem dX0_count_58 : decode cX0_count 58 = .ok (.iload 5, 2) := dk_21 5 (dk_at dksX0_count_2 12 rfl rfl)
theorem dX0_count_60 : decode cX0_count 60 = .ok (.bipush 8, 2) := dk_16 8 (dk_at dksX0_count_2 14 rfl rfl)
theorem dX0_count_62 : decode cX0_count 62 = .ok (.if_icmp .ge 26, 3) := dk_162 0 26 (dk_at dksX0_count_2 16 rfl rfl)
theorem dX0_count_65 : decode cX0_count 65 = .ok (.aload_n 0, 1) := dk_42 (dk_at dksX0_count_2 19 rfl rfl)
theorem dX0_count_66 : decode cX0_count 66 = .ok (.getfield 52, 3) := dk_180 0 52 (dk_at dksX0_count_2 20 rfl rfl)
theorem dX0_count_69 : decode cX0_count 69 = .ok (.iload 5, 2) := dk_21 5 (dk_at dksX0_count_3 0 rfl rfl)
theorem dX0_count_71 : decode cX0_count 71 = .ok (.dup2, 1) := dk_92 (dk_at dksX0_count_3 2 rfl rfl)
theorem dX0_count_72 : decode cX0_count 72 = .ok (.iaload, 1) := dk_46 (dk_at dksX0_count_3 3 rfl rfl)
theorem dX0_count_73 : decode cX0_count 73 = .ok (.iload 4, 2) := dk_21 4 (dk_at dksX0_count_3 4 rfl rfl)
theorem dX0_count_75 : decode cX0_count 75 = .ok (.iload 5, 2) := dk_21 5 (dk_at dksX0_count_3 6 rfl rfl)
theorem dX0_count_77 : decode cX0_count 77 = .ok (.ishr, 1) := dk_122 (dk_at dksX0_count_3 8 rfl rfl)
theorem dX0_count_78 : decode cX0_count 78 = .ok (.iconst 1, 1) := dk_4 (dk_at dksX0_count_3 9 rfl rfl)
theorem dX0_count_79 : decode cX0_count 79 = .ok (.iand, 1) := dk_126 (dk_at dksX0_count_3 10 rfl rfl)
theorem dX0_count_80 : decode cX0_count 80 = .ok (.iadd, 1) := dk_96 (dk_at dksX0_count_3 11 rfl rfl)
theorem dX0_count_81 : decode cX0_count 81 = .ok (.iastore, 1) := dk_79 (dk_at dksX0_count_3 12 rfl rfl)
theorem dX0_count_82 : decode cX0_count 82 = .ok (.iinc 5 1, 3) := dk_132 5 1 (dk_at dksX0_count_3 13 rfl rfl)
theorem dX0_count_85 : decode cX0_count 85 = .ok (.goto (-27), 3) := dk_167 255 229 (dk_at dksX0_count_3 16 rfl rfl)
theorem dX0_count_88 : decode cX0_count 88 = .ok (.iinc 4 1, 3) := dk_132 4 1 (dk_at dksX0_count_3 19 rfl rfl)
theorem dX0_count_91 : decode cX0_count 91 = .ok (.goto (-57), 3) := dk_167 255 199 (dk_at dksX0_count_4 0 rfl rfl)
theorem dX0_count_94 : decode cX0_count 94 = .ok (.bipush (-6), 2) := dk_16 250 (dk_at dksX0_count_4 3 rfl rfl)
theorem dX0_count_96 : decode cX0_count 96 = .ok (.istore 4, 2) := dk_54 4 (dk_at dksX0_count_4 5 rfl rfl)
theorem dX0_count_98 : decode cX0_count 98 = .ok (.ldc 241, 2) := dk_18 241 (dk_at dksX0_count_4 7 rfl rfl)
theorem dX0_count_100 : decode cX0_count 100 = .ok (.istore 5, 2) := dk_54 5 (dk_at dksX0_count_4 9 rfl rfl)
theorem dX0_count_102 : decode cX0_count 102 = .ok (.iconst 0, 1) := dk_3 (dk_at dksX0_count_4 11 rfl rfl)
theorem dX0_count_103 : decode cX0_count 103 = .ok (.istore 6, 2) := dk_54 6 (dk_at dksX0_count_4 12 rfl rfl)
theorem dX0_count_105 : decode cX0_count 105 = .ok (.iload 6, 2) := dk_21 6 (dk_at dksX0_count_4 14 rfl rfl)
theorem dX0_count_107 : decode cX0_count 107 = .ok (.bipush 8, 2) := dk_16 8 (dk_at dksX0_count_4 16 rfl rfl)
theorem dX0_count_109 : decode cX0_count 109 = .ok (.if_icmp .ge 59, 3) := dk_162 0 59 (dk_at dksX0_count_4 18 rfl rfl)
theorem dX0_count_112 : decode cX0_count 112 = .ok (.iload_n 3, 1) := dk_29 (dk_at dksX0_count_4 21 rfl rfl)
theorem dX0_count_113 : decode cX0_count 113 = .ok (.ifCond .le 55, 3) := dk_158 0 55 (dk_at dksX0_count_5 0 rfl rfl)
theorem dX0_count_116 : decode cX0_count 116 = .ok (.aload_n 0, 1) := dk_42 (dk_at dksX0_count_5 3 rfl rfl)
theorem dX0_count_117 : decode cX0_count 117 = .ok (.getfield 52, 3) := dk_180 0 52 (dk_at dksX0_count_5 4 rfl rfl)
theorem dX0_count_120 : decode cX0_count 120 = .ok (.iload 6, 2) := dk_21 6 (dk_at dksX0_count_5 7 rfl rfl)
theorem dX0_count_122 : decode cX0_count 122 = .ok (.iaload, 1) := dk_46 (dk_at dksX0_count_5 9 rfl rfl)
theorem dX0_count_123 : decode cX0_count 123 = .ok (.iload_n 3, 1) := dk_29 (dk_at dksX0_count_5 10 rfl rfl)
theorem dX0_count_124 : decode cX0_count 124 = .ok (.aload_n 0, 1) := dk_42 (dk_at dksX0_count_5 11 rfl rfl)
theorem dX0_count_125 : decode cX0_count 125 = .ok (.getfield 52, 3) := dk_180 0 52 (dk_at dksX0_count_5 12 rfl rfl)
theorem dX0_count_128 : decode cX0_count 128 = .ok (.iload 6, 2) := dk_21 6 (dk_at dksX0_count_5 15 rfl rfl)
theorem dX0_count_130 : decode cX0_count 130 = .ok (.iaload, 1) := dk_46 (dk_at dksX0_count_5 17 rfl rfl)
theorem dX0_count_131 : decode cX0_count 131 = .ok (.isub, 1) := dk_100 (dk_at dksX0_count_5 18 rfl rfl)
theorem dX0_count_132 : decode cX0_count 132 = .ok (.invokestatic 183, 3) := dk_184 0 183 (dk_at dksX0_count_5 19 rfl rfl)
theorem dX0_count_135 : decode cX0_count 135 = .ok (.istore 7, 2) := dk_54 7 (dk_at dksX0_count_5 22 rfl rfl)
theorem dX0_count_137 : decode cX0_count 137 = .ok (.iload 7, 2) := dk_21 7 (dk_at dksX0_count_6 0 rfl rfl)
theorem dX0_count_139 : decode cX0_count 139 = .ok (.iload 5, 2) := dk_21 5 (dk_at dksX0_count_6 2 rfl rfl)
theorem dX0_count_141 : decode cX0_count 141 = .ok (.if_icmp .ge 8, 3) := dk_162 0 8 (dk_at dksX0_count_6 4 rfl rfl)
theorem dX0_count_144 : decode cX0_count 144 = .ok (.iload 6, 2) := dk_21 6 (dk_at dksX0_count_6 7 rfl rfl)
theorem dX0_count_146 : decode cX0_count 146 = .ok (.goto 5, 3) := dk_167 0 5 (dk_at dksX0_count_6 9 rfl rfl)
theorem dX0_count_149 : decode cX0_count 149 = .ok (.iload 4, 2) := dk_21 4 (dk_at dksX0_count_6 12 rfl rfl)
theorem dX0_count_151 : decode cX0_count 151 = .ok (.istore 4, 2) := dk_54 4 (dk_at dksX0_count_6 14 rfl rfl)
theorem dX0_count_153 : decode cX0_count 153 = .ok (.iload 5, 2) := dk_21 5 (dk_at dksX0_count_6 16 rfl rfl)
theorem dX0_count_155 : decode cX0_count 155 = .ok (.iload 7, 2) := dk_21 7 (dk_at dksX0_count_6 18 rfl rfl)
theorem dX0_count_157 : decode cX0_count 157 = .ok (.invokestatic 242, 3) := dk_184 0 242 (dk_at dksX0_count_6 20 rfl rfl)
theorem dX0_count_160 : decode cX0_count 160 = .ok (.istore 5, 2) := dk_54 5 (dk_at dksX0_count_7 0 rfl rfl)
theorem dX0_count_162 : decode cX0_count 162 = .ok (.iinc 6 1, 3) := dk_132 6 1 (dk_at dksX0_count_7 2 rfl rfl)
theorem dX0_count_165 : decode cX0_count 165 = .ok (.goto (-60), 3) := dk_167 255 196 (dk_at dksX0_count_7 5 rfl rfl)
theorem dX0_count_168 : decode cX0_count 168 = .ok (.iload 4, 2) := dk_21 4 (dk_at dksX0_count_7 8 rfl rfl)
theorem dX0_count_170 : decode cX0_count 170 = .ok (.ifCond .lt 7, 3) := dk_155 0 7 (dk_at dksX0_count_7 10 rfl rfl)
theorem dX0_count_173 : decode cX0_count 173 = .ok (.iload_n 2, 1) := dk_28 (dk_at dksX0_count_7 13 rfl rfl)
theorem dX0_count_174 : decode cX0_count 174 = .ok (.ifCond .ne 8, 3) := dk_154 0 8 (dk_at dksX0_count_7 14 rfl rfl)
theorem dX0_count_177 : decode cX0_count 177 = .ok (.iload 4, 2) := dk_21 4 (dk_at dksX0_count_7 17 rfl rfl)
theorem dX0_count_179 : decode cX0_count 179 = .ok (.goto 5, 3) := dk_167 0 5 (dk_at dksX0_count_7 19 rfl rfl)
theorem dX0_count_182 : decode cX0_count 182 = .ok (.iload 5, 2) := dk_21 5 (dk_at dksX0_count_7 22 rfl rfl)
theorem dX0_count_184 : decode cX0_count 184 = .ok (.ireturn, 1) := dk_172 (dk_at dksX0_count_8 0 rfl rfl)
abbrev cX0_year : ByteArray := prog_1_method_44_code
def yX0_year : MethodName := ⟨RX0, "year", "(III)I"⟩
def dkwX0_year_13 : List UInt8 := [182, 0, 131, 167, 0, 15, 42, 180, 0, 24, 16, 250, 182, 0, 154, 184, 0, 193, 172]
abbrev dktX0_year_13 : List UInt8 := dkwX0_year_13 ++ []
def dkwX0_year_12 : List UInt8 := [154, 0, 13, 42, 180, 0, 24, 182, 0, 160, 167, 0, 30, 29, 4, 160, 0, 13, 42, 180, 0, 24]
abbrev dktX0_year_12 : List UInt8 := dkwX0_year_12 ++ dktX0_year_13
def dkwX0_year_11 : List UInt8 := [181, 0, 119, 167, 0, 14, 42, 42, 180, 0, 24, 182, 0, 125, 181, 0, 119, 132, 6, 1, 167, 255, 17, 29]
abbrev dktX0_year_11 : List UInt8 := dkwX0_year_11 ++ dktX0_year_12
def dkwX0_year_10 : List UInt8 := [182, 0, 109, 181, 0, 119, 167, 0, 35, 42, 42, 180, 0, 24, 21, 7, 16, 100, 21, 9, 104, 182, 0, 122]
abbrev dktX0_year_10 : List UInt8 := dkwX0_year_10 ++ dktX0_year_11
def dkwX0_year_9 : List UInt8 := [21, 9, 104, 182, 0, 106, 181, 0, 119, 167, 0, 56, 42, 42, 180, 0, 24, 21, 7, 21, 8, 16, 6, 112]
abbrev dktX0_year_9 : List UInt8 := dkwX0_year_9 ++ dktX0_year_10
def dkwX0_year_8 : List UInt8 := [21, 8, 16, 8, 112, 182, 0, 102, 181, 0, 119, 167, 0, 77, 42, 42, 180, 0, 24, 21, 7, 16, 10]
abbrev dktX0_year_8 : List UInt8 := dkwX0_year_8 ++ dktX0_year_9
def dkwX0_year_7 : List UInt8 := [21, 7, 16, 100, 21, 9, 104, 182, 0, 112, 181, 0, 119, 167, 0, 98, 42, 42, 180, 0, 24, 21, 7]
abbrev dktX0_year_7 : List UInt8 := dkwX0_year_7 ++ dktX0_year_8
def dkwX0_year_6 : List UInt8 := [42, 42, 180, 0, 24, 16, 100, 21, 9, 104, 182, 0, 115, 181, 0, 119, 167, 0, 119, 42, 42, 180, 0, 24]
abbrev dktX0_year_6 : List UInt8 := dkwX0_year_6 ++ dktX0_year_7
def dkwX0_year_5 : List UInt8 := [170, 0, 0, 0, 165, 0, 0, 0, 0, 0, 0, 0, 6, 0, 0, 0, 41, 0, 0, 0, 60, 0, 0, 0, 81, 0, 0, 0, 81, 0, 0, 0, 102, 0, 0, 0, 123, 0, 0, 0, 144]
abbrev dktX0_year_5 : List UInt8 := dkwX0_year_5 ++ dktX0_year_6
def dkwX0_year_4 : List UInt8 := [16, 9, 112, 96, 54, 9, 22, 4, 20, 0, 250, 109, 20, 0, 254, 113, 136]
abbrev dktX0_year_4 : List UInt8 := dkwX0_year_4 ++ dktX0_year_5
def dkwX0_year_3 : List UInt8 := [55, 4, 22, 4, 20, 0, 250, 113, 136, 54, 7, 22, 4, 20, 0, 252, 109, 136, 54, 8, 4, 21, 8]
abbrev dktX0_year_3 : List UInt8 := dkwX0_year_3 ++ dktX0_year_4
def dkwX0_year_2 : List UInt8 := [3, 54, 6, 21, 6, 28, 162, 0, 239, 20, 0, 244, 22, 4, 105, 20, 0, 246, 97, 20, 0, 248, 113]
abbrev dktX0_year_2 : List UInt8 := dkwX0_year_2 ++ dktX0_year_3
def dkwX0_year_1 : List UInt8 := [184, 0, 55, 154, 0, 6, 16, 254, 172, 42, 180, 0, 24, 42, 180, 0, 20, 182, 0, 138, 27, 133, 55, 4]
abbrev dktX0_year_1 : List UInt8 := dkwX0_year_1 ++ dktX0_year_2
def dkwX0_year_0 : List UInt8 := [27, 3, 17, 39, 15, 184, 0, 55, 153, 0, 22, 28, 4, 16, 99, 184, 0, 55, 153, 0, 12, 29, 3, 5]
abbrev dktX0_year_0 : List UInt8 := dkwX0_year_0 ++ dktX0_year_1
theorem dksX0_year_0 : cX0_year.data.toList.drop 0 = dktX0_year_0 := by decide +kernel
theorem dksX0_year_1 : cX0_year.data.toList.drop 24 = dktX0_year_1 := dk_seg dksX0_year_0 24 rfl rfl
theorem dksX0_year_2 : cX0_year.data.toList.drop 48 = dktX0_year_2 := dk_seg dksX0_year_1 24 rfl rfl
theorem dksX0_year_3 : cX0_year.data.toList.drop 71 = dktX0_year_3 := dk_seg dksX0_year_2 23 rfl rfl
theorem dksX0_year_4 : cX0_year.data.toList.drop 94 = dktX0_year_4 := dk_seg dksX0_year_3 23 rfl rfl
theorem dksX0_year_5 : cX0_year.data.toList.drop 111 = dktX0_year_5 := dk_seg dksX0_year_4 17 rfl rfl
theorem dksX0_year_6 : cX0_year.data.toList.drop 152 = dktX0_year_6 := dk_seg dksX0_year_5 41 rfl rfl
theorem dksX0_year_7 : cX0_year.data.toList.drop 176 = dktX0_year_7 := dk_seg dksX0_year_6 24 rfl rfl
theorem dksX0_year_8 : cX0_year.data.toList.drop 199 = dktX0_year_8 := dk_seg dksX0_year_7 23 rfl rfl
theorem dksX0_year_9 : cX0_year.data.toList.drop 222 = dktX0_year_9 := dk_seg dksX0_year_8 23 rfl rfl
theorem dksX0_year_10 : cX0_year.data.toList.drop 246 = dktX0_year_10 := dk_seg dksX0_year_9 24 rfl rfl
theorem dksX0_year_11 : cX0_year.data.toList.drop 270 = dktX0_year_11 := dk_seg dksX0_year_10 24 rfl rfl
theorem dksX0_year_12 : cX0_year.data.toList.drop 294 = dktX0_year_12 := dk_seg dksX0_year_11 24 rfl rfl
theorem dksX0_year_13 : cX0_year.data.toList.drop 316 = dktX0_year_13 := dk_seg dksX0_year_12 22 rfl rfl
theorem dX0_year_0 : decode cX0_year 0 = .ok (.iload_n 1, 1) := dk_27 (dk_at dksX0_year_0 0 rfl rfl)
theorem dX0_year_1 : decode cX0_year 1 = .ok (.iconst 0, 1) := dk_3 (dk_at dksX0_year_0 1 rfl rfl)
theorem dX0_year_2 : decode cX0_year 2 = .ok (.sipush 9999, 3) := dk_17 39 15 (dk_at dksX0_year_0 2 rfl rfl)
theorem dX0_year_5 : decode cX0_year 5 = .ok (.invokestatic 55, 3) := dk_184 0 55 (dk_at dksX0_year_0 5 rfl rfl)
theorem dX0_year_8 : decode cX0_year 8 = .ok (.ifCond .eq 22, 3) := dk_153 0 22 (dk_at dksX0_year_0 8 rfl rfl)
theorem dX0_year_11 : decode cX0_year 11 = .ok (.iload_n 2, 1) := dk_28 (dk_at dksX0_year_0 11 rfl rfl)
theorem dX0_year_12 : decode cX0_year 12 = .ok (.iconst 1, 1) := dk_4 (dk_at dksX0_year_0 12 rfl rfl)
theorem dX0_year_13 : decode cX0_year 13 = .ok (.bipush 99, 2) := dk_16 99 (dk_at dksX0_year_0 13 rfl rfl)
theorem dX0_year_15 : decode cX0_year 15 = .ok (.invokestatic 55, 3) := dk_184 0 55 (dk_at dksX0_year_0 15 rfl rfl)
theorem dX0_year_18 : decode cX0_year 18 = .ok (.ifCond .eq 12, 3) := dk_153 0 12 (dk_at dksX0_year_0 18 rfl rfl)
theorem dX0_year_21 : decode cX0_year 21 = .ok (.iload_n 3, 1) := dk_29 (dk_at dksX0_year_0 21 rfl rfl)
theorem dX0_year_22 : decode cX0_year 22 = .ok (.iconst 0, 1) := dk_3 (dk_at dksX0_year_0 22 rfl rfl)
theorem dX0_year_23 : decode cX0_year 23 = .ok (.iconst 2, 1) := dk_5 (dk_at dksX0_year_0 23 rfl rfl)
theorem dX0_year_24 : decode cX0_year 24 = .ok (.invokestatic 55, 3) := dk_184 0 55 (dk_at dksX0_year_1 0 rfl rfl)
theorem dX0_year_27 : decode cX0_year 27 = .ok (.ifCond .ne 6, 3) := dk_154 0 6 (dk_at dksX0_year_1 3 rfl rfl)
theorem dX0_year_30 : decode cX0_year 30 = .ok (.bipush (-2), 2) := dk_16 254 (dk_at dksX0_year_1 6 rfl rfl)
theorem dX0_year_32 : decode cX0_year 32 = .ok (.ireturn, 1) := dk_172 (dk_at dksX0_year_1 8 rfl rfl)
theorem dX0_year_33 : decode cX0_year 33 = .ok (.aload_n 0, 1) := dk_42 (dk_at dksX0_year_1 9 rfl rfl)
theorem dX0_year_34 : decode cX0_year 34 = .ok (.getfield 24, 3) := dk_180 0 24 (dk_at dksX0_year_1 10 rfl rfl)
theorem dX0_year_37 : decode cX0_year 37 = .ok (.aload_n 0, 1) := dk_42 (dk_at dksX0_year_1 13 rfl rfl)
theorem dX0_year_38 : decode cX0_year 38 = .ok (.getfield 20, 3) := dk_180 0 20 (dk_at dksX0_year_1 14 rfl rfl)
theorem dX0_year_41 : decode cX0_year 41 = .ok (.invokevirtual 138, 3) := dk_182 0 138 (dk_at dksX0_year_1 17 rfl rfl)
theorem dX0_year_44 : decode cX0_year 44 = .ok (.iload_n 1, 1) := dk_27 (dk_at dksX0_year_1 20 rfl rfl)
theorem dX0_year_45 : decode cX0_year 45 = .ok (.i2l, 1) := dk_133 (dk_at dksX0_year_1 21 rfl rfl)
theorem dX0_year_46 : decode cX0_year 46 = .ok (.lstore 4, 2) := dk_55 4 (dk_at dksX0_year_1 22 rfl rfl)
theorem dX0_year_48 : decode cX0_year 48 = .ok (.iconst 0, 1) := dk_3 (dk_at dksX0_year_2 0 rfl rfl)
theorem dX0_year_49 : decode cX0_year 49 = .ok (.istore 6, 2) := dk_54 6 (dk_at dksX0_year_2 1 rfl rfl)
theorem dX0_year_51 : decode cX0_year 51 = .ok (.iload 6, 2) := dk_21 6 (dk_at dksX0_year_2 3 rfl rfl)
theorem dX0_year_53 : decode cX0_year 53 = .ok (.iload_n 2, 1) := dk_28 (dk_at dksX0_year_2 5 rfl rfl)
theorem dX0_year_54 : decode cX0_year 54 = .ok (.if_icmp .ge 239, 3) := dk_162 0 239 (dk_at dksX0_year_2 6 rfl rfl)
theorem dX0_year_57 : decode cX0_year 57 = .ok (.ldc2_w 244, 3) := dk_20 0 244 (dk_at dksX0_year_2 9 rfl rfl)
theorem dX0_year_60 : decode cX0_year 60 = .ok (.lload 4, 2) := dk_22 4 (dk_at dksX0_year_2 12 rfl rfl)
theorem dX0_year_62 : decode cX0_year 62 = .ok (.lmul, 1) := dk_105 (dk_at dksX0_year_2 14 rfl rfl)
theorem dX0_year_63 : decode cX0_year 63 = .ok (.ldc2_w 246, 3) := dk_20 0 246 (dk_at dksX0_year_2 15 rfl rfl)
theorem dX0_year_66 : decode cX0_year 66 = .ok (.ladd, 1) := dk_97 (dk_at dksX0_year_2 18 rfl rfl)
theorem dX0_year_67 : decode cX0_year 67 = .ok (.ldc2_w 248, 3) := dk_20 0 248 (dk_at dksX0_year_2 19 rfl rfl)
theorem dX0_year_70 : decode cX0_year 70 = .ok (.lrem, 1) := dk_113 (dk_at dksX0_year_2 22 rfl rfl)
theorem dX0_year_71 : decode cX0_year 71 = .ok (.lstore 4, 2) := dk_55 4 (dk_at dksX0_year_3 0 rfl rfl)
theorem dX0_year_73 : decode cX0_year 73 = .ok (.lload 4, 2) := dk_22 4 (dk_at dksX0_year_3 2 rfl rfl)
theorem dX0_year_75 : decode cX0_year 75 = .ok (.ldc2_w 250, 3) := dk_20 0 250 (dk_at dksX0_year_3 4 rfl rfl)
theorem dX0_year_78 : decode cX0_year 78 = .ok (.lrem, 1) := dk_113 (dk_at dksX0_year_3 7 rfl rfl)
theorem dX0_year_79 : decode cX0_year 79 = .ok (.l2i, 1) := dk_136 (dk_at dksX0_year_3 8 rfl rfl)
theorem dX0_year_80 : decode cX0_year 80 = .ok (.istore 7, 2) := dk_54 7 (dk_at dksX0_year_3 9 rfl rfl)
theorem dX0_year_82 : decode cX0_year 82 = .ok (.lload 4, 2) := dk_22 4 (dk_at dksX0_year_3 11 rfl rfl)
theorem dX0_year_84 : decode cX0_year 84 = .ok (.ldc2_w 252, 3) := dk_20 0 252 (dk_at dksX0_year_3 13 rfl rfl)
theorem dX0_year_87 : decode cX0_year 87 = .ok (.ldiv, 1) := dk_109 (dk_at dksX0_year_3 16 rfl rfl)
theorem dX0_year_88 : decode cX0_year 88 = .ok (.l2i, 1) := dk_136 (dk_at dksX0_year_3 17 rfl rfl)
theorem dX0_year_89 : decode cX0_year 89 = .ok (.istore 8, 2) := dk_54 8 (dk_at dksX0_year_3 18 rfl rfl)
theorem dX0_year_91 : decode cX0_year 91 = .ok (.iconst 1, 1) := dk_4 (dk_at dksX0_year_3 20 rfl rfl)
theorem dX0_year_92 : decode cX0_year 92 = .ok (.iload 8, 2) := dk_21 8 (dk_at dksX0_year_3 21 rfl rfl)
theorem dX0_year_94 : decode cX0_year 94 = .ok (.bipush 9, 2) := dk_16 9 (dk_at dksX0_year_4 0 rfl rfl)
theorem dX0_year_96 : decode cX0_year 96 = .ok (.irem, 1) := dk_112 (dk_at dksX0_year_4 2 rfl rfl)
theorem dX0_year_97 : decode cX0_year 97 = .ok (.iadd, 1) := dk_96 (dk_at dksX0_year_4 3 rfl rfl)
theorem dX0_year_98 : decode cX0_year 98 = .ok (.istore 9, 2) := dk_54 9 (dk_at dksX0_year_4 4 rfl rfl)
theorem dX0_year_100 : decode cX0_year 100 = .ok (.lload 4, 2) := dk_22 4 (dk_at dksX0_year_4 6 rfl rfl)
theorem dX0_year_102 : decode cX0_year 102 = .ok (.ldc2_w 250, 3) := dk_20 0 250 (dk_at dksX0_year_4 8 rfl rfl)
theorem dX0_year_105 : decode cX0_year 105 = .ok (.ldiv, 1) := dk_109 (dk_at dksX0_year_4 11 rfl rfl)
theorem dX0_year_106 : decode cX0_year 106 = .ok (.ldc2_w 254, 3) := dk_20 0 254 (dk_at dksX0_year_4 12 rfl rfl)
theorem dX0_year_109 : decode cX0_year 109 = .ok (.lrem, 1) := dk_113 (dk_at dksX0_year_4 15 rfl rfl)
theorem dX0_year_110 : decode cX0_year 110 = .ok (.l2i, 1) := dk_136 (dk_at dksX0_year_4 16 rfl rfl)
theorem dX0_year_111 : decode cX0_year 111 = .ok (.tableswitch 165 0 6 #[41, 60, 81, 81, 102, 123, 144], 41) := by decide +kernel
theorem dX0_year_152 : decode cX0_year 152 = .ok (.aload_n 0, 1) := dk_42 (dk_at dksX0_year_6 0 rfl rfl)
theorem dX0_year_153 : decode cX0_year 153 = .ok (.aload_n 0, 1) := dk_42 (dk_at dksX0_year_6 1 rfl rfl)
theorem dX0_year_154 : decode cX0_year 154 = .ok (.getfield 24, 3) := dk_180 0 24 (dk_at dksX0_year_6 2 rfl rfl)
theorem dX0_year_157 : decode cX0_year 157 = .ok (.bipush 100, 2) := dk_16 100 (dk_at dksX0_year_6 5 rfl rfl)
theorem dX0_year_159 : decode cX0_year 159 = .ok (.iload 9, 2) := dk_21 9 (dk_at dksX0_year_6 7 rfl rfl)
theorem dX0_year_161 : decode cX0_year 161 = .ok (.imul, 1) := dk_104 (dk_at dksX0_year_6 9 rfl rfl)
theorem dX0_year_162 : decode cX0_year 162 = .ok (.invokevirtual 115, 3) := dk_182 0 115 (dk_at dksX0_year_6 10 rfl rfl)
theorem dX0_year_165 : decode cX0_year 165 = .ok (.putfield 119, 3) := dk_181 0 119 (dk_at dksX0_year_6 13 rfl rfl)
theorem dX0_year_168 : decode cX0_year 168 = .ok (.goto 119, 3) := dk_167 0 119 (dk_at dksX0_year_6 16 rfl rfl)
theorem dX0_year_171 : decode cX0_year 171 = .ok (.aload_n 0, 1) := dk_42 (dk_at dksX0_year_6 19 rfl rfl)
theorem dX0_year_172 : decode cX0_year 172 = .ok (.aload_n 0, 1) := dk_42 (dk_at dksX0_year_6 20 rfl rfl)
theorem dX0_year_173 : decode cX0_year 173 = .ok (.getfield 24, 3) := dk_180 0 24 (dk_at dksX0_year_6 21 rfl rfl)
theorem dX0_year_176 : decode cX0_year 176 = .ok (.iload 7, 2) := dk_21 7 (dk_at dksX0_year_7 0 rfl rfl)
theorem dX0_year_178 : decode cX0_year 178 = .ok (.bipush 100, 2) := dk_16 100 (dk_at dksX0_year_7 2 rfl rfl)
theorem dX0_year_180 : decode cX0_year 180 = .ok (.iload 9, 2) := dk_21 9 (dk_at dksX0_year_7 4 rfl rfl)
theorem dX0_year_182 : decode cX0_year 182 = .ok (.imul, 1) := dk_104 (dk_at dksX0_year_7 6 rfl rfl)
theorem dX0_year_183 : decode cX0_year 183 = .ok (.invokevirtual 112, 3) := dk_182 0 112 (dk_at dksX0_year_7 7 rfl rfl)
theorem dX0_year_186 : decode cX0_year 186 = .ok (.putfield 119, 3) := dk_181 0 119 (dk_at dksX0_year_7 10 rfl rfl)
theorem dX0_year_189 : decode cX0_year 189 = .ok (.goto 98, 3) := dk_167 0 98 (dk_at dksX0_year_7 13 rfl rfl)
theorem dX0_year_192 : decode cX0_year 192 = .ok (.aload_n 0, 1) := dk_42 (dk_at dksX0_year_7 16 rfl rfl)
theorem dX0_year_193 : decode cX0_year 193 = .ok (.aload_n 0, 1) := dk_42 (dk_at dksX0_year_7 17 rfl rfl)
theorem dX0_year_194 : decode cX0_year 194 = .ok (.getfield 24, 3) := dk_180 0 24 (dk_at dksX0_year_7 18 rfl rfl)
theorem dX0_year_197 : decode cX0_year 197 = .ok (.iload 7, 2) := dk_21 7 (dk_at dksX0_year_7 21 rfl rfl)
theorem dX0_year_199 : decode cX0_year 199 = .ok (.iload 8, 2) := dk_21 8 (dk_at dksX0_year_8 0 rfl rfl)
theorem dX0_year_201 : decode cX0_year 201 = .ok (.bipush 8, 2) := dk_16 8 (dk_at dksX0_year_8 2 rfl rfl)
theorem dX0_year_203 : decode cX0_year 203 = .ok (.irem, 1) := dk_112 (dk_at dksX0_year_8 4 rfl rfl)
theorem dX0_year_204 : decode cX0_year 204 = .ok (.invokevirtual 102, 3) := dk_182 0 102 (dk_at dksX0_year_8 5 rfl rfl)
theorem dX0_year_207 : decode cX0_year 207 = .ok (.putfield 119, 3) := dk_181 0 119 (dk_at dksX0_year_8 8 rfl rfl)
theorem dX0_year_210 : decode cX0_year 210 = .ok (.goto 77, 3) := dk_167 0 77 (dk_at dksX0_year_8 11 rfl rfl)
theorem dX0_year_213 : decode cX0_year 213 = .ok (.aload_n 0, 1) := dk_42 (dk_at dksX0_year_8 14 rfl rfl)
theorem dX0_year_214 : decode cX0_year 214 = .ok (.aload_n 0, 1) := dk_42 (dk_at dksX0_year_8 15 rfl rfl)
theorem dX0_year_215 : decode cX0_year 215 = .ok (.getfield 24, 3) := dk_180 0 24 (dk_at dksX0_year_8 16 rfl rfl)
theorem dX0_year_218 : decode cX0_year 218 = .ok (.iload 7, 2) := dk_21 7 (dk_at dksX0_year_8 19 rfl rfl)
theorem dX0_year_220 : decode cX0_year 220 = .ok (.bipush 10, 2) := dk_16 10 (dk_at dksX0_year_8 21 rfl rfl)
theorem dX0_year_222 : decode cX0_year 222 = .ok (.iload 9, 2) := dk_21 9 (dk_at dksX0_year_9 0 rfl rfl)
theorem dX0_year_224 : decode cX0_year 224 = .ok (.imul, 1) := dk_104 (dk_at dksX0_year_9 2 rfl rfl)
theorem dX0_year_225 : decode cX0_year 225 = .ok (.invokevirtual 106, 3) := dk_182 0 106 (dk_at dksX0_year_9 3 rfl rfl)
theorem dX0_year_228 : decode cX0_year 228 = .ok (.putfield 119, 3) := dk_181 0 119 (dk_at dksX0_year_9 6 rfl rfl)
theorem dX0_year_231 : decode cX0_year 231 = .ok (.goto 56, 3) := dk_167 0 56 (dk_at dksX0_year_9 9 rfl rfl)
theorem dX0_year_234 : decode cX0_year 234 = .ok (.aload_n 0, 1) := dk_42 (dk_at dksX0_year_9 12 rfl rfl)
theorem dX0_year_235 : decode cX0_year 235 = .ok (.aload_n 0, 1) := dk_42 (dk_at dksX0_year_9 13 rfl rfl)
theorem dX0_year_236 : decode cX0_year 236 = .ok (.getfield 24, 3) := dk_180 0 24 (dk_at dksX0_year_9 14 rfl rfl)
theorem dX0_year_239 : decode cX0_year 239 = .ok (.iload 7, 2) := dk_21 7 (dk_at dksX0_year_9 17 rfl rfl)
theorem dX0_year_241 : decode cX0_year 241 = .ok (.iload 8, 2) := dk_21 8 (dk_at dksX0_year_9 19 rfl rfl)
theorem dX0_year_243 : decode cX0_year 243 = .ok (.bipush 6, 2) := dk_16 6 (dk_at dksX0_year_9 21 rfl rfl)
theorem dX0_year_245 : decode cX0_year 245 = .ok (.irem, 1) := dk_112 (dk_at dksX0_year_9 23 rfl rfl)
theorem dX0_year_246 : decode cX0_year 246 = .ok (.invokevirtual 109, 3) := dk_182 0 109 (dk_at dksX0_year_10 0 rfl rfl)
theorem dX0_year_249 : decode cX0_year 249 = .ok (.putfield 119, 3) := dk_181 0 119 (dk_at dksX0_year_10 3 rfl rfl)
theorem dX0_year_252 : decode cX0_year 252 = .ok (.goto 35, 3) := dk_167 0 35 (dk_at dksX0_year_10 6 rfl rfl)
theorem dX0_year_255 : decode cX0_year 255 = .ok (.aload_n 0, 1) := dk_42 (dk_at dksX0_year_10 9 rfl rfl)
theorem dX0_year_256 : decode cX0_year 256 = .ok (.aload_n 0, 1) := dk_42 (dk_at dksX0_year_10 10 rfl rfl)
theorem dX0_year_257 : decode cX0_year 257 = .ok (.getfield 24, 3) := dk_180 0 24 (dk_at dksX0_year_10 11 rfl rfl)
theorem dX0_year_260 : decode cX0_year 260 = .ok (.iload 7, 2) := dk_21 7 (dk_at dksX0_year_10 14 rfl rfl)
theorem dX0_year_262 : decode cX0_year 262 = .ok (.bipush 100, 2) := dk_16 100 (dk_at dksX0_year_10 16 rfl rfl)
theorem dX0_year_264 : decode cX0_year 264 = .ok (.iload 9, 2) := dk_21 9 (dk_at dksX0_year_10 18 rfl rfl)
theorem dX0_year_266 : decode cX0_year 266 = .ok (.imul, 1) := dk_104 (dk_at dksX0_year_10 20 rfl rfl)
theorem dX0_year_267 : decode cX0_year 267 = .ok (.invokevirtual 122, 3) := dk_182 0 122 (dk_at dksX0_year_10 21 rfl rfl)
theorem dX0_year_270 : decode cX0_year 270 = .ok (.putfield 119, 3) := dk_181 0 119 (dk_at dksX0_year_11 0 rfl rfl)
theorem dX0_year_273 : decode cX0_year 273 = .ok (.goto 14, 3) := dk_167 0 14 (dk_at dksX0_year_11 3 rfl rfl)
theorem dX0_year_276 : decode cX0_year 276 = .ok (.aload_n 0, 1) := dk_42 (dk_at dksX0_year_11 6 rfl rfl)
theorem dX0_year_277 : decode cX0_year 277 = .ok (.aload_n 0, 1) := dk_42 (dk_at dksX0_year_11 7 rfl rfl)
theorem dX0_year_278 : decode cX0_year 278 = .ok (.getfield 24, 3) := dk_180 0 24 (dk_at dksX0_year_11 8 rfl rfl)
theorem dX0_year_281 : decode cX0_year 281 = .ok (.invokevirtual 125, 3) := dk_182 0 125 (dk_at dksX0_year_11 11 rfl rfl)
theorem dX0_year_284 : decode cX0_year 284 = .ok (.putfield 119, 3) := dk_181 0 119 (dk_at dksX0_year_11 14 rfl rfl)
theorem dX0_year_287 : decode cX0_year 287 = .ok (.iinc 6 1, 3) := dk_132 6 1 (dk_at dksX0_year_11 17 rfl rfl)
theorem dX0_year_290 : decode cX0_year 290 = .ok (.goto (-239), 3) := dk_167 255 17 (dk_at dksX0_year_11 20 rfl rfl)
theorem dX0_year_293 : decode cX0_year 293 = .ok (.iload_n 3, 1) := dk_29 (dk_at dksX0_year_11 23 rfl rfl)
theorem dX0_year_294 : decode cX0_year 294 = .ok (.ifCond .ne 13, 3) := dk_154 0 13 (dk_at dksX0_year_12 0 rfl rfl)
theorem dX0_year_297 : decode cX0_year 297 = .ok (.aload_n 0, 1) := dk_42 (dk_at dksX0_year_12 3 rfl rfl)
theorem dX0_year_298 : decode cX0_year 298 = .ok (.getfield 24, 3) := dk_180 0 24 (dk_at dksX0_year_12 4 rfl rfl)
theorem dX0_year_301 : decode cX0_year 301 = .ok (.invokevirtual 160, 3) := dk_182 0 160 (dk_at dksX0_year_12 7 rfl rfl)
theorem dX0_year_304 : decode cX0_year 304 = .ok (.goto 30, 3) := dk_167 0 30 (dk_at dksX0_year_12 10 rfl rfl)
theorem dX0_year_307 : decode cX0_year 307 = .ok (.iload_n 3, 1) := dk_29 (dk_at dksX0_year_12 13 rfl rfl)
theorem dX0_year_308 : decode cX0_year 308 = .ok (.iconst 1, 1) := dk_4 (dk_at dksX0_year_12 14 rfl rfl)
theorem dX0_year_309 : decode cX0_year 309 = .ok (.if_icmp .ne 13, 3) := dk_160 0 13 (dk_at dksX0_year_12 15 rfl rfl)
theorem dX0_year_312 : decode cX0_year 312 = .ok (.aload_n 0, 1) := dk_42 (dk_at dksX0_year_12 18 rfl rfl)
theorem dX0_year_313 : decode cX0_year 313 = .ok (.getfield 24, 3) := dk_180 0 24 (dk_at dksX0_year_12 19 rfl rfl)
theorem dX0_year_316 : decode cX0_year 316 = .ok (.invokevirtual 131, 3) := dk_182 0 131 (dk_at dksX0_year_13 0 rfl rfl)
theorem dX0_year_319 : decode cX0_year 319 = .ok (.goto 15, 3) := dk_167 0 15 (dk_at dksX0_year_13 3 rfl rfl)
theorem dX0_year_322 : decode cX0_year 322 = .ok (.aload_n 0, 1) := dk_42 (dk_at dksX0_year_13 6 rfl rfl)
theorem dX0_year_323 : decode cX0_year 323 = .ok (.getfield 24, 3) := dk_180 0 24 (dk_at dksX0_year_13 7 rfl rfl)
theorem dX0_year_326 : decode cX0_year 326 = .ok (.bipush (-6), 2) := dk_16 250 (dk_at dksX0_year_13 10 rfl rfl)
theorem dX0_year_328 : decode cX0_year 328 = .ok (.invokevirtual 154, 3) := dk_182 0 154 (dk_at dksX0_year_13 12 rfl rfl)
theorem dX0_year_331 : decode cX0_year 331 = .ok (.invokestatic 193, 3) := dk_184 0 193 (dk_at dksX0_year_13 15 rfl rfl)
theorem dX0_year_334 : decode cX0_year 334 = .ok (.ireturn, 1) := dk_172 (dk_at dksX0_year_13 18 rfl rfl)
abbrev cX0_image : ByteArray := prog_1_method_45_code
def yX0_image : MethodName := ⟨RX0, "image", "(I)I"⟩
def dkwX0_image_1 : List UInt8 := [182, 0, 138, 42, 180, 0, 27, 27, 50, 4, 181, 1, 0, 4, 172]
abbrev dktX0_image_1 : List UInt8 := dkwX0_image_1 ++ []
def dkwX0_image_0 : List UInt8 := [27, 3, 4, 184, 0, 55, 154, 0, 6, 16, 254, 172, 42, 180, 0, 27, 27, 50, 42, 180, 0, 20]
abbrev dktX0_image_0 : List UInt8 := dkwX0_image_0 ++ dktX0_image_1
theorem dksX0_image_0 : cX0_image.data.toList.drop 0 = dktX0_image_0 := by decide +kernel
theorem dksX0_image_1 : cX0_image.data.toList.drop 22 = dktX0_image_1 := dk_seg dksX0_image_0 22 rfl rfl
theorem dX0_image_0 : decode cX0_image 0 = .ok (.iload_n 1, 1) := dk_27 (dk_at dksX0_image_0 0 rfl rfl)
theorem dX0_image_1 : decode cX0_image 1 = .ok (.iconst 0, 1) := dk_3 (dk_at dksX0_image_0 1 rfl rfl)
theorem dX0_image_2 : decode cX0_image 2 = .ok (.iconst 1, 1) := dk_4 (dk_at dksX0_image_0 2 rfl rfl)
theorem dX0_image_3 : decode cX0_image 3 = .ok (.invokestatic 55, 3) := dk_184 0 55 (dk_at dksX0_image_0 3 rfl rfl)
theorem dX0_image_6 : decode cX0_image 6 = .ok (.ifCond .ne 6, 3) := dk_154 0 6 (dk_at dksX0_image_0 6 rfl rfl)
theorem dX0_image_9 : decode cX0_image 9 = .ok (.bipush (-2), 2) := dk_16 254 (dk_at dksX0_image_0 9 rfl rfl)
theorem dX0_image_11 : decode cX0_image 11 = .ok (.ireturn, 1) := dk_172 (dk_at dksX0_image_0 11 rfl rfl)
theorem dX0_image_12 : decode cX0_image 12 = .ok (.aload_n 0, 1) := dk_42 (dk_at dksX0_image_0 12 rfl rfl)
theorem dX0_image_13 : decode cX0_image 13 = .ok (.getfield 27, 3) := dk_180 0 27 (dk_at dksX0_image_0 13 rfl rfl)
theorem dX0_image_16 : decode cX0_image 16 = .ok (.iload_n 1, 1) := dk_27 (dk_at dksX0_image_0 16 rfl rfl)
theorem dX0_image_17 : decode cX0_image 17 = .ok (.aaload, 1) := dk_50 (dk_at dksX0_image_0 17 rfl rfl)
theorem dX0_image_18 : decode cX0_image 18 = .ok (.aload_n 0, 1) := dk_42 (dk_at dksX0_image_0 18 rfl rfl)
theorem dX0_image_19 : decode cX0_image 19 = .ok (.getfield 20, 3) := dk_180 0 20 (dk_at dksX0_image_0 19 rfl rfl)
theorem dX0_image_22 : decode cX0_image 22 = .ok (.invokevirtual 138, 3) := dk_182 0 138 (dk_at dksX0_image_1 0 rfl rfl)
theorem dX0_image_25 : decode cX0_image 25 = .ok (.aload_n 0, 1) := dk_42 (dk_at dksX0_image_1 3 rfl rfl)
theorem dX0_image_26 : decode cX0_image 26 = .ok (.getfield 27, 3) := dk_180 0 27 (dk_at dksX0_image_1 4 rfl rfl)
theorem dX0_image_29 : decode cX0_image 29 = .ok (.iload_n 1, 1) := dk_27 (dk_at dksX0_image_1 7 rfl rfl)
theorem dX0_image_30 : decode cX0_image 30 = .ok (.aaload, 1) := dk_50 (dk_at dksX0_image_1 8 rfl rfl)
theorem dX0_image_31 : decode cX0_image 31 = .ok (.iconst 1, 1) := dk_4 (dk_at dksX0_image_1 9 rfl rfl)
theorem dX0_image_32 : decode cX0_image 32 = .ok (.putfield 256, 3) := dk_181 1 0 (dk_at dksX0_image_1 10 rfl rfl)
theorem dX0_image_35 : decode cX0_image 35 = .ok (.iconst 1, 1) := dk_4 (dk_at dksX0_image_1 13 rfl rfl)
theorem dX0_image_36 : decode cX0_image 36 = .ok (.ireturn, 1) := dk_172 (dk_at dksX0_image_1 14 rfl rfl)
abbrev cX0_restore : ByteArray := prog_1_method_46_code
def yX0_restore : MethodName := ⟨RX0, "restore", "(I)I"⟩
def dkwX0_restore_1 : List UInt8 := [16, 253, 172, 42, 180, 0, 20, 42, 180, 0, 27, 27, 50, 182, 0, 138, 4, 172]
abbrev dktX0_restore_1 : List UInt8 := dkwX0_restore_1 ++ []
def dkwX0_restore_0 : List UInt8 := [27, 3, 4, 184, 0, 55, 154, 0, 6, 16, 254, 172, 42, 180, 0, 27, 27, 50, 180, 1, 0, 154, 0, 6]
abbrev dktX0_restore_0 : List UInt8 := dkwX0_restore_0 ++ dktX0_restore_1
theorem dksX0_restore_0 : cX0_restore.data.toList.drop 0 = dktX0_restore_0 := by decide +kernel
theorem dksX0_restore_1 : cX0_restore.data.toList.drop 24 = dktX0_restore_1 := dk_seg dksX0_restore_0 24 rfl rfl
theorem dX0_restore_0 : decode cX0_restore 0 = .ok (.iload_n 1, 1) := dk_27 (dk_at dksX0_restore_0 0 rfl rfl)
theorem dX0_restore_1 : decode cX0_restore 1 = .ok (.iconst 0, 1) := dk_3 (dk_at dksX0_restore_0 1 rfl rfl)
theorem dX0_restore_2 : decode cX0_restore 2 = .ok (.iconst 1, 1) := dk_4 (dk_at dksX0_restore_0 2 rfl rfl)
theorem dX0_restore_3 : decode cX0_restore 3 = .ok (.invokestatic 55, 3) := dk_184 0 55 (dk_at dksX0_restore_0 3 rfl rfl)
theorem dX0_restore_6 : decode cX0_restore 6 = .ok (.ifCond .ne 6, 3) := dk_154 0 6 (dk_at dksX0_restore_0 6 rfl rfl)
theorem dX0_restore_9 : decode cX0_restore 9 = .ok (.bipush (-2), 2) := dk_16 254 (dk_at dksX0_restore_0 9 rfl rfl)
theorem dX0_restore_11 : decode cX0_restore 11 = .ok (.ireturn, 1) := dk_172 (dk_at dksX0_restore_0 11 rfl rfl)
theorem dX0_restore_12 : decode cX0_restore 12 = .ok (.aload_n 0, 1) := dk_42 (dk_at dksX0_restore_0 12 rfl rfl)
theorem dX0_restore_13 : decode cX0_restore 13 = .ok (.getfield 27, 3) := dk_180 0 27 (dk_at dksX0_restore_0 13 rfl rfl)
theorem dX0_restore_16 : decode cX0_restore 16 = .ok (.iload_n 1, 1) := dk_27 (dk_at dksX0_restore_0 16 rfl rfl)
theorem dX0_restore_17 : decode cX0_restore 17 = .ok (.aaload, 1) := dk_50 (dk_at dksX0_restore_0 17 rfl rfl)
theorem dX0_restore_18 : decode cX0_restore 18 = .ok (.getfield 256, 3) := dk_180 1 0 (dk_at dksX0_restore_0 18 rfl rfl)
theorem dX0_restore_21 : decode cX0_restore 21 = .ok (.ifCond .ne 6, 3) := dk_154 0 6 (dk_at dksX0_restore_0 21 rfl rfl)
theorem dX0_restore_24 : decode cX0_restore 24 = .ok (.bipush (-3), 2) := dk_16 253 (dk_at dksX0_restore_1 0 rfl rfl)
theorem dX0_restore_26 : decode cX0_restore 26 = .ok (.ireturn, 1) := dk_172 (dk_at dksX0_restore_1 2 rfl rfl)
theorem dX0_restore_27 : decode cX0_restore 27 = .ok (.aload_n 0, 1) := dk_42 (dk_at dksX0_restore_1 3 rfl rfl)
theorem dX0_restore_28 : decode cX0_restore 28 = .ok (.getfield 20, 3) := dk_180 0 20 (dk_at dksX0_restore_1 4 rfl rfl)
theorem dX0_restore_31 : decode cX0_restore 31 = .ok (.aload_n 0, 1) := dk_42 (dk_at dksX0_restore_1 7 rfl rfl)
theorem dX0_restore_32 : decode cX0_restore 32 = .ok (.getfield 27, 3) := dk_180 0 27 (dk_at dksX0_restore_1 8 rfl rfl)
theorem dX0_restore_35 : decode cX0_restore 35 = .ok (.iload_n 1, 1) := dk_27 (dk_at dksX0_restore_1 11 rfl rfl)
theorem dX0_restore_36 : decode cX0_restore 36 = .ok (.aaload, 1) := dk_50 (dk_at dksX0_restore_1 12 rfl rfl)
theorem dX0_restore_37 : decode cX0_restore 37 = .ok (.invokevirtual 138, 3) := dk_182 0 138 (dk_at dksX0_restore_1 13 rfl rfl)
theorem dX0_restore_40 : decode cX0_restore 40 = .ok (.iconst 1, 1) := dk_4 (dk_at dksX0_restore_1 16 rfl rfl)
theorem dX0_restore_41 : decode cX0_restore 41 = .ok (.ireturn, 1) := dk_172 (dk_at dksX0_restore_1 17 rfl rfl)
abbrev cX0_told : ByteArray := prog_1_method_50_code
def yX0_told : MethodName := ⟨RX0, "told", "(I)I"⟩
def dkwX0_told_7 : List UInt8 := [167, 0, 5, 16, 254, 172]
abbrev dktX0_told_7 : List UInt8 := dkwX0_told_7 ++ []
def dkwX0_told_6 : List UInt8 := [172, 42, 180, 0, 20, 182, 0, 163, 172, 27, 16, 8, 160, 0, 13, 42, 180, 0, 20, 182, 0, 131]
abbrev dktX0_told_6 : List UInt8 := dkwX0_told_6 ++ dktX0_told_7
def dkwX0_told_5 : List UInt8 := [172, 42, 180, 0, 20, 180, 0, 168, 172, 42, 180, 0, 20, 180, 0, 226, 172, 42, 180, 0, 20, 182, 0, 160]
abbrev dktX0_told_5 : List UInt8 := dkwX0_told_5 ++ dktX0_told_6
def dkwX0_told_4 : List UInt8 := [42, 180, 0, 90, 172, 42, 180, 0, 20, 180, 0, 87, 27, 4, 100, 46, 172, 42, 180, 0, 20, 180, 0, 165]
abbrev dktX0_told_4 : List UInt8 := dkwX0_told_4 ++ dktX0_told_5
def dkwX0_told_3 : List UInt8 := [170, 0, 0, 0, 0, 0, 104, 0, 0, 0, 0, 0, 0, 0, 7, 0, 0, 0, 47, 0, 0, 0, 52, 0, 0, 0, 52, 0, 0, 0, 64, 0, 0, 0, 72, 0, 0, 0, 80, 0, 0, 0, 88, 0, 0, 0, 96]
abbrev dktX0_told_3 : List UInt8 := dkwX0_told_3 ++ dktX0_told_4
def dkwX0_told_2 : List UInt8 := [167, 0, 17, 42, 27, 16, 10, 108, 4, 100, 27, 16, 10, 112, 182, 1, 10, 172, 27]
abbrev dktX0_told_2 : List UInt8 := dkwX0_told_2 ++ dktX0_told_3
def dkwX0_told_1 : List UInt8 := [167, 0, 41, 27, 16, 100, 161, 0, 21, 42, 27, 16, 100, 100, 16, 10, 108, 27, 16, 10, 112, 182, 1, 7]
abbrev dktX0_told_1 : List UInt8 := dkwX0_told_1 ++ dktX0_told_2
def dkwX0_told_0 : List UInt8 := [27, 16, 10, 161, 0, 61, 27, 17, 0, 200, 161, 0, 15, 42, 27, 17, 0, 200, 100, 182, 1, 4]
abbrev dktX0_told_0 : List UInt8 := dkwX0_told_0 ++ dktX0_told_1
theorem dksX0_told_0 : cX0_told.data.toList.drop 0 = dktX0_told_0 := by decide +kernel
theorem dksX0_told_1 : cX0_told.data.toList.drop 22 = dktX0_told_1 := dk_seg dksX0_told_0 22 rfl rfl
theorem dksX0_told_2 : cX0_told.data.toList.drop 46 = dktX0_told_2 := dk_seg dksX0_told_1 24 rfl rfl
theorem dksX0_told_3 : cX0_told.data.toList.drop 65 = dktX0_told_3 := dk_seg dksX0_told_2 19 rfl rfl
theorem dksX0_told_4 : cX0_told.data.toList.drop 112 = dktX0_told_4 := dk_seg dksX0_told_3 47 rfl rfl
theorem dksX0_told_5 : cX0_told.data.toList.drop 136 = dktX0_told_5 := dk_seg dksX0_told_4 24 rfl rfl
theorem dksX0_told_6 : cX0_told.data.toList.drop 160 = dktX0_told_6 := dk_seg dksX0_told_5 24 rfl rfl
theorem dksX0_told_7 : cX0_told.data.toList.drop 182 = dktX0_told_7 := dk_seg dksX0_told_6 22 rfl rfl
theorem dX0_told_0 : decode cX0_told 0 = .ok (.iload_n 1, 1) := dk_27 (dk_at dksX0_told_0 0 rfl rfl)
theorem dX0_told_1 : decode cX0_told 1 = .ok (.bipush 10, 2) := dk_16 10 (dk_at dksX0_told_0 1 rfl rfl)
theorem dX0_told_3 : decode cX0_told 3 = .ok (.if_icmp .lt 61, 3) := dk_161 0 61 (dk_at dksX0_told_0 3 rfl rfl)
theorem dX0_told_6 : decode cX0_told 6 = .ok (.iload_n 1, 1) := dk_27 (dk_at dksX0_told_0 6 rfl rfl)
theorem dX0_told_7 : decode cX0_told 7 = .ok (.sipush 200, 3) := dk_17 0 200 (dk_at dksX0_told_0 7 rfl rfl)
theorem dX0_told_10 : decode cX0_told 10 = .ok (.if_icmp .lt 15, 3) := dk_161 0 15 (dk_at dksX0_told_0 10 rfl rfl)
theorem dX0_told_13 : decode cX0_told 13 = .ok (.aload_n 0, 1) := dk_42 (dk_at dksX0_told_0 13 rfl rfl)
theorem dX0_told_14 : decode cX0_told 14 = .ok (.iload_n 1, 1) := dk_27 (dk_at dksX0_told_0 14 rfl rfl)
theorem dX0_told_15 : decode cX0_told 15 = .ok (.sipush 200, 3) := dk_17 0 200 (dk_at dksX0_told_0 15 rfl rfl)
theorem dX0_told_18 : decode cX0_told 18 = .ok (.isub, 1) := dk_100 (dk_at dksX0_told_0 18 rfl rfl)
theorem dX0_told_19 : decode cX0_told 19 = .ok (.invokevirtual 260, 3) := dk_182 1 4 (dk_at dksX0_told_0 19 rfl rfl)
theorem dX0_told_22 : decode cX0_told 22 = .ok (.goto 41, 3) := dk_167 0 41 (dk_at dksX0_told_1 0 rfl rfl)
theorem dX0_told_25 : decode cX0_told 25 = .ok (.iload_n 1, 1) := dk_27 (dk_at dksX0_told_1 3 rfl rfl)
theorem dX0_told_26 : decode cX0_told 26 = .ok (.bipush 100, 2) := dk_16 100 (dk_at dksX0_told_1 4 rfl rfl)
theorem dX0_told_28 : decode cX0_told 28 = .ok (.if_icmp .lt 21, 3) := dk_161 0 21 (dk_at dksX0_told_1 6 rfl rfl)
theorem dX0_told_31 : decode cX0_told 31 = .ok (.aload_n 0, 1) := dk_42 (dk_at dksX0_told_1 9 rfl rfl)
theorem dX0_told_32 : decode cX0_told 32 = .ok (.iload_n 1, 1) := dk_27 (dk_at dksX0_told_1 10 rfl rfl)
theorem dX0_told_33 : decode cX0_told 33 = .ok (.bipush 100, 2) := dk_16 100 (dk_at dksX0_told_1 11 rfl rfl)
theorem dX0_told_35 : decode cX0_told 35 = .ok (.isub, 1) := dk_100 (dk_at dksX0_told_1 13 rfl rfl)
theorem dX0_told_36 : decode cX0_told 36 = .ok (.bipush 10, 2) := dk_16 10 (dk_at dksX0_told_1 14 rfl rfl)
theorem dX0_told_38 : decode cX0_told 38 = .ok (.idiv, 1) := dk_108 (dk_at dksX0_told_1 16 rfl rfl)
theorem dX0_told_39 : decode cX0_told 39 = .ok (.iload_n 1, 1) := dk_27 (dk_at dksX0_told_1 17 rfl rfl)
theorem dX0_told_40 : decode cX0_told 40 = .ok (.bipush 10, 2) := dk_16 10 (dk_at dksX0_told_1 18 rfl rfl)
theorem dX0_told_42 : decode cX0_told 42 = .ok (.irem, 1) := dk_112 (dk_at dksX0_told_1 20 rfl rfl)
theorem dX0_told_43 : decode cX0_told 43 = .ok (.invokevirtual 263, 3) := dk_182 1 7 (dk_at dksX0_told_1 21 rfl rfl)
theorem dX0_told_46 : decode cX0_told 46 = .ok (.goto 17, 3) := dk_167 0 17 (dk_at dksX0_told_2 0 rfl rfl)
theorem dX0_told_49 : decode cX0_told 49 = .ok (.aload_n 0, 1) := dk_42 (dk_at dksX0_told_2 3 rfl rfl)
theorem dX0_told_50 : decode cX0_told 50 = .ok (.iload_n 1, 1) := dk_27 (dk_at dksX0_told_2 4 rfl rfl)
theorem dX0_told_51 : decode cX0_told 51 = .ok (.bipush 10, 2) := dk_16 10 (dk_at dksX0_told_2 5 rfl rfl)
theorem dX0_told_53 : decode cX0_told 53 = .ok (.idiv, 1) := dk_108 (dk_at dksX0_told_2 7 rfl rfl)
theorem dX0_told_54 : decode cX0_told 54 = .ok (.iconst 1, 1) := dk_4 (dk_at dksX0_told_2 8 rfl rfl)
theorem dX0_told_55 : decode cX0_told 55 = .ok (.isub, 1) := dk_100 (dk_at dksX0_told_2 9 rfl rfl)
theorem dX0_told_56 : decode cX0_told 56 = .ok (.iload_n 1, 1) := dk_27 (dk_at dksX0_told_2 10 rfl rfl)
theorem dX0_told_57 : decode cX0_told 57 = .ok (.bipush 10, 2) := dk_16 10 (dk_at dksX0_told_2 11 rfl rfl)
theorem dX0_told_59 : decode cX0_told 59 = .ok (.irem, 1) := dk_112 (dk_at dksX0_told_2 13 rfl rfl)
theorem dX0_told_60 : decode cX0_told 60 = .ok (.invokevirtual 266, 3) := dk_182 1 10 (dk_at dksX0_told_2 14 rfl rfl)
theorem dX0_told_63 : decode cX0_told 63 = .ok (.ireturn, 1) := dk_172 (dk_at dksX0_told_2 17 rfl rfl)
theorem dX0_told_64 : decode cX0_told 64 = .ok (.iload_n 1, 1) := dk_27 (dk_at dksX0_told_2 18 rfl rfl)
theorem dX0_told_65 : decode cX0_told 65 = .ok (.tableswitch 104 0 7 #[47, 52, 52, 64, 72, 80, 88, 96], 47) := by decide +kernel
theorem dX0_told_112 : decode cX0_told 112 = .ok (.aload_n 0, 1) := dk_42 (dk_at dksX0_told_4 0 rfl rfl)
theorem dX0_told_113 : decode cX0_told 113 = .ok (.getfield 90, 3) := dk_180 0 90 (dk_at dksX0_told_4 1 rfl rfl)
theorem dX0_told_116 : decode cX0_told 116 = .ok (.ireturn, 1) := dk_172 (dk_at dksX0_told_4 4 rfl rfl)
theorem dX0_told_117 : decode cX0_told 117 = .ok (.aload_n 0, 1) := dk_42 (dk_at dksX0_told_4 5 rfl rfl)
theorem dX0_told_118 : decode cX0_told 118 = .ok (.getfield 20, 3) := dk_180 0 20 (dk_at dksX0_told_4 6 rfl rfl)
theorem dX0_told_121 : decode cX0_told 121 = .ok (.getfield 87, 3) := dk_180 0 87 (dk_at dksX0_told_4 9 rfl rfl)
theorem dX0_told_124 : decode cX0_told 124 = .ok (.iload_n 1, 1) := dk_27 (dk_at dksX0_told_4 12 rfl rfl)
theorem dX0_told_125 : decode cX0_told 125 = .ok (.iconst 1, 1) := dk_4 (dk_at dksX0_told_4 13 rfl rfl)
theorem dX0_told_126 : decode cX0_told 126 = .ok (.isub, 1) := dk_100 (dk_at dksX0_told_4 14 rfl rfl)
theorem dX0_told_127 : decode cX0_told 127 = .ok (.iaload, 1) := dk_46 (dk_at dksX0_told_4 15 rfl rfl)
theorem dX0_told_128 : decode cX0_told 128 = .ok (.ireturn, 1) := dk_172 (dk_at dksX0_told_4 16 rfl rfl)
theorem dX0_told_129 : decode cX0_told 129 = .ok (.aload_n 0, 1) := dk_42 (dk_at dksX0_told_4 17 rfl rfl)
theorem dX0_told_130 : decode cX0_told 130 = .ok (.getfield 20, 3) := dk_180 0 20 (dk_at dksX0_told_4 18 rfl rfl)
theorem dX0_told_133 : decode cX0_told 133 = .ok (.getfield 165, 3) := dk_180 0 165 (dk_at dksX0_told_4 21 rfl rfl)
theorem dX0_told_136 : decode cX0_told 136 = .ok (.ireturn, 1) := dk_172 (dk_at dksX0_told_5 0 rfl rfl)
theorem dX0_told_137 : decode cX0_told 137 = .ok (.aload_n 0, 1) := dk_42 (dk_at dksX0_told_5 1 rfl rfl)
theorem dX0_told_138 : decode cX0_told 138 = .ok (.getfield 20, 3) := dk_180 0 20 (dk_at dksX0_told_5 2 rfl rfl)
theorem dX0_told_141 : decode cX0_told 141 = .ok (.getfield 168, 3) := dk_180 0 168 (dk_at dksX0_told_5 5 rfl rfl)
theorem dX0_told_144 : decode cX0_told 144 = .ok (.ireturn, 1) := dk_172 (dk_at dksX0_told_5 8 rfl rfl)
theorem dX0_told_145 : decode cX0_told 145 = .ok (.aload_n 0, 1) := dk_42 (dk_at dksX0_told_5 9 rfl rfl)
theorem dX0_told_146 : decode cX0_told 146 = .ok (.getfield 20, 3) := dk_180 0 20 (dk_at dksX0_told_5 10 rfl rfl)
theorem dX0_told_149 : decode cX0_told 149 = .ok (.getfield 226, 3) := dk_180 0 226 (dk_at dksX0_told_5 13 rfl rfl)
theorem dX0_told_152 : decode cX0_told 152 = .ok (.ireturn, 1) := dk_172 (dk_at dksX0_told_5 16 rfl rfl)
theorem dX0_told_153 : decode cX0_told 153 = .ok (.aload_n 0, 1) := dk_42 (dk_at dksX0_told_5 17 rfl rfl)
theorem dX0_told_154 : decode cX0_told 154 = .ok (.getfield 20, 3) := dk_180 0 20 (dk_at dksX0_told_5 18 rfl rfl)
theorem dX0_told_157 : decode cX0_told 157 = .ok (.invokevirtual 160, 3) := dk_182 0 160 (dk_at dksX0_told_5 21 rfl rfl)
theorem dX0_told_160 : decode cX0_told 160 = .ok (.ireturn, 1) := dk_172 (dk_at dksX0_told_6 0 rfl rfl)
theorem dX0_told_161 : decode cX0_told 161 = .ok (.aload_n 0, 1) := dk_42 (dk_at dksX0_told_6 1 rfl rfl)
theorem dX0_told_162 : decode cX0_told 162 = .ok (.getfield 20, 3) := dk_180 0 20 (dk_at dksX0_told_6 2 rfl rfl)
theorem dX0_told_165 : decode cX0_told 165 = .ok (.invokevirtual 163, 3) := dk_182 0 163 (dk_at dksX0_told_6 5 rfl rfl)
theorem dX0_told_168 : decode cX0_told 168 = .ok (.ireturn, 1) := dk_172 (dk_at dksX0_told_6 8 rfl rfl)
theorem dX0_told_169 : decode cX0_told 169 = .ok (.iload_n 1, 1) := dk_27 (dk_at dksX0_told_6 9 rfl rfl)
theorem dX0_told_170 : decode cX0_told 170 = .ok (.bipush 8, 2) := dk_16 8 (dk_at dksX0_told_6 10 rfl rfl)
theorem dX0_told_172 : decode cX0_told 172 = .ok (.if_icmp .ne 13, 3) := dk_160 0 13 (dk_at dksX0_told_6 12 rfl rfl)
theorem dX0_told_175 : decode cX0_told 175 = .ok (.aload_n 0, 1) := dk_42 (dk_at dksX0_told_6 15 rfl rfl)
theorem dX0_told_176 : decode cX0_told 176 = .ok (.getfield 20, 3) := dk_180 0 20 (dk_at dksX0_told_6 16 rfl rfl)
theorem dX0_told_179 : decode cX0_told 179 = .ok (.invokevirtual 131, 3) := dk_182 0 131 (dk_at dksX0_told_6 19 rfl rfl)
theorem dX0_told_182 : decode cX0_told 182 = .ok (.goto 5, 3) := dk_167 0 5 (dk_at dksX0_told_7 0 rfl rfl)
theorem dX0_told_185 : decode cX0_told 185 = .ok (.bipush (-2), 2) := dk_16 254 (dk_at dksX0_told_7 3 rfl rfl)
theorem dX0_told_187 : decode cX0_told 187 = .ok (.ireturn, 1) := dk_172 (dk_at dksX0_told_7 5 rfl rfl)
abbrev cX0_toldTwo : ByteArray := prog_1_method_47_code
def yX0_toldTwo : MethodName := ⟨RX0, "toldTwo", "(I)I"⟩
def dkwX0_toldTwo_1 : List UInt8 := [42, 180, 0, 20, 180, 0, 73, 28, 50, 29, 46, 167, 0, 5, 16, 254, 172]
abbrev dktX0_toldTwo_1 : List UInt8 := dkwX0_toldTwo_1 ++ []
def dkwX0_toldTwo_0 : List UInt8 := [27, 16, 10, 108, 61, 27, 16, 10, 112, 62, 28, 184, 0, 59, 153, 0, 24, 29, 184, 0, 59, 153, 0, 17]
abbrev dktX0_toldTwo_0 : List UInt8 := dkwX0_toldTwo_0 ++ dktX0_toldTwo_1
theorem dksX0_toldTwo_0 : cX0_toldTwo.data.toList.drop 0 = dktX0_toldTwo_0 := by decide +kernel
theorem dksX0_toldTwo_1 : cX0_toldTwo.data.toList.drop 24 = dktX0_toldTwo_1 := dk_seg dksX0_toldTwo_0 24 rfl rfl
theorem dX0_toldTwo_0 : decode cX0_toldTwo 0 = .ok (.iload_n 1, 1) := dk_27 (dk_at dksX0_toldTwo_0 0 rfl rfl)
theorem dX0_toldTwo_1 : decode cX0_toldTwo 1 = .ok (.bipush 10, 2) := dk_16 10 (dk_at dksX0_toldTwo_0 1 rfl rfl)
theorem dX0_toldTwo_3 : decode cX0_toldTwo 3 = .ok (.idiv, 1) := dk_108 (dk_at dksX0_toldTwo_0 3 rfl rfl)
theorem dX0_toldTwo_4 : decode cX0_toldTwo 4 = .ok (.istore_n 2, 1) := dk_61 (dk_at dksX0_toldTwo_0 4 rfl rfl)
theorem dX0_toldTwo_5 : decode cX0_toldTwo 5 = .ok (.iload_n 1, 1) := dk_27 (dk_at dksX0_toldTwo_0 5 rfl rfl)
theorem dX0_toldTwo_6 : decode cX0_toldTwo 6 = .ok (.bipush 10, 2) := dk_16 10 (dk_at dksX0_toldTwo_0 6 rfl rfl)
theorem dX0_toldTwo_8 : decode cX0_toldTwo 8 = .ok (.irem, 1) := dk_112 (dk_at dksX0_toldTwo_0 8 rfl rfl)
theorem dX0_toldTwo_9 : decode cX0_toldTwo 9 = .ok (.istore_n 3, 1) := dk_62 (dk_at dksX0_toldTwo_0 9 rfl rfl)
theorem dX0_toldTwo_10 : decode cX0_toldTwo 10 = .ok (.iload_n 2, 1) := dk_28 (dk_at dksX0_toldTwo_0 10 rfl rfl)
theorem dX0_toldTwo_11 : decode cX0_toldTwo 11 = .ok (.invokestatic 59, 3) := dk_184 0 59 (dk_at dksX0_toldTwo_0 11 rfl rfl)
theorem dX0_toldTwo_14 : decode cX0_toldTwo 14 = .ok (.ifCond .eq 24, 3) := dk_153 0 24 (dk_at dksX0_toldTwo_0 14 rfl rfl)
theorem dX0_toldTwo_17 : decode cX0_toldTwo 17 = .ok (.iload_n 3, 1) := dk_29 (dk_at dksX0_toldTwo_0 17 rfl rfl)
theorem dX0_toldTwo_18 : decode cX0_toldTwo 18 = .ok (.invokestatic 59, 3) := dk_184 0 59 (dk_at dksX0_toldTwo_0 18 rfl rfl)
theorem dX0_toldTwo_21 : decode cX0_toldTwo 21 = .ok (.ifCond .eq 17, 3) := dk_153 0 17 (dk_at dksX0_toldTwo_0 21 rfl rfl)
theorem dX0_toldTwo_24 : decode cX0_toldTwo 24 = .ok (.aload_n 0, 1) := dk_42 (dk_at dksX0_toldTwo_1 0 rfl rfl)
theorem dX0_toldTwo_25 : decode cX0_toldTwo 25 = .ok (.getfield 20, 3) := dk_180 0 20 (dk_at dksX0_toldTwo_1 1 rfl rfl)
theorem dX0_toldTwo_28 : decode cX0_toldTwo 28 = .ok (.getfield 73, 3) := dk_180 0 73 (dk_at dksX0_toldTwo_1 4 rfl rfl)
theorem dX0_toldTwo_31 : decode cX0_toldTwo 31 = .ok (.iload_n 2, 1) := dk_28 (dk_at dksX0_toldTwo_1 7 rfl rfl)
theorem dX0_toldTwo_32 : decode cX0_toldTwo 32 = .ok (.aaload, 1) := dk_50 (dk_at dksX0_toldTwo_1 8 rfl rfl)
theorem dX0_toldTwo_33 : decode cX0_toldTwo 33 = .ok (.iload_n 3, 1) := dk_29 (dk_at dksX0_toldTwo_1 9 rfl rfl)
theorem dX0_toldTwo_34 : decode cX0_toldTwo 34 = .ok (.iaload, 1) := dk_46 (dk_at dksX0_toldTwo_1 10 rfl rfl)
theorem dX0_toldTwo_35 : decode cX0_toldTwo 35 = .ok (.goto 5, 3) := dk_167 0 5 (dk_at dksX0_toldTwo_1 11 rfl rfl)
theorem dX0_toldTwo_38 : decode cX0_toldTwo 38 = .ok (.bipush (-2), 2) := dk_16 254 (dk_at dksX0_toldTwo_1 14 rfl rfl)
theorem dX0_toldTwo_40 : decode cX0_toldTwo 40 = .ok (.ireturn, 1) := dk_172 (dk_at dksX0_toldTwo_1 16 rfl rfl)
abbrev cX0_toldLot : ByteArray := prog_1_method_48_code
def yX0_toldLot : MethodName := ⟨RX0, "toldLot", "(II)I"⟩
def dkwX0_toldLot_1 : List UInt8 := [180, 0, 20, 180, 0, 80, 27, 46, 167, 0, 12, 42, 180, 0, 20, 180, 0, 83, 27, 46, 172]
abbrev dktX0_toldLot_1 : List UInt8 := dkwX0_toldLot_1 ++ []
def dkwX0_toldLot_0 : List UInt8 := [27, 184, 0, 77, 153, 0, 8, 28, 4, 164, 0, 8, 16, 254, 167, 0, 28, 28, 154, 0, 15, 42]
abbrev dktX0_toldLot_0 : List UInt8 := dkwX0_toldLot_0 ++ dktX0_toldLot_1
theorem dksX0_toldLot_0 : cX0_toldLot.data.toList.drop 0 = dktX0_toldLot_0 := by decide +kernel
theorem dksX0_toldLot_1 : cX0_toldLot.data.toList.drop 22 = dktX0_toldLot_1 := dk_seg dksX0_toldLot_0 22 rfl rfl
theorem dX0_toldLot_0 : decode cX0_toldLot 0 = .ok (.iload_n 1, 1) := dk_27 (dk_at dksX0_toldLot_0 0 rfl rfl)
theorem dX0_toldLot_1 : decode cX0_toldLot 1 = .ok (.invokestatic 77, 3) := dk_184 0 77 (dk_at dksX0_toldLot_0 1 rfl rfl)
theorem dX0_toldLot_4 : decode cX0_toldLot 4 = .ok (.ifCond .eq 8, 3) := dk_153 0 8 (dk_at dksX0_toldLot_0 4 rfl rfl)
theorem dX0_toldLot_7 : decode cX0_toldLot 7 = .ok (.iload_n 2, 1) := dk_28 (dk_at dksX0_toldLot_0 7 rfl rfl)
theorem dX0_toldLot_8 : decode cX0_toldLot 8 = .ok (.iconst 1, 1) := dk_4 (dk_at dksX0_toldLot_0 8 rfl rfl)
theorem dX0_toldLot_9 : decode cX0_toldLot 9 = .ok (.if_icmp .le 8, 3) := dk_164 0 8 (dk_at dksX0_toldLot_0 9 rfl rfl)
theorem dX0_toldLot_12 : decode cX0_toldLot 12 = .ok (.bipush (-2), 2) := dk_16 254 (dk_at dksX0_toldLot_0 12 rfl rfl)
theorem dX0_toldLot_14 : decode cX0_toldLot 14 = .ok (.goto 28, 3) := dk_167 0 28 (dk_at dksX0_toldLot_0 14 rfl rfl)
theorem dX0_toldLot_17 : decode cX0_toldLot 17 = .ok (.iload_n 2, 1) := dk_28 (dk_at dksX0_toldLot_0 17 rfl rfl)
theorem dX0_toldLot_18 : decode cX0_toldLot 18 = .ok (.ifCond .ne 15, 3) := dk_154 0 15 (dk_at dksX0_toldLot_0 18 rfl rfl)
theorem dX0_toldLot_21 : decode cX0_toldLot 21 = .ok (.aload_n 0, 1) := dk_42 (dk_at dksX0_toldLot_0 21 rfl rfl)
theorem dX0_toldLot_22 : decode cX0_toldLot 22 = .ok (.getfield 20, 3) := dk_180 0 20 (dk_at dksX0_toldLot_1 0 rfl rfl)
theorem dX0_toldLot_25 : decode cX0_toldLot 25 = .ok (.getfield 80, 3) := dk_180 0 80 (dk_at dksX0_toldLot_1 3 rfl rfl)
theorem dX0_toldLot_28 : decode cX0_toldLot 28 = .ok (.iload_n 1, 1) := dk_27 (dk_at dksX0_toldLot_1 6 rfl rfl)
theorem dX0_toldLot_29 : decode cX0_toldLot 29 = .ok (.iaload, 1) := dk_46 (dk_at dksX0_toldLot_1 7 rfl rfl)
theorem dX0_toldLot_30 : decode cX0_toldLot 30 = .ok (.goto 12, 3) := dk_167 0 12 (dk_at dksX0_toldLot_1 8 rfl rfl)
theorem dX0_toldLot_33 : decode cX0_toldLot 33 = .ok (.aload_n 0, 1) := dk_42 (dk_at dksX0_toldLot_1 11 rfl rfl)
theorem dX0_toldLot_34 : decode cX0_toldLot 34 = .ok (.getfield 20, 3) := dk_180 0 20 (dk_at dksX0_toldLot_1 12 rfl rfl)
theorem dX0_toldLot_37 : decode cX0_toldLot 37 = .ok (.getfield 83, 3) := dk_180 0 83 (dk_at dksX0_toldLot_1 15 rfl rfl)
theorem dX0_toldLot_40 : decode cX0_toldLot 40 = .ok (.iload_n 1, 1) := dk_27 (dk_at dksX0_toldLot_1 18 rfl rfl)
theorem dX0_toldLot_41 : decode cX0_toldLot 41 = .ok (.iaload, 1) := dk_46 (dk_at dksX0_toldLot_1 19 rfl rfl)
theorem dX0_toldLot_42 : decode cX0_toldLot 42 = .ok (.ireturn, 1) := dk_172 (dk_at dksX0_toldLot_1 20 rfl rfl)
abbrev cX0_toldOne : ByteArray := prog_1_method_49_code
def yX0_toldOne : MethodName := ⟨RX0, "toldOne", "(II)I"⟩
def dkwX0_toldOne_2 : List UInt8 := [167, 0, 11, 42, 180, 0, 20, 27, 182, 0, 154, 172]
abbrev dktX0_toldOne_2 : List UInt8 := dkwX0_toldOne_2 ++ []
def dkwX0_toldOne_1 : List UInt8 := [180, 0, 63, 27, 46, 167, 0, 28, 28, 4, 160, 0, 15, 42, 180, 0, 20, 180, 0, 66, 27, 46]
abbrev dktX0_toldOne_1 : List UInt8 := dkwX0_toldOne_1 ++ dktX0_toldOne_2
def dkwX0_toldOne_0 : List UInt8 := [27, 184, 0, 59, 153, 0, 8, 28, 5, 164, 0, 6, 16, 254, 172, 28, 154, 0, 15, 42, 180, 0, 20]
abbrev dktX0_toldOne_0 : List UInt8 := dkwX0_toldOne_0 ++ dktX0_toldOne_1
theorem dksX0_toldOne_0 : cX0_toldOne.data.toList.drop 0 = dktX0_toldOne_0 := by decide +kernel
theorem dksX0_toldOne_1 : cX0_toldOne.data.toList.drop 23 = dktX0_toldOne_1 := dk_seg dksX0_toldOne_0 23 rfl rfl
theorem dksX0_toldOne_2 : cX0_toldOne.data.toList.drop 45 = dktX0_toldOne_2 := dk_seg dksX0_toldOne_1 22 rfl rfl
theorem dX0_toldOne_0 : decode cX0_toldOne 0 = .ok (.iload_n 1, 1) := dk_27 (dk_at dksX0_toldOne_0 0 rfl rfl)
theorem dX0_toldOne_1 : decode cX0_toldOne 1 = .ok (.invokestatic 59, 3) := dk_184 0 59 (dk_at dksX0_toldOne_0 1 rfl rfl)
theorem dX0_toldOne_4 : decode cX0_toldOne 4 = .ok (.ifCond .eq 8, 3) := dk_153 0 8 (dk_at dksX0_toldOne_0 4 rfl rfl)
theorem dX0_toldOne_7 : decode cX0_toldOne 7 = .ok (.iload_n 2, 1) := dk_28 (dk_at dksX0_toldOne_0 7 rfl rfl)
theorem dX0_toldOne_8 : decode cX0_toldOne 8 = .ok (.iconst 2, 1) := dk_5 (dk_at dksX0_toldOne_0 8 rfl rfl)
theorem dX0_toldOne_9 : decode cX0_toldOne 9 = .ok (.if_icmp .le 6, 3) := dk_164 0 6 (dk_at dksX0_toldOne_0 9 rfl rfl)
theorem dX0_toldOne_12 : decode cX0_toldOne 12 = .ok (.bipush (-2), 2) := dk_16 254 (dk_at dksX0_toldOne_0 12 rfl rfl)
theorem dX0_toldOne_14 : decode cX0_toldOne 14 = .ok (.ireturn, 1) := dk_172 (dk_at dksX0_toldOne_0 14 rfl rfl)
theorem dX0_toldOne_15 : decode cX0_toldOne 15 = .ok (.iload_n 2, 1) := dk_28 (dk_at dksX0_toldOne_0 15 rfl rfl)
theorem dX0_toldOne_16 : decode cX0_toldOne 16 = .ok (.ifCond .ne 15, 3) := dk_154 0 15 (dk_at dksX0_toldOne_0 16 rfl rfl)
theorem dX0_toldOne_19 : decode cX0_toldOne 19 = .ok (.aload_n 0, 1) := dk_42 (dk_at dksX0_toldOne_0 19 rfl rfl)
theorem dX0_toldOne_20 : decode cX0_toldOne 20 = .ok (.getfield 20, 3) := dk_180 0 20 (dk_at dksX0_toldOne_0 20 rfl rfl)
theorem dX0_toldOne_23 : decode cX0_toldOne 23 = .ok (.getfield 63, 3) := dk_180 0 63 (dk_at dksX0_toldOne_1 0 rfl rfl)
theorem dX0_toldOne_26 : decode cX0_toldOne 26 = .ok (.iload_n 1, 1) := dk_27 (dk_at dksX0_toldOne_1 3 rfl rfl)
theorem dX0_toldOne_27 : decode cX0_toldOne 27 = .ok (.iaload, 1) := dk_46 (dk_at dksX0_toldOne_1 4 rfl rfl)
theorem dX0_toldOne_28 : decode cX0_toldOne 28 = .ok (.goto 28, 3) := dk_167 0 28 (dk_at dksX0_toldOne_1 5 rfl rfl)
theorem dX0_toldOne_31 : decode cX0_toldOne 31 = .ok (.iload_n 2, 1) := dk_28 (dk_at dksX0_toldOne_1 8 rfl rfl)
theorem dX0_toldOne_32 : decode cX0_toldOne 32 = .ok (.iconst 1, 1) := dk_4 (dk_at dksX0_toldOne_1 9 rfl rfl)
theorem dX0_toldOne_33 : decode cX0_toldOne 33 = .ok (.if_icmp .ne 15, 3) := dk_160 0 15 (dk_at dksX0_toldOne_1 10 rfl rfl)
theorem dX0_toldOne_36 : decode cX0_toldOne 36 = .ok (.aload_n 0, 1) := dk_42 (dk_at dksX0_toldOne_1 13 rfl rfl)
theorem dX0_toldOne_37 : decode cX0_toldOne 37 = .ok (.getfield 20, 3) := dk_180 0 20 (dk_at dksX0_toldOne_1 14 rfl rfl)
theorem dX0_toldOne_40 : decode cX0_toldOne 40 = .ok (.getfield 66, 3) := dk_180 0 66 (dk_at dksX0_toldOne_1 17 rfl rfl)
theorem dX0_toldOne_43 : decode cX0_toldOne 43 = .ok (.iload_n 1, 1) := dk_27 (dk_at dksX0_toldOne_1 20 rfl rfl)
theorem dX0_toldOne_44 : decode cX0_toldOne 44 = .ok (.iaload, 1) := dk_46 (dk_at dksX0_toldOne_1 21 rfl rfl)
theorem dX0_toldOne_45 : decode cX0_toldOne 45 = .ok (.goto 11, 3) := dk_167 0 11 (dk_at dksX0_toldOne_2 0 rfl rfl)
theorem dX0_toldOne_48 : decode cX0_toldOne 48 = .ok (.aload_n 0, 1) := dk_42 (dk_at dksX0_toldOne_2 3 rfl rfl)
theorem dX0_toldOne_49 : decode cX0_toldOne 49 = .ok (.getfield 20, 3) := dk_180 0 20 (dk_at dksX0_toldOne_2 4 rfl rfl)
theorem dX0_toldOne_52 : decode cX0_toldOne 52 = .ok (.iload_n 1, 1) := dk_27 (dk_at dksX0_toldOne_2 7 rfl rfl)
theorem dX0_toldOne_53 : decode cX0_toldOne 53 = .ok (.invokevirtual 154, 3) := dk_182 0 154 (dk_at dksX0_toldOne_2 8 rfl rfl)
theorem dX0_toldOne_56 : decode cX0_toldOne 56 = .ok (.ireturn, 1) := dk_172 (dk_at dksX0_toldOne_2 11 rfl rfl)
theorem q48 : (Jvm.Cond.initialized "AbbeyNotes") ∈ lw_all := lw_g (lw_at lw_m1 1 rfl) rfl
theorem q56 : (Jvm.Cond.instantiable "AbbeyNotes" (14 : Nat)) ∈ lw_all := lw_g (lw_at lw_m1 9 rfl) rfl
theorem q58 : (Jvm.Cond.instanceMethod ({ cls := "AbbeyNotes", name := "<init>", desc := "()V" } : Jvm.MethodName)) ∈ lw_all := lw_g (lw_at lw_m1 11 rfl) rfl
theorem q59 : (Jvm.Cond.code ({ cls := "AbbeyNotes", name := "<init>", desc := "()V" } : Jvm.MethodName) prog_1_method_5_code (2 : Nat) (Option.none : Option Jvm.ClassFile.FieldType)) ∈ lw_all := lw_g (lw_at lw_m1 12 rfl) rfl
theorem q60 : (Jvm.Cond.methodLink "AbbeyNotes" (11 : Nat) ({ cls := "java/lang/Object", name := "<init>", desc := "()V" } : Jvm.MethodName)) ∈ lw_all := lw_g (lw_at lw_m1 13 rfl) rfl
theorem q63 : (Jvm.Cond.classLink "AbbeyNotes" (17 : Nat) "AbbeyNotes$Land") ∈ lw_all := lw_g (lw_at lw_m1 16 rfl) rfl
theorem q65 : (Jvm.Cond.methodLink "AbbeyNotes" (19 : Nat) ({ cls := "AbbeyNotes$Land", name := "<init>", desc := "()V" } : Jvm.MethodName)) ∈ lw_all := lw_g (lw_at lw_m1 18 rfl) rfl
theorem q75 : (Jvm.Cond.fieldLinkNest "AbbeyNotes" (63 : Nat) "AbbeyNotes$Land" "paper" "[I" "AbbeyNotes") ∈ lw_tbl := lw_at lw_m1 28 rfl
theorem q77 : (Jvm.Cond.fieldLinkNest "AbbeyNotes" (66 : Nat) "AbbeyNotes$Land" "coin" "[I" "AbbeyNotes") ∈ lw_tbl := lw_at lw_m1 30 rfl
theorem q79 : (Jvm.Cond.fieldLinkNest "AbbeyNotes" (73 : Nat) "AbbeyNotes$Land" "owes" "[[I" "AbbeyNotes") ∈ lw_tbl := lw_at lw_m1 32 rfl
theorem q81 : (Jvm.Cond.fieldLinkNest "AbbeyNotes" (80 : Nat) "AbbeyNotes$Land" "price" "[I" "AbbeyNotes") ∈ lw_tbl := lw_at lw_m1 34 rfl
theorem q83 : (Jvm.Cond.fieldLinkNest "AbbeyNotes" (83 : Nat) "AbbeyNotes$Land" "whose" "[I" "AbbeyNotes") ∈ lw_tbl := lw_at lw_m1 36 rfl
theorem q85 : (Jvm.Cond.fieldLinkNest "AbbeyNotes" (87 : Nat) "AbbeyNotes$Land" "told" "[I" "AbbeyNotes") ∈ lw_tbl := lw_at lw_m1 38 rfl
theorem q87 : (Jvm.Cond.fieldLinkNest "AbbeyNotes" (165 : Nat) "AbbeyNotes$Land" "burnt" "I" "AbbeyNotes") ∈ lw_tbl := lw_at lw_m1 40 rfl
theorem q89 : (Jvm.Cond.fieldLinkNest "AbbeyNotes" (168 : Nat) "AbbeyNotes$Land" "months" "I" "AbbeyNotes") ∈ lw_tbl := lw_at lw_m1 42 rfl
theorem q91 : (Jvm.Cond.fieldLinkNest "AbbeyNotes" (226 : Nat) "AbbeyNotes$Land" "sights" "I" "AbbeyNotes") ∈ lw_tbl := lw_at lw_m1 44 rfl
theorem q93 : (Jvm.Cond.fieldLinkNest "AbbeyNotes" (229 : Nat) "AbbeyNotes$Land" "seenSet" "[I" "AbbeyNotes") ∈ lw_tbl := lw_at lw_m1 46 rfl
theorem q95 : (Jvm.Cond.fieldLinkNest "AbbeyNotes" (232 : Nat) "AbbeyNotes$Land" "seenMany" "[I" "AbbeyNotes") ∈ lw_tbl := lw_at lw_m1 48 rfl
theorem q97 : (Jvm.Cond.fieldLinkNest "AbbeyNotes" (235 : Nat) "AbbeyNotes$Land" "seenHow" "[I" "AbbeyNotes") ∈ lw_tbl := lw_at lw_m1 50 rfl
theorem q98 : (Jvm.Cond.fieldLinkNest "AbbeyNotes" (256 : Nat) "AbbeyNotes$Land" "isKept" "Z" "AbbeyNotes") ∈ lw_tbl := lw_at lw_m1 51 rfl
theorem q128 : (Jvm.Cond.fieldLink "AbbeyNotes" (20 : Nat) "AbbeyNotes" "land" "LAbbeyNotes$Land;") ∈ lw_all := lw_g (lw_at lw_m1 81 rfl) rfl
theorem q129 : (Jvm.Cond.fieldLink "AbbeyNotes" (24 : Nat) "AbbeyNotes" "now" "LAbbeyNotes$Land;") ∈ lw_all := lw_g (lw_at lw_m1 82 rfl) rfl
theorem q130 : (Jvm.Cond.fieldLink "AbbeyNotes" (27 : Nat) "AbbeyNotes" "images" "[LAbbeyNotes$Land;") ∈ lw_all := lw_g (lw_at lw_m1 83 rfl) rfl
theorem q131 : (Jvm.Cond.fieldLink "AbbeyNotes" (90 : Nat) "AbbeyNotes" "signs" "I") ∈ lw_all := lw_g (lw_at lw_m1 84 rfl) rfl
theorem q132 : (Jvm.Cond.fieldLink "AbbeyNotes" (31 : Nat) "AbbeyNotes" "sign" "[C") ∈ lw_all := lw_g (lw_at lw_m1 85 rfl) rfl
theorem q133 : (Jvm.Cond.fieldLink "AbbeyNotes" (119 : Nat) "AbbeyNotes" "reason" "I") ∈ lw_all := lw_g (lw_at lw_m1 86 rfl) rfl
theorem q134 : (Jvm.Cond.fieldLink "AbbeyNotes" (142 : Nat) "AbbeyNotes" "acts" "I") ∈ lw_all := lw_g (lw_at lw_m1 87 rfl) rfl
theorem q135 : (Jvm.Cond.fieldLink "AbbeyNotes" (128 : Nat) "AbbeyNotes" "ended" "I") ∈ lw_all := lw_g (lw_at lw_m1 88 rfl) rfl
theorem q136 : (Jvm.Cond.fieldLink "AbbeyNotes" (35 : Nat) "AbbeyNotes" "rates" "[I") ∈ lw_all := lw_g (lw_at lw_m1 89 rfl) rfl
theorem q137 : (Jvm.Cond.fieldLink "AbbeyNotes" (39 : Nat) "AbbeyNotes" "net" "[I") ∈ lw_all := lw_g (lw_at lw_m1 90 rfl) rfl
theorem q138 : (Jvm.Cond.fieldLink "AbbeyNotes" (42 : Nat) "AbbeyNotes" "parts" "[I") ∈ lw_all := lw_g (lw_at lw_m1 91 rfl) rfl
theorem q139 : (Jvm.Cond.fieldLink "AbbeyNotes" (45 : Nat) "AbbeyNotes" "worth" "[J") ∈ lw_all := lw_g (lw_at lw_m1 92 rfl) rfl
theorem q140 : (Jvm.Cond.fieldLink "AbbeyNotes" (49 : Nat) "AbbeyNotes" "later" "[J") ∈ lw_all := lw_g (lw_at lw_m1 93 rfl) rfl
theorem q141 : (Jvm.Cond.fieldLink "AbbeyNotes" (52 : Nat) "AbbeyNotes" "lies" "[I") ∈ lw_all := lw_g (lw_at lw_m1 94 rfl) rfl
theorem q142 : (Jvm.Cond.laysFinal "AbbeyNotes" "AbbeyNotes" "land" "LAbbeyNotes$Land;") ∈ lw_all := lw_g (lw_at lw_m1 95 rfl) rfl
theorem q143 : (Jvm.Cond.soleField "AbbeyNotes" "land") ∈ lw_all := lw_g (lw_at lw_m1 96 rfl) rfl
theorem q144 : (Jvm.Cond.laysFinal "AbbeyNotes" "AbbeyNotes" "now" "LAbbeyNotes$Land;") ∈ lw_all := lw_g (lw_at lw_m1 97 rfl) rfl
theorem q145 : (Jvm.Cond.soleField "AbbeyNotes" "now") ∈ lw_all := lw_g (lw_at lw_m1 98 rfl) rfl
theorem q146 : (Jvm.Cond.laysFinal "AbbeyNotes" "AbbeyNotes" "images" "[LAbbeyNotes$Land;") ∈ lw_all := lw_g (lw_at lw_m1 99 rfl) rfl
theorem q147 : (Jvm.Cond.soleField "AbbeyNotes" "images") ∈ lw_all := lw_g (lw_at lw_m1 100 rfl) rfl
theorem q148 : (Jvm.Cond.lays "AbbeyNotes" "AbbeyNotes" "signs" "I") ∈ lw_all := lw_g (lw_at lw_m1 101 rfl) rfl
theorem q149 : (Jvm.Cond.soleField "AbbeyNotes" "signs") ∈ lw_all := lw_g (lw_at lw_m1 102 rfl) rfl
theorem q150 : (Jvm.Cond.laysFinal "AbbeyNotes" "AbbeyNotes" "sign" "[C") ∈ lw_all := lw_g (lw_at lw_m1 103 rfl) rfl
theorem q151 : (Jvm.Cond.soleField "AbbeyNotes" "sign") ∈ lw_all := lw_g (lw_at lw_m1 104 rfl) rfl
theorem q152 : (Jvm.Cond.lays "AbbeyNotes" "AbbeyNotes" "reason" "I") ∈ lw_all := lw_g (lw_at lw_m1 105 rfl) rfl
theorem q153 : (Jvm.Cond.soleField "AbbeyNotes" "reason") ∈ lw_all := lw_g (lw_at lw_m1 106 rfl) rfl
theorem q154 : (Jvm.Cond.lays "AbbeyNotes" "AbbeyNotes" "acts" "I") ∈ lw_all := lw_g (lw_at lw_m1 107 rfl) rfl
theorem q155 : (Jvm.Cond.soleField "AbbeyNotes" "acts") ∈ lw_all := lw_g (lw_at lw_m1 108 rfl) rfl
theorem q156 : (Jvm.Cond.lays "AbbeyNotes" "AbbeyNotes" "ended" "I") ∈ lw_all := lw_g (lw_at lw_m1 109 rfl) rfl
theorem q157 : (Jvm.Cond.soleField "AbbeyNotes" "ended") ∈ lw_all := lw_g (lw_at lw_m1 110 rfl) rfl
theorem q158 : (Jvm.Cond.laysFinal "AbbeyNotes" "AbbeyNotes" "rates" "[I") ∈ lw_all := lw_g (lw_at lw_m1 111 rfl) rfl
theorem q159 : (Jvm.Cond.soleField "AbbeyNotes" "rates") ∈ lw_all := lw_g (lw_at lw_m1 112 rfl) rfl
theorem q160 : (Jvm.Cond.laysFinal "AbbeyNotes" "AbbeyNotes" "net" "[I") ∈ lw_all := lw_g (lw_at lw_m1 113 rfl) rfl
theorem q161 : (Jvm.Cond.soleField "AbbeyNotes" "net") ∈ lw_all := lw_g (lw_at lw_m1 114 rfl) rfl
theorem q162 : (Jvm.Cond.laysFinal "AbbeyNotes" "AbbeyNotes" "parts" "[I") ∈ lw_all := lw_g (lw_at lw_m1 115 rfl) rfl
theorem q163 : (Jvm.Cond.soleField "AbbeyNotes" "parts") ∈ lw_all := lw_g (lw_at lw_m1 116 rfl) rfl
theorem q164 : (Jvm.Cond.laysFinal "AbbeyNotes" "AbbeyNotes" "worth" "[J") ∈ lw_all := lw_g (lw_at lw_m1 117 rfl) rfl
theorem q165 : (Jvm.Cond.soleField "AbbeyNotes" "worth") ∈ lw_all := lw_g (lw_at lw_m1 118 rfl) rfl
theorem q166 : (Jvm.Cond.laysFinal "AbbeyNotes" "AbbeyNotes" "later" "[J") ∈ lw_all := lw_g (lw_at lw_m1 119 rfl) rfl
theorem q167 : (Jvm.Cond.soleField "AbbeyNotes" "later") ∈ lw_all := lw_g (lw_at lw_m1 120 rfl) rfl
theorem q168 : (Jvm.Cond.laysFinal "AbbeyNotes" "AbbeyNotes" "lies" "[I") ∈ lw_all := lw_g (lw_at lw_m1 121 rfl) rfl
theorem q169 : (Jvm.Cond.soleField "AbbeyNotes" "lies") ∈ lw_all := lw_g (lw_at lw_m1 122 rfl) rfl
theorem q170 : (Jvm.Cond.superclass "AbbeyNotes" "java/lang/Object") ∈ lw_all := lw_g (lw_at lw_m1 123 rfl) rfl
theorem q174 : (Jvm.Cond.instanceMethod ({ cls := "AbbeyNotes", name := "one", desc := "(III)I" } : Jvm.MethodName)) ∈ lw_all := lw_g (lw_at lw_m1 127 rfl) rfl
theorem q175 : (Jvm.Cond.selects "AbbeyNotes" ({ cls := "AbbeyNotes", name := "one", desc := "(III)I" } : Jvm.MethodName) ({ cls := "AbbeyNotes", name := "one", desc := "(III)I" } : Jvm.MethodName)) ∈ lw_all := lw_g (lw_at lw_m1 128 rfl) rfl
theorem q176 : (Jvm.Cond.code ({ cls := "AbbeyNotes", name := "one", desc := "(III)I" } : Jvm.MethodName) prog_1_method_9_code (5 : Nat) (Option.some Jvm.ClassFile.FieldType.int)) ∈ lw_all := lw_g (lw_at lw_m1 129 rfl) rfl
theorem q177 : (Jvm.Cond.methodLink "AbbeyNotes" (59 : Nat) ({ cls := "AbbeyNotes", name := "isOne", desc := "(I)Z" } : Jvm.MethodName)) ∈ lw_all := lw_g (lw_at lw_m1 130 rfl) rfl
theorem q178 : (Jvm.Cond.static ({ cls := "AbbeyNotes", name := "isOne", desc := "(I)Z" } : Jvm.MethodName)) ∈ lw_all := lw_g (lw_at lw_m1 131 rfl) rfl
theorem q179 : (Jvm.Cond.code ({ cls := "AbbeyNotes", name := "isOne", desc := "(I)Z" } : Jvm.MethodName) prog_1_method_6_code (1 : Nat) (Option.some Jvm.ClassFile.FieldType.boolean)) ∈ lw_all := lw_g (lw_at lw_m1 132 rfl) rfl
theorem q180 : (Jvm.Cond.methodLink "AbbeyNotes" (55 : Nat) ({ cls := "AbbeyNotes", name := "isIn", desc := "(III)Z" } : Jvm.MethodName)) ∈ lw_all := lw_g (lw_at lw_m1 133 rfl) rfl
theorem q181 : (Jvm.Cond.static ({ cls := "AbbeyNotes", name := "isIn", desc := "(III)Z" } : Jvm.MethodName)) ∈ lw_all := lw_g (lw_at lw_m1 134 rfl) rfl
theorem q182 : (Jvm.Cond.code ({ cls := "AbbeyNotes", name := "isIn", desc := "(III)Z" } : Jvm.MethodName) prog_1_method_1_code (3 : Nat) (Option.some Jvm.ClassFile.FieldType.boolean)) ∈ lw_all := lw_g (lw_at lw_m1 135 rfl) rfl
theorem q184 : (Jvm.Cond.instanceMethod ({ cls := "AbbeyNotes", name := "owe", desc := "(III)I" } : Jvm.MethodName)) ∈ lw_all := lw_g (lw_at lw_m1 137 rfl) rfl
theorem q185 : (Jvm.Cond.selects "AbbeyNotes" ({ cls := "AbbeyNotes", name := "owe", desc := "(III)I" } : Jvm.MethodName) ({ cls := "AbbeyNotes", name := "owe", desc := "(III)I" } : Jvm.MethodName)) ∈ lw_all := lw_g (lw_at lw_m1 138 rfl) rfl
theorem q186 : (Jvm.Cond.code ({ cls := "AbbeyNotes", name := "owe", desc := "(III)I" } : Jvm.MethodName) prog_1_method_10_code (5 : Nat) (Option.some Jvm.ClassFile.FieldType.int)) ∈ lw_all := lw_g (lw_at lw_m1 139 rfl) rfl
theorem q187 : (Jvm.Cond.methodLink "AbbeyNotes" (69 : Nat) ({ cls := "AbbeyNotes", name := "areTwo", desc := "(II)Z" } : Jvm.MethodName)) ∈ lw_all := lw_g (lw_at lw_m1 140 rfl) rfl
theorem q188 : (Jvm.Cond.static ({ cls := "AbbeyNotes", name := "areTwo", desc := "(II)Z" } : Jvm.MethodName)) ∈ lw_all := lw_g (lw_at lw_m1 141 rfl) rfl
theorem q189 : (Jvm.Cond.code ({ cls := "AbbeyNotes", name := "areTwo", desc := "(II)Z" } : Jvm.MethodName) prog_1_method_7_code (2 : Nat) (Option.some Jvm.ClassFile.FieldType.boolean)) ∈ lw_all := lw_g (lw_at lw_m1 142 rfl) rfl
theorem q191 : (Jvm.Cond.instanceMethod ({ cls := "AbbeyNotes", name := "lot", desc := "(III)I" } : Jvm.MethodName)) ∈ lw_all := lw_g (lw_at lw_m1 144 rfl) rfl
theorem q192 : (Jvm.Cond.selects "AbbeyNotes" ({ cls := "AbbeyNotes", name := "lot", desc := "(III)I" } : Jvm.MethodName) ({ cls := "AbbeyNotes", name := "lot", desc := "(III)I" } : Jvm.MethodName)) ∈ lw_all := lw_g (lw_at lw_m1 145 rfl) rfl
theorem q193 : (Jvm.Cond.code ({ cls := "AbbeyNotes", name := "lot", desc := "(III)I" } : Jvm.MethodName) prog_1_method_11_code (5 : Nat) (Option.some Jvm.ClassFile.FieldType.int)) ∈ lw_all := lw_g (lw_at lw_m1 146 rfl) rfl
theorem q194 : (Jvm.Cond.methodLink "AbbeyNotes" (77 : Nat) ({ cls := "AbbeyNotes", name := "isLot", desc := "(I)Z" } : Jvm.MethodName)) ∈ lw_all := lw_g (lw_at lw_m1 147 rfl) rfl
theorem q195 : (Jvm.Cond.static ({ cls := "AbbeyNotes", name := "isLot", desc := "(I)Z" } : Jvm.MethodName)) ∈ lw_all := lw_g (lw_at lw_m1 148 rfl) rfl
theorem q196 : (Jvm.Cond.code ({ cls := "AbbeyNotes", name := "isLot", desc := "(I)Z" } : Jvm.MethodName) prog_1_method_8_code (1 : Nat) (Option.some Jvm.ClassFile.FieldType.boolean)) ∈ lw_all := lw_g (lw_at lw_m1 149 rfl) rfl
theorem q198 : (Jvm.Cond.instanceMethod ({ cls := "AbbeyNotes", name := "set", desc := "(II)I" } : Jvm.MethodName)) ∈ lw_all := lw_g (lw_at lw_m1 151 rfl) rfl
theorem q199 : (Jvm.Cond.selects "AbbeyNotes" ({ cls := "AbbeyNotes", name := "set", desc := "(II)I" } : Jvm.MethodName) ({ cls := "AbbeyNotes", name := "set", desc := "(II)I" } : Jvm.MethodName)) ∈ lw_all := lw_g (lw_at lw_m1 152 rfl) rfl
theorem q200 : (Jvm.Cond.code ({ cls := "AbbeyNotes", name := "set", desc := "(II)I" } : Jvm.MethodName) prog_1_method_12_code (4 : Nat) (Option.some Jvm.ClassFile.FieldType.int)) ∈ lw_all := lw_g (lw_at lw_m1 153 rfl) rfl
theorem q201 : (Jvm.Cond.constant "AbbeyNotes" (86 : Nat) (99999 : Int32)) ∈ lw_all := lw_g (lw_at lw_m1 154 rfl) rfl
theorem q203 : (Jvm.Cond.instanceMethod ({ cls := "AbbeyNotes", name := "say", desc := "(I)I" } : Jvm.MethodName)) ∈ lw_all := lw_g (lw_at lw_m1 156 rfl) rfl
theorem q204 : (Jvm.Cond.selects "AbbeyNotes" ({ cls := "AbbeyNotes", name := "say", desc := "(I)I" } : Jvm.MethodName) ({ cls := "AbbeyNotes", name := "say", desc := "(I)I" } : Jvm.MethodName)) ∈ lw_all := lw_g (lw_at lw_m1 157 rfl) rfl
theorem q205 : (Jvm.Cond.code ({ cls := "AbbeyNotes", name := "say", desc := "(I)I" } : Jvm.MethodName) prog_1_method_13_code (2 : Nat) (Option.some Jvm.ClassFile.FieldType.int)) ∈ lw_all := lw_g (lw_at lw_m1 158 rfl) rfl
theorem q207 : (Jvm.Cond.instanceMethod ({ cls := "AbbeyNotes", name := "wipe", desc := "()I" } : Jvm.MethodName)) ∈ lw_all := lw_g (lw_at lw_m1 160 rfl) rfl
theorem q208 : (Jvm.Cond.selects "AbbeyNotes" ({ cls := "AbbeyNotes", name := "wipe", desc := "()I" } : Jvm.MethodName) ({ cls := "AbbeyNotes", name := "wipe", desc := "()I" } : Jvm.MethodName)) ∈ lw_all := lw_g (lw_at lw_m1 161 rfl) rfl
theorem q209 : (Jvm.Cond.code ({ cls := "AbbeyNotes", name := "wipe", desc := "()I" } : Jvm.MethodName) prog_1_method_14_code (2 : Nat) (Option.some Jvm.ClassFile.FieldType.int)) ∈ lw_all := lw_g (lw_at lw_m1 162 rfl) rfl
theorem q211 : (Jvm.Cond.instanceMethod ({ cls := "AbbeyNotes", name := "fault", desc := "()I" } : Jvm.MethodName)) ∈ lw_all := lw_g (lw_at lw_m1 164 rfl) rfl
theorem q212 : (Jvm.Cond.selects "AbbeyNotes" ({ cls := "AbbeyNotes", name := "fault", desc := "()I" } : Jvm.MethodName) ({ cls := "AbbeyNotes", name := "fault", desc := "()I" } : Jvm.MethodName)) ∈ lw_all := lw_g (lw_at lw_m1 165 rfl) rfl
theorem q213 : (Jvm.Cond.code ({ cls := "AbbeyNotes", name := "fault", desc := "()I" } : Jvm.MethodName) prog_1_method_17_code (1 : Nat) (Option.some Jvm.ClassFile.FieldType.int)) ∈ lw_all := lw_g (lw_at lw_m1 166 rfl) rfl
theorem q214 : (Jvm.Cond.methodLink "AbbeyNotes" (98 : Nat) ({ cls := "AbbeyNotes", name := "faultOf", desc := "()I" } : Jvm.MethodName)) ∈ lw_all := lw_g (lw_at lw_m1 167 rfl) rfl
theorem q215 : (Jvm.Cond.privateMethod ({ cls := "AbbeyNotes", name := "faultOf", desc := "()I" } : Jvm.MethodName)) ∈ lw_tbl := lw_at lw_m1 168 rfl
theorem q216 : (Jvm.Cond.instanceMethod ({ cls := "AbbeyNotes", name := "faultOf", desc := "()I" } : Jvm.MethodName)) ∈ lw_all := lw_g (lw_at lw_m1 169 rfl) rfl
theorem q217 : (Jvm.Cond.code ({ cls := "AbbeyNotes", name := "faultOf", desc := "()I" } : Jvm.MethodName) prog_1_method_16_code (3 : Nat) (Option.some Jvm.ClassFile.FieldType.int)) ∈ lw_all := lw_g (lw_at lw_m1 170 rfl) rfl
theorem q218 : (Jvm.Cond.methodLink "AbbeyNotes" (94 : Nat) ({ cls := "AbbeyNotes", name := "step", desc := "(IC)I" } : Jvm.MethodName)) ∈ lw_all := lw_g (lw_at lw_m1 171 rfl) rfl
theorem q219 : (Jvm.Cond.static ({ cls := "AbbeyNotes", name := "step", desc := "(IC)I" } : Jvm.MethodName)) ∈ lw_all := lw_g (lw_at lw_m1 172 rfl) rfl
theorem q220 : (Jvm.Cond.code ({ cls := "AbbeyNotes", name := "step", desc := "(IC)I" } : Jvm.MethodName) prog_1_method_15_code (3 : Nat) (Option.some Jvm.ClassFile.FieldType.int)) ∈ lw_all := lw_g (lw_at lw_m1 173 rfl) rfl
theorem q222 : (Jvm.Cond.instanceMethod ({ cls := "AbbeyNotes", name := "judge", desc := "(I)I" } : Jvm.MethodName)) ∈ lw_all := lw_g (lw_at lw_m1 175 rfl) rfl
theorem q223 : (Jvm.Cond.selects "AbbeyNotes" ({ cls := "AbbeyNotes", name := "judge", desc := "(I)I" } : Jvm.MethodName) ({ cls := "AbbeyNotes", name := "judge", desc := "(I)I" } : Jvm.MethodName)) ∈ lw_all := lw_g (lw_at lw_m1 176 rfl) rfl
theorem q224 : (Jvm.Cond.code ({ cls := "AbbeyNotes", name := "judge", desc := "(I)I" } : Jvm.MethodName) prog_1_method_21_code (3 : Nat) (Option.some Jvm.ClassFile.FieldType.int)) ∈ lw_all := lw_g (lw_at lw_m1 177 rfl) rfl
theorem q225 : (Jvm.Cond.methodLink "AbbeyNotes" (148 : Nat) ({ cls := "AbbeyNotes", name := "goMonths", desc := "()I" } : Jvm.MethodName)) ∈ lw_all := lw_g (lw_at lw_m1 178 rfl) rfl
theorem q226 : (Jvm.Cond.privateMethod ({ cls := "AbbeyNotes", name := "goMonths", desc := "()I" } : Jvm.MethodName)) ∈ lw_tbl := lw_at lw_m1 179 rfl
theorem q227 : (Jvm.Cond.instanceMethod ({ cls := "AbbeyNotes", name := "goMonths", desc := "()I" } : Jvm.MethodName)) ∈ lw_all := lw_g (lw_at lw_m1 180 rfl) rfl
theorem q228 : (Jvm.Cond.code ({ cls := "AbbeyNotes", name := "goMonths", desc := "()I" } : Jvm.MethodName) prog_1_method_20_code (2 : Nat) (Option.some Jvm.ClassFile.FieldType.int)) ∈ lw_all := lw_g (lw_at lw_m1 181 rfl) rfl
theorem q229 : (Jvm.Cond.methodLink "AbbeyNotes" (138 : Nat) ({ cls := "AbbeyNotes$Land", name := "copy", desc := "(LAbbeyNotes$Land;)V" } : Jvm.MethodName)) ∈ lw_all := lw_g (lw_at lw_m1 182 rfl) rfl
theorem q236 : (Jvm.Cond.methodLink "AbbeyNotes" (145 : Nat) ({ cls := "AbbeyNotes", name := "act", desc := "(I)I" } : Jvm.MethodName)) ∈ lw_all := lw_g (lw_at lw_m1 189 rfl) rfl
theorem q237 : (Jvm.Cond.privateMethod ({ cls := "AbbeyNotes", name := "act", desc := "(I)I" } : Jvm.MethodName)) ∈ lw_tbl := lw_at lw_m1 190 rfl
theorem q238 : (Jvm.Cond.instanceMethod ({ cls := "AbbeyNotes", name := "act", desc := "(I)I" } : Jvm.MethodName)) ∈ lw_all := lw_g (lw_at lw_m1 191 rfl) rfl
theorem q239 : (Jvm.Cond.code ({ cls := "AbbeyNotes", name := "act", desc := "(I)I" } : Jvm.MethodName) prog_1_method_19_code (2 : Nat) (Option.some Jvm.ClassFile.FieldType.int)) ∈ lw_all := lw_g (lw_at lw_m1 192 rfl) rfl
theorem q240 : (Jvm.Cond.methodLink "AbbeyNotes" (115 : Nat) ({ cls := "AbbeyNotes$Land", name := "print", desc := "(I)I" } : Jvm.MethodName)) ∈ lw_all := lw_g (lw_at lw_m1 193 rfl) rfl
theorem q245 : (Jvm.Cond.methodLink "AbbeyNotes" (122 : Nat) ({ cls := "AbbeyNotes$Land", name := "forge", desc := "(II)I" } : Jvm.MethodName)) ∈ lw_all := lw_g (lw_at lw_m1 198 rfl) rfl
theorem q249 : (Jvm.Cond.methodLink "AbbeyNotes" (125 : Nat) ({ cls := "AbbeyNotes$Land", name := "month", desc := "()I" } : Jvm.MethodName)) ∈ lw_all := lw_g (lw_at lw_m1 202 rfl) rfl
theorem q253 : (Jvm.Cond.methodLink "AbbeyNotes" (131 : Nat) ({ cls := "AbbeyNotes$Land", name := "rate", desc := "()I" } : Jvm.MethodName)) ∈ lw_all := lw_g (lw_at lw_m1 206 rfl) rfl
theorem q266 : (Jvm.Cond.static ({ cls := "AbbeyNotes", name := "rateOf", desc := "(IJ)I" } : Jvm.MethodName)) ∈ lw_all := lw_g (lw_at lw_m1 219 rfl) rfl
theorem q267 : (Jvm.Cond.code ({ cls := "AbbeyNotes", name := "rateOf", desc := "(IJ)I" } : Jvm.MethodName) prog_1_method_4_code (3 : Nat) (Option.some Jvm.ClassFile.FieldType.int)) ∈ lw_all := lw_g (lw_at lw_m1 220 rfl) rfl
theorem q268 : (Jvm.Cond.constantLong "AbbeyNotes" (3 : Nat) (100 : Int64)) ∈ lw_all := lw_g (lw_at lw_m1 221 rfl) rfl
theorem q269 : (Jvm.Cond.methodLink "AbbeyNotes" (5 : Nat) ({ cls := "java/lang/Math", name := "min", desc := "(JJ)J" } : Jvm.MethodName)) ∈ lw_all := lw_g (lw_at lw_m1 222 rfl) rfl
theorem q272 : (Jvm.Cond.methodLink "AbbeyNotes" (134 : Nat) ({ cls := "AbbeyNotes", name := "verb", desc := "(ICC)I" } : Jvm.MethodName)) ∈ lw_all := lw_g (lw_at lw_m1 225 rfl) rfl
theorem q273 : (Jvm.Cond.privateMethod ({ cls := "AbbeyNotes", name := "verb", desc := "(ICC)I" } : Jvm.MethodName)) ∈ lw_tbl := lw_at lw_m1 226 rfl
theorem q274 : (Jvm.Cond.instanceMethod ({ cls := "AbbeyNotes", name := "verb", desc := "(ICC)I" } : Jvm.MethodName)) ∈ lw_all := lw_g (lw_at lw_m1 227 rfl) rfl
theorem q275 : (Jvm.Cond.code ({ cls := "AbbeyNotes", name := "verb", desc := "(ICC)I" } : Jvm.MethodName) prog_1_method_18_code (4 : Nat) (Option.some Jvm.ClassFile.FieldType.int)) ∈ lw_all := lw_g (lw_at lw_m1 228 rfl) rfl
theorem q276 : (Jvm.Cond.methodLink "AbbeyNotes" (102 : Nat) ({ cls := "AbbeyNotes$Land", name := "buy", desc := "(II)I" } : Jvm.MethodName)) ∈ lw_all := lw_g (lw_at lw_m1 229 rfl) rfl
theorem q280 : (Jvm.Cond.methodLink "AbbeyNotes" (106 : Nat) ({ cls := "AbbeyNotes$Land", name := "change", desc := "(II)I" } : Jvm.MethodName)) ∈ lw_all := lw_g (lw_at lw_m1 233 rfl) rfl
theorem q285 : (Jvm.Cond.methodLink "AbbeyNotes" (109 : Nat) ({ cls := "AbbeyNotes$Land", name := "pay", desc := "(II)I" } : Jvm.MethodName)) ∈ lw_all := lw_g (lw_at lw_m1 238 rfl) rfl
theorem q292 : (Jvm.Cond.methodLink "AbbeyNotes" (112 : Nat) ({ cls := "AbbeyNotes$Land", name := "spend", desc := "(II)I" } : Jvm.MethodName)) ∈ lw_all := lw_g (lw_at lw_m2 5 rfl) rfl
theorem q297 : (Jvm.Cond.instanceMethod ({ cls := "AbbeyNotes", name := "behind", desc := "(II)I" } : Jvm.MethodName)) ∈ lw_all := lw_g (lw_at lw_m2 10 rfl) rfl
theorem q298 : (Jvm.Cond.selects "AbbeyNotes" ({ cls := "AbbeyNotes", name := "behind", desc := "(II)I" } : Jvm.MethodName) ({ cls := "AbbeyNotes", name := "behind", desc := "(II)I" } : Jvm.MethodName)) ∈ lw_all := lw_g (lw_at lw_m2 11 rfl) rfl
theorem q299 : (Jvm.Cond.code ({ cls := "AbbeyNotes", name := "behind", desc := "(II)I" } : Jvm.MethodName) prog_1_method_23_code (4 : Nat) (Option.some Jvm.ClassFile.FieldType.int)) ∈ lw_all := lw_g (lw_at lw_m2 12 rfl) rfl
theorem q300 : (Jvm.Cond.methodLink "AbbeyNotes" (151 : Nat) ({ cls := "AbbeyNotes", name := "barOfMonths", desc := "()I" } : Jvm.MethodName)) ∈ lw_all := lw_g (lw_at lw_m2 13 rfl) rfl
theorem q301 : (Jvm.Cond.privateMethod ({ cls := "AbbeyNotes", name := "barOfMonths", desc := "()I" } : Jvm.MethodName)) ∈ lw_tbl := lw_at lw_m2 14 rfl
theorem q302 : (Jvm.Cond.instanceMethod ({ cls := "AbbeyNotes", name := "barOfMonths", desc := "()I" } : Jvm.MethodName)) ∈ lw_all := lw_g (lw_at lw_m2 15 rfl) rfl
theorem q303 : (Jvm.Cond.code ({ cls := "AbbeyNotes", name := "barOfMonths", desc := "()I" } : Jvm.MethodName) prog_1_method_22_code (1 : Nat) (Option.some Jvm.ClassFile.FieldType.int)) ∈ lw_all := lw_g (lw_at lw_m2 16 rfl) rfl
theorem q304 : (Jvm.Cond.methodLink "AbbeyNotes" (154 : Nat) ({ cls := "AbbeyNotes$Land", name := "lotsOf", desc := "(I)I" } : Jvm.MethodName)) ∈ lw_all := lw_g (lw_at lw_m2 17 rfl) rfl
theorem q309 : (Jvm.Cond.static ({ cls := "AbbeyNotes", name := "asNumber", desc := "(Z)I" } : Jvm.MethodName)) ∈ lw_all := lw_g (lw_at lw_m2 22 rfl) rfl
theorem q310 : (Jvm.Cond.code ({ cls := "AbbeyNotes", name := "asNumber", desc := "(Z)I" } : Jvm.MethodName) prog_1_method_2_code (1 : Nat) (Option.some Jvm.ClassFile.FieldType.int)) ∈ lw_all := lw_g (lw_at lw_m2 23 rfl) rfl
theorem q311 : (Jvm.Cond.methodLink "AbbeyNotes" (157 : Nat) ({ cls := "AbbeyNotes$Land", name := "owesInAll", desc := "(I)I" } : Jvm.MethodName)) ∈ lw_all := lw_g (lw_at lw_m2 24 rfl) rfl
theorem q316 : (Jvm.Cond.instanceMethod ({ cls := "AbbeyNotes", name := "total", desc := "(I)I" } : Jvm.MethodName)) ∈ lw_all := lw_g (lw_at lw_m2 29 rfl) rfl
theorem q317 : (Jvm.Cond.selects "AbbeyNotes" ({ cls := "AbbeyNotes", name := "total", desc := "(I)I" } : Jvm.MethodName) ({ cls := "AbbeyNotes", name := "total", desc := "(I)I" } : Jvm.MethodName)) ∈ lw_all := lw_g (lw_at lw_m2 30 rfl) rfl
theorem q318 : (Jvm.Cond.code ({ cls := "AbbeyNotes", name := "total", desc := "(I)I" } : Jvm.MethodName) prog_1_method_24_code (3 : Nat) (Option.some Jvm.ClassFile.FieldType.int)) ∈ lw_all := lw_g (lw_at lw_m2 31 rfl) rfl
theorem q319 : (Jvm.Cond.methodLink "AbbeyNotes" (160 : Nat) ({ cls := "AbbeyNotes$Land", name := "notes", desc := "()I" } : Jvm.MethodName)) ∈ lw_all := lw_g (lw_at lw_m2 32 rfl) rfl
theorem q320 : (Jvm.Cond.methodLink "AbbeyNotes" (163 : Nat) ({ cls := "AbbeyNotes$Land", name := "land", desc := "()I" } : Jvm.MethodName)) ∈ lw_all := lw_g (lw_at lw_m2 33 rfl) rfl
theorem q322 : (Jvm.Cond.instanceMethod ({ cls := "AbbeyNotes", name := "fell", desc := "(I)I" } : Jvm.MethodName)) ∈ lw_all := lw_g (lw_at lw_m2 35 rfl) rfl
theorem q323 : (Jvm.Cond.selects "AbbeyNotes" ({ cls := "AbbeyNotes", name := "fell", desc := "(I)I" } : Jvm.MethodName) ({ cls := "AbbeyNotes", name := "fell", desc := "(I)I" } : Jvm.MethodName)) ∈ lw_all := lw_g (lw_at lw_m2 36 rfl) rfl
theorem q324 : (Jvm.Cond.code ({ cls := "AbbeyNotes", name := "fell", desc := "(I)I" } : Jvm.MethodName) prog_1_method_25_code (4 : Nat) (Option.some Jvm.ClassFile.FieldType.int)) ∈ lw_all := lw_g (lw_at lw_m2 37 rfl) rfl
theorem q326 : (Jvm.Cond.instanceMethod ({ cls := "AbbeyNotes", name := "done", desc := "()I" } : Jvm.MethodName)) ∈ lw_all := lw_g (lw_at lw_m2 39 rfl) rfl
theorem q327 : (Jvm.Cond.selects "AbbeyNotes" ({ cls := "AbbeyNotes", name := "done", desc := "()I" } : Jvm.MethodName) ({ cls := "AbbeyNotes", name := "done", desc := "()I" } : Jvm.MethodName)) ∈ lw_all := lw_g (lw_at lw_m2 40 rfl) rfl
theorem q328 : (Jvm.Cond.code ({ cls := "AbbeyNotes", name := "done", desc := "()I" } : Jvm.MethodName) prog_1_method_26_code (2 : Nat) (Option.some Jvm.ClassFile.FieldType.int)) ∈ lw_all := lw_g (lw_at lw_m2 41 rfl) rfl
theorem q330 : (Jvm.Cond.instanceMethod ({ cls := "AbbeyNotes", name := "struck", desc := "(I)I" } : Jvm.MethodName)) ∈ lw_all := lw_g (lw_at lw_m2 43 rfl) rfl
theorem q331 : (Jvm.Cond.selects "AbbeyNotes" ({ cls := "AbbeyNotes", name := "struck", desc := "(I)I" } : Jvm.MethodName) ({ cls := "AbbeyNotes", name := "struck", desc := "(I)I" } : Jvm.MethodName)) ∈ lw_all := lw_g (lw_at lw_m2 44 rfl) rfl
theorem q332 : (Jvm.Cond.code ({ cls := "AbbeyNotes", name := "struck", desc := "(I)I" } : Jvm.MethodName) prog_1_method_29_code (6 : Nat) (Option.some Jvm.ClassFile.FieldType.int)) ∈ lw_all := lw_g (lw_at lw_m2 45 rfl) rfl
theorem q333 : (Jvm.Cond.methodLink "AbbeyNotes" (180 : Nat) ({ cls := "AbbeyNotes", name := "layNet", desc := "()V" } : Jvm.MethodName)) ∈ lw_all := lw_g (lw_at lw_m2 46 rfl) rfl
theorem q334 : (Jvm.Cond.privateMethod ({ cls := "AbbeyNotes", name := "layNet", desc := "()V" } : Jvm.MethodName)) ∈ lw_tbl := lw_at lw_m2 47 rfl
theorem q335 : (Jvm.Cond.instanceMethod ({ cls := "AbbeyNotes", name := "layNet", desc := "()V" } : Jvm.MethodName)) ∈ lw_all := lw_g (lw_at lw_m2 48 rfl) rfl
theorem q336 : (Jvm.Cond.code ({ cls := "AbbeyNotes", name := "layNet", desc := "()V" } : Jvm.MethodName) prog_1_method_27_code (3 : Nat) (Option.none : Option Jvm.ClassFile.FieldType)) ∈ lw_all := lw_g (lw_at lw_m2 49 rfl) rfl
theorem q337 : (Jvm.Cond.methodLink "AbbeyNotes" (171 : Nat) ({ cls := "java/util/Arrays", name := "fill", desc := "([II)V" } : Jvm.MethodName)) ∈ lw_all := lw_g (lw_at lw_m2 50 rfl) rfl
theorem q338 : (Jvm.Cond.methodLink "AbbeyNotes" (183 : Nat) ({ cls := "java/lang/Math", name := "max", desc := "(II)I" } : Jvm.MethodName)) ∈ lw_all := lw_g (lw_at lw_m2 51 rfl) rfl
theorem q341 : (Jvm.Cond.methodLink "AbbeyNotes" (186 : Nat) ({ cls := "AbbeyNotes", name := "asNumber", desc := "(Z)I" } : Jvm.MethodName)) ∈ lw_all := lw_g (lw_at lw_m2 54 rfl) rfl
theorem q342 : (Jvm.Cond.methodLink "AbbeyNotes" (177 : Nat) ({ cls := "AbbeyNotes", name := "has", desc := "(II)Z" } : Jvm.MethodName)) ∈ lw_all := lw_g (lw_at lw_m2 55 rfl) rfl
theorem q343 : (Jvm.Cond.static ({ cls := "AbbeyNotes", name := "has", desc := "(II)Z" } : Jvm.MethodName)) ∈ lw_all := lw_g (lw_at lw_m2 56 rfl) rfl
theorem q344 : (Jvm.Cond.code ({ cls := "AbbeyNotes", name := "has", desc := "(II)Z" } : Jvm.MethodName) prog_1_method_3_code (2 : Nat) (Option.some Jvm.ClassFile.FieldType.boolean)) ∈ lw_all := lw_g (lw_at lw_m2 57 rfl) rfl
theorem q345 : (Jvm.Cond.methodLink "AbbeyNotes" (190 : Nat) ({ cls := "AbbeyNotes", name := "netOf", desc := "(I)I" } : Jvm.MethodName)) ∈ lw_all := lw_g (lw_at lw_m2 58 rfl) rfl
theorem q346 : (Jvm.Cond.privateMethod ({ cls := "AbbeyNotes", name := "netOf", desc := "(I)I" } : Jvm.MethodName)) ∈ lw_tbl := lw_at lw_m2 59 rfl
theorem q347 : (Jvm.Cond.instanceMethod ({ cls := "AbbeyNotes", name := "netOf", desc := "(I)I" } : Jvm.MethodName)) ∈ lw_all := lw_g (lw_at lw_m2 60 rfl) rfl
theorem q348 : (Jvm.Cond.code ({ cls := "AbbeyNotes", name := "netOf", desc := "(I)I" } : Jvm.MethodName) prog_1_method_28_code (4 : Nat) (Option.some Jvm.ClassFile.FieldType.int)) ∈ lw_all := lw_g (lw_at lw_m2 61 rfl) rfl
theorem q349 : (Jvm.Cond.methodLink "AbbeyNotes" (193 : Nat) ({ cls := "java/lang/Integer", name := "bitCount", desc := "(I)I" } : Jvm.MethodName)) ∈ lw_all := lw_g (lw_at lw_m2 62 rfl) rfl
theorem q356 : (Jvm.Cond.instanceMethod ({ cls := "AbbeyNotes", name := "prints", desc := "(I)I" } : Jvm.MethodName)) ∈ lw_all := lw_g (lw_at lw_m2 69 rfl) rfl
theorem q357 : (Jvm.Cond.selects "AbbeyNotes" ({ cls := "AbbeyNotes", name := "prints", desc := "(I)I" } : Jvm.MethodName) ({ cls := "AbbeyNotes", name := "prints", desc := "(I)I" } : Jvm.MethodName)) ∈ lw_all := lw_g (lw_at lw_m2 70 rfl) rfl
theorem q358 : (Jvm.Cond.code ({ cls := "AbbeyNotes", name := "prints", desc := "(I)I" } : Jvm.MethodName) prog_1_method_30_code (7 : Nat) (Option.some Jvm.ClassFile.FieldType.int)) ∈ lw_all := lw_g (lw_at lw_m2 71 rfl) rfl
theorem q359 : (Jvm.Cond.methodLink "AbbeyNotes" (198 : Nat) ({ cls := "AbbeyNotes", name := "rateOf", desc := "(IJ)I" } : Jvm.MethodName)) ∈ lw_all := lw_g (lw_at lw_m2 72 rfl) rfl
theorem q361 : (Jvm.Cond.instanceMethod ({ cls := "AbbeyNotes", name := "buys", desc := "(II)I" } : Jvm.MethodName)) ∈ lw_all := lw_g (lw_at lw_m2 74 rfl) rfl
theorem q362 : (Jvm.Cond.selects "AbbeyNotes" ({ cls := "AbbeyNotes", name := "buys", desc := "(II)I" } : Jvm.MethodName) ({ cls := "AbbeyNotes", name := "buys", desc := "(II)I" } : Jvm.MethodName)) ∈ lw_all := lw_g (lw_at lw_m2 75 rfl) rfl
theorem q363 : (Jvm.Cond.code ({ cls := "AbbeyNotes", name := "buys", desc := "(II)I" } : Jvm.MethodName) prog_1_method_31_code (9 : Nat) (Option.some Jvm.ClassFile.FieldType.int)) ∈ lw_all := lw_g (lw_at lw_m2 76 rfl) rfl
theorem q365 : (Jvm.Cond.instanceMethod ({ cls := "AbbeyNotes", name := "runs", desc := "(III)I" } : Jvm.MethodName)) ∈ lw_all := lw_g (lw_at lw_m2 78 rfl) rfl
theorem q366 : (Jvm.Cond.selects "AbbeyNotes" ({ cls := "AbbeyNotes", name := "runs", desc := "(III)I" } : Jvm.MethodName) ({ cls := "AbbeyNotes", name := "runs", desc := "(III)I" } : Jvm.MethodName)) ∈ lw_all := lw_g (lw_at lw_m2 79 rfl) rfl
theorem q367 : (Jvm.Cond.code ({ cls := "AbbeyNotes", name := "runs", desc := "(III)I" } : Jvm.MethodName) prog_1_method_32_code (9 : Nat) (Option.some Jvm.ClassFile.FieldType.int)) ∈ lw_all := lw_g (lw_at lw_m2 80 rfl) rfl
theorem q369 : (Jvm.Cond.instanceMethod ({ cls := "AbbeyNotes", name := "wages", desc := "(II)I" } : Jvm.MethodName)) ∈ lw_all := lw_g (lw_at lw_m2 82 rfl) rfl
theorem q370 : (Jvm.Cond.selects "AbbeyNotes" ({ cls := "AbbeyNotes", name := "wages", desc := "(II)I" } : Jvm.MethodName) ({ cls := "AbbeyNotes", name := "wages", desc := "(II)I" } : Jvm.MethodName)) ∈ lw_all := lw_g (lw_at lw_m2 83 rfl) rfl
theorem q371 : (Jvm.Cond.code ({ cls := "AbbeyNotes", name := "wages", desc := "(II)I" } : Jvm.MethodName) prog_1_method_34_code (6 : Nat) (Option.some Jvm.ClassFile.FieldType.int)) ∈ lw_all := lw_g (lw_at lw_m2 84 rfl) rfl
theorem q372 : (Jvm.Cond.constant "AbbeyNotes" (202 : Nat) (999999999 : Int32)) ∈ lw_all := lw_g (lw_at lw_m2 85 rfl) rfl
theorem q373 : (Jvm.Cond.methodLink "AbbeyNotes" (203 : Nat) ({ cls := "AbbeyNotes", name := "digit", desc := "(III)I" } : Jvm.MethodName)) ∈ lw_all := lw_g (lw_at lw_m2 86 rfl) rfl
theorem q374 : (Jvm.Cond.static ({ cls := "AbbeyNotes", name := "digit", desc := "(III)I" } : Jvm.MethodName)) ∈ lw_all := lw_g (lw_at lw_m2 87 rfl) rfl
theorem q375 : (Jvm.Cond.code ({ cls := "AbbeyNotes", name := "digit", desc := "(III)I" } : Jvm.MethodName) prog_1_method_33_code (5 : Nat) (Option.some Jvm.ClassFile.FieldType.int)) ∈ lw_all := lw_g (lw_at lw_m2 88 rfl) rfl
theorem q377 : (Jvm.Cond.instanceMethod ({ cls := "AbbeyNotes", name := "change", desc := "(IIIII)J" } : Jvm.MethodName)) ∈ lw_all := lw_g (lw_at lw_m2 90 rfl) rfl
theorem q378 : (Jvm.Cond.selects "AbbeyNotes" ({ cls := "AbbeyNotes", name := "change", desc := "(IIIII)J" } : Jvm.MethodName) ({ cls := "AbbeyNotes", name := "change", desc := "(IIIII)J" } : Jvm.MethodName)) ∈ lw_all := lw_g (lw_at lw_m2 91 rfl) rfl
theorem q379 : (Jvm.Cond.code ({ cls := "AbbeyNotes", name := "change", desc := "(IIIII)J" } : Jvm.MethodName) prog_1_method_36_code (13 : Nat) (Option.some Jvm.ClassFile.FieldType.long)) ∈ lw_all := lw_g (lw_at lw_m2 92 rfl) rfl
theorem q380 : (Jvm.Cond.constantLong "AbbeyNotes" (210 : Nat) (-1000000000000000002 : Int64)) ∈ lw_all := lw_g (lw_at lw_m2 93 rfl) rfl
theorem q381 : (Jvm.Cond.constantLong "AbbeyNotes" (212 : Nat) (10 : Int64)) ∈ lw_all := lw_g (lw_at lw_m2 94 rfl) rfl
theorem q382 : (Jvm.Cond.methodLink "AbbeyNotes" (214 : Nat) ({ cls := "java/lang/System", name := "arraycopy", desc := "(Ljava/lang/Object;ILjava/lang/Object;II)V" } : Jvm.MethodName)) ∈ lw_all := lw_g (lw_at lw_m2 95 rfl) rfl
theorem q383 : (Jvm.Cond.methodLink "AbbeyNotes" (220 : Nat) ({ cls := "java/lang/Math", name := "max", desc := "(JJ)J" } : Jvm.MethodName)) ∈ lw_all := lw_g (lw_at lw_m2 96 rfl) rfl
theorem q386 : (Jvm.Cond.methodLink "AbbeyNotes" (207 : Nat) ({ cls := "AbbeyNotes", name := "divisor", desc := "(JJ)J" } : Jvm.MethodName)) ∈ lw_all := lw_g (lw_at lw_m2 99 rfl) rfl
theorem q387 : (Jvm.Cond.static ({ cls := "AbbeyNotes", name := "divisor", desc := "(JJ)J" } : Jvm.MethodName)) ∈ lw_all := lw_g (lw_at lw_m2 100 rfl) rfl
theorem q388 : (Jvm.Cond.code ({ cls := "AbbeyNotes", name := "divisor", desc := "(JJ)J" } : Jvm.MethodName) prog_1_method_35_code (4 : Nat) (Option.some Jvm.ClassFile.FieldType.long)) ∈ lw_all := lw_g (lw_at lw_m2 101 rfl) rfl
theorem q390 : (Jvm.Cond.instanceMethod ({ cls := "AbbeyNotes", name := "sample", desc := "(IIIII)J" } : Jvm.MethodName)) ∈ lw_all := lw_g (lw_at lw_m2 103 rfl) rfl
theorem q391 : (Jvm.Cond.selects "AbbeyNotes" ({ cls := "AbbeyNotes", name := "sample", desc := "(IIIII)J" } : Jvm.MethodName) ({ cls := "AbbeyNotes", name := "sample", desc := "(IIIII)J" } : Jvm.MethodName)) ∈ lw_all := lw_g (lw_at lw_m2 104 rfl) rfl
theorem q392 : (Jvm.Cond.code ({ cls := "AbbeyNotes", name := "sample", desc := "(IIIII)J" } : Jvm.MethodName) prog_1_method_38_code (12 : Nat) (Option.some Jvm.ClassFile.FieldType.long)) ∈ lw_all := lw_g (lw_at lw_m2 105 rfl) rfl
theorem q393 : (Jvm.Cond.methodLink "AbbeyNotes" (222 : Nat) ({ cls := "AbbeyNotes", name := "choose", desc := "(II)J" } : Jvm.MethodName)) ∈ lw_all := lw_g (lw_at lw_m2 106 rfl) rfl
theorem q394 : (Jvm.Cond.static ({ cls := "AbbeyNotes", name := "choose", desc := "(II)J" } : Jvm.MethodName)) ∈ lw_all := lw_g (lw_at lw_m2 107 rfl) rfl
theorem q395 : (Jvm.Cond.code ({ cls := "AbbeyNotes", name := "choose", desc := "(II)J" } : Jvm.MethodName) prog_1_method_37_code (5 : Nat) (Option.some Jvm.ClassFile.FieldType.long)) ∈ lw_all := lw_g (lw_at lw_m2 108 rfl) rfl
theorem q397 : (Jvm.Cond.instanceMethod ({ cls := "AbbeyNotes", name := "seen", desc := "(III)I" } : Jvm.MethodName)) ∈ lw_all := lw_g (lw_at lw_m2 110 rfl) rfl
theorem q398 : (Jvm.Cond.selects "AbbeyNotes" ({ cls := "AbbeyNotes", name := "seen", desc := "(III)I" } : Jvm.MethodName) ({ cls := "AbbeyNotes", name := "seen", desc := "(III)I" } : Jvm.MethodName)) ∈ lw_all := lw_g (lw_at lw_m2 111 rfl) rfl
theorem q399 : (Jvm.Cond.code ({ cls := "AbbeyNotes", name := "seen", desc := "(III)I" } : Jvm.MethodName) prog_1_method_39_code (4 : Nat) (Option.some Jvm.ClassFile.FieldType.int)) ∈ lw_all := lw_g (lw_at lw_m2 112 rfl) rfl
theorem q401 : (Jvm.Cond.instanceMethod ({ cls := "AbbeyNotes", name := "forget", desc := "()I" } : Jvm.MethodName)) ∈ lw_all := lw_g (lw_at lw_m2 114 rfl) rfl
theorem q402 : (Jvm.Cond.selects "AbbeyNotes" ({ cls := "AbbeyNotes", name := "forget", desc := "()I" } : Jvm.MethodName) ({ cls := "AbbeyNotes", name := "forget", desc := "()I" } : Jvm.MethodName)) ∈ lw_all := lw_g (lw_at lw_m2 115 rfl) rfl
theorem q403 : (Jvm.Cond.code ({ cls := "AbbeyNotes", name := "forget", desc := "()I" } : Jvm.MethodName) prog_1_method_40_code (2 : Nat) (Option.some Jvm.ClassFile.FieldType.int)) ∈ lw_all := lw_g (lw_at lw_m2 116 rfl) rfl
theorem q405 : (Jvm.Cond.instanceMethod ({ cls := "AbbeyNotes", name := "clerks", desc := "(II)I" } : Jvm.MethodName)) ∈ lw_all := lw_g (lw_at lw_m2 118 rfl) rfl
theorem q406 : (Jvm.Cond.selects "AbbeyNotes" ({ cls := "AbbeyNotes", name := "clerks", desc := "(II)I" } : Jvm.MethodName) ({ cls := "AbbeyNotes", name := "clerks", desc := "(II)I" } : Jvm.MethodName)) ∈ lw_all := lw_g (lw_at lw_m2 119 rfl) rfl
theorem q407 : (Jvm.Cond.code ({ cls := "AbbeyNotes", name := "clerks", desc := "(II)I" } : Jvm.MethodName) prog_1_method_42_code (5 : Nat) (Option.some Jvm.ClassFile.FieldType.int)) ∈ lw_all := lw_g (lw_at lw_m2 120 rfl) rfl
theorem q408 : (Jvm.Cond.methodLink "AbbeyNotes" (238 : Nat) ({ cls := "AbbeyNotes", name := "canBe", desc := "(II)Z" } : Jvm.MethodName)) ∈ lw_all := lw_g (lw_at lw_m2 121 rfl) rfl
theorem q409 : (Jvm.Cond.privateMethod ({ cls := "AbbeyNotes", name := "canBe", desc := "(II)Z" } : Jvm.MethodName)) ∈ lw_tbl := lw_at lw_m2 122 rfl
theorem q410 : (Jvm.Cond.instanceMethod ({ cls := "AbbeyNotes", name := "canBe", desc := "(II)Z" } : Jvm.MethodName)) ∈ lw_all := lw_g (lw_at lw_m2 123 rfl) rfl
theorem q411 : (Jvm.Cond.code ({ cls := "AbbeyNotes", name := "canBe", desc := "(II)Z" } : Jvm.MethodName) prog_1_method_41_code (6 : Nat) (Option.some Jvm.ClassFile.FieldType.boolean)) ∈ lw_all := lw_g (lw_at lw_m2 124 rfl) rfl
theorem q413 : (Jvm.Cond.instanceMethod ({ cls := "AbbeyNotes", name := "count", desc := "(II)I" } : Jvm.MethodName)) ∈ lw_all := lw_g (lw_at lw_m2 126 rfl) rfl
theorem q414 : (Jvm.Cond.selects "AbbeyNotes" ({ cls := "AbbeyNotes", name := "count", desc := "(II)I" } : Jvm.MethodName) ({ cls := "AbbeyNotes", name := "count", desc := "(II)I" } : Jvm.MethodName)) ∈ lw_all := lw_g (lw_at lw_m2 127 rfl) rfl
theorem q415 : (Jvm.Cond.code ({ cls := "AbbeyNotes", name := "count", desc := "(II)I" } : Jvm.MethodName) prog_1_method_43_code (8 : Nat) (Option.some Jvm.ClassFile.FieldType.int)) ∈ lw_all := lw_g (lw_at lw_m2 128 rfl) rfl
theorem q416 : (Jvm.Cond.constant "AbbeyNotes" (241 : Nat) (1000000000 : Int32)) ∈ lw_all := lw_g (lw_at lw_m2 129 rfl) rfl
theorem q417 : (Jvm.Cond.methodLink "AbbeyNotes" (242 : Nat) ({ cls := "java/lang/Math", name := "min", desc := "(II)I" } : Jvm.MethodName)) ∈ lw_all := lw_g (lw_at lw_m2 130 rfl) rfl
theorem q419 : (Jvm.Cond.instanceMethod ({ cls := "AbbeyNotes", name := "year", desc := "(III)I" } : Jvm.MethodName)) ∈ lw_all := lw_g (lw_at lw_m2 132 rfl) rfl
theorem q420 : (Jvm.Cond.selects "AbbeyNotes" ({ cls := "AbbeyNotes", name := "year", desc := "(III)I" } : Jvm.MethodName) ({ cls := "AbbeyNotes", name := "year", desc := "(III)I" } : Jvm.MethodName)) ∈ lw_all := lw_g (lw_at lw_m2 133 rfl) rfl
theorem q421 : (Jvm.Cond.code ({ cls := "AbbeyNotes", name := "year", desc := "(III)I" } : Jvm.MethodName) prog_1_method_44_code (10 : Nat) (Option.some Jvm.ClassFile.FieldType.int)) ∈ lw_all := lw_g (lw_at lw_m2 134 rfl) rfl
theorem q422 : (Jvm.Cond.constantLong "AbbeyNotes" (244 : Nat) (75 : Int64)) ∈ lw_all := lw_g (lw_at lw_m2 135 rfl) rfl
theorem q423 : (Jvm.Cond.constantLong "AbbeyNotes" (246 : Nat) (74 : Int64)) ∈ lw_all := lw_g (lw_at lw_m2 136 rfl) rfl
theorem q424 : (Jvm.Cond.constantLong "AbbeyNotes" (248 : Nat) (65537 : Int64)) ∈ lw_all := lw_g (lw_at lw_m2 137 rfl) rfl
theorem q425 : (Jvm.Cond.constantLong "AbbeyNotes" (250 : Nat) (6 : Int64)) ∈ lw_all := lw_g (lw_at lw_m2 138 rfl) rfl
theorem q426 : (Jvm.Cond.constantLong "AbbeyNotes" (252 : Nat) (48 : Int64)) ∈ lw_all := lw_g (lw_at lw_m2 139 rfl) rfl
theorem q427 : (Jvm.Cond.constantLong "AbbeyNotes" (254 : Nat) (8 : Int64)) ∈ lw_all := lw_g (lw_at lw_m2 140 rfl) rfl
theorem q429 : (Jvm.Cond.instanceMethod ({ cls := "AbbeyNotes", name := "image", desc := "(I)I" } : Jvm.MethodName)) ∈ lw_all := lw_g (lw_at lw_m2 142 rfl) rfl
theorem q430 : (Jvm.Cond.selects "AbbeyNotes" ({ cls := "AbbeyNotes", name := "image", desc := "(I)I" } : Jvm.MethodName) ({ cls := "AbbeyNotes", name := "image", desc := "(I)I" } : Jvm.MethodName)) ∈ lw_all := lw_g (lw_at lw_m2 143 rfl) rfl
theorem q431 : (Jvm.Cond.code ({ cls := "AbbeyNotes", name := "image", desc := "(I)I" } : Jvm.MethodName) prog_1_method_45_code (2 : Nat) (Option.some Jvm.ClassFile.FieldType.int)) ∈ lw_all := lw_g (lw_at lw_m2 144 rfl) rfl
theorem q433 : (Jvm.Cond.instanceMethod ({ cls := "AbbeyNotes", name := "restore", desc := "(I)I" } : Jvm.MethodName)) ∈ lw_all := lw_g (lw_at lw_m2 146 rfl) rfl
theorem q434 : (Jvm.Cond.selects "AbbeyNotes" ({ cls := "AbbeyNotes", name := "restore", desc := "(I)I" } : Jvm.MethodName) ({ cls := "AbbeyNotes", name := "restore", desc := "(I)I" } : Jvm.MethodName)) ∈ lw_all := lw_g (lw_at lw_m2 147 rfl) rfl
theorem q435 : (Jvm.Cond.code ({ cls := "AbbeyNotes", name := "restore", desc := "(I)I" } : Jvm.MethodName) prog_1_method_46_code (2 : Nat) (Option.some Jvm.ClassFile.FieldType.int)) ∈ lw_all := lw_g (lw_at lw_m2 148 rfl) rfl
theorem q437 : (Jvm.Cond.instanceMethod ({ cls := "AbbeyNotes", name := "told", desc := "(I)I" } : Jvm.MethodName)) ∈ lw_all := lw_g (lw_at lw_m2 150 rfl) rfl
theorem q438 : (Jvm.Cond.selects "AbbeyNotes" ({ cls := "AbbeyNotes", name := "told", desc := "(I)I" } : Jvm.MethodName) ({ cls := "AbbeyNotes", name := "told", desc := "(I)I" } : Jvm.MethodName)) ∈ lw_all := lw_g (lw_at lw_m2 151 rfl) rfl
theorem q439 : (Jvm.Cond.code ({ cls := "AbbeyNotes", name := "told", desc := "(I)I" } : Jvm.MethodName) prog_1_method_50_code (2 : Nat) (Option.some Jvm.ClassFile.FieldType.int)) ∈ lw_all := lw_g (lw_at lw_m2 152 rfl) rfl
theorem q440 : (Jvm.Cond.methodLink "AbbeyNotes" (260 : Nat) ({ cls := "AbbeyNotes", name := "toldTwo", desc := "(I)I" } : Jvm.MethodName)) ∈ lw_all := lw_g (lw_at lw_m2 153 rfl) rfl
theorem q441 : (Jvm.Cond.privateMethod ({ cls := "AbbeyNotes", name := "toldTwo", desc := "(I)I" } : Jvm.MethodName)) ∈ lw_tbl := lw_at lw_m2 154 rfl
theorem q442 : (Jvm.Cond.instanceMethod ({ cls := "AbbeyNotes", name := "toldTwo", desc := "(I)I" } : Jvm.MethodName)) ∈ lw_all := lw_g (lw_at lw_m2 155 rfl) rfl
theorem q443 : (Jvm.Cond.code ({ cls := "AbbeyNotes", name := "toldTwo", desc := "(I)I" } : Jvm.MethodName) prog_1_method_47_code (4 : Nat) (Option.some Jvm.ClassFile.FieldType.int)) ∈ lw_all := lw_g (lw_at lw_m2 156 rfl) rfl
theorem q444 : (Jvm.Cond.methodLink "AbbeyNotes" (263 : Nat) ({ cls := "AbbeyNotes", name := "toldLot", desc := "(II)I" } : Jvm.MethodName)) ∈ lw_all := lw_g (lw_at lw_m2 157 rfl) rfl
theorem q445 : (Jvm.Cond.privateMethod ({ cls := "AbbeyNotes", name := "toldLot", desc := "(II)I" } : Jvm.MethodName)) ∈ lw_tbl := lw_at lw_m2 158 rfl
theorem q446 : (Jvm.Cond.instanceMethod ({ cls := "AbbeyNotes", name := "toldLot", desc := "(II)I" } : Jvm.MethodName)) ∈ lw_all := lw_g (lw_at lw_m2 159 rfl) rfl
theorem q447 : (Jvm.Cond.code ({ cls := "AbbeyNotes", name := "toldLot", desc := "(II)I" } : Jvm.MethodName) prog_1_method_48_code (3 : Nat) (Option.some Jvm.ClassFile.FieldType.int)) ∈ lw_all := lw_g (lw_at lw_m2 160 rfl) rfl
theorem q448 : (Jvm.Cond.methodLink "AbbeyNotes" (266 : Nat) ({ cls := "AbbeyNotes", name := "toldOne", desc := "(II)I" } : Jvm.MethodName)) ∈ lw_all := lw_g (lw_at lw_m2 161 rfl) rfl
theorem q449 : (Jvm.Cond.privateMethod ({ cls := "AbbeyNotes", name := "toldOne", desc := "(II)I" } : Jvm.MethodName)) ∈ lw_tbl := lw_at lw_m2 162 rfl
theorem q450 : (Jvm.Cond.instanceMethod ({ cls := "AbbeyNotes", name := "toldOne", desc := "(II)I" } : Jvm.MethodName)) ∈ lw_all := lw_g (lw_at lw_m2 163 rfl) rfl
theorem q451 : (Jvm.Cond.code ({ cls := "AbbeyNotes", name := "toldOne", desc := "(II)I" } : Jvm.MethodName) prog_1_method_49_code (3 : Nat) (Option.some Jvm.ClassFile.FieldType.int)) ∈ lw_all := lw_g (lw_at lw_m2 164 rfl) rfl
theorem in_X0 : ∀ w ∈ wsX00, w ∈ lw_all := lw_in wsX00 [142, 144, 146, 148, 150, 152, 154, 156, 158, 160, 162, 164, 166, 168] (by decide +kernel) (by decide +kernel)
