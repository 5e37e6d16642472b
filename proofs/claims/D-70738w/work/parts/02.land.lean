set_option maxRecDepth 100000
/-! AbbeyNotes$Land -/
set_option maxRecDepth 100000
def RX1 : String := "AbbeyNotes$Land"
def TX1 : u_T := fun k => match k with
  | 0 => ("AbbeyNotes$Land", "paper", "[I", true)
  | 1 => ("AbbeyNotes$Land", "coin", "[I", true)
  | 2 => ("AbbeyNotes$Land", "owes", "[[I", true)
  | 3 => ("AbbeyNotes$Land", "price", "[I", true)
  | 4 => ("AbbeyNotes$Land", "whose", "[I", true)
  | 5 => ("AbbeyNotes$Land", "told", "[I", true)
  | 6 => ("AbbeyNotes$Land", "burnt", "I", false)
  | 7 => ("AbbeyNotes$Land", "months", "I", false)
  | 8 => ("AbbeyNotes$Land", "sights", "I", false)
  | 9 => ("AbbeyNotes$Land", "seenSet", "[I", true)
  | 10 => ("AbbeyNotes$Land", "seenMany", "[I", true)
  | 11 => ("AbbeyNotes$Land", "seenHow", "[I", true)
  | _ => ("AbbeyNotes$Land", "isKept", "Z", false)
def tyX1 : Nat → FieldType := fun k => match k with
  | 0 => .array .int
  | 1 => .array .int
  | 2 => .array (.array .int)
  | 3 => .array .int
  | 4 => .array .int
  | 5 => .array .int
  | 6 => .int
  | 7 => .int
  | 8 => .int
  | 9 => .array .int
  | 10 => .array .int
  | 11 => .array .int
  | _ => .boolean
abbrev wsX10 : List Cond := u_ws RX1 TX1 13
set_option maxRecDepth 100000 in
theorem nmX1 : ∀ a, a < 13 → ∀ b, b < 13 → a ≠ b → (TX1 a).2.1 ≠ (TX1 b).2.1 := by decide +kernel
set_option maxRecDepth 100000 in
theorem tyX1_ok : ∀ k, k < 13 → parseFieldDescriptor (TX1 k).2.2.1 = some (tyX1 k) := by decide +kernel
abbrev cX1_init : ByteArray := prog_2_method_1_code
def yX1_init : MethodName := ⟨RX1, "<init>", "()V"⟩
def dkwX1_init_4 : List UInt8 := [16, 100, 184, 0, 41, 42, 180, 0, 23, 16, 100, 184, 0, 41, 42, 180, 0, 26, 16, 250, 184, 0, 41, 177]
abbrev dktX1_init_4 : List UInt8 := dkwX1_init_4 ++ []
def dkwX1_init_3 : List UInt8 := [181, 0, 35, 42, 16, 8, 188, 10, 181, 0, 38, 42, 180, 0, 9, 16, 100, 184, 0, 41, 42, 180, 0, 15]
abbrev dktX1_init_3 : List UInt8 := dkwX1_init_3 ++ dktX1_init_4
def dkwX1_init_2 : List UInt8 := [181, 0, 26, 42, 5, 188, 10, 181, 0, 29, 42, 16, 8, 188, 10, 181, 0, 32, 42, 16, 8, 188, 10]
abbrev dktX1_init_2 : List UInt8 := dkwX1_init_2 ++ dktX1_init_3
def dkwX1_init_1 : List UInt8 := [16, 6, 197, 0, 18, 2, 181, 0, 20, 42, 16, 8, 188, 10, 181, 0, 23, 42, 16, 8, 188, 10]
abbrev dktX1_init_1 : List UInt8 := dkwX1_init_1 ++ dktX1_init_2
def dkwX1_init_0 : List UInt8 := [42, 183, 0, 3, 42, 16, 6, 188, 10, 181, 0, 9, 42, 16, 6, 188, 10, 181, 0, 15, 42, 16, 6]
abbrev dktX1_init_0 : List UInt8 := dkwX1_init_0 ++ dktX1_init_1
theorem dksX1_init_0 : cX1_init.data.toList.drop 0 = dktX1_init_0 := by decide +kernel
theorem dksX1_init_1 : cX1_init.data.toList.drop 23 = dktX1_init_1 := dk_seg dksX1_init_0 23 rfl rfl
theorem dksX1_init_2 : cX1_init.data.toList.drop 45 = dktX1_init_2 := dk_seg dksX1_init_1 22 rfl rfl
theorem dksX1_init_3 : cX1_init.data.toList.drop 68 = dktX1_init_3 := dk_seg dksX1_init_2 23 rfl rfl
theorem dksX1_init_4 : cX1_init.data.toList.drop 92 = dktX1_init_4 := dk_seg dksX1_init_3 24 rfl rfl
theorem dX1_init_0 : decode cX1_init 0 = .ok (.aload_n 0, 1) := dk_42 (dk_at dksX1_init_0 0 rfl rfl)
theorem dX1_init_1 : decode cX1_init 1 = .ok (.invokespecial 3, 3) := dk_183 0 3 (dk_at dksX1_init_0 1 rfl rfl)
theorem dX1_init_4 : decode cX1_init 4 = .ok (.aload_n 0, 1) := dk_42 (dk_at dksX1_init_0 4 rfl rfl)
theorem dX1_init_5 : decode cX1_init 5 = .ok (.bipush 6, 2) := dk_16 6 (dk_at dksX1_init_0 5 rfl rfl)
theorem dX1_init_7 : decode cX1_init 7 = .ok (.newarray .int, 2) := dk_188_10 (dk_at dksX1_init_0 7 rfl rfl)
theorem dX1_init_9 : decode cX1_init 9 = .ok (.putfield 9, 3) := dk_181 0 9 (dk_at dksX1_init_0 9 rfl rfl)
theorem dX1_init_12 : decode cX1_init 12 = .ok (.aload_n 0, 1) := dk_42 (dk_at dksX1_init_0 12 rfl rfl)
theorem dX1_init_13 : decode cX1_init 13 = .ok (.bipush 6, 2) := dk_16 6 (dk_at dksX1_init_0 13 rfl rfl)
theorem dX1_init_15 : decode cX1_init 15 = .ok (.newarray .int, 2) := dk_188_10 (dk_at dksX1_init_0 15 rfl rfl)
theorem dX1_init_17 : decode cX1_init 17 = .ok (.putfield 15, 3) := dk_181 0 15 (dk_at dksX1_init_0 17 rfl rfl)
theorem dX1_init_20 : decode cX1_init 20 = .ok (.aload_n 0, 1) := dk_42 (dk_at dksX1_init_0 20 rfl rfl)
theorem dX1_init_21 : decode cX1_init 21 = .ok (.bipush 6, 2) := dk_16 6 (dk_at dksX1_init_0 21 rfl rfl)
theorem dX1_init_23 : decode cX1_init 23 = .ok (.bipush 6, 2) := dk_16 6 (dk_at dksX1_init_1 0 rfl rfl)
theorem dX1_init_25 : decode cX1_init 25 = .ok (.multianewarray 18 2, 4) := by decide +kernel
theorem dX1_init_29 : decode cX1_init 29 = .ok (.putfield 20, 3) := dk_181 0 20 (dk_at dksX1_init_1 6 rfl rfl)
theorem dX1_init_32 : decode cX1_init 32 = .ok (.aload_n 0, 1) := dk_42 (dk_at dksX1_init_1 9 rfl rfl)
theorem dX1_init_33 : decode cX1_init 33 = .ok (.bipush 8, 2) := dk_16 8 (dk_at dksX1_init_1 10 rfl rfl)
theorem dX1_init_35 : decode cX1_init 35 = .ok (.newarray .int, 2) := dk_188_10 (dk_at dksX1_init_1 12 rfl rfl)
theorem dX1_init_37 : decode cX1_init 37 = .ok (.putfield 23, 3) := dk_181 0 23 (dk_at dksX1_init_1 14 rfl rfl)
theorem dX1_init_40 : decode cX1_init 40 = .ok (.aload_n 0, 1) := dk_42 (dk_at dksX1_init_1 17 rfl rfl)
theorem dX1_init_41 : decode cX1_init 41 = .ok (.bipush 8, 2) := dk_16 8 (dk_at dksX1_init_1 18 rfl rfl)
theorem dX1_init_43 : decode cX1_init 43 = .ok (.newarray .int, 2) := dk_188_10 (dk_at dksX1_init_1 20 rfl rfl)
theorem dX1_init_45 : decode cX1_init 45 = .ok (.putfield 26, 3) := dk_181 0 26 (dk_at dksX1_init_2 0 rfl rfl)
theorem dX1_init_48 : decode cX1_init 48 = .ok (.aload_n 0, 1) := dk_42 (dk_at dksX1_init_2 3 rfl rfl)
theorem dX1_init_49 : decode cX1_init 49 = .ok (.iconst 2, 1) := dk_5 (dk_at dksX1_init_2 4 rfl rfl)
theorem dX1_init_50 : decode cX1_init 50 = .ok (.newarray .int, 2) := dk_188_10 (dk_at dksX1_init_2 5 rfl rfl)
theorem dX1_init_52 : decode cX1_init 52 = .ok (.putfield 29, 3) := dk_181 0 29 (dk_at dksX1_init_2 7 rfl rfl)
theorem dX1_init_55 : decode cX1_init 55 = .ok (.aload_n 0, 1) := dk_42 (dk_at dksX1_init_2 10 rfl rfl)
theorem dX1_init_56 : decode cX1_init 56 = .ok (.bipush 8, 2) := dk_16 8 (dk_at dksX1_init_2 11 rfl rfl)
theorem dX1_init_58 : decode cX1_init 58 = .ok (.newarray .int, 2) := dk_188_10 (dk_at dksX1_init_2 13 rfl rfl)
theorem dX1_init_60 : decode cX1_init 60 = .ok (.putfield 32, 3) := dk_181 0 32 (dk_at dksX1_init_2 15 rfl rfl)
theorem dX1_init_63 : decode cX1_init 63 = .ok (.aload_n 0, 1) := dk_42 (dk_at dksX1_init_2 18 rfl rfl)
theorem dX1_init_64 : decode cX1_init 64 = .ok (.bipush 8, 2) := dk_16 8 (dk_at dksX1_init_2 19 rfl rfl)
theorem dX1_init_66 : decode cX1_init 66 = .ok (.newarray .int, 2) := dk_188_10 (dk_at dksX1_init_2 21 rfl rfl)
theorem dX1_init_68 : decode cX1_init 68 = .ok (.putfield 35, 3) := dk_181 0 35 (dk_at dksX1_init_3 0 rfl rfl)
theorem dX1_init_71 : decode cX1_init 71 = .ok (.aload_n 0, 1) := dk_42 (dk_at dksX1_init_3 3 rfl rfl)
theorem dX1_init_72 : decode cX1_init 72 = .ok (.bipush 8, 2) := dk_16 8 (dk_at dksX1_init_3 4 rfl rfl)
theorem dX1_init_74 : decode cX1_init 74 = .ok (.newarray .int, 2) := dk_188_10 (dk_at dksX1_init_3 6 rfl rfl)
theorem dX1_init_76 : decode cX1_init 76 = .ok (.putfield 38, 3) := dk_181 0 38 (dk_at dksX1_init_3 8 rfl rfl)
theorem dX1_init_79 : decode cX1_init 79 = .ok (.aload_n 0, 1) := dk_42 (dk_at dksX1_init_3 11 rfl rfl)
theorem dX1_init_80 : decode cX1_init 80 = .ok (.getfield 9, 3) := dk_180 0 9 (dk_at dksX1_init_3 12 rfl rfl)
theorem dX1_init_83 : decode cX1_init 83 = .ok (.bipush 100, 2) := dk_16 100 (dk_at dksX1_init_3 15 rfl rfl)
theorem dX1_init_85 : decode cX1_init 85 = .ok (.invokestatic 41, 3) := dk_184 0 41 (dk_at dksX1_init_3 17 rfl rfl)
theorem dX1_init_88 : decode cX1_init 88 = .ok (.aload_n 0, 1) := dk_42 (dk_at dksX1_init_3 20 rfl rfl)
theorem dX1_init_89 : decode cX1_init 89 = .ok (.getfield 15, 3) := dk_180 0 15 (dk_at dksX1_init_3 21 rfl rfl)
theorem dX1_init_92 : decode cX1_init 92 = .ok (.bipush 100, 2) := dk_16 100 (dk_at dksX1_init_4 0 rfl rfl)
theorem dX1_init_94 : decode cX1_init 94 = .ok (.invokestatic 41, 3) := dk_184 0 41 (dk_at dksX1_init_4 2 rfl rfl)
theorem dX1_init_97 : decode cX1_init 97 = .ok (.aload_n 0, 1) := dk_42 (dk_at dksX1_init_4 5 rfl rfl)
theorem dX1_init_98 : decode cX1_init 98 = .ok (.getfield 23, 3) := dk_180 0 23 (dk_at dksX1_init_4 6 rfl rfl)
theorem dX1_init_101 : decode cX1_init 101 = .ok (.bipush 100, 2) := dk_16 100 (dk_at dksX1_init_4 9 rfl rfl)
theorem dX1_init_103 : decode cX1_init 103 = .ok (.invokestatic 41, 3) := dk_184 0 41 (dk_at dksX1_init_4 11 rfl rfl)
theorem dX1_init_106 : decode cX1_init 106 = .ok (.aload_n 0, 1) := dk_42 (dk_at dksX1_init_4 14 rfl rfl)
theorem dX1_init_107 : decode cX1_init 107 = .ok (.getfield 26, 3) := dk_180 0 26 (dk_at dksX1_init_4 15 rfl rfl)
theorem dX1_init_110 : decode cX1_init 110 = .ok (.bipush (-6), 2) := dk_16 250 (dk_at dksX1_init_4 18 rfl rfl)
theorem dX1_init_112 : decode cX1_init 112 = .ok (.invokestatic 41, 3) := dk_184 0 41 (dk_at dksX1_init_4 20 rfl rfl)
theorem dX1_init_115 : decode cX1_init 115 = .ok (.return_, 1) := dk_177 (dk_at dksX1_init_4 23 rfl rfl)
abbrev cX1_copy : ByteArray := prog_2_method_2_code
def yX1_copy : MethodName := ⟨RX1, "copy", "(LAbbeyNotes$Land;)V"⟩
def dkwX1_copy_7 : List UInt8 := [184, 0, 47, 43, 180, 0, 38, 3, 42, 180, 0, 38, 3, 16, 8, 184, 0, 47, 177]
abbrev dktX1_copy_7 : List UInt8 := dkwX1_copy_7 ++ []
def dkwX1_copy_6 : List UInt8 := [42, 180, 0, 32, 3, 16, 8, 184, 0, 47, 43, 180, 0, 35, 3, 42, 180, 0, 35, 3, 16, 8]
abbrev dktX1_copy_6 : List UInt8 := dkwX1_copy_6 ++ dktX1_copy_7
def dkwX1_copy_5 : List UInt8 := [181, 0, 53, 42, 43, 180, 0, 57, 181, 0, 57, 42, 43, 180, 0, 60, 181, 0, 60, 43, 180, 0, 32, 3]
abbrev dktX1_copy_5 : List UInt8 := dkwX1_copy_5 ++ dktX1_copy_6
def dkwX1_copy_4 : List UInt8 := [43, 180, 0, 29, 3, 42, 180, 0, 29, 3, 42, 180, 0, 29, 190, 184, 0, 47, 42, 43, 180, 0, 53]
abbrev dktX1_copy_4 : List UInt8 := dkwX1_copy_4 ++ dktX1_copy_5
def dkwX1_copy_3 : List UInt8 := [180, 0, 23, 3, 16, 8, 184, 0, 47, 43, 180, 0, 26, 3, 42, 180, 0, 26, 3, 16, 8, 184, 0, 47]
abbrev dktX1_copy_3 : List UInt8 := dkwX1_copy_3 ++ dktX1_copy_4
def dkwX1_copy_2 : List UInt8 := [180, 0, 20, 28, 50, 3, 16, 6, 184, 0, 47, 132, 2, 1, 167, 255, 228, 43, 180, 0, 23, 3, 42]
abbrev dktX1_copy_2 : List UInt8 := dkwX1_copy_2 ++ dktX1_copy_3
def dkwX1_copy_1 : List UInt8 := [3, 16, 6, 184, 0, 47, 3, 61, 28, 16, 6, 162, 0, 28, 43, 180, 0, 20, 28, 50, 3, 42]
abbrev dktX1_copy_1 : List UInt8 := dkwX1_copy_1 ++ dktX1_copy_2
def dkwX1_copy_0 : List UInt8 := [43, 180, 0, 9, 3, 42, 180, 0, 9, 3, 16, 6, 184, 0, 47, 43, 180, 0, 15, 3, 42, 180, 0, 15]
abbrev dktX1_copy_0 : List UInt8 := dkwX1_copy_0 ++ dktX1_copy_1
theorem dksX1_copy_0 : cX1_copy.data.toList.drop 0 = dktX1_copy_0 := by decide +kernel
theorem dksX1_copy_1 : cX1_copy.data.toList.drop 24 = dktX1_copy_1 := dk_seg dksX1_copy_0 24 rfl rfl
theorem dksX1_copy_2 : cX1_copy.data.toList.drop 46 = dktX1_copy_2 := dk_seg dksX1_copy_1 22 rfl rfl
theorem dksX1_copy_3 : cX1_copy.data.toList.drop 69 = dktX1_copy_3 := dk_seg dksX1_copy_2 23 rfl rfl
theorem dksX1_copy_4 : cX1_copy.data.toList.drop 93 = dktX1_copy_4 := dk_seg dksX1_copy_3 24 rfl rfl
theorem dksX1_copy_5 : cX1_copy.data.toList.drop 116 = dktX1_copy_5 := dk_seg dksX1_copy_4 23 rfl rfl
theorem dksX1_copy_6 : cX1_copy.data.toList.drop 140 = dktX1_copy_6 := dk_seg dksX1_copy_5 24 rfl rfl
theorem dksX1_copy_7 : cX1_copy.data.toList.drop 162 = dktX1_copy_7 := dk_seg dksX1_copy_6 22 rfl rfl
theorem dX1_copy_0 : decode cX1_copy 0 = .ok (.aload_n 1, 1) := dk_43 (dk_at dksX1_copy_0 0 rfl rfl)
theorem dX1_copy_1 : decode cX1_copy 1 = .ok (.getfield 9, 3) := dk_180 0 9 (dk_at dksX1_copy_0 1 rfl rfl)
theorem dX1_copy_4 : decode cX1_copy 4 = .ok (.iconst 0, 1) := dk_3 (dk_at dksX1_copy_0 4 rfl rfl)
theorem dX1_copy_5 : decode cX1_copy 5 = .ok (.aload_n 0, 1) := dk_42 (dk_at dksX1_copy_0 5 rfl rfl)
theorem dX1_copy_6 : decode cX1_copy 6 = .ok (.getfield 9, 3) := dk_180 0 9 (dk_at dksX1_copy_0 6 rfl rfl)
theorem dX1_copy_9 : decode cX1_copy 9 = .ok (.iconst 0, 1) := dk_3 (dk_at dksX1_copy_0 9 rfl rfl)
theorem dX1_copy_10 : decode cX1_copy 10 = .ok (.bipush 6, 2) := dk_16 6 (dk_at dksX1_copy_0 10 rfl rfl)
theorem dX1_copy_12 : decode cX1_copy 12 = .ok (.invokestatic 47, 3) := dk_184 0 47 (dk_at dksX1_copy_0 12 rfl rfl)
theorem dX1_copy_15 : decode cX1_copy 15 = .ok (.aload_n 1, 1) := dk_43 (dk_at dksX1_copy_0 15 rfl rfl)
theorem dX1_copy_16 : decode cX1_copy 16 = .ok (.getfield 15, 3) := dk_180 0 15 (dk_at dksX1_copy_0 16 rfl rfl)
theorem dX1_copy_19 : decode cX1_copy 19 = .ok (.iconst 0, 1) := dk_3 (dk_at dksX1_copy_0 19 rfl rfl)
theorem dX1_copy_20 : decode cX1_copy 20 = .ok (.aload_n 0, 1) := dk_42 (dk_at dksX1_copy_0 20 rfl rfl)
theorem dX1_copy_21 : decode cX1_copy 21 = .ok (.getfield 15, 3) := dk_180 0 15 (dk_at dksX1_copy_0 21 rfl rfl)
theorem dX1_copy_24 : decode cX1_copy 24 = .ok (.iconst 0, 1) := dk_3 (dk_at dksX1_copy_1 0 rfl rfl)
theorem dX1_copy_25 : decode cX1_copy 25 = .ok (.bipush 6, 2) := dk_16 6 (dk_at dksX1_copy_1 1 rfl rfl)
theorem dX1_copy_27 : decode cX1_copy 27 = .ok (.invokestatic 47, 3) := dk_184 0 47 (dk_at dksX1_copy_1 3 rfl rfl)
theorem dX1_copy_30 : decode cX1_copy 30 = .ok (.iconst 0, 1) := dk_3 (dk_at dksX1_copy_1 6 rfl rfl)
theorem dX1_copy_31 : decode cX1_copy 31 = .ok (.istore_n 2, 1) := dk_61 (dk_at dksX1_copy_1 7 rfl rfl)
theorem dX1_copy_32 : decode cX1_copy 32 = .ok (.iload_n 2, 1) := dk_28 (dk_at dksX1_copy_1 8 rfl rfl)
theorem dX1_copy_33 : decode cX1_copy 33 = .ok (.bipush 6, 2) := dk_16 6 (dk_at dksX1_copy_1 9 rfl rfl)
theorem dX1_copy_35 : decode cX1_copy 35 = .ok (.if_icmp .ge 28, 3) := dk_162 0 28 (dk_at dksX1_copy_1 11 rfl rfl)
theorem dX1_copy_38 : decode cX1_copy 38 = .ok (.aload_n 1, 1) := dk_43 (dk_at dksX1_copy_1 14 rfl rfl)
theorem dX1_copy_39 : decode cX1_copy 39 = .ok (.getfield 20, 3) := dk_180 0 20 (dk_at dksX1_copy_1 15 rfl rfl)
theorem dX1_copy_42 : decode cX1_copy 42 = .ok (.iload_n 2, 1) := dk_28 (dk_at dksX1_copy_1 18 rfl rfl)
theorem dX1_copy_43 : decode cX1_copy 43 = .ok (.aaload, 1) := dk_50 (dk_at dksX1_copy_1 19 rfl rfl)
theorem dX1_copy_44 : decode cX1_copy 44 = .ok (.iconst 0, 1) := dk_3 (dk_at dksX1_copy_1 20 rfl rfl)
theorem dX1_copy_45 : decode cX1_copy 45 = .ok (.aload_n 0, 1) := dk_42 (dk_at dksX1_copy_1 21 rfl rfl)
theorem dX1_copy_46 : decode cX1_copy 46 = .ok (.getfield 20, 3) := dk_180 0 20 (dk_at dksX1_copy_2 0 rfl rfl)
theorem dX1_copy_49 : decode cX1_copy 49 = .ok (.iload_n 2, 1) := dk_28 (dk_at dksX1_copy_2 3 rfl rfl)
theorem dX1_copy_50 : decode cX1_copy 50 = .ok (.aaload, 1) := dk_50 (dk_at dksX1_copy_2 4 rfl rfl)
theorem dX1_copy_51 : decode cX1_copy 51 = .ok (.iconst 0, 1) := dk_3 (dk_at dksX1_copy_2 5 rfl rfl)
theorem dX1_copy_52 : decode cX1_copy 52 = .ok (.bipush 6, 2) := dk_16 6 (dk_at dksX1_copy_2 6 rfl rfl)
theorem dX1_copy_54 : decode cX1_copy 54 = .ok (.invokestatic 47, 3) := dk_184 0 47 (dk_at dksX1_copy_2 8 rfl rfl)
theorem dX1_copy_57 : decode cX1_copy 57 = .ok (.iinc 2 1, 3) := dk_132 2 1 (dk_at dksX1_copy_2 11 rfl rfl)
theorem dX1_copy_60 : decode cX1_copy 60 = .ok (.goto (-28), 3) := dk_167 255 228 (dk_at dksX1_copy_2 14 rfl rfl)
theorem dX1_copy_63 : decode cX1_copy 63 = .ok (.aload_n 1, 1) := dk_43 (dk_at dksX1_copy_2 17 rfl rfl)
theorem dX1_copy_64 : decode cX1_copy 64 = .ok (.getfield 23, 3) := dk_180 0 23 (dk_at dksX1_copy_2 18 rfl rfl)
theorem dX1_copy_67 : decode cX1_copy 67 = .ok (.iconst 0, 1) := dk_3 (dk_at dksX1_copy_2 21 rfl rfl)
theorem dX1_copy_68 : decode cX1_copy 68 = .ok (.aload_n 0, 1) := dk_42 (dk_at dksX1_copy_2 22 rfl rfl)
theorem dX1_copy_69 : decode cX1_copy 69 = .ok (.getfield 23, 3) := dk_180 0 23 (dk_at dksX1_copy_3 0 rfl rfl)
theorem dX1_copy_72 : decode cX1_copy 72 = .ok (.iconst 0, 1) := dk_3 (dk_at dksX1_copy_3 3 rfl rfl)
theorem dX1_copy_73 : decode cX1_copy 73 = .ok (.bipush 8, 2) := dk_16 8 (dk_at dksX1_copy_3 4 rfl rfl)
theorem dX1_copy_75 : decode cX1_copy 75 = .ok (.invokestatic 47, 3) := dk_184 0 47 (dk_at dksX1_copy_3 6 rfl rfl)
theorem dX1_copy_78 : decode cX1_copy 78 = .ok (.aload_n 1, 1) := dk_43 (dk_at dksX1_copy_3 9 rfl rfl)
theorem dX1_copy_79 : decode cX1_copy 79 = .ok (.getfield 26, 3) := dk_180 0 26 (dk_at dksX1_copy_3 10 rfl rfl)
theorem dX1_copy_82 : decode cX1_copy 82 = .ok (.iconst 0, 1) := dk_3 (dk_at dksX1_copy_3 13 rfl rfl)
theorem dX1_copy_83 : decode cX1_copy 83 = .ok (.aload_n 0, 1) := dk_42 (dk_at dksX1_copy_3 14 rfl rfl)
theorem dX1_copy_84 : decode cX1_copy 84 = .ok (.getfield 26, 3) := dk_180 0 26 (dk_at dksX1_copy_3 15 rfl rfl)
theorem dX1_copy_87 : decode cX1_copy 87 = .ok (.iconst 0, 1) := dk_3 (dk_at dksX1_copy_3 18 rfl rfl)
theorem dX1_copy_88 : decode cX1_copy 88 = .ok (.bipush 8, 2) := dk_16 8 (dk_at dksX1_copy_3 19 rfl rfl)
theorem dX1_copy_90 : decode cX1_copy 90 = .ok (.invokestatic 47, 3) := dk_184 0 47 (dk_at dksX1_copy_3 21 rfl rfl)
theorem dX1_copy_93 : decode cX1_copy 93 = .ok (.aload_n 1, 1) := dk_43 (dk_at dksX1_copy_4 0 rfl rfl)
theorem dX1_copy_94 : decode cX1_copy 94 = .ok (.getfield 29, 3) := dk_180 0 29 (dk_at dksX1_copy_4 1 rfl rfl)
theorem dX1_copy_97 : decode cX1_copy 97 = .ok (.iconst 0, 1) := dk_3 (dk_at dksX1_copy_4 4 rfl rfl)
theorem dX1_copy_98 : decode cX1_copy 98 = .ok (.aload_n 0, 1) := dk_42 (dk_at dksX1_copy_4 5 rfl rfl)
theorem dX1_copy_99 : decode cX1_copy 99 = .ok (.getfield 29, 3) := dk_180 0 29 (dk_at dksX1_copy_4 6 rfl rfl)
theorem dX1_copy_102 : decode cX1_copy 102 = .ok (.iconst 0, 1) := dk_3 (dk_at dksX1_copy_4 9 rfl rfl)
theorem dX1_copy_103 : decode cX1_copy 103 = .ok (.aload_n 0, 1) := dk_42 (dk_at dksX1_copy_4 10 rfl rfl)
theorem dX1_copy_104 : decode cX1_copy 104 = .ok (.getfield 29, 3) := dk_180 0 29 (dk_at dksX1_copy_4 11 rfl rfl)
theorem dX1_copy_107 : decode cX1_copy 107 = .ok (.arraylength, 1) := dk_190 (dk_at dksX1_copy_4 14 rfl rfl)
theorem dX1_copy_108 : decode cX1_copy 108 = .ok (.invokestatic 47, 3) := dk_184 0 47 (dk_at dksX1_copy_4 15 rfl rfl)
theorem dX1_copy_111 : decode cX1_copy 111 = .ok (.aload_n 0, 1) := dk_42 (dk_at dksX1_copy_4 18 rfl rfl)
theorem dX1_copy_112 : decode cX1_copy 112 = .ok (.aload_n 1, 1) := dk_43 (dk_at dksX1_copy_4 19 rfl rfl)
theorem dX1_copy_113 : decode cX1_copy 113 = .ok (.getfield 53, 3) := dk_180 0 53 (dk_at dksX1_copy_4 20 rfl rfl)
theorem dX1_copy_116 : decode cX1_copy 116 = .ok (.putfield 53, 3) := dk_181 0 53 (dk_at dksX1_copy_5 0 rfl rfl)
theorem dX1_copy_119 : decode cX1_copy 119 = .ok (.aload_n 0, 1) := dk_42 (dk_at dksX1_copy_5 3 rfl rfl)
theorem dX1_copy_120 : decode cX1_copy 120 = .ok (.aload_n 1, 1) := dk_43 (dk_at dksX1_copy_5 4 rfl rfl)
theorem dX1_copy_121 : decode cX1_copy 121 = .ok (.getfield 57, 3) := dk_180 0 57 (dk_at dksX1_copy_5 5 rfl rfl)
theorem dX1_copy_124 : decode cX1_copy 124 = .ok (.putfield 57, 3) := dk_181 0 57 (dk_at dksX1_copy_5 8 rfl rfl)
theorem dX1_copy_127 : decode cX1_copy 127 = .ok (.aload_n 0, 1) := dk_42 (dk_at dksX1_copy_5 11 rfl rfl)
theorem dX1_copy_128 : decode cX1_copy 128 = .ok (.aload_n 1, 1) := dk_43 (dk_at dksX1_copy_5 12 rfl rfl)
theorem dX1_copy_129 : decode cX1_copy 129 = .ok (.getfield 60, 3) := dk_180 0 60 (dk_at dksX1_copy_5 13 rfl rfl)
theorem dX1_copy_132 : decode cX1_copy 132 = .ok (.putfield 60, 3) := dk_181 0 60 (dk_at dksX1_copy_5 16 rfl rfl)
theorem dX1_copy_135 : decode cX1_copy 135 = .ok (.aload_n 1, 1) := dk_43 (dk_at dksX1_copy_5 19 rfl rfl)
theorem dX1_copy_136 : decode cX1_copy 136 = .ok (.getfield 32, 3) := dk_180 0 32 (dk_at dksX1_copy_5 20 rfl rfl)
theorem dX1_copy_139 : decode cX1_copy 139 = .ok (.iconst 0, 1) := dk_3 (dk_at dksX1_copy_5 23 rfl rfl)
theorem dX1_copy_140 : decode cX1_copy 140 = .ok (.aload_n 0, 1) := dk_42 (dk_at dksX1_copy_6 0 rfl rfl)
theorem dX1_copy_141 : decode cX1_copy 141 = .ok (.getfield 32, 3) := dk_180 0 32 (dk_at dksX1_copy_6 1 rfl rfl)
theorem dX1_copy_144 : decode cX1_copy 144 = .ok (.iconst 0, 1) := dk_3 (dk_at dksX1_copy_6 4 rfl rfl)
theorem dX1_copy_145 : decode cX1_copy 145 = .ok (.bipush 8, 2) := dk_16 8 (dk_at dksX1_copy_6 5 rfl rfl)
theorem dX1_copy_147 : decode cX1_copy 147 = .ok (.invokestatic 47, 3) := dk_184 0 47 (dk_at dksX1_copy_6 7 rfl rfl)
theorem dX1_copy_150 : decode cX1_copy 150 = .ok (.aload_n 1, 1) := dk_43 (dk_at dksX1_copy_6 10 rfl rfl)
theorem dX1_copy_151 : decode cX1_copy 151 = .ok (.getfield 35, 3) := dk_180 0 35 (dk_at dksX1_copy_6 11 rfl rfl)
theorem dX1_copy_154 : decode cX1_copy 154 = .ok (.iconst 0, 1) := dk_3 (dk_at dksX1_copy_6 14 rfl rfl)
theorem dX1_copy_155 : decode cX1_copy 155 = .ok (.aload_n 0, 1) := dk_42 (dk_at dksX1_copy_6 15 rfl rfl)
theorem dX1_copy_156 : decode cX1_copy 156 = .ok (.getfield 35, 3) := dk_180 0 35 (dk_at dksX1_copy_6 16 rfl rfl)
theorem dX1_copy_159 : decode cX1_copy 159 = .ok (.iconst 0, 1) := dk_3 (dk_at dksX1_copy_6 19 rfl rfl)
theorem dX1_copy_160 : decode cX1_copy 160 = .ok (.bipush 8, 2) := dk_16 8 (dk_at dksX1_copy_6 20 rfl rfl)
theorem dX1_copy_162 : decode cX1_copy 162 = .ok (.invokestatic 47, 3) := dk_184 0 47 (dk_at dksX1_copy_7 0 rfl rfl)
theorem dX1_copy_165 : decode cX1_copy 165 = .ok (.aload_n 1, 1) := dk_43 (dk_at dksX1_copy_7 3 rfl rfl)
theorem dX1_copy_166 : decode cX1_copy 166 = .ok (.getfield 38, 3) := dk_180 0 38 (dk_at dksX1_copy_7 4 rfl rfl)
theorem dX1_copy_169 : decode cX1_copy 169 = .ok (.iconst 0, 1) := dk_3 (dk_at dksX1_copy_7 7 rfl rfl)
theorem dX1_copy_170 : decode cX1_copy 170 = .ok (.aload_n 0, 1) := dk_42 (dk_at dksX1_copy_7 8 rfl rfl)
theorem dX1_copy_171 : decode cX1_copy 171 = .ok (.getfield 38, 3) := dk_180 0 38 (dk_at dksX1_copy_7 9 rfl rfl)
theorem dX1_copy_174 : decode cX1_copy 174 = .ok (.iconst 0, 1) := dk_3 (dk_at dksX1_copy_7 12 rfl rfl)
theorem dX1_copy_175 : decode cX1_copy 175 = .ok (.bipush 8, 2) := dk_16 8 (dk_at dksX1_copy_7 13 rfl rfl)
theorem dX1_copy_177 : decode cX1_copy 177 = .ok (.invokestatic 47, 3) := dk_184 0 47 (dk_at dksX1_copy_7 15 rfl rfl)
theorem dX1_copy_180 : decode cX1_copy 180 = .ok (.return_, 1) := dk_177 (dk_at dksX1_copy_7 18 rfl rfl)
abbrev cX1_print : ByteArray := prog_2_method_8_code
def yX1_print : MethodName := ⟨RX1, "print", "(I)I"⟩
def dkwX1_print_1 : List UInt8 := [79, 3, 172]
abbrev dktX1_print_1 : List UInt8 := dkwX1_print_1 ++ []
def dkwX1_print_0 : List UInt8 := [42, 180, 0, 29, 3, 46, 27, 96, 18, 78, 164, 0, 5, 8, 172, 42, 180, 0, 29, 3, 92, 46, 27, 96]
abbrev dktX1_print_0 : List UInt8 := dkwX1_print_0 ++ dktX1_print_1
theorem dksX1_print_0 : cX1_print.data.toList.drop 0 = dktX1_print_0 := by decide +kernel
theorem dksX1_print_1 : cX1_print.data.toList.drop 24 = dktX1_print_1 := dk_seg dksX1_print_0 24 rfl rfl
theorem dX1_print_0 : decode cX1_print 0 = .ok (.aload_n 0, 1) := dk_42 (dk_at dksX1_print_0 0 rfl rfl)
theorem dX1_print_1 : decode cX1_print 1 = .ok (.getfield 29, 3) := dk_180 0 29 (dk_at dksX1_print_0 1 rfl rfl)
theorem dX1_print_4 : decode cX1_print 4 = .ok (.iconst 0, 1) := dk_3 (dk_at dksX1_print_0 4 rfl rfl)
theorem dX1_print_5 : decode cX1_print 5 = .ok (.iaload, 1) := dk_46 (dk_at dksX1_print_0 5 rfl rfl)
theorem dX1_print_6 : decode cX1_print 6 = .ok (.iload_n 1, 1) := dk_27 (dk_at dksX1_print_0 6 rfl rfl)
theorem dX1_print_7 : decode cX1_print 7 = .ok (.iadd, 1) := dk_96 (dk_at dksX1_print_0 7 rfl rfl)
theorem dX1_print_8 : decode cX1_print 8 = .ok (.ldc 78, 2) := dk_18 78 (dk_at dksX1_print_0 8 rfl rfl)
theorem dX1_print_10 : decode cX1_print 10 = .ok (.if_icmp .le 5, 3) := dk_164 0 5 (dk_at dksX1_print_0 10 rfl rfl)
theorem dX1_print_13 : decode cX1_print 13 = .ok (.iconst 5, 1) := dk_8 (dk_at dksX1_print_0 13 rfl rfl)
theorem dX1_print_14 : decode cX1_print 14 = .ok (.ireturn, 1) := dk_172 (dk_at dksX1_print_0 14 rfl rfl)
theorem dX1_print_15 : decode cX1_print 15 = .ok (.aload_n 0, 1) := dk_42 (dk_at dksX1_print_0 15 rfl rfl)
theorem dX1_print_16 : decode cX1_print 16 = .ok (.getfield 29, 3) := dk_180 0 29 (dk_at dksX1_print_0 16 rfl rfl)
theorem dX1_print_19 : decode cX1_print 19 = .ok (.iconst 0, 1) := dk_3 (dk_at dksX1_print_0 19 rfl rfl)
theorem dX1_print_20 : decode cX1_print 20 = .ok (.dup2, 1) := dk_92 (dk_at dksX1_print_0 20 rfl rfl)
theorem dX1_print_21 : decode cX1_print 21 = .ok (.iaload, 1) := dk_46 (dk_at dksX1_print_0 21 rfl rfl)
theorem dX1_print_22 : decode cX1_print 22 = .ok (.iload_n 1, 1) := dk_27 (dk_at dksX1_print_0 22 rfl rfl)
theorem dX1_print_23 : decode cX1_print 23 = .ok (.iadd, 1) := dk_96 (dk_at dksX1_print_0 23 rfl rfl)
theorem dX1_print_24 : decode cX1_print 24 = .ok (.iastore, 1) := dk_79 (dk_at dksX1_print_1 0 rfl rfl)
theorem dX1_print_25 : decode cX1_print 25 = .ok (.iconst 0, 1) := dk_3 (dk_at dksX1_print_1 1 rfl rfl)
theorem dX1_print_26 : decode cX1_print 26 = .ok (.ireturn, 1) := dk_172 (dk_at dksX1_print_1 2 rfl rfl)
abbrev cX1_forge : ByteArray := prog_2_method_9_code
def yX1_forge : MethodName := ⟨RX1, "forge", "(II)I"⟩
def dkwX1_forge_2 : List UInt8 := [79, 3, 172]
abbrev dktX1_forge_2 : List UInt8 := dkwX1_forge_2 ++ []
def dkwX1_forge_1 : List UInt8 := [164, 0, 5, 8, 172, 42, 180, 0, 9, 27, 92, 46, 28, 96, 79, 42, 180, 0, 29, 4, 92, 46, 28, 96]
abbrev dktX1_forge_1 : List UInt8 := dkwX1_forge_1 ++ dktX1_forge_2
def dkwX1_forge_0 : List UInt8 := [42, 180, 0, 9, 27, 46, 28, 96, 17, 39, 15, 163, 0, 16, 42, 180, 0, 29, 4, 46, 28, 96, 18, 78]
abbrev dktX1_forge_0 : List UInt8 := dkwX1_forge_0 ++ dktX1_forge_1
theorem dksX1_forge_0 : cX1_forge.data.toList.drop 0 = dktX1_forge_0 := by decide +kernel
theorem dksX1_forge_1 : cX1_forge.data.toList.drop 24 = dktX1_forge_1 := dk_seg dksX1_forge_0 24 rfl rfl
theorem dksX1_forge_2 : cX1_forge.data.toList.drop 48 = dktX1_forge_2 := dk_seg dksX1_forge_1 24 rfl rfl
theorem dX1_forge_0 : decode cX1_forge 0 = .ok (.aload_n 0, 1) := dk_42 (dk_at dksX1_forge_0 0 rfl rfl)
theorem dX1_forge_1 : decode cX1_forge 1 = .ok (.getfield 9, 3) := dk_180 0 9 (dk_at dksX1_forge_0 1 rfl rfl)
theorem dX1_forge_4 : decode cX1_forge 4 = .ok (.iload_n 1, 1) := dk_27 (dk_at dksX1_forge_0 4 rfl rfl)
theorem dX1_forge_5 : decode cX1_forge 5 = .ok (.iaload, 1) := dk_46 (dk_at dksX1_forge_0 5 rfl rfl)
theorem dX1_forge_6 : decode cX1_forge 6 = .ok (.iload_n 2, 1) := dk_28 (dk_at dksX1_forge_0 6 rfl rfl)
theorem dX1_forge_7 : decode cX1_forge 7 = .ok (.iadd, 1) := dk_96 (dk_at dksX1_forge_0 7 rfl rfl)
theorem dX1_forge_8 : decode cX1_forge 8 = .ok (.sipush 9999, 3) := dk_17 39 15 (dk_at dksX1_forge_0 8 rfl rfl)
theorem dX1_forge_11 : decode cX1_forge 11 = .ok (.if_icmp .gt 16, 3) := dk_163 0 16 (dk_at dksX1_forge_0 11 rfl rfl)
theorem dX1_forge_14 : decode cX1_forge 14 = .ok (.aload_n 0, 1) := dk_42 (dk_at dksX1_forge_0 14 rfl rfl)
theorem dX1_forge_15 : decode cX1_forge 15 = .ok (.getfield 29, 3) := dk_180 0 29 (dk_at dksX1_forge_0 15 rfl rfl)
theorem dX1_forge_18 : decode cX1_forge 18 = .ok (.iconst 1, 1) := dk_4 (dk_at dksX1_forge_0 18 rfl rfl)
theorem dX1_forge_19 : decode cX1_forge 19 = .ok (.iaload, 1) := dk_46 (dk_at dksX1_forge_0 19 rfl rfl)
theorem dX1_forge_20 : decode cX1_forge 20 = .ok (.iload_n 2, 1) := dk_28 (dk_at dksX1_forge_0 20 rfl rfl)
theorem dX1_forge_21 : decode cX1_forge 21 = .ok (.iadd, 1) := dk_96 (dk_at dksX1_forge_0 21 rfl rfl)
theorem dX1_forge_22 : decode cX1_forge 22 = .ok (.ldc 78, 2) := dk_18 78 (dk_at dksX1_forge_0 22 rfl rfl)
theorem dX1_forge_24 : decode cX1_forge 24 = .ok (.if_icmp .le 5, 3) := dk_164 0 5 (dk_at dksX1_forge_1 0 rfl rfl)
theorem dX1_forge_27 : decode cX1_forge 27 = .ok (.iconst 5, 1) := dk_8 (dk_at dksX1_forge_1 3 rfl rfl)
theorem dX1_forge_28 : decode cX1_forge 28 = .ok (.ireturn, 1) := dk_172 (dk_at dksX1_forge_1 4 rfl rfl)
theorem dX1_forge_29 : decode cX1_forge 29 = .ok (.aload_n 0, 1) := dk_42 (dk_at dksX1_forge_1 5 rfl rfl)
theorem dX1_forge_30 : decode cX1_forge 30 = .ok (.getfield 9, 3) := dk_180 0 9 (dk_at dksX1_forge_1 6 rfl rfl)
theorem dX1_forge_33 : decode cX1_forge 33 = .ok (.iload_n 1, 1) := dk_27 (dk_at dksX1_forge_1 9 rfl rfl)
theorem dX1_forge_34 : decode cX1_forge 34 = .ok (.dup2, 1) := dk_92 (dk_at dksX1_forge_1 10 rfl rfl)
theorem dX1_forge_35 : decode cX1_forge 35 = .ok (.iaload, 1) := dk_46 (dk_at dksX1_forge_1 11 rfl rfl)
theorem dX1_forge_36 : decode cX1_forge 36 = .ok (.iload_n 2, 1) := dk_28 (dk_at dksX1_forge_1 12 rfl rfl)
theorem dX1_forge_37 : decode cX1_forge 37 = .ok (.iadd, 1) := dk_96 (dk_at dksX1_forge_1 13 rfl rfl)
theorem dX1_forge_38 : decode cX1_forge 38 = .ok (.iastore, 1) := dk_79 (dk_at dksX1_forge_1 14 rfl rfl)
theorem dX1_forge_39 : decode cX1_forge 39 = .ok (.aload_n 0, 1) := dk_42 (dk_at dksX1_forge_1 15 rfl rfl)
theorem dX1_forge_40 : decode cX1_forge 40 = .ok (.getfield 29, 3) := dk_180 0 29 (dk_at dksX1_forge_1 16 rfl rfl)
theorem dX1_forge_43 : decode cX1_forge 43 = .ok (.iconst 1, 1) := dk_4 (dk_at dksX1_forge_1 19 rfl rfl)
theorem dX1_forge_44 : decode cX1_forge 44 = .ok (.dup2, 1) := dk_92 (dk_at dksX1_forge_1 20 rfl rfl)
theorem dX1_forge_45 : decode cX1_forge 45 = .ok (.iaload, 1) := dk_46 (dk_at dksX1_forge_1 21 rfl rfl)
theorem dX1_forge_46 : decode cX1_forge 46 = .ok (.iload_n 2, 1) := dk_28 (dk_at dksX1_forge_1 22 rfl rfl)
theorem dX1_forge_47 : decode cX1_forge 47 = .ok (.iadd, 1) := dk_96 (dk_at dksX1_forge_1 23 rfl rfl)
theorem dX1_forge_48 : decode cX1_forge 48 = .ok (.iastore, 1) := dk_79 (dk_at dksX1_forge_2 0 rfl rfl)
theorem dX1_forge_49 : decode cX1_forge 49 = .ok (.iconst 0, 1) := dk_3 (dk_at dksX1_forge_2 1 rfl rfl)
theorem dX1_forge_50 : decode cX1_forge 50 = .ok (.ireturn, 1) := dk_172 (dk_at dksX1_forge_2 2 rfl rfl)
abbrev cX1_month : ByteArray := prog_2_method_14_code
def yX1_month : MethodName := ⟨RX1, "month", "()I"⟩
def dkwX1_month_0 : List UInt8 := [42, 180, 0, 57, 16, 99, 160, 0, 6, 16, 6, 172, 42, 89, 180, 0, 57, 4, 96, 181, 0, 57, 3, 172]
abbrev dktX1_month_0 : List UInt8 := dkwX1_month_0 ++ []
theorem dksX1_month_0 : cX1_month.data.toList.drop 0 = dktX1_month_0 := by decide +kernel
theorem dX1_month_0 : decode cX1_month 0 = .ok (.aload_n 0, 1) := dk_42 (dk_at dksX1_month_0 0 rfl rfl)
theorem dX1_month_1 : decode cX1_month 1 = .ok (.getfield 57, 3) := dk_180 0 57 (dk_at dksX1_month_0 1 rfl rfl)
theorem dX1_month_4 : decode cX1_month 4 = .ok (.bipush 99, 2) := dk_16 99 (dk_at dksX1_month_0 4 rfl rfl)
theorem dX1_month_6 : decode cX1_month 6 = .ok (.if_icmp .ne 6, 3) := dk_160 0 6 (dk_at dksX1_month_0 6 rfl rfl)
theorem dX1_month_9 : decode cX1_month 9 = .ok (.bipush 6, 2) := dk_16 6 (dk_at dksX1_month_0 9 rfl rfl)
theorem dX1_month_11 : decode cX1_month 11 = .ok (.ireturn, 1) := dk_172 (dk_at dksX1_month_0 11 rfl rfl)
theorem dX1_month_12 : decode cX1_month 12 = .ok (.aload_n 0, 1) := dk_42 (dk_at dksX1_month_0 12 rfl rfl)
theorem dX1_month_13 : decode cX1_month 13 = .ok (.dup, 1) := dk_89 (dk_at dksX1_month_0 13 rfl rfl)
theorem dX1_month_14 : decode cX1_month 14 = .ok (.getfield 57, 3) := dk_180 0 57 (dk_at dksX1_month_0 14 rfl rfl)
theorem dX1_month_17 : decode cX1_month 17 = .ok (.iconst 1, 1) := dk_4 (dk_at dksX1_month_0 17 rfl rfl)
theorem dX1_month_18 : decode cX1_month 18 = .ok (.iadd, 1) := dk_96 (dk_at dksX1_month_0 18 rfl rfl)
theorem dX1_month_19 : decode cX1_month 19 = .ok (.putfield 57, 3) := dk_181 0 57 (dk_at dksX1_month_0 19 rfl rfl)
theorem dX1_month_22 : decode cX1_month 22 = .ok (.iconst 0, 1) := dk_3 (dk_at dksX1_month_0 22 rfl rfl)
theorem dX1_month_23 : decode cX1_month 23 = .ok (.ireturn, 1) := dk_172 (dk_at dksX1_month_0 23 rfl rfl)
abbrev cX1_rate : ByteArray := prog_2_method_5_code
def yX1_rate : MethodName := ⟨RX1, "rate", "()I"⟩
def dkwX1_rate_0 : List UInt8 := [42, 182, 0, 63, 42, 182, 0, 67, 133, 184, 0, 70, 172]
abbrev dktX1_rate_0 : List UInt8 := dkwX1_rate_0 ++ []
theorem dksX1_rate_0 : cX1_rate.data.toList.drop 0 = dktX1_rate_0 := by decide +kernel
theorem dX1_rate_0 : decode cX1_rate 0 = .ok (.aload_n 0, 1) := dk_42 (dk_at dksX1_rate_0 0 rfl rfl)
theorem dX1_rate_1 : decode cX1_rate 1 = .ok (.invokevirtual 63, 3) := dk_182 0 63 (dk_at dksX1_rate_0 1 rfl rfl)
theorem dX1_rate_4 : decode cX1_rate 4 = .ok (.aload_n 0, 1) := dk_42 (dk_at dksX1_rate_0 4 rfl rfl)
theorem dX1_rate_5 : decode cX1_rate 5 = .ok (.invokevirtual 67, 3) := dk_182 0 67 (dk_at dksX1_rate_0 5 rfl rfl)
theorem dX1_rate_8 : decode cX1_rate 8 = .ok (.i2l, 1) := dk_133 (dk_at dksX1_rate_0 8 rfl rfl)
theorem dX1_rate_9 : decode cX1_rate 9 = .ok (.invokestatic 70, 3) := dk_184 0 70 (dk_at dksX1_rate_0 9 rfl rfl)
theorem dX1_rate_12 : decode cX1_rate 12 = .ok (.ireturn, 1) := dk_172 (dk_at dksX1_rate_0 12 rfl rfl)
abbrev cX1_land : ByteArray := prog_2_method_4_code
def yX1_land : MethodName := ⟨RX1, "land", "()I"⟩
def dkwX1_land_1 : List UInt8 := [28, 46, 167, 0, 4, 3, 96, 60, 132, 2, 1, 167, 255, 225, 27, 172]
abbrev dktX1_land_1 : List UInt8 := dkwX1_land_1 ++ []
def dkwX1_land_0 : List UInt8 := [3, 60, 3, 61, 28, 16, 8, 162, 0, 31, 27, 42, 180, 0, 26, 28, 46, 156, 0, 12, 42, 180, 0, 23]
abbrev dktX1_land_0 : List UInt8 := dkwX1_land_0 ++ dktX1_land_1
theorem dksX1_land_0 : cX1_land.data.toList.drop 0 = dktX1_land_0 := by decide +kernel
theorem dksX1_land_1 : cX1_land.data.toList.drop 24 = dktX1_land_1 := dk_seg dksX1_land_0 24 rfl rfl
theorem dX1_land_0 : decode cX1_land 0 = .ok (.iconst 0, 1) := dk_3 (dk_at dksX1_land_0 0 rfl rfl)
theorem dX1_land_1 : decode cX1_land 1 = .ok (.istore_n 1, 1) := dk_60 (dk_at dksX1_land_0 1 rfl rfl)
theorem dX1_land_2 : decode cX1_land 2 = .ok (.iconst 0, 1) := dk_3 (dk_at dksX1_land_0 2 rfl rfl)
theorem dX1_land_3 : decode cX1_land 3 = .ok (.istore_n 2, 1) := dk_61 (dk_at dksX1_land_0 3 rfl rfl)
theorem dX1_land_4 : decode cX1_land 4 = .ok (.iload_n 2, 1) := dk_28 (dk_at dksX1_land_0 4 rfl rfl)
theorem dX1_land_5 : decode cX1_land 5 = .ok (.bipush 8, 2) := dk_16 8 (dk_at dksX1_land_0 5 rfl rfl)
theorem dX1_land_7 : decode cX1_land 7 = .ok (.if_icmp .ge 31, 3) := dk_162 0 31 (dk_at dksX1_land_0 7 rfl rfl)
theorem dX1_land_10 : decode cX1_land 10 = .ok (.iload_n 1, 1) := dk_27 (dk_at dksX1_land_0 10 rfl rfl)
theorem dX1_land_11 : decode cX1_land 11 = .ok (.aload_n 0, 1) := dk_42 (dk_at dksX1_land_0 11 rfl rfl)
theorem dX1_land_12 : decode cX1_land 12 = .ok (.getfield 26, 3) := dk_180 0 26 (dk_at dksX1_land_0 12 rfl rfl)
theorem dX1_land_15 : decode cX1_land 15 = .ok (.iload_n 2, 1) := dk_28 (dk_at dksX1_land_0 15 rfl rfl)
theorem dX1_land_16 : decode cX1_land 16 = .ok (.iaload, 1) := dk_46 (dk_at dksX1_land_0 16 rfl rfl)
theorem dX1_land_17 : decode cX1_land 17 = .ok (.ifCond .ge 12, 3) := dk_156 0 12 (dk_at dksX1_land_0 17 rfl rfl)
theorem dX1_land_20 : decode cX1_land 20 = .ok (.aload_n 0, 1) := dk_42 (dk_at dksX1_land_0 20 rfl rfl)
theorem dX1_land_21 : decode cX1_land 21 = .ok (.getfield 23, 3) := dk_180 0 23 (dk_at dksX1_land_0 21 rfl rfl)
theorem dX1_land_24 : decode cX1_land 24 = .ok (.iload_n 2, 1) := dk_28 (dk_at dksX1_land_1 0 rfl rfl)
theorem dX1_land_25 : decode cX1_land 25 = .ok (.iaload, 1) := dk_46 (dk_at dksX1_land_1 1 rfl rfl)
theorem dX1_land_26 : decode cX1_land 26 = .ok (.goto 4, 3) := dk_167 0 4 (dk_at dksX1_land_1 2 rfl rfl)
theorem dX1_land_29 : decode cX1_land 29 = .ok (.iconst 0, 1) := dk_3 (dk_at dksX1_land_1 5 rfl rfl)
theorem dX1_land_30 : decode cX1_land 30 = .ok (.iadd, 1) := dk_96 (dk_at dksX1_land_1 6 rfl rfl)
theorem dX1_land_31 : decode cX1_land 31 = .ok (.istore_n 1, 1) := dk_60 (dk_at dksX1_land_1 7 rfl rfl)
theorem dX1_land_32 : decode cX1_land 32 = .ok (.iinc 2 1, 3) := dk_132 2 1 (dk_at dksX1_land_1 8 rfl rfl)
theorem dX1_land_35 : decode cX1_land 35 = .ok (.goto (-31), 3) := dk_167 255 225 (dk_at dksX1_land_1 11 rfl rfl)
theorem dX1_land_38 : decode cX1_land 38 = .ok (.iload_n 1, 1) := dk_27 (dk_at dksX1_land_1 14 rfl rfl)
theorem dX1_land_39 : decode cX1_land 39 = .ok (.ireturn, 1) := dk_172 (dk_at dksX1_land_1 15 rfl rfl)
abbrev cX1_notes : ByteArray := prog_2_method_3_code
def yX1_notes : MethodName := ⟨RX1, "notes", "()I"⟩
def dkwX1_notes_1 : List UInt8 := [44, 21, 4, 46, 54, 5, 27, 21, 5, 96, 60, 132, 4, 1, 167, 255, 236, 27, 172]
abbrev dktX1_notes_1 : List UInt8 := dkwX1_notes_1 ++ []
def dkwX1_notes_0 : List UInt8 := [42, 180, 0, 29, 3, 46, 60, 42, 180, 0, 9, 77, 44, 190, 62, 3, 54, 4, 21, 4, 29, 162, 0, 20]
abbrev dktX1_notes_0 : List UInt8 := dkwX1_notes_0 ++ dktX1_notes_1
theorem dksX1_notes_0 : cX1_notes.data.toList.drop 0 = dktX1_notes_0 := by decide +kernel
theorem dksX1_notes_1 : cX1_notes.data.toList.drop 24 = dktX1_notes_1 := dk_seg dksX1_notes_0 24 rfl rfl
theorem dX1_notes_0 : decode cX1_notes 0 = .ok (.aload_n 0, 1) := dk_42 (dk_at dksX1_notes_0 0 rfl rfl)
theorem dX1_notes_1 : decode cX1_notes 1 = .ok (.getfield 29, 3) := dk_180 0 29 (dk_at dksX1_notes_0 1 rfl rfl)
theorem dX1_notes_4 : decode cX1_notes 4 = .ok (.iconst 0, 1) := dk_3 (dk_at dksX1_notes_0 4 rfl rfl)
theorem dX1_notes_5 : decode cX1_notes 5 = .ok (.iaload, 1) := dk_46 (dk_at dksX1_notes_0 5 rfl rfl)
theorem dX1_notes_6 : decode cX1_notes 6 = .ok (.istore_n 1, 1) := dk_60 (dk_at dksX1_notes_0 6 rfl rfl)
theorem dX1_notes_7 : decode cX1_notes 7 = .ok (.aload_n 0, 1) := dk_42 (dk_at dksX1_notes_0 7 rfl rfl)
theorem dX1_notes_8 : decode cX1_notes 8 = .ok (.getfield 9, 3) := dk_180 0 9 (dk_at dksX1_notes_0 8 rfl rfl)
theorem dX1_notes_11 : decode cX1_notes 11 = .ok (.astore_n 2, 1) := dk_77 (dk_at dksX1_notes_0 11 rfl rfl)
theorem dX1_notes_12 : decode cX1_notes 12 = .ok (.aload_n 2, 1) := dk_44 (dk_at dksX1_notes_0 12 rfl rfl)
theorem dX1_notes_13 : decode cX1_notes 13 = .ok (.arraylength, 1) := dk_190 (dk_at dksX1_notes_0 13 rfl rfl)
theorem dX1_notes_14 : decode cX1_notes 14 = .ok (.istore_n 3, 1) := dk_62 (dk_at dksX1_notes_0 14 rfl rfl)
theorem dX1_notes_15 : decode cX1_notes 15 = .ok (.iconst 0, 1) := dk_3 (dk_at dksX1_notes_0 15 rfl rfl)
theorem dX1_notes_16 : decode cX1_notes 16 = .ok (.istore 4, 2) := dk_54 4 (dk_at dksX1_notes_0 16 rfl rfl)
theorem dX1_notes_18 : decode cX1_notes 18 = .ok (.iload 4, 2) := dk_21 4 (dk_at dksX1_notes_0 18 rfl rfl)
theorem dX1_notes_20 : decode cX1_notes 20 = .ok (.iload_n 3, 1) := dk_29 (dk_at dksX1_notes_0 20 rfl rfl)
theorem dX1_notes_21 : decode cX1_notes 21 = .ok (.if_icmp .ge 20, 3) := dk_162 0 20 (dk_at dksX1_notes_0 21 rfl rfl)
theorem dX1_notes_24 : decode cX1_notes 24 = .ok (.aload_n 2, 1) := dk_44 (dk_at dksX1_notes_1 0 rfl rfl)
theorem dX1_notes_25 : decode cX1_notes 25 = .ok (.iload 4, 2) := dk_21 4 (dk_at dksX1_notes_1 1 rfl rfl)
theorem dX1_notes_27 : decode cX1_notes 27 = .ok (.iaload, 1) := dk_46 (dk_at dksX1_notes_1 3 rfl rfl)
theorem dX1_notes_28 : decode cX1_notes 28 = .ok (.istore 5, 2) := dk_54 5 (dk_at dksX1_notes_1 4 rfl rfl)
theorem dX1_notes_30 : decode cX1_notes 30 = .ok (.iload_n 1, 1) := dk_27 (dk_at dksX1_notes_1 6 rfl rfl)
theorem dX1_notes_31 : decode cX1_notes 31 = .ok (.iload 5, 2) := dk_21 5 (dk_at dksX1_notes_1 7 rfl rfl)
theorem dX1_notes_33 : decode cX1_notes 33 = .ok (.iadd, 1) := dk_96 (dk_at dksX1_notes_1 9 rfl rfl)
theorem dX1_notes_34 : decode cX1_notes 34 = .ok (.istore_n 1, 1) := dk_60 (dk_at dksX1_notes_1 10 rfl rfl)
theorem dX1_notes_35 : decode cX1_notes 35 = .ok (.iinc 4 1, 3) := dk_132 4 1 (dk_at dksX1_notes_1 11 rfl rfl)
theorem dX1_notes_38 : decode cX1_notes 38 = .ok (.goto (-20), 3) := dk_167 255 236 (dk_at dksX1_notes_1 14 rfl rfl)
theorem dX1_notes_41 : decode cX1_notes 41 = .ok (.iload_n 1, 1) := dk_27 (dk_at dksX1_notes_1 17 rfl rfl)
theorem dX1_notes_42 : decode cX1_notes 42 = .ok (.ireturn, 1) := dk_172 (dk_at dksX1_notes_1 18 rfl rfl)
abbrev cX1_buy : ByteArray := prog_2_method_10_code
def yX1_buy : MethodName := ⟨RX1, "buy", "(II)I"⟩
def dkwX1_buy_2 : List UInt8 := [180, 0, 53, 42, 180, 0, 23, 28, 46, 96, 181, 0, 53, 42, 180, 0, 26, 28, 27, 79, 3, 172]
abbrev dktX1_buy_2 : List UInt8 := dkwX1_buy_2 ++ []
def dkwX1_buy_1 : List UInt8 := [162, 0, 5, 6, 172, 42, 180, 0, 9, 27, 92, 46, 42, 180, 0, 23, 28, 46, 100, 79, 42, 89]
abbrev dktX1_buy_1 : List UInt8 := dkwX1_buy_1 ++ dktX1_buy_2
def dkwX1_buy_0 : List UInt8 := [42, 180, 0, 26, 28, 46, 155, 0, 5, 5, 172, 42, 180, 0, 9, 27, 46, 42, 180, 0, 23, 28, 46]
abbrev dktX1_buy_0 : List UInt8 := dkwX1_buy_0 ++ dktX1_buy_1
theorem dksX1_buy_0 : cX1_buy.data.toList.drop 0 = dktX1_buy_0 := by decide +kernel
theorem dksX1_buy_1 : cX1_buy.data.toList.drop 23 = dktX1_buy_1 := dk_seg dksX1_buy_0 23 rfl rfl
theorem dksX1_buy_2 : cX1_buy.data.toList.drop 45 = dktX1_buy_2 := dk_seg dksX1_buy_1 22 rfl rfl
theorem dX1_buy_0 : decode cX1_buy 0 = .ok (.aload_n 0, 1) := dk_42 (dk_at dksX1_buy_0 0 rfl rfl)
theorem dX1_buy_1 : decode cX1_buy 1 = .ok (.getfield 26, 3) := dk_180 0 26 (dk_at dksX1_buy_0 1 rfl rfl)
theorem dX1_buy_4 : decode cX1_buy 4 = .ok (.iload_n 2, 1) := dk_28 (dk_at dksX1_buy_0 4 rfl rfl)
theorem dX1_buy_5 : decode cX1_buy 5 = .ok (.iaload, 1) := dk_46 (dk_at dksX1_buy_0 5 rfl rfl)
theorem dX1_buy_6 : decode cX1_buy 6 = .ok (.ifCond .lt 5, 3) := dk_155 0 5 (dk_at dksX1_buy_0 6 rfl rfl)
theorem dX1_buy_9 : decode cX1_buy 9 = .ok (.iconst 2, 1) := dk_5 (dk_at dksX1_buy_0 9 rfl rfl)
theorem dX1_buy_10 : decode cX1_buy 10 = .ok (.ireturn, 1) := dk_172 (dk_at dksX1_buy_0 10 rfl rfl)
theorem dX1_buy_11 : decode cX1_buy 11 = .ok (.aload_n 0, 1) := dk_42 (dk_at dksX1_buy_0 11 rfl rfl)
theorem dX1_buy_12 : decode cX1_buy 12 = .ok (.getfield 9, 3) := dk_180 0 9 (dk_at dksX1_buy_0 12 rfl rfl)
theorem dX1_buy_15 : decode cX1_buy 15 = .ok (.iload_n 1, 1) := dk_27 (dk_at dksX1_buy_0 15 rfl rfl)
theorem dX1_buy_16 : decode cX1_buy 16 = .ok (.iaload, 1) := dk_46 (dk_at dksX1_buy_0 16 rfl rfl)
theorem dX1_buy_17 : decode cX1_buy 17 = .ok (.aload_n 0, 1) := dk_42 (dk_at dksX1_buy_0 17 rfl rfl)
theorem dX1_buy_18 : decode cX1_buy 18 = .ok (.getfield 23, 3) := dk_180 0 23 (dk_at dksX1_buy_0 18 rfl rfl)
theorem dX1_buy_21 : decode cX1_buy 21 = .ok (.iload_n 2, 1) := dk_28 (dk_at dksX1_buy_0 21 rfl rfl)
theorem dX1_buy_22 : decode cX1_buy 22 = .ok (.iaload, 1) := dk_46 (dk_at dksX1_buy_0 22 rfl rfl)
theorem dX1_buy_23 : decode cX1_buy 23 = .ok (.if_icmp .ge 5, 3) := dk_162 0 5 (dk_at dksX1_buy_1 0 rfl rfl)
theorem dX1_buy_26 : decode cX1_buy 26 = .ok (.iconst 3, 1) := dk_6 (dk_at dksX1_buy_1 3 rfl rfl)
theorem dX1_buy_27 : decode cX1_buy 27 = .ok (.ireturn, 1) := dk_172 (dk_at dksX1_buy_1 4 rfl rfl)
theorem dX1_buy_28 : decode cX1_buy 28 = .ok (.aload_n 0, 1) := dk_42 (dk_at dksX1_buy_1 5 rfl rfl)
theorem dX1_buy_29 : decode cX1_buy 29 = .ok (.getfield 9, 3) := dk_180 0 9 (dk_at dksX1_buy_1 6 rfl rfl)
theorem dX1_buy_32 : decode cX1_buy 32 = .ok (.iload_n 1, 1) := dk_27 (dk_at dksX1_buy_1 9 rfl rfl)
theorem dX1_buy_33 : decode cX1_buy 33 = .ok (.dup2, 1) := dk_92 (dk_at dksX1_buy_1 10 rfl rfl)
theorem dX1_buy_34 : decode cX1_buy 34 = .ok (.iaload, 1) := dk_46 (dk_at dksX1_buy_1 11 rfl rfl)
theorem dX1_buy_35 : decode cX1_buy 35 = .ok (.aload_n 0, 1) := dk_42 (dk_at dksX1_buy_1 12 rfl rfl)
theorem dX1_buy_36 : decode cX1_buy 36 = .ok (.getfield 23, 3) := dk_180 0 23 (dk_at dksX1_buy_1 13 rfl rfl)
theorem dX1_buy_39 : decode cX1_buy 39 = .ok (.iload_n 2, 1) := dk_28 (dk_at dksX1_buy_1 16 rfl rfl)
theorem dX1_buy_40 : decode cX1_buy 40 = .ok (.iaload, 1) := dk_46 (dk_at dksX1_buy_1 17 rfl rfl)
theorem dX1_buy_41 : decode cX1_buy 41 = .ok (.isub, 1) := dk_100 (dk_at dksX1_buy_1 18 rfl rfl)
theorem dX1_buy_42 : decode cX1_buy 42 = .ok (.iastore, 1) := dk_79 (dk_at dksX1_buy_1 19 rfl rfl)
theorem dX1_buy_43 : decode cX1_buy 43 = .ok (.aload_n 0, 1) := dk_42 (dk_at dksX1_buy_1 20 rfl rfl)
theorem dX1_buy_44 : decode cX1_buy 44 = .ok (.dup, 1) := dk_89 (dk_at dksX1_buy_1 21 rfl rfl)
theorem dX1_buy_45 : decode cX1_buy 45 = .ok (.getfield 53, 3) := dk_180 0 53 (dk_at dksX1_buy_2 0 rfl rfl)
theorem dX1_buy_48 : decode cX1_buy 48 = .ok (.aload_n 0, 1) := dk_42 (dk_at dksX1_buy_2 3 rfl rfl)
theorem dX1_buy_49 : decode cX1_buy 49 = .ok (.getfield 23, 3) := dk_180 0 23 (dk_at dksX1_buy_2 4 rfl rfl)
theorem dX1_buy_52 : decode cX1_buy 52 = .ok (.iload_n 2, 1) := dk_28 (dk_at dksX1_buy_2 7 rfl rfl)
theorem dX1_buy_53 : decode cX1_buy 53 = .ok (.iaload, 1) := dk_46 (dk_at dksX1_buy_2 8 rfl rfl)
theorem dX1_buy_54 : decode cX1_buy 54 = .ok (.iadd, 1) := dk_96 (dk_at dksX1_buy_2 9 rfl rfl)
theorem dX1_buy_55 : decode cX1_buy 55 = .ok (.putfield 53, 3) := dk_181 0 53 (dk_at dksX1_buy_2 10 rfl rfl)
theorem dX1_buy_58 : decode cX1_buy 58 = .ok (.aload_n 0, 1) := dk_42 (dk_at dksX1_buy_2 13 rfl rfl)
theorem dX1_buy_59 : decode cX1_buy 59 = .ok (.getfield 26, 3) := dk_180 0 26 (dk_at dksX1_buy_2 14 rfl rfl)
theorem dX1_buy_62 : decode cX1_buy 62 = .ok (.iload_n 2, 1) := dk_28 (dk_at dksX1_buy_2 17 rfl rfl)
theorem dX1_buy_63 : decode cX1_buy 63 = .ok (.iload_n 1, 1) := dk_27 (dk_at dksX1_buy_2 18 rfl rfl)
theorem dX1_buy_64 : decode cX1_buy 64 = .ok (.iastore, 1) := dk_79 (dk_at dksX1_buy_2 19 rfl rfl)
theorem dX1_buy_65 : decode cX1_buy 65 = .ok (.iconst 0, 1) := dk_3 (dk_at dksX1_buy_2 20 rfl rfl)
theorem dX1_buy_66 : decode cX1_buy 66 = .ok (.ireturn, 1) := dk_172 (dk_at dksX1_buy_2 21 rfl rfl)
abbrev cX1_change : ByteArray := prog_2_method_11_code
def yX1_change : MethodName := ⟨RX1, "change", "(II)I"⟩
def dkwX1_change_3 : List UInt8 := [79, 42, 180, 0, 29, 3, 92, 46, 28, 96, 79, 3, 172]
abbrev dktX1_change_3 : List UInt8 := dkwX1_change_3 ++ []
def dkwX1_change_2 : List UInt8 := [164, 0, 5, 8, 172, 42, 180, 0, 15, 27, 92, 46, 29, 96, 79, 42, 180, 0, 9, 27, 92, 46, 28, 100]
abbrev dktX1_change_2 : List UInt8 := dkwX1_change_2 ++ dktX1_change_3
def dkwX1_change_1 : List UInt8 := [180, 0, 15, 27, 46, 29, 96, 17, 39, 15, 163, 0, 16, 42, 180, 0, 29, 3, 46, 28, 96, 18, 78]
abbrev dktX1_change_1 : List UInt8 := dkwX1_change_1 ++ dktX1_change_2
def dkwX1_change_0 : List UInt8 := [42, 180, 0, 9, 27, 46, 28, 162, 0, 5, 6, 172, 42, 182, 0, 79, 28, 104, 16, 100, 108, 62, 42]
abbrev dktX1_change_0 : List UInt8 := dkwX1_change_0 ++ dktX1_change_1
theorem dksX1_change_0 : cX1_change.data.toList.drop 0 = dktX1_change_0 := by decide +kernel
theorem dksX1_change_1 : cX1_change.data.toList.drop 23 = dktX1_change_1 := dk_seg dksX1_change_0 23 rfl rfl
theorem dksX1_change_2 : cX1_change.data.toList.drop 46 = dktX1_change_2 := dk_seg dksX1_change_1 23 rfl rfl
theorem dksX1_change_3 : cX1_change.data.toList.drop 70 = dktX1_change_3 := dk_seg dksX1_change_2 24 rfl rfl
theorem dX1_change_0 : decode cX1_change 0 = .ok (.aload_n 0, 1) := dk_42 (dk_at dksX1_change_0 0 rfl rfl)
theorem dX1_change_1 : decode cX1_change 1 = .ok (.getfield 9, 3) := dk_180 0 9 (dk_at dksX1_change_0 1 rfl rfl)
theorem dX1_change_4 : decode cX1_change 4 = .ok (.iload_n 1, 1) := dk_27 (dk_at dksX1_change_0 4 rfl rfl)
theorem dX1_change_5 : decode cX1_change 5 = .ok (.iaload, 1) := dk_46 (dk_at dksX1_change_0 5 rfl rfl)
theorem dX1_change_6 : decode cX1_change 6 = .ok (.iload_n 2, 1) := dk_28 (dk_at dksX1_change_0 6 rfl rfl)
theorem dX1_change_7 : decode cX1_change 7 = .ok (.if_icmp .ge 5, 3) := dk_162 0 5 (dk_at dksX1_change_0 7 rfl rfl)
theorem dX1_change_10 : decode cX1_change 10 = .ok (.iconst 3, 1) := dk_6 (dk_at dksX1_change_0 10 rfl rfl)
theorem dX1_change_11 : decode cX1_change 11 = .ok (.ireturn, 1) := dk_172 (dk_at dksX1_change_0 11 rfl rfl)
theorem dX1_change_12 : decode cX1_change 12 = .ok (.aload_n 0, 1) := dk_42 (dk_at dksX1_change_0 12 rfl rfl)
theorem dX1_change_13 : decode cX1_change 13 = .ok (.invokevirtual 79, 3) := dk_182 0 79 (dk_at dksX1_change_0 13 rfl rfl)
theorem dX1_change_16 : decode cX1_change 16 = .ok (.iload_n 2, 1) := dk_28 (dk_at dksX1_change_0 16 rfl rfl)
theorem dX1_change_17 : decode cX1_change 17 = .ok (.imul, 1) := dk_104 (dk_at dksX1_change_0 17 rfl rfl)
theorem dX1_change_18 : decode cX1_change 18 = .ok (.bipush 100, 2) := dk_16 100 (dk_at dksX1_change_0 18 rfl rfl)
theorem dX1_change_20 : decode cX1_change 20 = .ok (.idiv, 1) := dk_108 (dk_at dksX1_change_0 20 rfl rfl)
theorem dX1_change_21 : decode cX1_change 21 = .ok (.istore_n 3, 1) := dk_62 (dk_at dksX1_change_0 21 rfl rfl)
theorem dX1_change_22 : decode cX1_change 22 = .ok (.aload_n 0, 1) := dk_42 (dk_at dksX1_change_0 22 rfl rfl)
theorem dX1_change_23 : decode cX1_change 23 = .ok (.getfield 15, 3) := dk_180 0 15 (dk_at dksX1_change_1 0 rfl rfl)
theorem dX1_change_26 : decode cX1_change 26 = .ok (.iload_n 1, 1) := dk_27 (dk_at dksX1_change_1 3 rfl rfl)
theorem dX1_change_27 : decode cX1_change 27 = .ok (.iaload, 1) := dk_46 (dk_at dksX1_change_1 4 rfl rfl)
theorem dX1_change_28 : decode cX1_change 28 = .ok (.iload_n 3, 1) := dk_29 (dk_at dksX1_change_1 5 rfl rfl)
theorem dX1_change_29 : decode cX1_change 29 = .ok (.iadd, 1) := dk_96 (dk_at dksX1_change_1 6 rfl rfl)
theorem dX1_change_30 : decode cX1_change 30 = .ok (.sipush 9999, 3) := dk_17 39 15 (dk_at dksX1_change_1 7 rfl rfl)
theorem dX1_change_33 : decode cX1_change 33 = .ok (.if_icmp .gt 16, 3) := dk_163 0 16 (dk_at dksX1_change_1 10 rfl rfl)
theorem dX1_change_36 : decode cX1_change 36 = .ok (.aload_n 0, 1) := dk_42 (dk_at dksX1_change_1 13 rfl rfl)
theorem dX1_change_37 : decode cX1_change 37 = .ok (.getfield 29, 3) := dk_180 0 29 (dk_at dksX1_change_1 14 rfl rfl)
theorem dX1_change_40 : decode cX1_change 40 = .ok (.iconst 0, 1) := dk_3 (dk_at dksX1_change_1 17 rfl rfl)
theorem dX1_change_41 : decode cX1_change 41 = .ok (.iaload, 1) := dk_46 (dk_at dksX1_change_1 18 rfl rfl)
theorem dX1_change_42 : decode cX1_change 42 = .ok (.iload_n 2, 1) := dk_28 (dk_at dksX1_change_1 19 rfl rfl)
theorem dX1_change_43 : decode cX1_change 43 = .ok (.iadd, 1) := dk_96 (dk_at dksX1_change_1 20 rfl rfl)
theorem dX1_change_44 : decode cX1_change 44 = .ok (.ldc 78, 2) := dk_18 78 (dk_at dksX1_change_1 21 rfl rfl)
theorem dX1_change_46 : decode cX1_change 46 = .ok (.if_icmp .le 5, 3) := dk_164 0 5 (dk_at dksX1_change_2 0 rfl rfl)
theorem dX1_change_49 : decode cX1_change 49 = .ok (.iconst 5, 1) := dk_8 (dk_at dksX1_change_2 3 rfl rfl)
theorem dX1_change_50 : decode cX1_change 50 = .ok (.ireturn, 1) := dk_172 (dk_at dksX1_change_2 4 rfl rfl)
theorem dX1_change_51 : decode cX1_change 51 = .ok (.aload_n 0, 1) := dk_42 (dk_at dksX1_change_2 5 rfl rfl)
theorem dX1_change_52 : decode cX1_change 52 = .ok (.getfield 15, 3) := dk_180 0 15 (dk_at dksX1_change_2 6 rfl rfl)
theorem dX1_change_55 : decode cX1_change 55 = .ok (.iload_n 1, 1) := dk_27 (dk_at dksX1_change_2 9 rfl rfl)
theorem dX1_change_56 : decode cX1_change 56 = .ok (.dup2, 1) := dk_92 (dk_at dksX1_change_2 10 rfl rfl)
theorem dX1_change_57 : decode cX1_change 57 = .ok (.iaload, 1) := dk_46 (dk_at dksX1_change_2 11 rfl rfl)
theorem dX1_change_58 : decode cX1_change 58 = .ok (.iload_n 3, 1) := dk_29 (dk_at dksX1_change_2 12 rfl rfl)
theorem dX1_change_59 : decode cX1_change 59 = .ok (.iadd, 1) := dk_96 (dk_at dksX1_change_2 13 rfl rfl)
theorem dX1_change_60 : decode cX1_change 60 = .ok (.iastore, 1) := dk_79 (dk_at dksX1_change_2 14 rfl rfl)
theorem dX1_change_61 : decode cX1_change 61 = .ok (.aload_n 0, 1) := dk_42 (dk_at dksX1_change_2 15 rfl rfl)
theorem dX1_change_62 : decode cX1_change 62 = .ok (.getfield 9, 3) := dk_180 0 9 (dk_at dksX1_change_2 16 rfl rfl)
theorem dX1_change_65 : decode cX1_change 65 = .ok (.iload_n 1, 1) := dk_27 (dk_at dksX1_change_2 19 rfl rfl)
theorem dX1_change_66 : decode cX1_change 66 = .ok (.dup2, 1) := dk_92 (dk_at dksX1_change_2 20 rfl rfl)
theorem dX1_change_67 : decode cX1_change 67 = .ok (.iaload, 1) := dk_46 (dk_at dksX1_change_2 21 rfl rfl)
theorem dX1_change_68 : decode cX1_change 68 = .ok (.iload_n 2, 1) := dk_28 (dk_at dksX1_change_2 22 rfl rfl)
theorem dX1_change_69 : decode cX1_change 69 = .ok (.isub, 1) := dk_100 (dk_at dksX1_change_2 23 rfl rfl)
theorem dX1_change_70 : decode cX1_change 70 = .ok (.iastore, 1) := dk_79 (dk_at dksX1_change_3 0 rfl rfl)
theorem dX1_change_71 : decode cX1_change 71 = .ok (.aload_n 0, 1) := dk_42 (dk_at dksX1_change_3 1 rfl rfl)
theorem dX1_change_72 : decode cX1_change 72 = .ok (.getfield 29, 3) := dk_180 0 29 (dk_at dksX1_change_3 2 rfl rfl)
theorem dX1_change_75 : decode cX1_change 75 = .ok (.iconst 0, 1) := dk_3 (dk_at dksX1_change_3 5 rfl rfl)
theorem dX1_change_76 : decode cX1_change 76 = .ok (.dup2, 1) := dk_92 (dk_at dksX1_change_3 6 rfl rfl)
theorem dX1_change_77 : decode cX1_change 77 = .ok (.iaload, 1) := dk_46 (dk_at dksX1_change_3 7 rfl rfl)
theorem dX1_change_78 : decode cX1_change 78 = .ok (.iload_n 2, 1) := dk_28 (dk_at dksX1_change_3 8 rfl rfl)
theorem dX1_change_79 : decode cX1_change 79 = .ok (.iadd, 1) := dk_96 (dk_at dksX1_change_3 9 rfl rfl)
theorem dX1_change_80 : decode cX1_change 80 = .ok (.iastore, 1) := dk_79 (dk_at dksX1_change_3 10 rfl rfl)
theorem dX1_change_81 : decode cX1_change 81 = .ok (.iconst 0, 1) := dk_3 (dk_at dksX1_change_3 11 rfl rfl)
theorem dX1_change_82 : decode cX1_change 82 = .ok (.ireturn, 1) := dk_172 (dk_at dksX1_change_3 12 rfl rfl)
abbrev cX1_pay : ByteArray := prog_2_method_12_code
def yX1_pay : MethodName := ⟨RX1, "pay", "(II)I"⟩
def dkwX1_pay_3 : List UInt8 := [50, 28, 92, 46, 29, 100, 79, 3, 172]
abbrev dktX1_pay_3 : List UInt8 := dkwX1_pay_3 ++ []
def dkwX1_pay_2 : List UInt8 := [180, 0, 9, 27, 92, 46, 29, 100, 79, 42, 180, 0, 9, 28, 92, 46, 29, 96, 79, 42, 180, 0, 20, 27]
abbrev dktX1_pay_2 : List UInt8 := dkwX1_pay_2 ++ dktX1_pay_3
def dkwX1_pay_1 : List UInt8 := [62, 29, 154, 0, 5, 7, 172, 42, 180, 0, 9, 28, 46, 29, 96, 17, 39, 15, 164, 0, 5, 8, 172, 42]
abbrev dktX1_pay_1 : List UInt8 := dkwX1_pay_1 ++ dktX1_pay_2
def dkwX1_pay_0 : List UInt8 := [27, 28, 160, 0, 5, 4, 172, 42, 180, 0, 20, 27, 50, 28, 46, 42, 180, 0, 9, 27, 46, 184, 0, 82]
abbrev dktX1_pay_0 : List UInt8 := dkwX1_pay_0 ++ dktX1_pay_1
theorem dksX1_pay_0 : cX1_pay.data.toList.drop 0 = dktX1_pay_0 := by decide +kernel
theorem dksX1_pay_1 : cX1_pay.data.toList.drop 24 = dktX1_pay_1 := dk_seg dksX1_pay_0 24 rfl rfl
theorem dksX1_pay_2 : cX1_pay.data.toList.drop 48 = dktX1_pay_2 := dk_seg dksX1_pay_1 24 rfl rfl
theorem dksX1_pay_3 : cX1_pay.data.toList.drop 72 = dktX1_pay_3 := dk_seg dksX1_pay_2 24 rfl rfl
theorem dX1_pay_0 : decode cX1_pay 0 = .ok (.iload_n 1, 1) := dk_27 (dk_at dksX1_pay_0 0 rfl rfl)
theorem dX1_pay_1 : decode cX1_pay 1 = .ok (.iload_n 2, 1) := dk_28 (dk_at dksX1_pay_0 1 rfl rfl)
theorem dX1_pay_2 : decode cX1_pay 2 = .ok (.if_icmp .ne 5, 3) := dk_160 0 5 (dk_at dksX1_pay_0 2 rfl rfl)
theorem dX1_pay_5 : decode cX1_pay 5 = .ok (.iconst 1, 1) := dk_4 (dk_at dksX1_pay_0 5 rfl rfl)
theorem dX1_pay_6 : decode cX1_pay 6 = .ok (.ireturn, 1) := dk_172 (dk_at dksX1_pay_0 6 rfl rfl)
theorem dX1_pay_7 : decode cX1_pay 7 = .ok (.aload_n 0, 1) := dk_42 (dk_at dksX1_pay_0 7 rfl rfl)
theorem dX1_pay_8 : decode cX1_pay 8 = .ok (.getfield 20, 3) := dk_180 0 20 (dk_at dksX1_pay_0 8 rfl rfl)
theorem dX1_pay_11 : decode cX1_pay 11 = .ok (.iload_n 1, 1) := dk_27 (dk_at dksX1_pay_0 11 rfl rfl)
theorem dX1_pay_12 : decode cX1_pay 12 = .ok (.aaload, 1) := dk_50 (dk_at dksX1_pay_0 12 rfl rfl)
theorem dX1_pay_13 : decode cX1_pay 13 = .ok (.iload_n 2, 1) := dk_28 (dk_at dksX1_pay_0 13 rfl rfl)
theorem dX1_pay_14 : decode cX1_pay 14 = .ok (.iaload, 1) := dk_46 (dk_at dksX1_pay_0 14 rfl rfl)
theorem dX1_pay_15 : decode cX1_pay 15 = .ok (.aload_n 0, 1) := dk_42 (dk_at dksX1_pay_0 15 rfl rfl)
theorem dX1_pay_16 : decode cX1_pay 16 = .ok (.getfield 9, 3) := dk_180 0 9 (dk_at dksX1_pay_0 16 rfl rfl)
theorem dX1_pay_19 : decode cX1_pay 19 = .ok (.iload_n 1, 1) := dk_27 (dk_at dksX1_pay_0 19 rfl rfl)
theorem dX1_pay_20 : decode cX1_pay 20 = .ok (.iaload, 1) := dk_46 (dk_at dksX1_pay_0 20 rfl rfl)
theorem dX1_pay_21 : decode cX1_pay 21 = .ok (.invokestatic 82, 3) := dk_184 0 82 (dk_at dksX1_pay_0 21 rfl rfl)
theorem dX1_pay_24 : decode cX1_pay 24 = .ok (.istore_n 3, 1) := dk_62 (dk_at dksX1_pay_1 0 rfl rfl)
theorem dX1_pay_25 : decode cX1_pay 25 = .ok (.iload_n 3, 1) := dk_29 (dk_at dksX1_pay_1 1 rfl rfl)
theorem dX1_pay_26 : decode cX1_pay 26 = .ok (.ifCond .ne 5, 3) := dk_154 0 5 (dk_at dksX1_pay_1 2 rfl rfl)
theorem dX1_pay_29 : decode cX1_pay 29 = .ok (.iconst 4, 1) := dk_7 (dk_at dksX1_pay_1 5 rfl rfl)
theorem dX1_pay_30 : decode cX1_pay 30 = .ok (.ireturn, 1) := dk_172 (dk_at dksX1_pay_1 6 rfl rfl)
theorem dX1_pay_31 : decode cX1_pay 31 = .ok (.aload_n 0, 1) := dk_42 (dk_at dksX1_pay_1 7 rfl rfl)
theorem dX1_pay_32 : decode cX1_pay 32 = .ok (.getfield 9, 3) := dk_180 0 9 (dk_at dksX1_pay_1 8 rfl rfl)
theorem dX1_pay_35 : decode cX1_pay 35 = .ok (.iload_n 2, 1) := dk_28 (dk_at dksX1_pay_1 11 rfl rfl)
theorem dX1_pay_36 : decode cX1_pay 36 = .ok (.iaload, 1) := dk_46 (dk_at dksX1_pay_1 12 rfl rfl)
theorem dX1_pay_37 : decode cX1_pay 37 = .ok (.iload_n 3, 1) := dk_29 (dk_at dksX1_pay_1 13 rfl rfl)
theorem dX1_pay_38 : decode cX1_pay 38 = .ok (.iadd, 1) := dk_96 (dk_at dksX1_pay_1 14 rfl rfl)
theorem dX1_pay_39 : decode cX1_pay 39 = .ok (.sipush 9999, 3) := dk_17 39 15 (dk_at dksX1_pay_1 15 rfl rfl)
theorem dX1_pay_42 : decode cX1_pay 42 = .ok (.if_icmp .le 5, 3) := dk_164 0 5 (dk_at dksX1_pay_1 18 rfl rfl)
theorem dX1_pay_45 : decode cX1_pay 45 = .ok (.iconst 5, 1) := dk_8 (dk_at dksX1_pay_1 21 rfl rfl)
theorem dX1_pay_46 : decode cX1_pay 46 = .ok (.ireturn, 1) := dk_172 (dk_at dksX1_pay_1 22 rfl rfl)
theorem dX1_pay_47 : decode cX1_pay 47 = .ok (.aload_n 0, 1) := dk_42 (dk_at dksX1_pay_1 23 rfl rfl)
theorem dX1_pay_48 : decode cX1_pay 48 = .ok (.getfield 9, 3) := dk_180 0 9 (dk_at dksX1_pay_2 0 rfl rfl)
theorem dX1_pay_51 : decode cX1_pay 51 = .ok (.iload_n 1, 1) := dk_27 (dk_at dksX1_pay_2 3 rfl rfl)
theorem dX1_pay_52 : decode cX1_pay 52 = .ok (.dup2, 1) := dk_92 (dk_at dksX1_pay_2 4 rfl rfl)
theorem dX1_pay_53 : decode cX1_pay 53 = .ok (.iaload, 1) := dk_46 (dk_at dksX1_pay_2 5 rfl rfl)
theorem dX1_pay_54 : decode cX1_pay 54 = .ok (.iload_n 3, 1) := dk_29 (dk_at dksX1_pay_2 6 rfl rfl)
theorem dX1_pay_55 : decode cX1_pay 55 = .ok (.isub, 1) := dk_100 (dk_at dksX1_pay_2 7 rfl rfl)
theorem dX1_pay_56 : decode cX1_pay 56 = .ok (.iastore, 1) := dk_79 (dk_at dksX1_pay_2 8 rfl rfl)
theorem dX1_pay_57 : decode cX1_pay 57 = .ok (.aload_n 0, 1) := dk_42 (dk_at dksX1_pay_2 9 rfl rfl)
theorem dX1_pay_58 : decode cX1_pay 58 = .ok (.getfield 9, 3) := dk_180 0 9 (dk_at dksX1_pay_2 10 rfl rfl)
theorem dX1_pay_61 : decode cX1_pay 61 = .ok (.iload_n 2, 1) := dk_28 (dk_at dksX1_pay_2 13 rfl rfl)
theorem dX1_pay_62 : decode cX1_pay 62 = .ok (.dup2, 1) := dk_92 (dk_at dksX1_pay_2 14 rfl rfl)
theorem dX1_pay_63 : decode cX1_pay 63 = .ok (.iaload, 1) := dk_46 (dk_at dksX1_pay_2 15 rfl rfl)
theorem dX1_pay_64 : decode cX1_pay 64 = .ok (.iload_n 3, 1) := dk_29 (dk_at dksX1_pay_2 16 rfl rfl)
theorem dX1_pay_65 : decode cX1_pay 65 = .ok (.iadd, 1) := dk_96 (dk_at dksX1_pay_2 17 rfl rfl)
theorem dX1_pay_66 : decode cX1_pay 66 = .ok (.iastore, 1) := dk_79 (dk_at dksX1_pay_2 18 rfl rfl)
theorem dX1_pay_67 : decode cX1_pay 67 = .ok (.aload_n 0, 1) := dk_42 (dk_at dksX1_pay_2 19 rfl rfl)
theorem dX1_pay_68 : decode cX1_pay 68 = .ok (.getfield 20, 3) := dk_180 0 20 (dk_at dksX1_pay_2 20 rfl rfl)
theorem dX1_pay_71 : decode cX1_pay 71 = .ok (.iload_n 1, 1) := dk_27 (dk_at dksX1_pay_2 23 rfl rfl)
theorem dX1_pay_72 : decode cX1_pay 72 = .ok (.aaload, 1) := dk_50 (dk_at dksX1_pay_3 0 rfl rfl)
theorem dX1_pay_73 : decode cX1_pay 73 = .ok (.iload_n 2, 1) := dk_28 (dk_at dksX1_pay_3 1 rfl rfl)
theorem dX1_pay_74 : decode cX1_pay 74 = .ok (.dup2, 1) := dk_92 (dk_at dksX1_pay_3 2 rfl rfl)
theorem dX1_pay_75 : decode cX1_pay 75 = .ok (.iaload, 1) := dk_46 (dk_at dksX1_pay_3 3 rfl rfl)
theorem dX1_pay_76 : decode cX1_pay 76 = .ok (.iload_n 3, 1) := dk_29 (dk_at dksX1_pay_3 4 rfl rfl)
theorem dX1_pay_77 : decode cX1_pay 77 = .ok (.isub, 1) := dk_100 (dk_at dksX1_pay_3 5 rfl rfl)
theorem dX1_pay_78 : decode cX1_pay 78 = .ok (.iastore, 1) := dk_79 (dk_at dksX1_pay_3 6 rfl rfl)
theorem dX1_pay_79 : decode cX1_pay 79 = .ok (.iconst 0, 1) := dk_3 (dk_at dksX1_pay_3 7 rfl rfl)
theorem dX1_pay_80 : decode cX1_pay 80 = .ok (.ireturn, 1) := dk_172 (dk_at dksX1_pay_3 8 rfl rfl)
abbrev cX1_spend : ByteArray := prog_2_method_13_code
def yX1_spend : MethodName := ⟨RX1, "spend", "(II)I"⟩
def dkwX1_spend_2 : List UInt8 := [79, 3, 172]
abbrev dktX1_spend_2 : List UInt8 := dkwX1_spend_2 ++ []
def dkwX1_spend_1 : List UInt8 := [164, 0, 5, 8, 172, 42, 180, 0, 29, 3, 92, 46, 28, 100, 79, 42, 180, 0, 9, 27, 92, 46, 28, 96]
abbrev dktX1_spend_1 : List UInt8 := dkwX1_spend_1 ++ dktX1_spend_2
def dkwX1_spend_0 : List UInt8 := [42, 180, 0, 29, 3, 46, 28, 162, 0, 5, 6, 172, 42, 180, 0, 9, 27, 46, 28, 96, 17, 39, 15]
abbrev dktX1_spend_0 : List UInt8 := dkwX1_spend_0 ++ dktX1_spend_1
theorem dksX1_spend_0 : cX1_spend.data.toList.drop 0 = dktX1_spend_0 := by decide +kernel
theorem dksX1_spend_1 : cX1_spend.data.toList.drop 23 = dktX1_spend_1 := dk_seg dksX1_spend_0 23 rfl rfl
theorem dksX1_spend_2 : cX1_spend.data.toList.drop 47 = dktX1_spend_2 := dk_seg dksX1_spend_1 24 rfl rfl
theorem dX1_spend_0 : decode cX1_spend 0 = .ok (.aload_n 0, 1) := dk_42 (dk_at dksX1_spend_0 0 rfl rfl)
theorem dX1_spend_1 : decode cX1_spend 1 = .ok (.getfield 29, 3) := dk_180 0 29 (dk_at dksX1_spend_0 1 rfl rfl)
theorem dX1_spend_4 : decode cX1_spend 4 = .ok (.iconst 0, 1) := dk_3 (dk_at dksX1_spend_0 4 rfl rfl)
theorem dX1_spend_5 : decode cX1_spend 5 = .ok (.iaload, 1) := dk_46 (dk_at dksX1_spend_0 5 rfl rfl)
theorem dX1_spend_6 : decode cX1_spend 6 = .ok (.iload_n 2, 1) := dk_28 (dk_at dksX1_spend_0 6 rfl rfl)
theorem dX1_spend_7 : decode cX1_spend 7 = .ok (.if_icmp .ge 5, 3) := dk_162 0 5 (dk_at dksX1_spend_0 7 rfl rfl)
theorem dX1_spend_10 : decode cX1_spend 10 = .ok (.iconst 3, 1) := dk_6 (dk_at dksX1_spend_0 10 rfl rfl)
theorem dX1_spend_11 : decode cX1_spend 11 = .ok (.ireturn, 1) := dk_172 (dk_at dksX1_spend_0 11 rfl rfl)
theorem dX1_spend_12 : decode cX1_spend 12 = .ok (.aload_n 0, 1) := dk_42 (dk_at dksX1_spend_0 12 rfl rfl)
theorem dX1_spend_13 : decode cX1_spend 13 = .ok (.getfield 9, 3) := dk_180 0 9 (dk_at dksX1_spend_0 13 rfl rfl)
theorem dX1_spend_16 : decode cX1_spend 16 = .ok (.iload_n 1, 1) := dk_27 (dk_at dksX1_spend_0 16 rfl rfl)
theorem dX1_spend_17 : decode cX1_spend 17 = .ok (.iaload, 1) := dk_46 (dk_at dksX1_spend_0 17 rfl rfl)
theorem dX1_spend_18 : decode cX1_spend 18 = .ok (.iload_n 2, 1) := dk_28 (dk_at dksX1_spend_0 18 rfl rfl)
theorem dX1_spend_19 : decode cX1_spend 19 = .ok (.iadd, 1) := dk_96 (dk_at dksX1_spend_0 19 rfl rfl)
theorem dX1_spend_20 : decode cX1_spend 20 = .ok (.sipush 9999, 3) := dk_17 39 15 (dk_at dksX1_spend_0 20 rfl rfl)
theorem dX1_spend_23 : decode cX1_spend 23 = .ok (.if_icmp .le 5, 3) := dk_164 0 5 (dk_at dksX1_spend_1 0 rfl rfl)
theorem dX1_spend_26 : decode cX1_spend 26 = .ok (.iconst 5, 1) := dk_8 (dk_at dksX1_spend_1 3 rfl rfl)
theorem dX1_spend_27 : decode cX1_spend 27 = .ok (.ireturn, 1) := dk_172 (dk_at dksX1_spend_1 4 rfl rfl)
theorem dX1_spend_28 : decode cX1_spend 28 = .ok (.aload_n 0, 1) := dk_42 (dk_at dksX1_spend_1 5 rfl rfl)
theorem dX1_spend_29 : decode cX1_spend 29 = .ok (.getfield 29, 3) := dk_180 0 29 (dk_at dksX1_spend_1 6 rfl rfl)
theorem dX1_spend_32 : decode cX1_spend 32 = .ok (.iconst 0, 1) := dk_3 (dk_at dksX1_spend_1 9 rfl rfl)
theorem dX1_spend_33 : decode cX1_spend 33 = .ok (.dup2, 1) := dk_92 (dk_at dksX1_spend_1 10 rfl rfl)
theorem dX1_spend_34 : decode cX1_spend 34 = .ok (.iaload, 1) := dk_46 (dk_at dksX1_spend_1 11 rfl rfl)
theorem dX1_spend_35 : decode cX1_spend 35 = .ok (.iload_n 2, 1) := dk_28 (dk_at dksX1_spend_1 12 rfl rfl)
theorem dX1_spend_36 : decode cX1_spend 36 = .ok (.isub, 1) := dk_100 (dk_at dksX1_spend_1 13 rfl rfl)
theorem dX1_spend_37 : decode cX1_spend 37 = .ok (.iastore, 1) := dk_79 (dk_at dksX1_spend_1 14 rfl rfl)
theorem dX1_spend_38 : decode cX1_spend 38 = .ok (.aload_n 0, 1) := dk_42 (dk_at dksX1_spend_1 15 rfl rfl)
theorem dX1_spend_39 : decode cX1_spend 39 = .ok (.getfield 9, 3) := dk_180 0 9 (dk_at dksX1_spend_1 16 rfl rfl)
theorem dX1_spend_42 : decode cX1_spend 42 = .ok (.iload_n 1, 1) := dk_27 (dk_at dksX1_spend_1 19 rfl rfl)
theorem dX1_spend_43 : decode cX1_spend 43 = .ok (.dup2, 1) := dk_92 (dk_at dksX1_spend_1 20 rfl rfl)
theorem dX1_spend_44 : decode cX1_spend 44 = .ok (.iaload, 1) := dk_46 (dk_at dksX1_spend_1 21 rfl rfl)
theorem dX1_spend_45 : decode cX1_spend 45 = .ok (.iload_n 2, 1) := dk_28 (dk_at dksX1_spend_1 22 rfl rfl)
theorem dX1_spend_46 : decode cX1_spend 46 = .ok (.iadd, 1) := dk_96 (dk_at dksX1_spend_1 23 rfl rfl)
theorem dX1_spend_47 : decode cX1_spend 47 = .ok (.iastore, 1) := dk_79 (dk_at dksX1_spend_2 0 rfl rfl)
theorem dX1_spend_48 : decode cX1_spend 48 = .ok (.iconst 0, 1) := dk_3 (dk_at dksX1_spend_2 1 rfl rfl)
theorem dX1_spend_49 : decode cX1_spend 49 = .ok (.ireturn, 1) := dk_172 (dk_at dksX1_spend_2 2 rfl rfl)
abbrev cX1_lotsOf : ByteArray := prog_2_method_6_code
def yX1_lotsOf : MethodName := ⟨RX1, "lotsOf", "(I)I"⟩
def dkwX1_lotsOf_1 : List UInt8 := [167, 0, 4, 3, 184, 0, 74, 29, 120, 128, 61, 132, 3, 1, 167, 255, 224, 28, 172]
abbrev dktX1_lotsOf_1 : List UInt8 := dkwX1_lotsOf_1 ++ []
def dkwX1_lotsOf_0 : List UInt8 := [3, 61, 3, 62, 29, 16, 8, 162, 0, 32, 28, 42, 180, 0, 26, 29, 46, 27, 160, 0, 7, 4]
abbrev dktX1_lotsOf_0 : List UInt8 := dkwX1_lotsOf_0 ++ dktX1_lotsOf_1
theorem dksX1_lotsOf_0 : cX1_lotsOf.data.toList.drop 0 = dktX1_lotsOf_0 := by decide +kernel
theorem dksX1_lotsOf_1 : cX1_lotsOf.data.toList.drop 22 = dktX1_lotsOf_1 := dk_seg dksX1_lotsOf_0 22 rfl rfl
theorem dX1_lotsOf_0 : decode cX1_lotsOf 0 = .ok (.iconst 0, 1) := dk_3 (dk_at dksX1_lotsOf_0 0 rfl rfl)
theorem dX1_lotsOf_1 : decode cX1_lotsOf 1 = .ok (.istore_n 2, 1) := dk_61 (dk_at dksX1_lotsOf_0 1 rfl rfl)
theorem dX1_lotsOf_2 : decode cX1_lotsOf 2 = .ok (.iconst 0, 1) := dk_3 (dk_at dksX1_lotsOf_0 2 rfl rfl)
theorem dX1_lotsOf_3 : decode cX1_lotsOf 3 = .ok (.istore_n 3, 1) := dk_62 (dk_at dksX1_lotsOf_0 3 rfl rfl)
theorem dX1_lotsOf_4 : decode cX1_lotsOf 4 = .ok (.iload_n 3, 1) := dk_29 (dk_at dksX1_lotsOf_0 4 rfl rfl)
theorem dX1_lotsOf_5 : decode cX1_lotsOf 5 = .ok (.bipush 8, 2) := dk_16 8 (dk_at dksX1_lotsOf_0 5 rfl rfl)
theorem dX1_lotsOf_7 : decode cX1_lotsOf 7 = .ok (.if_icmp .ge 32, 3) := dk_162 0 32 (dk_at dksX1_lotsOf_0 7 rfl rfl)
theorem dX1_lotsOf_10 : decode cX1_lotsOf 10 = .ok (.iload_n 2, 1) := dk_28 (dk_at dksX1_lotsOf_0 10 rfl rfl)
theorem dX1_lotsOf_11 : decode cX1_lotsOf 11 = .ok (.aload_n 0, 1) := dk_42 (dk_at dksX1_lotsOf_0 11 rfl rfl)
theorem dX1_lotsOf_12 : decode cX1_lotsOf 12 = .ok (.getfield 26, 3) := dk_180 0 26 (dk_at dksX1_lotsOf_0 12 rfl rfl)
theorem dX1_lotsOf_15 : decode cX1_lotsOf 15 = .ok (.iload_n 3, 1) := dk_29 (dk_at dksX1_lotsOf_0 15 rfl rfl)
theorem dX1_lotsOf_16 : decode cX1_lotsOf 16 = .ok (.iaload, 1) := dk_46 (dk_at dksX1_lotsOf_0 16 rfl rfl)
theorem dX1_lotsOf_17 : decode cX1_lotsOf 17 = .ok (.iload_n 1, 1) := dk_27 (dk_at dksX1_lotsOf_0 17 rfl rfl)
theorem dX1_lotsOf_18 : decode cX1_lotsOf 18 = .ok (.if_icmp .ne 7, 3) := dk_160 0 7 (dk_at dksX1_lotsOf_0 18 rfl rfl)
theorem dX1_lotsOf_21 : decode cX1_lotsOf 21 = .ok (.iconst 1, 1) := dk_4 (dk_at dksX1_lotsOf_0 21 rfl rfl)
theorem dX1_lotsOf_22 : decode cX1_lotsOf 22 = .ok (.goto 4, 3) := dk_167 0 4 (dk_at dksX1_lotsOf_1 0 rfl rfl)
theorem dX1_lotsOf_25 : decode cX1_lotsOf 25 = .ok (.iconst 0, 1) := dk_3 (dk_at dksX1_lotsOf_1 3 rfl rfl)
theorem dX1_lotsOf_26 : decode cX1_lotsOf 26 = .ok (.invokestatic 74, 3) := dk_184 0 74 (dk_at dksX1_lotsOf_1 4 rfl rfl)
theorem dX1_lotsOf_29 : decode cX1_lotsOf 29 = .ok (.iload_n 3, 1) := dk_29 (dk_at dksX1_lotsOf_1 7 rfl rfl)
theorem dX1_lotsOf_30 : decode cX1_lotsOf 30 = .ok (.ishl, 1) := dk_120 (dk_at dksX1_lotsOf_1 8 rfl rfl)
theorem dX1_lotsOf_31 : decode cX1_lotsOf 31 = .ok (.ior, 1) := dk_128 (dk_at dksX1_lotsOf_1 9 rfl rfl)
theorem dX1_lotsOf_32 : decode cX1_lotsOf 32 = .ok (.istore_n 2, 1) := dk_61 (dk_at dksX1_lotsOf_1 10 rfl rfl)
theorem dX1_lotsOf_33 : decode cX1_lotsOf 33 = .ok (.iinc 3 1, 3) := dk_132 3 1 (dk_at dksX1_lotsOf_1 11 rfl rfl)
theorem dX1_lotsOf_36 : decode cX1_lotsOf 36 = .ok (.goto (-32), 3) := dk_167 255 224 (dk_at dksX1_lotsOf_1 14 rfl rfl)
theorem dX1_lotsOf_39 : decode cX1_lotsOf 39 = .ok (.iload_n 2, 1) := dk_28 (dk_at dksX1_lotsOf_1 17 rfl rfl)
theorem dX1_lotsOf_40 : decode cX1_lotsOf 40 = .ok (.ireturn, 1) := dk_172 (dk_at dksX1_lotsOf_1 18 rfl rfl)
abbrev cX1_owesInAll : ByteArray := prog_2_method_7_code
def yX1_owesInAll : MethodName := ⟨RX1, "owesInAll", "(I)I"⟩
def dkwX1_owesInAll_1 : List UInt8 := [21, 5, 46, 54, 6, 28, 21, 6, 96, 61, 132, 5, 1, 167, 255, 235, 28, 172]
abbrev dktX1_owesInAll_1 : List UInt8 := dkwX1_owesInAll_1 ++ []
def dkwX1_owesInAll_0 : List UInt8 := [3, 61, 42, 180, 0, 20, 27, 50, 78, 45, 190, 54, 4, 3, 54, 5, 21, 5, 21, 4, 162, 0, 20, 45]
abbrev dktX1_owesInAll_0 : List UInt8 := dkwX1_owesInAll_0 ++ dktX1_owesInAll_1
theorem dksX1_owesInAll_0 : cX1_owesInAll.data.toList.drop 0 = dktX1_owesInAll_0 := by decide +kernel
theorem dksX1_owesInAll_1 : cX1_owesInAll.data.toList.drop 24 = dktX1_owesInAll_1 := dk_seg dksX1_owesInAll_0 24 rfl rfl
theorem dX1_owesInAll_0 : decode cX1_owesInAll 0 = .ok (.iconst 0, 1) := dk_3 (dk_at dksX1_owesInAll_0 0 rfl rfl)
theorem dX1_owesInAll_1 : decode cX1_owesInAll 1 = .ok (.istore_n 2, 1) := dk_61 (dk_at dksX1_owesInAll_0 1 rfl rfl)
theorem dX1_owesInAll_2 : decode cX1_owesInAll 2 = .ok (.aload_n 0, 1) := dk_42 (dk_at dksX1_owesInAll_0 2 rfl rfl)
theorem dX1_owesInAll_3 : decode cX1_owesInAll 3 = .ok (.getfield 20, 3) := dk_180 0 20 (dk_at dksX1_owesInAll_0 3 rfl rfl)
theorem dX1_owesInAll_6 : decode cX1_owesInAll 6 = .ok (.iload_n 1, 1) := dk_27 (dk_at dksX1_owesInAll_0 6 rfl rfl)
theorem dX1_owesInAll_7 : decode cX1_owesInAll 7 = .ok (.aaload, 1) := dk_50 (dk_at dksX1_owesInAll_0 7 rfl rfl)
theorem dX1_owesInAll_8 : decode cX1_owesInAll 8 = .ok (.astore_n 3, 1) := dk_78 (dk_at dksX1_owesInAll_0 8 rfl rfl)
theorem dX1_owesInAll_9 : decode cX1_owesInAll 9 = .ok (.aload_n 3, 1) := dk_45 (dk_at dksX1_owesInAll_0 9 rfl rfl)
theorem dX1_owesInAll_10 : decode cX1_owesInAll 10 = .ok (.arraylength, 1) := dk_190 (dk_at dksX1_owesInAll_0 10 rfl rfl)
theorem dX1_owesInAll_11 : decode cX1_owesInAll 11 = .ok (.istore 4, 2) := dk_54 4 (dk_at dksX1_owesInAll_0 11 rfl rfl)
theorem dX1_owesInAll_13 : decode cX1_owesInAll 13 = .ok (.iconst 0, 1) := dk_3 (dk_at dksX1_owesInAll_0 13 rfl rfl)
theorem dX1_owesInAll_14 : decode cX1_owesInAll 14 = .ok (.istore 5, 2) := dk_54 5 (dk_at dksX1_owesInAll_0 14 rfl rfl)
theorem dX1_owesInAll_16 : decode cX1_owesInAll 16 = .ok (.iload 5, 2) := dk_21 5 (dk_at dksX1_owesInAll_0 16 rfl rfl)
theorem dX1_owesInAll_18 : decode cX1_owesInAll 18 = .ok (.iload 4, 2) := dk_21 4 (dk_at dksX1_owesInAll_0 18 rfl rfl)
theorem dX1_owesInAll_20 : decode cX1_owesInAll 20 = .ok (.if_icmp .ge 20, 3) := dk_162 0 20 (dk_at dksX1_owesInAll_0 20 rfl rfl)
theorem dX1_owesInAll_23 : decode cX1_owesInAll 23 = .ok (.aload_n 3, 1) := dk_45 (dk_at dksX1_owesInAll_0 23 rfl rfl)
theorem dX1_owesInAll_24 : decode cX1_owesInAll 24 = .ok (.iload 5, 2) := dk_21 5 (dk_at dksX1_owesInAll_1 0 rfl rfl)
theorem dX1_owesInAll_26 : decode cX1_owesInAll 26 = .ok (.iaload, 1) := dk_46 (dk_at dksX1_owesInAll_1 2 rfl rfl)
theorem dX1_owesInAll_27 : decode cX1_owesInAll 27 = .ok (.istore 6, 2) := dk_54 6 (dk_at dksX1_owesInAll_1 3 rfl rfl)
theorem dX1_owesInAll_29 : decode cX1_owesInAll 29 = .ok (.iload_n 2, 1) := dk_28 (dk_at dksX1_owesInAll_1 5 rfl rfl)
theorem dX1_owesInAll_30 : decode cX1_owesInAll 30 = .ok (.iload 6, 2) := dk_21 6 (dk_at dksX1_owesInAll_1 6 rfl rfl)
theorem dX1_owesInAll_32 : decode cX1_owesInAll 32 = .ok (.iadd, 1) := dk_96 (dk_at dksX1_owesInAll_1 8 rfl rfl)
theorem dX1_owesInAll_33 : decode cX1_owesInAll 33 = .ok (.istore_n 2, 1) := dk_61 (dk_at dksX1_owesInAll_1 9 rfl rfl)
theorem dX1_owesInAll_34 : decode cX1_owesInAll 34 = .ok (.iinc 5 1, 3) := dk_132 5 1 (dk_at dksX1_owesInAll_1 10 rfl rfl)
theorem dX1_owesInAll_37 : decode cX1_owesInAll 37 = .ok (.goto (-21), 3) := dk_167 255 235 (dk_at dksX1_owesInAll_1 13 rfl rfl)
theorem dX1_owesInAll_40 : decode cX1_owesInAll 40 = .ok (.iload_n 2, 1) := dk_28 (dk_at dksX1_owesInAll_1 16 rfl rfl)
theorem dX1_owesInAll_41 : decode cX1_owesInAll 41 = .ok (.ireturn, 1) := dk_172 (dk_at dksX1_owesInAll_1 17 rfl rfl)
theorem q49 : (Jvm.Cond.initialized "AbbeyNotes$Land") ∈ lw_all := lw_g (lw_at lw_m1 2 rfl) rfl
theorem q64 : (Jvm.Cond.instantiable "AbbeyNotes$Land" (13 : Nat)) ∈ lw_all := lw_g (lw_at lw_m1 17 rfl) rfl
theorem q66 : (Jvm.Cond.instanceMethod ({ cls := "AbbeyNotes$Land", name := "<init>", desc := "()V" } : Jvm.MethodName)) ∈ lw_all := lw_g (lw_at lw_m1 19 rfl) rfl
theorem q67 : (Jvm.Cond.code ({ cls := "AbbeyNotes$Land", name := "<init>", desc := "()V" } : Jvm.MethodName) prog_2_method_1_code (1 : Nat) (Option.none : Option Jvm.ClassFile.FieldType)) ∈ lw_all := lw_g (lw_at lw_m1 20 rfl) rfl
theorem q68 : (Jvm.Cond.methodLink "AbbeyNotes$Land" (3 : Nat) ({ cls := "java/lang/Object", name := "<init>", desc := "()V" } : Jvm.MethodName)) ∈ lw_all := lw_g (lw_at lw_m1 21 rfl) rfl
theorem q69 : (Jvm.Cond.classLink "AbbeyNotes$Land" (18 : Nat) "[[I") ∈ lw_all := lw_g (lw_at lw_m1 22 rfl) rfl
theorem q71 : (Jvm.Cond.methodLink "AbbeyNotes$Land" (41 : Nat) ({ cls := "java/util/Arrays", name := "fill", desc := "([II)V" } : Jvm.MethodName)) ∈ lw_all := lw_g (lw_at lw_m1 24 rfl) rfl
theorem q74 : (Jvm.Cond.fieldLink "AbbeyNotes$Land" (9 : Nat) "AbbeyNotes$Land" "paper" "[I") ∈ lw_all := lw_g (lw_at lw_m1 27 rfl) rfl
theorem q76 : (Jvm.Cond.fieldLink "AbbeyNotes$Land" (15 : Nat) "AbbeyNotes$Land" "coin" "[I") ∈ lw_all := lw_g (lw_at lw_m1 29 rfl) rfl
theorem q78 : (Jvm.Cond.fieldLink "AbbeyNotes$Land" (20 : Nat) "AbbeyNotes$Land" "owes" "[[I") ∈ lw_all := lw_g (lw_at lw_m1 31 rfl) rfl
theorem q80 : (Jvm.Cond.fieldLink "AbbeyNotes$Land" (23 : Nat) "AbbeyNotes$Land" "price" "[I") ∈ lw_all := lw_g (lw_at lw_m1 33 rfl) rfl
theorem q82 : (Jvm.Cond.fieldLink "AbbeyNotes$Land" (26 : Nat) "AbbeyNotes$Land" "whose" "[I") ∈ lw_all := lw_g (lw_at lw_m1 35 rfl) rfl
theorem q84 : (Jvm.Cond.fieldLink "AbbeyNotes$Land" (29 : Nat) "AbbeyNotes$Land" "told" "[I") ∈ lw_all := lw_g (lw_at lw_m1 37 rfl) rfl
theorem q86 : (Jvm.Cond.fieldLink "AbbeyNotes$Land" (53 : Nat) "AbbeyNotes$Land" "burnt" "I") ∈ lw_all := lw_g (lw_at lw_m1 39 rfl) rfl
theorem q88 : (Jvm.Cond.fieldLink "AbbeyNotes$Land" (57 : Nat) "AbbeyNotes$Land" "months" "I") ∈ lw_all := lw_g (lw_at lw_m1 41 rfl) rfl
theorem q90 : (Jvm.Cond.fieldLink "AbbeyNotes$Land" (60 : Nat) "AbbeyNotes$Land" "sights" "I") ∈ lw_all := lw_g (lw_at lw_m1 43 rfl) rfl
theorem q92 : (Jvm.Cond.fieldLink "AbbeyNotes$Land" (32 : Nat) "AbbeyNotes$Land" "seenSet" "[I") ∈ lw_all := lw_g (lw_at lw_m1 45 rfl) rfl
theorem q94 : (Jvm.Cond.fieldLink "AbbeyNotes$Land" (35 : Nat) "AbbeyNotes$Land" "seenMany" "[I") ∈ lw_all := lw_g (lw_at lw_m1 47 rfl) rfl
theorem q96 : (Jvm.Cond.fieldLink "AbbeyNotes$Land" (38 : Nat) "AbbeyNotes$Land" "seenHow" "[I") ∈ lw_all := lw_g (lw_at lw_m1 49 rfl) rfl
theorem q99 : (Jvm.Cond.laysFinal "AbbeyNotes$Land" "AbbeyNotes$Land" "paper" "[I") ∈ lw_all := lw_g (lw_at lw_m1 52 rfl) rfl
theorem q100 : (Jvm.Cond.soleField "AbbeyNotes$Land" "paper") ∈ lw_all := lw_g (lw_at lw_m1 53 rfl) rfl
theorem q101 : (Jvm.Cond.laysFinal "AbbeyNotes$Land" "AbbeyNotes$Land" "coin" "[I") ∈ lw_all := lw_g (lw_at lw_m1 54 rfl) rfl
theorem q102 : (Jvm.Cond.soleField "AbbeyNotes$Land" "coin") ∈ lw_all := lw_g (lw_at lw_m1 55 rfl) rfl
theorem q103 : (Jvm.Cond.laysFinal "AbbeyNotes$Land" "AbbeyNotes$Land" "owes" "[[I") ∈ lw_all := lw_g (lw_at lw_m1 56 rfl) rfl
theorem q104 : (Jvm.Cond.soleField "AbbeyNotes$Land" "owes") ∈ lw_all := lw_g (lw_at lw_m1 57 rfl) rfl
theorem q105 : (Jvm.Cond.laysFinal "AbbeyNotes$Land" "AbbeyNotes$Land" "price" "[I") ∈ lw_all := lw_g (lw_at lw_m1 58 rfl) rfl
theorem q106 : (Jvm.Cond.soleField "AbbeyNotes$Land" "price") ∈ lw_all := lw_g (lw_at lw_m1 59 rfl) rfl
theorem q107 : (Jvm.Cond.laysFinal "AbbeyNotes$Land" "AbbeyNotes$Land" "whose" "[I") ∈ lw_all := lw_g (lw_at lw_m1 60 rfl) rfl
theorem q108 : (Jvm.Cond.soleField "AbbeyNotes$Land" "whose") ∈ lw_all := lw_g (lw_at lw_m1 61 rfl) rfl
theorem q109 : (Jvm.Cond.laysFinal "AbbeyNotes$Land" "AbbeyNotes$Land" "told" "[I") ∈ lw_all := lw_g (lw_at lw_m1 62 rfl) rfl
theorem q110 : (Jvm.Cond.soleField "AbbeyNotes$Land" "told") ∈ lw_all := lw_g (lw_at lw_m1 63 rfl) rfl
theorem q111 : (Jvm.Cond.lays "AbbeyNotes$Land" "AbbeyNotes$Land" "burnt" "I") ∈ lw_all := lw_g (lw_at lw_m1 64 rfl) rfl
theorem q112 : (Jvm.Cond.soleField "AbbeyNotes$Land" "burnt") ∈ lw_all := lw_g (lw_at lw_m1 65 rfl) rfl
theorem q113 : (Jvm.Cond.lays "AbbeyNotes$Land" "AbbeyNotes$Land" "months" "I") ∈ lw_all := lw_g (lw_at lw_m1 66 rfl) rfl
theorem q114 : (Jvm.Cond.soleField "AbbeyNotes$Land" "months") ∈ lw_all := lw_g (lw_at lw_m1 67 rfl) rfl
theorem q115 : (Jvm.Cond.lays "AbbeyNotes$Land" "AbbeyNotes$Land" "sights" "I") ∈ lw_all := lw_g (lw_at lw_m1 68 rfl) rfl
theorem q116 : (Jvm.Cond.soleField "AbbeyNotes$Land" "sights") ∈ lw_all := lw_g (lw_at lw_m1 69 rfl) rfl
theorem q117 : (Jvm.Cond.laysFinal "AbbeyNotes$Land" "AbbeyNotes$Land" "seenSet" "[I") ∈ lw_all := lw_g (lw_at lw_m1 70 rfl) rfl
theorem q118 : (Jvm.Cond.soleField "AbbeyNotes$Land" "seenSet") ∈ lw_all := lw_g (lw_at lw_m1 71 rfl) rfl
theorem q119 : (Jvm.Cond.laysFinal "AbbeyNotes$Land" "AbbeyNotes$Land" "seenMany" "[I") ∈ lw_all := lw_g (lw_at lw_m1 72 rfl) rfl
theorem q120 : (Jvm.Cond.soleField "AbbeyNotes$Land" "seenMany") ∈ lw_all := lw_g (lw_at lw_m1 73 rfl) rfl
theorem q121 : (Jvm.Cond.laysFinal "AbbeyNotes$Land" "AbbeyNotes$Land" "seenHow" "[I") ∈ lw_all := lw_g (lw_at lw_m1 74 rfl) rfl
theorem q122 : (Jvm.Cond.soleField "AbbeyNotes$Land" "seenHow") ∈ lw_all := lw_g (lw_at lw_m1 75 rfl) rfl
theorem q123 : (Jvm.Cond.lays "AbbeyNotes$Land" "AbbeyNotes$Land" "isKept" "Z") ∈ lw_all := lw_g (lw_at lw_m1 76 rfl) rfl
theorem q124 : (Jvm.Cond.soleField "AbbeyNotes$Land" "isKept") ∈ lw_all := lw_g (lw_at lw_m1 77 rfl) rfl
theorem q125 : (Jvm.Cond.superclass "AbbeyNotes$Land" "java/lang/Object") ∈ lw_all := lw_g (lw_at lw_m1 78 rfl) rfl
theorem q230 : (Jvm.Cond.instanceMethod ({ cls := "AbbeyNotes$Land", name := "copy", desc := "(LAbbeyNotes$Land;)V" } : Jvm.MethodName)) ∈ lw_all := lw_g (lw_at lw_m1 183 rfl) rfl
theorem q231 : (Jvm.Cond.selects "AbbeyNotes$Land" ({ cls := "AbbeyNotes$Land", name := "copy", desc := "(LAbbeyNotes$Land;)V" } : Jvm.MethodName) ({ cls := "AbbeyNotes$Land", name := "copy", desc := "(LAbbeyNotes$Land;)V" } : Jvm.MethodName)) ∈ lw_all := lw_g (lw_at lw_m1 184 rfl) rfl
theorem q232 : (Jvm.Cond.code ({ cls := "AbbeyNotes$Land", name := "copy", desc := "(LAbbeyNotes$Land;)V" } : Jvm.MethodName) prog_2_method_2_code (3 : Nat) (Option.none : Option Jvm.ClassFile.FieldType)) ∈ lw_all := lw_g (lw_at lw_m1 185 rfl) rfl
theorem q233 : (Jvm.Cond.methodLink "AbbeyNotes$Land" (47 : Nat) ({ cls := "java/lang/System", name := "arraycopy", desc := "(Ljava/lang/Object;ILjava/lang/Object;II)V" } : Jvm.MethodName)) ∈ lw_all := lw_g (lw_at lw_m1 186 rfl) rfl
theorem q241 : (Jvm.Cond.instanceMethod ({ cls := "AbbeyNotes$Land", name := "print", desc := "(I)I" } : Jvm.MethodName)) ∈ lw_all := lw_g (lw_at lw_m1 194 rfl) rfl
theorem q242 : (Jvm.Cond.selects "AbbeyNotes$Land" ({ cls := "AbbeyNotes$Land", name := "print", desc := "(I)I" } : Jvm.MethodName) ({ cls := "AbbeyNotes$Land", name := "print", desc := "(I)I" } : Jvm.MethodName)) ∈ lw_all := lw_g (lw_at lw_m1 195 rfl) rfl
theorem q243 : (Jvm.Cond.code ({ cls := "AbbeyNotes$Land", name := "print", desc := "(I)I" } : Jvm.MethodName) prog_2_method_8_code (2 : Nat) (Option.some Jvm.ClassFile.FieldType.int)) ∈ lw_all := lw_g (lw_at lw_m1 196 rfl) rfl
theorem q244 : (Jvm.Cond.constant "AbbeyNotes$Land" (78 : Nat) (99999 : Int32)) ∈ lw_all := lw_g (lw_at lw_m1 197 rfl) rfl
theorem q246 : (Jvm.Cond.instanceMethod ({ cls := "AbbeyNotes$Land", name := "forge", desc := "(II)I" } : Jvm.MethodName)) ∈ lw_all := lw_g (lw_at lw_m1 199 rfl) rfl
theorem q247 : (Jvm.Cond.selects "AbbeyNotes$Land" ({ cls := "AbbeyNotes$Land", name := "forge", desc := "(II)I" } : Jvm.MethodName) ({ cls := "AbbeyNotes$Land", name := "forge", desc := "(II)I" } : Jvm.MethodName)) ∈ lw_all := lw_g (lw_at lw_m1 200 rfl) rfl
theorem q248 : (Jvm.Cond.code ({ cls := "AbbeyNotes$Land", name := "forge", desc := "(II)I" } : Jvm.MethodName) prog_2_method_9_code (3 : Nat) (Option.some Jvm.ClassFile.FieldType.int)) ∈ lw_all := lw_g (lw_at lw_m1 201 rfl) rfl
theorem q250 : (Jvm.Cond.instanceMethod ({ cls := "AbbeyNotes$Land", name := "month", desc := "()I" } : Jvm.MethodName)) ∈ lw_all := lw_g (lw_at lw_m1 203 rfl) rfl
theorem q251 : (Jvm.Cond.selects "AbbeyNotes$Land" ({ cls := "AbbeyNotes$Land", name := "month", desc := "()I" } : Jvm.MethodName) ({ cls := "AbbeyNotes$Land", name := "month", desc := "()I" } : Jvm.MethodName)) ∈ lw_all := lw_g (lw_at lw_m1 204 rfl) rfl
theorem q252 : (Jvm.Cond.code ({ cls := "AbbeyNotes$Land", name := "month", desc := "()I" } : Jvm.MethodName) prog_2_method_14_code (1 : Nat) (Option.some Jvm.ClassFile.FieldType.int)) ∈ lw_all := lw_g (lw_at lw_m1 205 rfl) rfl
theorem q254 : (Jvm.Cond.instanceMethod ({ cls := "AbbeyNotes$Land", name := "rate", desc := "()I" } : Jvm.MethodName)) ∈ lw_all := lw_g (lw_at lw_m1 207 rfl) rfl
theorem q255 : (Jvm.Cond.selects "AbbeyNotes$Land" ({ cls := "AbbeyNotes$Land", name := "rate", desc := "()I" } : Jvm.MethodName) ({ cls := "AbbeyNotes$Land", name := "rate", desc := "()I" } : Jvm.MethodName)) ∈ lw_all := lw_g (lw_at lw_m1 208 rfl) rfl
theorem q256 : (Jvm.Cond.code ({ cls := "AbbeyNotes$Land", name := "rate", desc := "()I" } : Jvm.MethodName) prog_2_method_5_code (1 : Nat) (Option.some Jvm.ClassFile.FieldType.int)) ∈ lw_all := lw_g (lw_at lw_m1 209 rfl) rfl
theorem q257 : (Jvm.Cond.methodLink "AbbeyNotes$Land" (63 : Nat) ({ cls := "AbbeyNotes$Land", name := "land", desc := "()I" } : Jvm.MethodName)) ∈ lw_all := lw_g (lw_at lw_m1 210 rfl) rfl
theorem q258 : (Jvm.Cond.instanceMethod ({ cls := "AbbeyNotes$Land", name := "land", desc := "()I" } : Jvm.MethodName)) ∈ lw_all := lw_g (lw_at lw_m1 211 rfl) rfl
theorem q259 : (Jvm.Cond.selects "AbbeyNotes$Land" ({ cls := "AbbeyNotes$Land", name := "land", desc := "()I" } : Jvm.MethodName) ({ cls := "AbbeyNotes$Land", name := "land", desc := "()I" } : Jvm.MethodName)) ∈ lw_all := lw_g (lw_at lw_m1 212 rfl) rfl
theorem q260 : (Jvm.Cond.code ({ cls := "AbbeyNotes$Land", name := "land", desc := "()I" } : Jvm.MethodName) prog_2_method_4_code (3 : Nat) (Option.some Jvm.ClassFile.FieldType.int)) ∈ lw_all := lw_g (lw_at lw_m1 213 rfl) rfl
theorem q261 : (Jvm.Cond.methodLink "AbbeyNotes$Land" (67 : Nat) ({ cls := "AbbeyNotes$Land", name := "notes", desc := "()I" } : Jvm.MethodName)) ∈ lw_all := lw_g (lw_at lw_m1 214 rfl) rfl
theorem q262 : (Jvm.Cond.instanceMethod ({ cls := "AbbeyNotes$Land", name := "notes", desc := "()I" } : Jvm.MethodName)) ∈ lw_all := lw_g (lw_at lw_m1 215 rfl) rfl
theorem q263 : (Jvm.Cond.selects "AbbeyNotes$Land" ({ cls := "AbbeyNotes$Land", name := "notes", desc := "()I" } : Jvm.MethodName) ({ cls := "AbbeyNotes$Land", name := "notes", desc := "()I" } : Jvm.MethodName)) ∈ lw_all := lw_g (lw_at lw_m1 216 rfl) rfl
theorem q264 : (Jvm.Cond.code ({ cls := "AbbeyNotes$Land", name := "notes", desc := "()I" } : Jvm.MethodName) prog_2_method_3_code (6 : Nat) (Option.some Jvm.ClassFile.FieldType.int)) ∈ lw_all := lw_g (lw_at lw_m1 217 rfl) rfl
theorem q265 : (Jvm.Cond.methodLinkNest "AbbeyNotes$Land" (70 : Nat) ({ cls := "AbbeyNotes", name := "rateOf", desc := "(IJ)I" } : Jvm.MethodName) "AbbeyNotes") ∈ lw_tbl := lw_at lw_m1 218 rfl
theorem q277 : (Jvm.Cond.instanceMethod ({ cls := "AbbeyNotes$Land", name := "buy", desc := "(II)I" } : Jvm.MethodName)) ∈ lw_all := lw_g (lw_at lw_m1 230 rfl) rfl
theorem q278 : (Jvm.Cond.selects "AbbeyNotes$Land" ({ cls := "AbbeyNotes$Land", name := "buy", desc := "(II)I" } : Jvm.MethodName) ({ cls := "AbbeyNotes$Land", name := "buy", desc := "(II)I" } : Jvm.MethodName)) ∈ lw_all := lw_g (lw_at lw_m1 231 rfl) rfl
theorem q279 : (Jvm.Cond.code ({ cls := "AbbeyNotes$Land", name := "buy", desc := "(II)I" } : Jvm.MethodName) prog_2_method_10_code (3 : Nat) (Option.some Jvm.ClassFile.FieldType.int)) ∈ lw_all := lw_g (lw_at lw_m1 232 rfl) rfl
theorem q281 : (Jvm.Cond.instanceMethod ({ cls := "AbbeyNotes$Land", name := "change", desc := "(II)I" } : Jvm.MethodName)) ∈ lw_all := lw_g (lw_at lw_m1 234 rfl) rfl
theorem q282 : (Jvm.Cond.selects "AbbeyNotes$Land" ({ cls := "AbbeyNotes$Land", name := "change", desc := "(II)I" } : Jvm.MethodName) ({ cls := "AbbeyNotes$Land", name := "change", desc := "(II)I" } : Jvm.MethodName)) ∈ lw_all := lw_g (lw_at lw_m1 235 rfl) rfl
theorem q283 : (Jvm.Cond.code ({ cls := "AbbeyNotes$Land", name := "change", desc := "(II)I" } : Jvm.MethodName) prog_2_method_11_code (4 : Nat) (Option.some Jvm.ClassFile.FieldType.int)) ∈ lw_all := lw_g (lw_at lw_m1 236 rfl) rfl
theorem q284 : (Jvm.Cond.methodLink "AbbeyNotes$Land" (79 : Nat) ({ cls := "AbbeyNotes$Land", name := "rate", desc := "()I" } : Jvm.MethodName)) ∈ lw_all := lw_g (lw_at lw_m1 237 rfl) rfl
theorem q286 : (Jvm.Cond.instanceMethod ({ cls := "AbbeyNotes$Land", name := "pay", desc := "(II)I" } : Jvm.MethodName)) ∈ lw_all := lw_g (lw_at lw_m1 239 rfl) rfl
theorem q287 : (Jvm.Cond.selects "AbbeyNotes$Land" ({ cls := "AbbeyNotes$Land", name := "pay", desc := "(II)I" } : Jvm.MethodName) ({ cls := "AbbeyNotes$Land", name := "pay", desc := "(II)I" } : Jvm.MethodName)) ∈ lw_all := lw_g (lw_at lw_m2 0 rfl) rfl
theorem q288 : (Jvm.Cond.code ({ cls := "AbbeyNotes$Land", name := "pay", desc := "(II)I" } : Jvm.MethodName) prog_2_method_12_code (4 : Nat) (Option.some Jvm.ClassFile.FieldType.int)) ∈ lw_all := lw_g (lw_at lw_m2 1 rfl) rfl
theorem q289 : (Jvm.Cond.methodLink "AbbeyNotes$Land" (82 : Nat) ({ cls := "java/lang/Math", name := "min", desc := "(II)I" } : Jvm.MethodName)) ∈ lw_all := lw_g (lw_at lw_m2 2 rfl) rfl
theorem q293 : (Jvm.Cond.instanceMethod ({ cls := "AbbeyNotes$Land", name := "spend", desc := "(II)I" } : Jvm.MethodName)) ∈ lw_all := lw_g (lw_at lw_m2 6 rfl) rfl
theorem q294 : (Jvm.Cond.selects "AbbeyNotes$Land" ({ cls := "AbbeyNotes$Land", name := "spend", desc := "(II)I" } : Jvm.MethodName) ({ cls := "AbbeyNotes$Land", name := "spend", desc := "(II)I" } : Jvm.MethodName)) ∈ lw_all := lw_g (lw_at lw_m2 7 rfl) rfl
theorem q295 : (Jvm.Cond.code ({ cls := "AbbeyNotes$Land", name := "spend", desc := "(II)I" } : Jvm.MethodName) prog_2_method_13_code (3 : Nat) (Option.some Jvm.ClassFile.FieldType.int)) ∈ lw_all := lw_g (lw_at lw_m2 8 rfl) rfl
theorem q305 : (Jvm.Cond.instanceMethod ({ cls := "AbbeyNotes$Land", name := "lotsOf", desc := "(I)I" } : Jvm.MethodName)) ∈ lw_all := lw_g (lw_at lw_m2 18 rfl) rfl
theorem q306 : (Jvm.Cond.selects "AbbeyNotes$Land" ({ cls := "AbbeyNotes$Land", name := "lotsOf", desc := "(I)I" } : Jvm.MethodName) ({ cls := "AbbeyNotes$Land", name := "lotsOf", desc := "(I)I" } : Jvm.MethodName)) ∈ lw_all := lw_g (lw_at lw_m2 19 rfl) rfl
theorem q307 : (Jvm.Cond.code ({ cls := "AbbeyNotes$Land", name := "lotsOf", desc := "(I)I" } : Jvm.MethodName) prog_2_method_6_code (4 : Nat) (Option.some Jvm.ClassFile.FieldType.int)) ∈ lw_all := lw_g (lw_at lw_m2 20 rfl) rfl
theorem q308 : (Jvm.Cond.methodLinkNest "AbbeyNotes$Land" (74 : Nat) ({ cls := "AbbeyNotes", name := "asNumber", desc := "(Z)I" } : Jvm.MethodName) "AbbeyNotes") ∈ lw_tbl := lw_at lw_m2 21 rfl
theorem q312 : (Jvm.Cond.instanceMethod ({ cls := "AbbeyNotes$Land", name := "owesInAll", desc := "(I)I" } : Jvm.MethodName)) ∈ lw_all := lw_g (lw_at lw_m2 25 rfl) rfl
theorem q313 : (Jvm.Cond.selects "AbbeyNotes$Land" ({ cls := "AbbeyNotes$Land", name := "owesInAll", desc := "(I)I" } : Jvm.MethodName) ({ cls := "AbbeyNotes$Land", name := "owesInAll", desc := "(I)I" } : Jvm.MethodName)) ∈ lw_all := lw_g (lw_at lw_m2 26 rfl) rfl
theorem q314 : (Jvm.Cond.code ({ cls := "AbbeyNotes$Land", name := "owesInAll", desc := "(I)I" } : Jvm.MethodName) prog_2_method_7_code (7 : Nat) (Option.some Jvm.ClassFile.FieldType.int)) ∈ lw_all := lw_g (lw_at lw_m2 27 rfl) rfl
theorem in_X1 : ∀ w ∈ wsX10, w ∈ lw_all := lw_in wsX10 [99, 101, 103, 105, 107, 109, 111, 113, 115, 117, 119, 121, 123] (by decide +kernel) (by decide +kernel)
