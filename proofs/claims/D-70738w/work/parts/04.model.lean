set_option maxRecDepth 100000
/-! AbbeyNotesModel -/
set_option maxRecDepth 100000
def RX2 : String := "AbbeyNotesModel"
def TX2 : u_T := fun k => match k with
  | 0 => ("AbbeyNotesModel", "paper", "[I", true)
  | 1 => ("AbbeyNotesModel", "coin", "[I", true)
  | 2 => ("AbbeyNotesModel", "owes", "[I", true)
  | 3 => ("AbbeyNotesModel", "price", "[I", true)
  | 4 => ("AbbeyNotesModel", "owner", "[I", true)
  | 5 => ("AbbeyNotesModel", "chest", "I", false)
  | 6 => ("AbbeyNotesModel", "forged", "I", false)
  | 7 => ("AbbeyNotesModel", "burnt", "I", false)
  | 8 => ("AbbeyNotesModel", "months", "I", false)
  | 9 => ("AbbeyNotesModel", "sightSet", "[I", true)
  | 10 => ("AbbeyNotesModel", "sightMany", "[I", true)
  | 11 => ("AbbeyNotesModel", "sightHow", "[I", true)
  | 12 => ("AbbeyNotesModel", "sights", "I", false)
  | 13 => ("AbbeyNotesModel", "pad", "[I", true)
  | 14 => ("AbbeyNotesModel", "padMany", "I", false)
  | 15 => ("AbbeyNotesModel", "act", "[I", true)
  | 16 => ("AbbeyNotesModel", "who", "[I", true)
  | 17 => ("AbbeyNotesModel", "much", "[I", true)
  | 18 => ("AbbeyNotesModel", "acts", "I", false)
  | 19 => ("AbbeyNotesModel", "had", "[I", true)
  | 20 => ("AbbeyNotesModel", "badAct", "I", false)
  | 21 => ("AbbeyNotesModel", "badWhy", "I", false)
  | 22 => ("AbbeyNotesModel", "endedMany", "I", false)
  | 23 => ("AbbeyNotesModel", "endRate", "[I", true)
  | 24 => ("AbbeyNotesModel", "net", "[I", true)
  | 25 => ("AbbeyNotesModel", "evenSets", "[I", true)
  | 26 => ("AbbeyNotesModel", "row", "[I", true)
  | 27 => ("AbbeyNotesModel", "brings", "[J", true)
  | 28 => ("AbbeyNotesModel", "bringsThen", "[J", true)
  | 29 => ("AbbeyNotesModel", "choose", "[J", true)
  | 30 => ("AbbeyNotesModel", "kept", "[I", true)
  | 31 => ("AbbeyNotesModel", "isKept", "[Z", true)
  | 32 => ("AbbeyNotesModel", "keptAt", "I", false)
  | _ => ("AbbeyNotesModel", "isWriting", "Z", false)
def tyX2 : Nat → FieldType := fun k => match k with
  | 0 => .array .int
  | 1 => .array .int
  | 2 => .array .int
  | 3 => .array .int
  | 4 => .array .int
  | 5 => .int
  | 6 => .int
  | 7 => .int
  | 8 => .int
  | 9 => .array .int
  | 10 => .array .int
  | 11 => .array .int
  | 12 => .int
  | 13 => .array .int
  | 14 => .int
  | 15 => .array .int
  | 16 => .array .int
  | 17 => .array .int
  | 18 => .int
  | 19 => .array .int
  | 20 => .int
  | 21 => .int
  | 22 => .int
  | 23 => .array .int
  | 24 => .array .int
  | 25 => .array .int
  | 26 => .array .int
  | 27 => .array .long
  | 28 => .array .long
  | 29 => .array .long
  | 30 => .array .int
  | 31 => .array .boolean
  | 32 => .int
  | _ => .boolean
abbrev wsX20 : List Cond := u_ws RX2 TX2 34
set_option maxRecDepth 100000 in
theorem nmX2 : ∀ a, a < 34 → ∀ b, b < 34 → a ≠ b → (TX2 a).2.1 ≠ (TX2 b).2.1 := by decide +kernel
set_option maxRecDepth 100000 in
theorem tyX2_ok : ∀ k, k < 34 → parseFieldDescriptor (TX2 k).2.2.1 = some (tyX2 k) := by decide +kernel
abbrev cX2_init : ByteArray := prog_4_method_1_code
def yX2_init : MethodName := ⟨RX2, "<init>", "()V"⟩
def dkwX2_init_10 : List UInt8 := [167, 255, 231, 177]
abbrev dktX2_init_10 : List UInt8 := dkwX2_init_10 ++ []
def dkwX2_init_9 : List UInt8 := [16, 8, 162, 0, 25, 42, 180, 0, 19, 27, 16, 100, 79, 42, 180, 0, 22, 27, 16, 250, 79, 132, 1, 1]
abbrev dktX2_init_9 : List UInt8 := dkwX2_init_9 ++ dktX2_init_10
def dkwX2_init_8 : List UInt8 := [180, 0, 7, 27, 16, 100, 79, 42, 180, 0, 13, 27, 16, 100, 79, 132, 1, 1, 167, 255, 231, 3, 60, 27]
abbrev dktX2_init_8 : List UInt8 := dkwX2_init_8 ++ dktX2_init_9
def dkwX2_init_7 : List UInt8 := [17, 0, 200, 188, 10, 181, 0, 71, 42, 5, 188, 4, 181, 0, 74, 3, 60, 27, 16, 6, 162, 0, 25, 42]
abbrev dktX2_init_7 : List UInt8 := dkwX2_init_7 ++ dktX2_init_8
def dkwX2_init_6 : List UInt8 := [188, 11, 181, 0, 61, 42, 16, 70, 188, 11, 181, 0, 65, 42, 16, 31, 188, 11, 181, 0, 68, 42]
abbrev dktX2_init_6 : List UInt8 := dkwX2_init_6 ++ dktX2_init_7
def dkwX2_init_5 : List UInt8 := [188, 10, 181, 0, 52, 42, 16, 64, 188, 10, 181, 0, 55, 42, 16, 9, 188, 10, 181, 0, 58, 42, 16, 70]
abbrev dktX2_init_5 : List UInt8 := dkwX2_init_5 ++ dktX2_init_6
def dkwX2_init_4 : List UInt8 := [188, 10, 181, 0, 43, 42, 16, 60, 188, 10, 181, 0, 46, 42, 16, 60, 188, 10, 181, 0, 49, 42, 16, 6]
abbrev dktX2_init_4 : List UInt8 := dkwX2_init_4 ++ dktX2_init_5
def dkwX2_init_3 : List UInt8 := [188, 10, 181, 0, 34, 42, 16, 60, 188, 10, 181, 0, 37, 42, 16, 60, 188, 10, 181, 0, 40, 42, 16, 60]
abbrev dktX2_init_3 : List UInt8 := dkwX2_init_3 ++ dktX2_init_4
def dkwX2_init_2 : List UInt8 := [188, 10, 181, 0, 25, 42, 16, 8, 188, 10, 181, 0, 28, 42, 16, 8, 188, 10, 181, 0, 31, 42, 16, 60]
abbrev dktX2_init_2 : List UInt8 := dkwX2_init_2 ++ dktX2_init_3
def dkwX2_init_1 : List UInt8 := [188, 10, 181, 0, 16, 42, 16, 8, 188, 10, 181, 0, 19, 42, 16, 8, 188, 10, 181, 0, 22, 42, 16, 8]
abbrev dktX2_init_1 : List UInt8 := dkwX2_init_1 ++ dktX2_init_2
def dkwX2_init_0 : List UInt8 := [42, 183, 0, 1, 42, 16, 6, 188, 10, 181, 0, 7, 42, 16, 6, 188, 10, 181, 0, 13, 42, 16, 36]
abbrev dktX2_init_0 : List UInt8 := dkwX2_init_0 ++ dktX2_init_1
theorem dksX2_init_0 : cX2_init.data.toList.drop 0 = dktX2_init_0 := by decide +kernel
theorem dksX2_init_1 : cX2_init.data.toList.drop 23 = dktX2_init_1 := dk_seg dksX2_init_0 23 rfl rfl
theorem dksX2_init_2 : cX2_init.data.toList.drop 47 = dktX2_init_2 := dk_seg dksX2_init_1 24 rfl rfl
theorem dksX2_init_3 : cX2_init.data.toList.drop 71 = dktX2_init_3 := dk_seg dksX2_init_2 24 rfl rfl
theorem dksX2_init_4 : cX2_init.data.toList.drop 95 = dktX2_init_4 := dk_seg dksX2_init_3 24 rfl rfl
theorem dksX2_init_5 : cX2_init.data.toList.drop 119 = dktX2_init_5 := dk_seg dksX2_init_4 24 rfl rfl
theorem dksX2_init_6 : cX2_init.data.toList.drop 143 = dktX2_init_6 := dk_seg dksX2_init_5 24 rfl rfl
theorem dksX2_init_7 : cX2_init.data.toList.drop 165 = dktX2_init_7 := dk_seg dksX2_init_6 22 rfl rfl
theorem dksX2_init_8 : cX2_init.data.toList.drop 189 = dktX2_init_8 := dk_seg dksX2_init_7 24 rfl rfl
theorem dksX2_init_9 : cX2_init.data.toList.drop 213 = dktX2_init_9 := dk_seg dksX2_init_8 24 rfl rfl
theorem dksX2_init_10 : cX2_init.data.toList.drop 237 = dktX2_init_10 := dk_seg dksX2_init_9 24 rfl rfl
theorem dX2_init_0 : decode cX2_init 0 = .ok (.aload_n 0, 1) := dk_42 (dk_at dksX2_init_0 0 rfl rfl)
theorem dX2_init_1 : decode cX2_init 1 = .ok (.invokespecial 1, 3) := dk_183 0 1 (dk_at dksX2_init_0 1 rfl rfl)
theorem dX2_init_4 : decode cX2_init 4 = .ok (.aload_n 0, 1) := dk_42 (dk_at dksX2_init_0 4 rfl rfl)
theorem dX2_init_5 : decode cX2_init 5 = .ok (.bipush 6, 2) := dk_16 6 (dk_at dksX2_init_0 5 rfl rfl)
theorem dX2_init_7 : decode cX2_init 7 = .ok (.newarray .int, 2) := dk_188_10 (dk_at dksX2_init_0 7 rfl rfl)
theorem dX2_init_9 : decode cX2_init 9 = .ok (.putfield 7, 3) := dk_181 0 7 (dk_at dksX2_init_0 9 rfl rfl)
theorem dX2_init_12 : decode cX2_init 12 = .ok (.aload_n 0, 1) := dk_42 (dk_at dksX2_init_0 12 rfl rfl)
theorem dX2_init_13 : decode cX2_init 13 = .ok (.bipush 6, 2) := dk_16 6 (dk_at dksX2_init_0 13 rfl rfl)
theorem dX2_init_15 : decode cX2_init 15 = .ok (.newarray .int, 2) := dk_188_10 (dk_at dksX2_init_0 15 rfl rfl)
theorem dX2_init_17 : decode cX2_init 17 = .ok (.putfield 13, 3) := dk_181 0 13 (dk_at dksX2_init_0 17 rfl rfl)
theorem dX2_init_20 : decode cX2_init 20 = .ok (.aload_n 0, 1) := dk_42 (dk_at dksX2_init_0 20 rfl rfl)
theorem dX2_init_21 : decode cX2_init 21 = .ok (.bipush 36, 2) := dk_16 36 (dk_at dksX2_init_0 21 rfl rfl)
theorem dX2_init_23 : decode cX2_init 23 = .ok (.newarray .int, 2) := dk_188_10 (dk_at dksX2_init_1 0 rfl rfl)
theorem dX2_init_25 : decode cX2_init 25 = .ok (.putfield 16, 3) := dk_181 0 16 (dk_at dksX2_init_1 2 rfl rfl)
theorem dX2_init_28 : decode cX2_init 28 = .ok (.aload_n 0, 1) := dk_42 (dk_at dksX2_init_1 5 rfl rfl)
theorem dX2_init_29 : decode cX2_init 29 = .ok (.bipush 8, 2) := dk_16 8 (dk_at dksX2_init_1 6 rfl rfl)
theorem dX2_init_31 : decode cX2_init 31 = .ok (.newarray .int, 2) := dk_188_10 (dk_at dksX2_init_1 8 rfl rfl)
theorem dX2_init_33 : decode cX2_init 33 = .ok (.putfield 19, 3) := dk_181 0 19 (dk_at dksX2_init_1 10 rfl rfl)
theorem dX2_init_36 : decode cX2_init 36 = .ok (.aload_n 0, 1) := dk_42 (dk_at dksX2_init_1 13 rfl rfl)
theorem dX2_init_37 : decode cX2_init 37 = .ok (.bipush 8, 2) := dk_16 8 (dk_at dksX2_init_1 14 rfl rfl)
theorem dX2_init_39 : decode cX2_init 39 = .ok (.newarray .int, 2) := dk_188_10 (dk_at dksX2_init_1 16 rfl rfl)
theorem dX2_init_41 : decode cX2_init 41 = .ok (.putfield 22, 3) := dk_181 0 22 (dk_at dksX2_init_1 18 rfl rfl)
theorem dX2_init_44 : decode cX2_init 44 = .ok (.aload_n 0, 1) := dk_42 (dk_at dksX2_init_1 21 rfl rfl)
theorem dX2_init_45 : decode cX2_init 45 = .ok (.bipush 8, 2) := dk_16 8 (dk_at dksX2_init_1 22 rfl rfl)
theorem dX2_init_47 : decode cX2_init 47 = .ok (.newarray .int, 2) := dk_188_10 (dk_at dksX2_init_2 0 rfl rfl)
theorem dX2_init_49 : decode cX2_init 49 = .ok (.putfield 25, 3) := dk_181 0 25 (dk_at dksX2_init_2 2 rfl rfl)
theorem dX2_init_52 : decode cX2_init 52 = .ok (.aload_n 0, 1) := dk_42 (dk_at dksX2_init_2 5 rfl rfl)
theorem dX2_init_53 : decode cX2_init 53 = .ok (.bipush 8, 2) := dk_16 8 (dk_at dksX2_init_2 6 rfl rfl)
theorem dX2_init_55 : decode cX2_init 55 = .ok (.newarray .int, 2) := dk_188_10 (dk_at dksX2_init_2 8 rfl rfl)
theorem dX2_init_57 : decode cX2_init 57 = .ok (.putfield 28, 3) := dk_181 0 28 (dk_at dksX2_init_2 10 rfl rfl)
theorem dX2_init_60 : decode cX2_init 60 = .ok (.aload_n 0, 1) := dk_42 (dk_at dksX2_init_2 13 rfl rfl)
theorem dX2_init_61 : decode cX2_init 61 = .ok (.bipush 8, 2) := dk_16 8 (dk_at dksX2_init_2 14 rfl rfl)
theorem dX2_init_63 : decode cX2_init 63 = .ok (.newarray .int, 2) := dk_188_10 (dk_at dksX2_init_2 16 rfl rfl)
theorem dX2_init_65 : decode cX2_init 65 = .ok (.putfield 31, 3) := dk_181 0 31 (dk_at dksX2_init_2 18 rfl rfl)
theorem dX2_init_68 : decode cX2_init 68 = .ok (.aload_n 0, 1) := dk_42 (dk_at dksX2_init_2 21 rfl rfl)
theorem dX2_init_69 : decode cX2_init 69 = .ok (.bipush 60, 2) := dk_16 60 (dk_at dksX2_init_2 22 rfl rfl)
theorem dX2_init_71 : decode cX2_init 71 = .ok (.newarray .int, 2) := dk_188_10 (dk_at dksX2_init_3 0 rfl rfl)
theorem dX2_init_73 : decode cX2_init 73 = .ok (.putfield 34, 3) := dk_181 0 34 (dk_at dksX2_init_3 2 rfl rfl)
theorem dX2_init_76 : decode cX2_init 76 = .ok (.aload_n 0, 1) := dk_42 (dk_at dksX2_init_3 5 rfl rfl)
theorem dX2_init_77 : decode cX2_init 77 = .ok (.bipush 60, 2) := dk_16 60 (dk_at dksX2_init_3 6 rfl rfl)
theorem dX2_init_79 : decode cX2_init 79 = .ok (.newarray .int, 2) := dk_188_10 (dk_at dksX2_init_3 8 rfl rfl)
theorem dX2_init_81 : decode cX2_init 81 = .ok (.putfield 37, 3) := dk_181 0 37 (dk_at dksX2_init_3 10 rfl rfl)
theorem dX2_init_84 : decode cX2_init 84 = .ok (.aload_n 0, 1) := dk_42 (dk_at dksX2_init_3 13 rfl rfl)
theorem dX2_init_85 : decode cX2_init 85 = .ok (.bipush 60, 2) := dk_16 60 (dk_at dksX2_init_3 14 rfl rfl)
theorem dX2_init_87 : decode cX2_init 87 = .ok (.newarray .int, 2) := dk_188_10 (dk_at dksX2_init_3 16 rfl rfl)
theorem dX2_init_89 : decode cX2_init 89 = .ok (.putfield 40, 3) := dk_181 0 40 (dk_at dksX2_init_3 18 rfl rfl)
theorem dX2_init_92 : decode cX2_init 92 = .ok (.aload_n 0, 1) := dk_42 (dk_at dksX2_init_3 21 rfl rfl)
theorem dX2_init_93 : decode cX2_init 93 = .ok (.bipush 60, 2) := dk_16 60 (dk_at dksX2_init_3 22 rfl rfl)
theorem dX2_init_95 : decode cX2_init 95 = .ok (.newarray .int, 2) := dk_188_10 (dk_at dksX2_init_4 0 rfl rfl)
theorem dX2_init_97 : decode cX2_init 97 = .ok (.putfield 43, 3) := dk_181 0 43 (dk_at dksX2_init_4 2 rfl rfl)
theorem dX2_init_100 : decode cX2_init 100 = .ok (.aload_n 0, 1) := dk_42 (dk_at dksX2_init_4 5 rfl rfl)
theorem dX2_init_101 : decode cX2_init 101 = .ok (.bipush 60, 2) := dk_16 60 (dk_at dksX2_init_4 6 rfl rfl)
theorem dX2_init_103 : decode cX2_init 103 = .ok (.newarray .int, 2) := dk_188_10 (dk_at dksX2_init_4 8 rfl rfl)
theorem dX2_init_105 : decode cX2_init 105 = .ok (.putfield 46, 3) := dk_181 0 46 (dk_at dksX2_init_4 10 rfl rfl)
theorem dX2_init_108 : decode cX2_init 108 = .ok (.aload_n 0, 1) := dk_42 (dk_at dksX2_init_4 13 rfl rfl)
theorem dX2_init_109 : decode cX2_init 109 = .ok (.bipush 60, 2) := dk_16 60 (dk_at dksX2_init_4 14 rfl rfl)
theorem dX2_init_111 : decode cX2_init 111 = .ok (.newarray .int, 2) := dk_188_10 (dk_at dksX2_init_4 16 rfl rfl)
theorem dX2_init_113 : decode cX2_init 113 = .ok (.putfield 49, 3) := dk_181 0 49 (dk_at dksX2_init_4 18 rfl rfl)
theorem dX2_init_116 : decode cX2_init 116 = .ok (.aload_n 0, 1) := dk_42 (dk_at dksX2_init_4 21 rfl rfl)
theorem dX2_init_117 : decode cX2_init 117 = .ok (.bipush 6, 2) := dk_16 6 (dk_at dksX2_init_4 22 rfl rfl)
theorem dX2_init_119 : decode cX2_init 119 = .ok (.newarray .int, 2) := dk_188_10 (dk_at dksX2_init_5 0 rfl rfl)
theorem dX2_init_121 : decode cX2_init 121 = .ok (.putfield 52, 3) := dk_181 0 52 (dk_at dksX2_init_5 2 rfl rfl)
theorem dX2_init_124 : decode cX2_init 124 = .ok (.aload_n 0, 1) := dk_42 (dk_at dksX2_init_5 5 rfl rfl)
theorem dX2_init_125 : decode cX2_init 125 = .ok (.bipush 64, 2) := dk_16 64 (dk_at dksX2_init_5 6 rfl rfl)
theorem dX2_init_127 : decode cX2_init 127 = .ok (.newarray .int, 2) := dk_188_10 (dk_at dksX2_init_5 8 rfl rfl)
theorem dX2_init_129 : decode cX2_init 129 = .ok (.putfield 55, 3) := dk_181 0 55 (dk_at dksX2_init_5 10 rfl rfl)
theorem dX2_init_132 : decode cX2_init 132 = .ok (.aload_n 0, 1) := dk_42 (dk_at dksX2_init_5 13 rfl rfl)
theorem dX2_init_133 : decode cX2_init 133 = .ok (.bipush 9, 2) := dk_16 9 (dk_at dksX2_init_5 14 rfl rfl)
theorem dX2_init_135 : decode cX2_init 135 = .ok (.newarray .int, 2) := dk_188_10 (dk_at dksX2_init_5 16 rfl rfl)
theorem dX2_init_137 : decode cX2_init 137 = .ok (.putfield 58, 3) := dk_181 0 58 (dk_at dksX2_init_5 18 rfl rfl)
theorem dX2_init_140 : decode cX2_init 140 = .ok (.aload_n 0, 1) := dk_42 (dk_at dksX2_init_5 21 rfl rfl)
theorem dX2_init_141 : decode cX2_init 141 = .ok (.bipush 70, 2) := dk_16 70 (dk_at dksX2_init_5 22 rfl rfl)
theorem dX2_init_143 : decode cX2_init 143 = .ok (.newarray .long, 2) := dk_188_11 (dk_at dksX2_init_6 0 rfl rfl)
theorem dX2_init_145 : decode cX2_init 145 = .ok (.putfield 61, 3) := dk_181 0 61 (dk_at dksX2_init_6 2 rfl rfl)
theorem dX2_init_148 : decode cX2_init 148 = .ok (.aload_n 0, 1) := dk_42 (dk_at dksX2_init_6 5 rfl rfl)
theorem dX2_init_149 : decode cX2_init 149 = .ok (.bipush 70, 2) := dk_16 70 (dk_at dksX2_init_6 6 rfl rfl)
theorem dX2_init_151 : decode cX2_init 151 = .ok (.newarray .long, 2) := dk_188_11 (dk_at dksX2_init_6 8 rfl rfl)
theorem dX2_init_153 : decode cX2_init 153 = .ok (.putfield 65, 3) := dk_181 0 65 (dk_at dksX2_init_6 10 rfl rfl)
theorem dX2_init_156 : decode cX2_init 156 = .ok (.aload_n 0, 1) := dk_42 (dk_at dksX2_init_6 13 rfl rfl)
theorem dX2_init_157 : decode cX2_init 157 = .ok (.bipush 31, 2) := dk_16 31 (dk_at dksX2_init_6 14 rfl rfl)
theorem dX2_init_159 : decode cX2_init 159 = .ok (.newarray .long, 2) := dk_188_11 (dk_at dksX2_init_6 16 rfl rfl)
theorem dX2_init_161 : decode cX2_init 161 = .ok (.putfield 68, 3) := dk_181 0 68 (dk_at dksX2_init_6 18 rfl rfl)
theorem dX2_init_164 : decode cX2_init 164 = .ok (.aload_n 0, 1) := dk_42 (dk_at dksX2_init_6 21 rfl rfl)
theorem dX2_init_165 : decode cX2_init 165 = .ok (.sipush 200, 3) := dk_17 0 200 (dk_at dksX2_init_7 0 rfl rfl)
theorem dX2_init_168 : decode cX2_init 168 = .ok (.newarray .int, 2) := dk_188_10 (dk_at dksX2_init_7 3 rfl rfl)
theorem dX2_init_170 : decode cX2_init 170 = .ok (.putfield 71, 3) := dk_181 0 71 (dk_at dksX2_init_7 5 rfl rfl)
theorem dX2_init_173 : decode cX2_init 173 = .ok (.aload_n 0, 1) := dk_42 (dk_at dksX2_init_7 8 rfl rfl)
theorem dX2_init_174 : decode cX2_init 174 = .ok (.iconst 2, 1) := dk_5 (dk_at dksX2_init_7 9 rfl rfl)
theorem dX2_init_175 : decode cX2_init 175 = .ok (.newarray .boolean, 2) := dk_188_4 (dk_at dksX2_init_7 10 rfl rfl)
theorem dX2_init_177 : decode cX2_init 177 = .ok (.putfield 74, 3) := dk_181 0 74 (dk_at dksX2_init_7 12 rfl rfl)
theorem dX2_init_180 : decode cX2_init 180 = .ok (.iconst 0, 1) := dk_3 (dk_at dksX2_init_7 15 rfl rfl)
theorem dX2_init_181 : decode cX2_init 181 = .ok (.istore_n 1, 1) := dk_60 (dk_at dksX2_init_7 16 rfl rfl)
theorem dX2_init_182 : decode cX2_init 182 = .ok (.iload_n 1, 1) := dk_27 (dk_at dksX2_init_7 17 rfl rfl)
theorem dX2_init_183 : decode cX2_init 183 = .ok (.bipush 6, 2) := dk_16 6 (dk_at dksX2_init_7 18 rfl rfl)
theorem dX2_init_185 : decode cX2_init 185 = .ok (.if_icmp .ge 25, 3) := dk_162 0 25 (dk_at dksX2_init_7 20 rfl rfl)
theorem dX2_init_188 : decode cX2_init 188 = .ok (.aload_n 0, 1) := dk_42 (dk_at dksX2_init_7 23 rfl rfl)
theorem dX2_init_189 : decode cX2_init 189 = .ok (.getfield 7, 3) := dk_180 0 7 (dk_at dksX2_init_8 0 rfl rfl)
theorem dX2_init_192 : decode cX2_init 192 = .ok (.iload_n 1, 1) := dk_27 (dk_at dksX2_init_8 3 rfl rfl)
theorem dX2_init_193 : decode cX2_init 193 = .ok (.bipush 100, 2) := dk_16 100 (dk_at dksX2_init_8 4 rfl rfl)
theorem dX2_init_195 : decode cX2_init 195 = .ok (.iastore, 1) := dk_79 (dk_at dksX2_init_8 6 rfl rfl)
theorem dX2_init_196 : decode cX2_init 196 = .ok (.aload_n 0, 1) := dk_42 (dk_at dksX2_init_8 7 rfl rfl)
theorem dX2_init_197 : decode cX2_init 197 = .ok (.getfield 13, 3) := dk_180 0 13 (dk_at dksX2_init_8 8 rfl rfl)
theorem dX2_init_200 : decode cX2_init 200 = .ok (.iload_n 1, 1) := dk_27 (dk_at dksX2_init_8 11 rfl rfl)
theorem dX2_init_201 : decode cX2_init 201 = .ok (.bipush 100, 2) := dk_16 100 (dk_at dksX2_init_8 12 rfl rfl)
theorem dX2_init_203 : decode cX2_init 203 = .ok (.iastore, 1) := dk_79 (dk_at dksX2_init_8 14 rfl rfl)
theorem dX2_init_204 : decode cX2_init 204 = .ok (.iinc 1 1, 3) := dk_132 1 1 (dk_at dksX2_init_8 15 rfl rfl)
theorem dX2_init_207 : decode cX2_init 207 = .ok (.goto (-25), 3) := dk_167 255 231 (dk_at dksX2_init_8 18 rfl rfl)
theorem dX2_init_210 : decode cX2_init 210 = .ok (.iconst 0, 1) := dk_3 (dk_at dksX2_init_8 21 rfl rfl)
theorem dX2_init_211 : decode cX2_init 211 = .ok (.istore_n 1, 1) := dk_60 (dk_at dksX2_init_8 22 rfl rfl)
theorem dX2_init_212 : decode cX2_init 212 = .ok (.iload_n 1, 1) := dk_27 (dk_at dksX2_init_8 23 rfl rfl)
theorem dX2_init_213 : decode cX2_init 213 = .ok (.bipush 8, 2) := dk_16 8 (dk_at dksX2_init_9 0 rfl rfl)
theorem dX2_init_215 : decode cX2_init 215 = .ok (.if_icmp .ge 25, 3) := dk_162 0 25 (dk_at dksX2_init_9 2 rfl rfl)
theorem dX2_init_218 : decode cX2_init 218 = .ok (.aload_n 0, 1) := dk_42 (dk_at dksX2_init_9 5 rfl rfl)
theorem dX2_init_219 : decode cX2_init 219 = .ok (.getfield 19, 3) := dk_180 0 19 (dk_at dksX2_init_9 6 rfl rfl)
theorem dX2_init_222 : decode cX2_init 222 = .ok (.iload_n 1, 1) := dk_27 (dk_at dksX2_init_9 9 rfl rfl)
theorem dX2_init_223 : decode cX2_init 223 = .ok (.bipush 100, 2) := dk_16 100 (dk_at dksX2_init_9 10 rfl rfl)
theorem dX2_init_225 : decode cX2_init 225 = .ok (.iastore, 1) := dk_79 (dk_at dksX2_init_9 12 rfl rfl)
theorem dX2_init_226 : decode cX2_init 226 = .ok (.aload_n 0, 1) := dk_42 (dk_at dksX2_init_9 13 rfl rfl)
theorem dX2_init_227 : decode cX2_init 227 = .ok (.getfield 22, 3) := dk_180 0 22 (dk_at dksX2_init_9 14 rfl rfl)
theorem dX2_init_230 : decode cX2_init 230 = .ok (.iload_n 1, 1) := dk_27 (dk_at dksX2_init_9 17 rfl rfl)
theorem dX2_init_231 : decode cX2_init 231 = .ok (.bipush (-6), 2) := dk_16 250 (dk_at dksX2_init_9 18 rfl rfl)
theorem dX2_init_233 : decode cX2_init 233 = .ok (.iastore, 1) := dk_79 (dk_at dksX2_init_9 20 rfl rfl)
theorem dX2_init_234 : decode cX2_init 234 = .ok (.iinc 1 1, 3) := dk_132 1 1 (dk_at dksX2_init_9 21 rfl rfl)
theorem dX2_init_237 : decode cX2_init 237 = .ok (.goto (-25), 3) := dk_167 255 231 (dk_at dksX2_init_10 0 rfl rfl)
theorem dX2_init_240 : decode cX2_init 240 = .ok (.return_, 1) := dk_177 (dk_at dksX2_init_10 3 rfl rfl)
abbrev cX2_one : ByteArray := prog_4_method_6_code
def yX2_one : MethodName := ⟨RX2, "one", "(III)I"⟩
def dkwX2_one_3 : List UInt8 := [172]
abbrev dktX2_one_3 : List UInt8 := dkwX2_one_3 ++ []
def dkwX2_one_2 : List UInt8 := [180, 0, 13, 27, 46, 96, 54, 4, 42, 180, 0, 7, 27, 28, 79, 42, 180, 0, 13, 27, 29, 79, 21, 4]
abbrev dktX2_one_2 : List UInt8 := dkwX2_one_2 ++ dktX2_one_3
def dkwX2_one_1 : List UInt8 := [20, 0, 88, 184, 0, 80, 154, 0, 6, 16, 254, 172, 17, 39, 16, 42, 180, 0, 7, 27, 46, 104, 42]
abbrev dktX2_one_1 : List UInt8 := dkwX2_one_1 ++ dktX2_one_2
def dkwX2_one_0 : List UInt8 := [27, 184, 0, 84, 154, 0, 5, 2, 172, 28, 133, 9, 20, 0, 88, 184, 0, 80, 153, 0, 15, 29, 133, 9]
abbrev dktX2_one_0 : List UInt8 := dkwX2_one_0 ++ dktX2_one_1
theorem dksX2_one_0 : cX2_one.data.toList.drop 0 = dktX2_one_0 := by decide +kernel
theorem dksX2_one_1 : cX2_one.data.toList.drop 24 = dktX2_one_1 := dk_seg dksX2_one_0 24 rfl rfl
theorem dksX2_one_2 : cX2_one.data.toList.drop 47 = dktX2_one_2 := dk_seg dksX2_one_1 23 rfl rfl
theorem dksX2_one_3 : cX2_one.data.toList.drop 71 = dktX2_one_3 := dk_seg dksX2_one_2 24 rfl rfl
theorem dX2_one_0 : decode cX2_one 0 = .ok (.iload_n 1, 1) := dk_27 (dk_at dksX2_one_0 0 rfl rfl)
theorem dX2_one_1 : decode cX2_one 1 = .ok (.invokestatic 84, 3) := dk_184 0 84 (dk_at dksX2_one_0 1 rfl rfl)
theorem dX2_one_4 : decode cX2_one 4 = .ok (.ifCond .ne 5, 3) := dk_154 0 5 (dk_at dksX2_one_0 4 rfl rfl)
theorem dX2_one_7 : decode cX2_one 7 = .ok (.iconst (-1), 1) := dk_2 (dk_at dksX2_one_0 7 rfl rfl)
theorem dX2_one_8 : decode cX2_one 8 = .ok (.ireturn, 1) := dk_172 (dk_at dksX2_one_0 8 rfl rfl)
theorem dX2_one_9 : decode cX2_one 9 = .ok (.iload_n 2, 1) := dk_28 (dk_at dksX2_one_0 9 rfl rfl)
theorem dX2_one_10 : decode cX2_one 10 = .ok (.i2l, 1) := dk_133 (dk_at dksX2_one_0 10 rfl rfl)
theorem dX2_one_11 : decode cX2_one 11 = .ok (.lconst 0, 1) := dk_9 (dk_at dksX2_one_0 11 rfl rfl)
theorem dX2_one_12 : decode cX2_one 12 = .ok (.ldc2_w 88, 3) := dk_20 0 88 (dk_at dksX2_one_0 12 rfl rfl)
theorem dX2_one_15 : decode cX2_one 15 = .ok (.invokestatic 80, 3) := dk_184 0 80 (dk_at dksX2_one_0 15 rfl rfl)
theorem dX2_one_18 : decode cX2_one 18 = .ok (.ifCond .eq 15, 3) := dk_153 0 15 (dk_at dksX2_one_0 18 rfl rfl)
theorem dX2_one_21 : decode cX2_one 21 = .ok (.iload_n 3, 1) := dk_29 (dk_at dksX2_one_0 21 rfl rfl)
theorem dX2_one_22 : decode cX2_one 22 = .ok (.i2l, 1) := dk_133 (dk_at dksX2_one_0 22 rfl rfl)
theorem dX2_one_23 : decode cX2_one 23 = .ok (.lconst 0, 1) := dk_9 (dk_at dksX2_one_0 23 rfl rfl)
theorem dX2_one_24 : decode cX2_one 24 = .ok (.ldc2_w 88, 3) := dk_20 0 88 (dk_at dksX2_one_1 0 rfl rfl)
theorem dX2_one_27 : decode cX2_one 27 = .ok (.invokestatic 80, 3) := dk_184 0 80 (dk_at dksX2_one_1 3 rfl rfl)
theorem dX2_one_30 : decode cX2_one 30 = .ok (.ifCond .ne 6, 3) := dk_154 0 6 (dk_at dksX2_one_1 6 rfl rfl)
theorem dX2_one_33 : decode cX2_one 33 = .ok (.bipush (-2), 2) := dk_16 254 (dk_at dksX2_one_1 9 rfl rfl)
theorem dX2_one_35 : decode cX2_one 35 = .ok (.ireturn, 1) := dk_172 (dk_at dksX2_one_1 11 rfl rfl)
theorem dX2_one_36 : decode cX2_one 36 = .ok (.sipush 10000, 3) := dk_17 39 16 (dk_at dksX2_one_1 12 rfl rfl)
theorem dX2_one_39 : decode cX2_one 39 = .ok (.aload_n 0, 1) := dk_42 (dk_at dksX2_one_1 15 rfl rfl)
theorem dX2_one_40 : decode cX2_one 40 = .ok (.getfield 7, 3) := dk_180 0 7 (dk_at dksX2_one_1 16 rfl rfl)
theorem dX2_one_43 : decode cX2_one 43 = .ok (.iload_n 1, 1) := dk_27 (dk_at dksX2_one_1 19 rfl rfl)
theorem dX2_one_44 : decode cX2_one 44 = .ok (.iaload, 1) := dk_46 (dk_at dksX2_one_1 20 rfl rfl)
theorem dX2_one_45 : decode cX2_one 45 = .ok (.imul, 1) := dk_104 (dk_at dksX2_one_1 21 rfl rfl)
theorem dX2_one_46 : decode cX2_one 46 = .ok (.aload_n 0, 1) := dk_42 (dk_at dksX2_one_1 22 rfl rfl)
theorem dX2_one_47 : decode cX2_one 47 = .ok (.getfield 13, 3) := dk_180 0 13 (dk_at dksX2_one_2 0 rfl rfl)
theorem dX2_one_50 : decode cX2_one 50 = .ok (.iload_n 1, 1) := dk_27 (dk_at dksX2_one_2 3 rfl rfl)
theorem dX2_one_51 : decode cX2_one 51 = .ok (.iaload, 1) := dk_46 (dk_at dksX2_one_2 4 rfl rfl)
theorem dX2_one_52 : decode cX2_one 52 = .ok (.iadd, 1) := dk_96 (dk_at dksX2_one_2 5 rfl rfl)
theorem dX2_one_53 : decode cX2_one 53 = .ok (.istore 4, 2) := dk_54 4 (dk_at dksX2_one_2 6 rfl rfl)
theorem dX2_one_55 : decode cX2_one 55 = .ok (.aload_n 0, 1) := dk_42 (dk_at dksX2_one_2 8 rfl rfl)
theorem dX2_one_56 : decode cX2_one 56 = .ok (.getfield 7, 3) := dk_180 0 7 (dk_at dksX2_one_2 9 rfl rfl)
theorem dX2_one_59 : decode cX2_one 59 = .ok (.iload_n 1, 1) := dk_27 (dk_at dksX2_one_2 12 rfl rfl)
theorem dX2_one_60 : decode cX2_one 60 = .ok (.iload_n 2, 1) := dk_28 (dk_at dksX2_one_2 13 rfl rfl)
theorem dX2_one_61 : decode cX2_one 61 = .ok (.iastore, 1) := dk_79 (dk_at dksX2_one_2 14 rfl rfl)
theorem dX2_one_62 : decode cX2_one 62 = .ok (.aload_n 0, 1) := dk_42 (dk_at dksX2_one_2 15 rfl rfl)
theorem dX2_one_63 : decode cX2_one 63 = .ok (.getfield 13, 3) := dk_180 0 13 (dk_at dksX2_one_2 16 rfl rfl)
theorem dX2_one_66 : decode cX2_one 66 = .ok (.iload_n 1, 1) := dk_27 (dk_at dksX2_one_2 19 rfl rfl)
theorem dX2_one_67 : decode cX2_one 67 = .ok (.iload_n 3, 1) := dk_29 (dk_at dksX2_one_2 20 rfl rfl)
theorem dX2_one_68 : decode cX2_one 68 = .ok (.iastore, 1) := dk_79 (dk_at dksX2_one_2 21 rfl rfl)
theorem dX2_one_69 : decode cX2_one 69 = .ok (.iload 4, 2) := dk_21 4 (dk_at dksX2_one_2 22 rfl rfl)
theorem dX2_one_71 : decode cX2_one 71 = .ok (.ireturn, 1) := dk_172 (dk_at dksX2_one_3 0 rfl rfl)
abbrev cX2_isOne : ByteArray := prog_4_method_5_code
def yX2_isOne : MethodName := ⟨RX2, "isOne", "(I)Z"⟩
def dkwX2_isOne_0 : List UInt8 := [26, 133, 9, 20, 0, 78, 184, 0, 80, 172]
abbrev dktX2_isOne_0 : List UInt8 := dkwX2_isOne_0 ++ []
theorem dksX2_isOne_0 : cX2_isOne.data.toList.drop 0 = dktX2_isOne_0 := by decide +kernel
theorem dX2_isOne_0 : decode cX2_isOne 0 = .ok (.iload_n 0, 1) := dk_26 (dk_at dksX2_isOne_0 0 rfl rfl)
theorem dX2_isOne_1 : decode cX2_isOne 1 = .ok (.i2l, 1) := dk_133 (dk_at dksX2_isOne_0 1 rfl rfl)
theorem dX2_isOne_2 : decode cX2_isOne 2 = .ok (.lconst 0, 1) := dk_9 (dk_at dksX2_isOne_0 2 rfl rfl)
theorem dX2_isOne_3 : decode cX2_isOne 3 = .ok (.ldc2_w 78, 3) := dk_20 0 78 (dk_at dksX2_isOne_0 3 rfl rfl)
theorem dX2_isOne_6 : decode cX2_isOne 6 = .ok (.invokestatic 80, 3) := dk_184 0 80 (dk_at dksX2_isOne_0 6 rfl rfl)
theorem dX2_isOne_9 : decode cX2_isOne 9 = .ok (.ireturn, 1) := dk_172 (dk_at dksX2_isOne_0 9 rfl rfl)
abbrev cX2_in : ByteArray := prog_4_method_3_code
def yX2_in : MethodName := ⟨RX2, "in", "(JJJ)Z"⟩
def dkwX2_in_0 : List UInt8 := [30, 32, 148, 155, 0, 14, 30, 22, 4, 148, 157, 0, 7, 4, 167, 0, 4, 3, 172]
abbrev dktX2_in_0 : List UInt8 := dkwX2_in_0 ++ []
theorem dksX2_in_0 : cX2_in.data.toList.drop 0 = dktX2_in_0 := by decide +kernel
theorem dX2_in_0 : decode cX2_in 0 = .ok (.lload_n 0, 1) := dk_30 (dk_at dksX2_in_0 0 rfl rfl)
theorem dX2_in_1 : decode cX2_in 1 = .ok (.lload_n 2, 1) := dk_32 (dk_at dksX2_in_0 1 rfl rfl)
theorem dX2_in_2 : decode cX2_in 2 = .ok (.lcmp, 1) := dk_148 (dk_at dksX2_in_0 2 rfl rfl)
theorem dX2_in_3 : decode cX2_in 3 = .ok (.ifCond .lt 14, 3) := dk_155 0 14 (dk_at dksX2_in_0 3 rfl rfl)
theorem dX2_in_6 : decode cX2_in 6 = .ok (.lload_n 0, 1) := dk_30 (dk_at dksX2_in_0 6 rfl rfl)
theorem dX2_in_7 : decode cX2_in 7 = .ok (.lload 4, 2) := dk_22 4 (dk_at dksX2_in_0 7 rfl rfl)
theorem dX2_in_9 : decode cX2_in 9 = .ok (.lcmp, 1) := dk_148 (dk_at dksX2_in_0 9 rfl rfl)
theorem dX2_in_10 : decode cX2_in 10 = .ok (.ifCond .gt 7, 3) := dk_157 0 7 (dk_at dksX2_in_0 10 rfl rfl)
theorem dX2_in_13 : decode cX2_in 13 = .ok (.iconst 1, 1) := dk_4 (dk_at dksX2_in_0 13 rfl rfl)
theorem dX2_in_14 : decode cX2_in 14 = .ok (.goto 4, 3) := dk_167 0 4 (dk_at dksX2_in_0 14 rfl rfl)
theorem dX2_in_17 : decode cX2_in 17 = .ok (.iconst 0, 1) := dk_3 (dk_at dksX2_in_0 17 rfl rfl)
theorem dX2_in_18 : decode cX2_in 18 = .ok (.ireturn, 1) := dk_172 (dk_at dksX2_in_0 18 rfl rfl)
abbrev cX2_owe : ByteArray := prog_4_method_7_code
def yX2_owe : MethodName := ⟨RX2, "owe", "(III)I"⟩
def dkwX2_owe_2 : List UInt8 := [54, 4, 42, 180, 0, 16, 16, 6, 27, 104, 28, 96, 29, 79, 21, 4, 172]
abbrev dktX2_owe_2 : List UInt8 := dkwX2_owe_2 ++ []
def dkwX2_owe_1 : List UInt8 := [20, 0, 90, 184, 0, 80, 154, 0, 6, 16, 254, 172, 42, 180, 0, 16, 16, 6, 27, 104, 28, 96, 46]
abbrev dktX2_owe_1 : List UInt8 := dkwX2_owe_1 ++ dktX2_owe_2
def dkwX2_owe_0 : List UInt8 := [27, 184, 0, 84, 153, 0, 15, 28, 184, 0, 84, 153, 0, 8, 27, 28, 160, 0, 5, 2, 172, 29, 133, 9]
abbrev dktX2_owe_0 : List UInt8 := dkwX2_owe_0 ++ dktX2_owe_1
theorem dksX2_owe_0 : cX2_owe.data.toList.drop 0 = dktX2_owe_0 := by decide +kernel
theorem dksX2_owe_1 : cX2_owe.data.toList.drop 24 = dktX2_owe_1 := dk_seg dksX2_owe_0 24 rfl rfl
theorem dksX2_owe_2 : cX2_owe.data.toList.drop 47 = dktX2_owe_2 := dk_seg dksX2_owe_1 23 rfl rfl
theorem dX2_owe_0 : decode cX2_owe 0 = .ok (.iload_n 1, 1) := dk_27 (dk_at dksX2_owe_0 0 rfl rfl)
theorem dX2_owe_1 : decode cX2_owe 1 = .ok (.invokestatic 84, 3) := dk_184 0 84 (dk_at dksX2_owe_0 1 rfl rfl)
theorem dX2_owe_4 : decode cX2_owe 4 = .ok (.ifCond .eq 15, 3) := dk_153 0 15 (dk_at dksX2_owe_0 4 rfl rfl)
theorem dX2_owe_7 : decode cX2_owe 7 = .ok (.iload_n 2, 1) := dk_28 (dk_at dksX2_owe_0 7 rfl rfl)
theorem dX2_owe_8 : decode cX2_owe 8 = .ok (.invokestatic 84, 3) := dk_184 0 84 (dk_at dksX2_owe_0 8 rfl rfl)
theorem dX2_owe_11 : decode cX2_owe 11 = .ok (.ifCond .eq 8, 3) := dk_153 0 8 (dk_at dksX2_owe_0 11 rfl rfl)
theorem dX2_owe_14 : decode cX2_owe 14 = .ok (.iload_n 1, 1) := dk_27 (dk_at dksX2_owe_0 14 rfl rfl)
theorem dX2_owe_15 : decode cX2_owe 15 = .ok (.iload_n 2, 1) := dk_28 (dk_at dksX2_owe_0 15 rfl rfl)
theorem dX2_owe_16 : decode cX2_owe 16 = .ok (.if_icmp .ne 5, 3) := dk_160 0 5 (dk_at dksX2_owe_0 16 rfl rfl)
theorem dX2_owe_19 : decode cX2_owe 19 = .ok (.iconst (-1), 1) := dk_2 (dk_at dksX2_owe_0 19 rfl rfl)
theorem dX2_owe_20 : decode cX2_owe 20 = .ok (.ireturn, 1) := dk_172 (dk_at dksX2_owe_0 20 rfl rfl)
theorem dX2_owe_21 : decode cX2_owe 21 = .ok (.iload_n 3, 1) := dk_29 (dk_at dksX2_owe_0 21 rfl rfl)
theorem dX2_owe_22 : decode cX2_owe 22 = .ok (.i2l, 1) := dk_133 (dk_at dksX2_owe_0 22 rfl rfl)
theorem dX2_owe_23 : decode cX2_owe 23 = .ok (.lconst 0, 1) := dk_9 (dk_at dksX2_owe_0 23 rfl rfl)
theorem dX2_owe_24 : decode cX2_owe 24 = .ok (.ldc2_w 90, 3) := dk_20 0 90 (dk_at dksX2_owe_1 0 rfl rfl)
theorem dX2_owe_27 : decode cX2_owe 27 = .ok (.invokestatic 80, 3) := dk_184 0 80 (dk_at dksX2_owe_1 3 rfl rfl)
theorem dX2_owe_30 : decode cX2_owe 30 = .ok (.ifCond .ne 6, 3) := dk_154 0 6 (dk_at dksX2_owe_1 6 rfl rfl)
theorem dX2_owe_33 : decode cX2_owe 33 = .ok (.bipush (-2), 2) := dk_16 254 (dk_at dksX2_owe_1 9 rfl rfl)
theorem dX2_owe_35 : decode cX2_owe 35 = .ok (.ireturn, 1) := dk_172 (dk_at dksX2_owe_1 11 rfl rfl)
theorem dX2_owe_36 : decode cX2_owe 36 = .ok (.aload_n 0, 1) := dk_42 (dk_at dksX2_owe_1 12 rfl rfl)
theorem dX2_owe_37 : decode cX2_owe 37 = .ok (.getfield 16, 3) := dk_180 0 16 (dk_at dksX2_owe_1 13 rfl rfl)
theorem dX2_owe_40 : decode cX2_owe 40 = .ok (.bipush 6, 2) := dk_16 6 (dk_at dksX2_owe_1 16 rfl rfl)
theorem dX2_owe_42 : decode cX2_owe 42 = .ok (.iload_n 1, 1) := dk_27 (dk_at dksX2_owe_1 18 rfl rfl)
theorem dX2_owe_43 : decode cX2_owe 43 = .ok (.imul, 1) := dk_104 (dk_at dksX2_owe_1 19 rfl rfl)
theorem dX2_owe_44 : decode cX2_owe 44 = .ok (.iload_n 2, 1) := dk_28 (dk_at dksX2_owe_1 20 rfl rfl)
theorem dX2_owe_45 : decode cX2_owe 45 = .ok (.iadd, 1) := dk_96 (dk_at dksX2_owe_1 21 rfl rfl)
theorem dX2_owe_46 : decode cX2_owe 46 = .ok (.iaload, 1) := dk_46 (dk_at dksX2_owe_1 22 rfl rfl)
theorem dX2_owe_47 : decode cX2_owe 47 = .ok (.istore 4, 2) := dk_54 4 (dk_at dksX2_owe_2 0 rfl rfl)
theorem dX2_owe_49 : decode cX2_owe 49 = .ok (.aload_n 0, 1) := dk_42 (dk_at dksX2_owe_2 2 rfl rfl)
theorem dX2_owe_50 : decode cX2_owe 50 = .ok (.getfield 16, 3) := dk_180 0 16 (dk_at dksX2_owe_2 3 rfl rfl)
theorem dX2_owe_53 : decode cX2_owe 53 = .ok (.bipush 6, 2) := dk_16 6 (dk_at dksX2_owe_2 6 rfl rfl)
theorem dX2_owe_55 : decode cX2_owe 55 = .ok (.iload_n 1, 1) := dk_27 (dk_at dksX2_owe_2 8 rfl rfl)
theorem dX2_owe_56 : decode cX2_owe 56 = .ok (.imul, 1) := dk_104 (dk_at dksX2_owe_2 9 rfl rfl)
theorem dX2_owe_57 : decode cX2_owe 57 = .ok (.iload_n 2, 1) := dk_28 (dk_at dksX2_owe_2 10 rfl rfl)
theorem dX2_owe_58 : decode cX2_owe 58 = .ok (.iadd, 1) := dk_96 (dk_at dksX2_owe_2 11 rfl rfl)
theorem dX2_owe_59 : decode cX2_owe 59 = .ok (.iload_n 3, 1) := dk_29 (dk_at dksX2_owe_2 12 rfl rfl)
theorem dX2_owe_60 : decode cX2_owe 60 = .ok (.iastore, 1) := dk_79 (dk_at dksX2_owe_2 13 rfl rfl)
theorem dX2_owe_61 : decode cX2_owe 61 = .ok (.iload 4, 2) := dk_21 4 (dk_at dksX2_owe_2 14 rfl rfl)
theorem dX2_owe_63 : decode cX2_owe 63 = .ok (.ireturn, 1) := dk_172 (dk_at dksX2_owe_2 16 rfl rfl)
abbrev cX2_lot : ByteArray := prog_4_method_8_code
def yX2_lot : MethodName := ⟨RX2, "lot", "(III)I"⟩
def dkwX2_lot_3 : List UInt8 := [167, 0, 4, 29, 79, 21, 4, 172]
abbrev dktX2_lot_3 : List UInt8 := dkwX2_lot_3 ++ []
def dkwX2_lot_2 : List UInt8 := [27, 46, 54, 4, 42, 180, 0, 19, 27, 28, 79, 42, 180, 0, 22, 27, 29, 156, 0, 8, 16, 250]
abbrev dktX2_lot_2 : List UInt8 := dkwX2_lot_2 ++ dktX2_lot_3
def dkwX2_lot_1 : List UInt8 := [154, 0, 5, 2, 172, 28, 133, 10, 20, 0, 90, 184, 0, 80, 154, 0, 6, 16, 254, 172, 42, 180, 0, 19]
abbrev dktX2_lot_1 : List UInt8 := dkwX2_lot_1 ++ dktX2_lot_2
def dkwX2_lot_0 : List UInt8 := [27, 133, 9, 20, 0, 92, 184, 0, 80, 153, 0, 17, 29, 133, 20, 0, 94, 20, 0, 78, 184, 0, 80]
abbrev dktX2_lot_0 : List UInt8 := dkwX2_lot_0 ++ dktX2_lot_1
theorem dksX2_lot_0 : cX2_lot.data.toList.drop 0 = dktX2_lot_0 := by decide +kernel
theorem dksX2_lot_1 : cX2_lot.data.toList.drop 23 = dktX2_lot_1 := dk_seg dksX2_lot_0 23 rfl rfl
theorem dksX2_lot_2 : cX2_lot.data.toList.drop 47 = dktX2_lot_2 := dk_seg dksX2_lot_1 24 rfl rfl
theorem dksX2_lot_3 : cX2_lot.data.toList.drop 69 = dktX2_lot_3 := dk_seg dksX2_lot_2 22 rfl rfl
theorem dX2_lot_0 : decode cX2_lot 0 = .ok (.iload_n 1, 1) := dk_27 (dk_at dksX2_lot_0 0 rfl rfl)
theorem dX2_lot_1 : decode cX2_lot 1 = .ok (.i2l, 1) := dk_133 (dk_at dksX2_lot_0 1 rfl rfl)
theorem dX2_lot_2 : decode cX2_lot 2 = .ok (.lconst 0, 1) := dk_9 (dk_at dksX2_lot_0 2 rfl rfl)
theorem dX2_lot_3 : decode cX2_lot 3 = .ok (.ldc2_w 92, 3) := dk_20 0 92 (dk_at dksX2_lot_0 3 rfl rfl)
theorem dX2_lot_6 : decode cX2_lot 6 = .ok (.invokestatic 80, 3) := dk_184 0 80 (dk_at dksX2_lot_0 6 rfl rfl)
theorem dX2_lot_9 : decode cX2_lot 9 = .ok (.ifCond .eq 17, 3) := dk_153 0 17 (dk_at dksX2_lot_0 9 rfl rfl)
theorem dX2_lot_12 : decode cX2_lot 12 = .ok (.iload_n 3, 1) := dk_29 (dk_at dksX2_lot_0 12 rfl rfl)
theorem dX2_lot_13 : decode cX2_lot 13 = .ok (.i2l, 1) := dk_133 (dk_at dksX2_lot_0 13 rfl rfl)
theorem dX2_lot_14 : decode cX2_lot 14 = .ok (.ldc2_w 94, 3) := dk_20 0 94 (dk_at dksX2_lot_0 14 rfl rfl)
theorem dX2_lot_17 : decode cX2_lot 17 = .ok (.ldc2_w 78, 3) := dk_20 0 78 (dk_at dksX2_lot_0 17 rfl rfl)
theorem dX2_lot_20 : decode cX2_lot 20 = .ok (.invokestatic 80, 3) := dk_184 0 80 (dk_at dksX2_lot_0 20 rfl rfl)
theorem dX2_lot_23 : decode cX2_lot 23 = .ok (.ifCond .ne 5, 3) := dk_154 0 5 (dk_at dksX2_lot_1 0 rfl rfl)
theorem dX2_lot_26 : decode cX2_lot 26 = .ok (.iconst (-1), 1) := dk_2 (dk_at dksX2_lot_1 3 rfl rfl)
theorem dX2_lot_27 : decode cX2_lot 27 = .ok (.ireturn, 1) := dk_172 (dk_at dksX2_lot_1 4 rfl rfl)
theorem dX2_lot_28 : decode cX2_lot 28 = .ok (.iload_n 2, 1) := dk_28 (dk_at dksX2_lot_1 5 rfl rfl)
theorem dX2_lot_29 : decode cX2_lot 29 = .ok (.i2l, 1) := dk_133 (dk_at dksX2_lot_1 6 rfl rfl)
theorem dX2_lot_30 : decode cX2_lot 30 = .ok (.lconst 1, 1) := dk_10 (dk_at dksX2_lot_1 7 rfl rfl)
theorem dX2_lot_31 : decode cX2_lot 31 = .ok (.ldc2_w 90, 3) := dk_20 0 90 (dk_at dksX2_lot_1 8 rfl rfl)
theorem dX2_lot_34 : decode cX2_lot 34 = .ok (.invokestatic 80, 3) := dk_184 0 80 (dk_at dksX2_lot_1 11 rfl rfl)
theorem dX2_lot_37 : decode cX2_lot 37 = .ok (.ifCond .ne 6, 3) := dk_154 0 6 (dk_at dksX2_lot_1 14 rfl rfl)
theorem dX2_lot_40 : decode cX2_lot 40 = .ok (.bipush (-2), 2) := dk_16 254 (dk_at dksX2_lot_1 17 rfl rfl)
theorem dX2_lot_42 : decode cX2_lot 42 = .ok (.ireturn, 1) := dk_172 (dk_at dksX2_lot_1 19 rfl rfl)
theorem dX2_lot_43 : decode cX2_lot 43 = .ok (.aload_n 0, 1) := dk_42 (dk_at dksX2_lot_1 20 rfl rfl)
theorem dX2_lot_44 : decode cX2_lot 44 = .ok (.getfield 19, 3) := dk_180 0 19 (dk_at dksX2_lot_1 21 rfl rfl)
theorem dX2_lot_47 : decode cX2_lot 47 = .ok (.iload_n 1, 1) := dk_27 (dk_at dksX2_lot_2 0 rfl rfl)
theorem dX2_lot_48 : decode cX2_lot 48 = .ok (.iaload, 1) := dk_46 (dk_at dksX2_lot_2 1 rfl rfl)
theorem dX2_lot_49 : decode cX2_lot 49 = .ok (.istore 4, 2) := dk_54 4 (dk_at dksX2_lot_2 2 rfl rfl)
theorem dX2_lot_51 : decode cX2_lot 51 = .ok (.aload_n 0, 1) := dk_42 (dk_at dksX2_lot_2 4 rfl rfl)
theorem dX2_lot_52 : decode cX2_lot 52 = .ok (.getfield 19, 3) := dk_180 0 19 (dk_at dksX2_lot_2 5 rfl rfl)
theorem dX2_lot_55 : decode cX2_lot 55 = .ok (.iload_n 1, 1) := dk_27 (dk_at dksX2_lot_2 8 rfl rfl)
theorem dX2_lot_56 : decode cX2_lot 56 = .ok (.iload_n 2, 1) := dk_28 (dk_at dksX2_lot_2 9 rfl rfl)
theorem dX2_lot_57 : decode cX2_lot 57 = .ok (.iastore, 1) := dk_79 (dk_at dksX2_lot_2 10 rfl rfl)
theorem dX2_lot_58 : decode cX2_lot 58 = .ok (.aload_n 0, 1) := dk_42 (dk_at dksX2_lot_2 11 rfl rfl)
theorem dX2_lot_59 : decode cX2_lot 59 = .ok (.getfield 22, 3) := dk_180 0 22 (dk_at dksX2_lot_2 12 rfl rfl)
theorem dX2_lot_62 : decode cX2_lot 62 = .ok (.iload_n 1, 1) := dk_27 (dk_at dksX2_lot_2 15 rfl rfl)
theorem dX2_lot_63 : decode cX2_lot 63 = .ok (.iload_n 3, 1) := dk_29 (dk_at dksX2_lot_2 16 rfl rfl)
theorem dX2_lot_64 : decode cX2_lot 64 = .ok (.ifCond .ge 8, 3) := dk_156 0 8 (dk_at dksX2_lot_2 17 rfl rfl)
theorem dX2_lot_67 : decode cX2_lot 67 = .ok (.bipush (-6), 2) := dk_16 250 (dk_at dksX2_lot_2 20 rfl rfl)
theorem dX2_lot_69 : decode cX2_lot 69 = .ok (.goto 4, 3) := dk_167 0 4 (dk_at dksX2_lot_3 0 rfl rfl)
theorem dX2_lot_72 : decode cX2_lot 72 = .ok (.iload_n 3, 1) := dk_29 (dk_at dksX2_lot_3 3 rfl rfl)
theorem dX2_lot_73 : decode cX2_lot 73 = .ok (.iastore, 1) := dk_79 (dk_at dksX2_lot_3 4 rfl rfl)
theorem dX2_lot_74 : decode cX2_lot 74 = .ok (.iload 4, 2) := dk_21 4 (dk_at dksX2_lot_3 5 rfl rfl)
theorem dX2_lot_76 : decode cX2_lot 76 = .ok (.ireturn, 1) := dk_172 (dk_at dksX2_lot_3 7 rfl rfl)
abbrev cX2_set : ByteArray := prog_4_method_9_code
def yX2_set : MethodName := ⟨RX2, "set", "(II)I"⟩
def dkwX2_set_3 : List UInt8 := [181, 0, 102, 29, 172]
abbrev dktX2_set_3 : List UInt8 := dkwX2_set_3 ++ []
def dkwX2_set_2 : List UInt8 := [167, 0, 7, 42, 180, 0, 98, 181, 0, 98, 42, 27, 4, 160, 0, 7, 28, 167, 0, 7, 42, 180, 0, 102]
abbrev dktX2_set_2 : List UInt8 := dkwX2_set_2 ++ dktX2_set_3
def dkwX2_set_1 : List UInt8 := [172, 27, 154, 0, 10, 42, 180, 0, 98, 167, 0, 7, 42, 180, 0, 102, 62, 42, 27, 154, 0, 7, 28]
abbrev dktX2_set_1 : List UInt8 := dkwX2_set_1 ++ dktX2_set_2
def dkwX2_set_0 : List UInt8 := [27, 133, 9, 10, 184, 0, 80, 153, 0, 15, 28, 133, 9, 20, 0, 96, 184, 0, 80, 154, 0, 6, 16, 254]
abbrev dktX2_set_0 : List UInt8 := dkwX2_set_0 ++ dktX2_set_1
theorem dksX2_set_0 : cX2_set.data.toList.drop 0 = dktX2_set_0 := by decide +kernel
theorem dksX2_set_1 : cX2_set.data.toList.drop 24 = dktX2_set_1 := dk_seg dksX2_set_0 24 rfl rfl
theorem dksX2_set_2 : cX2_set.data.toList.drop 47 = dktX2_set_2 := dk_seg dksX2_set_1 23 rfl rfl
theorem dksX2_set_3 : cX2_set.data.toList.drop 71 = dktX2_set_3 := dk_seg dksX2_set_2 24 rfl rfl
theorem dX2_set_0 : decode cX2_set 0 = .ok (.iload_n 1, 1) := dk_27 (dk_at dksX2_set_0 0 rfl rfl)
theorem dX2_set_1 : decode cX2_set 1 = .ok (.i2l, 1) := dk_133 (dk_at dksX2_set_0 1 rfl rfl)
theorem dX2_set_2 : decode cX2_set 2 = .ok (.lconst 0, 1) := dk_9 (dk_at dksX2_set_0 2 rfl rfl)
theorem dX2_set_3 : decode cX2_set 3 = .ok (.lconst 1, 1) := dk_10 (dk_at dksX2_set_0 3 rfl rfl)
theorem dX2_set_4 : decode cX2_set 4 = .ok (.invokestatic 80, 3) := dk_184 0 80 (dk_at dksX2_set_0 4 rfl rfl)
theorem dX2_set_7 : decode cX2_set 7 = .ok (.ifCond .eq 15, 3) := dk_153 0 15 (dk_at dksX2_set_0 7 rfl rfl)
theorem dX2_set_10 : decode cX2_set 10 = .ok (.iload_n 2, 1) := dk_28 (dk_at dksX2_set_0 10 rfl rfl)
theorem dX2_set_11 : decode cX2_set 11 = .ok (.i2l, 1) := dk_133 (dk_at dksX2_set_0 11 rfl rfl)
theorem dX2_set_12 : decode cX2_set 12 = .ok (.lconst 0, 1) := dk_9 (dk_at dksX2_set_0 12 rfl rfl)
theorem dX2_set_13 : decode cX2_set 13 = .ok (.ldc2_w 96, 3) := dk_20 0 96 (dk_at dksX2_set_0 13 rfl rfl)
theorem dX2_set_16 : decode cX2_set 16 = .ok (.invokestatic 80, 3) := dk_184 0 80 (dk_at dksX2_set_0 16 rfl rfl)
theorem dX2_set_19 : decode cX2_set 19 = .ok (.ifCond .ne 6, 3) := dk_154 0 6 (dk_at dksX2_set_0 19 rfl rfl)
theorem dX2_set_22 : decode cX2_set 22 = .ok (.bipush (-2), 2) := dk_16 254 (dk_at dksX2_set_0 22 rfl rfl)
theorem dX2_set_24 : decode cX2_set 24 = .ok (.ireturn, 1) := dk_172 (dk_at dksX2_set_1 0 rfl rfl)
theorem dX2_set_25 : decode cX2_set 25 = .ok (.iload_n 1, 1) := dk_27 (dk_at dksX2_set_1 1 rfl rfl)
theorem dX2_set_26 : decode cX2_set 26 = .ok (.ifCond .ne 10, 3) := dk_154 0 10 (dk_at dksX2_set_1 2 rfl rfl)
theorem dX2_set_29 : decode cX2_set 29 = .ok (.aload_n 0, 1) := dk_42 (dk_at dksX2_set_1 5 rfl rfl)
theorem dX2_set_30 : decode cX2_set 30 = .ok (.getfield 98, 3) := dk_180 0 98 (dk_at dksX2_set_1 6 rfl rfl)
theorem dX2_set_33 : decode cX2_set 33 = .ok (.goto 7, 3) := dk_167 0 7 (dk_at dksX2_set_1 9 rfl rfl)
theorem dX2_set_36 : decode cX2_set 36 = .ok (.aload_n 0, 1) := dk_42 (dk_at dksX2_set_1 12 rfl rfl)
theorem dX2_set_37 : decode cX2_set 37 = .ok (.getfield 102, 3) := dk_180 0 102 (dk_at dksX2_set_1 13 rfl rfl)
theorem dX2_set_40 : decode cX2_set 40 = .ok (.istore_n 3, 1) := dk_62 (dk_at dksX2_set_1 16 rfl rfl)
theorem dX2_set_41 : decode cX2_set 41 = .ok (.aload_n 0, 1) := dk_42 (dk_at dksX2_set_1 17 rfl rfl)
theorem dX2_set_42 : decode cX2_set 42 = .ok (.iload_n 1, 1) := dk_27 (dk_at dksX2_set_1 18 rfl rfl)
theorem dX2_set_43 : decode cX2_set 43 = .ok (.ifCond .ne 7, 3) := dk_154 0 7 (dk_at dksX2_set_1 19 rfl rfl)
theorem dX2_set_46 : decode cX2_set 46 = .ok (.iload_n 2, 1) := dk_28 (dk_at dksX2_set_1 22 rfl rfl)
theorem dX2_set_47 : decode cX2_set 47 = .ok (.goto 7, 3) := dk_167 0 7 (dk_at dksX2_set_2 0 rfl rfl)
theorem dX2_set_50 : decode cX2_set 50 = .ok (.aload_n 0, 1) := dk_42 (dk_at dksX2_set_2 3 rfl rfl)
theorem dX2_set_51 : decode cX2_set 51 = .ok (.getfield 98, 3) := dk_180 0 98 (dk_at dksX2_set_2 4 rfl rfl)
theorem dX2_set_54 : decode cX2_set 54 = .ok (.putfield 98, 3) := dk_181 0 98 (dk_at dksX2_set_2 7 rfl rfl)
theorem dX2_set_57 : decode cX2_set 57 = .ok (.aload_n 0, 1) := dk_42 (dk_at dksX2_set_2 10 rfl rfl)
theorem dX2_set_58 : decode cX2_set 58 = .ok (.iload_n 1, 1) := dk_27 (dk_at dksX2_set_2 11 rfl rfl)
theorem dX2_set_59 : decode cX2_set 59 = .ok (.iconst 1, 1) := dk_4 (dk_at dksX2_set_2 12 rfl rfl)
theorem dX2_set_60 : decode cX2_set 60 = .ok (.if_icmp .ne 7, 3) := dk_160 0 7 (dk_at dksX2_set_2 13 rfl rfl)
theorem dX2_set_63 : decode cX2_set 63 = .ok (.iload_n 2, 1) := dk_28 (dk_at dksX2_set_2 16 rfl rfl)
theorem dX2_set_64 : decode cX2_set 64 = .ok (.goto 7, 3) := dk_167 0 7 (dk_at dksX2_set_2 17 rfl rfl)
theorem dX2_set_67 : decode cX2_set 67 = .ok (.aload_n 0, 1) := dk_42 (dk_at dksX2_set_2 20 rfl rfl)
theorem dX2_set_68 : decode cX2_set 68 = .ok (.getfield 102, 3) := dk_180 0 102 (dk_at dksX2_set_2 21 rfl rfl)
theorem dX2_set_71 : decode cX2_set 71 = .ok (.putfield 102, 3) := dk_181 0 102 (dk_at dksX2_set_3 0 rfl rfl)
theorem dX2_set_74 : decode cX2_set 74 = .ok (.iload_n 3, 1) := dk_29 (dk_at dksX2_set_3 3 rfl rfl)
theorem dX2_set_75 : decode cX2_set 75 = .ok (.ireturn, 1) := dk_172 (dk_at dksX2_set_3 4 rfl rfl)
abbrev cX2_say : ByteArray := prog_4_method_10_code
def yX2_say : MethodName := ⟨RX2, "say", "(I)I"⟩
def dkwX2_say_2 : List UInt8 := [181, 0, 109, 42, 180, 0, 109, 172]
abbrev dktX2_say_2 : List UInt8 := dkwX2_say_2 ++ []
def dkwX2_say_1 : List UInt8 := [160, 0, 6, 16, 252, 172, 42, 180, 0, 34, 42, 180, 0, 109, 27, 79, 42, 89, 180, 0, 109, 4, 96]
abbrev dktX2_say_1 : List UInt8 := dkwX2_say_1 ++ dktX2_say_2
def dkwX2_say_0 : List UInt8 := [27, 133, 20, 0, 105, 20, 0, 107, 184, 0, 80, 154, 0, 6, 16, 254, 172, 42, 180, 0, 109, 16, 60]
abbrev dktX2_say_0 : List UInt8 := dkwX2_say_0 ++ dktX2_say_1
theorem dksX2_say_0 : cX2_say.data.toList.drop 0 = dktX2_say_0 := by decide +kernel
theorem dksX2_say_1 : cX2_say.data.toList.drop 23 = dktX2_say_1 := dk_seg dksX2_say_0 23 rfl rfl
theorem dksX2_say_2 : cX2_say.data.toList.drop 46 = dktX2_say_2 := dk_seg dksX2_say_1 23 rfl rfl
theorem dX2_say_0 : decode cX2_say 0 = .ok (.iload_n 1, 1) := dk_27 (dk_at dksX2_say_0 0 rfl rfl)
theorem dX2_say_1 : decode cX2_say 1 = .ok (.i2l, 1) := dk_133 (dk_at dksX2_say_0 1 rfl rfl)
theorem dX2_say_2 : decode cX2_say 2 = .ok (.ldc2_w 105, 3) := dk_20 0 105 (dk_at dksX2_say_0 2 rfl rfl)
theorem dX2_say_5 : decode cX2_say 5 = .ok (.ldc2_w 107, 3) := dk_20 0 107 (dk_at dksX2_say_0 5 rfl rfl)
theorem dX2_say_8 : decode cX2_say 8 = .ok (.invokestatic 80, 3) := dk_184 0 80 (dk_at dksX2_say_0 8 rfl rfl)
theorem dX2_say_11 : decode cX2_say 11 = .ok (.ifCond .ne 6, 3) := dk_154 0 6 (dk_at dksX2_say_0 11 rfl rfl)
theorem dX2_say_14 : decode cX2_say 14 = .ok (.bipush (-2), 2) := dk_16 254 (dk_at dksX2_say_0 14 rfl rfl)
theorem dX2_say_16 : decode cX2_say 16 = .ok (.ireturn, 1) := dk_172 (dk_at dksX2_say_0 16 rfl rfl)
theorem dX2_say_17 : decode cX2_say 17 = .ok (.aload_n 0, 1) := dk_42 (dk_at dksX2_say_0 17 rfl rfl)
theorem dX2_say_18 : decode cX2_say 18 = .ok (.getfield 109, 3) := dk_180 0 109 (dk_at dksX2_say_0 18 rfl rfl)
theorem dX2_say_21 : decode cX2_say 21 = .ok (.bipush 60, 2) := dk_16 60 (dk_at dksX2_say_0 21 rfl rfl)
theorem dX2_say_23 : decode cX2_say 23 = .ok (.if_icmp .ne 6, 3) := dk_160 0 6 (dk_at dksX2_say_1 0 rfl rfl)
theorem dX2_say_26 : decode cX2_say 26 = .ok (.bipush (-4), 2) := dk_16 252 (dk_at dksX2_say_1 3 rfl rfl)
theorem dX2_say_28 : decode cX2_say 28 = .ok (.ireturn, 1) := dk_172 (dk_at dksX2_say_1 5 rfl rfl)
theorem dX2_say_29 : decode cX2_say 29 = .ok (.aload_n 0, 1) := dk_42 (dk_at dksX2_say_1 6 rfl rfl)
theorem dX2_say_30 : decode cX2_say 30 = .ok (.getfield 34, 3) := dk_180 0 34 (dk_at dksX2_say_1 7 rfl rfl)
theorem dX2_say_33 : decode cX2_say 33 = .ok (.aload_n 0, 1) := dk_42 (dk_at dksX2_say_1 10 rfl rfl)
theorem dX2_say_34 : decode cX2_say 34 = .ok (.getfield 109, 3) := dk_180 0 109 (dk_at dksX2_say_1 11 rfl rfl)
theorem dX2_say_37 : decode cX2_say 37 = .ok (.iload_n 1, 1) := dk_27 (dk_at dksX2_say_1 14 rfl rfl)
theorem dX2_say_38 : decode cX2_say 38 = .ok (.iastore, 1) := dk_79 (dk_at dksX2_say_1 15 rfl rfl)
theorem dX2_say_39 : decode cX2_say 39 = .ok (.aload_n 0, 1) := dk_42 (dk_at dksX2_say_1 16 rfl rfl)
theorem dX2_say_40 : decode cX2_say 40 = .ok (.dup, 1) := dk_89 (dk_at dksX2_say_1 17 rfl rfl)
theorem dX2_say_41 : decode cX2_say 41 = .ok (.getfield 109, 3) := dk_180 0 109 (dk_at dksX2_say_1 18 rfl rfl)
theorem dX2_say_44 : decode cX2_say 44 = .ok (.iconst 1, 1) := dk_4 (dk_at dksX2_say_1 21 rfl rfl)
theorem dX2_say_45 : decode cX2_say 45 = .ok (.iadd, 1) := dk_96 (dk_at dksX2_say_1 22 rfl rfl)
theorem dX2_say_46 : decode cX2_say 46 = .ok (.putfield 109, 3) := dk_181 0 109 (dk_at dksX2_say_2 0 rfl rfl)
theorem dX2_say_49 : decode cX2_say 49 = .ok (.aload_n 0, 1) := dk_42 (dk_at dksX2_say_2 3 rfl rfl)
theorem dX2_say_50 : decode cX2_say 50 = .ok (.getfield 109, 3) := dk_180 0 109 (dk_at dksX2_say_2 4 rfl rfl)
theorem dX2_say_53 : decode cX2_say 53 = .ok (.ireturn, 1) := dk_172 (dk_at dksX2_say_2 7 rfl rfl)
abbrev cX2_wipe : ByteArray := prog_4_method_11_code
def yX2_wipe : MethodName := ⟨RX2, "wipe", "()I"⟩
def dkwX2_wipe_0 : List UInt8 := [42, 180, 0, 109, 60, 42, 3, 181, 0, 109, 27, 172]
abbrev dktX2_wipe_0 : List UInt8 := dkwX2_wipe_0 ++ []
theorem dksX2_wipe_0 : cX2_wipe.data.toList.drop 0 = dktX2_wipe_0 := by decide +kernel
theorem dX2_wipe_0 : decode cX2_wipe 0 = .ok (.aload_n 0, 1) := dk_42 (dk_at dksX2_wipe_0 0 rfl rfl)
theorem dX2_wipe_1 : decode cX2_wipe 1 = .ok (.getfield 109, 3) := dk_180 0 109 (dk_at dksX2_wipe_0 1 rfl rfl)
theorem dX2_wipe_4 : decode cX2_wipe 4 = .ok (.istore_n 1, 1) := dk_60 (dk_at dksX2_wipe_0 4 rfl rfl)
theorem dX2_wipe_5 : decode cX2_wipe 5 = .ok (.aload_n 0, 1) := dk_42 (dk_at dksX2_wipe_0 5 rfl rfl)
theorem dX2_wipe_6 : decode cX2_wipe 6 = .ok (.iconst 0, 1) := dk_3 (dk_at dksX2_wipe_0 6 rfl rfl)
theorem dX2_wipe_7 : decode cX2_wipe 7 = .ok (.putfield 109, 3) := dk_181 0 109 (dk_at dksX2_wipe_0 7 rfl rfl)
theorem dX2_wipe_10 : decode cX2_wipe 10 = .ok (.iload_n 1, 1) := dk_27 (dk_at dksX2_wipe_0 10 rfl rfl)
theorem dX2_wipe_11 : decode cX2_wipe 11 = .ok (.ireturn, 1) := dk_172 (dk_at dksX2_wipe_0 11 rfl rfl)
abbrev cX2_fault : ByteArray := prog_4_method_19_code
def yX2_fault : MethodName := ⟨RX2, "fault", "()I"⟩
def dkwX2_fault_2 : List UInt8 := [167, 0, 7, 42, 180, 0, 109, 172]
abbrev dktX2_fault_2 : List UInt8 := dkwX2_fault_2 ++ []
def dkwX2_fault_1 : List UInt8 := [46, 182, 0, 148, 60, 27, 156, 0, 5, 28, 172, 132, 2, 1, 167, 255, 227, 27, 154, 0, 8, 16, 250]
abbrev dktX2_fault_1 : List UInt8 := dkwX2_fault_1 ++ dktX2_fault_2
def dkwX2_fault_0 : List UInt8 := [42, 3, 181, 0, 112, 3, 60, 3, 61, 28, 42, 180, 0, 109, 162, 0, 27, 42, 27, 42, 180, 0, 34, 28]
abbrev dktX2_fault_0 : List UInt8 := dkwX2_fault_0 ++ dktX2_fault_1
theorem dksX2_fault_0 : cX2_fault.data.toList.drop 0 = dktX2_fault_0 := by decide +kernel
theorem dksX2_fault_1 : cX2_fault.data.toList.drop 24 = dktX2_fault_1 := dk_seg dksX2_fault_0 24 rfl rfl
theorem dksX2_fault_2 : cX2_fault.data.toList.drop 47 = dktX2_fault_2 := dk_seg dksX2_fault_1 23 rfl rfl
theorem dX2_fault_0 : decode cX2_fault 0 = .ok (.aload_n 0, 1) := dk_42 (dk_at dksX2_fault_0 0 rfl rfl)
theorem dX2_fault_1 : decode cX2_fault 1 = .ok (.iconst 0, 1) := dk_3 (dk_at dksX2_fault_0 1 rfl rfl)
theorem dX2_fault_2 : decode cX2_fault 2 = .ok (.putfield 112, 3) := dk_181 0 112 (dk_at dksX2_fault_0 2 rfl rfl)
theorem dX2_fault_5 : decode cX2_fault 5 = .ok (.iconst 0, 1) := dk_3 (dk_at dksX2_fault_0 5 rfl rfl)
theorem dX2_fault_6 : decode cX2_fault 6 = .ok (.istore_n 1, 1) := dk_60 (dk_at dksX2_fault_0 6 rfl rfl)
theorem dX2_fault_7 : decode cX2_fault 7 = .ok (.iconst 0, 1) := dk_3 (dk_at dksX2_fault_0 7 rfl rfl)
theorem dX2_fault_8 : decode cX2_fault 8 = .ok (.istore_n 2, 1) := dk_61 (dk_at dksX2_fault_0 8 rfl rfl)
theorem dX2_fault_9 : decode cX2_fault 9 = .ok (.iload_n 2, 1) := dk_28 (dk_at dksX2_fault_0 9 rfl rfl)
theorem dX2_fault_10 : decode cX2_fault 10 = .ok (.aload_n 0, 1) := dk_42 (dk_at dksX2_fault_0 10 rfl rfl)
theorem dX2_fault_11 : decode cX2_fault 11 = .ok (.getfield 109, 3) := dk_180 0 109 (dk_at dksX2_fault_0 11 rfl rfl)
theorem dX2_fault_14 : decode cX2_fault 14 = .ok (.if_icmp .ge 27, 3) := dk_162 0 27 (dk_at dksX2_fault_0 14 rfl rfl)
theorem dX2_fault_17 : decode cX2_fault 17 = .ok (.aload_n 0, 1) := dk_42 (dk_at dksX2_fault_0 17 rfl rfl)
theorem dX2_fault_18 : decode cX2_fault 18 = .ok (.iload_n 1, 1) := dk_27 (dk_at dksX2_fault_0 18 rfl rfl)
theorem dX2_fault_19 : decode cX2_fault 19 = .ok (.aload_n 0, 1) := dk_42 (dk_at dksX2_fault_0 19 rfl rfl)
theorem dX2_fault_20 : decode cX2_fault 20 = .ok (.getfield 34, 3) := dk_180 0 34 (dk_at dksX2_fault_0 20 rfl rfl)
theorem dX2_fault_23 : decode cX2_fault 23 = .ok (.iload_n 2, 1) := dk_28 (dk_at dksX2_fault_0 23 rfl rfl)
theorem dX2_fault_24 : decode cX2_fault 24 = .ok (.iaload, 1) := dk_46 (dk_at dksX2_fault_1 0 rfl rfl)
theorem dX2_fault_25 : decode cX2_fault 25 = .ok (.invokevirtual 148, 3) := dk_182 0 148 (dk_at dksX2_fault_1 1 rfl rfl)
theorem dX2_fault_28 : decode cX2_fault 28 = .ok (.istore_n 1, 1) := dk_60 (dk_at dksX2_fault_1 4 rfl rfl)
theorem dX2_fault_29 : decode cX2_fault 29 = .ok (.iload_n 1, 1) := dk_27 (dk_at dksX2_fault_1 5 rfl rfl)
theorem dX2_fault_30 : decode cX2_fault 30 = .ok (.ifCond .ge 5, 3) := dk_156 0 5 (dk_at dksX2_fault_1 6 rfl rfl)
theorem dX2_fault_33 : decode cX2_fault 33 = .ok (.iload_n 2, 1) := dk_28 (dk_at dksX2_fault_1 9 rfl rfl)
theorem dX2_fault_34 : decode cX2_fault 34 = .ok (.ireturn, 1) := dk_172 (dk_at dksX2_fault_1 10 rfl rfl)
theorem dX2_fault_35 : decode cX2_fault 35 = .ok (.iinc 2 1, 3) := dk_132 2 1 (dk_at dksX2_fault_1 11 rfl rfl)
theorem dX2_fault_38 : decode cX2_fault 38 = .ok (.goto (-29), 3) := dk_167 255 227 (dk_at dksX2_fault_1 14 rfl rfl)
theorem dX2_fault_41 : decode cX2_fault 41 = .ok (.iload_n 1, 1) := dk_27 (dk_at dksX2_fault_1 17 rfl rfl)
theorem dX2_fault_42 : decode cX2_fault 42 = .ok (.ifCond .ne 8, 3) := dk_154 0 8 (dk_at dksX2_fault_1 18 rfl rfl)
theorem dX2_fault_45 : decode cX2_fault 45 = .ok (.bipush (-6), 2) := dk_16 250 (dk_at dksX2_fault_1 21 rfl rfl)
theorem dX2_fault_47 : decode cX2_fault 47 = .ok (.goto 7, 3) := dk_167 0 7 (dk_at dksX2_fault_2 0 rfl rfl)
theorem dX2_fault_50 : decode cX2_fault 50 = .ok (.aload_n 0, 1) := dk_42 (dk_at dksX2_fault_2 3 rfl rfl)
theorem dX2_fault_51 : decode cX2_fault 51 = .ok (.getfield 109, 3) := dk_180 0 109 (dk_at dksX2_fault_2 4 rfl rfl)
theorem dX2_fault_54 : decode cX2_fault 54 = .ok (.ireturn, 1) := dk_172 (dk_at dksX2_fault_2 7 rfl rfl)
abbrev cX2_readOn : ByteArray := prog_4_method_18_code
def yX2_readOn : MethodName := ⟨RX2, "readOn", "(II)I"⟩
def dkwX2_readOn_6 : List UInt8 := [16, 250, 172, 42, 8, 28, 16, 100, 182, 0, 137, 172]
abbrev dktX2_readOn_6 : List UInt8 := dkwX2_readOn_6 ++ []
def dkwX2_readOn_5 : List UInt8 := [182, 0, 137, 172, 28, 184, 0, 119, 153, 0, 15, 42, 7, 28, 16, 65, 100, 182, 0, 122, 167, 0, 5]
abbrev dktX2_readOn_5 : List UInt8 := dkwX2_readOn_5 ++ dktX2_readOn_6
def dkwX2_readOn_4 : List UInt8 := [153, 0, 15, 42, 5, 28, 16, 48, 100, 182, 0, 122, 167, 0, 5, 16, 250, 172, 42, 6, 28, 16, 10]
abbrev dktX2_readOn_4 : List UInt8 := dkwX2_readOn_4 ++ dktX2_readOn_5
def dkwX2_readOn_3 : List UInt8 := [182, 0, 141, 172, 42, 4, 28, 16, 100, 182, 0, 137, 172, 28, 133, 20, 0, 144, 20, 0, 146, 184, 0, 80]
abbrev dktX2_readOn_3 : List UInt8 := dkwX2_readOn_3 ++ dktX2_readOn_4
def dkwX2_readOn_2 : List UInt8 := [42, 28, 182, 0, 130, 172, 28, 184, 0, 134, 172, 42, 3, 28, 16, 100, 182, 0, 137, 172, 42, 28]
abbrev dktX2_readOn_2 : List UInt8 := dkwX2_readOn_2 ++ dktX2_readOn_3
def dkwX2_readOn_1 : List UInt8 := [170, 0, 0, 0, 0, 0, 142, 0, 0, 0, 0, 0, 0, 0, 7, 0, 0, 0, 47, 0, 0, 0, 53, 0, 0, 0, 58, 0, 0, 0, 67, 0, 0, 0, 73, 0, 0, 0, 82, 0, 0, 0, 111, 0, 0, 0, 120]
abbrev dktX2_readOn_1 : List UInt8 := dkwX2_readOn_1 ++ dktX2_readOn_2
def dkwX2_readOn_0 : List UInt8 := [27]
abbrev dktX2_readOn_0 : List UInt8 := dkwX2_readOn_0 ++ dktX2_readOn_1
theorem dksX2_readOn_0 : cX2_readOn.data.toList.drop 0 = dktX2_readOn_0 := by decide +kernel
theorem dksX2_readOn_1 : cX2_readOn.data.toList.drop 1 = dktX2_readOn_1 := dk_seg dksX2_readOn_0 1 rfl rfl
theorem dksX2_readOn_2 : cX2_readOn.data.toList.drop 48 = dktX2_readOn_2 := dk_seg dksX2_readOn_1 47 rfl rfl
theorem dksX2_readOn_3 : cX2_readOn.data.toList.drop 70 = dktX2_readOn_3 := dk_seg dksX2_readOn_2 22 rfl rfl
theorem dksX2_readOn_4 : cX2_readOn.data.toList.drop 94 = dktX2_readOn_4 := dk_seg dksX2_readOn_3 24 rfl rfl
theorem dksX2_readOn_5 : cX2_readOn.data.toList.drop 117 = dktX2_readOn_5 := dk_seg dksX2_readOn_4 23 rfl rfl
theorem dksX2_readOn_6 : cX2_readOn.data.toList.drop 140 = dktX2_readOn_6 := dk_seg dksX2_readOn_5 23 rfl rfl
theorem dX2_readOn_0 : decode cX2_readOn 0 = .ok (.iload_n 1, 1) := dk_27 (dk_at dksX2_readOn_0 0 rfl rfl)
theorem dX2_readOn_1 : decode cX2_readOn 1 = .ok (.tableswitch 142 0 7 #[47, 53, 58, 67, 73, 82, 111, 120], 47) := by decide +kernel
theorem dX2_readOn_48 : decode cX2_readOn 48 = .ok (.aload_n 0, 1) := dk_42 (dk_at dksX2_readOn_2 0 rfl rfl)
theorem dX2_readOn_49 : decode cX2_readOn 49 = .ok (.iload_n 2, 1) := dk_28 (dk_at dksX2_readOn_2 1 rfl rfl)
theorem dX2_readOn_50 : decode cX2_readOn 50 = .ok (.invokevirtual 130, 3) := dk_182 0 130 (dk_at dksX2_readOn_2 2 rfl rfl)
theorem dX2_readOn_53 : decode cX2_readOn 53 = .ok (.ireturn, 1) := dk_172 (dk_at dksX2_readOn_2 5 rfl rfl)
theorem dX2_readOn_54 : decode cX2_readOn 54 = .ok (.iload_n 2, 1) := dk_28 (dk_at dksX2_readOn_2 6 rfl rfl)
theorem dX2_readOn_55 : decode cX2_readOn 55 = .ok (.invokestatic 134, 3) := dk_184 0 134 (dk_at dksX2_readOn_2 7 rfl rfl)
theorem dX2_readOn_58 : decode cX2_readOn 58 = .ok (.ireturn, 1) := dk_172 (dk_at dksX2_readOn_2 10 rfl rfl)
theorem dX2_readOn_59 : decode cX2_readOn 59 = .ok (.aload_n 0, 1) := dk_42 (dk_at dksX2_readOn_2 11 rfl rfl)
theorem dX2_readOn_60 : decode cX2_readOn 60 = .ok (.iconst 0, 1) := dk_3 (dk_at dksX2_readOn_2 12 rfl rfl)
theorem dX2_readOn_61 : decode cX2_readOn 61 = .ok (.iload_n 2, 1) := dk_28 (dk_at dksX2_readOn_2 13 rfl rfl)
theorem dX2_readOn_62 : decode cX2_readOn 62 = .ok (.bipush 100, 2) := dk_16 100 (dk_at dksX2_readOn_2 14 rfl rfl)
theorem dX2_readOn_64 : decode cX2_readOn 64 = .ok (.invokevirtual 137, 3) := dk_182 0 137 (dk_at dksX2_readOn_2 16 rfl rfl)
theorem dX2_readOn_67 : decode cX2_readOn 67 = .ok (.ireturn, 1) := dk_172 (dk_at dksX2_readOn_2 19 rfl rfl)
theorem dX2_readOn_68 : decode cX2_readOn 68 = .ok (.aload_n 0, 1) := dk_42 (dk_at dksX2_readOn_2 20 rfl rfl)
theorem dX2_readOn_69 : decode cX2_readOn 69 = .ok (.iload_n 2, 1) := dk_28 (dk_at dksX2_readOn_2 21 rfl rfl)
theorem dX2_readOn_70 : decode cX2_readOn 70 = .ok (.invokevirtual 141, 3) := dk_182 0 141 (dk_at dksX2_readOn_3 0 rfl rfl)
theorem dX2_readOn_73 : decode cX2_readOn 73 = .ok (.ireturn, 1) := dk_172 (dk_at dksX2_readOn_3 3 rfl rfl)
theorem dX2_readOn_74 : decode cX2_readOn 74 = .ok (.aload_n 0, 1) := dk_42 (dk_at dksX2_readOn_3 4 rfl rfl)
theorem dX2_readOn_75 : decode cX2_readOn 75 = .ok (.iconst 1, 1) := dk_4 (dk_at dksX2_readOn_3 5 rfl rfl)
theorem dX2_readOn_76 : decode cX2_readOn 76 = .ok (.iload_n 2, 1) := dk_28 (dk_at dksX2_readOn_3 6 rfl rfl)
theorem dX2_readOn_77 : decode cX2_readOn 77 = .ok (.bipush 100, 2) := dk_16 100 (dk_at dksX2_readOn_3 7 rfl rfl)
theorem dX2_readOn_79 : decode cX2_readOn 79 = .ok (.invokevirtual 137, 3) := dk_182 0 137 (dk_at dksX2_readOn_3 9 rfl rfl)
theorem dX2_readOn_82 : decode cX2_readOn 82 = .ok (.ireturn, 1) := dk_172 (dk_at dksX2_readOn_3 12 rfl rfl)
theorem dX2_readOn_83 : decode cX2_readOn 83 = .ok (.iload_n 2, 1) := dk_28 (dk_at dksX2_readOn_3 13 rfl rfl)
theorem dX2_readOn_84 : decode cX2_readOn 84 = .ok (.i2l, 1) := dk_133 (dk_at dksX2_readOn_3 14 rfl rfl)
theorem dX2_readOn_85 : decode cX2_readOn 85 = .ok (.ldc2_w 144, 3) := dk_20 0 144 (dk_at dksX2_readOn_3 15 rfl rfl)
theorem dX2_readOn_88 : decode cX2_readOn 88 = .ok (.ldc2_w 146, 3) := dk_20 0 146 (dk_at dksX2_readOn_3 18 rfl rfl)
theorem dX2_readOn_91 : decode cX2_readOn 91 = .ok (.invokestatic 80, 3) := dk_184 0 80 (dk_at dksX2_readOn_3 21 rfl rfl)
theorem dX2_readOn_94 : decode cX2_readOn 94 = .ok (.ifCond .eq 15, 3) := dk_153 0 15 (dk_at dksX2_readOn_4 0 rfl rfl)
theorem dX2_readOn_97 : decode cX2_readOn 97 = .ok (.aload_n 0, 1) := dk_42 (dk_at dksX2_readOn_4 3 rfl rfl)
theorem dX2_readOn_98 : decode cX2_readOn 98 = .ok (.iconst 2, 1) := dk_5 (dk_at dksX2_readOn_4 4 rfl rfl)
theorem dX2_readOn_99 : decode cX2_readOn 99 = .ok (.iload_n 2, 1) := dk_28 (dk_at dksX2_readOn_4 5 rfl rfl)
theorem dX2_readOn_100 : decode cX2_readOn 100 = .ok (.bipush 48, 2) := dk_16 48 (dk_at dksX2_readOn_4 6 rfl rfl)
theorem dX2_readOn_102 : decode cX2_readOn 102 = .ok (.isub, 1) := dk_100 (dk_at dksX2_readOn_4 8 rfl rfl)
theorem dX2_readOn_103 : decode cX2_readOn 103 = .ok (.invokevirtual 122, 3) := dk_182 0 122 (dk_at dksX2_readOn_4 9 rfl rfl)
theorem dX2_readOn_106 : decode cX2_readOn 106 = .ok (.goto 5, 3) := dk_167 0 5 (dk_at dksX2_readOn_4 12 rfl rfl)
theorem dX2_readOn_109 : decode cX2_readOn 109 = .ok (.bipush (-6), 2) := dk_16 250 (dk_at dksX2_readOn_4 15 rfl rfl)
theorem dX2_readOn_111 : decode cX2_readOn 111 = .ok (.ireturn, 1) := dk_172 (dk_at dksX2_readOn_4 17 rfl rfl)
theorem dX2_readOn_112 : decode cX2_readOn 112 = .ok (.aload_n 0, 1) := dk_42 (dk_at dksX2_readOn_4 18 rfl rfl)
theorem dX2_readOn_113 : decode cX2_readOn 113 = .ok (.iconst 3, 1) := dk_6 (dk_at dksX2_readOn_4 19 rfl rfl)
theorem dX2_readOn_114 : decode cX2_readOn 114 = .ok (.iload_n 2, 1) := dk_28 (dk_at dksX2_readOn_4 20 rfl rfl)
theorem dX2_readOn_115 : decode cX2_readOn 115 = .ok (.bipush 10, 2) := dk_16 10 (dk_at dksX2_readOn_4 21 rfl rfl)
theorem dX2_readOn_117 : decode cX2_readOn 117 = .ok (.invokevirtual 137, 3) := dk_182 0 137 (dk_at dksX2_readOn_5 0 rfl rfl)
theorem dX2_readOn_120 : decode cX2_readOn 120 = .ok (.ireturn, 1) := dk_172 (dk_at dksX2_readOn_5 3 rfl rfl)
theorem dX2_readOn_121 : decode cX2_readOn 121 = .ok (.iload_n 2, 1) := dk_28 (dk_at dksX2_readOn_5 4 rfl rfl)
theorem dX2_readOn_122 : decode cX2_readOn 122 = .ok (.invokestatic 119, 3) := dk_184 0 119 (dk_at dksX2_readOn_5 5 rfl rfl)
theorem dX2_readOn_125 : decode cX2_readOn 125 = .ok (.ifCond .eq 15, 3) := dk_153 0 15 (dk_at dksX2_readOn_5 8 rfl rfl)
theorem dX2_readOn_128 : decode cX2_readOn 128 = .ok (.aload_n 0, 1) := dk_42 (dk_at dksX2_readOn_5 11 rfl rfl)
theorem dX2_readOn_129 : decode cX2_readOn 129 = .ok (.iconst 4, 1) := dk_7 (dk_at dksX2_readOn_5 12 rfl rfl)
theorem dX2_readOn_130 : decode cX2_readOn 130 = .ok (.iload_n 2, 1) := dk_28 (dk_at dksX2_readOn_5 13 rfl rfl)
theorem dX2_readOn_131 : decode cX2_readOn 131 = .ok (.bipush 65, 2) := dk_16 65 (dk_at dksX2_readOn_5 14 rfl rfl)
theorem dX2_readOn_133 : decode cX2_readOn 133 = .ok (.isub, 1) := dk_100 (dk_at dksX2_readOn_5 16 rfl rfl)
theorem dX2_readOn_134 : decode cX2_readOn 134 = .ok (.invokevirtual 122, 3) := dk_182 0 122 (dk_at dksX2_readOn_5 17 rfl rfl)
theorem dX2_readOn_137 : decode cX2_readOn 137 = .ok (.goto 5, 3) := dk_167 0 5 (dk_at dksX2_readOn_5 20 rfl rfl)
theorem dX2_readOn_140 : decode cX2_readOn 140 = .ok (.bipush (-6), 2) := dk_16 250 (dk_at dksX2_readOn_6 0 rfl rfl)
theorem dX2_readOn_142 : decode cX2_readOn 142 = .ok (.ireturn, 1) := dk_172 (dk_at dksX2_readOn_6 2 rfl rfl)
theorem dX2_readOn_143 : decode cX2_readOn 143 = .ok (.aload_n 0, 1) := dk_42 (dk_at dksX2_readOn_6 3 rfl rfl)
theorem dX2_readOn_144 : decode cX2_readOn 144 = .ok (.iconst 5, 1) := dk_8 (dk_at dksX2_readOn_6 4 rfl rfl)
theorem dX2_readOn_145 : decode cX2_readOn 145 = .ok (.iload_n 2, 1) := dk_28 (dk_at dksX2_readOn_6 5 rfl rfl)
theorem dX2_readOn_146 : decode cX2_readOn 146 = .ok (.bipush 100, 2) := dk_16 100 (dk_at dksX2_readOn_6 6 rfl rfl)
theorem dX2_readOn_148 : decode cX2_readOn 148 = .ok (.invokevirtual 137, 3) := dk_182 0 137 (dk_at dksX2_readOn_6 8 rfl rfl)
theorem dX2_readOn_151 : decode cX2_readOn 151 = .ok (.ireturn, 1) := dk_172 (dk_at dksX2_readOn_6 11 rfl rfl)
abbrev cX2_begin : ByteArray := prog_4_method_14_code
def yX2_begin : MethodName := ⟨RX2, "begin", "(I)I"⟩
def dkwX2_begin_4 : List UInt8 := [16, 250, 172]
abbrev dktX2_begin_4 : List UInt8 := dkwX2_begin_4 ++ []
def dkwX2_begin_3 : List UInt8 := [5, 172, 6, 172, 42, 16, 6, 3, 182, 0, 122, 172, 27, 184, 0, 119, 153, 0, 7, 4, 167, 0, 5]
abbrev dktX2_begin_3 : List UInt8 := dkwX2_begin_3 ++ dktX2_begin_4
def dkwX2_begin_2 : List UInt8 := [171, 0, 0, 0, 0, 0, 47, 0, 0, 0, 3, 0, 0, 0, 33, 0, 0, 0, 37, 0, 0, 0, 43, 0, 0, 0, 35, 0, 0, 0, 46, 0, 0, 0, 39]
abbrev dktX2_begin_2 : List UInt8 := dkwX2_begin_2 ++ dktX2_begin_3
def dkwX2_begin_1 : List UInt8 := [27]
abbrev dktX2_begin_1 : List UInt8 := dkwX2_begin_1 ++ dktX2_begin_2
def dkwX2_begin_0 : List UInt8 := [42, 180, 0, 40, 42, 180, 0, 112, 27, 184, 0, 119, 153, 0, 10, 27, 16, 65, 100, 167, 0, 4, 3, 79]
abbrev dktX2_begin_0 : List UInt8 := dkwX2_begin_0 ++ dktX2_begin_1
theorem dksX2_begin_0 : cX2_begin.data.toList.drop 0 = dktX2_begin_0 := by decide +kernel
theorem dksX2_begin_1 : cX2_begin.data.toList.drop 24 = dktX2_begin_1 := dk_seg dksX2_begin_0 24 rfl rfl
theorem dksX2_begin_2 : cX2_begin.data.toList.drop 25 = dktX2_begin_2 := dk_seg dksX2_begin_1 1 rfl rfl
theorem dksX2_begin_3 : cX2_begin.data.toList.drop 60 = dktX2_begin_3 := dk_seg dksX2_begin_2 35 rfl rfl
theorem dksX2_begin_4 : cX2_begin.data.toList.drop 83 = dktX2_begin_4 := dk_seg dksX2_begin_3 23 rfl rfl
theorem dX2_begin_0 : decode cX2_begin 0 = .ok (.aload_n 0, 1) := dk_42 (dk_at dksX2_begin_0 0 rfl rfl)
theorem dX2_begin_1 : decode cX2_begin 1 = .ok (.getfield 40, 3) := dk_180 0 40 (dk_at dksX2_begin_0 1 rfl rfl)
theorem dX2_begin_4 : decode cX2_begin 4 = .ok (.aload_n 0, 1) := dk_42 (dk_at dksX2_begin_0 4 rfl rfl)
theorem dX2_begin_5 : decode cX2_begin 5 = .ok (.getfield 112, 3) := dk_180 0 112 (dk_at dksX2_begin_0 5 rfl rfl)
theorem dX2_begin_8 : decode cX2_begin 8 = .ok (.iload_n 1, 1) := dk_27 (dk_at dksX2_begin_0 8 rfl rfl)
theorem dX2_begin_9 : decode cX2_begin 9 = .ok (.invokestatic 119, 3) := dk_184 0 119 (dk_at dksX2_begin_0 9 rfl rfl)
theorem dX2_begin_12 : decode cX2_begin 12 = .ok (.ifCond .eq 10, 3) := dk_153 0 10 (dk_at dksX2_begin_0 12 rfl rfl)
theorem dX2_begin_15 : decode cX2_begin 15 = .ok (.iload_n 1, 1) := dk_27 (dk_at dksX2_begin_0 15 rfl rfl)
theorem dX2_begin_16 : decode cX2_begin 16 = .ok (.bipush 65, 2) := dk_16 65 (dk_at dksX2_begin_0 16 rfl rfl)
theorem dX2_begin_18 : decode cX2_begin 18 = .ok (.isub, 1) := dk_100 (dk_at dksX2_begin_0 18 rfl rfl)
theorem dX2_begin_19 : decode cX2_begin 19 = .ok (.goto 4, 3) := dk_167 0 4 (dk_at dksX2_begin_0 19 rfl rfl)
theorem dX2_begin_22 : decode cX2_begin 22 = .ok (.iconst 0, 1) := dk_3 (dk_at dksX2_begin_0 22 rfl rfl)
theorem dX2_begin_23 : decode cX2_begin 23 = .ok (.iastore, 1) := dk_79 (dk_at dksX2_begin_0 23 rfl rfl)
theorem dX2_begin_24 : decode cX2_begin 24 = .ok (.iload_n 1, 1) := dk_27 (dk_at dksX2_begin_1 0 rfl rfl)
theorem dX2_begin_25 : decode cX2_begin 25 = .ok (.lookupswitch 47 #[(33, 37), (43, 35), (46, 39)], 35) := by decide +kernel
theorem dX2_begin_60 : decode cX2_begin 60 = .ok (.iconst 2, 1) := dk_5 (dk_at dksX2_begin_3 0 rfl rfl)
theorem dX2_begin_61 : decode cX2_begin 61 = .ok (.ireturn, 1) := dk_172 (dk_at dksX2_begin_3 1 rfl rfl)
theorem dX2_begin_62 : decode cX2_begin 62 = .ok (.iconst 3, 1) := dk_6 (dk_at dksX2_begin_3 2 rfl rfl)
theorem dX2_begin_63 : decode cX2_begin 63 = .ok (.ireturn, 1) := dk_172 (dk_at dksX2_begin_3 3 rfl rfl)
theorem dX2_begin_64 : decode cX2_begin 64 = .ok (.aload_n 0, 1) := dk_42 (dk_at dksX2_begin_3 4 rfl rfl)
theorem dX2_begin_65 : decode cX2_begin 65 = .ok (.bipush 6, 2) := dk_16 6 (dk_at dksX2_begin_3 5 rfl rfl)
theorem dX2_begin_67 : decode cX2_begin 67 = .ok (.iconst 0, 1) := dk_3 (dk_at dksX2_begin_3 7 rfl rfl)
theorem dX2_begin_68 : decode cX2_begin 68 = .ok (.invokevirtual 122, 3) := dk_182 0 122 (dk_at dksX2_begin_3 8 rfl rfl)
theorem dX2_begin_71 : decode cX2_begin 71 = .ok (.ireturn, 1) := dk_172 (dk_at dksX2_begin_3 11 rfl rfl)
theorem dX2_begin_72 : decode cX2_begin 72 = .ok (.iload_n 1, 1) := dk_27 (dk_at dksX2_begin_3 12 rfl rfl)
theorem dX2_begin_73 : decode cX2_begin 73 = .ok (.invokestatic 119, 3) := dk_184 0 119 (dk_at dksX2_begin_3 13 rfl rfl)
theorem dX2_begin_76 : decode cX2_begin 76 = .ok (.ifCond .eq 7, 3) := dk_153 0 7 (dk_at dksX2_begin_3 16 rfl rfl)
theorem dX2_begin_79 : decode cX2_begin 79 = .ok (.iconst 1, 1) := dk_4 (dk_at dksX2_begin_3 19 rfl rfl)
theorem dX2_begin_80 : decode cX2_begin 80 = .ok (.goto 5, 3) := dk_167 0 5 (dk_at dksX2_begin_3 20 rfl rfl)
theorem dX2_begin_83 : decode cX2_begin 83 = .ok (.bipush (-6), 2) := dk_16 250 (dk_at dksX2_begin_4 0 rfl rfl)
theorem dX2_begin_85 : decode cX2_begin 85 = .ok (.ireturn, 1) := dk_172 (dk_at dksX2_begin_4 2 rfl rfl)
abbrev cX2_isLetter : ByteArray := prog_4_method_13_code
def yX2_isLetter : MethodName := ⟨RX2, "isLetter", "(I)Z"⟩
def dkwX2_isLetter_0 : List UInt8 := [26, 133, 20, 0, 115, 20, 0, 117, 184, 0, 80, 172]
abbrev dktX2_isLetter_0 : List UInt8 := dkwX2_isLetter_0 ++ []
theorem dksX2_isLetter_0 : cX2_isLetter.data.toList.drop 0 = dktX2_isLetter_0 := by decide +kernel
theorem dX2_isLetter_0 : decode cX2_isLetter 0 = .ok (.iload_n 0, 1) := dk_26 (dk_at dksX2_isLetter_0 0 rfl rfl)
theorem dX2_isLetter_1 : decode cX2_isLetter 1 = .ok (.i2l, 1) := dk_133 (dk_at dksX2_isLetter_0 1 rfl rfl)
theorem dX2_isLetter_2 : decode cX2_isLetter 2 = .ok (.ldc2_w 115, 3) := dk_20 0 115 (dk_at dksX2_isLetter_0 2 rfl rfl)
theorem dX2_isLetter_5 : decode cX2_isLetter 5 = .ok (.ldc2_w 117, 3) := dk_20 0 117 (dk_at dksX2_isLetter_0 5 rfl rfl)
theorem dX2_isLetter_8 : decode cX2_isLetter 8 = .ok (.invokestatic 80, 3) := dk_184 0 80 (dk_at dksX2_isLetter_0 8 rfl rfl)
theorem dX2_isLetter_11 : decode cX2_isLetter 11 = .ok (.ireturn, 1) := dk_172 (dk_at dksX2_isLetter_0 11 rfl rfl)
abbrev cX2_close : ByteArray := prog_4_method_12_code
def yX2_close : MethodName := ⟨RX2, "close", "(II)I"⟩
def dkwX2_close_1 : List UInt8 := [180, 0, 112, 4, 96, 181, 0, 112, 3, 172]
abbrev dktX2_close_1 : List UInt8 := dkwX2_close_1 ++ []
def dkwX2_close_0 : List UInt8 := [42, 180, 0, 37, 42, 180, 0, 112, 27, 79, 42, 180, 0, 43, 42, 180, 0, 112, 28, 79, 42, 89]
abbrev dktX2_close_0 : List UInt8 := dkwX2_close_0 ++ dktX2_close_1
theorem dksX2_close_0 : cX2_close.data.toList.drop 0 = dktX2_close_0 := by decide +kernel
theorem dksX2_close_1 : cX2_close.data.toList.drop 22 = dktX2_close_1 := dk_seg dksX2_close_0 22 rfl rfl
theorem dX2_close_0 : decode cX2_close 0 = .ok (.aload_n 0, 1) := dk_42 (dk_at dksX2_close_0 0 rfl rfl)
theorem dX2_close_1 : decode cX2_close 1 = .ok (.getfield 37, 3) := dk_180 0 37 (dk_at dksX2_close_0 1 rfl rfl)
theorem dX2_close_4 : decode cX2_close 4 = .ok (.aload_n 0, 1) := dk_42 (dk_at dksX2_close_0 4 rfl rfl)
theorem dX2_close_5 : decode cX2_close 5 = .ok (.getfield 112, 3) := dk_180 0 112 (dk_at dksX2_close_0 5 rfl rfl)
theorem dX2_close_8 : decode cX2_close 8 = .ok (.iload_n 1, 1) := dk_27 (dk_at dksX2_close_0 8 rfl rfl)
theorem dX2_close_9 : decode cX2_close 9 = .ok (.iastore, 1) := dk_79 (dk_at dksX2_close_0 9 rfl rfl)
theorem dX2_close_10 : decode cX2_close 10 = .ok (.aload_n 0, 1) := dk_42 (dk_at dksX2_close_0 10 rfl rfl)
theorem dX2_close_11 : decode cX2_close 11 = .ok (.getfield 43, 3) := dk_180 0 43 (dk_at dksX2_close_0 11 rfl rfl)
theorem dX2_close_14 : decode cX2_close 14 = .ok (.aload_n 0, 1) := dk_42 (dk_at dksX2_close_0 14 rfl rfl)
theorem dX2_close_15 : decode cX2_close 15 = .ok (.getfield 112, 3) := dk_180 0 112 (dk_at dksX2_close_0 15 rfl rfl)
theorem dX2_close_18 : decode cX2_close 18 = .ok (.iload_n 2, 1) := dk_28 (dk_at dksX2_close_0 18 rfl rfl)
theorem dX2_close_19 : decode cX2_close 19 = .ok (.iastore, 1) := dk_79 (dk_at dksX2_close_0 19 rfl rfl)
theorem dX2_close_20 : decode cX2_close 20 = .ok (.aload_n 0, 1) := dk_42 (dk_at dksX2_close_0 20 rfl rfl)
theorem dX2_close_21 : decode cX2_close 21 = .ok (.dup, 1) := dk_89 (dk_at dksX2_close_0 21 rfl rfl)
theorem dX2_close_22 : decode cX2_close 22 = .ok (.getfield 112, 3) := dk_180 0 112 (dk_at dksX2_close_1 0 rfl rfl)
theorem dX2_close_25 : decode cX2_close 25 = .ok (.iconst 1, 1) := dk_4 (dk_at dksX2_close_1 3 rfl rfl)
theorem dX2_close_26 : decode cX2_close 26 = .ok (.iadd, 1) := dk_96 (dk_at dksX2_close_1 4 rfl rfl)
theorem dX2_close_27 : decode cX2_close 27 = .ok (.putfield 112, 3) := dk_181 0 112 (dk_at dksX2_close_1 5 rfl rfl)
theorem dX2_close_30 : decode cX2_close 30 = .ok (.iconst 0, 1) := dk_3 (dk_at dksX2_close_1 8 rfl rfl)
theorem dX2_close_31 : decode cX2_close 31 = .ok (.ireturn, 1) := dk_172 (dk_at dksX2_close_1 9 rfl rfl)
abbrev cX2_deed : ByteArray := prog_4_method_15_code
def yX2_deed : MethodName := ⟨RX2, "deed", "(I)I"⟩
def dkwX2_deed_2 : List UInt8 := [8, 172, 16, 6, 172, 16, 7, 172, 16, 8, 172, 16, 250, 172]
abbrev dktX2_deed_2 : List UInt8 := dkwX2_deed_2 ++ []
def dkwX2_deed_1 : List UInt8 := [171, 0, 0, 0, 0, 0, 54, 0, 0, 0, 4, 0, 0, 0, 36, 0, 0, 0, 43, 0, 0, 0, 47, 0, 0, 0, 45, 0, 0, 0, 62, 0, 0, 0, 48, 0, 0, 0, 64, 0, 0, 0, 51]
abbrev dktX2_deed_1 : List UInt8 := dkwX2_deed_1 ++ dktX2_deed_2
def dkwX2_deed_0 : List UInt8 := [26]
abbrev dktX2_deed_0 : List UInt8 := dkwX2_deed_0 ++ dktX2_deed_1
theorem dksX2_deed_0 : cX2_deed.data.toList.drop 0 = dktX2_deed_0 := by decide +kernel
theorem dksX2_deed_1 : cX2_deed.data.toList.drop 1 = dktX2_deed_1 := dk_seg dksX2_deed_0 1 rfl rfl
theorem dksX2_deed_2 : cX2_deed.data.toList.drop 44 = dktX2_deed_2 := dk_seg dksX2_deed_1 43 rfl rfl
theorem dX2_deed_0 : decode cX2_deed 0 = .ok (.iload_n 0, 1) := dk_26 (dk_at dksX2_deed_0 0 rfl rfl)
theorem dX2_deed_1 : decode cX2_deed 1 = .ok (.lookupswitch 54 #[(36, 43), (47, 45), (62, 48), (64, 51)], 43) := by decide +kernel
theorem dX2_deed_44 : decode cX2_deed 44 = .ok (.iconst 5, 1) := dk_8 (dk_at dksX2_deed_2 0 rfl rfl)
theorem dX2_deed_45 : decode cX2_deed 45 = .ok (.ireturn, 1) := dk_172 (dk_at dksX2_deed_2 1 rfl rfl)
theorem dX2_deed_46 : decode cX2_deed 46 = .ok (.bipush 6, 2) := dk_16 6 (dk_at dksX2_deed_2 2 rfl rfl)
theorem dX2_deed_48 : decode cX2_deed 48 = .ok (.ireturn, 1) := dk_172 (dk_at dksX2_deed_2 4 rfl rfl)
theorem dX2_deed_49 : decode cX2_deed 49 = .ok (.bipush 7, 2) := dk_16 7 (dk_at dksX2_deed_2 5 rfl rfl)
theorem dX2_deed_51 : decode cX2_deed 51 = .ok (.ireturn, 1) := dk_172 (dk_at dksX2_deed_2 7 rfl rfl)
theorem dX2_deed_52 : decode cX2_deed 52 = .ok (.bipush 8, 2) := dk_16 8 (dk_at dksX2_deed_2 8 rfl rfl)
theorem dX2_deed_54 : decode cX2_deed 54 = .ok (.ireturn, 1) := dk_172 (dk_at dksX2_deed_2 10 rfl rfl)
theorem dX2_deed_55 : decode cX2_deed 55 = .ok (.bipush (-6), 2) := dk_16 250 (dk_at dksX2_deed_2 11 rfl rfl)
theorem dX2_deed_57 : decode cX2_deed 57 = .ok (.ireturn, 1) := dk_172 (dk_at dksX2_deed_2 13 rfl rfl)
abbrev cX2_number : ByteArray := prog_4_method_17_code
def yX2_number : MethodName := ⟨RX2, "number", "(III)I"⟩
def dkwX2_number_1 : List UInt8 := [182, 0, 122, 167, 0, 5, 16, 250, 172]
abbrev dktX2_number_1 : List UInt8 := dkwX2_number_1 ++ []
def dkwX2_number_0 : List UInt8 := [28, 133, 20, 0, 126, 20, 0, 128, 184, 0, 80, 153, 0, 17, 42, 27, 29, 28, 16, 48, 100, 104]
abbrev dktX2_number_0 : List UInt8 := dkwX2_number_0 ++ dktX2_number_1
theorem dksX2_number_0 : cX2_number.data.toList.drop 0 = dktX2_number_0 := by decide +kernel
theorem dksX2_number_1 : cX2_number.data.toList.drop 22 = dktX2_number_1 := dk_seg dksX2_number_0 22 rfl rfl
theorem dX2_number_0 : decode cX2_number 0 = .ok (.iload_n 2, 1) := dk_28 (dk_at dksX2_number_0 0 rfl rfl)
theorem dX2_number_1 : decode cX2_number 1 = .ok (.i2l, 1) := dk_133 (dk_at dksX2_number_0 1 rfl rfl)
theorem dX2_number_2 : decode cX2_number 2 = .ok (.ldc2_w 126, 3) := dk_20 0 126 (dk_at dksX2_number_0 2 rfl rfl)
theorem dX2_number_5 : decode cX2_number 5 = .ok (.ldc2_w 128, 3) := dk_20 0 128 (dk_at dksX2_number_0 5 rfl rfl)
theorem dX2_number_8 : decode cX2_number 8 = .ok (.invokestatic 80, 3) := dk_184 0 80 (dk_at dksX2_number_0 8 rfl rfl)
theorem dX2_number_11 : decode cX2_number 11 = .ok (.ifCond .eq 17, 3) := dk_153 0 17 (dk_at dksX2_number_0 11 rfl rfl)
theorem dX2_number_14 : decode cX2_number 14 = .ok (.aload_n 0, 1) := dk_42 (dk_at dksX2_number_0 14 rfl rfl)
theorem dX2_number_15 : decode cX2_number 15 = .ok (.iload_n 1, 1) := dk_27 (dk_at dksX2_number_0 15 rfl rfl)
theorem dX2_number_16 : decode cX2_number 16 = .ok (.iload_n 3, 1) := dk_29 (dk_at dksX2_number_0 16 rfl rfl)
theorem dX2_number_17 : decode cX2_number 17 = .ok (.iload_n 2, 1) := dk_28 (dk_at dksX2_number_0 17 rfl rfl)
theorem dX2_number_18 : decode cX2_number 18 = .ok (.bipush 48, 2) := dk_16 48 (dk_at dksX2_number_0 18 rfl rfl)
theorem dX2_number_20 : decode cX2_number 20 = .ok (.isub, 1) := dk_100 (dk_at dksX2_number_0 20 rfl rfl)
theorem dX2_number_21 : decode cX2_number 21 = .ok (.imul, 1) := dk_104 (dk_at dksX2_number_0 21 rfl rfl)
theorem dX2_number_22 : decode cX2_number 22 = .ok (.invokevirtual 122, 3) := dk_182 0 122 (dk_at dksX2_number_1 0 rfl rfl)
theorem dX2_number_25 : decode cX2_number 25 = .ok (.goto 5, 3) := dk_167 0 5 (dk_at dksX2_number_1 3 rfl rfl)
theorem dX2_number_28 : decode cX2_number 28 = .ok (.bipush (-6), 2) := dk_16 250 (dk_at dksX2_number_1 6 rfl rfl)
theorem dX2_number_30 : decode cX2_number 30 = .ok (.ireturn, 1) := dk_172 (dk_at dksX2_number_1 8 rfl rfl)
abbrev cX2_forWhom : ByteArray := prog_4_method_16_code
def yX2_forWhom : MethodName := ⟨RX2, "forWhom", "(I)I"⟩
def dkwX2_forWhom_1 : List UInt8 := [16, 250, 172]
abbrev dktX2_forWhom_1 : List UInt8 := dkwX2_forWhom_1 ++ []
def dkwX2_forWhom_0 : List UInt8 := [42, 180, 0, 40, 42, 180, 0, 112, 27, 16, 65, 100, 79, 27, 184, 0, 119, 153, 0, 7, 7, 167, 0, 5]
abbrev dktX2_forWhom_0 : List UInt8 := dkwX2_forWhom_0 ++ dktX2_forWhom_1
theorem dksX2_forWhom_0 : cX2_forWhom.data.toList.drop 0 = dktX2_forWhom_0 := by decide +kernel
theorem dksX2_forWhom_1 : cX2_forWhom.data.toList.drop 24 = dktX2_forWhom_1 := dk_seg dksX2_forWhom_0 24 rfl rfl
theorem dX2_forWhom_0 : decode cX2_forWhom 0 = .ok (.aload_n 0, 1) := dk_42 (dk_at dksX2_forWhom_0 0 rfl rfl)
theorem dX2_forWhom_1 : decode cX2_forWhom 1 = .ok (.getfield 40, 3) := dk_180 0 40 (dk_at dksX2_forWhom_0 1 rfl rfl)
theorem dX2_forWhom_4 : decode cX2_forWhom 4 = .ok (.aload_n 0, 1) := dk_42 (dk_at dksX2_forWhom_0 4 rfl rfl)
theorem dX2_forWhom_5 : decode cX2_forWhom 5 = .ok (.getfield 112, 3) := dk_180 0 112 (dk_at dksX2_forWhom_0 5 rfl rfl)
theorem dX2_forWhom_8 : decode cX2_forWhom 8 = .ok (.iload_n 1, 1) := dk_27 (dk_at dksX2_forWhom_0 8 rfl rfl)
theorem dX2_forWhom_9 : decode cX2_forWhom 9 = .ok (.bipush 65, 2) := dk_16 65 (dk_at dksX2_forWhom_0 9 rfl rfl)
theorem dX2_forWhom_11 : decode cX2_forWhom 11 = .ok (.isub, 1) := dk_100 (dk_at dksX2_forWhom_0 11 rfl rfl)
theorem dX2_forWhom_12 : decode cX2_forWhom 12 = .ok (.iastore, 1) := dk_79 (dk_at dksX2_forWhom_0 12 rfl rfl)
theorem dX2_forWhom_13 : decode cX2_forWhom 13 = .ok (.iload_n 1, 1) := dk_27 (dk_at dksX2_forWhom_0 13 rfl rfl)
theorem dX2_forWhom_14 : decode cX2_forWhom 14 = .ok (.invokestatic 119, 3) := dk_184 0 119 (dk_at dksX2_forWhom_0 14 rfl rfl)
theorem dX2_forWhom_17 : decode cX2_forWhom 17 = .ok (.ifCond .eq 7, 3) := dk_153 0 7 (dk_at dksX2_forWhom_0 17 rfl rfl)
theorem dX2_forWhom_20 : decode cX2_forWhom 20 = .ok (.iconst 4, 1) := dk_7 (dk_at dksX2_forWhom_0 20 rfl rfl)
theorem dX2_forWhom_21 : decode cX2_forWhom 21 = .ok (.goto 5, 3) := dk_167 0 5 (dk_at dksX2_forWhom_0 21 rfl rfl)
theorem dX2_forWhom_24 : decode cX2_forWhom 24 = .ok (.bipush (-6), 2) := dk_16 250 (dk_at dksX2_forWhom_1 0 rfl rfl)
theorem dX2_forWhom_26 : decode cX2_forWhom 26 = .ok (.ireturn, 1) := dk_172 (dk_at dksX2_forWhom_1 2 rfl rfl)
abbrev cX2_judge : ByteArray := prog_4_method_37_code
def yX2_judge : MethodName := ⟨RX2, "judge", "(I)I"⟩
def dkwX2_judge_2 : List UInt8 := [180, 0, 196, 167, 0, 19, 27, 4, 160, 0, 10, 42, 180, 0, 199, 167, 0, 7, 42, 180, 0, 202, 172]
abbrev dktX2_judge_2 : List UInt8 := dkwX2_judge_2 ++ []
def dkwX2_judge_1 : List UInt8 := [28, 16, 251, 159, 0, 14, 27, 4, 164, 0, 11, 28, 16, 253, 160, 0, 5, 28, 172, 27, 154, 0, 10, 42]
abbrev dktX2_judge_1 : List UInt8 := dkwX2_judge_1 ++ dktX2_judge_2
def dkwX2_judge_0 : List UInt8 := [27, 133, 9, 20, 0, 221, 184, 0, 80, 154, 0, 6, 16, 254, 172, 42, 42, 182, 0, 223, 182, 0, 226, 61]
abbrev dktX2_judge_0 : List UInt8 := dkwX2_judge_0 ++ dktX2_judge_1
theorem dksX2_judge_0 : cX2_judge.data.toList.drop 0 = dktX2_judge_0 := by decide +kernel
theorem dksX2_judge_1 : cX2_judge.data.toList.drop 24 = dktX2_judge_1 := dk_seg dksX2_judge_0 24 rfl rfl
theorem dksX2_judge_2 : cX2_judge.data.toList.drop 48 = dktX2_judge_2 := dk_seg dksX2_judge_1 24 rfl rfl
theorem dX2_judge_0 : decode cX2_judge 0 = .ok (.iload_n 1, 1) := dk_27 (dk_at dksX2_judge_0 0 rfl rfl)
theorem dX2_judge_1 : decode cX2_judge 1 = .ok (.i2l, 1) := dk_133 (dk_at dksX2_judge_0 1 rfl rfl)
theorem dX2_judge_2 : decode cX2_judge 2 = .ok (.lconst 0, 1) := dk_9 (dk_at dksX2_judge_0 2 rfl rfl)
theorem dX2_judge_3 : decode cX2_judge 3 = .ok (.ldc2_w 221, 3) := dk_20 0 221 (dk_at dksX2_judge_0 3 rfl rfl)
theorem dX2_judge_6 : decode cX2_judge 6 = .ok (.invokestatic 80, 3) := dk_184 0 80 (dk_at dksX2_judge_0 6 rfl rfl)
theorem dX2_judge_9 : decode cX2_judge 9 = .ok (.ifCond .ne 6, 3) := dk_154 0 6 (dk_at dksX2_judge_0 9 rfl rfl)
theorem dX2_judge_12 : decode cX2_judge 12 = .ok (.bipush (-2), 2) := dk_16 254 (dk_at dksX2_judge_0 12 rfl rfl)
theorem dX2_judge_14 : decode cX2_judge 14 = .ok (.ireturn, 1) := dk_172 (dk_at dksX2_judge_0 14 rfl rfl)
theorem dX2_judge_15 : decode cX2_judge 15 = .ok (.aload_n 0, 1) := dk_42 (dk_at dksX2_judge_0 15 rfl rfl)
theorem dX2_judge_16 : decode cX2_judge 16 = .ok (.aload_n 0, 1) := dk_42 (dk_at dksX2_judge_0 16 rfl rfl)
theorem dX2_judge_17 : decode cX2_judge 17 = .ok (.invokevirtual 223, 3) := dk_182 0 223 (dk_at dksX2_judge_0 17 rfl rfl)
theorem dX2_judge_20 : decode cX2_judge 20 = .ok (.invokevirtual 226, 3) := dk_182 0 226 (dk_at dksX2_judge_0 20 rfl rfl)
theorem dX2_judge_23 : decode cX2_judge 23 = .ok (.istore_n 2, 1) := dk_61 (dk_at dksX2_judge_0 23 rfl rfl)
theorem dX2_judge_24 : decode cX2_judge 24 = .ok (.iload_n 2, 1) := dk_28 (dk_at dksX2_judge_1 0 rfl rfl)
theorem dX2_judge_25 : decode cX2_judge 25 = .ok (.bipush (-5), 2) := dk_16 251 (dk_at dksX2_judge_1 1 rfl rfl)
theorem dX2_judge_27 : decode cX2_judge 27 = .ok (.if_icmp .eq 14, 3) := dk_159 0 14 (dk_at dksX2_judge_1 3 rfl rfl)
theorem dX2_judge_30 : decode cX2_judge 30 = .ok (.iload_n 1, 1) := dk_27 (dk_at dksX2_judge_1 6 rfl rfl)
theorem dX2_judge_31 : decode cX2_judge 31 = .ok (.iconst 1, 1) := dk_4 (dk_at dksX2_judge_1 7 rfl rfl)
theorem dX2_judge_32 : decode cX2_judge 32 = .ok (.if_icmp .le 11, 3) := dk_164 0 11 (dk_at dksX2_judge_1 8 rfl rfl)
theorem dX2_judge_35 : decode cX2_judge 35 = .ok (.iload_n 2, 1) := dk_28 (dk_at dksX2_judge_1 11 rfl rfl)
theorem dX2_judge_36 : decode cX2_judge 36 = .ok (.bipush (-3), 2) := dk_16 253 (dk_at dksX2_judge_1 12 rfl rfl)
theorem dX2_judge_38 : decode cX2_judge 38 = .ok (.if_icmp .ne 5, 3) := dk_160 0 5 (dk_at dksX2_judge_1 14 rfl rfl)
theorem dX2_judge_41 : decode cX2_judge 41 = .ok (.iload_n 2, 1) := dk_28 (dk_at dksX2_judge_1 17 rfl rfl)
theorem dX2_judge_42 : decode cX2_judge 42 = .ok (.ireturn, 1) := dk_172 (dk_at dksX2_judge_1 18 rfl rfl)
theorem dX2_judge_43 : decode cX2_judge 43 = .ok (.iload_n 1, 1) := dk_27 (dk_at dksX2_judge_1 19 rfl rfl)
theorem dX2_judge_44 : decode cX2_judge 44 = .ok (.ifCond .ne 10, 3) := dk_154 0 10 (dk_at dksX2_judge_1 20 rfl rfl)
theorem dX2_judge_47 : decode cX2_judge 47 = .ok (.aload_n 0, 1) := dk_42 (dk_at dksX2_judge_1 23 rfl rfl)
theorem dX2_judge_48 : decode cX2_judge 48 = .ok (.getfield 196, 3) := dk_180 0 196 (dk_at dksX2_judge_2 0 rfl rfl)
theorem dX2_judge_51 : decode cX2_judge 51 = .ok (.goto 19, 3) := dk_167 0 19 (dk_at dksX2_judge_2 3 rfl rfl)
theorem dX2_judge_54 : decode cX2_judge 54 = .ok (.iload_n 1, 1) := dk_27 (dk_at dksX2_judge_2 6 rfl rfl)
theorem dX2_judge_55 : decode cX2_judge 55 = .ok (.iconst 1, 1) := dk_4 (dk_at dksX2_judge_2 7 rfl rfl)
theorem dX2_judge_56 : decode cX2_judge 56 = .ok (.if_icmp .ne 10, 3) := dk_160 0 10 (dk_at dksX2_judge_2 8 rfl rfl)
theorem dX2_judge_59 : decode cX2_judge 59 = .ok (.aload_n 0, 1) := dk_42 (dk_at dksX2_judge_2 11 rfl rfl)
theorem dX2_judge_60 : decode cX2_judge 60 = .ok (.getfield 199, 3) := dk_180 0 199 (dk_at dksX2_judge_2 12 rfl rfl)
theorem dX2_judge_63 : decode cX2_judge 63 = .ok (.goto 7, 3) := dk_167 0 7 (dk_at dksX2_judge_2 15 rfl rfl)
theorem dX2_judge_66 : decode cX2_judge 66 = .ok (.aload_n 0, 1) := dk_42 (dk_at dksX2_judge_2 18 rfl rfl)
theorem dX2_judge_67 : decode cX2_judge 67 = .ok (.getfield 202, 3) := dk_180 0 202 (dk_at dksX2_judge_2 19 rfl rfl)
theorem dX2_judge_70 : decode cX2_judge 70 = .ok (.ireturn, 1) := dk_172 (dk_at dksX2_judge_2 22 rfl rfl)
abbrev cX2_refusal : ByteArray := prog_4_method_36_code
def yX2_refusal : MethodName := ⟨RX2, "refusal", "()I"⟩
def dkwX2_refusal_1 : List UInt8 := [155, 0, 8, 16, 253, 167, 0, 5, 16, 250, 172]
abbrev dktX2_refusal_1 : List UInt8 := dkwX2_refusal_1 ++ []
def dkwX2_refusal_0 : List UInt8 := [42, 182, 0, 212, 42, 182, 0, 215, 155, 0, 6, 16, 251, 172, 42, 182, 0, 218, 42, 180, 0, 196]
abbrev dktX2_refusal_0 : List UInt8 := dkwX2_refusal_0 ++ dktX2_refusal_1
theorem dksX2_refusal_0 : cX2_refusal.data.toList.drop 0 = dktX2_refusal_0 := by decide +kernel
theorem dksX2_refusal_1 : cX2_refusal.data.toList.drop 22 = dktX2_refusal_1 := dk_seg dksX2_refusal_0 22 rfl rfl
theorem dX2_refusal_0 : decode cX2_refusal 0 = .ok (.aload_n 0, 1) := dk_42 (dk_at dksX2_refusal_0 0 rfl rfl)
theorem dX2_refusal_1 : decode cX2_refusal 1 = .ok (.invokevirtual 212, 3) := dk_182 0 212 (dk_at dksX2_refusal_0 1 rfl rfl)
theorem dX2_refusal_4 : decode cX2_refusal 4 = .ok (.aload_n 0, 1) := dk_42 (dk_at dksX2_refusal_0 4 rfl rfl)
theorem dX2_refusal_5 : decode cX2_refusal 5 = .ok (.invokevirtual 215, 3) := dk_182 0 215 (dk_at dksX2_refusal_0 5 rfl rfl)
theorem dX2_refusal_8 : decode cX2_refusal 8 = .ok (.ifCond .lt 6, 3) := dk_155 0 6 (dk_at dksX2_refusal_0 8 rfl rfl)
theorem dX2_refusal_11 : decode cX2_refusal 11 = .ok (.bipush (-5), 2) := dk_16 251 (dk_at dksX2_refusal_0 11 rfl rfl)
theorem dX2_refusal_13 : decode cX2_refusal 13 = .ok (.ireturn, 1) := dk_172 (dk_at dksX2_refusal_0 13 rfl rfl)
theorem dX2_refusal_14 : decode cX2_refusal 14 = .ok (.aload_n 0, 1) := dk_42 (dk_at dksX2_refusal_0 14 rfl rfl)
theorem dX2_refusal_15 : decode cX2_refusal 15 = .ok (.invokevirtual 218, 3) := dk_182 0 218 (dk_at dksX2_refusal_0 15 rfl rfl)
theorem dX2_refusal_18 : decode cX2_refusal 18 = .ok (.aload_n 0, 1) := dk_42 (dk_at dksX2_refusal_0 18 rfl rfl)
theorem dX2_refusal_19 : decode cX2_refusal 19 = .ok (.getfield 196, 3) := dk_180 0 196 (dk_at dksX2_refusal_0 19 rfl rfl)
theorem dX2_refusal_22 : decode cX2_refusal 22 = .ok (.ifCond .lt 8, 3) := dk_155 0 8 (dk_at dksX2_refusal_1 0 rfl rfl)
theorem dX2_refusal_25 : decode cX2_refusal 25 = .ok (.bipush (-3), 2) := dk_16 253 (dk_at dksX2_refusal_1 3 rfl rfl)
theorem dX2_refusal_27 : decode cX2_refusal 27 = .ok (.goto 5, 3) := dk_167 0 5 (dk_at dksX2_refusal_1 5 rfl rfl)
theorem dX2_refusal_30 : decode cX2_refusal 30 = .ok (.bipush (-6), 2) := dk_16 250 (dk_at dksX2_refusal_1 8 rfl rfl)
theorem dX2_refusal_32 : decode cX2_refusal 32 = .ok (.ireturn, 1) := dk_172 (dk_at dksX2_refusal_1 10 rfl rfl)
abbrev cX2_keepNow : ByteArray := prog_4_method_33_code
def yX2_keepNow : MethodName := ⟨RX2, "keepNow", "()V"⟩
def dkwX2_keepNow_6 : List UInt8 := [180, 0, 180, 79, 177]
abbrev dktX2_keepNow_6 : List UInt8 := dkwX2_keepNow_6 ++ []
def dkwX2_keepNow_5 : List UInt8 := [180, 0, 102, 79, 42, 180, 0, 46, 16, 58, 42, 180, 0, 183, 79, 42, 180, 0, 46, 16, 59, 42]
abbrev dktX2_keepNow_5 : List UInt8 := dkwX2_keepNow_5 ++ dktX2_keepNow_6
def dkwX2_keepNow_4 : List UInt8 := [132, 1, 1, 167, 255, 232, 42, 180, 0, 46, 16, 56, 42, 180, 0, 98, 79, 42, 180, 0, 46, 16, 57, 42]
abbrev dktX2_keepNow_4 : List UInt8 := dkwX2_keepNow_4 ++ dktX2_keepNow_5
def dkwX2_keepNow_3 : List UInt8 := [3, 60, 27, 16, 8, 162, 0, 24, 42, 180, 0, 46, 16, 48, 27, 96, 42, 180, 0, 22, 27, 46, 79]
abbrev dktX2_keepNow_3 : List UInt8 := dkwX2_keepNow_3 ++ dktX2_keepNow_4
def dkwX2_keepNow_2 : List UInt8 := [162, 0, 24, 42, 180, 0, 46, 16, 12, 27, 96, 42, 180, 0, 16, 27, 46, 79, 132, 1, 1, 167, 255, 232]
abbrev dktX2_keepNow_2 : List UInt8 := dkwX2_keepNow_2 ++ dktX2_keepNow_3
def dkwX2_keepNow_1 : List UInt8 := [16, 6, 27, 96, 42, 180, 0, 13, 27, 46, 79, 132, 1, 1, 167, 255, 220, 3, 60, 27, 16, 36]
abbrev dktX2_keepNow_1 : List UInt8 := dkwX2_keepNow_1 ++ dktX2_keepNow_2
def dkwX2_keepNow_0 : List UInt8 := [3, 60, 27, 16, 6, 162, 0, 36, 42, 180, 0, 46, 27, 42, 180, 0, 7, 27, 46, 79, 42, 180, 0, 46]
abbrev dktX2_keepNow_0 : List UInt8 := dkwX2_keepNow_0 ++ dktX2_keepNow_1
theorem dksX2_keepNow_0 : cX2_keepNow.data.toList.drop 0 = dktX2_keepNow_0 := by decide +kernel
theorem dksX2_keepNow_1 : cX2_keepNow.data.toList.drop 24 = dktX2_keepNow_1 := dk_seg dksX2_keepNow_0 24 rfl rfl
theorem dksX2_keepNow_2 : cX2_keepNow.data.toList.drop 46 = dktX2_keepNow_2 := dk_seg dksX2_keepNow_1 22 rfl rfl
theorem dksX2_keepNow_3 : cX2_keepNow.data.toList.drop 70 = dktX2_keepNow_3 := dk_seg dksX2_keepNow_2 24 rfl rfl
theorem dksX2_keepNow_4 : cX2_keepNow.data.toList.drop 93 = dktX2_keepNow_4 := dk_seg dksX2_keepNow_3 23 rfl rfl
theorem dksX2_keepNow_5 : cX2_keepNow.data.toList.drop 117 = dktX2_keepNow_5 := dk_seg dksX2_keepNow_4 24 rfl rfl
theorem dksX2_keepNow_6 : cX2_keepNow.data.toList.drop 139 = dktX2_keepNow_6 := dk_seg dksX2_keepNow_5 22 rfl rfl
theorem dX2_keepNow_0 : decode cX2_keepNow 0 = .ok (.iconst 0, 1) := dk_3 (dk_at dksX2_keepNow_0 0 rfl rfl)
theorem dX2_keepNow_1 : decode cX2_keepNow 1 = .ok (.istore_n 1, 1) := dk_60 (dk_at dksX2_keepNow_0 1 rfl rfl)
theorem dX2_keepNow_2 : decode cX2_keepNow 2 = .ok (.iload_n 1, 1) := dk_27 (dk_at dksX2_keepNow_0 2 rfl rfl)
theorem dX2_keepNow_3 : decode cX2_keepNow 3 = .ok (.bipush 6, 2) := dk_16 6 (dk_at dksX2_keepNow_0 3 rfl rfl)
theorem dX2_keepNow_5 : decode cX2_keepNow 5 = .ok (.if_icmp .ge 36, 3) := dk_162 0 36 (dk_at dksX2_keepNow_0 5 rfl rfl)
theorem dX2_keepNow_8 : decode cX2_keepNow 8 = .ok (.aload_n 0, 1) := dk_42 (dk_at dksX2_keepNow_0 8 rfl rfl)
theorem dX2_keepNow_9 : decode cX2_keepNow 9 = .ok (.getfield 46, 3) := dk_180 0 46 (dk_at dksX2_keepNow_0 9 rfl rfl)
theorem dX2_keepNow_12 : decode cX2_keepNow 12 = .ok (.iload_n 1, 1) := dk_27 (dk_at dksX2_keepNow_0 12 rfl rfl)
theorem dX2_keepNow_13 : decode cX2_keepNow 13 = .ok (.aload_n 0, 1) := dk_42 (dk_at dksX2_keepNow_0 13 rfl rfl)
theorem dX2_keepNow_14 : decode cX2_keepNow 14 = .ok (.getfield 7, 3) := dk_180 0 7 (dk_at dksX2_keepNow_0 14 rfl rfl)
theorem dX2_keepNow_17 : decode cX2_keepNow 17 = .ok (.iload_n 1, 1) := dk_27 (dk_at dksX2_keepNow_0 17 rfl rfl)
theorem dX2_keepNow_18 : decode cX2_keepNow 18 = .ok (.iaload, 1) := dk_46 (dk_at dksX2_keepNow_0 18 rfl rfl)
theorem dX2_keepNow_19 : decode cX2_keepNow 19 = .ok (.iastore, 1) := dk_79 (dk_at dksX2_keepNow_0 19 rfl rfl)
theorem dX2_keepNow_20 : decode cX2_keepNow 20 = .ok (.aload_n 0, 1) := dk_42 (dk_at dksX2_keepNow_0 20 rfl rfl)
theorem dX2_keepNow_21 : decode cX2_keepNow 21 = .ok (.getfield 46, 3) := dk_180 0 46 (dk_at dksX2_keepNow_0 21 rfl rfl)
theorem dX2_keepNow_24 : decode cX2_keepNow 24 = .ok (.bipush 6, 2) := dk_16 6 (dk_at dksX2_keepNow_1 0 rfl rfl)
theorem dX2_keepNow_26 : decode cX2_keepNow 26 = .ok (.iload_n 1, 1) := dk_27 (dk_at dksX2_keepNow_1 2 rfl rfl)
theorem dX2_keepNow_27 : decode cX2_keepNow 27 = .ok (.iadd, 1) := dk_96 (dk_at dksX2_keepNow_1 3 rfl rfl)
theorem dX2_keepNow_28 : decode cX2_keepNow 28 = .ok (.aload_n 0, 1) := dk_42 (dk_at dksX2_keepNow_1 4 rfl rfl)
theorem dX2_keepNow_29 : decode cX2_keepNow 29 = .ok (.getfield 13, 3) := dk_180 0 13 (dk_at dksX2_keepNow_1 5 rfl rfl)
theorem dX2_keepNow_32 : decode cX2_keepNow 32 = .ok (.iload_n 1, 1) := dk_27 (dk_at dksX2_keepNow_1 8 rfl rfl)
theorem dX2_keepNow_33 : decode cX2_keepNow 33 = .ok (.iaload, 1) := dk_46 (dk_at dksX2_keepNow_1 9 rfl rfl)
theorem dX2_keepNow_34 : decode cX2_keepNow 34 = .ok (.iastore, 1) := dk_79 (dk_at dksX2_keepNow_1 10 rfl rfl)
theorem dX2_keepNow_35 : decode cX2_keepNow 35 = .ok (.iinc 1 1, 3) := dk_132 1 1 (dk_at dksX2_keepNow_1 11 rfl rfl)
theorem dX2_keepNow_38 : decode cX2_keepNow 38 = .ok (.goto (-36), 3) := dk_167 255 220 (dk_at dksX2_keepNow_1 14 rfl rfl)
theorem dX2_keepNow_41 : decode cX2_keepNow 41 = .ok (.iconst 0, 1) := dk_3 (dk_at dksX2_keepNow_1 17 rfl rfl)
theorem dX2_keepNow_42 : decode cX2_keepNow 42 = .ok (.istore_n 1, 1) := dk_60 (dk_at dksX2_keepNow_1 18 rfl rfl)
theorem dX2_keepNow_43 : decode cX2_keepNow 43 = .ok (.iload_n 1, 1) := dk_27 (dk_at dksX2_keepNow_1 19 rfl rfl)
theorem dX2_keepNow_44 : decode cX2_keepNow 44 = .ok (.bipush 36, 2) := dk_16 36 (dk_at dksX2_keepNow_1 20 rfl rfl)
theorem dX2_keepNow_46 : decode cX2_keepNow 46 = .ok (.if_icmp .ge 24, 3) := dk_162 0 24 (dk_at dksX2_keepNow_2 0 rfl rfl)
theorem dX2_keepNow_49 : decode cX2_keepNow 49 = .ok (.aload_n 0, 1) := dk_42 (dk_at dksX2_keepNow_2 3 rfl rfl)
theorem dX2_keepNow_50 : decode cX2_keepNow 50 = .ok (.getfield 46, 3) := dk_180 0 46 (dk_at dksX2_keepNow_2 4 rfl rfl)
theorem dX2_keepNow_53 : decode cX2_keepNow 53 = .ok (.bipush 12, 2) := dk_16 12 (dk_at dksX2_keepNow_2 7 rfl rfl)
theorem dX2_keepNow_55 : decode cX2_keepNow 55 = .ok (.iload_n 1, 1) := dk_27 (dk_at dksX2_keepNow_2 9 rfl rfl)
theorem dX2_keepNow_56 : decode cX2_keepNow 56 = .ok (.iadd, 1) := dk_96 (dk_at dksX2_keepNow_2 10 rfl rfl)
theorem dX2_keepNow_57 : decode cX2_keepNow 57 = .ok (.aload_n 0, 1) := dk_42 (dk_at dksX2_keepNow_2 11 rfl rfl)
theorem dX2_keepNow_58 : decode cX2_keepNow 58 = .ok (.getfield 16, 3) := dk_180 0 16 (dk_at dksX2_keepNow_2 12 rfl rfl)
theorem dX2_keepNow_61 : decode cX2_keepNow 61 = .ok (.iload_n 1, 1) := dk_27 (dk_at dksX2_keepNow_2 15 rfl rfl)
theorem dX2_keepNow_62 : decode cX2_keepNow 62 = .ok (.iaload, 1) := dk_46 (dk_at dksX2_keepNow_2 16 rfl rfl)
theorem dX2_keepNow_63 : decode cX2_keepNow 63 = .ok (.iastore, 1) := dk_79 (dk_at dksX2_keepNow_2 17 rfl rfl)
theorem dX2_keepNow_64 : decode cX2_keepNow 64 = .ok (.iinc 1 1, 3) := dk_132 1 1 (dk_at dksX2_keepNow_2 18 rfl rfl)
theorem dX2_keepNow_67 : decode cX2_keepNow 67 = .ok (.goto (-24), 3) := dk_167 255 232 (dk_at dksX2_keepNow_2 21 rfl rfl)
theorem dX2_keepNow_70 : decode cX2_keepNow 70 = .ok (.iconst 0, 1) := dk_3 (dk_at dksX2_keepNow_3 0 rfl rfl)
theorem dX2_keepNow_71 : decode cX2_keepNow 71 = .ok (.istore_n 1, 1) := dk_60 (dk_at dksX2_keepNow_3 1 rfl rfl)
theorem dX2_keepNow_72 : decode cX2_keepNow 72 = .ok (.iload_n 1, 1) := dk_27 (dk_at dksX2_keepNow_3 2 rfl rfl)
theorem dX2_keepNow_73 : decode cX2_keepNow 73 = .ok (.bipush 8, 2) := dk_16 8 (dk_at dksX2_keepNow_3 3 rfl rfl)
theorem dX2_keepNow_75 : decode cX2_keepNow 75 = .ok (.if_icmp .ge 24, 3) := dk_162 0 24 (dk_at dksX2_keepNow_3 5 rfl rfl)
theorem dX2_keepNow_78 : decode cX2_keepNow 78 = .ok (.aload_n 0, 1) := dk_42 (dk_at dksX2_keepNow_3 8 rfl rfl)
theorem dX2_keepNow_79 : decode cX2_keepNow 79 = .ok (.getfield 46, 3) := dk_180 0 46 (dk_at dksX2_keepNow_3 9 rfl rfl)
theorem dX2_keepNow_82 : decode cX2_keepNow 82 = .ok (.bipush 48, 2) := dk_16 48 (dk_at dksX2_keepNow_3 12 rfl rfl)
theorem dX2_keepNow_84 : decode cX2_keepNow 84 = .ok (.iload_n 1, 1) := dk_27 (dk_at dksX2_keepNow_3 14 rfl rfl)
theorem dX2_keepNow_85 : decode cX2_keepNow 85 = .ok (.iadd, 1) := dk_96 (dk_at dksX2_keepNow_3 15 rfl rfl)
theorem dX2_keepNow_86 : decode cX2_keepNow 86 = .ok (.aload_n 0, 1) := dk_42 (dk_at dksX2_keepNow_3 16 rfl rfl)
theorem dX2_keepNow_87 : decode cX2_keepNow 87 = .ok (.getfield 22, 3) := dk_180 0 22 (dk_at dksX2_keepNow_3 17 rfl rfl)
theorem dX2_keepNow_90 : decode cX2_keepNow 90 = .ok (.iload_n 1, 1) := dk_27 (dk_at dksX2_keepNow_3 20 rfl rfl)
theorem dX2_keepNow_91 : decode cX2_keepNow 91 = .ok (.iaload, 1) := dk_46 (dk_at dksX2_keepNow_3 21 rfl rfl)
theorem dX2_keepNow_92 : decode cX2_keepNow 92 = .ok (.iastore, 1) := dk_79 (dk_at dksX2_keepNow_3 22 rfl rfl)
theorem dX2_keepNow_93 : decode cX2_keepNow 93 = .ok (.iinc 1 1, 3) := dk_132 1 1 (dk_at dksX2_keepNow_4 0 rfl rfl)
theorem dX2_keepNow_96 : decode cX2_keepNow 96 = .ok (.goto (-24), 3) := dk_167 255 232 (dk_at dksX2_keepNow_4 3 rfl rfl)
theorem dX2_keepNow_99 : decode cX2_keepNow 99 = .ok (.aload_n 0, 1) := dk_42 (dk_at dksX2_keepNow_4 6 rfl rfl)
theorem dX2_keepNow_100 : decode cX2_keepNow 100 = .ok (.getfield 46, 3) := dk_180 0 46 (dk_at dksX2_keepNow_4 7 rfl rfl)
theorem dX2_keepNow_103 : decode cX2_keepNow 103 = .ok (.bipush 56, 2) := dk_16 56 (dk_at dksX2_keepNow_4 10 rfl rfl)
theorem dX2_keepNow_105 : decode cX2_keepNow 105 = .ok (.aload_n 0, 1) := dk_42 (dk_at dksX2_keepNow_4 12 rfl rfl)
theorem dX2_keepNow_106 : decode cX2_keepNow 106 = .ok (.getfield 98, 3) := dk_180 0 98 (dk_at dksX2_keepNow_4 13 rfl rfl)
theorem dX2_keepNow_109 : decode cX2_keepNow 109 = .ok (.iastore, 1) := dk_79 (dk_at dksX2_keepNow_4 16 rfl rfl)
theorem dX2_keepNow_110 : decode cX2_keepNow 110 = .ok (.aload_n 0, 1) := dk_42 (dk_at dksX2_keepNow_4 17 rfl rfl)
theorem dX2_keepNow_111 : decode cX2_keepNow 111 = .ok (.getfield 46, 3) := dk_180 0 46 (dk_at dksX2_keepNow_4 18 rfl rfl)
theorem dX2_keepNow_114 : decode cX2_keepNow 114 = .ok (.bipush 57, 2) := dk_16 57 (dk_at dksX2_keepNow_4 21 rfl rfl)
theorem dX2_keepNow_116 : decode cX2_keepNow 116 = .ok (.aload_n 0, 1) := dk_42 (dk_at dksX2_keepNow_4 23 rfl rfl)
theorem dX2_keepNow_117 : decode cX2_keepNow 117 = .ok (.getfield 102, 3) := dk_180 0 102 (dk_at dksX2_keepNow_5 0 rfl rfl)
theorem dX2_keepNow_120 : decode cX2_keepNow 120 = .ok (.iastore, 1) := dk_79 (dk_at dksX2_keepNow_5 3 rfl rfl)
theorem dX2_keepNow_121 : decode cX2_keepNow 121 = .ok (.aload_n 0, 1) := dk_42 (dk_at dksX2_keepNow_5 4 rfl rfl)
theorem dX2_keepNow_122 : decode cX2_keepNow 122 = .ok (.getfield 46, 3) := dk_180 0 46 (dk_at dksX2_keepNow_5 5 rfl rfl)
theorem dX2_keepNow_125 : decode cX2_keepNow 125 = .ok (.bipush 58, 2) := dk_16 58 (dk_at dksX2_keepNow_5 8 rfl rfl)
theorem dX2_keepNow_127 : decode cX2_keepNow 127 = .ok (.aload_n 0, 1) := dk_42 (dk_at dksX2_keepNow_5 10 rfl rfl)
theorem dX2_keepNow_128 : decode cX2_keepNow 128 = .ok (.getfield 183, 3) := dk_180 0 183 (dk_at dksX2_keepNow_5 11 rfl rfl)
theorem dX2_keepNow_131 : decode cX2_keepNow 131 = .ok (.iastore, 1) := dk_79 (dk_at dksX2_keepNow_5 14 rfl rfl)
theorem dX2_keepNow_132 : decode cX2_keepNow 132 = .ok (.aload_n 0, 1) := dk_42 (dk_at dksX2_keepNow_5 15 rfl rfl)
theorem dX2_keepNow_133 : decode cX2_keepNow 133 = .ok (.getfield 46, 3) := dk_180 0 46 (dk_at dksX2_keepNow_5 16 rfl rfl)
theorem dX2_keepNow_136 : decode cX2_keepNow 136 = .ok (.bipush 59, 2) := dk_16 59 (dk_at dksX2_keepNow_5 19 rfl rfl)
theorem dX2_keepNow_138 : decode cX2_keepNow 138 = .ok (.aload_n 0, 1) := dk_42 (dk_at dksX2_keepNow_5 21 rfl rfl)
theorem dX2_keepNow_139 : decode cX2_keepNow 139 = .ok (.getfield 180, 3) := dk_180 0 180 (dk_at dksX2_keepNow_6 0 rfl rfl)
theorem dX2_keepNow_142 : decode cX2_keepNow 142 = .ok (.iastore, 1) := dk_79 (dk_at dksX2_keepNow_6 3 rfl rfl)
theorem dX2_keepNow_143 : decode cX2_keepNow 143 = .ok (.return_, 1) := dk_177 (dk_at dksX2_keepNow_6 4 rfl rfl)
abbrev cX2_goMonths : ByteArray := prog_4_method_35_code
def yX2_goMonths : MethodName := ⟨RX2, "goMonths", "()V"⟩
def dkwX2_goMonths_6 : List UInt8 := [3, 96, 181, 0, 202, 132, 1, 1, 167, 255, 123, 177]
abbrev dktX2_goMonths_6 : List UInt8 := dkwX2_goMonths_6 ++ []
def dkwX2_goMonths_5 : List UInt8 := [182, 0, 164, 79, 42, 89, 180, 0, 202, 42, 180, 0, 37, 27, 46, 16, 6, 160, 0, 7, 4, 167, 0, 4]
abbrev dktX2_goMonths_5 : List UInt8 := dkwX2_goMonths_5 ++ dktX2_goMonths_6
def dkwX2_goMonths_4 : List UInt8 := [42, 180, 0, 40, 27, 46, 42, 180, 0, 43, 27, 46, 182, 0, 208, 42, 180, 0, 49, 42, 180, 0, 202, 42]
abbrev dktX2_goMonths_4 : List UInt8 := dkwX2_goMonths_4 ++ dktX2_goMonths_5
def dkwX2_goMonths_3 : List UInt8 := [28, 158, 0, 7, 28, 167, 0, 5, 16, 250, 181, 0, 199, 28, 154, 0, 63, 42, 42, 180, 0, 37, 27, 46]
abbrev dktX2_goMonths_3 : List UInt8 := dkwX2_goMonths_3 ++ dktX2_goMonths_4
def dkwX2_goMonths_2 : List UInt8 := [180, 0, 43, 27, 46, 182, 0, 205, 61, 42, 28, 158, 0, 7, 27, 167, 0, 5, 16, 250, 181, 0, 196, 42]
abbrev dktX2_goMonths_2 : List UInt8 := dkwX2_goMonths_2 ++ dktX2_goMonths_3
def dkwX2_goMonths_1 : List UInt8 := [162, 0, 131, 42, 180, 0, 196, 156, 0, 124, 42, 42, 180, 0, 37, 27, 46, 42, 180, 0, 40, 27, 46, 42]
abbrev dktX2_goMonths_1 : List UInt8 := dkwX2_goMonths_1 ++ dktX2_goMonths_2
def dkwX2_goMonths_0 : List UInt8 := [42, 16, 250, 181, 0, 196, 42, 16, 250, 181, 0, 199, 42, 3, 181, 0, 202, 3, 60, 27, 42, 180, 0, 112]
abbrev dktX2_goMonths_0 : List UInt8 := dkwX2_goMonths_0 ++ dktX2_goMonths_1
theorem dksX2_goMonths_0 : cX2_goMonths.data.toList.drop 0 = dktX2_goMonths_0 := by decide +kernel
theorem dksX2_goMonths_1 : cX2_goMonths.data.toList.drop 24 = dktX2_goMonths_1 := dk_seg dksX2_goMonths_0 24 rfl rfl
theorem dksX2_goMonths_2 : cX2_goMonths.data.toList.drop 48 = dktX2_goMonths_2 := dk_seg dksX2_goMonths_1 24 rfl rfl
theorem dksX2_goMonths_3 : cX2_goMonths.data.toList.drop 72 = dktX2_goMonths_3 := dk_seg dksX2_goMonths_2 24 rfl rfl
theorem dksX2_goMonths_4 : cX2_goMonths.data.toList.drop 96 = dktX2_goMonths_4 := dk_seg dksX2_goMonths_3 24 rfl rfl
theorem dksX2_goMonths_5 : cX2_goMonths.data.toList.drop 120 = dktX2_goMonths_5 := dk_seg dksX2_goMonths_4 24 rfl rfl
theorem dksX2_goMonths_6 : cX2_goMonths.data.toList.drop 144 = dktX2_goMonths_6 := dk_seg dksX2_goMonths_5 24 rfl rfl
theorem dX2_goMonths_0 : decode cX2_goMonths 0 = .ok (.aload_n 0, 1) := dk_42 (dk_at dksX2_goMonths_0 0 rfl rfl)
theorem dX2_goMonths_1 : decode cX2_goMonths 1 = .ok (.bipush (-6), 2) := dk_16 250 (dk_at dksX2_goMonths_0 1 rfl rfl)
theorem dX2_goMonths_3 : decode cX2_goMonths 3 = .ok (.putfield 196, 3) := dk_181 0 196 (dk_at dksX2_goMonths_0 3 rfl rfl)
theorem dX2_goMonths_6 : decode cX2_goMonths 6 = .ok (.aload_n 0, 1) := dk_42 (dk_at dksX2_goMonths_0 6 rfl rfl)
theorem dX2_goMonths_7 : decode cX2_goMonths 7 = .ok (.bipush (-6), 2) := dk_16 250 (dk_at dksX2_goMonths_0 7 rfl rfl)
theorem dX2_goMonths_9 : decode cX2_goMonths 9 = .ok (.putfield 199, 3) := dk_181 0 199 (dk_at dksX2_goMonths_0 9 rfl rfl)
theorem dX2_goMonths_12 : decode cX2_goMonths 12 = .ok (.aload_n 0, 1) := dk_42 (dk_at dksX2_goMonths_0 12 rfl rfl)
theorem dX2_goMonths_13 : decode cX2_goMonths 13 = .ok (.iconst 0, 1) := dk_3 (dk_at dksX2_goMonths_0 13 rfl rfl)
theorem dX2_goMonths_14 : decode cX2_goMonths 14 = .ok (.putfield 202, 3) := dk_181 0 202 (dk_at dksX2_goMonths_0 14 rfl rfl)
theorem dX2_goMonths_17 : decode cX2_goMonths 17 = .ok (.iconst 0, 1) := dk_3 (dk_at dksX2_goMonths_0 17 rfl rfl)
theorem dX2_goMonths_18 : decode cX2_goMonths 18 = .ok (.istore_n 1, 1) := dk_60 (dk_at dksX2_goMonths_0 18 rfl rfl)
theorem dX2_goMonths_19 : decode cX2_goMonths 19 = .ok (.iload_n 1, 1) := dk_27 (dk_at dksX2_goMonths_0 19 rfl rfl)
theorem dX2_goMonths_20 : decode cX2_goMonths 20 = .ok (.aload_n 0, 1) := dk_42 (dk_at dksX2_goMonths_0 20 rfl rfl)
theorem dX2_goMonths_21 : decode cX2_goMonths 21 = .ok (.getfield 112, 3) := dk_180 0 112 (dk_at dksX2_goMonths_0 21 rfl rfl)
theorem dX2_goMonths_24 : decode cX2_goMonths 24 = .ok (.if_icmp .ge 131, 3) := dk_162 0 131 (dk_at dksX2_goMonths_1 0 rfl rfl)
theorem dX2_goMonths_27 : decode cX2_goMonths 27 = .ok (.aload_n 0, 1) := dk_42 (dk_at dksX2_goMonths_1 3 rfl rfl)
theorem dX2_goMonths_28 : decode cX2_goMonths 28 = .ok (.getfield 196, 3) := dk_180 0 196 (dk_at dksX2_goMonths_1 4 rfl rfl)
theorem dX2_goMonths_31 : decode cX2_goMonths 31 = .ok (.ifCond .ge 124, 3) := dk_156 0 124 (dk_at dksX2_goMonths_1 7 rfl rfl)
theorem dX2_goMonths_34 : decode cX2_goMonths 34 = .ok (.aload_n 0, 1) := dk_42 (dk_at dksX2_goMonths_1 10 rfl rfl)
theorem dX2_goMonths_35 : decode cX2_goMonths 35 = .ok (.aload_n 0, 1) := dk_42 (dk_at dksX2_goMonths_1 11 rfl rfl)
theorem dX2_goMonths_36 : decode cX2_goMonths 36 = .ok (.getfield 37, 3) := dk_180 0 37 (dk_at dksX2_goMonths_1 12 rfl rfl)
theorem dX2_goMonths_39 : decode cX2_goMonths 39 = .ok (.iload_n 1, 1) := dk_27 (dk_at dksX2_goMonths_1 15 rfl rfl)
theorem dX2_goMonths_40 : decode cX2_goMonths 40 = .ok (.iaload, 1) := dk_46 (dk_at dksX2_goMonths_1 16 rfl rfl)
theorem dX2_goMonths_41 : decode cX2_goMonths 41 = .ok (.aload_n 0, 1) := dk_42 (dk_at dksX2_goMonths_1 17 rfl rfl)
theorem dX2_goMonths_42 : decode cX2_goMonths 42 = .ok (.getfield 40, 3) := dk_180 0 40 (dk_at dksX2_goMonths_1 18 rfl rfl)
theorem dX2_goMonths_45 : decode cX2_goMonths 45 = .ok (.iload_n 1, 1) := dk_27 (dk_at dksX2_goMonths_1 21 rfl rfl)
theorem dX2_goMonths_46 : decode cX2_goMonths 46 = .ok (.iaload, 1) := dk_46 (dk_at dksX2_goMonths_1 22 rfl rfl)
theorem dX2_goMonths_47 : decode cX2_goMonths 47 = .ok (.aload_n 0, 1) := dk_42 (dk_at dksX2_goMonths_1 23 rfl rfl)
theorem dX2_goMonths_48 : decode cX2_goMonths 48 = .ok (.getfield 43, 3) := dk_180 0 43 (dk_at dksX2_goMonths_2 0 rfl rfl)
theorem dX2_goMonths_51 : decode cX2_goMonths 51 = .ok (.iload_n 1, 1) := dk_27 (dk_at dksX2_goMonths_2 3 rfl rfl)
theorem dX2_goMonths_52 : decode cX2_goMonths 52 = .ok (.iaload, 1) := dk_46 (dk_at dksX2_goMonths_2 4 rfl rfl)
theorem dX2_goMonths_53 : decode cX2_goMonths 53 = .ok (.invokevirtual 205, 3) := dk_182 0 205 (dk_at dksX2_goMonths_2 5 rfl rfl)
theorem dX2_goMonths_56 : decode cX2_goMonths 56 = .ok (.istore_n 2, 1) := dk_61 (dk_at dksX2_goMonths_2 8 rfl rfl)
theorem dX2_goMonths_57 : decode cX2_goMonths 57 = .ok (.aload_n 0, 1) := dk_42 (dk_at dksX2_goMonths_2 9 rfl rfl)
theorem dX2_goMonths_58 : decode cX2_goMonths 58 = .ok (.iload_n 2, 1) := dk_28 (dk_at dksX2_goMonths_2 10 rfl rfl)
theorem dX2_goMonths_59 : decode cX2_goMonths 59 = .ok (.ifCond .le 7, 3) := dk_158 0 7 (dk_at dksX2_goMonths_2 11 rfl rfl)
theorem dX2_goMonths_62 : decode cX2_goMonths 62 = .ok (.iload_n 1, 1) := dk_27 (dk_at dksX2_goMonths_2 14 rfl rfl)
theorem dX2_goMonths_63 : decode cX2_goMonths 63 = .ok (.goto 5, 3) := dk_167 0 5 (dk_at dksX2_goMonths_2 15 rfl rfl)
theorem dX2_goMonths_66 : decode cX2_goMonths 66 = .ok (.bipush (-6), 2) := dk_16 250 (dk_at dksX2_goMonths_2 18 rfl rfl)
theorem dX2_goMonths_68 : decode cX2_goMonths 68 = .ok (.putfield 196, 3) := dk_181 0 196 (dk_at dksX2_goMonths_2 20 rfl rfl)
theorem dX2_goMonths_71 : decode cX2_goMonths 71 = .ok (.aload_n 0, 1) := dk_42 (dk_at dksX2_goMonths_2 23 rfl rfl)
theorem dX2_goMonths_72 : decode cX2_goMonths 72 = .ok (.iload_n 2, 1) := dk_28 (dk_at dksX2_goMonths_3 0 rfl rfl)
theorem dX2_goMonths_73 : decode cX2_goMonths 73 = .ok (.ifCond .le 7, 3) := dk_158 0 7 (dk_at dksX2_goMonths_3 1 rfl rfl)
theorem dX2_goMonths_76 : decode cX2_goMonths 76 = .ok (.iload_n 2, 1) := dk_28 (dk_at dksX2_goMonths_3 4 rfl rfl)
theorem dX2_goMonths_77 : decode cX2_goMonths 77 = .ok (.goto 5, 3) := dk_167 0 5 (dk_at dksX2_goMonths_3 5 rfl rfl)
theorem dX2_goMonths_80 : decode cX2_goMonths 80 = .ok (.bipush (-6), 2) := dk_16 250 (dk_at dksX2_goMonths_3 8 rfl rfl)
theorem dX2_goMonths_82 : decode cX2_goMonths 82 = .ok (.putfield 199, 3) := dk_181 0 199 (dk_at dksX2_goMonths_3 10 rfl rfl)
theorem dX2_goMonths_85 : decode cX2_goMonths 85 = .ok (.iload_n 2, 1) := dk_28 (dk_at dksX2_goMonths_3 13 rfl rfl)
theorem dX2_goMonths_86 : decode cX2_goMonths 86 = .ok (.ifCond .ne 63, 3) := dk_154 0 63 (dk_at dksX2_goMonths_3 14 rfl rfl)
theorem dX2_goMonths_89 : decode cX2_goMonths 89 = .ok (.aload_n 0, 1) := dk_42 (dk_at dksX2_goMonths_3 17 rfl rfl)
theorem dX2_goMonths_90 : decode cX2_goMonths 90 = .ok (.aload_n 0, 1) := dk_42 (dk_at dksX2_goMonths_3 18 rfl rfl)
theorem dX2_goMonths_91 : decode cX2_goMonths 91 = .ok (.getfield 37, 3) := dk_180 0 37 (dk_at dksX2_goMonths_3 19 rfl rfl)
theorem dX2_goMonths_94 : decode cX2_goMonths 94 = .ok (.iload_n 1, 1) := dk_27 (dk_at dksX2_goMonths_3 22 rfl rfl)
theorem dX2_goMonths_95 : decode cX2_goMonths 95 = .ok (.iaload, 1) := dk_46 (dk_at dksX2_goMonths_3 23 rfl rfl)
theorem dX2_goMonths_96 : decode cX2_goMonths 96 = .ok (.aload_n 0, 1) := dk_42 (dk_at dksX2_goMonths_4 0 rfl rfl)
theorem dX2_goMonths_97 : decode cX2_goMonths 97 = .ok (.getfield 40, 3) := dk_180 0 40 (dk_at dksX2_goMonths_4 1 rfl rfl)
theorem dX2_goMonths_100 : decode cX2_goMonths 100 = .ok (.iload_n 1, 1) := dk_27 (dk_at dksX2_goMonths_4 4 rfl rfl)
theorem dX2_goMonths_101 : decode cX2_goMonths 101 = .ok (.iaload, 1) := dk_46 (dk_at dksX2_goMonths_4 5 rfl rfl)
theorem dX2_goMonths_102 : decode cX2_goMonths 102 = .ok (.aload_n 0, 1) := dk_42 (dk_at dksX2_goMonths_4 6 rfl rfl)
theorem dX2_goMonths_103 : decode cX2_goMonths 103 = .ok (.getfield 43, 3) := dk_180 0 43 (dk_at dksX2_goMonths_4 7 rfl rfl)
theorem dX2_goMonths_106 : decode cX2_goMonths 106 = .ok (.iload_n 1, 1) := dk_27 (dk_at dksX2_goMonths_4 10 rfl rfl)
theorem dX2_goMonths_107 : decode cX2_goMonths 107 = .ok (.iaload, 1) := dk_46 (dk_at dksX2_goMonths_4 11 rfl rfl)
theorem dX2_goMonths_108 : decode cX2_goMonths 108 = .ok (.invokevirtual 208, 3) := dk_182 0 208 (dk_at dksX2_goMonths_4 12 rfl rfl)
theorem dX2_goMonths_111 : decode cX2_goMonths 111 = .ok (.aload_n 0, 1) := dk_42 (dk_at dksX2_goMonths_4 15 rfl rfl)
theorem dX2_goMonths_112 : decode cX2_goMonths 112 = .ok (.getfield 49, 3) := dk_180 0 49 (dk_at dksX2_goMonths_4 16 rfl rfl)
theorem dX2_goMonths_115 : decode cX2_goMonths 115 = .ok (.aload_n 0, 1) := dk_42 (dk_at dksX2_goMonths_4 19 rfl rfl)
theorem dX2_goMonths_116 : decode cX2_goMonths 116 = .ok (.getfield 202, 3) := dk_180 0 202 (dk_at dksX2_goMonths_4 20 rfl rfl)
theorem dX2_goMonths_119 : decode cX2_goMonths 119 = .ok (.aload_n 0, 1) := dk_42 (dk_at dksX2_goMonths_4 23 rfl rfl)
theorem dX2_goMonths_120 : decode cX2_goMonths 120 = .ok (.invokevirtual 164, 3) := dk_182 0 164 (dk_at dksX2_goMonths_5 0 rfl rfl)
theorem dX2_goMonths_123 : decode cX2_goMonths 123 = .ok (.iastore, 1) := dk_79 (dk_at dksX2_goMonths_5 3 rfl rfl)
theorem dX2_goMonths_124 : decode cX2_goMonths 124 = .ok (.aload_n 0, 1) := dk_42 (dk_at dksX2_goMonths_5 4 rfl rfl)
theorem dX2_goMonths_125 : decode cX2_goMonths 125 = .ok (.dup, 1) := dk_89 (dk_at dksX2_goMonths_5 5 rfl rfl)
theorem dX2_goMonths_126 : decode cX2_goMonths 126 = .ok (.getfield 202, 3) := dk_180 0 202 (dk_at dksX2_goMonths_5 6 rfl rfl)
theorem dX2_goMonths_129 : decode cX2_goMonths 129 = .ok (.aload_n 0, 1) := dk_42 (dk_at dksX2_goMonths_5 9 rfl rfl)
theorem dX2_goMonths_130 : decode cX2_goMonths 130 = .ok (.getfield 37, 3) := dk_180 0 37 (dk_at dksX2_goMonths_5 10 rfl rfl)
theorem dX2_goMonths_133 : decode cX2_goMonths 133 = .ok (.iload_n 1, 1) := dk_27 (dk_at dksX2_goMonths_5 13 rfl rfl)
theorem dX2_goMonths_134 : decode cX2_goMonths 134 = .ok (.iaload, 1) := dk_46 (dk_at dksX2_goMonths_5 14 rfl rfl)
theorem dX2_goMonths_135 : decode cX2_goMonths 135 = .ok (.bipush 6, 2) := dk_16 6 (dk_at dksX2_goMonths_5 15 rfl rfl)
theorem dX2_goMonths_137 : decode cX2_goMonths 137 = .ok (.if_icmp .ne 7, 3) := dk_160 0 7 (dk_at dksX2_goMonths_5 17 rfl rfl)
theorem dX2_goMonths_140 : decode cX2_goMonths 140 = .ok (.iconst 1, 1) := dk_4 (dk_at dksX2_goMonths_5 20 rfl rfl)
theorem dX2_goMonths_141 : decode cX2_goMonths 141 = .ok (.goto 4, 3) := dk_167 0 4 (dk_at dksX2_goMonths_5 21 rfl rfl)
theorem dX2_goMonths_144 : decode cX2_goMonths 144 = .ok (.iconst 0, 1) := dk_3 (dk_at dksX2_goMonths_6 0 rfl rfl)
theorem dX2_goMonths_145 : decode cX2_goMonths 145 = .ok (.iadd, 1) := dk_96 (dk_at dksX2_goMonths_6 1 rfl rfl)
theorem dX2_goMonths_146 : decode cX2_goMonths 146 = .ok (.putfield 202, 3) := dk_181 0 202 (dk_at dksX2_goMonths_6 2 rfl rfl)
theorem dX2_goMonths_149 : decode cX2_goMonths 149 = .ok (.iinc 1 1, 3) := dk_132 1 1 (dk_at dksX2_goMonths_6 5 rfl rfl)
theorem dX2_goMonths_152 : decode cX2_goMonths 152 = .ok (.goto (-133), 3) := dk_167 255 123 (dk_at dksX2_goMonths_6 8 rfl rfl)
theorem dX2_goMonths_155 : decode cX2_goMonths 155 = .ok (.return_, 1) := dk_177 (dk_at dksX2_goMonths_6 11 rfl rfl)
abbrev cX2_whyNot : ByteArray := prog_4_method_28_code
def yX2_whyNot : MethodName := ⟨RX2, "whyNot", "(III)I"⟩
def dkwX2_whyNot_8 : List UInt8 := [172]
abbrev dktX2_whyNot_8 : List UInt8 := dkwX2_whyNot_8 ++ []
def dkwX2_whyNot_7 : List UInt8 := [164, 0, 7, 8, 167, 0, 4, 3, 172, 42, 180, 0, 180, 16, 99, 160, 0, 8, 16, 6, 167, 0, 4, 3]
abbrev dktX2_whyNot_7 : List UInt8 := dkwX2_whyNot_7 ++ dktX2_whyNot_8
def dkwX2_whyNot_6 : List UInt8 := [42, 180, 0, 98, 29, 162, 0, 7, 6, 167, 0, 22, 42, 180, 0, 7, 28, 46, 29, 96, 17, 39, 15]
abbrev dktX2_whyNot_6 : List UInt8 := dkwX2_whyNot_6 ++ dktX2_whyNot_7
def dkwX2_whyNot_5 : List UInt8 := [46, 162, 0, 7, 6, 167, 0, 4, 3, 172, 42, 28, 29, 182, 0, 174, 172, 42, 28, 29, 182, 0, 177, 172]
abbrev dktX2_whyNot_5 : List UInt8 := dkwX2_whyNot_5 ++ dktX2_whyNot_6
def dkwX2_whyNot_4 : List UInt8 := [42, 180, 0, 22, 29, 46, 155, 0, 7, 5, 167, 0, 23, 42, 180, 0, 7, 28, 46, 42, 180, 0, 19, 29]
abbrev dktX2_whyNot_4 : List UInt8 := dkwX2_whyNot_4 ++ dktX2_whyNot_5
def dkwX2_whyNot_3 : List UInt8 := [96, 17, 39, 15, 163, 0, 14, 42, 180, 0, 102, 29, 96, 18, 170, 164, 0, 7, 8, 167, 0, 4, 3, 172]
abbrev dktX2_whyNot_3 : List UInt8 := dkwX2_whyNot_3 ++ dktX2_whyNot_4
def dkwX2_whyNot_2 : List UInt8 := [42, 180, 0, 98, 29, 96, 18, 170, 164, 0, 7, 8, 167, 0, 4, 3, 172, 42, 180, 0, 7, 28, 46, 29]
abbrev dktX2_whyNot_2 : List UInt8 := dkwX2_whyNot_2 ++ dktX2_whyNot_3
def dkwX2_whyNot_1 : List UInt8 := [170, 0, 0, 0, 0, 0, 167, 0, 0, 0, 0, 0, 0, 0, 5, 0, 0, 0, 39, 0, 0, 0, 56, 0, 0, 0, 87, 0, 0, 0, 121, 0, 0, 0, 128, 0, 0, 0, 135]
abbrev dktX2_whyNot_1 : List UInt8 := dkwX2_whyNot_1 ++ dktX2_whyNot_2
def dkwX2_whyNot_0 : List UInt8 := [27]
abbrev dktX2_whyNot_0 : List UInt8 := dkwX2_whyNot_0 ++ dktX2_whyNot_1
theorem dksX2_whyNot_0 : cX2_whyNot.data.toList.drop 0 = dktX2_whyNot_0 := by decide +kernel
theorem dksX2_whyNot_1 : cX2_whyNot.data.toList.drop 1 = dktX2_whyNot_1 := dk_seg dksX2_whyNot_0 1 rfl rfl
theorem dksX2_whyNot_2 : cX2_whyNot.data.toList.drop 40 = dktX2_whyNot_2 := dk_seg dksX2_whyNot_1 39 rfl rfl
theorem dksX2_whyNot_3 : cX2_whyNot.data.toList.drop 64 = dktX2_whyNot_3 := dk_seg dksX2_whyNot_2 24 rfl rfl
theorem dksX2_whyNot_4 : cX2_whyNot.data.toList.drop 88 = dktX2_whyNot_4 := dk_seg dksX2_whyNot_3 24 rfl rfl
theorem dksX2_whyNot_5 : cX2_whyNot.data.toList.drop 112 = dktX2_whyNot_5 := dk_seg dksX2_whyNot_4 24 rfl rfl
theorem dksX2_whyNot_6 : cX2_whyNot.data.toList.drop 136 = dktX2_whyNot_6 := dk_seg dksX2_whyNot_5 24 rfl rfl
theorem dksX2_whyNot_7 : cX2_whyNot.data.toList.drop 159 = dktX2_whyNot_7 := dk_seg dksX2_whyNot_6 23 rfl rfl
theorem dksX2_whyNot_8 : cX2_whyNot.data.toList.drop 183 = dktX2_whyNot_8 := dk_seg dksX2_whyNot_7 24 rfl rfl
theorem dX2_whyNot_0 : decode cX2_whyNot 0 = .ok (.iload_n 1, 1) := dk_27 (dk_at dksX2_whyNot_0 0 rfl rfl)
theorem dX2_whyNot_1 : decode cX2_whyNot 1 = .ok (.tableswitch 167 0 5 #[39, 56, 87, 121, 128, 135], 39) := by decide +kernel
theorem dX2_whyNot_40 : decode cX2_whyNot 40 = .ok (.aload_n 0, 1) := dk_42 (dk_at dksX2_whyNot_2 0 rfl rfl)
theorem dX2_whyNot_41 : decode cX2_whyNot 41 = .ok (.getfield 98, 3) := dk_180 0 98 (dk_at dksX2_whyNot_2 1 rfl rfl)
theorem dX2_whyNot_44 : decode cX2_whyNot 44 = .ok (.iload_n 3, 1) := dk_29 (dk_at dksX2_whyNot_2 4 rfl rfl)
theorem dX2_whyNot_45 : decode cX2_whyNot 45 = .ok (.iadd, 1) := dk_96 (dk_at dksX2_whyNot_2 5 rfl rfl)
theorem dX2_whyNot_46 : decode cX2_whyNot 46 = .ok (.ldc 170, 2) := dk_18 170 (dk_at dksX2_whyNot_2 6 rfl rfl)
theorem dX2_whyNot_48 : decode cX2_whyNot 48 = .ok (.if_icmp .le 7, 3) := dk_164 0 7 (dk_at dksX2_whyNot_2 8 rfl rfl)
theorem dX2_whyNot_51 : decode cX2_whyNot 51 = .ok (.iconst 5, 1) := dk_8 (dk_at dksX2_whyNot_2 11 rfl rfl)
theorem dX2_whyNot_52 : decode cX2_whyNot 52 = .ok (.goto 4, 3) := dk_167 0 4 (dk_at dksX2_whyNot_2 12 rfl rfl)
theorem dX2_whyNot_55 : decode cX2_whyNot 55 = .ok (.iconst 0, 1) := dk_3 (dk_at dksX2_whyNot_2 15 rfl rfl)
theorem dX2_whyNot_56 : decode cX2_whyNot 56 = .ok (.ireturn, 1) := dk_172 (dk_at dksX2_whyNot_2 16 rfl rfl)
theorem dX2_whyNot_57 : decode cX2_whyNot 57 = .ok (.aload_n 0, 1) := dk_42 (dk_at dksX2_whyNot_2 17 rfl rfl)
theorem dX2_whyNot_58 : decode cX2_whyNot 58 = .ok (.getfield 7, 3) := dk_180 0 7 (dk_at dksX2_whyNot_2 18 rfl rfl)
theorem dX2_whyNot_61 : decode cX2_whyNot 61 = .ok (.iload_n 2, 1) := dk_28 (dk_at dksX2_whyNot_2 21 rfl rfl)
theorem dX2_whyNot_62 : decode cX2_whyNot 62 = .ok (.iaload, 1) := dk_46 (dk_at dksX2_whyNot_2 22 rfl rfl)
theorem dX2_whyNot_63 : decode cX2_whyNot 63 = .ok (.iload_n 3, 1) := dk_29 (dk_at dksX2_whyNot_2 23 rfl rfl)
theorem dX2_whyNot_64 : decode cX2_whyNot 64 = .ok (.iadd, 1) := dk_96 (dk_at dksX2_whyNot_3 0 rfl rfl)
theorem dX2_whyNot_65 : decode cX2_whyNot 65 = .ok (.sipush 9999, 3) := dk_17 39 15 (dk_at dksX2_whyNot_3 1 rfl rfl)
theorem dX2_whyNot_68 : decode cX2_whyNot 68 = .ok (.if_icmp .gt 14, 3) := dk_163 0 14 (dk_at dksX2_whyNot_3 4 rfl rfl)
theorem dX2_whyNot_71 : decode cX2_whyNot 71 = .ok (.aload_n 0, 1) := dk_42 (dk_at dksX2_whyNot_3 7 rfl rfl)
theorem dX2_whyNot_72 : decode cX2_whyNot 72 = .ok (.getfield 102, 3) := dk_180 0 102 (dk_at dksX2_whyNot_3 8 rfl rfl)
theorem dX2_whyNot_75 : decode cX2_whyNot 75 = .ok (.iload_n 3, 1) := dk_29 (dk_at dksX2_whyNot_3 11 rfl rfl)
theorem dX2_whyNot_76 : decode cX2_whyNot 76 = .ok (.iadd, 1) := dk_96 (dk_at dksX2_whyNot_3 12 rfl rfl)
theorem dX2_whyNot_77 : decode cX2_whyNot 77 = .ok (.ldc 170, 2) := dk_18 170 (dk_at dksX2_whyNot_3 13 rfl rfl)
theorem dX2_whyNot_79 : decode cX2_whyNot 79 = .ok (.if_icmp .le 7, 3) := dk_164 0 7 (dk_at dksX2_whyNot_3 15 rfl rfl)
theorem dX2_whyNot_82 : decode cX2_whyNot 82 = .ok (.iconst 5, 1) := dk_8 (dk_at dksX2_whyNot_3 18 rfl rfl)
theorem dX2_whyNot_83 : decode cX2_whyNot 83 = .ok (.goto 4, 3) := dk_167 0 4 (dk_at dksX2_whyNot_3 19 rfl rfl)
theorem dX2_whyNot_86 : decode cX2_whyNot 86 = .ok (.iconst 0, 1) := dk_3 (dk_at dksX2_whyNot_3 22 rfl rfl)
theorem dX2_whyNot_87 : decode cX2_whyNot 87 = .ok (.ireturn, 1) := dk_172 (dk_at dksX2_whyNot_3 23 rfl rfl)
theorem dX2_whyNot_88 : decode cX2_whyNot 88 = .ok (.aload_n 0, 1) := dk_42 (dk_at dksX2_whyNot_4 0 rfl rfl)
theorem dX2_whyNot_89 : decode cX2_whyNot 89 = .ok (.getfield 22, 3) := dk_180 0 22 (dk_at dksX2_whyNot_4 1 rfl rfl)
theorem dX2_whyNot_92 : decode cX2_whyNot 92 = .ok (.iload_n 3, 1) := dk_29 (dk_at dksX2_whyNot_4 4 rfl rfl)
theorem dX2_whyNot_93 : decode cX2_whyNot 93 = .ok (.iaload, 1) := dk_46 (dk_at dksX2_whyNot_4 5 rfl rfl)
theorem dX2_whyNot_94 : decode cX2_whyNot 94 = .ok (.ifCond .lt 7, 3) := dk_155 0 7 (dk_at dksX2_whyNot_4 6 rfl rfl)
theorem dX2_whyNot_97 : decode cX2_whyNot 97 = .ok (.iconst 2, 1) := dk_5 (dk_at dksX2_whyNot_4 9 rfl rfl)
theorem dX2_whyNot_98 : decode cX2_whyNot 98 = .ok (.goto 23, 3) := dk_167 0 23 (dk_at dksX2_whyNot_4 10 rfl rfl)
theorem dX2_whyNot_101 : decode cX2_whyNot 101 = .ok (.aload_n 0, 1) := dk_42 (dk_at dksX2_whyNot_4 13 rfl rfl)
theorem dX2_whyNot_102 : decode cX2_whyNot 102 = .ok (.getfield 7, 3) := dk_180 0 7 (dk_at dksX2_whyNot_4 14 rfl rfl)
theorem dX2_whyNot_105 : decode cX2_whyNot 105 = .ok (.iload_n 2, 1) := dk_28 (dk_at dksX2_whyNot_4 17 rfl rfl)
theorem dX2_whyNot_106 : decode cX2_whyNot 106 = .ok (.iaload, 1) := dk_46 (dk_at dksX2_whyNot_4 18 rfl rfl)
theorem dX2_whyNot_107 : decode cX2_whyNot 107 = .ok (.aload_n 0, 1) := dk_42 (dk_at dksX2_whyNot_4 19 rfl rfl)
theorem dX2_whyNot_108 : decode cX2_whyNot 108 = .ok (.getfield 19, 3) := dk_180 0 19 (dk_at dksX2_whyNot_4 20 rfl rfl)
theorem dX2_whyNot_111 : decode cX2_whyNot 111 = .ok (.iload_n 3, 1) := dk_29 (dk_at dksX2_whyNot_4 23 rfl rfl)
theorem dX2_whyNot_112 : decode cX2_whyNot 112 = .ok (.iaload, 1) := dk_46 (dk_at dksX2_whyNot_5 0 rfl rfl)
theorem dX2_whyNot_113 : decode cX2_whyNot 113 = .ok (.if_icmp .ge 7, 3) := dk_162 0 7 (dk_at dksX2_whyNot_5 1 rfl rfl)
theorem dX2_whyNot_116 : decode cX2_whyNot 116 = .ok (.iconst 3, 1) := dk_6 (dk_at dksX2_whyNot_5 4 rfl rfl)
theorem dX2_whyNot_117 : decode cX2_whyNot 117 = .ok (.goto 4, 3) := dk_167 0 4 (dk_at dksX2_whyNot_5 5 rfl rfl)
theorem dX2_whyNot_120 : decode cX2_whyNot 120 = .ok (.iconst 0, 1) := dk_3 (dk_at dksX2_whyNot_5 8 rfl rfl)
theorem dX2_whyNot_121 : decode cX2_whyNot 121 = .ok (.ireturn, 1) := dk_172 (dk_at dksX2_whyNot_5 9 rfl rfl)
theorem dX2_whyNot_122 : decode cX2_whyNot 122 = .ok (.aload_n 0, 1) := dk_42 (dk_at dksX2_whyNot_5 10 rfl rfl)
theorem dX2_whyNot_123 : decode cX2_whyNot 123 = .ok (.iload_n 2, 1) := dk_28 (dk_at dksX2_whyNot_5 11 rfl rfl)
theorem dX2_whyNot_124 : decode cX2_whyNot 124 = .ok (.iload_n 3, 1) := dk_29 (dk_at dksX2_whyNot_5 12 rfl rfl)
theorem dX2_whyNot_125 : decode cX2_whyNot 125 = .ok (.invokevirtual 174, 3) := dk_182 0 174 (dk_at dksX2_whyNot_5 13 rfl rfl)
theorem dX2_whyNot_128 : decode cX2_whyNot 128 = .ok (.ireturn, 1) := dk_172 (dk_at dksX2_whyNot_5 16 rfl rfl)
theorem dX2_whyNot_129 : decode cX2_whyNot 129 = .ok (.aload_n 0, 1) := dk_42 (dk_at dksX2_whyNot_5 17 rfl rfl)
theorem dX2_whyNot_130 : decode cX2_whyNot 130 = .ok (.iload_n 2, 1) := dk_28 (dk_at dksX2_whyNot_5 18 rfl rfl)
theorem dX2_whyNot_131 : decode cX2_whyNot 131 = .ok (.iload_n 3, 1) := dk_29 (dk_at dksX2_whyNot_5 19 rfl rfl)
theorem dX2_whyNot_132 : decode cX2_whyNot 132 = .ok (.invokevirtual 177, 3) := dk_182 0 177 (dk_at dksX2_whyNot_5 20 rfl rfl)
theorem dX2_whyNot_135 : decode cX2_whyNot 135 = .ok (.ireturn, 1) := dk_172 (dk_at dksX2_whyNot_5 23 rfl rfl)
theorem dX2_whyNot_136 : decode cX2_whyNot 136 = .ok (.aload_n 0, 1) := dk_42 (dk_at dksX2_whyNot_6 0 rfl rfl)
theorem dX2_whyNot_137 : decode cX2_whyNot 137 = .ok (.getfield 98, 3) := dk_180 0 98 (dk_at dksX2_whyNot_6 1 rfl rfl)
theorem dX2_whyNot_140 : decode cX2_whyNot 140 = .ok (.iload_n 3, 1) := dk_29 (dk_at dksX2_whyNot_6 4 rfl rfl)
theorem dX2_whyNot_141 : decode cX2_whyNot 141 = .ok (.if_icmp .ge 7, 3) := dk_162 0 7 (dk_at dksX2_whyNot_6 5 rfl rfl)
theorem dX2_whyNot_144 : decode cX2_whyNot 144 = .ok (.iconst 3, 1) := dk_6 (dk_at dksX2_whyNot_6 8 rfl rfl)
theorem dX2_whyNot_145 : decode cX2_whyNot 145 = .ok (.goto 22, 3) := dk_167 0 22 (dk_at dksX2_whyNot_6 9 rfl rfl)
theorem dX2_whyNot_148 : decode cX2_whyNot 148 = .ok (.aload_n 0, 1) := dk_42 (dk_at dksX2_whyNot_6 12 rfl rfl)
theorem dX2_whyNot_149 : decode cX2_whyNot 149 = .ok (.getfield 7, 3) := dk_180 0 7 (dk_at dksX2_whyNot_6 13 rfl rfl)
theorem dX2_whyNot_152 : decode cX2_whyNot 152 = .ok (.iload_n 2, 1) := dk_28 (dk_at dksX2_whyNot_6 16 rfl rfl)
theorem dX2_whyNot_153 : decode cX2_whyNot 153 = .ok (.iaload, 1) := dk_46 (dk_at dksX2_whyNot_6 17 rfl rfl)
theorem dX2_whyNot_154 : decode cX2_whyNot 154 = .ok (.iload_n 3, 1) := dk_29 (dk_at dksX2_whyNot_6 18 rfl rfl)
theorem dX2_whyNot_155 : decode cX2_whyNot 155 = .ok (.iadd, 1) := dk_96 (dk_at dksX2_whyNot_6 19 rfl rfl)
theorem dX2_whyNot_156 : decode cX2_whyNot 156 = .ok (.sipush 9999, 3) := dk_17 39 15 (dk_at dksX2_whyNot_6 20 rfl rfl)
theorem dX2_whyNot_159 : decode cX2_whyNot 159 = .ok (.if_icmp .le 7, 3) := dk_164 0 7 (dk_at dksX2_whyNot_7 0 rfl rfl)
theorem dX2_whyNot_162 : decode cX2_whyNot 162 = .ok (.iconst 5, 1) := dk_8 (dk_at dksX2_whyNot_7 3 rfl rfl)
theorem dX2_whyNot_163 : decode cX2_whyNot 163 = .ok (.goto 4, 3) := dk_167 0 4 (dk_at dksX2_whyNot_7 4 rfl rfl)
theorem dX2_whyNot_166 : decode cX2_whyNot 166 = .ok (.iconst 0, 1) := dk_3 (dk_at dksX2_whyNot_7 7 rfl rfl)
theorem dX2_whyNot_167 : decode cX2_whyNot 167 = .ok (.ireturn, 1) := dk_172 (dk_at dksX2_whyNot_7 8 rfl rfl)
theorem dX2_whyNot_168 : decode cX2_whyNot 168 = .ok (.aload_n 0, 1) := dk_42 (dk_at dksX2_whyNot_7 9 rfl rfl)
theorem dX2_whyNot_169 : decode cX2_whyNot 169 = .ok (.getfield 180, 3) := dk_180 0 180 (dk_at dksX2_whyNot_7 10 rfl rfl)
theorem dX2_whyNot_172 : decode cX2_whyNot 172 = .ok (.bipush 99, 2) := dk_16 99 (dk_at dksX2_whyNot_7 13 rfl rfl)
theorem dX2_whyNot_174 : decode cX2_whyNot 174 = .ok (.if_icmp .ne 8, 3) := dk_160 0 8 (dk_at dksX2_whyNot_7 15 rfl rfl)
theorem dX2_whyNot_177 : decode cX2_whyNot 177 = .ok (.bipush 6, 2) := dk_16 6 (dk_at dksX2_whyNot_7 18 rfl rfl)
theorem dX2_whyNot_179 : decode cX2_whyNot 179 = .ok (.goto 4, 3) := dk_167 0 4 (dk_at dksX2_whyNot_7 20 rfl rfl)
theorem dX2_whyNot_182 : decode cX2_whyNot 182 = .ok (.iconst 0, 1) := dk_3 (dk_at dksX2_whyNot_7 23 rfl rfl)
theorem dX2_whyNot_183 : decode cX2_whyNot 183 = .ok (.ireturn, 1) := dk_172 (dk_at dksX2_whyNot_8 0 rfl rfl)
abbrev cX2_whyNotChange : ByteArray := prog_4_method_26_code
def yX2_whyNotChange : MethodName := ⟨RX2, "whyNotChange", "(II)I"⟩
def dkwX2_whyNotChange_1 : List UInt8 := [17, 39, 15, 163, 0, 14, 42, 180, 0, 98, 28, 96, 18, 170, 164, 0, 7, 8, 167, 0, 4, 3, 172]
abbrev dktX2_whyNotChange_1 : List UInt8 := dkwX2_whyNotChange_1 ++ []
def dkwX2_whyNotChange_0 : List UInt8 := [42, 180, 0, 7, 27, 46, 28, 162, 0, 5, 6, 172, 42, 180, 0, 13, 27, 46, 42, 28, 182, 0, 167, 96]
abbrev dktX2_whyNotChange_0 : List UInt8 := dkwX2_whyNotChange_0 ++ dktX2_whyNotChange_1
theorem dksX2_whyNotChange_0 : cX2_whyNotChange.data.toList.drop 0 = dktX2_whyNotChange_0 := by decide +kernel
theorem dksX2_whyNotChange_1 : cX2_whyNotChange.data.toList.drop 24 = dktX2_whyNotChange_1 := dk_seg dksX2_whyNotChange_0 24 rfl rfl
theorem dX2_whyNotChange_0 : decode cX2_whyNotChange 0 = .ok (.aload_n 0, 1) := dk_42 (dk_at dksX2_whyNotChange_0 0 rfl rfl)
theorem dX2_whyNotChange_1 : decode cX2_whyNotChange 1 = .ok (.getfield 7, 3) := dk_180 0 7 (dk_at dksX2_whyNotChange_0 1 rfl rfl)
theorem dX2_whyNotChange_4 : decode cX2_whyNotChange 4 = .ok (.iload_n 1, 1) := dk_27 (dk_at dksX2_whyNotChange_0 4 rfl rfl)
theorem dX2_whyNotChange_5 : decode cX2_whyNotChange 5 = .ok (.iaload, 1) := dk_46 (dk_at dksX2_whyNotChange_0 5 rfl rfl)
theorem dX2_whyNotChange_6 : decode cX2_whyNotChange 6 = .ok (.iload_n 2, 1) := dk_28 (dk_at dksX2_whyNotChange_0 6 rfl rfl)
theorem dX2_whyNotChange_7 : decode cX2_whyNotChange 7 = .ok (.if_icmp .ge 5, 3) := dk_162 0 5 (dk_at dksX2_whyNotChange_0 7 rfl rfl)
theorem dX2_whyNotChange_10 : decode cX2_whyNotChange 10 = .ok (.iconst 3, 1) := dk_6 (dk_at dksX2_whyNotChange_0 10 rfl rfl)
theorem dX2_whyNotChange_11 : decode cX2_whyNotChange 11 = .ok (.ireturn, 1) := dk_172 (dk_at dksX2_whyNotChange_0 11 rfl rfl)
theorem dX2_whyNotChange_12 : decode cX2_whyNotChange 12 = .ok (.aload_n 0, 1) := dk_42 (dk_at dksX2_whyNotChange_0 12 rfl rfl)
theorem dX2_whyNotChange_13 : decode cX2_whyNotChange 13 = .ok (.getfield 13, 3) := dk_180 0 13 (dk_at dksX2_whyNotChange_0 13 rfl rfl)
theorem dX2_whyNotChange_16 : decode cX2_whyNotChange 16 = .ok (.iload_n 1, 1) := dk_27 (dk_at dksX2_whyNotChange_0 16 rfl rfl)
theorem dX2_whyNotChange_17 : decode cX2_whyNotChange 17 = .ok (.iaload, 1) := dk_46 (dk_at dksX2_whyNotChange_0 17 rfl rfl)
theorem dX2_whyNotChange_18 : decode cX2_whyNotChange 18 = .ok (.aload_n 0, 1) := dk_42 (dk_at dksX2_whyNotChange_0 18 rfl rfl)
theorem dX2_whyNotChange_19 : decode cX2_whyNotChange 19 = .ok (.iload_n 2, 1) := dk_28 (dk_at dksX2_whyNotChange_0 19 rfl rfl)
theorem dX2_whyNotChange_20 : decode cX2_whyNotChange 20 = .ok (.invokevirtual 167, 3) := dk_182 0 167 (dk_at dksX2_whyNotChange_0 20 rfl rfl)
theorem dX2_whyNotChange_23 : decode cX2_whyNotChange 23 = .ok (.iadd, 1) := dk_96 (dk_at dksX2_whyNotChange_0 23 rfl rfl)
theorem dX2_whyNotChange_24 : decode cX2_whyNotChange 24 = .ok (.sipush 9999, 3) := dk_17 39 15 (dk_at dksX2_whyNotChange_1 0 rfl rfl)
theorem dX2_whyNotChange_27 : decode cX2_whyNotChange 27 = .ok (.if_icmp .gt 14, 3) := dk_163 0 14 (dk_at dksX2_whyNotChange_1 3 rfl rfl)
theorem dX2_whyNotChange_30 : decode cX2_whyNotChange 30 = .ok (.aload_n 0, 1) := dk_42 (dk_at dksX2_whyNotChange_1 6 rfl rfl)
theorem dX2_whyNotChange_31 : decode cX2_whyNotChange 31 = .ok (.getfield 98, 3) := dk_180 0 98 (dk_at dksX2_whyNotChange_1 7 rfl rfl)
theorem dX2_whyNotChange_34 : decode cX2_whyNotChange 34 = .ok (.iload_n 2, 1) := dk_28 (dk_at dksX2_whyNotChange_1 10 rfl rfl)
theorem dX2_whyNotChange_35 : decode cX2_whyNotChange 35 = .ok (.iadd, 1) := dk_96 (dk_at dksX2_whyNotChange_1 11 rfl rfl)
theorem dX2_whyNotChange_36 : decode cX2_whyNotChange 36 = .ok (.ldc 170, 2) := dk_18 170 (dk_at dksX2_whyNotChange_1 12 rfl rfl)
theorem dX2_whyNotChange_38 : decode cX2_whyNotChange 38 = .ok (.if_icmp .le 7, 3) := dk_164 0 7 (dk_at dksX2_whyNotChange_1 14 rfl rfl)
theorem dX2_whyNotChange_41 : decode cX2_whyNotChange 41 = .ok (.iconst 5, 1) := dk_8 (dk_at dksX2_whyNotChange_1 17 rfl rfl)
theorem dX2_whyNotChange_42 : decode cX2_whyNotChange 42 = .ok (.goto 4, 3) := dk_167 0 4 (dk_at dksX2_whyNotChange_1 18 rfl rfl)
theorem dX2_whyNotChange_45 : decode cX2_whyNotChange 45 = .ok (.iconst 0, 1) := dk_3 (dk_at dksX2_whyNotChange_1 21 rfl rfl)
theorem dX2_whyNotChange_46 : decode cX2_whyNotChange 46 = .ok (.ireturn, 1) := dk_172 (dk_at dksX2_whyNotChange_1 22 rfl rfl)
abbrev cX2_worth : ByteArray := prog_4_method_24_code
def yX2_worth : MethodName := ⟨RX2, "worth", "(I)I"⟩
def dkwX2_worth_0 : List UInt8 := [27, 42, 182, 0, 164, 104, 16, 100, 108, 172]
abbrev dktX2_worth_0 : List UInt8 := dkwX2_worth_0 ++ []
theorem dksX2_worth_0 : cX2_worth.data.toList.drop 0 = dktX2_worth_0 := by decide +kernel
theorem dX2_worth_0 : decode cX2_worth 0 = .ok (.iload_n 1, 1) := dk_27 (dk_at dksX2_worth_0 0 rfl rfl)
theorem dX2_worth_1 : decode cX2_worth 1 = .ok (.aload_n 0, 1) := dk_42 (dk_at dksX2_worth_0 1 rfl rfl)
theorem dX2_worth_2 : decode cX2_worth 2 = .ok (.invokevirtual 164, 3) := dk_182 0 164 (dk_at dksX2_worth_0 2 rfl rfl)
theorem dX2_worth_5 : decode cX2_worth 5 = .ok (.imul, 1) := dk_104 (dk_at dksX2_worth_0 5 rfl rfl)
theorem dX2_worth_6 : decode cX2_worth 6 = .ok (.bipush 100, 2) := dk_16 100 (dk_at dksX2_worth_0 6 rfl rfl)
theorem dX2_worth_8 : decode cX2_worth 8 = .ok (.idiv, 1) := dk_108 (dk_at dksX2_worth_0 8 rfl rfl)
theorem dX2_worth_9 : decode cX2_worth 9 = .ok (.ireturn, 1) := dk_172 (dk_at dksX2_worth_0 9 rfl rfl)
abbrev cX2_rate : ByteArray := prog_4_method_23_code
def yX2_rate : MethodName := ⟨RX2, "rate", "()I"⟩
def dkwX2_rate_0 : List UInt8 := [42, 182, 0, 153, 42, 182, 0, 157, 133, 184, 0, 160, 172]
abbrev dktX2_rate_0 : List UInt8 := dkwX2_rate_0 ++ []
theorem dksX2_rate_0 : cX2_rate.data.toList.drop 0 = dktX2_rate_0 := by decide +kernel
theorem dX2_rate_0 : decode cX2_rate 0 = .ok (.aload_n 0, 1) := dk_42 (dk_at dksX2_rate_0 0 rfl rfl)
theorem dX2_rate_1 : decode cX2_rate 1 = .ok (.invokevirtual 153, 3) := dk_182 0 153 (dk_at dksX2_rate_0 1 rfl rfl)
theorem dX2_rate_4 : decode cX2_rate 4 = .ok (.aload_n 0, 1) := dk_42 (dk_at dksX2_rate_0 4 rfl rfl)
theorem dX2_rate_5 : decode cX2_rate 5 = .ok (.invokevirtual 157, 3) := dk_182 0 157 (dk_at dksX2_rate_0 5 rfl rfl)
theorem dX2_rate_8 : decode cX2_rate 8 = .ok (.i2l, 1) := dk_133 (dk_at dksX2_rate_0 8 rfl rfl)
theorem dX2_rate_9 : decode cX2_rate 9 = .ok (.invokestatic 160, 3) := dk_184 0 160 (dk_at dksX2_rate_0 9 rfl rfl)
theorem dX2_rate_12 : decode cX2_rate 12 = .ok (.ireturn, 1) := dk_172 (dk_at dksX2_rate_0 12 rfl rfl)
abbrev cX2_land : ByteArray := prog_4_method_21_code
def yX2_land : MethodName := ⟨RX2, "land", "()I"⟩
def dkwX2_land_1 : List UInt8 := [28, 46, 167, 0, 4, 3, 96, 60, 132, 2, 1, 167, 255, 225, 27, 172]
abbrev dktX2_land_1 : List UInt8 := dkwX2_land_1 ++ []
def dkwX2_land_0 : List UInt8 := [3, 60, 3, 61, 28, 16, 8, 162, 0, 31, 27, 42, 180, 0, 22, 28, 46, 156, 0, 12, 42, 180, 0, 19]
abbrev dktX2_land_0 : List UInt8 := dkwX2_land_0 ++ dktX2_land_1
theorem dksX2_land_0 : cX2_land.data.toList.drop 0 = dktX2_land_0 := by decide +kernel
theorem dksX2_land_1 : cX2_land.data.toList.drop 24 = dktX2_land_1 := dk_seg dksX2_land_0 24 rfl rfl
theorem dX2_land_0 : decode cX2_land 0 = .ok (.iconst 0, 1) := dk_3 (dk_at dksX2_land_0 0 rfl rfl)
theorem dX2_land_1 : decode cX2_land 1 = .ok (.istore_n 1, 1) := dk_60 (dk_at dksX2_land_0 1 rfl rfl)
theorem dX2_land_2 : decode cX2_land 2 = .ok (.iconst 0, 1) := dk_3 (dk_at dksX2_land_0 2 rfl rfl)
theorem dX2_land_3 : decode cX2_land 3 = .ok (.istore_n 2, 1) := dk_61 (dk_at dksX2_land_0 3 rfl rfl)
theorem dX2_land_4 : decode cX2_land 4 = .ok (.iload_n 2, 1) := dk_28 (dk_at dksX2_land_0 4 rfl rfl)
theorem dX2_land_5 : decode cX2_land 5 = .ok (.bipush 8, 2) := dk_16 8 (dk_at dksX2_land_0 5 rfl rfl)
theorem dX2_land_7 : decode cX2_land 7 = .ok (.if_icmp .ge 31, 3) := dk_162 0 31 (dk_at dksX2_land_0 7 rfl rfl)
theorem dX2_land_10 : decode cX2_land 10 = .ok (.iload_n 1, 1) := dk_27 (dk_at dksX2_land_0 10 rfl rfl)
theorem dX2_land_11 : decode cX2_land 11 = .ok (.aload_n 0, 1) := dk_42 (dk_at dksX2_land_0 11 rfl rfl)
theorem dX2_land_12 : decode cX2_land 12 = .ok (.getfield 22, 3) := dk_180 0 22 (dk_at dksX2_land_0 12 rfl rfl)
theorem dX2_land_15 : decode cX2_land 15 = .ok (.iload_n 2, 1) := dk_28 (dk_at dksX2_land_0 15 rfl rfl)
theorem dX2_land_16 : decode cX2_land 16 = .ok (.iaload, 1) := dk_46 (dk_at dksX2_land_0 16 rfl rfl)
theorem dX2_land_17 : decode cX2_land 17 = .ok (.ifCond .ge 12, 3) := dk_156 0 12 (dk_at dksX2_land_0 17 rfl rfl)
theorem dX2_land_20 : decode cX2_land 20 = .ok (.aload_n 0, 1) := dk_42 (dk_at dksX2_land_0 20 rfl rfl)
theorem dX2_land_21 : decode cX2_land 21 = .ok (.getfield 19, 3) := dk_180 0 19 (dk_at dksX2_land_0 21 rfl rfl)
theorem dX2_land_24 : decode cX2_land 24 = .ok (.iload_n 2, 1) := dk_28 (dk_at dksX2_land_1 0 rfl rfl)
theorem dX2_land_25 : decode cX2_land 25 = .ok (.iaload, 1) := dk_46 (dk_at dksX2_land_1 1 rfl rfl)
theorem dX2_land_26 : decode cX2_land 26 = .ok (.goto 4, 3) := dk_167 0 4 (dk_at dksX2_land_1 2 rfl rfl)
theorem dX2_land_29 : decode cX2_land 29 = .ok (.iconst 0, 1) := dk_3 (dk_at dksX2_land_1 5 rfl rfl)
theorem dX2_land_30 : decode cX2_land 30 = .ok (.iadd, 1) := dk_96 (dk_at dksX2_land_1 6 rfl rfl)
theorem dX2_land_31 : decode cX2_land 31 = .ok (.istore_n 1, 1) := dk_60 (dk_at dksX2_land_1 7 rfl rfl)
theorem dX2_land_32 : decode cX2_land 32 = .ok (.iinc 2 1, 3) := dk_132 2 1 (dk_at dksX2_land_1 8 rfl rfl)
theorem dX2_land_35 : decode cX2_land 35 = .ok (.goto (-31), 3) := dk_167 255 225 (dk_at dksX2_land_1 11 rfl rfl)
theorem dX2_land_38 : decode cX2_land 38 = .ok (.iload_n 1, 1) := dk_27 (dk_at dksX2_land_1 14 rfl rfl)
theorem dX2_land_39 : decode cX2_land 39 = .ok (.ireturn, 1) := dk_172 (dk_at dksX2_land_1 15 rfl rfl)
abbrev cX2_notes : ByteArray := prog_4_method_20_code
def yX2_notes : MethodName := ⟨RX2, "notes", "()I"⟩
def dkwX2_notes_1 : List UInt8 := [132, 2, 1, 167, 255, 238, 27, 172]
abbrev dktX2_notes_1 : List UInt8 := dkwX2_notes_1 ++ []
def dkwX2_notes_0 : List UInt8 := [42, 180, 0, 98, 60, 3, 61, 28, 16, 6, 162, 0, 18, 27, 42, 180, 0, 7, 28, 46, 96, 60]
abbrev dktX2_notes_0 : List UInt8 := dkwX2_notes_0 ++ dktX2_notes_1
theorem dksX2_notes_0 : cX2_notes.data.toList.drop 0 = dktX2_notes_0 := by decide +kernel
theorem dksX2_notes_1 : cX2_notes.data.toList.drop 22 = dktX2_notes_1 := dk_seg dksX2_notes_0 22 rfl rfl
theorem dX2_notes_0 : decode cX2_notes 0 = .ok (.aload_n 0, 1) := dk_42 (dk_at dksX2_notes_0 0 rfl rfl)
theorem dX2_notes_1 : decode cX2_notes 1 = .ok (.getfield 98, 3) := dk_180 0 98 (dk_at dksX2_notes_0 1 rfl rfl)
theorem dX2_notes_4 : decode cX2_notes 4 = .ok (.istore_n 1, 1) := dk_60 (dk_at dksX2_notes_0 4 rfl rfl)
theorem dX2_notes_5 : decode cX2_notes 5 = .ok (.iconst 0, 1) := dk_3 (dk_at dksX2_notes_0 5 rfl rfl)
theorem dX2_notes_6 : decode cX2_notes 6 = .ok (.istore_n 2, 1) := dk_61 (dk_at dksX2_notes_0 6 rfl rfl)
theorem dX2_notes_7 : decode cX2_notes 7 = .ok (.iload_n 2, 1) := dk_28 (dk_at dksX2_notes_0 7 rfl rfl)
theorem dX2_notes_8 : decode cX2_notes 8 = .ok (.bipush 6, 2) := dk_16 6 (dk_at dksX2_notes_0 8 rfl rfl)
theorem dX2_notes_10 : decode cX2_notes 10 = .ok (.if_icmp .ge 18, 3) := dk_162 0 18 (dk_at dksX2_notes_0 10 rfl rfl)
theorem dX2_notes_13 : decode cX2_notes 13 = .ok (.iload_n 1, 1) := dk_27 (dk_at dksX2_notes_0 13 rfl rfl)
theorem dX2_notes_14 : decode cX2_notes 14 = .ok (.aload_n 0, 1) := dk_42 (dk_at dksX2_notes_0 14 rfl rfl)
theorem dX2_notes_15 : decode cX2_notes 15 = .ok (.getfield 7, 3) := dk_180 0 7 (dk_at dksX2_notes_0 15 rfl rfl)
theorem dX2_notes_18 : decode cX2_notes 18 = .ok (.iload_n 2, 1) := dk_28 (dk_at dksX2_notes_0 18 rfl rfl)
theorem dX2_notes_19 : decode cX2_notes 19 = .ok (.iaload, 1) := dk_46 (dk_at dksX2_notes_0 19 rfl rfl)
theorem dX2_notes_20 : decode cX2_notes 20 = .ok (.iadd, 1) := dk_96 (dk_at dksX2_notes_0 20 rfl rfl)
theorem dX2_notes_21 : decode cX2_notes 21 = .ok (.istore_n 1, 1) := dk_60 (dk_at dksX2_notes_0 21 rfl rfl)
theorem dX2_notes_22 : decode cX2_notes 22 = .ok (.iinc 2 1, 3) := dk_132 2 1 (dk_at dksX2_notes_1 0 rfl rfl)
theorem dX2_notes_25 : decode cX2_notes 25 = .ok (.goto (-18), 3) := dk_167 255 238 (dk_at dksX2_notes_1 3 rfl rfl)
theorem dX2_notes_28 : decode cX2_notes 28 = .ok (.iload_n 1, 1) := dk_27 (dk_at dksX2_notes_1 6 rfl rfl)
theorem dX2_notes_29 : decode cX2_notes 29 = .ok (.ireturn, 1) := dk_172 (dk_at dksX2_notes_1 7 rfl rfl)
abbrev cX2_rateOf : ByteArray := prog_4_method_22_code
def yX2_rateOf : MethodName := ⟨RX2, "rateOf", "(IJ)I"⟩
def dkwX2_rateOf_1 : List UInt8 := [20, 0, 151, 148, 158, 0, 8, 16, 100, 167, 0, 5, 33, 136, 172]
abbrev dktX2_rateOf_1 : List UInt8 := dkwX2_rateOf_1 ++ []
def dkwX2_rateOf_0 : List UInt8 := [31, 9, 148, 154, 0, 9, 20, 0, 151, 167, 0, 11, 20, 0, 151, 26, 133, 105, 31, 109, 66, 33]
abbrev dktX2_rateOf_0 : List UInt8 := dkwX2_rateOf_0 ++ dktX2_rateOf_1
theorem dksX2_rateOf_0 : cX2_rateOf.data.toList.drop 0 = dktX2_rateOf_0 := by decide +kernel
theorem dksX2_rateOf_1 : cX2_rateOf.data.toList.drop 22 = dktX2_rateOf_1 := dk_seg dksX2_rateOf_0 22 rfl rfl
theorem dX2_rateOf_0 : decode cX2_rateOf 0 = .ok (.lload_n 1, 1) := dk_31 (dk_at dksX2_rateOf_0 0 rfl rfl)
theorem dX2_rateOf_1 : decode cX2_rateOf 1 = .ok (.lconst 0, 1) := dk_9 (dk_at dksX2_rateOf_0 1 rfl rfl)
theorem dX2_rateOf_2 : decode cX2_rateOf 2 = .ok (.lcmp, 1) := dk_148 (dk_at dksX2_rateOf_0 2 rfl rfl)
theorem dX2_rateOf_3 : decode cX2_rateOf 3 = .ok (.ifCond .ne 9, 3) := dk_154 0 9 (dk_at dksX2_rateOf_0 3 rfl rfl)
theorem dX2_rateOf_6 : decode cX2_rateOf 6 = .ok (.ldc2_w 151, 3) := dk_20 0 151 (dk_at dksX2_rateOf_0 6 rfl rfl)
theorem dX2_rateOf_9 : decode cX2_rateOf 9 = .ok (.goto 11, 3) := dk_167 0 11 (dk_at dksX2_rateOf_0 9 rfl rfl)
theorem dX2_rateOf_12 : decode cX2_rateOf 12 = .ok (.ldc2_w 151, 3) := dk_20 0 151 (dk_at dksX2_rateOf_0 12 rfl rfl)
theorem dX2_rateOf_15 : decode cX2_rateOf 15 = .ok (.iload_n 0, 1) := dk_26 (dk_at dksX2_rateOf_0 15 rfl rfl)
theorem dX2_rateOf_16 : decode cX2_rateOf 16 = .ok (.i2l, 1) := dk_133 (dk_at dksX2_rateOf_0 16 rfl rfl)
theorem dX2_rateOf_17 : decode cX2_rateOf 17 = .ok (.lmul, 1) := dk_105 (dk_at dksX2_rateOf_0 17 rfl rfl)
theorem dX2_rateOf_18 : decode cX2_rateOf 18 = .ok (.lload_n 1, 1) := dk_31 (dk_at dksX2_rateOf_0 18 rfl rfl)
theorem dX2_rateOf_19 : decode cX2_rateOf 19 = .ok (.ldiv, 1) := dk_109 (dk_at dksX2_rateOf_0 19 rfl rfl)
theorem dX2_rateOf_20 : decode cX2_rateOf 20 = .ok (.lstore_n 3, 1) := dk_66 (dk_at dksX2_rateOf_0 20 rfl rfl)
theorem dX2_rateOf_21 : decode cX2_rateOf 21 = .ok (.lload_n 3, 1) := dk_33 (dk_at dksX2_rateOf_0 21 rfl rfl)
theorem dX2_rateOf_22 : decode cX2_rateOf 22 = .ok (.ldc2_w 151, 3) := dk_20 0 151 (dk_at dksX2_rateOf_1 0 rfl rfl)
theorem dX2_rateOf_25 : decode cX2_rateOf 25 = .ok (.lcmp, 1) := dk_148 (dk_at dksX2_rateOf_1 3 rfl rfl)
theorem dX2_rateOf_26 : decode cX2_rateOf 26 = .ok (.ifCond .le 8, 3) := dk_158 0 8 (dk_at dksX2_rateOf_1 4 rfl rfl)
theorem dX2_rateOf_29 : decode cX2_rateOf 29 = .ok (.bipush 100, 2) := dk_16 100 (dk_at dksX2_rateOf_1 7 rfl rfl)
theorem dX2_rateOf_31 : decode cX2_rateOf 31 = .ok (.goto 5, 3) := dk_167 0 5 (dk_at dksX2_rateOf_1 9 rfl rfl)
theorem dX2_rateOf_34 : decode cX2_rateOf 34 = .ok (.lload_n 3, 1) := dk_33 (dk_at dksX2_rateOf_1 12 rfl rfl)
theorem dX2_rateOf_35 : decode cX2_rateOf 35 = .ok (.l2i, 1) := dk_136 (dk_at dksX2_rateOf_1 13 rfl rfl)
theorem dX2_rateOf_36 : decode cX2_rateOf 36 = .ok (.ireturn, 1) := dk_172 (dk_at dksX2_rateOf_1 14 rfl rfl)
abbrev cX2_whyNotPay : ByteArray := prog_4_method_27_code
def yX2_whyNotPay : MethodName := ⟨RX2, "whyNotPay", "(II)I"⟩
def dkwX2_whyNotPay_1 : List UInt8 := [180, 0, 7, 28, 46, 29, 96, 17, 39, 15, 164, 0, 7, 8, 167, 0, 4, 3, 172]
abbrev dktX2_whyNotPay_1 : List UInt8 := dkwX2_whyNotPay_1 ++ []
def dkwX2_whyNotPay_0 : List UInt8 := [27, 28, 160, 0, 5, 4, 172, 42, 27, 28, 182, 0, 171, 62, 29, 154, 0, 7, 7, 167, 0, 22, 42]
abbrev dktX2_whyNotPay_0 : List UInt8 := dkwX2_whyNotPay_0 ++ dktX2_whyNotPay_1
theorem dksX2_whyNotPay_0 : cX2_whyNotPay.data.toList.drop 0 = dktX2_whyNotPay_0 := by decide +kernel
theorem dksX2_whyNotPay_1 : cX2_whyNotPay.data.toList.drop 23 = dktX2_whyNotPay_1 := dk_seg dksX2_whyNotPay_0 23 rfl rfl
theorem dX2_whyNotPay_0 : decode cX2_whyNotPay 0 = .ok (.iload_n 1, 1) := dk_27 (dk_at dksX2_whyNotPay_0 0 rfl rfl)
theorem dX2_whyNotPay_1 : decode cX2_whyNotPay 1 = .ok (.iload_n 2, 1) := dk_28 (dk_at dksX2_whyNotPay_0 1 rfl rfl)
theorem dX2_whyNotPay_2 : decode cX2_whyNotPay 2 = .ok (.if_icmp .ne 5, 3) := dk_160 0 5 (dk_at dksX2_whyNotPay_0 2 rfl rfl)
theorem dX2_whyNotPay_5 : decode cX2_whyNotPay 5 = .ok (.iconst 1, 1) := dk_4 (dk_at dksX2_whyNotPay_0 5 rfl rfl)
theorem dX2_whyNotPay_6 : decode cX2_whyNotPay 6 = .ok (.ireturn, 1) := dk_172 (dk_at dksX2_whyNotPay_0 6 rfl rfl)
theorem dX2_whyNotPay_7 : decode cX2_whyNotPay 7 = .ok (.aload_n 0, 1) := dk_42 (dk_at dksX2_whyNotPay_0 7 rfl rfl)
theorem dX2_whyNotPay_8 : decode cX2_whyNotPay 8 = .ok (.iload_n 1, 1) := dk_27 (dk_at dksX2_whyNotPay_0 8 rfl rfl)
theorem dX2_whyNotPay_9 : decode cX2_whyNotPay 9 = .ok (.iload_n 2, 1) := dk_28 (dk_at dksX2_whyNotPay_0 9 rfl rfl)
theorem dX2_whyNotPay_10 : decode cX2_whyNotPay 10 = .ok (.invokevirtual 171, 3) := dk_182 0 171 (dk_at dksX2_whyNotPay_0 10 rfl rfl)
theorem dX2_whyNotPay_13 : decode cX2_whyNotPay 13 = .ok (.istore_n 3, 1) := dk_62 (dk_at dksX2_whyNotPay_0 13 rfl rfl)
theorem dX2_whyNotPay_14 : decode cX2_whyNotPay 14 = .ok (.iload_n 3, 1) := dk_29 (dk_at dksX2_whyNotPay_0 14 rfl rfl)
theorem dX2_whyNotPay_15 : decode cX2_whyNotPay 15 = .ok (.ifCond .ne 7, 3) := dk_154 0 7 (dk_at dksX2_whyNotPay_0 15 rfl rfl)
theorem dX2_whyNotPay_18 : decode cX2_whyNotPay 18 = .ok (.iconst 4, 1) := dk_7 (dk_at dksX2_whyNotPay_0 18 rfl rfl)
theorem dX2_whyNotPay_19 : decode cX2_whyNotPay 19 = .ok (.goto 22, 3) := dk_167 0 22 (dk_at dksX2_whyNotPay_0 19 rfl rfl)
theorem dX2_whyNotPay_22 : decode cX2_whyNotPay 22 = .ok (.aload_n 0, 1) := dk_42 (dk_at dksX2_whyNotPay_0 22 rfl rfl)
theorem dX2_whyNotPay_23 : decode cX2_whyNotPay 23 = .ok (.getfield 7, 3) := dk_180 0 7 (dk_at dksX2_whyNotPay_1 0 rfl rfl)
theorem dX2_whyNotPay_26 : decode cX2_whyNotPay 26 = .ok (.iload_n 2, 1) := dk_28 (dk_at dksX2_whyNotPay_1 3 rfl rfl)
theorem dX2_whyNotPay_27 : decode cX2_whyNotPay 27 = .ok (.iaload, 1) := dk_46 (dk_at dksX2_whyNotPay_1 4 rfl rfl)
theorem dX2_whyNotPay_28 : decode cX2_whyNotPay 28 = .ok (.iload_n 3, 1) := dk_29 (dk_at dksX2_whyNotPay_1 5 rfl rfl)
theorem dX2_whyNotPay_29 : decode cX2_whyNotPay 29 = .ok (.iadd, 1) := dk_96 (dk_at dksX2_whyNotPay_1 6 rfl rfl)
theorem dX2_whyNotPay_30 : decode cX2_whyNotPay 30 = .ok (.sipush 9999, 3) := dk_17 39 15 (dk_at dksX2_whyNotPay_1 7 rfl rfl)
theorem dX2_whyNotPay_33 : decode cX2_whyNotPay 33 = .ok (.if_icmp .le 7, 3) := dk_164 0 7 (dk_at dksX2_whyNotPay_1 10 rfl rfl)
theorem dX2_whyNotPay_36 : decode cX2_whyNotPay 36 = .ok (.iconst 5, 1) := dk_8 (dk_at dksX2_whyNotPay_1 13 rfl rfl)
theorem dX2_whyNotPay_37 : decode cX2_whyNotPay 37 = .ok (.goto 4, 3) := dk_167 0 4 (dk_at dksX2_whyNotPay_1 14 rfl rfl)
theorem dX2_whyNotPay_40 : decode cX2_whyNotPay 40 = .ok (.iconst 0, 1) := dk_3 (dk_at dksX2_whyNotPay_1 17 rfl rfl)
theorem dX2_whyNotPay_41 : decode cX2_whyNotPay 41 = .ok (.ireturn, 1) := dk_172 (dk_at dksX2_whyNotPay_1 18 rfl rfl)
abbrev cX2_payment : ByteArray := prog_4_method_25_code
def yX2_payment : MethodName := ⟨RX2, "payment", "(II)I"⟩
def dkwX2_payment_1 : List UInt8 := [167, 0, 9, 42, 180, 0, 7, 27, 46, 172]
abbrev dktX2_payment_1 : List UInt8 := dkwX2_payment_1 ++ []
def dkwX2_payment_0 : List UInt8 := [42, 180, 0, 16, 16, 6, 27, 104, 28, 96, 46, 62, 29, 42, 180, 0, 7, 27, 46, 162, 0, 7, 29]
abbrev dktX2_payment_0 : List UInt8 := dkwX2_payment_0 ++ dktX2_payment_1
theorem dksX2_payment_0 : cX2_payment.data.toList.drop 0 = dktX2_payment_0 := by decide +kernel
theorem dksX2_payment_1 : cX2_payment.data.toList.drop 23 = dktX2_payment_1 := dk_seg dksX2_payment_0 23 rfl rfl
theorem dX2_payment_0 : decode cX2_payment 0 = .ok (.aload_n 0, 1) := dk_42 (dk_at dksX2_payment_0 0 rfl rfl)
theorem dX2_payment_1 : decode cX2_payment 1 = .ok (.getfield 16, 3) := dk_180 0 16 (dk_at dksX2_payment_0 1 rfl rfl)
theorem dX2_payment_4 : decode cX2_payment 4 = .ok (.bipush 6, 2) := dk_16 6 (dk_at dksX2_payment_0 4 rfl rfl)
theorem dX2_payment_6 : decode cX2_payment 6 = .ok (.iload_n 1, 1) := dk_27 (dk_at dksX2_payment_0 6 rfl rfl)
theorem dX2_payment_7 : decode cX2_payment 7 = .ok (.imul, 1) := dk_104 (dk_at dksX2_payment_0 7 rfl rfl)
theorem dX2_payment_8 : decode cX2_payment 8 = .ok (.iload_n 2, 1) := dk_28 (dk_at dksX2_payment_0 8 rfl rfl)
theorem dX2_payment_9 : decode cX2_payment 9 = .ok (.iadd, 1) := dk_96 (dk_at dksX2_payment_0 9 rfl rfl)
theorem dX2_payment_10 : decode cX2_payment 10 = .ok (.iaload, 1) := dk_46 (dk_at dksX2_payment_0 10 rfl rfl)
theorem dX2_payment_11 : decode cX2_payment 11 = .ok (.istore_n 3, 1) := dk_62 (dk_at dksX2_payment_0 11 rfl rfl)
theorem dX2_payment_12 : decode cX2_payment 12 = .ok (.iload_n 3, 1) := dk_29 (dk_at dksX2_payment_0 12 rfl rfl)
theorem dX2_payment_13 : decode cX2_payment 13 = .ok (.aload_n 0, 1) := dk_42 (dk_at dksX2_payment_0 13 rfl rfl)
theorem dX2_payment_14 : decode cX2_payment 14 = .ok (.getfield 7, 3) := dk_180 0 7 (dk_at dksX2_payment_0 14 rfl rfl)
theorem dX2_payment_17 : decode cX2_payment 17 = .ok (.iload_n 1, 1) := dk_27 (dk_at dksX2_payment_0 17 rfl rfl)
theorem dX2_payment_18 : decode cX2_payment 18 = .ok (.iaload, 1) := dk_46 (dk_at dksX2_payment_0 18 rfl rfl)
theorem dX2_payment_19 : decode cX2_payment 19 = .ok (.if_icmp .ge 7, 3) := dk_162 0 7 (dk_at dksX2_payment_0 19 rfl rfl)
theorem dX2_payment_22 : decode cX2_payment 22 = .ok (.iload_n 3, 1) := dk_29 (dk_at dksX2_payment_0 22 rfl rfl)
theorem dX2_payment_23 : decode cX2_payment 23 = .ok (.goto 9, 3) := dk_167 0 9 (dk_at dksX2_payment_1 0 rfl rfl)
theorem dX2_payment_26 : decode cX2_payment 26 = .ok (.aload_n 0, 1) := dk_42 (dk_at dksX2_payment_1 3 rfl rfl)
theorem dX2_payment_27 : decode cX2_payment 27 = .ok (.getfield 7, 3) := dk_180 0 7 (dk_at dksX2_payment_1 4 rfl rfl)
theorem dX2_payment_30 : decode cX2_payment 30 = .ok (.iload_n 1, 1) := dk_27 (dk_at dksX2_payment_1 7 rfl rfl)
theorem dX2_payment_31 : decode cX2_payment 31 = .ok (.iaload, 1) := dk_46 (dk_at dksX2_payment_1 8 rfl rfl)
theorem dX2_payment_32 : decode cX2_payment 32 = .ok (.ireturn, 1) := dk_172 (dk_at dksX2_payment_1 9 rfl rfl)
abbrev cX2_happen : ByteArray := prog_4_method_32_code
def yX2_happen : MethodName := ⟨RX2, "happen", "(III)V"⟩
def dkwX2_happen_6 : List UInt8 := [181, 0, 180, 177]
abbrev dktX2_happen_6 : List UInt8 := dkwX2_happen_6 ++ []
def dkwX2_happen_5 : List UInt8 := [181, 0, 98, 42, 180, 0, 7, 28, 92, 46, 29, 96, 79, 167, 0, 13, 42, 89, 180, 0, 180, 4, 96]
abbrev dktX2_happen_5 : List UInt8 := dkwX2_happen_5 ++ dktX2_happen_6
def dkwX2_happen_4 : List UInt8 := [182, 0, 190, 167, 0, 45, 42, 28, 29, 182, 0, 193, 167, 0, 36, 42, 89, 180, 0, 98, 29, 100]
abbrev dktX2_happen_4 : List UInt8 := dkwX2_happen_4 ++ dktX2_happen_5
def dkwX2_happen_3 : List UInt8 := [89, 180, 0, 102, 29, 96, 181, 0, 102, 167, 0, 63, 42, 28, 29, 182, 0, 186, 167, 0, 54, 42, 28, 29]
abbrev dktX2_happen_3 : List UInt8 := dkwX2_happen_3 ++ dktX2_happen_4
def dkwX2_happen_2 : List UInt8 := [42, 89, 180, 0, 98, 29, 96, 181, 0, 98, 167, 0, 86, 42, 180, 0, 7, 28, 92, 46, 29, 96, 79, 42]
abbrev dktX2_happen_2 : List UInt8 := dkwX2_happen_2 ++ dktX2_happen_3
def dkwX2_happen_1 : List UInt8 := [170, 0, 0, 0, 0, 0, 125, 0, 0, 0, 0, 0, 0, 0, 5, 0, 0, 0, 39, 0, 0, 0, 52, 0, 0, 0, 75, 0, 0, 0, 84, 0, 0, 0, 93, 0, 0, 0, 102]
abbrev dktX2_happen_1 : List UInt8 := dkwX2_happen_1 ++ dktX2_happen_2
def dkwX2_happen_0 : List UInt8 := [27]
abbrev dktX2_happen_0 : List UInt8 := dkwX2_happen_0 ++ dktX2_happen_1
theorem dksX2_happen_0 : cX2_happen.data.toList.drop 0 = dktX2_happen_0 := by decide +kernel
theorem dksX2_happen_1 : cX2_happen.data.toList.drop 1 = dktX2_happen_1 := dk_seg dksX2_happen_0 1 rfl rfl
theorem dksX2_happen_2 : cX2_happen.data.toList.drop 40 = dktX2_happen_2 := dk_seg dksX2_happen_1 39 rfl rfl
theorem dksX2_happen_3 : cX2_happen.data.toList.drop 64 = dktX2_happen_3 := dk_seg dksX2_happen_2 24 rfl rfl
theorem dksX2_happen_4 : cX2_happen.data.toList.drop 88 = dktX2_happen_4 := dk_seg dksX2_happen_3 24 rfl rfl
theorem dksX2_happen_5 : cX2_happen.data.toList.drop 110 = dktX2_happen_5 := dk_seg dksX2_happen_4 22 rfl rfl
theorem dksX2_happen_6 : cX2_happen.data.toList.drop 133 = dktX2_happen_6 := dk_seg dksX2_happen_5 23 rfl rfl
theorem dX2_happen_0 : decode cX2_happen 0 = .ok (.iload_n 1, 1) := dk_27 (dk_at dksX2_happen_0 0 rfl rfl)
theorem dX2_happen_1 : decode cX2_happen 1 = .ok (.tableswitch 125 0 5 #[39, 52, 75, 84, 93, 102], 39) := by decide +kernel
theorem dX2_happen_40 : decode cX2_happen 40 = .ok (.aload_n 0, 1) := dk_42 (dk_at dksX2_happen_2 0 rfl rfl)
theorem dX2_happen_41 : decode cX2_happen 41 = .ok (.dup, 1) := dk_89 (dk_at dksX2_happen_2 1 rfl rfl)
theorem dX2_happen_42 : decode cX2_happen 42 = .ok (.getfield 98, 3) := dk_180 0 98 (dk_at dksX2_happen_2 2 rfl rfl)
theorem dX2_happen_45 : decode cX2_happen 45 = .ok (.iload_n 3, 1) := dk_29 (dk_at dksX2_happen_2 5 rfl rfl)
theorem dX2_happen_46 : decode cX2_happen 46 = .ok (.iadd, 1) := dk_96 (dk_at dksX2_happen_2 6 rfl rfl)
theorem dX2_happen_47 : decode cX2_happen 47 = .ok (.putfield 98, 3) := dk_181 0 98 (dk_at dksX2_happen_2 7 rfl rfl)
theorem dX2_happen_50 : decode cX2_happen 50 = .ok (.goto 86, 3) := dk_167 0 86 (dk_at dksX2_happen_2 10 rfl rfl)
theorem dX2_happen_53 : decode cX2_happen 53 = .ok (.aload_n 0, 1) := dk_42 (dk_at dksX2_happen_2 13 rfl rfl)
theorem dX2_happen_54 : decode cX2_happen 54 = .ok (.getfield 7, 3) := dk_180 0 7 (dk_at dksX2_happen_2 14 rfl rfl)
theorem dX2_happen_57 : decode cX2_happen 57 = .ok (.iload_n 2, 1) := dk_28 (dk_at dksX2_happen_2 17 rfl rfl)
theorem dX2_happen_58 : decode cX2_happen 58 = .ok (.dup2, 1) := dk_92 (dk_at dksX2_happen_2 18 rfl rfl)
theorem dX2_happen_59 : decode cX2_happen 59 = .ok (.iaload, 1) := dk_46 (dk_at dksX2_happen_2 19 rfl rfl)
theorem dX2_happen_60 : decode cX2_happen 60 = .ok (.iload_n 3, 1) := dk_29 (dk_at dksX2_happen_2 20 rfl rfl)
theorem dX2_happen_61 : decode cX2_happen 61 = .ok (.iadd, 1) := dk_96 (dk_at dksX2_happen_2 21 rfl rfl)
theorem dX2_happen_62 : decode cX2_happen 62 = .ok (.iastore, 1) := dk_79 (dk_at dksX2_happen_2 22 rfl rfl)
theorem dX2_happen_63 : decode cX2_happen 63 = .ok (.aload_n 0, 1) := dk_42 (dk_at dksX2_happen_2 23 rfl rfl)
theorem dX2_happen_64 : decode cX2_happen 64 = .ok (.dup, 1) := dk_89 (dk_at dksX2_happen_3 0 rfl rfl)
theorem dX2_happen_65 : decode cX2_happen 65 = .ok (.getfield 102, 3) := dk_180 0 102 (dk_at dksX2_happen_3 1 rfl rfl)
theorem dX2_happen_68 : decode cX2_happen 68 = .ok (.iload_n 3, 1) := dk_29 (dk_at dksX2_happen_3 4 rfl rfl)
theorem dX2_happen_69 : decode cX2_happen 69 = .ok (.iadd, 1) := dk_96 (dk_at dksX2_happen_3 5 rfl rfl)
theorem dX2_happen_70 : decode cX2_happen 70 = .ok (.putfield 102, 3) := dk_181 0 102 (dk_at dksX2_happen_3 6 rfl rfl)
theorem dX2_happen_73 : decode cX2_happen 73 = .ok (.goto 63, 3) := dk_167 0 63 (dk_at dksX2_happen_3 9 rfl rfl)
theorem dX2_happen_76 : decode cX2_happen 76 = .ok (.aload_n 0, 1) := dk_42 (dk_at dksX2_happen_3 12 rfl rfl)
theorem dX2_happen_77 : decode cX2_happen 77 = .ok (.iload_n 2, 1) := dk_28 (dk_at dksX2_happen_3 13 rfl rfl)
theorem dX2_happen_78 : decode cX2_happen 78 = .ok (.iload_n 3, 1) := dk_29 (dk_at dksX2_happen_3 14 rfl rfl)
theorem dX2_happen_79 : decode cX2_happen 79 = .ok (.invokevirtual 186, 3) := dk_182 0 186 (dk_at dksX2_happen_3 15 rfl rfl)
theorem dX2_happen_82 : decode cX2_happen 82 = .ok (.goto 54, 3) := dk_167 0 54 (dk_at dksX2_happen_3 18 rfl rfl)
theorem dX2_happen_85 : decode cX2_happen 85 = .ok (.aload_n 0, 1) := dk_42 (dk_at dksX2_happen_3 21 rfl rfl)
theorem dX2_happen_86 : decode cX2_happen 86 = .ok (.iload_n 2, 1) := dk_28 (dk_at dksX2_happen_3 22 rfl rfl)
theorem dX2_happen_87 : decode cX2_happen 87 = .ok (.iload_n 3, 1) := dk_29 (dk_at dksX2_happen_3 23 rfl rfl)
theorem dX2_happen_88 : decode cX2_happen 88 = .ok (.invokevirtual 190, 3) := dk_182 0 190 (dk_at dksX2_happen_4 0 rfl rfl)
theorem dX2_happen_91 : decode cX2_happen 91 = .ok (.goto 45, 3) := dk_167 0 45 (dk_at dksX2_happen_4 3 rfl rfl)
theorem dX2_happen_94 : decode cX2_happen 94 = .ok (.aload_n 0, 1) := dk_42 (dk_at dksX2_happen_4 6 rfl rfl)
theorem dX2_happen_95 : decode cX2_happen 95 = .ok (.iload_n 2, 1) := dk_28 (dk_at dksX2_happen_4 7 rfl rfl)
theorem dX2_happen_96 : decode cX2_happen 96 = .ok (.iload_n 3, 1) := dk_29 (dk_at dksX2_happen_4 8 rfl rfl)
theorem dX2_happen_97 : decode cX2_happen 97 = .ok (.invokevirtual 193, 3) := dk_182 0 193 (dk_at dksX2_happen_4 9 rfl rfl)
theorem dX2_happen_100 : decode cX2_happen 100 = .ok (.goto 36, 3) := dk_167 0 36 (dk_at dksX2_happen_4 12 rfl rfl)
theorem dX2_happen_103 : decode cX2_happen 103 = .ok (.aload_n 0, 1) := dk_42 (dk_at dksX2_happen_4 15 rfl rfl)
theorem dX2_happen_104 : decode cX2_happen 104 = .ok (.dup, 1) := dk_89 (dk_at dksX2_happen_4 16 rfl rfl)
theorem dX2_happen_105 : decode cX2_happen 105 = .ok (.getfield 98, 3) := dk_180 0 98 (dk_at dksX2_happen_4 17 rfl rfl)
theorem dX2_happen_108 : decode cX2_happen 108 = .ok (.iload_n 3, 1) := dk_29 (dk_at dksX2_happen_4 20 rfl rfl)
theorem dX2_happen_109 : decode cX2_happen 109 = .ok (.isub, 1) := dk_100 (dk_at dksX2_happen_4 21 rfl rfl)
theorem dX2_happen_110 : decode cX2_happen 110 = .ok (.putfield 98, 3) := dk_181 0 98 (dk_at dksX2_happen_5 0 rfl rfl)
theorem dX2_happen_113 : decode cX2_happen 113 = .ok (.aload_n 0, 1) := dk_42 (dk_at dksX2_happen_5 3 rfl rfl)
theorem dX2_happen_114 : decode cX2_happen 114 = .ok (.getfield 7, 3) := dk_180 0 7 (dk_at dksX2_happen_5 4 rfl rfl)
theorem dX2_happen_117 : decode cX2_happen 117 = .ok (.iload_n 2, 1) := dk_28 (dk_at dksX2_happen_5 7 rfl rfl)
theorem dX2_happen_118 : decode cX2_happen 118 = .ok (.dup2, 1) := dk_92 (dk_at dksX2_happen_5 8 rfl rfl)
theorem dX2_happen_119 : decode cX2_happen 119 = .ok (.iaload, 1) := dk_46 (dk_at dksX2_happen_5 9 rfl rfl)
theorem dX2_happen_120 : decode cX2_happen 120 = .ok (.iload_n 3, 1) := dk_29 (dk_at dksX2_happen_5 10 rfl rfl)
theorem dX2_happen_121 : decode cX2_happen 121 = .ok (.iadd, 1) := dk_96 (dk_at dksX2_happen_5 11 rfl rfl)
theorem dX2_happen_122 : decode cX2_happen 122 = .ok (.iastore, 1) := dk_79 (dk_at dksX2_happen_5 12 rfl rfl)
theorem dX2_happen_123 : decode cX2_happen 123 = .ok (.goto 13, 3) := dk_167 0 13 (dk_at dksX2_happen_5 13 rfl rfl)
theorem dX2_happen_126 : decode cX2_happen 126 = .ok (.aload_n 0, 1) := dk_42 (dk_at dksX2_happen_5 16 rfl rfl)
theorem dX2_happen_127 : decode cX2_happen 127 = .ok (.dup, 1) := dk_89 (dk_at dksX2_happen_5 17 rfl rfl)
theorem dX2_happen_128 : decode cX2_happen 128 = .ok (.getfield 180, 3) := dk_180 0 180 (dk_at dksX2_happen_5 18 rfl rfl)
theorem dX2_happen_131 : decode cX2_happen 131 = .ok (.iconst 1, 1) := dk_4 (dk_at dksX2_happen_5 21 rfl rfl)
theorem dX2_happen_132 : decode cX2_happen 132 = .ok (.iadd, 1) := dk_96 (dk_at dksX2_happen_5 22 rfl rfl)
theorem dX2_happen_133 : decode cX2_happen 133 = .ok (.putfield 180, 3) := dk_181 0 180 (dk_at dksX2_happen_6 0 rfl rfl)
theorem dX2_happen_136 : decode cX2_happen 136 = .ok (.return_, 1) := dk_177 (dk_at dksX2_happen_6 3 rfl rfl)
abbrev cX2_buy : ByteArray := prog_4_method_31_code
def yX2_buy : MethodName := ⟨RX2, "buy", "(II)V"⟩
def dkwX2_buy_1 : List UInt8 := [180, 0, 183, 42, 180, 0, 19, 28, 46, 96, 181, 0, 183, 177]
abbrev dktX2_buy_1 : List UInt8 := dkwX2_buy_1 ++ []
def dkwX2_buy_0 : List UInt8 := [42, 180, 0, 22, 28, 27, 79, 42, 180, 0, 7, 27, 92, 46, 42, 180, 0, 19, 28, 46, 100, 79, 42, 89]
abbrev dktX2_buy_0 : List UInt8 := dkwX2_buy_0 ++ dktX2_buy_1
theorem dksX2_buy_0 : cX2_buy.data.toList.drop 0 = dktX2_buy_0 := by decide +kernel
theorem dksX2_buy_1 : cX2_buy.data.toList.drop 24 = dktX2_buy_1 := dk_seg dksX2_buy_0 24 rfl rfl
theorem dX2_buy_0 : decode cX2_buy 0 = .ok (.aload_n 0, 1) := dk_42 (dk_at dksX2_buy_0 0 rfl rfl)
theorem dX2_buy_1 : decode cX2_buy 1 = .ok (.getfield 22, 3) := dk_180 0 22 (dk_at dksX2_buy_0 1 rfl rfl)
theorem dX2_buy_4 : decode cX2_buy 4 = .ok (.iload_n 2, 1) := dk_28 (dk_at dksX2_buy_0 4 rfl rfl)
theorem dX2_buy_5 : decode cX2_buy 5 = .ok (.iload_n 1, 1) := dk_27 (dk_at dksX2_buy_0 5 rfl rfl)
theorem dX2_buy_6 : decode cX2_buy 6 = .ok (.iastore, 1) := dk_79 (dk_at dksX2_buy_0 6 rfl rfl)
theorem dX2_buy_7 : decode cX2_buy 7 = .ok (.aload_n 0, 1) := dk_42 (dk_at dksX2_buy_0 7 rfl rfl)
theorem dX2_buy_8 : decode cX2_buy 8 = .ok (.getfield 7, 3) := dk_180 0 7 (dk_at dksX2_buy_0 8 rfl rfl)
theorem dX2_buy_11 : decode cX2_buy 11 = .ok (.iload_n 1, 1) := dk_27 (dk_at dksX2_buy_0 11 rfl rfl)
theorem dX2_buy_12 : decode cX2_buy 12 = .ok (.dup2, 1) := dk_92 (dk_at dksX2_buy_0 12 rfl rfl)
theorem dX2_buy_13 : decode cX2_buy 13 = .ok (.iaload, 1) := dk_46 (dk_at dksX2_buy_0 13 rfl rfl)
theorem dX2_buy_14 : decode cX2_buy 14 = .ok (.aload_n 0, 1) := dk_42 (dk_at dksX2_buy_0 14 rfl rfl)
theorem dX2_buy_15 : decode cX2_buy 15 = .ok (.getfield 19, 3) := dk_180 0 19 (dk_at dksX2_buy_0 15 rfl rfl)
theorem dX2_buy_18 : decode cX2_buy 18 = .ok (.iload_n 2, 1) := dk_28 (dk_at dksX2_buy_0 18 rfl rfl)
theorem dX2_buy_19 : decode cX2_buy 19 = .ok (.iaload, 1) := dk_46 (dk_at dksX2_buy_0 19 rfl rfl)
theorem dX2_buy_20 : decode cX2_buy 20 = .ok (.isub, 1) := dk_100 (dk_at dksX2_buy_0 20 rfl rfl)
theorem dX2_buy_21 : decode cX2_buy 21 = .ok (.iastore, 1) := dk_79 (dk_at dksX2_buy_0 21 rfl rfl)
theorem dX2_buy_22 : decode cX2_buy 22 = .ok (.aload_n 0, 1) := dk_42 (dk_at dksX2_buy_0 22 rfl rfl)
theorem dX2_buy_23 : decode cX2_buy 23 = .ok (.dup, 1) := dk_89 (dk_at dksX2_buy_0 23 rfl rfl)
theorem dX2_buy_24 : decode cX2_buy 24 = .ok (.getfield 183, 3) := dk_180 0 183 (dk_at dksX2_buy_1 0 rfl rfl)
theorem dX2_buy_27 : decode cX2_buy 27 = .ok (.aload_n 0, 1) := dk_42 (dk_at dksX2_buy_1 3 rfl rfl)
theorem dX2_buy_28 : decode cX2_buy 28 = .ok (.getfield 19, 3) := dk_180 0 19 (dk_at dksX2_buy_1 4 rfl rfl)
theorem dX2_buy_31 : decode cX2_buy 31 = .ok (.iload_n 2, 1) := dk_28 (dk_at dksX2_buy_1 7 rfl rfl)
theorem dX2_buy_32 : decode cX2_buy 32 = .ok (.iaload, 1) := dk_46 (dk_at dksX2_buy_1 8 rfl rfl)
theorem dX2_buy_33 : decode cX2_buy 33 = .ok (.iadd, 1) := dk_96 (dk_at dksX2_buy_1 9 rfl rfl)
theorem dX2_buy_34 : decode cX2_buy 34 = .ok (.putfield 183, 3) := dk_181 0 183 (dk_at dksX2_buy_1 10 rfl rfl)
theorem dX2_buy_37 : decode cX2_buy 37 = .ok (.return_, 1) := dk_177 (dk_at dksX2_buy_1 13 rfl rfl)
abbrev cX2_swap : ByteArray := prog_4_method_29_code
def yX2_swap : MethodName := ⟨RX2, "swap", "(II)V"⟩
def dkwX2_swap_1 : List UInt8 := [42, 89, 180, 0, 98, 28, 96, 181, 0, 98, 177]
abbrev dktX2_swap_1 : List UInt8 := dkwX2_swap_1 ++ []
def dkwX2_swap_0 : List UInt8 := [42, 180, 0, 13, 27, 92, 46, 42, 28, 182, 0, 167, 96, 79, 42, 180, 0, 7, 27, 92, 46, 28, 100, 79]
abbrev dktX2_swap_0 : List UInt8 := dkwX2_swap_0 ++ dktX2_swap_1
theorem dksX2_swap_0 : cX2_swap.data.toList.drop 0 = dktX2_swap_0 := by decide +kernel
theorem dksX2_swap_1 : cX2_swap.data.toList.drop 24 = dktX2_swap_1 := dk_seg dksX2_swap_0 24 rfl rfl
theorem dX2_swap_0 : decode cX2_swap 0 = .ok (.aload_n 0, 1) := dk_42 (dk_at dksX2_swap_0 0 rfl rfl)
theorem dX2_swap_1 : decode cX2_swap 1 = .ok (.getfield 13, 3) := dk_180 0 13 (dk_at dksX2_swap_0 1 rfl rfl)
theorem dX2_swap_4 : decode cX2_swap 4 = .ok (.iload_n 1, 1) := dk_27 (dk_at dksX2_swap_0 4 rfl rfl)
theorem dX2_swap_5 : decode cX2_swap 5 = .ok (.dup2, 1) := dk_92 (dk_at dksX2_swap_0 5 rfl rfl)
theorem dX2_swap_6 : decode cX2_swap 6 = .ok (.iaload, 1) := dk_46 (dk_at dksX2_swap_0 6 rfl rfl)
theorem dX2_swap_7 : decode cX2_swap 7 = .ok (.aload_n 0, 1) := dk_42 (dk_at dksX2_swap_0 7 rfl rfl)
theorem dX2_swap_8 : decode cX2_swap 8 = .ok (.iload_n 2, 1) := dk_28 (dk_at dksX2_swap_0 8 rfl rfl)
theorem dX2_swap_9 : decode cX2_swap 9 = .ok (.invokevirtual 167, 3) := dk_182 0 167 (dk_at dksX2_swap_0 9 rfl rfl)
theorem dX2_swap_12 : decode cX2_swap 12 = .ok (.iadd, 1) := dk_96 (dk_at dksX2_swap_0 12 rfl rfl)
theorem dX2_swap_13 : decode cX2_swap 13 = .ok (.iastore, 1) := dk_79 (dk_at dksX2_swap_0 13 rfl rfl)
theorem dX2_swap_14 : decode cX2_swap 14 = .ok (.aload_n 0, 1) := dk_42 (dk_at dksX2_swap_0 14 rfl rfl)
theorem dX2_swap_15 : decode cX2_swap 15 = .ok (.getfield 7, 3) := dk_180 0 7 (dk_at dksX2_swap_0 15 rfl rfl)
theorem dX2_swap_18 : decode cX2_swap 18 = .ok (.iload_n 1, 1) := dk_27 (dk_at dksX2_swap_0 18 rfl rfl)
theorem dX2_swap_19 : decode cX2_swap 19 = .ok (.dup2, 1) := dk_92 (dk_at dksX2_swap_0 19 rfl rfl)
theorem dX2_swap_20 : decode cX2_swap 20 = .ok (.iaload, 1) := dk_46 (dk_at dksX2_swap_0 20 rfl rfl)
theorem dX2_swap_21 : decode cX2_swap 21 = .ok (.iload_n 2, 1) := dk_28 (dk_at dksX2_swap_0 21 rfl rfl)
theorem dX2_swap_22 : decode cX2_swap 22 = .ok (.isub, 1) := dk_100 (dk_at dksX2_swap_0 22 rfl rfl)
theorem dX2_swap_23 : decode cX2_swap 23 = .ok (.iastore, 1) := dk_79 (dk_at dksX2_swap_0 23 rfl rfl)
theorem dX2_swap_24 : decode cX2_swap 24 = .ok (.aload_n 0, 1) := dk_42 (dk_at dksX2_swap_1 0 rfl rfl)
theorem dX2_swap_25 : decode cX2_swap 25 = .ok (.dup, 1) := dk_89 (dk_at dksX2_swap_1 1 rfl rfl)
theorem dX2_swap_26 : decode cX2_swap 26 = .ok (.getfield 98, 3) := dk_180 0 98 (dk_at dksX2_swap_1 2 rfl rfl)
theorem dX2_swap_29 : decode cX2_swap 29 = .ok (.iload_n 2, 1) := dk_28 (dk_at dksX2_swap_1 5 rfl rfl)
theorem dX2_swap_30 : decode cX2_swap 30 = .ok (.iadd, 1) := dk_96 (dk_at dksX2_swap_1 6 rfl rfl)
theorem dX2_swap_31 : decode cX2_swap 31 = .ok (.putfield 98, 3) := dk_181 0 98 (dk_at dksX2_swap_1 7 rfl rfl)
theorem dX2_swap_34 : decode cX2_swap 34 = .ok (.return_, 1) := dk_177 (dk_at dksX2_swap_1 10 rfl rfl)
abbrev cX2_pay : ByteArray := prog_4_method_30_code
def yX2_pay : MethodName := ⟨RX2, "pay", "(II)V"⟩
def dkwX2_pay_1 : List UInt8 := [180, 0, 7, 27, 92, 46, 29, 100, 79, 42, 180, 0, 7, 28, 92, 46, 29, 96, 79, 177]
abbrev dktX2_pay_1 : List UInt8 := dkwX2_pay_1 ++ []
def dkwX2_pay_0 : List UInt8 := [42, 27, 28, 182, 0, 171, 62, 42, 180, 0, 16, 16, 6, 27, 104, 28, 96, 92, 46, 29, 100, 79, 42]
abbrev dktX2_pay_0 : List UInt8 := dkwX2_pay_0 ++ dktX2_pay_1
theorem dksX2_pay_0 : cX2_pay.data.toList.drop 0 = dktX2_pay_0 := by decide +kernel
theorem dksX2_pay_1 : cX2_pay.data.toList.drop 23 = dktX2_pay_1 := dk_seg dksX2_pay_0 23 rfl rfl
theorem dX2_pay_0 : decode cX2_pay 0 = .ok (.aload_n 0, 1) := dk_42 (dk_at dksX2_pay_0 0 rfl rfl)
theorem dX2_pay_1 : decode cX2_pay 1 = .ok (.iload_n 1, 1) := dk_27 (dk_at dksX2_pay_0 1 rfl rfl)
theorem dX2_pay_2 : decode cX2_pay 2 = .ok (.iload_n 2, 1) := dk_28 (dk_at dksX2_pay_0 2 rfl rfl)
theorem dX2_pay_3 : decode cX2_pay 3 = .ok (.invokevirtual 171, 3) := dk_182 0 171 (dk_at dksX2_pay_0 3 rfl rfl)
theorem dX2_pay_6 : decode cX2_pay 6 = .ok (.istore_n 3, 1) := dk_62 (dk_at dksX2_pay_0 6 rfl rfl)
theorem dX2_pay_7 : decode cX2_pay 7 = .ok (.aload_n 0, 1) := dk_42 (dk_at dksX2_pay_0 7 rfl rfl)
theorem dX2_pay_8 : decode cX2_pay 8 = .ok (.getfield 16, 3) := dk_180 0 16 (dk_at dksX2_pay_0 8 rfl rfl)
theorem dX2_pay_11 : decode cX2_pay 11 = .ok (.bipush 6, 2) := dk_16 6 (dk_at dksX2_pay_0 11 rfl rfl)
theorem dX2_pay_13 : decode cX2_pay 13 = .ok (.iload_n 1, 1) := dk_27 (dk_at dksX2_pay_0 13 rfl rfl)
theorem dX2_pay_14 : decode cX2_pay 14 = .ok (.imul, 1) := dk_104 (dk_at dksX2_pay_0 14 rfl rfl)
theorem dX2_pay_15 : decode cX2_pay 15 = .ok (.iload_n 2, 1) := dk_28 (dk_at dksX2_pay_0 15 rfl rfl)
theorem dX2_pay_16 : decode cX2_pay 16 = .ok (.iadd, 1) := dk_96 (dk_at dksX2_pay_0 16 rfl rfl)
theorem dX2_pay_17 : decode cX2_pay 17 = .ok (.dup2, 1) := dk_92 (dk_at dksX2_pay_0 17 rfl rfl)
theorem dX2_pay_18 : decode cX2_pay 18 = .ok (.iaload, 1) := dk_46 (dk_at dksX2_pay_0 18 rfl rfl)
theorem dX2_pay_19 : decode cX2_pay 19 = .ok (.iload_n 3, 1) := dk_29 (dk_at dksX2_pay_0 19 rfl rfl)
theorem dX2_pay_20 : decode cX2_pay 20 = .ok (.isub, 1) := dk_100 (dk_at dksX2_pay_0 20 rfl rfl)
theorem dX2_pay_21 : decode cX2_pay 21 = .ok (.iastore, 1) := dk_79 (dk_at dksX2_pay_0 21 rfl rfl)
theorem dX2_pay_22 : decode cX2_pay 22 = .ok (.aload_n 0, 1) := dk_42 (dk_at dksX2_pay_0 22 rfl rfl)
theorem dX2_pay_23 : decode cX2_pay 23 = .ok (.getfield 7, 3) := dk_180 0 7 (dk_at dksX2_pay_1 0 rfl rfl)
theorem dX2_pay_26 : decode cX2_pay 26 = .ok (.iload_n 1, 1) := dk_27 (dk_at dksX2_pay_1 3 rfl rfl)
theorem dX2_pay_27 : decode cX2_pay 27 = .ok (.dup2, 1) := dk_92 (dk_at dksX2_pay_1 4 rfl rfl)
theorem dX2_pay_28 : decode cX2_pay 28 = .ok (.iaload, 1) := dk_46 (dk_at dksX2_pay_1 5 rfl rfl)
theorem dX2_pay_29 : decode cX2_pay 29 = .ok (.iload_n 3, 1) := dk_29 (dk_at dksX2_pay_1 6 rfl rfl)
theorem dX2_pay_30 : decode cX2_pay 30 = .ok (.isub, 1) := dk_100 (dk_at dksX2_pay_1 7 rfl rfl)
theorem dX2_pay_31 : decode cX2_pay 31 = .ok (.iastore, 1) := dk_79 (dk_at dksX2_pay_1 8 rfl rfl)
theorem dX2_pay_32 : decode cX2_pay 32 = .ok (.aload_n 0, 1) := dk_42 (dk_at dksX2_pay_1 9 rfl rfl)
theorem dX2_pay_33 : decode cX2_pay 33 = .ok (.getfield 7, 3) := dk_180 0 7 (dk_at dksX2_pay_1 10 rfl rfl)
theorem dX2_pay_36 : decode cX2_pay 36 = .ok (.iload_n 2, 1) := dk_28 (dk_at dksX2_pay_1 13 rfl rfl)
theorem dX2_pay_37 : decode cX2_pay 37 = .ok (.dup2, 1) := dk_92 (dk_at dksX2_pay_1 14 rfl rfl)
theorem dX2_pay_38 : decode cX2_pay 38 = .ok (.iaload, 1) := dk_46 (dk_at dksX2_pay_1 15 rfl rfl)
theorem dX2_pay_39 : decode cX2_pay 39 = .ok (.iload_n 3, 1) := dk_29 (dk_at dksX2_pay_1 16 rfl rfl)
theorem dX2_pay_40 : decode cX2_pay 40 = .ok (.iadd, 1) := dk_96 (dk_at dksX2_pay_1 17 rfl rfl)
theorem dX2_pay_41 : decode cX2_pay 41 = .ok (.iastore, 1) := dk_79 (dk_at dksX2_pay_1 18 rfl rfl)
theorem dX2_pay_42 : decode cX2_pay 42 = .ok (.return_, 1) := dk_177 (dk_at dksX2_pay_1 19 rfl rfl)
abbrev cX2_back : ByteArray := prog_4_method_34_code
def yX2_back : MethodName := ⟨RX2, "back", "(I)I"⟩
def dkwX2_back_6 : List UInt8 := [181, 0, 180, 27, 172]
abbrev dktX2_back_6 : List UInt8 := dkwX2_back_6 ++ []
def dkwX2_back_5 : List UInt8 := [46, 181, 0, 102, 42, 42, 180, 0, 46, 16, 58, 46, 181, 0, 183, 42, 42, 180, 0, 46, 16, 59, 46]
abbrev dktX2_back_5 : List UInt8 := dkwX2_back_5 ++ dktX2_back_6
def dkwX2_back_4 : List UInt8 := [132, 2, 1, 167, 255, 232, 42, 42, 180, 0, 46, 16, 56, 46, 181, 0, 98, 42, 42, 180, 0, 46, 16, 57]
abbrev dktX2_back_4 : List UInt8 := dkwX2_back_4 ++ dktX2_back_5
def dkwX2_back_3 : List UInt8 := [3, 61, 28, 16, 8, 162, 0, 24, 42, 180, 0, 22, 28, 42, 180, 0, 46, 16, 48, 28, 96, 46, 79]
abbrev dktX2_back_3 : List UInt8 := dkwX2_back_3 ++ dktX2_back_4
def dkwX2_back_2 : List UInt8 := [162, 0, 24, 42, 180, 0, 16, 28, 42, 180, 0, 46, 16, 12, 28, 96, 46, 79, 132, 2, 1, 167, 255, 232]
abbrev dktX2_back_2 : List UInt8 := dkwX2_back_2 ++ dktX2_back_3
def dkwX2_back_1 : List UInt8 := [28, 42, 180, 0, 46, 16, 6, 28, 96, 46, 79, 132, 2, 1, 167, 255, 220, 3, 61, 28, 16, 36]
abbrev dktX2_back_1 : List UInt8 := dkwX2_back_1 ++ dktX2_back_2
def dkwX2_back_0 : List UInt8 := [3, 61, 28, 16, 6, 162, 0, 36, 42, 180, 0, 7, 28, 42, 180, 0, 46, 28, 46, 79, 42, 180, 0, 13]
abbrev dktX2_back_0 : List UInt8 := dkwX2_back_0 ++ dktX2_back_1
theorem dksX2_back_0 : cX2_back.data.toList.drop 0 = dktX2_back_0 := by decide +kernel
theorem dksX2_back_1 : cX2_back.data.toList.drop 24 = dktX2_back_1 := dk_seg dksX2_back_0 24 rfl rfl
theorem dksX2_back_2 : cX2_back.data.toList.drop 46 = dktX2_back_2 := dk_seg dksX2_back_1 22 rfl rfl
theorem dksX2_back_3 : cX2_back.data.toList.drop 70 = dktX2_back_3 := dk_seg dksX2_back_2 24 rfl rfl
theorem dksX2_back_4 : cX2_back.data.toList.drop 93 = dktX2_back_4 := dk_seg dksX2_back_3 23 rfl rfl
theorem dksX2_back_5 : cX2_back.data.toList.drop 117 = dktX2_back_5 := dk_seg dksX2_back_4 24 rfl rfl
theorem dksX2_back_6 : cX2_back.data.toList.drop 140 = dktX2_back_6 := dk_seg dksX2_back_5 23 rfl rfl
theorem dX2_back_0 : decode cX2_back 0 = .ok (.iconst 0, 1) := dk_3 (dk_at dksX2_back_0 0 rfl rfl)
theorem dX2_back_1 : decode cX2_back 1 = .ok (.istore_n 2, 1) := dk_61 (dk_at dksX2_back_0 1 rfl rfl)
theorem dX2_back_2 : decode cX2_back 2 = .ok (.iload_n 2, 1) := dk_28 (dk_at dksX2_back_0 2 rfl rfl)
theorem dX2_back_3 : decode cX2_back 3 = .ok (.bipush 6, 2) := dk_16 6 (dk_at dksX2_back_0 3 rfl rfl)
theorem dX2_back_5 : decode cX2_back 5 = .ok (.if_icmp .ge 36, 3) := dk_162 0 36 (dk_at dksX2_back_0 5 rfl rfl)
theorem dX2_back_8 : decode cX2_back 8 = .ok (.aload_n 0, 1) := dk_42 (dk_at dksX2_back_0 8 rfl rfl)
theorem dX2_back_9 : decode cX2_back 9 = .ok (.getfield 7, 3) := dk_180 0 7 (dk_at dksX2_back_0 9 rfl rfl)
theorem dX2_back_12 : decode cX2_back 12 = .ok (.iload_n 2, 1) := dk_28 (dk_at dksX2_back_0 12 rfl rfl)
theorem dX2_back_13 : decode cX2_back 13 = .ok (.aload_n 0, 1) := dk_42 (dk_at dksX2_back_0 13 rfl rfl)
theorem dX2_back_14 : decode cX2_back 14 = .ok (.getfield 46, 3) := dk_180 0 46 (dk_at dksX2_back_0 14 rfl rfl)
theorem dX2_back_17 : decode cX2_back 17 = .ok (.iload_n 2, 1) := dk_28 (dk_at dksX2_back_0 17 rfl rfl)
theorem dX2_back_18 : decode cX2_back 18 = .ok (.iaload, 1) := dk_46 (dk_at dksX2_back_0 18 rfl rfl)
theorem dX2_back_19 : decode cX2_back 19 = .ok (.iastore, 1) := dk_79 (dk_at dksX2_back_0 19 rfl rfl)
theorem dX2_back_20 : decode cX2_back 20 = .ok (.aload_n 0, 1) := dk_42 (dk_at dksX2_back_0 20 rfl rfl)
theorem dX2_back_21 : decode cX2_back 21 = .ok (.getfield 13, 3) := dk_180 0 13 (dk_at dksX2_back_0 21 rfl rfl)
theorem dX2_back_24 : decode cX2_back 24 = .ok (.iload_n 2, 1) := dk_28 (dk_at dksX2_back_1 0 rfl rfl)
theorem dX2_back_25 : decode cX2_back 25 = .ok (.aload_n 0, 1) := dk_42 (dk_at dksX2_back_1 1 rfl rfl)
theorem dX2_back_26 : decode cX2_back 26 = .ok (.getfield 46, 3) := dk_180 0 46 (dk_at dksX2_back_1 2 rfl rfl)
theorem dX2_back_29 : decode cX2_back 29 = .ok (.bipush 6, 2) := dk_16 6 (dk_at dksX2_back_1 5 rfl rfl)
theorem dX2_back_31 : decode cX2_back 31 = .ok (.iload_n 2, 1) := dk_28 (dk_at dksX2_back_1 7 rfl rfl)
theorem dX2_back_32 : decode cX2_back 32 = .ok (.iadd, 1) := dk_96 (dk_at dksX2_back_1 8 rfl rfl)
theorem dX2_back_33 : decode cX2_back 33 = .ok (.iaload, 1) := dk_46 (dk_at dksX2_back_1 9 rfl rfl)
theorem dX2_back_34 : decode cX2_back 34 = .ok (.iastore, 1) := dk_79 (dk_at dksX2_back_1 10 rfl rfl)
theorem dX2_back_35 : decode cX2_back 35 = .ok (.iinc 2 1, 3) := dk_132 2 1 (dk_at dksX2_back_1 11 rfl rfl)
theorem dX2_back_38 : decode cX2_back 38 = .ok (.goto (-36), 3) := dk_167 255 220 (dk_at dksX2_back_1 14 rfl rfl)
theorem dX2_back_41 : decode cX2_back 41 = .ok (.iconst 0, 1) := dk_3 (dk_at dksX2_back_1 17 rfl rfl)
theorem dX2_back_42 : decode cX2_back 42 = .ok (.istore_n 2, 1) := dk_61 (dk_at dksX2_back_1 18 rfl rfl)
theorem dX2_back_43 : decode cX2_back 43 = .ok (.iload_n 2, 1) := dk_28 (dk_at dksX2_back_1 19 rfl rfl)
theorem dX2_back_44 : decode cX2_back 44 = .ok (.bipush 36, 2) := dk_16 36 (dk_at dksX2_back_1 20 rfl rfl)
theorem dX2_back_46 : decode cX2_back 46 = .ok (.if_icmp .ge 24, 3) := dk_162 0 24 (dk_at dksX2_back_2 0 rfl rfl)
theorem dX2_back_49 : decode cX2_back 49 = .ok (.aload_n 0, 1) := dk_42 (dk_at dksX2_back_2 3 rfl rfl)
theorem dX2_back_50 : decode cX2_back 50 = .ok (.getfield 16, 3) := dk_180 0 16 (dk_at dksX2_back_2 4 rfl rfl)
theorem dX2_back_53 : decode cX2_back 53 = .ok (.iload_n 2, 1) := dk_28 (dk_at dksX2_back_2 7 rfl rfl)
theorem dX2_back_54 : decode cX2_back 54 = .ok (.aload_n 0, 1) := dk_42 (dk_at dksX2_back_2 8 rfl rfl)
theorem dX2_back_55 : decode cX2_back 55 = .ok (.getfield 46, 3) := dk_180 0 46 (dk_at dksX2_back_2 9 rfl rfl)
theorem dX2_back_58 : decode cX2_back 58 = .ok (.bipush 12, 2) := dk_16 12 (dk_at dksX2_back_2 12 rfl rfl)
theorem dX2_back_60 : decode cX2_back 60 = .ok (.iload_n 2, 1) := dk_28 (dk_at dksX2_back_2 14 rfl rfl)
theorem dX2_back_61 : decode cX2_back 61 = .ok (.iadd, 1) := dk_96 (dk_at dksX2_back_2 15 rfl rfl)
theorem dX2_back_62 : decode cX2_back 62 = .ok (.iaload, 1) := dk_46 (dk_at dksX2_back_2 16 rfl rfl)
theorem dX2_back_63 : decode cX2_back 63 = .ok (.iastore, 1) := dk_79 (dk_at dksX2_back_2 17 rfl rfl)
theorem dX2_back_64 : decode cX2_back 64 = .ok (.iinc 2 1, 3) := dk_132 2 1 (dk_at dksX2_back_2 18 rfl rfl)
theorem dX2_back_67 : decode cX2_back 67 = .ok (.goto (-24), 3) := dk_167 255 232 (dk_at dksX2_back_2 21 rfl rfl)
theorem dX2_back_70 : decode cX2_back 70 = .ok (.iconst 0, 1) := dk_3 (dk_at dksX2_back_3 0 rfl rfl)
theorem dX2_back_71 : decode cX2_back 71 = .ok (.istore_n 2, 1) := dk_61 (dk_at dksX2_back_3 1 rfl rfl)
theorem dX2_back_72 : decode cX2_back 72 = .ok (.iload_n 2, 1) := dk_28 (dk_at dksX2_back_3 2 rfl rfl)
theorem dX2_back_73 : decode cX2_back 73 = .ok (.bipush 8, 2) := dk_16 8 (dk_at dksX2_back_3 3 rfl rfl)
theorem dX2_back_75 : decode cX2_back 75 = .ok (.if_icmp .ge 24, 3) := dk_162 0 24 (dk_at dksX2_back_3 5 rfl rfl)
theorem dX2_back_78 : decode cX2_back 78 = .ok (.aload_n 0, 1) := dk_42 (dk_at dksX2_back_3 8 rfl rfl)
theorem dX2_back_79 : decode cX2_back 79 = .ok (.getfield 22, 3) := dk_180 0 22 (dk_at dksX2_back_3 9 rfl rfl)
theorem dX2_back_82 : decode cX2_back 82 = .ok (.iload_n 2, 1) := dk_28 (dk_at dksX2_back_3 12 rfl rfl)
theorem dX2_back_83 : decode cX2_back 83 = .ok (.aload_n 0, 1) := dk_42 (dk_at dksX2_back_3 13 rfl rfl)
theorem dX2_back_84 : decode cX2_back 84 = .ok (.getfield 46, 3) := dk_180 0 46 (dk_at dksX2_back_3 14 rfl rfl)
theorem dX2_back_87 : decode cX2_back 87 = .ok (.bipush 48, 2) := dk_16 48 (dk_at dksX2_back_3 17 rfl rfl)
theorem dX2_back_89 : decode cX2_back 89 = .ok (.iload_n 2, 1) := dk_28 (dk_at dksX2_back_3 19 rfl rfl)
theorem dX2_back_90 : decode cX2_back 90 = .ok (.iadd, 1) := dk_96 (dk_at dksX2_back_3 20 rfl rfl)
theorem dX2_back_91 : decode cX2_back 91 = .ok (.iaload, 1) := dk_46 (dk_at dksX2_back_3 21 rfl rfl)
theorem dX2_back_92 : decode cX2_back 92 = .ok (.iastore, 1) := dk_79 (dk_at dksX2_back_3 22 rfl rfl)
theorem dX2_back_93 : decode cX2_back 93 = .ok (.iinc 2 1, 3) := dk_132 2 1 (dk_at dksX2_back_4 0 rfl rfl)
theorem dX2_back_96 : decode cX2_back 96 = .ok (.goto (-24), 3) := dk_167 255 232 (dk_at dksX2_back_4 3 rfl rfl)
theorem dX2_back_99 : decode cX2_back 99 = .ok (.aload_n 0, 1) := dk_42 (dk_at dksX2_back_4 6 rfl rfl)
theorem dX2_back_100 : decode cX2_back 100 = .ok (.aload_n 0, 1) := dk_42 (dk_at dksX2_back_4 7 rfl rfl)
theorem dX2_back_101 : decode cX2_back 101 = .ok (.getfield 46, 3) := dk_180 0 46 (dk_at dksX2_back_4 8 rfl rfl)
theorem dX2_back_104 : decode cX2_back 104 = .ok (.bipush 56, 2) := dk_16 56 (dk_at dksX2_back_4 11 rfl rfl)
theorem dX2_back_106 : decode cX2_back 106 = .ok (.iaload, 1) := dk_46 (dk_at dksX2_back_4 13 rfl rfl)
theorem dX2_back_107 : decode cX2_back 107 = .ok (.putfield 98, 3) := dk_181 0 98 (dk_at dksX2_back_4 14 rfl rfl)
theorem dX2_back_110 : decode cX2_back 110 = .ok (.aload_n 0, 1) := dk_42 (dk_at dksX2_back_4 17 rfl rfl)
theorem dX2_back_111 : decode cX2_back 111 = .ok (.aload_n 0, 1) := dk_42 (dk_at dksX2_back_4 18 rfl rfl)
theorem dX2_back_112 : decode cX2_back 112 = .ok (.getfield 46, 3) := dk_180 0 46 (dk_at dksX2_back_4 19 rfl rfl)
theorem dX2_back_115 : decode cX2_back 115 = .ok (.bipush 57, 2) := dk_16 57 (dk_at dksX2_back_4 22 rfl rfl)
theorem dX2_back_117 : decode cX2_back 117 = .ok (.iaload, 1) := dk_46 (dk_at dksX2_back_5 0 rfl rfl)
theorem dX2_back_118 : decode cX2_back 118 = .ok (.putfield 102, 3) := dk_181 0 102 (dk_at dksX2_back_5 1 rfl rfl)
theorem dX2_back_121 : decode cX2_back 121 = .ok (.aload_n 0, 1) := dk_42 (dk_at dksX2_back_5 4 rfl rfl)
theorem dX2_back_122 : decode cX2_back 122 = .ok (.aload_n 0, 1) := dk_42 (dk_at dksX2_back_5 5 rfl rfl)
theorem dX2_back_123 : decode cX2_back 123 = .ok (.getfield 46, 3) := dk_180 0 46 (dk_at dksX2_back_5 6 rfl rfl)
theorem dX2_back_126 : decode cX2_back 126 = .ok (.bipush 58, 2) := dk_16 58 (dk_at dksX2_back_5 9 rfl rfl)
theorem dX2_back_128 : decode cX2_back 128 = .ok (.iaload, 1) := dk_46 (dk_at dksX2_back_5 11 rfl rfl)
theorem dX2_back_129 : decode cX2_back 129 = .ok (.putfield 183, 3) := dk_181 0 183 (dk_at dksX2_back_5 12 rfl rfl)
theorem dX2_back_132 : decode cX2_back 132 = .ok (.aload_n 0, 1) := dk_42 (dk_at dksX2_back_5 15 rfl rfl)
theorem dX2_back_133 : decode cX2_back 133 = .ok (.aload_n 0, 1) := dk_42 (dk_at dksX2_back_5 16 rfl rfl)
theorem dX2_back_134 : decode cX2_back 134 = .ok (.getfield 46, 3) := dk_180 0 46 (dk_at dksX2_back_5 17 rfl rfl)
theorem dX2_back_137 : decode cX2_back 137 = .ok (.bipush 59, 2) := dk_16 59 (dk_at dksX2_back_5 20 rfl rfl)
theorem dX2_back_139 : decode cX2_back 139 = .ok (.iaload, 1) := dk_46 (dk_at dksX2_back_5 22 rfl rfl)
theorem dX2_back_140 : decode cX2_back 140 = .ok (.putfield 180, 3) := dk_181 0 180 (dk_at dksX2_back_6 0 rfl rfl)
theorem dX2_back_143 : decode cX2_back 143 = .ok (.iload_n 1, 1) := dk_27 (dk_at dksX2_back_6 3 rfl rfl)
theorem dX2_back_144 : decode cX2_back 144 = .ok (.ireturn, 1) := dk_172 (dk_at dksX2_back_6 4 rfl rfl)
abbrev cX2_behind : ByteArray := prog_4_method_41_code
def yX2_behind : MethodName := ⟨RX2, "behind", "(II)I"⟩
def dkwX2_behind_2 : List UInt8 := [182, 0, 226, 172]
abbrev dktX2_behind_2 : List UInt8 := dkwX2_behind_2 ++ []
def dkwX2_behind_1 : List UInt8 := [42, 182, 0, 223, 62, 42, 29, 16, 250, 159, 0, 7, 29, 167, 0, 9, 42, 27, 28, 182, 0, 237]
abbrev dktX2_behind_1 : List UInt8 := dkwX2_behind_1 ++ dktX2_behind_2
def dkwX2_behind_0 : List UInt8 := [27, 184, 0, 84, 154, 0, 5, 2, 172, 28, 133, 9, 20, 0, 235, 184, 0, 80, 154, 0, 6, 16, 254, 172]
abbrev dktX2_behind_0 : List UInt8 := dkwX2_behind_0 ++ dktX2_behind_1
theorem dksX2_behind_0 : cX2_behind.data.toList.drop 0 = dktX2_behind_0 := by decide +kernel
theorem dksX2_behind_1 : cX2_behind.data.toList.drop 24 = dktX2_behind_1 := dk_seg dksX2_behind_0 24 rfl rfl
theorem dksX2_behind_2 : cX2_behind.data.toList.drop 46 = dktX2_behind_2 := dk_seg dksX2_behind_1 22 rfl rfl
theorem dX2_behind_0 : decode cX2_behind 0 = .ok (.iload_n 1, 1) := dk_27 (dk_at dksX2_behind_0 0 rfl rfl)
theorem dX2_behind_1 : decode cX2_behind 1 = .ok (.invokestatic 84, 3) := dk_184 0 84 (dk_at dksX2_behind_0 1 rfl rfl)
theorem dX2_behind_4 : decode cX2_behind 4 = .ok (.ifCond .ne 5, 3) := dk_154 0 5 (dk_at dksX2_behind_0 4 rfl rfl)
theorem dX2_behind_7 : decode cX2_behind 7 = .ok (.iconst (-1), 1) := dk_2 (dk_at dksX2_behind_0 7 rfl rfl)
theorem dX2_behind_8 : decode cX2_behind 8 = .ok (.ireturn, 1) := dk_172 (dk_at dksX2_behind_0 8 rfl rfl)
theorem dX2_behind_9 : decode cX2_behind 9 = .ok (.iload_n 2, 1) := dk_28 (dk_at dksX2_behind_0 9 rfl rfl)
theorem dX2_behind_10 : decode cX2_behind 10 = .ok (.i2l, 1) := dk_133 (dk_at dksX2_behind_0 10 rfl rfl)
theorem dX2_behind_11 : decode cX2_behind 11 = .ok (.lconst 0, 1) := dk_9 (dk_at dksX2_behind_0 11 rfl rfl)
theorem dX2_behind_12 : decode cX2_behind 12 = .ok (.ldc2_w 235, 3) := dk_20 0 235 (dk_at dksX2_behind_0 12 rfl rfl)
theorem dX2_behind_15 : decode cX2_behind 15 = .ok (.invokestatic 80, 3) := dk_184 0 80 (dk_at dksX2_behind_0 15 rfl rfl)
theorem dX2_behind_18 : decode cX2_behind 18 = .ok (.ifCond .ne 6, 3) := dk_154 0 6 (dk_at dksX2_behind_0 18 rfl rfl)
theorem dX2_behind_21 : decode cX2_behind 21 = .ok (.bipush (-2), 2) := dk_16 254 (dk_at dksX2_behind_0 21 rfl rfl)
theorem dX2_behind_23 : decode cX2_behind 23 = .ok (.ireturn, 1) := dk_172 (dk_at dksX2_behind_0 23 rfl rfl)
theorem dX2_behind_24 : decode cX2_behind 24 = .ok (.aload_n 0, 1) := dk_42 (dk_at dksX2_behind_1 0 rfl rfl)
theorem dX2_behind_25 : decode cX2_behind 25 = .ok (.invokevirtual 223, 3) := dk_182 0 223 (dk_at dksX2_behind_1 1 rfl rfl)
theorem dX2_behind_28 : decode cX2_behind 28 = .ok (.istore_n 3, 1) := dk_62 (dk_at dksX2_behind_1 4 rfl rfl)
theorem dX2_behind_29 : decode cX2_behind 29 = .ok (.aload_n 0, 1) := dk_42 (dk_at dksX2_behind_1 5 rfl rfl)
theorem dX2_behind_30 : decode cX2_behind 30 = .ok (.iload_n 3, 1) := dk_29 (dk_at dksX2_behind_1 6 rfl rfl)
theorem dX2_behind_31 : decode cX2_behind 31 = .ok (.bipush (-6), 2) := dk_16 250 (dk_at dksX2_behind_1 7 rfl rfl)
theorem dX2_behind_33 : decode cX2_behind 33 = .ok (.if_icmp .eq 7, 3) := dk_159 0 7 (dk_at dksX2_behind_1 9 rfl rfl)
theorem dX2_behind_36 : decode cX2_behind 36 = .ok (.iload_n 3, 1) := dk_29 (dk_at dksX2_behind_1 12 rfl rfl)
theorem dX2_behind_37 : decode cX2_behind 37 = .ok (.goto 9, 3) := dk_167 0 9 (dk_at dksX2_behind_1 13 rfl rfl)
theorem dX2_behind_40 : decode cX2_behind 40 = .ok (.aload_n 0, 1) := dk_42 (dk_at dksX2_behind_1 16 rfl rfl)
theorem dX2_behind_41 : decode cX2_behind 41 = .ok (.iload_n 1, 1) := dk_27 (dk_at dksX2_behind_1 17 rfl rfl)
theorem dX2_behind_42 : decode cX2_behind 42 = .ok (.iload_n 2, 1) := dk_28 (dk_at dksX2_behind_1 18 rfl rfl)
theorem dX2_behind_43 : decode cX2_behind 43 = .ok (.invokevirtual 237, 3) := dk_182 0 237 (dk_at dksX2_behind_1 19 rfl rfl)
theorem dX2_behind_46 : decode cX2_behind 46 = .ok (.invokevirtual 226, 3) := dk_182 0 226 (dk_at dksX2_behind_2 0 rfl rfl)
theorem dX2_behind_49 : decode cX2_behind 49 = .ok (.ireturn, 1) := dk_172 (dk_at dksX2_behind_2 3 rfl rfl)
abbrev cX2_ofOne : ByteArray := prog_4_method_40_code
def yX2_ofOne : MethodName := ⟨RX2, "ofOne", "(II)I"⟩
def dkwX2_ofOne_3 : List UInt8 := [182, 0, 232, 172]
abbrev dktX2_ofOne_3 : List UInt8 := dkwX2_ofOne_3 ++ []
def dkwX2_ofOne_2 : List UInt8 := [42, 180, 0, 7, 27, 46, 172, 42, 180, 0, 13, 27, 46, 172, 42, 27, 182, 0, 229, 172, 42, 27]
abbrev dktX2_ofOne_2 : List UInt8 := dkwX2_ofOne_2 ++ dktX2_ofOne_3
def dkwX2_ofOne_1 : List UInt8 := [170, 0, 0, 0, 0, 0, 47, 0, 0, 0, 0, 0, 0, 0, 2, 0, 0, 0, 27, 0, 0, 0, 34, 0, 0, 0, 41]
abbrev dktX2_ofOne_1 : List UInt8 := dkwX2_ofOne_1 ++ dktX2_ofOne_2
def dkwX2_ofOne_0 : List UInt8 := [28]
abbrev dktX2_ofOne_0 : List UInt8 := dkwX2_ofOne_0 ++ dktX2_ofOne_1
theorem dksX2_ofOne_0 : cX2_ofOne.data.toList.drop 0 = dktX2_ofOne_0 := by decide +kernel
theorem dksX2_ofOne_1 : cX2_ofOne.data.toList.drop 1 = dktX2_ofOne_1 := dk_seg dksX2_ofOne_0 1 rfl rfl
theorem dksX2_ofOne_2 : cX2_ofOne.data.toList.drop 28 = dktX2_ofOne_2 := dk_seg dksX2_ofOne_1 27 rfl rfl
theorem dksX2_ofOne_3 : cX2_ofOne.data.toList.drop 50 = dktX2_ofOne_3 := dk_seg dksX2_ofOne_2 22 rfl rfl
theorem dX2_ofOne_0 : decode cX2_ofOne 0 = .ok (.iload_n 2, 1) := dk_28 (dk_at dksX2_ofOne_0 0 rfl rfl)
theorem dX2_ofOne_1 : decode cX2_ofOne 1 = .ok (.tableswitch 47 0 2 #[27, 34, 41], 27) := by decide +kernel
theorem dX2_ofOne_28 : decode cX2_ofOne 28 = .ok (.aload_n 0, 1) := dk_42 (dk_at dksX2_ofOne_2 0 rfl rfl)
theorem dX2_ofOne_29 : decode cX2_ofOne 29 = .ok (.getfield 7, 3) := dk_180 0 7 (dk_at dksX2_ofOne_2 1 rfl rfl)
theorem dX2_ofOne_32 : decode cX2_ofOne 32 = .ok (.iload_n 1, 1) := dk_27 (dk_at dksX2_ofOne_2 4 rfl rfl)
theorem dX2_ofOne_33 : decode cX2_ofOne 33 = .ok (.iaload, 1) := dk_46 (dk_at dksX2_ofOne_2 5 rfl rfl)
theorem dX2_ofOne_34 : decode cX2_ofOne 34 = .ok (.ireturn, 1) := dk_172 (dk_at dksX2_ofOne_2 6 rfl rfl)
theorem dX2_ofOne_35 : decode cX2_ofOne 35 = .ok (.aload_n 0, 1) := dk_42 (dk_at dksX2_ofOne_2 7 rfl rfl)
theorem dX2_ofOne_36 : decode cX2_ofOne 36 = .ok (.getfield 13, 3) := dk_180 0 13 (dk_at dksX2_ofOne_2 8 rfl rfl)
theorem dX2_ofOne_39 : decode cX2_ofOne 39 = .ok (.iload_n 1, 1) := dk_27 (dk_at dksX2_ofOne_2 11 rfl rfl)
theorem dX2_ofOne_40 : decode cX2_ofOne 40 = .ok (.iaload, 1) := dk_46 (dk_at dksX2_ofOne_2 12 rfl rfl)
theorem dX2_ofOne_41 : decode cX2_ofOne 41 = .ok (.ireturn, 1) := dk_172 (dk_at dksX2_ofOne_2 13 rfl rfl)
theorem dX2_ofOne_42 : decode cX2_ofOne 42 = .ok (.aload_n 0, 1) := dk_42 (dk_at dksX2_ofOne_2 14 rfl rfl)
theorem dX2_ofOne_43 : decode cX2_ofOne 43 = .ok (.iload_n 1, 1) := dk_27 (dk_at dksX2_ofOne_2 15 rfl rfl)
theorem dX2_ofOne_44 : decode cX2_ofOne 44 = .ok (.invokevirtual 229, 3) := dk_182 0 229 (dk_at dksX2_ofOne_2 16 rfl rfl)
theorem dX2_ofOne_47 : decode cX2_ofOne 47 = .ok (.ireturn, 1) := dk_172 (dk_at dksX2_ofOne_2 19 rfl rfl)
theorem dX2_ofOne_48 : decode cX2_ofOne 48 = .ok (.aload_n 0, 1) := dk_42 (dk_at dksX2_ofOne_2 20 rfl rfl)
theorem dX2_ofOne_49 : decode cX2_ofOne 49 = .ok (.iload_n 1, 1) := dk_27 (dk_at dksX2_ofOne_2 21 rfl rfl)
theorem dX2_ofOne_50 : decode cX2_ofOne 50 = .ok (.invokevirtual 232, 3) := dk_182 0 232 (dk_at dksX2_ofOne_3 0 rfl rfl)
theorem dX2_ofOne_53 : decode cX2_ofOne 53 = .ok (.ireturn, 1) := dk_172 (dk_at dksX2_ofOne_3 3 rfl rfl)
abbrev cX2_lotsOf : ByteArray := prog_4_method_38_code
def yX2_lotsOf : MethodName := ⟨RX2, "lotsOf", "(I)I"⟩
def dkwX2_lotsOf_1 : List UInt8 := [167, 0, 4, 3, 128, 61, 132, 3, 1, 167, 255, 227, 28, 172]
abbrev dktX2_lotsOf_1 : List UInt8 := dkwX2_lotsOf_1 ++ []
def dkwX2_lotsOf_0 : List UInt8 := [3, 61, 3, 62, 29, 16, 8, 162, 0, 29, 28, 42, 180, 0, 22, 29, 46, 27, 160, 0, 9, 4, 29, 120]
abbrev dktX2_lotsOf_0 : List UInt8 := dkwX2_lotsOf_0 ++ dktX2_lotsOf_1
theorem dksX2_lotsOf_0 : cX2_lotsOf.data.toList.drop 0 = dktX2_lotsOf_0 := by decide +kernel
theorem dksX2_lotsOf_1 : cX2_lotsOf.data.toList.drop 24 = dktX2_lotsOf_1 := dk_seg dksX2_lotsOf_0 24 rfl rfl
theorem dX2_lotsOf_0 : decode cX2_lotsOf 0 = .ok (.iconst 0, 1) := dk_3 (dk_at dksX2_lotsOf_0 0 rfl rfl)
theorem dX2_lotsOf_1 : decode cX2_lotsOf 1 = .ok (.istore_n 2, 1) := dk_61 (dk_at dksX2_lotsOf_0 1 rfl rfl)
theorem dX2_lotsOf_2 : decode cX2_lotsOf 2 = .ok (.iconst 0, 1) := dk_3 (dk_at dksX2_lotsOf_0 2 rfl rfl)
theorem dX2_lotsOf_3 : decode cX2_lotsOf 3 = .ok (.istore_n 3, 1) := dk_62 (dk_at dksX2_lotsOf_0 3 rfl rfl)
theorem dX2_lotsOf_4 : decode cX2_lotsOf 4 = .ok (.iload_n 3, 1) := dk_29 (dk_at dksX2_lotsOf_0 4 rfl rfl)
theorem dX2_lotsOf_5 : decode cX2_lotsOf 5 = .ok (.bipush 8, 2) := dk_16 8 (dk_at dksX2_lotsOf_0 5 rfl rfl)
theorem dX2_lotsOf_7 : decode cX2_lotsOf 7 = .ok (.if_icmp .ge 29, 3) := dk_162 0 29 (dk_at dksX2_lotsOf_0 7 rfl rfl)
theorem dX2_lotsOf_10 : decode cX2_lotsOf 10 = .ok (.iload_n 2, 1) := dk_28 (dk_at dksX2_lotsOf_0 10 rfl rfl)
theorem dX2_lotsOf_11 : decode cX2_lotsOf 11 = .ok (.aload_n 0, 1) := dk_42 (dk_at dksX2_lotsOf_0 11 rfl rfl)
theorem dX2_lotsOf_12 : decode cX2_lotsOf 12 = .ok (.getfield 22, 3) := dk_180 0 22 (dk_at dksX2_lotsOf_0 12 rfl rfl)
theorem dX2_lotsOf_15 : decode cX2_lotsOf 15 = .ok (.iload_n 3, 1) := dk_29 (dk_at dksX2_lotsOf_0 15 rfl rfl)
theorem dX2_lotsOf_16 : decode cX2_lotsOf 16 = .ok (.iaload, 1) := dk_46 (dk_at dksX2_lotsOf_0 16 rfl rfl)
theorem dX2_lotsOf_17 : decode cX2_lotsOf 17 = .ok (.iload_n 1, 1) := dk_27 (dk_at dksX2_lotsOf_0 17 rfl rfl)
theorem dX2_lotsOf_18 : decode cX2_lotsOf 18 = .ok (.if_icmp .ne 9, 3) := dk_160 0 9 (dk_at dksX2_lotsOf_0 18 rfl rfl)
theorem dX2_lotsOf_21 : decode cX2_lotsOf 21 = .ok (.iconst 1, 1) := dk_4 (dk_at dksX2_lotsOf_0 21 rfl rfl)
theorem dX2_lotsOf_22 : decode cX2_lotsOf 22 = .ok (.iload_n 3, 1) := dk_29 (dk_at dksX2_lotsOf_0 22 rfl rfl)
theorem dX2_lotsOf_23 : decode cX2_lotsOf 23 = .ok (.ishl, 1) := dk_120 (dk_at dksX2_lotsOf_0 23 rfl rfl)
theorem dX2_lotsOf_24 : decode cX2_lotsOf 24 = .ok (.goto 4, 3) := dk_167 0 4 (dk_at dksX2_lotsOf_1 0 rfl rfl)
theorem dX2_lotsOf_27 : decode cX2_lotsOf 27 = .ok (.iconst 0, 1) := dk_3 (dk_at dksX2_lotsOf_1 3 rfl rfl)
theorem dX2_lotsOf_28 : decode cX2_lotsOf 28 = .ok (.ior, 1) := dk_128 (dk_at dksX2_lotsOf_1 4 rfl rfl)
theorem dX2_lotsOf_29 : decode cX2_lotsOf 29 = .ok (.istore_n 2, 1) := dk_61 (dk_at dksX2_lotsOf_1 5 rfl rfl)
theorem dX2_lotsOf_30 : decode cX2_lotsOf 30 = .ok (.iinc 3 1, 3) := dk_132 3 1 (dk_at dksX2_lotsOf_1 6 rfl rfl)
theorem dX2_lotsOf_33 : decode cX2_lotsOf 33 = .ok (.goto (-29), 3) := dk_167 255 227 (dk_at dksX2_lotsOf_1 9 rfl rfl)
theorem dX2_lotsOf_36 : decode cX2_lotsOf 36 = .ok (.iload_n 2, 1) := dk_28 (dk_at dksX2_lotsOf_1 12 rfl rfl)
theorem dX2_lotsOf_37 : decode cX2_lotsOf 37 = .ok (.ireturn, 1) := dk_172 (dk_at dksX2_lotsOf_1 13 rfl rfl)
abbrev cX2_owesInAll : ByteArray := prog_4_method_39_code
def yX2_owesInAll : MethodName := ⟨RX2, "owesInAll", "(I)I"⟩
def dkwX2_owesInAll_1 : List UInt8 := [132, 3, 1, 167, 255, 233, 28, 172]
abbrev dktX2_owesInAll_1 : List UInt8 := dkwX2_owesInAll_1 ++ []
def dkwX2_owesInAll_0 : List UInt8 := [3, 61, 3, 62, 29, 16, 6, 162, 0, 23, 28, 42, 180, 0, 16, 16, 6, 27, 104, 29, 96, 46, 96, 61]
abbrev dktX2_owesInAll_0 : List UInt8 := dkwX2_owesInAll_0 ++ dktX2_owesInAll_1
theorem dksX2_owesInAll_0 : cX2_owesInAll.data.toList.drop 0 = dktX2_owesInAll_0 := by decide +kernel
theorem dksX2_owesInAll_1 : cX2_owesInAll.data.toList.drop 24 = dktX2_owesInAll_1 := dk_seg dksX2_owesInAll_0 24 rfl rfl
theorem dX2_owesInAll_0 : decode cX2_owesInAll 0 = .ok (.iconst 0, 1) := dk_3 (dk_at dksX2_owesInAll_0 0 rfl rfl)
theorem dX2_owesInAll_1 : decode cX2_owesInAll 1 = .ok (.istore_n 2, 1) := dk_61 (dk_at dksX2_owesInAll_0 1 rfl rfl)
theorem dX2_owesInAll_2 : decode cX2_owesInAll 2 = .ok (.iconst 0, 1) := dk_3 (dk_at dksX2_owesInAll_0 2 rfl rfl)
theorem dX2_owesInAll_3 : decode cX2_owesInAll 3 = .ok (.istore_n 3, 1) := dk_62 (dk_at dksX2_owesInAll_0 3 rfl rfl)
theorem dX2_owesInAll_4 : decode cX2_owesInAll 4 = .ok (.iload_n 3, 1) := dk_29 (dk_at dksX2_owesInAll_0 4 rfl rfl)
theorem dX2_owesInAll_5 : decode cX2_owesInAll 5 = .ok (.bipush 6, 2) := dk_16 6 (dk_at dksX2_owesInAll_0 5 rfl rfl)
theorem dX2_owesInAll_7 : decode cX2_owesInAll 7 = .ok (.if_icmp .ge 23, 3) := dk_162 0 23 (dk_at dksX2_owesInAll_0 7 rfl rfl)
theorem dX2_owesInAll_10 : decode cX2_owesInAll 10 = .ok (.iload_n 2, 1) := dk_28 (dk_at dksX2_owesInAll_0 10 rfl rfl)
theorem dX2_owesInAll_11 : decode cX2_owesInAll 11 = .ok (.aload_n 0, 1) := dk_42 (dk_at dksX2_owesInAll_0 11 rfl rfl)
theorem dX2_owesInAll_12 : decode cX2_owesInAll 12 = .ok (.getfield 16, 3) := dk_180 0 16 (dk_at dksX2_owesInAll_0 12 rfl rfl)
theorem dX2_owesInAll_15 : decode cX2_owesInAll 15 = .ok (.bipush 6, 2) := dk_16 6 (dk_at dksX2_owesInAll_0 15 rfl rfl)
theorem dX2_owesInAll_17 : decode cX2_owesInAll 17 = .ok (.iload_n 1, 1) := dk_27 (dk_at dksX2_owesInAll_0 17 rfl rfl)
theorem dX2_owesInAll_18 : decode cX2_owesInAll 18 = .ok (.imul, 1) := dk_104 (dk_at dksX2_owesInAll_0 18 rfl rfl)
theorem dX2_owesInAll_19 : decode cX2_owesInAll 19 = .ok (.iload_n 3, 1) := dk_29 (dk_at dksX2_owesInAll_0 19 rfl rfl)
theorem dX2_owesInAll_20 : decode cX2_owesInAll 20 = .ok (.iadd, 1) := dk_96 (dk_at dksX2_owesInAll_0 20 rfl rfl)
theorem dX2_owesInAll_21 : decode cX2_owesInAll 21 = .ok (.iaload, 1) := dk_46 (dk_at dksX2_owesInAll_0 21 rfl rfl)
theorem dX2_owesInAll_22 : decode cX2_owesInAll 22 = .ok (.iadd, 1) := dk_96 (dk_at dksX2_owesInAll_0 22 rfl rfl)
theorem dX2_owesInAll_23 : decode cX2_owesInAll 23 = .ok (.istore_n 2, 1) := dk_61 (dk_at dksX2_owesInAll_0 23 rfl rfl)
theorem dX2_owesInAll_24 : decode cX2_owesInAll 24 = .ok (.iinc 3 1, 3) := dk_132 3 1 (dk_at dksX2_owesInAll_1 0 rfl rfl)
theorem dX2_owesInAll_27 : decode cX2_owesInAll 27 = .ok (.goto (-23), 3) := dk_167 255 233 (dk_at dksX2_owesInAll_1 3 rfl rfl)
theorem dX2_owesInAll_30 : decode cX2_owesInAll 30 = .ok (.iload_n 2, 1) := dk_28 (dk_at dksX2_owesInAll_1 6 rfl rfl)
theorem dX2_owesInAll_31 : decode cX2_owesInAll 31 = .ok (.ireturn, 1) := dk_172 (dk_at dksX2_owesInAll_1 7 rfl rfl)
abbrev cX2_total : ByteArray := prog_4_method_43_code
def yX2_total : MethodName := ⟨RX2, "total", "(I)I"⟩
def dkwX2_total_1 : List UInt8 := [159, 0, 7, 28, 167, 0, 8, 42, 27, 182, 0, 240, 182, 0, 226, 172]
abbrev dktX2_total_1 : List UInt8 := dkwX2_total_1 ++ []
def dkwX2_total_0 : List UInt8 := [27, 133, 9, 20, 0, 78, 184, 0, 80, 154, 0, 6, 16, 254, 172, 42, 182, 0, 223, 61, 42, 28, 16, 250]
abbrev dktX2_total_0 : List UInt8 := dkwX2_total_0 ++ dktX2_total_1
theorem dksX2_total_0 : cX2_total.data.toList.drop 0 = dktX2_total_0 := by decide +kernel
theorem dksX2_total_1 : cX2_total.data.toList.drop 24 = dktX2_total_1 := dk_seg dksX2_total_0 24 rfl rfl
theorem dX2_total_0 : decode cX2_total 0 = .ok (.iload_n 1, 1) := dk_27 (dk_at dksX2_total_0 0 rfl rfl)
theorem dX2_total_1 : decode cX2_total 1 = .ok (.i2l, 1) := dk_133 (dk_at dksX2_total_0 1 rfl rfl)
theorem dX2_total_2 : decode cX2_total 2 = .ok (.lconst 0, 1) := dk_9 (dk_at dksX2_total_0 2 rfl rfl)
theorem dX2_total_3 : decode cX2_total 3 = .ok (.ldc2_w 78, 3) := dk_20 0 78 (dk_at dksX2_total_0 3 rfl rfl)
theorem dX2_total_6 : decode cX2_total 6 = .ok (.invokestatic 80, 3) := dk_184 0 80 (dk_at dksX2_total_0 6 rfl rfl)
theorem dX2_total_9 : decode cX2_total 9 = .ok (.ifCond .ne 6, 3) := dk_154 0 6 (dk_at dksX2_total_0 9 rfl rfl)
theorem dX2_total_12 : decode cX2_total 12 = .ok (.bipush (-2), 2) := dk_16 254 (dk_at dksX2_total_0 12 rfl rfl)
theorem dX2_total_14 : decode cX2_total 14 = .ok (.ireturn, 1) := dk_172 (dk_at dksX2_total_0 14 rfl rfl)
theorem dX2_total_15 : decode cX2_total 15 = .ok (.aload_n 0, 1) := dk_42 (dk_at dksX2_total_0 15 rfl rfl)
theorem dX2_total_16 : decode cX2_total 16 = .ok (.invokevirtual 223, 3) := dk_182 0 223 (dk_at dksX2_total_0 16 rfl rfl)
theorem dX2_total_19 : decode cX2_total 19 = .ok (.istore_n 2, 1) := dk_61 (dk_at dksX2_total_0 19 rfl rfl)
theorem dX2_total_20 : decode cX2_total 20 = .ok (.aload_n 0, 1) := dk_42 (dk_at dksX2_total_0 20 rfl rfl)
theorem dX2_total_21 : decode cX2_total 21 = .ok (.iload_n 2, 1) := dk_28 (dk_at dksX2_total_0 21 rfl rfl)
theorem dX2_total_22 : decode cX2_total 22 = .ok (.bipush (-6), 2) := dk_16 250 (dk_at dksX2_total_0 22 rfl rfl)
theorem dX2_total_24 : decode cX2_total 24 = .ok (.if_icmp .eq 7, 3) := dk_159 0 7 (dk_at dksX2_total_1 0 rfl rfl)
theorem dX2_total_27 : decode cX2_total 27 = .ok (.iload_n 2, 1) := dk_28 (dk_at dksX2_total_1 3 rfl rfl)
theorem dX2_total_28 : decode cX2_total 28 = .ok (.goto 8, 3) := dk_167 0 8 (dk_at dksX2_total_1 4 rfl rfl)
theorem dX2_total_31 : decode cX2_total 31 = .ok (.aload_n 0, 1) := dk_42 (dk_at dksX2_total_1 7 rfl rfl)
theorem dX2_total_32 : decode cX2_total 32 = .ok (.iload_n 1, 1) := dk_27 (dk_at dksX2_total_1 8 rfl rfl)
theorem dX2_total_33 : decode cX2_total 33 = .ok (.invokevirtual 240, 3) := dk_182 0 240 (dk_at dksX2_total_1 9 rfl rfl)
theorem dX2_total_36 : decode cX2_total 36 = .ok (.invokevirtual 226, 3) := dk_182 0 226 (dk_at dksX2_total_1 12 rfl rfl)
theorem dX2_total_39 : decode cX2_total 39 = .ok (.ireturn, 1) := dk_172 (dk_at dksX2_total_1 15 rfl rfl)
abbrev cX2_ofAll : ByteArray := prog_4_method_42_code
def yX2_ofAll : MethodName := ⟨RX2, "ofAll", "(I)I"⟩
def dkwX2_ofAll_3 : List UInt8 := [172, 42, 180, 0, 180, 172]
abbrev dktX2_ofAll_3 : List UInt8 := dkwX2_ofAll_3 ++ []
def dkwX2_ofAll_2 : List UInt8 := [42, 182, 0, 157, 172, 42, 182, 0, 153, 172, 42, 182, 0, 164, 172, 42, 180, 0, 183, 172, 42, 180, 0, 102]
abbrev dktX2_ofAll_2 : List UInt8 := dkwX2_ofAll_2 ++ dktX2_ofAll_3
def dkwX2_ofAll_1 : List UInt8 := [170, 0, 0, 0, 0, 0, 60, 0, 0, 0, 0, 0, 0, 0, 4, 0, 0, 0, 35, 0, 0, 0, 40, 0, 0, 0, 45, 0, 0, 0, 50, 0, 0, 0, 55]
abbrev dktX2_ofAll_1 : List UInt8 := dkwX2_ofAll_1 ++ dktX2_ofAll_2
def dkwX2_ofAll_0 : List UInt8 := [27]
abbrev dktX2_ofAll_0 : List UInt8 := dkwX2_ofAll_0 ++ dktX2_ofAll_1
theorem dksX2_ofAll_0 : cX2_ofAll.data.toList.drop 0 = dktX2_ofAll_0 := by decide +kernel
theorem dksX2_ofAll_1 : cX2_ofAll.data.toList.drop 1 = dktX2_ofAll_1 := dk_seg dksX2_ofAll_0 1 rfl rfl
theorem dksX2_ofAll_2 : cX2_ofAll.data.toList.drop 36 = dktX2_ofAll_2 := dk_seg dksX2_ofAll_1 35 rfl rfl
theorem dksX2_ofAll_3 : cX2_ofAll.data.toList.drop 60 = dktX2_ofAll_3 := dk_seg dksX2_ofAll_2 24 rfl rfl
theorem dX2_ofAll_0 : decode cX2_ofAll 0 = .ok (.iload_n 1, 1) := dk_27 (dk_at dksX2_ofAll_0 0 rfl rfl)
theorem dX2_ofAll_1 : decode cX2_ofAll 1 = .ok (.tableswitch 60 0 4 #[35, 40, 45, 50, 55], 35) := by decide +kernel
theorem dX2_ofAll_36 : decode cX2_ofAll 36 = .ok (.aload_n 0, 1) := dk_42 (dk_at dksX2_ofAll_2 0 rfl rfl)
theorem dX2_ofAll_37 : decode cX2_ofAll 37 = .ok (.invokevirtual 157, 3) := dk_182 0 157 (dk_at dksX2_ofAll_2 1 rfl rfl)
theorem dX2_ofAll_40 : decode cX2_ofAll 40 = .ok (.ireturn, 1) := dk_172 (dk_at dksX2_ofAll_2 4 rfl rfl)
theorem dX2_ofAll_41 : decode cX2_ofAll 41 = .ok (.aload_n 0, 1) := dk_42 (dk_at dksX2_ofAll_2 5 rfl rfl)
theorem dX2_ofAll_42 : decode cX2_ofAll 42 = .ok (.invokevirtual 153, 3) := dk_182 0 153 (dk_at dksX2_ofAll_2 6 rfl rfl)
theorem dX2_ofAll_45 : decode cX2_ofAll 45 = .ok (.ireturn, 1) := dk_172 (dk_at dksX2_ofAll_2 9 rfl rfl)
theorem dX2_ofAll_46 : decode cX2_ofAll 46 = .ok (.aload_n 0, 1) := dk_42 (dk_at dksX2_ofAll_2 10 rfl rfl)
theorem dX2_ofAll_47 : decode cX2_ofAll 47 = .ok (.invokevirtual 164, 3) := dk_182 0 164 (dk_at dksX2_ofAll_2 11 rfl rfl)
theorem dX2_ofAll_50 : decode cX2_ofAll 50 = .ok (.ireturn, 1) := dk_172 (dk_at dksX2_ofAll_2 14 rfl rfl)
theorem dX2_ofAll_51 : decode cX2_ofAll 51 = .ok (.aload_n 0, 1) := dk_42 (dk_at dksX2_ofAll_2 15 rfl rfl)
theorem dX2_ofAll_52 : decode cX2_ofAll 52 = .ok (.getfield 183, 3) := dk_180 0 183 (dk_at dksX2_ofAll_2 16 rfl rfl)
theorem dX2_ofAll_55 : decode cX2_ofAll 55 = .ok (.ireturn, 1) := dk_172 (dk_at dksX2_ofAll_2 19 rfl rfl)
theorem dX2_ofAll_56 : decode cX2_ofAll 56 = .ok (.aload_n 0, 1) := dk_42 (dk_at dksX2_ofAll_2 20 rfl rfl)
theorem dX2_ofAll_57 : decode cX2_ofAll 57 = .ok (.getfield 102, 3) := dk_180 0 102 (dk_at dksX2_ofAll_2 21 rfl rfl)
theorem dX2_ofAll_60 : decode cX2_ofAll 60 = .ok (.ireturn, 1) := dk_172 (dk_at dksX2_ofAll_3 0 rfl rfl)
theorem dX2_ofAll_61 : decode cX2_ofAll 61 = .ok (.aload_n 0, 1) := dk_42 (dk_at dksX2_ofAll_3 1 rfl rfl)
theorem dX2_ofAll_62 : decode cX2_ofAll 62 = .ok (.getfield 180, 3) := dk_180 0 180 (dk_at dksX2_ofAll_3 2 rfl rfl)
theorem dX2_ofAll_65 : decode cX2_ofAll 65 = .ok (.ireturn, 1) := dk_172 (dk_at dksX2_ofAll_3 5 rfl rfl)
abbrev cX2_fell : ByteArray := prog_4_method_44_code
def yX2_fell : MethodName := ⟨RX2, "fell", "(I)I"⟩
def dkwX2_fell_2 : List UInt8 := [27, 162, 0, 5, 29, 172, 132, 3, 1, 167, 255, 233, 16, 250, 172]
abbrev dktX2_fell_2 : List UInt8 := dkwX2_fell_2 ++ []
def dkwX2_fell_1 : List UInt8 := [28, 16, 250, 159, 0, 5, 28, 172, 3, 62, 29, 42, 180, 0, 202, 162, 0, 21, 42, 180, 0, 49, 29, 46]
abbrev dktX2_fell_1 : List UInt8 := dkwX2_fell_1 ++ dktX2_fell_2
def dkwX2_fell_0 : List UInt8 := [27, 133, 9, 20, 0, 151, 184, 0, 80, 154, 0, 6, 16, 254, 172, 42, 42, 182, 0, 223, 182, 0, 226, 61]
abbrev dktX2_fell_0 : List UInt8 := dkwX2_fell_0 ++ dktX2_fell_1
theorem dksX2_fell_0 : cX2_fell.data.toList.drop 0 = dktX2_fell_0 := by decide +kernel
theorem dksX2_fell_1 : cX2_fell.data.toList.drop 24 = dktX2_fell_1 := dk_seg dksX2_fell_0 24 rfl rfl
theorem dksX2_fell_2 : cX2_fell.data.toList.drop 48 = dktX2_fell_2 := dk_seg dksX2_fell_1 24 rfl rfl
theorem dX2_fell_0 : decode cX2_fell 0 = .ok (.iload_n 1, 1) := dk_27 (dk_at dksX2_fell_0 0 rfl rfl)
theorem dX2_fell_1 : decode cX2_fell 1 = .ok (.i2l, 1) := dk_133 (dk_at dksX2_fell_0 1 rfl rfl)
theorem dX2_fell_2 : decode cX2_fell 2 = .ok (.lconst 0, 1) := dk_9 (dk_at dksX2_fell_0 2 rfl rfl)
theorem dX2_fell_3 : decode cX2_fell 3 = .ok (.ldc2_w 151, 3) := dk_20 0 151 (dk_at dksX2_fell_0 3 rfl rfl)
theorem dX2_fell_6 : decode cX2_fell 6 = .ok (.invokestatic 80, 3) := dk_184 0 80 (dk_at dksX2_fell_0 6 rfl rfl)
theorem dX2_fell_9 : decode cX2_fell 9 = .ok (.ifCond .ne 6, 3) := dk_154 0 6 (dk_at dksX2_fell_0 9 rfl rfl)
theorem dX2_fell_12 : decode cX2_fell 12 = .ok (.bipush (-2), 2) := dk_16 254 (dk_at dksX2_fell_0 12 rfl rfl)
theorem dX2_fell_14 : decode cX2_fell 14 = .ok (.ireturn, 1) := dk_172 (dk_at dksX2_fell_0 14 rfl rfl)
theorem dX2_fell_15 : decode cX2_fell 15 = .ok (.aload_n 0, 1) := dk_42 (dk_at dksX2_fell_0 15 rfl rfl)
theorem dX2_fell_16 : decode cX2_fell 16 = .ok (.aload_n 0, 1) := dk_42 (dk_at dksX2_fell_0 16 rfl rfl)
theorem dX2_fell_17 : decode cX2_fell 17 = .ok (.invokevirtual 223, 3) := dk_182 0 223 (dk_at dksX2_fell_0 17 rfl rfl)
theorem dX2_fell_20 : decode cX2_fell 20 = .ok (.invokevirtual 226, 3) := dk_182 0 226 (dk_at dksX2_fell_0 20 rfl rfl)
theorem dX2_fell_23 : decode cX2_fell 23 = .ok (.istore_n 2, 1) := dk_61 (dk_at dksX2_fell_0 23 rfl rfl)
theorem dX2_fell_24 : decode cX2_fell 24 = .ok (.iload_n 2, 1) := dk_28 (dk_at dksX2_fell_1 0 rfl rfl)
theorem dX2_fell_25 : decode cX2_fell 25 = .ok (.bipush (-6), 2) := dk_16 250 (dk_at dksX2_fell_1 1 rfl rfl)
theorem dX2_fell_27 : decode cX2_fell 27 = .ok (.if_icmp .eq 5, 3) := dk_159 0 5 (dk_at dksX2_fell_1 3 rfl rfl)
theorem dX2_fell_30 : decode cX2_fell 30 = .ok (.iload_n 2, 1) := dk_28 (dk_at dksX2_fell_1 6 rfl rfl)
theorem dX2_fell_31 : decode cX2_fell 31 = .ok (.ireturn, 1) := dk_172 (dk_at dksX2_fell_1 7 rfl rfl)
theorem dX2_fell_32 : decode cX2_fell 32 = .ok (.iconst 0, 1) := dk_3 (dk_at dksX2_fell_1 8 rfl rfl)
theorem dX2_fell_33 : decode cX2_fell 33 = .ok (.istore_n 3, 1) := dk_62 (dk_at dksX2_fell_1 9 rfl rfl)
theorem dX2_fell_34 : decode cX2_fell 34 = .ok (.iload_n 3, 1) := dk_29 (dk_at dksX2_fell_1 10 rfl rfl)
theorem dX2_fell_35 : decode cX2_fell 35 = .ok (.aload_n 0, 1) := dk_42 (dk_at dksX2_fell_1 11 rfl rfl)
theorem dX2_fell_36 : decode cX2_fell 36 = .ok (.getfield 202, 3) := dk_180 0 202 (dk_at dksX2_fell_1 12 rfl rfl)
theorem dX2_fell_39 : decode cX2_fell 39 = .ok (.if_icmp .ge 21, 3) := dk_162 0 21 (dk_at dksX2_fell_1 15 rfl rfl)
theorem dX2_fell_42 : decode cX2_fell 42 = .ok (.aload_n 0, 1) := dk_42 (dk_at dksX2_fell_1 18 rfl rfl)
theorem dX2_fell_43 : decode cX2_fell 43 = .ok (.getfield 49, 3) := dk_180 0 49 (dk_at dksX2_fell_1 19 rfl rfl)
theorem dX2_fell_46 : decode cX2_fell 46 = .ok (.iload_n 3, 1) := dk_29 (dk_at dksX2_fell_1 22 rfl rfl)
theorem dX2_fell_47 : decode cX2_fell 47 = .ok (.iaload, 1) := dk_46 (dk_at dksX2_fell_1 23 rfl rfl)
theorem dX2_fell_48 : decode cX2_fell 48 = .ok (.iload_n 1, 1) := dk_27 (dk_at dksX2_fell_2 0 rfl rfl)
theorem dX2_fell_49 : decode cX2_fell 49 = .ok (.if_icmp .ge 5, 3) := dk_162 0 5 (dk_at dksX2_fell_2 1 rfl rfl)
theorem dX2_fell_52 : decode cX2_fell 52 = .ok (.iload_n 3, 1) := dk_29 (dk_at dksX2_fell_2 4 rfl rfl)
theorem dX2_fell_53 : decode cX2_fell 53 = .ok (.ireturn, 1) := dk_172 (dk_at dksX2_fell_2 5 rfl rfl)
theorem dX2_fell_54 : decode cX2_fell 54 = .ok (.iinc 3 1, 3) := dk_132 3 1 (dk_at dksX2_fell_2 6 rfl rfl)
theorem dX2_fell_57 : decode cX2_fell 57 = .ok (.goto (-23), 3) := dk_167 255 233 (dk_at dksX2_fell_2 9 rfl rfl)
theorem dX2_fell_60 : decode cX2_fell 60 = .ok (.bipush (-6), 2) := dk_16 250 (dk_at dksX2_fell_2 12 rfl rfl)
theorem dX2_fell_62 : decode cX2_fell 62 = .ok (.ireturn, 1) := dk_172 (dk_at dksX2_fell_2 14 rfl rfl)
abbrev cX2_done : ByteArray := prog_4_method_45_code
def yX2_done : MethodName := ⟨RX2, "done", "()I"⟩
def dkwX2_done_1 : List UInt8 := [180, 0, 112, 172]
abbrev dktX2_done_1 : List UInt8 := dkwX2_done_1 ++ []
def dkwX2_done_0 : List UInt8 := [42, 182, 0, 223, 60, 27, 16, 250, 159, 0, 9, 42, 27, 182, 0, 226, 172, 42, 3, 181, 0, 109, 42]
abbrev dktX2_done_0 : List UInt8 := dkwX2_done_0 ++ dktX2_done_1
theorem dksX2_done_0 : cX2_done.data.toList.drop 0 = dktX2_done_0 := by decide +kernel
theorem dksX2_done_1 : cX2_done.data.toList.drop 23 = dktX2_done_1 := dk_seg dksX2_done_0 23 rfl rfl
theorem dX2_done_0 : decode cX2_done 0 = .ok (.aload_n 0, 1) := dk_42 (dk_at dksX2_done_0 0 rfl rfl)
theorem dX2_done_1 : decode cX2_done 1 = .ok (.invokevirtual 223, 3) := dk_182 0 223 (dk_at dksX2_done_0 1 rfl rfl)
theorem dX2_done_4 : decode cX2_done 4 = .ok (.istore_n 1, 1) := dk_60 (dk_at dksX2_done_0 4 rfl rfl)
theorem dX2_done_5 : decode cX2_done 5 = .ok (.iload_n 1, 1) := dk_27 (dk_at dksX2_done_0 5 rfl rfl)
theorem dX2_done_6 : decode cX2_done 6 = .ok (.bipush (-6), 2) := dk_16 250 (dk_at dksX2_done_0 6 rfl rfl)
theorem dX2_done_8 : decode cX2_done 8 = .ok (.if_icmp .eq 9, 3) := dk_159 0 9 (dk_at dksX2_done_0 8 rfl rfl)
theorem dX2_done_11 : decode cX2_done 11 = .ok (.aload_n 0, 1) := dk_42 (dk_at dksX2_done_0 11 rfl rfl)
theorem dX2_done_12 : decode cX2_done 12 = .ok (.iload_n 1, 1) := dk_27 (dk_at dksX2_done_0 12 rfl rfl)
theorem dX2_done_13 : decode cX2_done 13 = .ok (.invokevirtual 226, 3) := dk_182 0 226 (dk_at dksX2_done_0 13 rfl rfl)
theorem dX2_done_16 : decode cX2_done 16 = .ok (.ireturn, 1) := dk_172 (dk_at dksX2_done_0 16 rfl rfl)
theorem dX2_done_17 : decode cX2_done 17 = .ok (.aload_n 0, 1) := dk_42 (dk_at dksX2_done_0 17 rfl rfl)
theorem dX2_done_18 : decode cX2_done 18 = .ok (.iconst 0, 1) := dk_3 (dk_at dksX2_done_0 18 rfl rfl)
theorem dX2_done_19 : decode cX2_done 19 = .ok (.putfield 109, 3) := dk_181 0 109 (dk_at dksX2_done_0 19 rfl rfl)
theorem dX2_done_22 : decode cX2_done 22 = .ok (.aload_n 0, 1) := dk_42 (dk_at dksX2_done_0 22 rfl rfl)
theorem dX2_done_23 : decode cX2_done 23 = .ok (.getfield 112, 3) := dk_180 0 112 (dk_at dksX2_done_1 0 rfl rfl)
theorem dX2_done_26 : decode cX2_done 26 = .ok (.ireturn, 1) := dk_172 (dk_at dksX2_done_1 3 rfl rfl)
abbrev cX2_struck : ByteArray := prog_4_method_48_code
def yX2_struck : MethodName := ⟨RX2, "struck", "(I)I"⟩
def dkwX2_struck_6 : List UInt8 := [46, 100, 172]
abbrev dktX2_struck_6 : List UInt8 := dkwX2_struck_6 ++ []
def dkwX2_struck_5 : List UInt8 := [180, 0, 55, 29, 42, 29, 182, 0, 246, 79, 132, 3, 1, 167, 255, 236, 16, 6, 42, 180, 0, 55, 16, 63]
abbrev dktX2_struck_5 : List UInt8 := dkwX2_struck_5 ++ dktX2_struck_6
def dkwX2_struck_4 : List UInt8 := [61, 132, 3, 1, 167, 255, 176, 27, 4, 160, 0, 5, 28, 172, 4, 62, 29, 16, 64, 162, 0, 20, 42]
abbrev dktX2_struck_4 : List UInt8 := dkwX2_struck_4 ++ dktX2_struck_5
def dkwX2_struck_3 : List UInt8 := [167, 255, 225, 28, 42, 180, 0, 52, 29, 46, 158, 0, 12, 42, 180, 0, 52, 29, 46, 167, 0, 4, 3, 96]
abbrev dktX2_struck_3 : List UInt8 := dkwX2_struck_3 ++ dktX2_struck_4
def dkwX2_struck_2 : List UInt8 := [180, 0, 52, 29, 92, 46, 42, 180, 0, 16, 16, 6, 21, 4, 104, 29, 96, 46, 96, 79, 132, 4, 1]
abbrev dktX2_struck_2 : List UInt8 := dkwX2_struck_2 ++ dktX2_struck_3
def dkwX2_struck_1 : List UInt8 := [180, 0, 52, 29, 42, 29, 182, 0, 232, 116, 79, 3, 54, 4, 21, 4, 16, 6, 162, 0, 30, 42]
abbrev dktX2_struck_1 : List UInt8 := dkwX2_struck_1 ++ dktX2_struck_2
def dkwX2_struck_0 : List UInt8 := [27, 133, 9, 10, 184, 0, 80, 154, 0, 6, 16, 254, 172, 3, 61, 3, 62, 29, 16, 6, 162, 0, 80, 42]
abbrev dktX2_struck_0 : List UInt8 := dkwX2_struck_0 ++ dktX2_struck_1
theorem dksX2_struck_0 : cX2_struck.data.toList.drop 0 = dktX2_struck_0 := by decide +kernel
theorem dksX2_struck_1 : cX2_struck.data.toList.drop 24 = dktX2_struck_1 := dk_seg dksX2_struck_0 24 rfl rfl
theorem dksX2_struck_2 : cX2_struck.data.toList.drop 46 = dktX2_struck_2 := dk_seg dksX2_struck_1 22 rfl rfl
theorem dksX2_struck_3 : cX2_struck.data.toList.drop 69 = dktX2_struck_3 := dk_seg dksX2_struck_2 23 rfl rfl
theorem dksX2_struck_4 : cX2_struck.data.toList.drop 93 = dktX2_struck_4 := dk_seg dksX2_struck_3 24 rfl rfl
theorem dksX2_struck_5 : cX2_struck.data.toList.drop 116 = dktX2_struck_5 := dk_seg dksX2_struck_4 23 rfl rfl
theorem dksX2_struck_6 : cX2_struck.data.toList.drop 140 = dktX2_struck_6 := dk_seg dksX2_struck_5 24 rfl rfl
theorem dX2_struck_0 : decode cX2_struck 0 = .ok (.iload_n 1, 1) := dk_27 (dk_at dksX2_struck_0 0 rfl rfl)
theorem dX2_struck_1 : decode cX2_struck 1 = .ok (.i2l, 1) := dk_133 (dk_at dksX2_struck_0 1 rfl rfl)
theorem dX2_struck_2 : decode cX2_struck 2 = .ok (.lconst 0, 1) := dk_9 (dk_at dksX2_struck_0 2 rfl rfl)
theorem dX2_struck_3 : decode cX2_struck 3 = .ok (.lconst 1, 1) := dk_10 (dk_at dksX2_struck_0 3 rfl rfl)
theorem dX2_struck_4 : decode cX2_struck 4 = .ok (.invokestatic 80, 3) := dk_184 0 80 (dk_at dksX2_struck_0 4 rfl rfl)
theorem dX2_struck_7 : decode cX2_struck 7 = .ok (.ifCond .ne 6, 3) := dk_154 0 6 (dk_at dksX2_struck_0 7 rfl rfl)
theorem dX2_struck_10 : decode cX2_struck 10 = .ok (.bipush (-2), 2) := dk_16 254 (dk_at dksX2_struck_0 10 rfl rfl)
theorem dX2_struck_12 : decode cX2_struck 12 = .ok (.ireturn, 1) := dk_172 (dk_at dksX2_struck_0 12 rfl rfl)
theorem dX2_struck_13 : decode cX2_struck 13 = .ok (.iconst 0, 1) := dk_3 (dk_at dksX2_struck_0 13 rfl rfl)
theorem dX2_struck_14 : decode cX2_struck 14 = .ok (.istore_n 2, 1) := dk_61 (dk_at dksX2_struck_0 14 rfl rfl)
theorem dX2_struck_15 : decode cX2_struck 15 = .ok (.iconst 0, 1) := dk_3 (dk_at dksX2_struck_0 15 rfl rfl)
theorem dX2_struck_16 : decode cX2_struck 16 = .ok (.istore_n 3, 1) := dk_62 (dk_at dksX2_struck_0 16 rfl rfl)
theorem dX2_struck_17 : decode cX2_struck 17 = .ok (.iload_n 3, 1) := dk_29 (dk_at dksX2_struck_0 17 rfl rfl)
theorem dX2_struck_18 : decode cX2_struck 18 = .ok (.bipush 6, 2) := dk_16 6 (dk_at dksX2_struck_0 18 rfl rfl)
theorem dX2_struck_20 : decode cX2_struck 20 = .ok (.if_icmp .ge 80, 3) := dk_162 0 80 (dk_at dksX2_struck_0 20 rfl rfl)
theorem dX2_struck_23 : decode cX2_struck 23 = .ok (.aload_n 0, 1) := dk_42 (dk_at dksX2_struck_0 23 rfl rfl)
theorem dX2_struck_24 : decode cX2_struck 24 = .ok (.getfield 52, 3) := dk_180 0 52 (dk_at dksX2_struck_1 0 rfl rfl)
theorem dX2_struck_27 : decode cX2_struck 27 = .ok (.iload_n 3, 1) := dk_29 (dk_at dksX2_struck_1 3 rfl rfl)
theorem dX2_struck_28 : decode cX2_struck 28 = .ok (.aload_n 0, 1) := dk_42 (dk_at dksX2_struck_1 4 rfl rfl)
theorem dX2_struck_29 : decode cX2_struck 29 = .ok (.iload_n 3, 1) := dk_29 (dk_at dksX2_struck_1 5 rfl rfl)
theorem dX2_struck_30 : decode cX2_struck 30 = .ok (.invokevirtual 232, 3) := dk_182 0 232 (dk_at dksX2_struck_1 6 rfl rfl)
theorem dX2_struck_33 : decode cX2_struck 33 = .ok (.ineg, 1) := dk_116 (dk_at dksX2_struck_1 9 rfl rfl)
theorem dX2_struck_34 : decode cX2_struck 34 = .ok (.iastore, 1) := dk_79 (dk_at dksX2_struck_1 10 rfl rfl)
theorem dX2_struck_35 : decode cX2_struck 35 = .ok (.iconst 0, 1) := dk_3 (dk_at dksX2_struck_1 11 rfl rfl)
theorem dX2_struck_36 : decode cX2_struck 36 = .ok (.istore 4, 2) := dk_54 4 (dk_at dksX2_struck_1 12 rfl rfl)
theorem dX2_struck_38 : decode cX2_struck 38 = .ok (.iload 4, 2) := dk_21 4 (dk_at dksX2_struck_1 14 rfl rfl)
theorem dX2_struck_40 : decode cX2_struck 40 = .ok (.bipush 6, 2) := dk_16 6 (dk_at dksX2_struck_1 16 rfl rfl)
theorem dX2_struck_42 : decode cX2_struck 42 = .ok (.if_icmp .ge 30, 3) := dk_162 0 30 (dk_at dksX2_struck_1 18 rfl rfl)
theorem dX2_struck_45 : decode cX2_struck 45 = .ok (.aload_n 0, 1) := dk_42 (dk_at dksX2_struck_1 21 rfl rfl)
theorem dX2_struck_46 : decode cX2_struck 46 = .ok (.getfield 52, 3) := dk_180 0 52 (dk_at dksX2_struck_2 0 rfl rfl)
theorem dX2_struck_49 : decode cX2_struck 49 = .ok (.iload_n 3, 1) := dk_29 (dk_at dksX2_struck_2 3 rfl rfl)
theorem dX2_struck_50 : decode cX2_struck 50 = .ok (.dup2, 1) := dk_92 (dk_at dksX2_struck_2 4 rfl rfl)
theorem dX2_struck_51 : decode cX2_struck 51 = .ok (.iaload, 1) := dk_46 (dk_at dksX2_struck_2 5 rfl rfl)
theorem dX2_struck_52 : decode cX2_struck 52 = .ok (.aload_n 0, 1) := dk_42 (dk_at dksX2_struck_2 6 rfl rfl)
theorem dX2_struck_53 : decode cX2_struck 53 = .ok (.getfield 16, 3) := dk_180 0 16 (dk_at dksX2_struck_2 7 rfl rfl)
theorem dX2_struck_56 : decode cX2_struck 56 = .ok (.bipush 6, 2) := dk_16 6 (dk_at dksX2_struck_2 10 rfl rfl)
theorem dX2_struck_58 : decode cX2_struck 58 = .ok (.iload 4, 2) := dk_21 4 (dk_at dksX2_struck_2 12 rfl rfl)
theorem dX2_struck_60 : decode cX2_struck 60 = .ok (.imul, 1) := dk_104 (dk_at dksX2_struck_2 14 rfl rfl)
theorem dX2_struck_61 : decode cX2_struck 61 = .ok (.iload_n 3, 1) := dk_29 (dk_at dksX2_struck_2 15 rfl rfl)
theorem dX2_struck_62 : decode cX2_struck 62 = .ok (.iadd, 1) := dk_96 (dk_at dksX2_struck_2 16 rfl rfl)
theorem dX2_struck_63 : decode cX2_struck 63 = .ok (.iaload, 1) := dk_46 (dk_at dksX2_struck_2 17 rfl rfl)
theorem dX2_struck_64 : decode cX2_struck 64 = .ok (.iadd, 1) := dk_96 (dk_at dksX2_struck_2 18 rfl rfl)
theorem dX2_struck_65 : decode cX2_struck 65 = .ok (.iastore, 1) := dk_79 (dk_at dksX2_struck_2 19 rfl rfl)
theorem dX2_struck_66 : decode cX2_struck 66 = .ok (.iinc 4 1, 3) := dk_132 4 1 (dk_at dksX2_struck_2 20 rfl rfl)
theorem dX2_struck_69 : decode cX2_struck 69 = .ok (.goto (-31), 3) := dk_167 255 225 (dk_at dksX2_struck_3 0 rfl rfl)
theorem dX2_struck_72 : decode cX2_struck 72 = .ok (.iload_n 2, 1) := dk_28 (dk_at dksX2_struck_3 3 rfl rfl)
theorem dX2_struck_73 : decode cX2_struck 73 = .ok (.aload_n 0, 1) := dk_42 (dk_at dksX2_struck_3 4 rfl rfl)
theorem dX2_struck_74 : decode cX2_struck 74 = .ok (.getfield 52, 3) := dk_180 0 52 (dk_at dksX2_struck_3 5 rfl rfl)
theorem dX2_struck_77 : decode cX2_struck 77 = .ok (.iload_n 3, 1) := dk_29 (dk_at dksX2_struck_3 8 rfl rfl)
theorem dX2_struck_78 : decode cX2_struck 78 = .ok (.iaload, 1) := dk_46 (dk_at dksX2_struck_3 9 rfl rfl)
theorem dX2_struck_79 : decode cX2_struck 79 = .ok (.ifCond .le 12, 3) := dk_158 0 12 (dk_at dksX2_struck_3 10 rfl rfl)
theorem dX2_struck_82 : decode cX2_struck 82 = .ok (.aload_n 0, 1) := dk_42 (dk_at dksX2_struck_3 13 rfl rfl)
theorem dX2_struck_83 : decode cX2_struck 83 = .ok (.getfield 52, 3) := dk_180 0 52 (dk_at dksX2_struck_3 14 rfl rfl)
theorem dX2_struck_86 : decode cX2_struck 86 = .ok (.iload_n 3, 1) := dk_29 (dk_at dksX2_struck_3 17 rfl rfl)
theorem dX2_struck_87 : decode cX2_struck 87 = .ok (.iaload, 1) := dk_46 (dk_at dksX2_struck_3 18 rfl rfl)
theorem dX2_struck_88 : decode cX2_struck 88 = .ok (.goto 4, 3) := dk_167 0 4 (dk_at dksX2_struck_3 19 rfl rfl)
theorem dX2_struck_91 : decode cX2_struck 91 = .ok (.iconst 0, 1) := dk_3 (dk_at dksX2_struck_3 22 rfl rfl)
theorem dX2_struck_92 : decode cX2_struck 92 = .ok (.iadd, 1) := dk_96 (dk_at dksX2_struck_3 23 rfl rfl)
theorem dX2_struck_93 : decode cX2_struck 93 = .ok (.istore_n 2, 1) := dk_61 (dk_at dksX2_struck_4 0 rfl rfl)
theorem dX2_struck_94 : decode cX2_struck 94 = .ok (.iinc 3 1, 3) := dk_132 3 1 (dk_at dksX2_struck_4 1 rfl rfl)
theorem dX2_struck_97 : decode cX2_struck 97 = .ok (.goto (-80), 3) := dk_167 255 176 (dk_at dksX2_struck_4 4 rfl rfl)
theorem dX2_struck_100 : decode cX2_struck 100 = .ok (.iload_n 1, 1) := dk_27 (dk_at dksX2_struck_4 7 rfl rfl)
theorem dX2_struck_101 : decode cX2_struck 101 = .ok (.iconst 1, 1) := dk_4 (dk_at dksX2_struck_4 8 rfl rfl)
theorem dX2_struck_102 : decode cX2_struck 102 = .ok (.if_icmp .ne 5, 3) := dk_160 0 5 (dk_at dksX2_struck_4 9 rfl rfl)
theorem dX2_struck_105 : decode cX2_struck 105 = .ok (.iload_n 2, 1) := dk_28 (dk_at dksX2_struck_4 12 rfl rfl)
theorem dX2_struck_106 : decode cX2_struck 106 = .ok (.ireturn, 1) := dk_172 (dk_at dksX2_struck_4 13 rfl rfl)
theorem dX2_struck_107 : decode cX2_struck 107 = .ok (.iconst 1, 1) := dk_4 (dk_at dksX2_struck_4 14 rfl rfl)
theorem dX2_struck_108 : decode cX2_struck 108 = .ok (.istore_n 3, 1) := dk_62 (dk_at dksX2_struck_4 15 rfl rfl)
theorem dX2_struck_109 : decode cX2_struck 109 = .ok (.iload_n 3, 1) := dk_29 (dk_at dksX2_struck_4 16 rfl rfl)
theorem dX2_struck_110 : decode cX2_struck 110 = .ok (.bipush 64, 2) := dk_16 64 (dk_at dksX2_struck_4 17 rfl rfl)
theorem dX2_struck_112 : decode cX2_struck 112 = .ok (.if_icmp .ge 20, 3) := dk_162 0 20 (dk_at dksX2_struck_4 19 rfl rfl)
theorem dX2_struck_115 : decode cX2_struck 115 = .ok (.aload_n 0, 1) := dk_42 (dk_at dksX2_struck_4 22 rfl rfl)
theorem dX2_struck_116 : decode cX2_struck 116 = .ok (.getfield 55, 3) := dk_180 0 55 (dk_at dksX2_struck_5 0 rfl rfl)
theorem dX2_struck_119 : decode cX2_struck 119 = .ok (.iload_n 3, 1) := dk_29 (dk_at dksX2_struck_5 3 rfl rfl)
theorem dX2_struck_120 : decode cX2_struck 120 = .ok (.aload_n 0, 1) := dk_42 (dk_at dksX2_struck_5 4 rfl rfl)
theorem dX2_struck_121 : decode cX2_struck 121 = .ok (.iload_n 3, 1) := dk_29 (dk_at dksX2_struck_5 5 rfl rfl)
theorem dX2_struck_122 : decode cX2_struck 122 = .ok (.invokevirtual 246, 3) := dk_182 0 246 (dk_at dksX2_struck_5 6 rfl rfl)
theorem dX2_struck_125 : decode cX2_struck 125 = .ok (.iastore, 1) := dk_79 (dk_at dksX2_struck_5 9 rfl rfl)
theorem dX2_struck_126 : decode cX2_struck 126 = .ok (.iinc 3 1, 3) := dk_132 3 1 (dk_at dksX2_struck_5 10 rfl rfl)
theorem dX2_struck_129 : decode cX2_struck 129 = .ok (.goto (-20), 3) := dk_167 255 236 (dk_at dksX2_struck_5 13 rfl rfl)
theorem dX2_struck_132 : decode cX2_struck 132 = .ok (.bipush 6, 2) := dk_16 6 (dk_at dksX2_struck_5 16 rfl rfl)
theorem dX2_struck_134 : decode cX2_struck 134 = .ok (.aload_n 0, 1) := dk_42 (dk_at dksX2_struck_5 18 rfl rfl)
theorem dX2_struck_135 : decode cX2_struck 135 = .ok (.getfield 55, 3) := dk_180 0 55 (dk_at dksX2_struck_5 19 rfl rfl)
theorem dX2_struck_138 : decode cX2_struck 138 = .ok (.bipush 63, 2) := dk_16 63 (dk_at dksX2_struck_5 22 rfl rfl)
theorem dX2_struck_140 : decode cX2_struck 140 = .ok (.iaload, 1) := dk_46 (dk_at dksX2_struck_6 0 rfl rfl)
theorem dX2_struck_141 : decode cX2_struck 141 = .ok (.isub, 1) := dk_100 (dk_at dksX2_struck_6 1 rfl rfl)
theorem dX2_struck_142 : decode cX2_struck 142 = .ok (.ireturn, 1) := dk_172 (dk_at dksX2_struck_6 2 rfl rfl)
abbrev cX2_mostEven : ByteArray := prog_4_method_47_code
def yX2_mostEven : MethodName := ⟨RX2, "mostEven", "(I)I"⟩
def dkwX2_mostEven_4 : List UInt8 := [21, 5, 167, 0, 4, 28, 61, 132, 3, 1, 167, 255, 169, 28, 172]
abbrev dktX2_mostEven_4 : List UInt8 := dkwX2_mostEven_4 ++ []
def dkwX2_mostEven_3 : List UInt8 := [180, 0, 55, 27, 29, 2, 130, 126, 46, 96, 167, 0, 5, 16, 250, 54, 5, 21, 5, 28, 164, 0, 8]
abbrev dktX2_mostEven_3 : List UInt8 := dkwX2_mostEven_3 ++ dktX2_mostEven_4
def dkwX2_mostEven_2 : List UInt8 := [46, 158, 0, 7, 4, 167, 0, 4, 3, 54, 4, 21, 4, 153, 0, 23, 42, 180, 0, 55, 29, 46, 42]
abbrev dktX2_mostEven_2 : List UInt8 := dkwX2_mostEven_2 ++ dktX2_mostEven_3
def dkwX2_mostEven_1 : List UInt8 := [2, 130, 126, 154, 0, 29, 42, 180, 0, 55, 29, 46, 158, 0, 20, 42, 180, 0, 55, 27, 29, 2, 130, 126]
abbrev dktX2_mostEven_1 : List UInt8 := dkwX2_mostEven_1 ++ dktX2_mostEven_2
def dkwX2_mostEven_0 : List UInt8 := [42, 27, 182, 0, 243, 154, 0, 7, 4, 167, 0, 5, 16, 250, 61, 4, 62, 29, 27, 162, 0, 88, 29, 27]
abbrev dktX2_mostEven_0 : List UInt8 := dkwX2_mostEven_0 ++ dktX2_mostEven_1
theorem dksX2_mostEven_0 : cX2_mostEven.data.toList.drop 0 = dktX2_mostEven_0 := by decide +kernel
theorem dksX2_mostEven_1 : cX2_mostEven.data.toList.drop 24 = dktX2_mostEven_1 := dk_seg dksX2_mostEven_0 24 rfl rfl
theorem dksX2_mostEven_2 : cX2_mostEven.data.toList.drop 48 = dktX2_mostEven_2 := dk_seg dksX2_mostEven_1 24 rfl rfl
theorem dksX2_mostEven_3 : cX2_mostEven.data.toList.drop 71 = dktX2_mostEven_3 := dk_seg dksX2_mostEven_2 23 rfl rfl
theorem dksX2_mostEven_4 : cX2_mostEven.data.toList.drop 94 = dktX2_mostEven_4 := dk_seg dksX2_mostEven_3 23 rfl rfl
theorem dX2_mostEven_0 : decode cX2_mostEven 0 = .ok (.aload_n 0, 1) := dk_42 (dk_at dksX2_mostEven_0 0 rfl rfl)
theorem dX2_mostEven_1 : decode cX2_mostEven 1 = .ok (.iload_n 1, 1) := dk_27 (dk_at dksX2_mostEven_0 1 rfl rfl)
theorem dX2_mostEven_2 : decode cX2_mostEven 2 = .ok (.invokevirtual 243, 3) := dk_182 0 243 (dk_at dksX2_mostEven_0 2 rfl rfl)
theorem dX2_mostEven_5 : decode cX2_mostEven 5 = .ok (.ifCond .ne 7, 3) := dk_154 0 7 (dk_at dksX2_mostEven_0 5 rfl rfl)
theorem dX2_mostEven_8 : decode cX2_mostEven 8 = .ok (.iconst 1, 1) := dk_4 (dk_at dksX2_mostEven_0 8 rfl rfl)
theorem dX2_mostEven_9 : decode cX2_mostEven 9 = .ok (.goto 5, 3) := dk_167 0 5 (dk_at dksX2_mostEven_0 9 rfl rfl)
theorem dX2_mostEven_12 : decode cX2_mostEven 12 = .ok (.bipush (-6), 2) := dk_16 250 (dk_at dksX2_mostEven_0 12 rfl rfl)
theorem dX2_mostEven_14 : decode cX2_mostEven 14 = .ok (.istore_n 2, 1) := dk_61 (dk_at dksX2_mostEven_0 14 rfl rfl)
theorem dX2_mostEven_15 : decode cX2_mostEven 15 = .ok (.iconst 1, 1) := dk_4 (dk_at dksX2_mostEven_0 15 rfl rfl)
theorem dX2_mostEven_16 : decode cX2_mostEven 16 = .ok (.istore_n 3, 1) := dk_62 (dk_at dksX2_mostEven_0 16 rfl rfl)
theorem dX2_mostEven_17 : decode cX2_mostEven 17 = .ok (.iload_n 3, 1) := dk_29 (dk_at dksX2_mostEven_0 17 rfl rfl)
theorem dX2_mostEven_18 : decode cX2_mostEven 18 = .ok (.iload_n 1, 1) := dk_27 (dk_at dksX2_mostEven_0 18 rfl rfl)
theorem dX2_mostEven_19 : decode cX2_mostEven 19 = .ok (.if_icmp .ge 88, 3) := dk_162 0 88 (dk_at dksX2_mostEven_0 19 rfl rfl)
theorem dX2_mostEven_22 : decode cX2_mostEven 22 = .ok (.iload_n 3, 1) := dk_29 (dk_at dksX2_mostEven_0 22 rfl rfl)
theorem dX2_mostEven_23 : decode cX2_mostEven 23 = .ok (.iload_n 1, 1) := dk_27 (dk_at dksX2_mostEven_0 23 rfl rfl)
theorem dX2_mostEven_24 : decode cX2_mostEven 24 = .ok (.iconst (-1), 1) := dk_2 (dk_at dksX2_mostEven_1 0 rfl rfl)
theorem dX2_mostEven_25 : decode cX2_mostEven 25 = .ok (.ixor, 1) := dk_130 (dk_at dksX2_mostEven_1 1 rfl rfl)
theorem dX2_mostEven_26 : decode cX2_mostEven 26 = .ok (.iand, 1) := dk_126 (dk_at dksX2_mostEven_1 2 rfl rfl)
theorem dX2_mostEven_27 : decode cX2_mostEven 27 = .ok (.ifCond .ne 29, 3) := dk_154 0 29 (dk_at dksX2_mostEven_1 3 rfl rfl)
theorem dX2_mostEven_30 : decode cX2_mostEven 30 = .ok (.aload_n 0, 1) := dk_42 (dk_at dksX2_mostEven_1 6 rfl rfl)
theorem dX2_mostEven_31 : decode cX2_mostEven 31 = .ok (.getfield 55, 3) := dk_180 0 55 (dk_at dksX2_mostEven_1 7 rfl rfl)
theorem dX2_mostEven_34 : decode cX2_mostEven 34 = .ok (.iload_n 3, 1) := dk_29 (dk_at dksX2_mostEven_1 10 rfl rfl)
theorem dX2_mostEven_35 : decode cX2_mostEven 35 = .ok (.iaload, 1) := dk_46 (dk_at dksX2_mostEven_1 11 rfl rfl)
theorem dX2_mostEven_36 : decode cX2_mostEven 36 = .ok (.ifCond .le 20, 3) := dk_158 0 20 (dk_at dksX2_mostEven_1 12 rfl rfl)
theorem dX2_mostEven_39 : decode cX2_mostEven 39 = .ok (.aload_n 0, 1) := dk_42 (dk_at dksX2_mostEven_1 15 rfl rfl)
theorem dX2_mostEven_40 : decode cX2_mostEven 40 = .ok (.getfield 55, 3) := dk_180 0 55 (dk_at dksX2_mostEven_1 16 rfl rfl)
theorem dX2_mostEven_43 : decode cX2_mostEven 43 = .ok (.iload_n 1, 1) := dk_27 (dk_at dksX2_mostEven_1 19 rfl rfl)
theorem dX2_mostEven_44 : decode cX2_mostEven 44 = .ok (.iload_n 3, 1) := dk_29 (dk_at dksX2_mostEven_1 20 rfl rfl)
theorem dX2_mostEven_45 : decode cX2_mostEven 45 = .ok (.iconst (-1), 1) := dk_2 (dk_at dksX2_mostEven_1 21 rfl rfl)
theorem dX2_mostEven_46 : decode cX2_mostEven 46 = .ok (.ixor, 1) := dk_130 (dk_at dksX2_mostEven_1 22 rfl rfl)
theorem dX2_mostEven_47 : decode cX2_mostEven 47 = .ok (.iand, 1) := dk_126 (dk_at dksX2_mostEven_1 23 rfl rfl)
theorem dX2_mostEven_48 : decode cX2_mostEven 48 = .ok (.iaload, 1) := dk_46 (dk_at dksX2_mostEven_2 0 rfl rfl)
theorem dX2_mostEven_49 : decode cX2_mostEven 49 = .ok (.ifCond .le 7, 3) := dk_158 0 7 (dk_at dksX2_mostEven_2 1 rfl rfl)
theorem dX2_mostEven_52 : decode cX2_mostEven 52 = .ok (.iconst 1, 1) := dk_4 (dk_at dksX2_mostEven_2 4 rfl rfl)
theorem dX2_mostEven_53 : decode cX2_mostEven 53 = .ok (.goto 4, 3) := dk_167 0 4 (dk_at dksX2_mostEven_2 5 rfl rfl)
theorem dX2_mostEven_56 : decode cX2_mostEven 56 = .ok (.iconst 0, 1) := dk_3 (dk_at dksX2_mostEven_2 8 rfl rfl)
theorem dX2_mostEven_57 : decode cX2_mostEven 57 = .ok (.istore 4, 2) := dk_54 4 (dk_at dksX2_mostEven_2 9 rfl rfl)
theorem dX2_mostEven_59 : decode cX2_mostEven 59 = .ok (.iload 4, 2) := dk_21 4 (dk_at dksX2_mostEven_2 11 rfl rfl)
theorem dX2_mostEven_61 : decode cX2_mostEven 61 = .ok (.ifCond .eq 23, 3) := dk_153 0 23 (dk_at dksX2_mostEven_2 13 rfl rfl)
theorem dX2_mostEven_64 : decode cX2_mostEven 64 = .ok (.aload_n 0, 1) := dk_42 (dk_at dksX2_mostEven_2 16 rfl rfl)
theorem dX2_mostEven_65 : decode cX2_mostEven 65 = .ok (.getfield 55, 3) := dk_180 0 55 (dk_at dksX2_mostEven_2 17 rfl rfl)
theorem dX2_mostEven_68 : decode cX2_mostEven 68 = .ok (.iload_n 3, 1) := dk_29 (dk_at dksX2_mostEven_2 20 rfl rfl)
theorem dX2_mostEven_69 : decode cX2_mostEven 69 = .ok (.iaload, 1) := dk_46 (dk_at dksX2_mostEven_2 21 rfl rfl)
theorem dX2_mostEven_70 : decode cX2_mostEven 70 = .ok (.aload_n 0, 1) := dk_42 (dk_at dksX2_mostEven_2 22 rfl rfl)
theorem dX2_mostEven_71 : decode cX2_mostEven 71 = .ok (.getfield 55, 3) := dk_180 0 55 (dk_at dksX2_mostEven_3 0 rfl rfl)
theorem dX2_mostEven_74 : decode cX2_mostEven 74 = .ok (.iload_n 1, 1) := dk_27 (dk_at dksX2_mostEven_3 3 rfl rfl)
theorem dX2_mostEven_75 : decode cX2_mostEven 75 = .ok (.iload_n 3, 1) := dk_29 (dk_at dksX2_mostEven_3 4 rfl rfl)
theorem dX2_mostEven_76 : decode cX2_mostEven 76 = .ok (.iconst (-1), 1) := dk_2 (dk_at dksX2_mostEven_3 5 rfl rfl)
theorem dX2_mostEven_77 : decode cX2_mostEven 77 = .ok (.ixor, 1) := dk_130 (dk_at dksX2_mostEven_3 6 rfl rfl)
theorem dX2_mostEven_78 : decode cX2_mostEven 78 = .ok (.iand, 1) := dk_126 (dk_at dksX2_mostEven_3 7 rfl rfl)
theorem dX2_mostEven_79 : decode cX2_mostEven 79 = .ok (.iaload, 1) := dk_46 (dk_at dksX2_mostEven_3 8 rfl rfl)
theorem dX2_mostEven_80 : decode cX2_mostEven 80 = .ok (.iadd, 1) := dk_96 (dk_at dksX2_mostEven_3 9 rfl rfl)
theorem dX2_mostEven_81 : decode cX2_mostEven 81 = .ok (.goto 5, 3) := dk_167 0 5 (dk_at dksX2_mostEven_3 10 rfl rfl)
theorem dX2_mostEven_84 : decode cX2_mostEven 84 = .ok (.bipush (-6), 2) := dk_16 250 (dk_at dksX2_mostEven_3 13 rfl rfl)
theorem dX2_mostEven_86 : decode cX2_mostEven 86 = .ok (.istore 5, 2) := dk_54 5 (dk_at dksX2_mostEven_3 15 rfl rfl)
theorem dX2_mostEven_88 : decode cX2_mostEven 88 = .ok (.iload 5, 2) := dk_21 5 (dk_at dksX2_mostEven_3 17 rfl rfl)
theorem dX2_mostEven_90 : decode cX2_mostEven 90 = .ok (.iload_n 2, 1) := dk_28 (dk_at dksX2_mostEven_3 19 rfl rfl)
theorem dX2_mostEven_91 : decode cX2_mostEven 91 = .ok (.if_icmp .le 8, 3) := dk_164 0 8 (dk_at dksX2_mostEven_3 20 rfl rfl)
theorem dX2_mostEven_94 : decode cX2_mostEven 94 = .ok (.iload 5, 2) := dk_21 5 (dk_at dksX2_mostEven_4 0 rfl rfl)
theorem dX2_mostEven_96 : decode cX2_mostEven 96 = .ok (.goto 4, 3) := dk_167 0 4 (dk_at dksX2_mostEven_4 2 rfl rfl)
theorem dX2_mostEven_99 : decode cX2_mostEven 99 = .ok (.iload_n 2, 1) := dk_28 (dk_at dksX2_mostEven_4 5 rfl rfl)
theorem dX2_mostEven_100 : decode cX2_mostEven 100 = .ok (.istore_n 2, 1) := dk_61 (dk_at dksX2_mostEven_4 6 rfl rfl)
theorem dX2_mostEven_101 : decode cX2_mostEven 101 = .ok (.iinc 3 1, 3) := dk_132 3 1 (dk_at dksX2_mostEven_4 7 rfl rfl)
theorem dX2_mostEven_104 : decode cX2_mostEven 104 = .ok (.goto (-87), 3) := dk_167 255 169 (dk_at dksX2_mostEven_4 10 rfl rfl)
theorem dX2_mostEven_107 : decode cX2_mostEven 107 = .ok (.iload_n 2, 1) := dk_28 (dk_at dksX2_mostEven_4 13 rfl rfl)
theorem dX2_mostEven_108 : decode cX2_mostEven 108 = .ok (.ireturn, 1) := dk_172 (dk_at dksX2_mostEven_4 14 rfl rfl)
abbrev cX2_netOf : ByteArray := prog_4_method_46_code
def yX2_netOf : MethodName := ⟨RX2, "netOf", "(I)I"⟩
def dkwX2_netOf_1 : List UInt8 := [29, 46, 167, 0, 4, 3, 96, 61, 132, 3, 1, 167, 255, 225, 28, 172]
abbrev dktX2_netOf_1 : List UInt8 := dkwX2_netOf_1 ++ []
def dkwX2_netOf_0 : List UInt8 := [3, 61, 3, 62, 29, 16, 6, 162, 0, 31, 28, 27, 29, 122, 4, 126, 4, 160, 0, 12, 42, 180, 0, 52]
abbrev dktX2_netOf_0 : List UInt8 := dkwX2_netOf_0 ++ dktX2_netOf_1
theorem dksX2_netOf_0 : cX2_netOf.data.toList.drop 0 = dktX2_netOf_0 := by decide +kernel
theorem dksX2_netOf_1 : cX2_netOf.data.toList.drop 24 = dktX2_netOf_1 := dk_seg dksX2_netOf_0 24 rfl rfl
theorem dX2_netOf_0 : decode cX2_netOf 0 = .ok (.iconst 0, 1) := dk_3 (dk_at dksX2_netOf_0 0 rfl rfl)
theorem dX2_netOf_1 : decode cX2_netOf 1 = .ok (.istore_n 2, 1) := dk_61 (dk_at dksX2_netOf_0 1 rfl rfl)
theorem dX2_netOf_2 : decode cX2_netOf 2 = .ok (.iconst 0, 1) := dk_3 (dk_at dksX2_netOf_0 2 rfl rfl)
theorem dX2_netOf_3 : decode cX2_netOf 3 = .ok (.istore_n 3, 1) := dk_62 (dk_at dksX2_netOf_0 3 rfl rfl)
theorem dX2_netOf_4 : decode cX2_netOf 4 = .ok (.iload_n 3, 1) := dk_29 (dk_at dksX2_netOf_0 4 rfl rfl)
theorem dX2_netOf_5 : decode cX2_netOf 5 = .ok (.bipush 6, 2) := dk_16 6 (dk_at dksX2_netOf_0 5 rfl rfl)
theorem dX2_netOf_7 : decode cX2_netOf 7 = .ok (.if_icmp .ge 31, 3) := dk_162 0 31 (dk_at dksX2_netOf_0 7 rfl rfl)
theorem dX2_netOf_10 : decode cX2_netOf 10 = .ok (.iload_n 2, 1) := dk_28 (dk_at dksX2_netOf_0 10 rfl rfl)
theorem dX2_netOf_11 : decode cX2_netOf 11 = .ok (.iload_n 1, 1) := dk_27 (dk_at dksX2_netOf_0 11 rfl rfl)
theorem dX2_netOf_12 : decode cX2_netOf 12 = .ok (.iload_n 3, 1) := dk_29 (dk_at dksX2_netOf_0 12 rfl rfl)
theorem dX2_netOf_13 : decode cX2_netOf 13 = .ok (.ishr, 1) := dk_122 (dk_at dksX2_netOf_0 13 rfl rfl)
theorem dX2_netOf_14 : decode cX2_netOf 14 = .ok (.iconst 1, 1) := dk_4 (dk_at dksX2_netOf_0 14 rfl rfl)
theorem dX2_netOf_15 : decode cX2_netOf 15 = .ok (.iand, 1) := dk_126 (dk_at dksX2_netOf_0 15 rfl rfl)
theorem dX2_netOf_16 : decode cX2_netOf 16 = .ok (.iconst 1, 1) := dk_4 (dk_at dksX2_netOf_0 16 rfl rfl)
theorem dX2_netOf_17 : decode cX2_netOf 17 = .ok (.if_icmp .ne 12, 3) := dk_160 0 12 (dk_at dksX2_netOf_0 17 rfl rfl)
theorem dX2_netOf_20 : decode cX2_netOf 20 = .ok (.aload_n 0, 1) := dk_42 (dk_at dksX2_netOf_0 20 rfl rfl)
theorem dX2_netOf_21 : decode cX2_netOf 21 = .ok (.getfield 52, 3) := dk_180 0 52 (dk_at dksX2_netOf_0 21 rfl rfl)
theorem dX2_netOf_24 : decode cX2_netOf 24 = .ok (.iload_n 3, 1) := dk_29 (dk_at dksX2_netOf_1 0 rfl rfl)
theorem dX2_netOf_25 : decode cX2_netOf 25 = .ok (.iaload, 1) := dk_46 (dk_at dksX2_netOf_1 1 rfl rfl)
theorem dX2_netOf_26 : decode cX2_netOf 26 = .ok (.goto 4, 3) := dk_167 0 4 (dk_at dksX2_netOf_1 2 rfl rfl)
theorem dX2_netOf_29 : decode cX2_netOf 29 = .ok (.iconst 0, 1) := dk_3 (dk_at dksX2_netOf_1 5 rfl rfl)
theorem dX2_netOf_30 : decode cX2_netOf 30 = .ok (.iadd, 1) := dk_96 (dk_at dksX2_netOf_1 6 rfl rfl)
theorem dX2_netOf_31 : decode cX2_netOf 31 = .ok (.istore_n 2, 1) := dk_61 (dk_at dksX2_netOf_1 7 rfl rfl)
theorem dX2_netOf_32 : decode cX2_netOf 32 = .ok (.iinc 3 1, 3) := dk_132 3 1 (dk_at dksX2_netOf_1 8 rfl rfl)
theorem dX2_netOf_35 : decode cX2_netOf 35 = .ok (.goto (-31), 3) := dk_167 255 225 (dk_at dksX2_netOf_1 11 rfl rfl)
theorem dX2_netOf_38 : decode cX2_netOf 38 = .ok (.iload_n 2, 1) := dk_28 (dk_at dksX2_netOf_1 14 rfl rfl)
theorem dX2_netOf_39 : decode cX2_netOf 39 = .ok (.ireturn, 1) := dk_172 (dk_at dksX2_netOf_1 15 rfl rfl)
abbrev cX2_prints : ByteArray := prog_4_method_49_code
def yX2_prints : MethodName := ⟨RX2, "prints", "(I)I"⟩
def dkwX2_prints_2 : List UInt8 := [161, 0, 7, 29, 167, 0, 4, 28, 61, 132, 3, 1, 167, 255, 217, 28, 172]
abbrev dktX2_prints_2 : List UInt8 := dkwX2_prints_2 ++ []
def dkwX2_prints_1 : List UInt8 := [163, 0, 38, 42, 182, 0, 153, 42, 182, 0, 157, 133, 20, 0, 151, 29, 133, 105, 97, 184, 0, 160, 27]
abbrev dktX2_prints_1 : List UInt8 := dkwX2_prints_1 ++ dktX2_prints_2
def dkwX2_prints_0 : List UInt8 := [27, 133, 10, 20, 0, 151, 184, 0, 80, 154, 0, 6, 16, 254, 172, 16, 250, 61, 3, 62, 29, 17, 3, 231]
abbrev dktX2_prints_0 : List UInt8 := dkwX2_prints_0 ++ dktX2_prints_1
theorem dksX2_prints_0 : cX2_prints.data.toList.drop 0 = dktX2_prints_0 := by decide +kernel
theorem dksX2_prints_1 : cX2_prints.data.toList.drop 24 = dktX2_prints_1 := dk_seg dksX2_prints_0 24 rfl rfl
theorem dksX2_prints_2 : cX2_prints.data.toList.drop 47 = dktX2_prints_2 := dk_seg dksX2_prints_1 23 rfl rfl
theorem dX2_prints_0 : decode cX2_prints 0 = .ok (.iload_n 1, 1) := dk_27 (dk_at dksX2_prints_0 0 rfl rfl)
theorem dX2_prints_1 : decode cX2_prints 1 = .ok (.i2l, 1) := dk_133 (dk_at dksX2_prints_0 1 rfl rfl)
theorem dX2_prints_2 : decode cX2_prints 2 = .ok (.lconst 1, 1) := dk_10 (dk_at dksX2_prints_0 2 rfl rfl)
theorem dX2_prints_3 : decode cX2_prints 3 = .ok (.ldc2_w 151, 3) := dk_20 0 151 (dk_at dksX2_prints_0 3 rfl rfl)
theorem dX2_prints_6 : decode cX2_prints 6 = .ok (.invokestatic 80, 3) := dk_184 0 80 (dk_at dksX2_prints_0 6 rfl rfl)
theorem dX2_prints_9 : decode cX2_prints 9 = .ok (.ifCond .ne 6, 3) := dk_154 0 6 (dk_at dksX2_prints_0 9 rfl rfl)
theorem dX2_prints_12 : decode cX2_prints 12 = .ok (.bipush (-2), 2) := dk_16 254 (dk_at dksX2_prints_0 12 rfl rfl)
theorem dX2_prints_14 : decode cX2_prints 14 = .ok (.ireturn, 1) := dk_172 (dk_at dksX2_prints_0 14 rfl rfl)
theorem dX2_prints_15 : decode cX2_prints 15 = .ok (.bipush (-6), 2) := dk_16 250 (dk_at dksX2_prints_0 15 rfl rfl)
theorem dX2_prints_17 : decode cX2_prints 17 = .ok (.istore_n 2, 1) := dk_61 (dk_at dksX2_prints_0 17 rfl rfl)
theorem dX2_prints_18 : decode cX2_prints 18 = .ok (.iconst 0, 1) := dk_3 (dk_at dksX2_prints_0 18 rfl rfl)
theorem dX2_prints_19 : decode cX2_prints 19 = .ok (.istore_n 3, 1) := dk_62 (dk_at dksX2_prints_0 19 rfl rfl)
theorem dX2_prints_20 : decode cX2_prints 20 = .ok (.iload_n 3, 1) := dk_29 (dk_at dksX2_prints_0 20 rfl rfl)
theorem dX2_prints_21 : decode cX2_prints 21 = .ok (.sipush 999, 3) := dk_17 3 231 (dk_at dksX2_prints_0 21 rfl rfl)
theorem dX2_prints_24 : decode cX2_prints 24 = .ok (.if_icmp .gt 38, 3) := dk_163 0 38 (dk_at dksX2_prints_1 0 rfl rfl)
theorem dX2_prints_27 : decode cX2_prints 27 = .ok (.aload_n 0, 1) := dk_42 (dk_at dksX2_prints_1 3 rfl rfl)
theorem dX2_prints_28 : decode cX2_prints 28 = .ok (.invokevirtual 153, 3) := dk_182 0 153 (dk_at dksX2_prints_1 4 rfl rfl)
theorem dX2_prints_31 : decode cX2_prints 31 = .ok (.aload_n 0, 1) := dk_42 (dk_at dksX2_prints_1 7 rfl rfl)
theorem dX2_prints_32 : decode cX2_prints 32 = .ok (.invokevirtual 157, 3) := dk_182 0 157 (dk_at dksX2_prints_1 8 rfl rfl)
theorem dX2_prints_35 : decode cX2_prints 35 = .ok (.i2l, 1) := dk_133 (dk_at dksX2_prints_1 11 rfl rfl)
theorem dX2_prints_36 : decode cX2_prints 36 = .ok (.ldc2_w 151, 3) := dk_20 0 151 (dk_at dksX2_prints_1 12 rfl rfl)
theorem dX2_prints_39 : decode cX2_prints 39 = .ok (.iload_n 3, 1) := dk_29 (dk_at dksX2_prints_1 15 rfl rfl)
theorem dX2_prints_40 : decode cX2_prints 40 = .ok (.i2l, 1) := dk_133 (dk_at dksX2_prints_1 16 rfl rfl)
theorem dX2_prints_41 : decode cX2_prints 41 = .ok (.lmul, 1) := dk_105 (dk_at dksX2_prints_1 17 rfl rfl)
theorem dX2_prints_42 : decode cX2_prints 42 = .ok (.ladd, 1) := dk_97 (dk_at dksX2_prints_1 18 rfl rfl)
theorem dX2_prints_43 : decode cX2_prints 43 = .ok (.invokestatic 160, 3) := dk_184 0 160 (dk_at dksX2_prints_1 19 rfl rfl)
theorem dX2_prints_46 : decode cX2_prints 46 = .ok (.iload_n 1, 1) := dk_27 (dk_at dksX2_prints_1 22 rfl rfl)
theorem dX2_prints_47 : decode cX2_prints 47 = .ok (.if_icmp .lt 7, 3) := dk_161 0 7 (dk_at dksX2_prints_2 0 rfl rfl)
theorem dX2_prints_50 : decode cX2_prints 50 = .ok (.iload_n 3, 1) := dk_29 (dk_at dksX2_prints_2 3 rfl rfl)
theorem dX2_prints_51 : decode cX2_prints 51 = .ok (.goto 4, 3) := dk_167 0 4 (dk_at dksX2_prints_2 4 rfl rfl)
theorem dX2_prints_54 : decode cX2_prints 54 = .ok (.iload_n 2, 1) := dk_28 (dk_at dksX2_prints_2 7 rfl rfl)
theorem dX2_prints_55 : decode cX2_prints 55 = .ok (.istore_n 2, 1) := dk_61 (dk_at dksX2_prints_2 8 rfl rfl)
theorem dX2_prints_56 : decode cX2_prints 56 = .ok (.iinc 3 1, 3) := dk_132 3 1 (dk_at dksX2_prints_2 9 rfl rfl)
theorem dX2_prints_59 : decode cX2_prints 59 = .ok (.goto (-39), 3) := dk_167 255 217 (dk_at dksX2_prints_2 12 rfl rfl)
theorem dX2_prints_62 : decode cX2_prints 62 = .ok (.iload_n 2, 1) := dk_28 (dk_at dksX2_prints_2 15 rfl rfl)
theorem dX2_prints_63 : decode cX2_prints 63 = .ok (.ireturn, 1) := dk_172 (dk_at dksX2_prints_2 16 rfl rfl)
abbrev cX2_buys : ByteArray := prog_4_method_51_code
def yX2_buys : MethodName := ⟨RX2, "buys", "(II)I"⟩
def dkwX2_buys_5 : List UInt8 := [167, 0, 5, 21, 4, 172]
abbrev dktX2_buys_5 : List UInt8 := dkwX2_buys_5 ++ []
def dkwX2_buys_4 : List UInt8 := [167, 0, 5, 21, 4, 54, 4, 132, 5, 1, 167, 255, 190, 28, 154, 0, 12, 42, 21, 4, 182, 0, 249]
abbrev dktX2_buys_4 : List UInt8 := dkwX2_buys_4 ++ dktX2_buys_5
def dkwX2_buys_3 : List UInt8 := [21, 6, 153, 0, 23, 42, 21, 5, 182, 0, 249, 42, 21, 4, 182, 0, 249, 164, 0, 8, 21, 5]
abbrev dktX2_buys_3 : List UInt8 := dkwX2_buys_3 ++ dktX2_buys_4
def dkwX2_buys_2 : List UInt8 := [29, 2, 130, 126, 154, 0, 17, 42, 21, 5, 182, 0, 249, 27, 163, 0, 7, 4, 167, 0, 4, 3, 54, 6]
abbrev dktX2_buys_2 : List UInt8 := dkwX2_buys_2 ++ dktX2_buys_3
def dkwX2_buys_1 : List UInt8 := [172, 42, 16, 250, 182, 0, 229, 62, 3, 54, 4, 4, 54, 5, 21, 5, 17, 1, 0, 162, 0, 64, 21, 5]
abbrev dktX2_buys_1 : List UInt8 := dkwX2_buys_1 ++ dktX2_buys_2
def dkwX2_buys_0 : List UInt8 := [27, 133, 9, 20, 0, 88, 184, 0, 80, 153, 0, 13, 28, 133, 9, 10, 184, 0, 80, 154, 0, 6, 16, 254]
abbrev dktX2_buys_0 : List UInt8 := dkwX2_buys_0 ++ dktX2_buys_1
theorem dksX2_buys_0 : cX2_buys.data.toList.drop 0 = dktX2_buys_0 := by decide +kernel
theorem dksX2_buys_1 : cX2_buys.data.toList.drop 24 = dktX2_buys_1 := dk_seg dksX2_buys_0 24 rfl rfl
theorem dksX2_buys_2 : cX2_buys.data.toList.drop 48 = dktX2_buys_2 := dk_seg dksX2_buys_1 24 rfl rfl
theorem dksX2_buys_3 : cX2_buys.data.toList.drop 72 = dktX2_buys_3 := dk_seg dksX2_buys_2 24 rfl rfl
theorem dksX2_buys_4 : cX2_buys.data.toList.drop 94 = dktX2_buys_4 := dk_seg dksX2_buys_3 22 rfl rfl
theorem dksX2_buys_5 : cX2_buys.data.toList.drop 117 = dktX2_buys_5 := dk_seg dksX2_buys_4 23 rfl rfl
theorem dX2_buys_0 : decode cX2_buys 0 = .ok (.iload_n 1, 1) := dk_27 (dk_at dksX2_buys_0 0 rfl rfl)
theorem dX2_buys_1 : decode cX2_buys 1 = .ok (.i2l, 1) := dk_133 (dk_at dksX2_buys_0 1 rfl rfl)
theorem dX2_buys_2 : decode cX2_buys 2 = .ok (.lconst 0, 1) := dk_9 (dk_at dksX2_buys_0 2 rfl rfl)
theorem dX2_buys_3 : decode cX2_buys 3 = .ok (.ldc2_w 88, 3) := dk_20 0 88 (dk_at dksX2_buys_0 3 rfl rfl)
theorem dX2_buys_6 : decode cX2_buys 6 = .ok (.invokestatic 80, 3) := dk_184 0 80 (dk_at dksX2_buys_0 6 rfl rfl)
theorem dX2_buys_9 : decode cX2_buys 9 = .ok (.ifCond .eq 13, 3) := dk_153 0 13 (dk_at dksX2_buys_0 9 rfl rfl)
theorem dX2_buys_12 : decode cX2_buys 12 = .ok (.iload_n 2, 1) := dk_28 (dk_at dksX2_buys_0 12 rfl rfl)
theorem dX2_buys_13 : decode cX2_buys 13 = .ok (.i2l, 1) := dk_133 (dk_at dksX2_buys_0 13 rfl rfl)
theorem dX2_buys_14 : decode cX2_buys 14 = .ok (.lconst 0, 1) := dk_9 (dk_at dksX2_buys_0 14 rfl rfl)
theorem dX2_buys_15 : decode cX2_buys 15 = .ok (.lconst 1, 1) := dk_10 (dk_at dksX2_buys_0 15 rfl rfl)
theorem dX2_buys_16 : decode cX2_buys 16 = .ok (.invokestatic 80, 3) := dk_184 0 80 (dk_at dksX2_buys_0 16 rfl rfl)
theorem dX2_buys_19 : decode cX2_buys 19 = .ok (.ifCond .ne 6, 3) := dk_154 0 6 (dk_at dksX2_buys_0 19 rfl rfl)
theorem dX2_buys_22 : decode cX2_buys 22 = .ok (.bipush (-2), 2) := dk_16 254 (dk_at dksX2_buys_0 22 rfl rfl)
theorem dX2_buys_24 : decode cX2_buys 24 = .ok (.ireturn, 1) := dk_172 (dk_at dksX2_buys_1 0 rfl rfl)
theorem dX2_buys_25 : decode cX2_buys 25 = .ok (.aload_n 0, 1) := dk_42 (dk_at dksX2_buys_1 1 rfl rfl)
theorem dX2_buys_26 : decode cX2_buys 26 = .ok (.bipush (-6), 2) := dk_16 250 (dk_at dksX2_buys_1 2 rfl rfl)
theorem dX2_buys_28 : decode cX2_buys 28 = .ok (.invokevirtual 229, 3) := dk_182 0 229 (dk_at dksX2_buys_1 4 rfl rfl)
theorem dX2_buys_31 : decode cX2_buys 31 = .ok (.istore_n 3, 1) := dk_62 (dk_at dksX2_buys_1 7 rfl rfl)
theorem dX2_buys_32 : decode cX2_buys 32 = .ok (.iconst 0, 1) := dk_3 (dk_at dksX2_buys_1 8 rfl rfl)
theorem dX2_buys_33 : decode cX2_buys 33 = .ok (.istore 4, 2) := dk_54 4 (dk_at dksX2_buys_1 9 rfl rfl)
theorem dX2_buys_35 : decode cX2_buys 35 = .ok (.iconst 1, 1) := dk_4 (dk_at dksX2_buys_1 11 rfl rfl)
theorem dX2_buys_36 : decode cX2_buys 36 = .ok (.istore 5, 2) := dk_54 5 (dk_at dksX2_buys_1 12 rfl rfl)
theorem dX2_buys_38 : decode cX2_buys 38 = .ok (.iload 5, 2) := dk_21 5 (dk_at dksX2_buys_1 14 rfl rfl)
theorem dX2_buys_40 : decode cX2_buys 40 = .ok (.sipush 256, 3) := dk_17 1 0 (dk_at dksX2_buys_1 16 rfl rfl)
theorem dX2_buys_43 : decode cX2_buys 43 = .ok (.if_icmp .ge 64, 3) := dk_162 0 64 (dk_at dksX2_buys_1 19 rfl rfl)
theorem dX2_buys_46 : decode cX2_buys 46 = .ok (.iload 5, 2) := dk_21 5 (dk_at dksX2_buys_1 22 rfl rfl)
theorem dX2_buys_48 : decode cX2_buys 48 = .ok (.iload_n 3, 1) := dk_29 (dk_at dksX2_buys_2 0 rfl rfl)
theorem dX2_buys_49 : decode cX2_buys 49 = .ok (.iconst (-1), 1) := dk_2 (dk_at dksX2_buys_2 1 rfl rfl)
theorem dX2_buys_50 : decode cX2_buys 50 = .ok (.ixor, 1) := dk_130 (dk_at dksX2_buys_2 2 rfl rfl)
theorem dX2_buys_51 : decode cX2_buys 51 = .ok (.iand, 1) := dk_126 (dk_at dksX2_buys_2 3 rfl rfl)
theorem dX2_buys_52 : decode cX2_buys 52 = .ok (.ifCond .ne 17, 3) := dk_154 0 17 (dk_at dksX2_buys_2 4 rfl rfl)
theorem dX2_buys_55 : decode cX2_buys 55 = .ok (.aload_n 0, 1) := dk_42 (dk_at dksX2_buys_2 7 rfl rfl)
theorem dX2_buys_56 : decode cX2_buys 56 = .ok (.iload 5, 2) := dk_21 5 (dk_at dksX2_buys_2 8 rfl rfl)
theorem dX2_buys_58 : decode cX2_buys 58 = .ok (.invokevirtual 249, 3) := dk_182 0 249 (dk_at dksX2_buys_2 10 rfl rfl)
theorem dX2_buys_61 : decode cX2_buys 61 = .ok (.iload_n 1, 1) := dk_27 (dk_at dksX2_buys_2 13 rfl rfl)
theorem dX2_buys_62 : decode cX2_buys 62 = .ok (.if_icmp .gt 7, 3) := dk_163 0 7 (dk_at dksX2_buys_2 14 rfl rfl)
theorem dX2_buys_65 : decode cX2_buys 65 = .ok (.iconst 1, 1) := dk_4 (dk_at dksX2_buys_2 17 rfl rfl)
theorem dX2_buys_66 : decode cX2_buys 66 = .ok (.goto 4, 3) := dk_167 0 4 (dk_at dksX2_buys_2 18 rfl rfl)
theorem dX2_buys_69 : decode cX2_buys 69 = .ok (.iconst 0, 1) := dk_3 (dk_at dksX2_buys_2 21 rfl rfl)
theorem dX2_buys_70 : decode cX2_buys 70 = .ok (.istore 6, 2) := dk_54 6 (dk_at dksX2_buys_2 22 rfl rfl)
theorem dX2_buys_72 : decode cX2_buys 72 = .ok (.iload 6, 2) := dk_21 6 (dk_at dksX2_buys_3 0 rfl rfl)
theorem dX2_buys_74 : decode cX2_buys 74 = .ok (.ifCond .eq 23, 3) := dk_153 0 23 (dk_at dksX2_buys_3 2 rfl rfl)
theorem dX2_buys_77 : decode cX2_buys 77 = .ok (.aload_n 0, 1) := dk_42 (dk_at dksX2_buys_3 5 rfl rfl)
theorem dX2_buys_78 : decode cX2_buys 78 = .ok (.iload 5, 2) := dk_21 5 (dk_at dksX2_buys_3 6 rfl rfl)
theorem dX2_buys_80 : decode cX2_buys 80 = .ok (.invokevirtual 249, 3) := dk_182 0 249 (dk_at dksX2_buys_3 8 rfl rfl)
theorem dX2_buys_83 : decode cX2_buys 83 = .ok (.aload_n 0, 1) := dk_42 (dk_at dksX2_buys_3 11 rfl rfl)
theorem dX2_buys_84 : decode cX2_buys 84 = .ok (.iload 4, 2) := dk_21 4 (dk_at dksX2_buys_3 12 rfl rfl)
theorem dX2_buys_86 : decode cX2_buys 86 = .ok (.invokevirtual 249, 3) := dk_182 0 249 (dk_at dksX2_buys_3 14 rfl rfl)
theorem dX2_buys_89 : decode cX2_buys 89 = .ok (.if_icmp .le 8, 3) := dk_164 0 8 (dk_at dksX2_buys_3 17 rfl rfl)
theorem dX2_buys_92 : decode cX2_buys 92 = .ok (.iload 5, 2) := dk_21 5 (dk_at dksX2_buys_3 20 rfl rfl)
theorem dX2_buys_94 : decode cX2_buys 94 = .ok (.goto 5, 3) := dk_167 0 5 (dk_at dksX2_buys_4 0 rfl rfl)
theorem dX2_buys_97 : decode cX2_buys 97 = .ok (.iload 4, 2) := dk_21 4 (dk_at dksX2_buys_4 3 rfl rfl)
theorem dX2_buys_99 : decode cX2_buys 99 = .ok (.istore 4, 2) := dk_54 4 (dk_at dksX2_buys_4 5 rfl rfl)
theorem dX2_buys_101 : decode cX2_buys 101 = .ok (.iinc 5 1, 3) := dk_132 5 1 (dk_at dksX2_buys_4 7 rfl rfl)
theorem dX2_buys_104 : decode cX2_buys 104 = .ok (.goto (-66), 3) := dk_167 255 190 (dk_at dksX2_buys_4 10 rfl rfl)
theorem dX2_buys_107 : decode cX2_buys 107 = .ok (.iload_n 2, 1) := dk_28 (dk_at dksX2_buys_4 13 rfl rfl)
theorem dX2_buys_108 : decode cX2_buys 108 = .ok (.ifCond .ne 12, 3) := dk_154 0 12 (dk_at dksX2_buys_4 14 rfl rfl)
theorem dX2_buys_111 : decode cX2_buys 111 = .ok (.aload_n 0, 1) := dk_42 (dk_at dksX2_buys_4 17 rfl rfl)
theorem dX2_buys_112 : decode cX2_buys 112 = .ok (.iload 4, 2) := dk_21 4 (dk_at dksX2_buys_4 18 rfl rfl)
theorem dX2_buys_114 : decode cX2_buys 114 = .ok (.invokevirtual 249, 3) := dk_182 0 249 (dk_at dksX2_buys_4 20 rfl rfl)
theorem dX2_buys_117 : decode cX2_buys 117 = .ok (.goto 5, 3) := dk_167 0 5 (dk_at dksX2_buys_5 0 rfl rfl)
theorem dX2_buys_120 : decode cX2_buys 120 = .ok (.iload 4, 2) := dk_21 4 (dk_at dksX2_buys_5 3 rfl rfl)
theorem dX2_buys_122 : decode cX2_buys 122 = .ok (.ireturn, 1) := dk_172 (dk_at dksX2_buys_5 5 rfl rfl)
abbrev cX2_pricesOf : ByteArray := prog_4_method_50_code
def yX2_pricesOf : MethodName := ⟨RX2, "pricesOf", "(I)I"⟩
def dkwX2_pricesOf_1 : List UInt8 := [29, 46, 167, 0, 4, 3, 96, 61, 132, 3, 1, 167, 255, 225, 28, 172]
abbrev dktX2_pricesOf_1 : List UInt8 := dkwX2_pricesOf_1 ++ []
def dkwX2_pricesOf_0 : List UInt8 := [3, 61, 3, 62, 29, 16, 8, 162, 0, 31, 28, 27, 29, 122, 4, 126, 4, 160, 0, 12, 42, 180, 0, 19]
abbrev dktX2_pricesOf_0 : List UInt8 := dkwX2_pricesOf_0 ++ dktX2_pricesOf_1
theorem dksX2_pricesOf_0 : cX2_pricesOf.data.toList.drop 0 = dktX2_pricesOf_0 := by decide +kernel
theorem dksX2_pricesOf_1 : cX2_pricesOf.data.toList.drop 24 = dktX2_pricesOf_1 := dk_seg dksX2_pricesOf_0 24 rfl rfl
theorem dX2_pricesOf_0 : decode cX2_pricesOf 0 = .ok (.iconst 0, 1) := dk_3 (dk_at dksX2_pricesOf_0 0 rfl rfl)
theorem dX2_pricesOf_1 : decode cX2_pricesOf 1 = .ok (.istore_n 2, 1) := dk_61 (dk_at dksX2_pricesOf_0 1 rfl rfl)
theorem dX2_pricesOf_2 : decode cX2_pricesOf 2 = .ok (.iconst 0, 1) := dk_3 (dk_at dksX2_pricesOf_0 2 rfl rfl)
theorem dX2_pricesOf_3 : decode cX2_pricesOf 3 = .ok (.istore_n 3, 1) := dk_62 (dk_at dksX2_pricesOf_0 3 rfl rfl)
theorem dX2_pricesOf_4 : decode cX2_pricesOf 4 = .ok (.iload_n 3, 1) := dk_29 (dk_at dksX2_pricesOf_0 4 rfl rfl)
theorem dX2_pricesOf_5 : decode cX2_pricesOf 5 = .ok (.bipush 8, 2) := dk_16 8 (dk_at dksX2_pricesOf_0 5 rfl rfl)
theorem dX2_pricesOf_7 : decode cX2_pricesOf 7 = .ok (.if_icmp .ge 31, 3) := dk_162 0 31 (dk_at dksX2_pricesOf_0 7 rfl rfl)
theorem dX2_pricesOf_10 : decode cX2_pricesOf 10 = .ok (.iload_n 2, 1) := dk_28 (dk_at dksX2_pricesOf_0 10 rfl rfl)
theorem dX2_pricesOf_11 : decode cX2_pricesOf 11 = .ok (.iload_n 1, 1) := dk_27 (dk_at dksX2_pricesOf_0 11 rfl rfl)
theorem dX2_pricesOf_12 : decode cX2_pricesOf 12 = .ok (.iload_n 3, 1) := dk_29 (dk_at dksX2_pricesOf_0 12 rfl rfl)
theorem dX2_pricesOf_13 : decode cX2_pricesOf 13 = .ok (.ishr, 1) := dk_122 (dk_at dksX2_pricesOf_0 13 rfl rfl)
theorem dX2_pricesOf_14 : decode cX2_pricesOf 14 = .ok (.iconst 1, 1) := dk_4 (dk_at dksX2_pricesOf_0 14 rfl rfl)
theorem dX2_pricesOf_15 : decode cX2_pricesOf 15 = .ok (.iand, 1) := dk_126 (dk_at dksX2_pricesOf_0 15 rfl rfl)
theorem dX2_pricesOf_16 : decode cX2_pricesOf 16 = .ok (.iconst 1, 1) := dk_4 (dk_at dksX2_pricesOf_0 16 rfl rfl)
theorem dX2_pricesOf_17 : decode cX2_pricesOf 17 = .ok (.if_icmp .ne 12, 3) := dk_160 0 12 (dk_at dksX2_pricesOf_0 17 rfl rfl)
theorem dX2_pricesOf_20 : decode cX2_pricesOf 20 = .ok (.aload_n 0, 1) := dk_42 (dk_at dksX2_pricesOf_0 20 rfl rfl)
theorem dX2_pricesOf_21 : decode cX2_pricesOf 21 = .ok (.getfield 19, 3) := dk_180 0 19 (dk_at dksX2_pricesOf_0 21 rfl rfl)
theorem dX2_pricesOf_24 : decode cX2_pricesOf 24 = .ok (.iload_n 3, 1) := dk_29 (dk_at dksX2_pricesOf_1 0 rfl rfl)
theorem dX2_pricesOf_25 : decode cX2_pricesOf 25 = .ok (.iaload, 1) := dk_46 (dk_at dksX2_pricesOf_1 1 rfl rfl)
theorem dX2_pricesOf_26 : decode cX2_pricesOf 26 = .ok (.goto 4, 3) := dk_167 0 4 (dk_at dksX2_pricesOf_1 2 rfl rfl)
theorem dX2_pricesOf_29 : decode cX2_pricesOf 29 = .ok (.iconst 0, 1) := dk_3 (dk_at dksX2_pricesOf_1 5 rfl rfl)
theorem dX2_pricesOf_30 : decode cX2_pricesOf 30 = .ok (.iadd, 1) := dk_96 (dk_at dksX2_pricesOf_1 6 rfl rfl)
theorem dX2_pricesOf_31 : decode cX2_pricesOf 31 = .ok (.istore_n 2, 1) := dk_61 (dk_at dksX2_pricesOf_1 7 rfl rfl)
theorem dX2_pricesOf_32 : decode cX2_pricesOf 32 = .ok (.iinc 3 1, 3) := dk_132 3 1 (dk_at dksX2_pricesOf_1 8 rfl rfl)
theorem dX2_pricesOf_35 : decode cX2_pricesOf 35 = .ok (.goto (-31), 3) := dk_167 255 225 (dk_at dksX2_pricesOf_1 11 rfl rfl)
theorem dX2_pricesOf_38 : decode cX2_pricesOf 38 = .ok (.iload_n 2, 1) := dk_28 (dk_at dksX2_pricesOf_1 14 rfl rfl)
theorem dX2_pricesOf_39 : decode cX2_pricesOf 39 = .ok (.ireturn, 1) := dk_172 (dk_at dksX2_pricesOf_1 15 rfl rfl)
abbrev cX2_runs : ByteArray := prog_4_method_52_code
def yX2_runs : MethodName := ⟨RX2, "runs", "(III)I"⟩
def dkwX2_runs_4 : List UInt8 := [55, 4, 132, 6, 1, 167, 255, 201, 16, 250, 172]
abbrev dktX2_runs_4 : List UInt8 := dkwX2_runs_4 ++ []
def dkwX2_runs_3 : List UInt8 := [172, 22, 4, 22, 4, 28, 133, 105, 20, 0, 151, 109, 20, 0, 151, 16, 100, 21, 7, 100, 133, 105, 97, 97]
abbrev dktX2_runs_3 : List UInt8 := dkwX2_runs_3 ++ dktX2_runs_4
def dkwX2_runs_2 : List UInt8 := [16, 100, 163, 0, 54, 42, 182, 0, 153, 22, 4, 184, 0, 160, 54, 7, 21, 7, 29, 162, 0, 6, 21, 6]
abbrev dktX2_runs_2 : List UInt8 := dkwX2_runs_2 ++ dktX2_runs_3
def dkwX2_runs_1 : List UInt8 := [29, 133, 10, 20, 0, 151, 184, 0, 80, 154, 0, 6, 16, 254, 172, 27, 133, 55, 4, 3, 54, 6, 21, 6]
abbrev dktX2_runs_1 : List UInt8 := dkwX2_runs_1 ++ dktX2_runs_2
def dkwX2_runs_0 : List UInt8 := [27, 133, 10, 20, 0, 96, 184, 0, 80, 153, 0, 27, 28, 133, 9, 20, 0, 252, 184, 0, 80, 153, 0, 15]
abbrev dktX2_runs_0 : List UInt8 := dkwX2_runs_0 ++ dktX2_runs_1
theorem dksX2_runs_0 : cX2_runs.data.toList.drop 0 = dktX2_runs_0 := by decide +kernel
theorem dksX2_runs_1 : cX2_runs.data.toList.drop 24 = dktX2_runs_1 := dk_seg dksX2_runs_0 24 rfl rfl
theorem dksX2_runs_2 : cX2_runs.data.toList.drop 48 = dktX2_runs_2 := dk_seg dksX2_runs_1 24 rfl rfl
theorem dksX2_runs_3 : cX2_runs.data.toList.drop 72 = dktX2_runs_3 := dk_seg dksX2_runs_2 24 rfl rfl
theorem dksX2_runs_4 : cX2_runs.data.toList.drop 96 = dktX2_runs_4 := dk_seg dksX2_runs_3 24 rfl rfl
theorem dX2_runs_0 : decode cX2_runs 0 = .ok (.iload_n 1, 1) := dk_27 (dk_at dksX2_runs_0 0 rfl rfl)
theorem dX2_runs_1 : decode cX2_runs 1 = .ok (.i2l, 1) := dk_133 (dk_at dksX2_runs_0 1 rfl rfl)
theorem dX2_runs_2 : decode cX2_runs 2 = .ok (.lconst 1, 1) := dk_10 (dk_at dksX2_runs_0 2 rfl rfl)
theorem dX2_runs_3 : decode cX2_runs 3 = .ok (.ldc2_w 96, 3) := dk_20 0 96 (dk_at dksX2_runs_0 3 rfl rfl)
theorem dX2_runs_6 : decode cX2_runs 6 = .ok (.invokestatic 80, 3) := dk_184 0 80 (dk_at dksX2_runs_0 6 rfl rfl)
theorem dX2_runs_9 : decode cX2_runs 9 = .ok (.ifCond .eq 27, 3) := dk_153 0 27 (dk_at dksX2_runs_0 9 rfl rfl)
theorem dX2_runs_12 : decode cX2_runs 12 = .ok (.iload_n 2, 1) := dk_28 (dk_at dksX2_runs_0 12 rfl rfl)
theorem dX2_runs_13 : decode cX2_runs 13 = .ok (.i2l, 1) := dk_133 (dk_at dksX2_runs_0 13 rfl rfl)
theorem dX2_runs_14 : decode cX2_runs 14 = .ok (.lconst 0, 1) := dk_9 (dk_at dksX2_runs_0 14 rfl rfl)
theorem dX2_runs_15 : decode cX2_runs 15 = .ok (.ldc2_w 252, 3) := dk_20 0 252 (dk_at dksX2_runs_0 15 rfl rfl)
theorem dX2_runs_18 : decode cX2_runs 18 = .ok (.invokestatic 80, 3) := dk_184 0 80 (dk_at dksX2_runs_0 18 rfl rfl)
theorem dX2_runs_21 : decode cX2_runs 21 = .ok (.ifCond .eq 15, 3) := dk_153 0 15 (dk_at dksX2_runs_0 21 rfl rfl)
theorem dX2_runs_24 : decode cX2_runs 24 = .ok (.iload_n 3, 1) := dk_29 (dk_at dksX2_runs_1 0 rfl rfl)
theorem dX2_runs_25 : decode cX2_runs 25 = .ok (.i2l, 1) := dk_133 (dk_at dksX2_runs_1 1 rfl rfl)
theorem dX2_runs_26 : decode cX2_runs 26 = .ok (.lconst 1, 1) := dk_10 (dk_at dksX2_runs_1 2 rfl rfl)
theorem dX2_runs_27 : decode cX2_runs 27 = .ok (.ldc2_w 151, 3) := dk_20 0 151 (dk_at dksX2_runs_1 3 rfl rfl)
theorem dX2_runs_30 : decode cX2_runs 30 = .ok (.invokestatic 80, 3) := dk_184 0 80 (dk_at dksX2_runs_1 6 rfl rfl)
theorem dX2_runs_33 : decode cX2_runs 33 = .ok (.ifCond .ne 6, 3) := dk_154 0 6 (dk_at dksX2_runs_1 9 rfl rfl)
theorem dX2_runs_36 : decode cX2_runs 36 = .ok (.bipush (-2), 2) := dk_16 254 (dk_at dksX2_runs_1 12 rfl rfl)
theorem dX2_runs_38 : decode cX2_runs 38 = .ok (.ireturn, 1) := dk_172 (dk_at dksX2_runs_1 14 rfl rfl)
theorem dX2_runs_39 : decode cX2_runs 39 = .ok (.iload_n 1, 1) := dk_27 (dk_at dksX2_runs_1 15 rfl rfl)
theorem dX2_runs_40 : decode cX2_runs 40 = .ok (.i2l, 1) := dk_133 (dk_at dksX2_runs_1 16 rfl rfl)
theorem dX2_runs_41 : decode cX2_runs 41 = .ok (.lstore 4, 2) := dk_55 4 (dk_at dksX2_runs_1 17 rfl rfl)
theorem dX2_runs_43 : decode cX2_runs 43 = .ok (.iconst 0, 1) := dk_3 (dk_at dksX2_runs_1 19 rfl rfl)
theorem dX2_runs_44 : decode cX2_runs 44 = .ok (.istore 6, 2) := dk_54 6 (dk_at dksX2_runs_1 20 rfl rfl)
theorem dX2_runs_46 : decode cX2_runs 46 = .ok (.iload 6, 2) := dk_21 6 (dk_at dksX2_runs_1 22 rfl rfl)
theorem dX2_runs_48 : decode cX2_runs 48 = .ok (.bipush 100, 2) := dk_16 100 (dk_at dksX2_runs_2 0 rfl rfl)
theorem dX2_runs_50 : decode cX2_runs 50 = .ok (.if_icmp .gt 54, 3) := dk_163 0 54 (dk_at dksX2_runs_2 2 rfl rfl)
theorem dX2_runs_53 : decode cX2_runs 53 = .ok (.aload_n 0, 1) := dk_42 (dk_at dksX2_runs_2 5 rfl rfl)
theorem dX2_runs_54 : decode cX2_runs 54 = .ok (.invokevirtual 153, 3) := dk_182 0 153 (dk_at dksX2_runs_2 6 rfl rfl)
theorem dX2_runs_57 : decode cX2_runs 57 = .ok (.lload 4, 2) := dk_22 4 (dk_at dksX2_runs_2 9 rfl rfl)
theorem dX2_runs_59 : decode cX2_runs 59 = .ok (.invokestatic 160, 3) := dk_184 0 160 (dk_at dksX2_runs_2 11 rfl rfl)
theorem dX2_runs_62 : decode cX2_runs 62 = .ok (.istore 7, 2) := dk_54 7 (dk_at dksX2_runs_2 14 rfl rfl)
theorem dX2_runs_64 : decode cX2_runs 64 = .ok (.iload 7, 2) := dk_21 7 (dk_at dksX2_runs_2 16 rfl rfl)
theorem dX2_runs_66 : decode cX2_runs 66 = .ok (.iload_n 3, 1) := dk_29 (dk_at dksX2_runs_2 18 rfl rfl)
theorem dX2_runs_67 : decode cX2_runs 67 = .ok (.if_icmp .ge 6, 3) := dk_162 0 6 (dk_at dksX2_runs_2 19 rfl rfl)
theorem dX2_runs_70 : decode cX2_runs 70 = .ok (.iload 6, 2) := dk_21 6 (dk_at dksX2_runs_2 22 rfl rfl)
theorem dX2_runs_72 : decode cX2_runs 72 = .ok (.ireturn, 1) := dk_172 (dk_at dksX2_runs_3 0 rfl rfl)
theorem dX2_runs_73 : decode cX2_runs 73 = .ok (.lload 4, 2) := dk_22 4 (dk_at dksX2_runs_3 1 rfl rfl)
theorem dX2_runs_75 : decode cX2_runs 75 = .ok (.lload 4, 2) := dk_22 4 (dk_at dksX2_runs_3 3 rfl rfl)
theorem dX2_runs_77 : decode cX2_runs 77 = .ok (.iload_n 2, 1) := dk_28 (dk_at dksX2_runs_3 5 rfl rfl)
theorem dX2_runs_78 : decode cX2_runs 78 = .ok (.i2l, 1) := dk_133 (dk_at dksX2_runs_3 6 rfl rfl)
theorem dX2_runs_79 : decode cX2_runs 79 = .ok (.lmul, 1) := dk_105 (dk_at dksX2_runs_3 7 rfl rfl)
theorem dX2_runs_80 : decode cX2_runs 80 = .ok (.ldc2_w 151, 3) := dk_20 0 151 (dk_at dksX2_runs_3 8 rfl rfl)
theorem dX2_runs_83 : decode cX2_runs 83 = .ok (.ldiv, 1) := dk_109 (dk_at dksX2_runs_3 11 rfl rfl)
theorem dX2_runs_84 : decode cX2_runs 84 = .ok (.ldc2_w 151, 3) := dk_20 0 151 (dk_at dksX2_runs_3 12 rfl rfl)
theorem dX2_runs_87 : decode cX2_runs 87 = .ok (.bipush 100, 2) := dk_16 100 (dk_at dksX2_runs_3 15 rfl rfl)
theorem dX2_runs_89 : decode cX2_runs 89 = .ok (.iload 7, 2) := dk_21 7 (dk_at dksX2_runs_3 17 rfl rfl)
theorem dX2_runs_91 : decode cX2_runs 91 = .ok (.isub, 1) := dk_100 (dk_at dksX2_runs_3 19 rfl rfl)
theorem dX2_runs_92 : decode cX2_runs 92 = .ok (.i2l, 1) := dk_133 (dk_at dksX2_runs_3 20 rfl rfl)
theorem dX2_runs_93 : decode cX2_runs 93 = .ok (.lmul, 1) := dk_105 (dk_at dksX2_runs_3 21 rfl rfl)
theorem dX2_runs_94 : decode cX2_runs 94 = .ok (.ladd, 1) := dk_97 (dk_at dksX2_runs_3 22 rfl rfl)
theorem dX2_runs_95 : decode cX2_runs 95 = .ok (.ladd, 1) := dk_97 (dk_at dksX2_runs_3 23 rfl rfl)
theorem dX2_runs_96 : decode cX2_runs 96 = .ok (.lstore 4, 2) := dk_55 4 (dk_at dksX2_runs_4 0 rfl rfl)
theorem dX2_runs_98 : decode cX2_runs 98 = .ok (.iinc 6 1, 3) := dk_132 6 1 (dk_at dksX2_runs_4 2 rfl rfl)
theorem dX2_runs_101 : decode cX2_runs 101 = .ok (.goto (-55), 3) := dk_167 255 201 (dk_at dksX2_runs_4 5 rfl rfl)
theorem dX2_runs_104 : decode cX2_runs 104 = .ok (.bipush (-6), 2) := dk_16 250 (dk_at dksX2_runs_4 8 rfl rfl)
theorem dX2_runs_106 : decode cX2_runs 106 = .ok (.ireturn, 1) := dk_172 (dk_at dksX2_runs_4 10 rfl rfl)
abbrev cX2_wages : ByteArray := prog_4_method_53_code
def yX2_wages : MethodName := ⟨RX2, "wages", "(II)I"⟩
def dkwX2_wages_5 : List UInt8 := [167, 0, 4, 3, 96, 54, 4, 132, 5, 1, 167, 255, 194, 21, 4, 172]
abbrev dktX2_wages_5 : List UInt8 := dkwX2_wages_5 ++ []
def dkwX2_wages_4 : List UInt8 := [21, 4, 42, 180, 0, 58, 21, 5, 46, 21, 6, 164, 0, 16, 42, 180, 0, 58, 21, 5, 46, 21, 6, 100]
abbrev dktX2_wages_4 : List UInt8 := dkwX2_wages_4 ++ dktX2_wages_5
def dkwX2_wages_3 : List UInt8 := [162, 0, 61, 21, 5, 28, 162, 0, 7, 3, 167, 0, 12, 42, 180, 0, 58, 21, 5, 28, 100, 46, 54, 6]
abbrev dktX2_wages_3 : List UInt8 := dkwX2_wages_3 ++ dktX2_wages_4
def dkwX2_wages_2 : List UInt8 := [79, 29, 16, 10, 108, 62, 132, 4, 255, 167, 255, 232, 3, 54, 4, 3, 54, 5, 21, 5, 16, 9]
abbrev dktX2_wages_2 : List UInt8 := dkwX2_wages_2 ++ dktX2_wages_3
def dkwX2_wages_1 : List UInt8 := [16, 254, 172, 27, 62, 16, 8, 54, 4, 21, 4, 155, 0, 25, 42, 180, 0, 58, 21, 4, 29, 16, 10, 112]
abbrev dktX2_wages_1 : List UInt8 := dkwX2_wages_1 ++ dktX2_wages_2
def dkwX2_wages_0 : List UInt8 := [27, 133, 9, 20, 0, 254, 184, 0, 80, 153, 0, 15, 28, 133, 9, 20, 1, 0, 184, 0, 80, 154, 0, 6]
abbrev dktX2_wages_0 : List UInt8 := dkwX2_wages_0 ++ dktX2_wages_1
theorem dksX2_wages_0 : cX2_wages.data.toList.drop 0 = dktX2_wages_0 := by decide +kernel
theorem dksX2_wages_1 : cX2_wages.data.toList.drop 24 = dktX2_wages_1 := dk_seg dksX2_wages_0 24 rfl rfl
theorem dksX2_wages_2 : cX2_wages.data.toList.drop 48 = dktX2_wages_2 := dk_seg dksX2_wages_1 24 rfl rfl
theorem dksX2_wages_3 : cX2_wages.data.toList.drop 70 = dktX2_wages_3 := dk_seg dksX2_wages_2 22 rfl rfl
theorem dksX2_wages_4 : cX2_wages.data.toList.drop 94 = dktX2_wages_4 := dk_seg dksX2_wages_3 24 rfl rfl
theorem dksX2_wages_5 : cX2_wages.data.toList.drop 118 = dktX2_wages_5 := dk_seg dksX2_wages_4 24 rfl rfl
theorem dX2_wages_0 : decode cX2_wages 0 = .ok (.iload_n 1, 1) := dk_27 (dk_at dksX2_wages_0 0 rfl rfl)
theorem dX2_wages_1 : decode cX2_wages 1 = .ok (.i2l, 1) := dk_133 (dk_at dksX2_wages_0 1 rfl rfl)
theorem dX2_wages_2 : decode cX2_wages 2 = .ok (.lconst 0, 1) := dk_9 (dk_at dksX2_wages_0 2 rfl rfl)
theorem dX2_wages_3 : decode cX2_wages 3 = .ok (.ldc2_w 254, 3) := dk_20 0 254 (dk_at dksX2_wages_0 3 rfl rfl)
theorem dX2_wages_6 : decode cX2_wages 6 = .ok (.invokestatic 80, 3) := dk_184 0 80 (dk_at dksX2_wages_0 6 rfl rfl)
theorem dX2_wages_9 : decode cX2_wages 9 = .ok (.ifCond .eq 15, 3) := dk_153 0 15 (dk_at dksX2_wages_0 9 rfl rfl)
theorem dX2_wages_12 : decode cX2_wages 12 = .ok (.iload_n 2, 1) := dk_28 (dk_at dksX2_wages_0 12 rfl rfl)
theorem dX2_wages_13 : decode cX2_wages 13 = .ok (.i2l, 1) := dk_133 (dk_at dksX2_wages_0 13 rfl rfl)
theorem dX2_wages_14 : decode cX2_wages 14 = .ok (.lconst 0, 1) := dk_9 (dk_at dksX2_wages_0 14 rfl rfl)
theorem dX2_wages_15 : decode cX2_wages 15 = .ok (.ldc2_w 256, 3) := dk_20 1 0 (dk_at dksX2_wages_0 15 rfl rfl)
theorem dX2_wages_18 : decode cX2_wages 18 = .ok (.invokestatic 80, 3) := dk_184 0 80 (dk_at dksX2_wages_0 18 rfl rfl)
theorem dX2_wages_21 : decode cX2_wages 21 = .ok (.ifCond .ne 6, 3) := dk_154 0 6 (dk_at dksX2_wages_0 21 rfl rfl)
theorem dX2_wages_24 : decode cX2_wages 24 = .ok (.bipush (-2), 2) := dk_16 254 (dk_at dksX2_wages_1 0 rfl rfl)
theorem dX2_wages_26 : decode cX2_wages 26 = .ok (.ireturn, 1) := dk_172 (dk_at dksX2_wages_1 2 rfl rfl)
theorem dX2_wages_27 : decode cX2_wages 27 = .ok (.iload_n 1, 1) := dk_27 (dk_at dksX2_wages_1 3 rfl rfl)
theorem dX2_wages_28 : decode cX2_wages 28 = .ok (.istore_n 3, 1) := dk_62 (dk_at dksX2_wages_1 4 rfl rfl)
theorem dX2_wages_29 : decode cX2_wages 29 = .ok (.bipush 8, 2) := dk_16 8 (dk_at dksX2_wages_1 5 rfl rfl)
theorem dX2_wages_31 : decode cX2_wages 31 = .ok (.istore 4, 2) := dk_54 4 (dk_at dksX2_wages_1 7 rfl rfl)
theorem dX2_wages_33 : decode cX2_wages 33 = .ok (.iload 4, 2) := dk_21 4 (dk_at dksX2_wages_1 9 rfl rfl)
theorem dX2_wages_35 : decode cX2_wages 35 = .ok (.ifCond .lt 25, 3) := dk_155 0 25 (dk_at dksX2_wages_1 11 rfl rfl)
theorem dX2_wages_38 : decode cX2_wages 38 = .ok (.aload_n 0, 1) := dk_42 (dk_at dksX2_wages_1 14 rfl rfl)
theorem dX2_wages_39 : decode cX2_wages 39 = .ok (.getfield 58, 3) := dk_180 0 58 (dk_at dksX2_wages_1 15 rfl rfl)
theorem dX2_wages_42 : decode cX2_wages 42 = .ok (.iload 4, 2) := dk_21 4 (dk_at dksX2_wages_1 18 rfl rfl)
theorem dX2_wages_44 : decode cX2_wages 44 = .ok (.iload_n 3, 1) := dk_29 (dk_at dksX2_wages_1 20 rfl rfl)
theorem dX2_wages_45 : decode cX2_wages 45 = .ok (.bipush 10, 2) := dk_16 10 (dk_at dksX2_wages_1 21 rfl rfl)
theorem dX2_wages_47 : decode cX2_wages 47 = .ok (.irem, 1) := dk_112 (dk_at dksX2_wages_1 23 rfl rfl)
theorem dX2_wages_48 : decode cX2_wages 48 = .ok (.iastore, 1) := dk_79 (dk_at dksX2_wages_2 0 rfl rfl)
theorem dX2_wages_49 : decode cX2_wages 49 = .ok (.iload_n 3, 1) := dk_29 (dk_at dksX2_wages_2 1 rfl rfl)
theorem dX2_wages_50 : decode cX2_wages 50 = .ok (.bipush 10, 2) := dk_16 10 (dk_at dksX2_wages_2 2 rfl rfl)
theorem dX2_wages_52 : decode cX2_wages 52 = .ok (.idiv, 1) := dk_108 (dk_at dksX2_wages_2 4 rfl rfl)
theorem dX2_wages_53 : decode cX2_wages 53 = .ok (.istore_n 3, 1) := dk_62 (dk_at dksX2_wages_2 5 rfl rfl)
theorem dX2_wages_54 : decode cX2_wages 54 = .ok (.iinc 4 (-1), 3) := dk_132 4 255 (dk_at dksX2_wages_2 6 rfl rfl)
theorem dX2_wages_57 : decode cX2_wages 57 = .ok (.goto (-24), 3) := dk_167 255 232 (dk_at dksX2_wages_2 9 rfl rfl)
theorem dX2_wages_60 : decode cX2_wages 60 = .ok (.iconst 0, 1) := dk_3 (dk_at dksX2_wages_2 12 rfl rfl)
theorem dX2_wages_61 : decode cX2_wages 61 = .ok (.istore 4, 2) := dk_54 4 (dk_at dksX2_wages_2 13 rfl rfl)
theorem dX2_wages_63 : decode cX2_wages 63 = .ok (.iconst 0, 1) := dk_3 (dk_at dksX2_wages_2 15 rfl rfl)
theorem dX2_wages_64 : decode cX2_wages 64 = .ok (.istore 5, 2) := dk_54 5 (dk_at dksX2_wages_2 16 rfl rfl)
theorem dX2_wages_66 : decode cX2_wages 66 = .ok (.iload 5, 2) := dk_21 5 (dk_at dksX2_wages_2 18 rfl rfl)
theorem dX2_wages_68 : decode cX2_wages 68 = .ok (.bipush 9, 2) := dk_16 9 (dk_at dksX2_wages_2 20 rfl rfl)
theorem dX2_wages_70 : decode cX2_wages 70 = .ok (.if_icmp .ge 61, 3) := dk_162 0 61 (dk_at dksX2_wages_3 0 rfl rfl)
theorem dX2_wages_73 : decode cX2_wages 73 = .ok (.iload 5, 2) := dk_21 5 (dk_at dksX2_wages_3 3 rfl rfl)
theorem dX2_wages_75 : decode cX2_wages 75 = .ok (.iload_n 2, 1) := dk_28 (dk_at dksX2_wages_3 5 rfl rfl)
theorem dX2_wages_76 : decode cX2_wages 76 = .ok (.if_icmp .ge 7, 3) := dk_162 0 7 (dk_at dksX2_wages_3 6 rfl rfl)
theorem dX2_wages_79 : decode cX2_wages 79 = .ok (.iconst 0, 1) := dk_3 (dk_at dksX2_wages_3 9 rfl rfl)
theorem dX2_wages_80 : decode cX2_wages 80 = .ok (.goto 12, 3) := dk_167 0 12 (dk_at dksX2_wages_3 10 rfl rfl)
theorem dX2_wages_83 : decode cX2_wages 83 = .ok (.aload_n 0, 1) := dk_42 (dk_at dksX2_wages_3 13 rfl rfl)
theorem dX2_wages_84 : decode cX2_wages 84 = .ok (.getfield 58, 3) := dk_180 0 58 (dk_at dksX2_wages_3 14 rfl rfl)
theorem dX2_wages_87 : decode cX2_wages 87 = .ok (.iload 5, 2) := dk_21 5 (dk_at dksX2_wages_3 17 rfl rfl)
theorem dX2_wages_89 : decode cX2_wages 89 = .ok (.iload_n 2, 1) := dk_28 (dk_at dksX2_wages_3 19 rfl rfl)
theorem dX2_wages_90 : decode cX2_wages 90 = .ok (.isub, 1) := dk_100 (dk_at dksX2_wages_3 20 rfl rfl)
theorem dX2_wages_91 : decode cX2_wages 91 = .ok (.iaload, 1) := dk_46 (dk_at dksX2_wages_3 21 rfl rfl)
theorem dX2_wages_92 : decode cX2_wages 92 = .ok (.istore 6, 2) := dk_54 6 (dk_at dksX2_wages_3 22 rfl rfl)
theorem dX2_wages_94 : decode cX2_wages 94 = .ok (.iload 4, 2) := dk_21 4 (dk_at dksX2_wages_4 0 rfl rfl)
theorem dX2_wages_96 : decode cX2_wages 96 = .ok (.aload_n 0, 1) := dk_42 (dk_at dksX2_wages_4 2 rfl rfl)
theorem dX2_wages_97 : decode cX2_wages 97 = .ok (.getfield 58, 3) := dk_180 0 58 (dk_at dksX2_wages_4 3 rfl rfl)
theorem dX2_wages_100 : decode cX2_wages 100 = .ok (.iload 5, 2) := dk_21 5 (dk_at dksX2_wages_4 6 rfl rfl)
theorem dX2_wages_102 : decode cX2_wages 102 = .ok (.iaload, 1) := dk_46 (dk_at dksX2_wages_4 8 rfl rfl)
theorem dX2_wages_103 : decode cX2_wages 103 = .ok (.iload 6, 2) := dk_21 6 (dk_at dksX2_wages_4 9 rfl rfl)
theorem dX2_wages_105 : decode cX2_wages 105 = .ok (.if_icmp .le 16, 3) := dk_164 0 16 (dk_at dksX2_wages_4 11 rfl rfl)
theorem dX2_wages_108 : decode cX2_wages 108 = .ok (.aload_n 0, 1) := dk_42 (dk_at dksX2_wages_4 14 rfl rfl)
theorem dX2_wages_109 : decode cX2_wages 109 = .ok (.getfield 58, 3) := dk_180 0 58 (dk_at dksX2_wages_4 15 rfl rfl)
theorem dX2_wages_112 : decode cX2_wages 112 = .ok (.iload 5, 2) := dk_21 5 (dk_at dksX2_wages_4 18 rfl rfl)
theorem dX2_wages_114 : decode cX2_wages 114 = .ok (.iaload, 1) := dk_46 (dk_at dksX2_wages_4 20 rfl rfl)
theorem dX2_wages_115 : decode cX2_wages 115 = .ok (.iload 6, 2) := dk_21 6 (dk_at dksX2_wages_4 21 rfl rfl)
theorem dX2_wages_117 : decode cX2_wages 117 = .ok (.isub, 1) := dk_100 (dk_at dksX2_wages_4 23 rfl rfl)
theorem dX2_wages_118 : decode cX2_wages 118 = .ok (.goto 4, 3) := dk_167 0 4 (dk_at dksX2_wages_5 0 rfl rfl)
theorem dX2_wages_121 : decode cX2_wages 121 = .ok (.iconst 0, 1) := dk_3 (dk_at dksX2_wages_5 3 rfl rfl)
theorem dX2_wages_122 : decode cX2_wages 122 = .ok (.iadd, 1) := dk_96 (dk_at dksX2_wages_5 4 rfl rfl)
theorem dX2_wages_123 : decode cX2_wages 123 = .ok (.istore 4, 2) := dk_54 4 (dk_at dksX2_wages_5 5 rfl rfl)
theorem dX2_wages_125 : decode cX2_wages 125 = .ok (.iinc 5 1, 3) := dk_132 5 1 (dk_at dksX2_wages_5 7 rfl rfl)
theorem dX2_wages_128 : decode cX2_wages 128 = .ok (.goto (-62), 3) := dk_167 255 194 (dk_at dksX2_wages_5 10 rfl rfl)
theorem dX2_wages_131 : decode cX2_wages 131 = .ok (.iload 4, 2) := dk_21 4 (dk_at dksX2_wages_5 13 rfl rfl)
theorem dX2_wages_133 : decode cX2_wages 133 = .ok (.ireturn, 1) := dk_172 (dk_at dksX2_wages_5 15 rfl rfl)
abbrev cX2_change : ByteArray := prog_4_method_55_code
def yX2_change : MethodName := ⟨RX2, "change", "(IIIII)J"⟩
def dkwX2_change_12 : List UInt8 := [167, 0, 20, 9, 167, 0, 16, 42, 180, 0, 61, 27, 47, 22, 6, 21, 5, 184, 1, 8, 173]
abbrev dktX2_change_12 : List UInt8 := dkwX2_change_12 ++ []
def dkwX2_change_11 : List UInt8 := [132, 10, 1, 167, 255, 229, 132, 9, 1, 167, 255, 86, 21, 4, 4, 160, 0, 16, 21, 8, 153, 0, 7, 10]
abbrev dktX2_change_11 : List UInt8 := dkwX2_change_11 ++ dktX2_change_12
def dkwX2_change_10 : List UInt8 := [21, 10, 16, 69, 21, 9, 100, 162, 0, 23, 42, 180, 0, 61, 21, 10, 42, 180, 0, 65, 21, 10, 47, 80]
abbrev dktX2_change_10 : List UInt8 := dkwX2_change_10 ++ dktX2_change_11
def dkwX2_change_9 : List UInt8 := [155, 0, 12, 21, 10, 133, 22, 6, 105, 167, 0, 5, 22, 11, 80, 132, 10, 1, 167, 255, 142, 3, 54, 10]
abbrev dktX2_change_9 : List UInt8 := dkwX2_change_9 ++ dktX2_change_10
def dkwX2_change_8 : List UInt8 := [3, 167, 0, 5, 21, 8, 54, 8, 42, 180, 0, 65, 21, 10, 21, 10, 133, 22, 6, 105, 22, 11, 148]
abbrev dktX2_change_8 : List UInt8 := dkwX2_change_8 ++ dktX2_change_9
def dkwX2_change_7 : List UInt8 := [55, 11, 21, 10, 27, 160, 0, 23, 21, 10, 133, 22, 6, 105, 22, 11, 148, 155, 0, 7, 4, 167, 0, 9]
abbrev dktX2_change_7 : List UInt8 := dkwX2_change_7 ++ dktX2_change_8
def dkwX2_change_6 : List UInt8 := [167, 0, 4, 3, 47, 105, 20, 1, 4, 29, 133, 101, 42, 180, 0, 61, 21, 10, 4, 96, 47, 105, 97]
abbrev dktX2_change_6 : List UInt8 := dkwX2_change_6 ++ dktX2_change_7
def dkwX2_change_5 : List UInt8 := [16, 69, 21, 9, 100, 162, 0, 110, 29, 133, 42, 180, 0, 61, 21, 10, 6, 164, 0, 10, 21, 10, 6, 100]
abbrev dktX2_change_5 : List UInt8 := dkwX2_change_5 ++ dktX2_change_6
def dkwX2_change_4 : List UInt8 := [54, 8, 4, 54, 9, 21, 9, 28, 163, 0, 170, 22, 6, 20, 1, 4, 105, 55, 6, 3, 54, 10, 21, 10]
abbrev dktX2_change_4 : List UInt8 := dkwX2_change_4 ++ dktX2_change_5
def dkwX2_change_3 : List UInt8 := [162, 0, 19, 42, 180, 0, 61, 21, 6, 21, 6, 133, 80, 132, 6, 1, 167, 255, 236, 10, 55, 6, 4]
abbrev dktX2_change_3 : List UInt8 := dkwX2_change_3 ++ dktX2_change_4
def dkwX2_change_2 : List UInt8 := [21, 5, 133, 9, 10, 184, 0, 80, 154, 0, 7, 20, 1, 6, 173, 3, 54, 6, 21, 6, 16, 70]
abbrev dktX2_change_2 : List UInt8 := dkwX2_change_2 ++ dktX2_change_3
def dkwX2_change_1 : List UInt8 := [29, 133, 9, 20, 1, 4, 184, 0, 80, 153, 0, 25, 21, 4, 133, 9, 10, 184, 0, 80, 153, 0, 14]
abbrev dktX2_change_1 : List UInt8 := dkwX2_change_1 ++ dktX2_change_2
def dkwX2_change_0 : List UInt8 := [27, 133, 9, 20, 1, 2, 184, 0, 80, 153, 0, 49, 28, 133, 9, 20, 1, 0, 184, 0, 80, 153, 0, 37]
abbrev dktX2_change_0 : List UInt8 := dkwX2_change_0 ++ dktX2_change_1
theorem dksX2_change_0 : cX2_change.data.toList.drop 0 = dktX2_change_0 := by decide +kernel
theorem dksX2_change_1 : cX2_change.data.toList.drop 24 = dktX2_change_1 := dk_seg dksX2_change_0 24 rfl rfl
theorem dksX2_change_2 : cX2_change.data.toList.drop 47 = dktX2_change_2 := dk_seg dksX2_change_1 23 rfl rfl
theorem dksX2_change_3 : cX2_change.data.toList.drop 69 = dktX2_change_3 := dk_seg dksX2_change_2 22 rfl rfl
theorem dksX2_change_4 : cX2_change.data.toList.drop 92 = dktX2_change_4 := dk_seg dksX2_change_3 23 rfl rfl
theorem dksX2_change_5 : cX2_change.data.toList.drop 116 = dktX2_change_5 := dk_seg dksX2_change_4 24 rfl rfl
theorem dksX2_change_6 : cX2_change.data.toList.drop 140 = dktX2_change_6 := dk_seg dksX2_change_5 24 rfl rfl
theorem dksX2_change_7 : cX2_change.data.toList.drop 163 = dktX2_change_7 := dk_seg dksX2_change_6 23 rfl rfl
theorem dksX2_change_8 : cX2_change.data.toList.drop 187 = dktX2_change_8 := dk_seg dksX2_change_7 24 rfl rfl
theorem dksX2_change_9 : cX2_change.data.toList.drop 210 = dktX2_change_9 := dk_seg dksX2_change_8 23 rfl rfl
theorem dksX2_change_10 : cX2_change.data.toList.drop 234 = dktX2_change_10 := dk_seg dksX2_change_9 24 rfl rfl
theorem dksX2_change_11 : cX2_change.data.toList.drop 258 = dktX2_change_11 := dk_seg dksX2_change_10 24 rfl rfl
theorem dksX2_change_12 : cX2_change.data.toList.drop 282 = dktX2_change_12 := dk_seg dksX2_change_11 24 rfl rfl
theorem dX2_change_0 : decode cX2_change 0 = .ok (.iload_n 1, 1) := dk_27 (dk_at dksX2_change_0 0 rfl rfl)
theorem dX2_change_1 : decode cX2_change 1 = .ok (.i2l, 1) := dk_133 (dk_at dksX2_change_0 1 rfl rfl)
theorem dX2_change_2 : decode cX2_change 2 = .ok (.lconst 0, 1) := dk_9 (dk_at dksX2_change_0 2 rfl rfl)
theorem dX2_change_3 : decode cX2_change 3 = .ok (.ldc2_w 258, 3) := dk_20 1 2 (dk_at dksX2_change_0 3 rfl rfl)
theorem dX2_change_6 : decode cX2_change 6 = .ok (.invokestatic 80, 3) := dk_184 0 80 (dk_at dksX2_change_0 6 rfl rfl)
theorem dX2_change_9 : decode cX2_change 9 = .ok (.ifCond .eq 49, 3) := dk_153 0 49 (dk_at dksX2_change_0 9 rfl rfl)
theorem dX2_change_12 : decode cX2_change 12 = .ok (.iload_n 2, 1) := dk_28 (dk_at dksX2_change_0 12 rfl rfl)
theorem dX2_change_13 : decode cX2_change 13 = .ok (.i2l, 1) := dk_133 (dk_at dksX2_change_0 13 rfl rfl)
theorem dX2_change_14 : decode cX2_change 14 = .ok (.lconst 0, 1) := dk_9 (dk_at dksX2_change_0 14 rfl rfl)
theorem dX2_change_15 : decode cX2_change 15 = .ok (.ldc2_w 256, 3) := dk_20 1 0 (dk_at dksX2_change_0 15 rfl rfl)
theorem dX2_change_18 : decode cX2_change 18 = .ok (.invokestatic 80, 3) := dk_184 0 80 (dk_at dksX2_change_0 18 rfl rfl)
theorem dX2_change_21 : decode cX2_change 21 = .ok (.ifCond .eq 37, 3) := dk_153 0 37 (dk_at dksX2_change_0 21 rfl rfl)
theorem dX2_change_24 : decode cX2_change 24 = .ok (.iload_n 3, 1) := dk_29 (dk_at dksX2_change_1 0 rfl rfl)
theorem dX2_change_25 : decode cX2_change 25 = .ok (.i2l, 1) := dk_133 (dk_at dksX2_change_1 1 rfl rfl)
theorem dX2_change_26 : decode cX2_change 26 = .ok (.lconst 0, 1) := dk_9 (dk_at dksX2_change_1 2 rfl rfl)
theorem dX2_change_27 : decode cX2_change 27 = .ok (.ldc2_w 260, 3) := dk_20 1 4 (dk_at dksX2_change_1 3 rfl rfl)
theorem dX2_change_30 : decode cX2_change 30 = .ok (.invokestatic 80, 3) := dk_184 0 80 (dk_at dksX2_change_1 6 rfl rfl)
theorem dX2_change_33 : decode cX2_change 33 = .ok (.ifCond .eq 25, 3) := dk_153 0 25 (dk_at dksX2_change_1 9 rfl rfl)
theorem dX2_change_36 : decode cX2_change 36 = .ok (.iload 4, 2) := dk_21 4 (dk_at dksX2_change_1 12 rfl rfl)
theorem dX2_change_38 : decode cX2_change 38 = .ok (.i2l, 1) := dk_133 (dk_at dksX2_change_1 14 rfl rfl)
theorem dX2_change_39 : decode cX2_change 39 = .ok (.lconst 0, 1) := dk_9 (dk_at dksX2_change_1 15 rfl rfl)
theorem dX2_change_40 : decode cX2_change 40 = .ok (.lconst 1, 1) := dk_10 (dk_at dksX2_change_1 16 rfl rfl)
theorem dX2_change_41 : decode cX2_change 41 = .ok (.invokestatic 80, 3) := dk_184 0 80 (dk_at dksX2_change_1 17 rfl rfl)
theorem dX2_change_44 : decode cX2_change 44 = .ok (.ifCond .eq 14, 3) := dk_153 0 14 (dk_at dksX2_change_1 20 rfl rfl)
theorem dX2_change_47 : decode cX2_change 47 = .ok (.iload 5, 2) := dk_21 5 (dk_at dksX2_change_2 0 rfl rfl)
theorem dX2_change_49 : decode cX2_change 49 = .ok (.i2l, 1) := dk_133 (dk_at dksX2_change_2 2 rfl rfl)
theorem dX2_change_50 : decode cX2_change 50 = .ok (.lconst 0, 1) := dk_9 (dk_at dksX2_change_2 3 rfl rfl)
theorem dX2_change_51 : decode cX2_change 51 = .ok (.lconst 1, 1) := dk_10 (dk_at dksX2_change_2 4 rfl rfl)
theorem dX2_change_52 : decode cX2_change 52 = .ok (.invokestatic 80, 3) := dk_184 0 80 (dk_at dksX2_change_2 5 rfl rfl)
theorem dX2_change_55 : decode cX2_change 55 = .ok (.ifCond .ne 7, 3) := dk_154 0 7 (dk_at dksX2_change_2 8 rfl rfl)
theorem dX2_change_58 : decode cX2_change 58 = .ok (.ldc2_w 262, 3) := dk_20 1 6 (dk_at dksX2_change_2 11 rfl rfl)
theorem dX2_change_61 : decode cX2_change 61 = .ok (.lreturn, 1) := dk_173 (dk_at dksX2_change_2 14 rfl rfl)
theorem dX2_change_62 : decode cX2_change 62 = .ok (.iconst 0, 1) := dk_3 (dk_at dksX2_change_2 15 rfl rfl)
theorem dX2_change_63 : decode cX2_change 63 = .ok (.istore 6, 2) := dk_54 6 (dk_at dksX2_change_2 16 rfl rfl)
theorem dX2_change_65 : decode cX2_change 65 = .ok (.iload 6, 2) := dk_21 6 (dk_at dksX2_change_2 18 rfl rfl)
theorem dX2_change_67 : decode cX2_change 67 = .ok (.bipush 70, 2) := dk_16 70 (dk_at dksX2_change_2 20 rfl rfl)
theorem dX2_change_69 : decode cX2_change 69 = .ok (.if_icmp .ge 19, 3) := dk_162 0 19 (dk_at dksX2_change_3 0 rfl rfl)
theorem dX2_change_72 : decode cX2_change 72 = .ok (.aload_n 0, 1) := dk_42 (dk_at dksX2_change_3 3 rfl rfl)
theorem dX2_change_73 : decode cX2_change 73 = .ok (.getfield 61, 3) := dk_180 0 61 (dk_at dksX2_change_3 4 rfl rfl)
theorem dX2_change_76 : decode cX2_change 76 = .ok (.iload 6, 2) := dk_21 6 (dk_at dksX2_change_3 7 rfl rfl)
theorem dX2_change_78 : decode cX2_change 78 = .ok (.iload 6, 2) := dk_21 6 (dk_at dksX2_change_3 9 rfl rfl)
theorem dX2_change_80 : decode cX2_change 80 = .ok (.i2l, 1) := dk_133 (dk_at dksX2_change_3 11 rfl rfl)
theorem dX2_change_81 : decode cX2_change 81 = .ok (.lastore, 1) := dk_80 (dk_at dksX2_change_3 12 rfl rfl)
theorem dX2_change_82 : decode cX2_change 82 = .ok (.iinc 6 1, 3) := dk_132 6 1 (dk_at dksX2_change_3 13 rfl rfl)
theorem dX2_change_85 : decode cX2_change 85 = .ok (.goto (-20), 3) := dk_167 255 236 (dk_at dksX2_change_3 16 rfl rfl)
theorem dX2_change_88 : decode cX2_change 88 = .ok (.lconst 1, 1) := dk_10 (dk_at dksX2_change_3 19 rfl rfl)
theorem dX2_change_89 : decode cX2_change 89 = .ok (.lstore 6, 2) := dk_55 6 (dk_at dksX2_change_3 20 rfl rfl)
theorem dX2_change_91 : decode cX2_change 91 = .ok (.iconst 1, 1) := dk_4 (dk_at dksX2_change_3 22 rfl rfl)
theorem dX2_change_92 : decode cX2_change 92 = .ok (.istore 8, 2) := dk_54 8 (dk_at dksX2_change_4 0 rfl rfl)
theorem dX2_change_94 : decode cX2_change 94 = .ok (.iconst 1, 1) := dk_4 (dk_at dksX2_change_4 2 rfl rfl)
theorem dX2_change_95 : decode cX2_change 95 = .ok (.istore 9, 2) := dk_54 9 (dk_at dksX2_change_4 3 rfl rfl)
theorem dX2_change_97 : decode cX2_change 97 = .ok (.iload 9, 2) := dk_21 9 (dk_at dksX2_change_4 5 rfl rfl)
theorem dX2_change_99 : decode cX2_change 99 = .ok (.iload_n 2, 1) := dk_28 (dk_at dksX2_change_4 7 rfl rfl)
theorem dX2_change_100 : decode cX2_change 100 = .ok (.if_icmp .gt 170, 3) := dk_163 0 170 (dk_at dksX2_change_4 8 rfl rfl)
theorem dX2_change_103 : decode cX2_change 103 = .ok (.lload 6, 2) := dk_22 6 (dk_at dksX2_change_4 11 rfl rfl)
theorem dX2_change_105 : decode cX2_change 105 = .ok (.ldc2_w 260, 3) := dk_20 1 4 (dk_at dksX2_change_4 13 rfl rfl)
theorem dX2_change_108 : decode cX2_change 108 = .ok (.lmul, 1) := dk_105 (dk_at dksX2_change_4 16 rfl rfl)
theorem dX2_change_109 : decode cX2_change 109 = .ok (.lstore 6, 2) := dk_55 6 (dk_at dksX2_change_4 17 rfl rfl)
theorem dX2_change_111 : decode cX2_change 111 = .ok (.iconst 0, 1) := dk_3 (dk_at dksX2_change_4 19 rfl rfl)
theorem dX2_change_112 : decode cX2_change 112 = .ok (.istore 10, 2) := dk_54 10 (dk_at dksX2_change_4 20 rfl rfl)
theorem dX2_change_114 : decode cX2_change 114 = .ok (.iload 10, 2) := dk_21 10 (dk_at dksX2_change_4 22 rfl rfl)
theorem dX2_change_116 : decode cX2_change 116 = .ok (.bipush 69, 2) := dk_16 69 (dk_at dksX2_change_5 0 rfl rfl)
theorem dX2_change_118 : decode cX2_change 118 = .ok (.iload 9, 2) := dk_21 9 (dk_at dksX2_change_5 2 rfl rfl)
theorem dX2_change_120 : decode cX2_change 120 = .ok (.isub, 1) := dk_100 (dk_at dksX2_change_5 4 rfl rfl)
theorem dX2_change_121 : decode cX2_change 121 = .ok (.if_icmp .ge 110, 3) := dk_162 0 110 (dk_at dksX2_change_5 5 rfl rfl)
theorem dX2_change_124 : decode cX2_change 124 = .ok (.iload_n 3, 1) := dk_29 (dk_at dksX2_change_5 8 rfl rfl)
theorem dX2_change_125 : decode cX2_change 125 = .ok (.i2l, 1) := dk_133 (dk_at dksX2_change_5 9 rfl rfl)
theorem dX2_change_126 : decode cX2_change 126 = .ok (.aload_n 0, 1) := dk_42 (dk_at dksX2_change_5 10 rfl rfl)
theorem dX2_change_127 : decode cX2_change 127 = .ok (.getfield 61, 3) := dk_180 0 61 (dk_at dksX2_change_5 11 rfl rfl)
theorem dX2_change_130 : decode cX2_change 130 = .ok (.iload 10, 2) := dk_21 10 (dk_at dksX2_change_5 14 rfl rfl)
theorem dX2_change_132 : decode cX2_change 132 = .ok (.iconst 3, 1) := dk_6 (dk_at dksX2_change_5 16 rfl rfl)
theorem dX2_change_133 : decode cX2_change 133 = .ok (.if_icmp .le 10, 3) := dk_164 0 10 (dk_at dksX2_change_5 17 rfl rfl)
theorem dX2_change_136 : decode cX2_change 136 = .ok (.iload 10, 2) := dk_21 10 (dk_at dksX2_change_5 20 rfl rfl)
theorem dX2_change_138 : decode cX2_change 138 = .ok (.iconst 3, 1) := dk_6 (dk_at dksX2_change_5 22 rfl rfl)
theorem dX2_change_139 : decode cX2_change 139 = .ok (.isub, 1) := dk_100 (dk_at dksX2_change_5 23 rfl rfl)
theorem dX2_change_140 : decode cX2_change 140 = .ok (.goto 4, 3) := dk_167 0 4 (dk_at dksX2_change_6 0 rfl rfl)
theorem dX2_change_143 : decode cX2_change 143 = .ok (.iconst 0, 1) := dk_3 (dk_at dksX2_change_6 3 rfl rfl)
theorem dX2_change_144 : decode cX2_change 144 = .ok (.laload, 1) := dk_47 (dk_at dksX2_change_6 4 rfl rfl)
theorem dX2_change_145 : decode cX2_change 145 = .ok (.lmul, 1) := dk_105 (dk_at dksX2_change_6 5 rfl rfl)
theorem dX2_change_146 : decode cX2_change 146 = .ok (.ldc2_w 260, 3) := dk_20 1 4 (dk_at dksX2_change_6 6 rfl rfl)
theorem dX2_change_149 : decode cX2_change 149 = .ok (.iload_n 3, 1) := dk_29 (dk_at dksX2_change_6 9 rfl rfl)
theorem dX2_change_150 : decode cX2_change 150 = .ok (.i2l, 1) := dk_133 (dk_at dksX2_change_6 10 rfl rfl)
theorem dX2_change_151 : decode cX2_change 151 = .ok (.lsub, 1) := dk_101 (dk_at dksX2_change_6 11 rfl rfl)
theorem dX2_change_152 : decode cX2_change 152 = .ok (.aload_n 0, 1) := dk_42 (dk_at dksX2_change_6 12 rfl rfl)
theorem dX2_change_153 : decode cX2_change 153 = .ok (.getfield 61, 3) := dk_180 0 61 (dk_at dksX2_change_6 13 rfl rfl)
theorem dX2_change_156 : decode cX2_change 156 = .ok (.iload 10, 2) := dk_21 10 (dk_at dksX2_change_6 16 rfl rfl)
theorem dX2_change_158 : decode cX2_change 158 = .ok (.iconst 1, 1) := dk_4 (dk_at dksX2_change_6 18 rfl rfl)
theorem dX2_change_159 : decode cX2_change 159 = .ok (.iadd, 1) := dk_96 (dk_at dksX2_change_6 19 rfl rfl)
theorem dX2_change_160 : decode cX2_change 160 = .ok (.laload, 1) := dk_47 (dk_at dksX2_change_6 20 rfl rfl)
theorem dX2_change_161 : decode cX2_change 161 = .ok (.lmul, 1) := dk_105 (dk_at dksX2_change_6 21 rfl rfl)
theorem dX2_change_162 : decode cX2_change 162 = .ok (.ladd, 1) := dk_97 (dk_at dksX2_change_6 22 rfl rfl)
theorem dX2_change_163 : decode cX2_change 163 = .ok (.lstore 11, 2) := dk_55 11 (dk_at dksX2_change_7 0 rfl rfl)
theorem dX2_change_165 : decode cX2_change 165 = .ok (.iload 10, 2) := dk_21 10 (dk_at dksX2_change_7 2 rfl rfl)
theorem dX2_change_167 : decode cX2_change 167 = .ok (.iload_n 1, 1) := dk_27 (dk_at dksX2_change_7 4 rfl rfl)
theorem dX2_change_168 : decode cX2_change 168 = .ok (.if_icmp .ne 23, 3) := dk_160 0 23 (dk_at dksX2_change_7 5 rfl rfl)
theorem dX2_change_171 : decode cX2_change 171 = .ok (.iload 10, 2) := dk_21 10 (dk_at dksX2_change_7 8 rfl rfl)
theorem dX2_change_173 : decode cX2_change 173 = .ok (.i2l, 1) := dk_133 (dk_at dksX2_change_7 10 rfl rfl)
theorem dX2_change_174 : decode cX2_change 174 = .ok (.lload 6, 2) := dk_22 6 (dk_at dksX2_change_7 11 rfl rfl)
theorem dX2_change_176 : decode cX2_change 176 = .ok (.lmul, 1) := dk_105 (dk_at dksX2_change_7 13 rfl rfl)
theorem dX2_change_177 : decode cX2_change 177 = .ok (.lload 11, 2) := dk_22 11 (dk_at dksX2_change_7 14 rfl rfl)
theorem dX2_change_179 : decode cX2_change 179 = .ok (.lcmp, 1) := dk_148 (dk_at dksX2_change_7 16 rfl rfl)
theorem dX2_change_180 : decode cX2_change 180 = .ok (.ifCond .lt 7, 3) := dk_155 0 7 (dk_at dksX2_change_7 17 rfl rfl)
theorem dX2_change_183 : decode cX2_change 183 = .ok (.iconst 1, 1) := dk_4 (dk_at dksX2_change_7 20 rfl rfl)
theorem dX2_change_184 : decode cX2_change 184 = .ok (.goto 9, 3) := dk_167 0 9 (dk_at dksX2_change_7 21 rfl rfl)
theorem dX2_change_187 : decode cX2_change 187 = .ok (.iconst 0, 1) := dk_3 (dk_at dksX2_change_8 0 rfl rfl)
theorem dX2_change_188 : decode cX2_change 188 = .ok (.goto 5, 3) := dk_167 0 5 (dk_at dksX2_change_8 1 rfl rfl)
theorem dX2_change_191 : decode cX2_change 191 = .ok (.iload 8, 2) := dk_21 8 (dk_at dksX2_change_8 4 rfl rfl)
theorem dX2_change_193 : decode cX2_change 193 = .ok (.istore 8, 2) := dk_54 8 (dk_at dksX2_change_8 6 rfl rfl)
theorem dX2_change_195 : decode cX2_change 195 = .ok (.aload_n 0, 1) := dk_42 (dk_at dksX2_change_8 8 rfl rfl)
theorem dX2_change_196 : decode cX2_change 196 = .ok (.getfield 65, 3) := dk_180 0 65 (dk_at dksX2_change_8 9 rfl rfl)
theorem dX2_change_199 : decode cX2_change 199 = .ok (.iload 10, 2) := dk_21 10 (dk_at dksX2_change_8 12 rfl rfl)
theorem dX2_change_201 : decode cX2_change 201 = .ok (.iload 10, 2) := dk_21 10 (dk_at dksX2_change_8 14 rfl rfl)
theorem dX2_change_203 : decode cX2_change 203 = .ok (.i2l, 1) := dk_133 (dk_at dksX2_change_8 16 rfl rfl)
theorem dX2_change_204 : decode cX2_change 204 = .ok (.lload 6, 2) := dk_22 6 (dk_at dksX2_change_8 17 rfl rfl)
theorem dX2_change_206 : decode cX2_change 206 = .ok (.lmul, 1) := dk_105 (dk_at dksX2_change_8 19 rfl rfl)
theorem dX2_change_207 : decode cX2_change 207 = .ok (.lload 11, 2) := dk_22 11 (dk_at dksX2_change_8 20 rfl rfl)
theorem dX2_change_209 : decode cX2_change 209 = .ok (.lcmp, 1) := dk_148 (dk_at dksX2_change_8 22 rfl rfl)
theorem dX2_change_210 : decode cX2_change 210 = .ok (.ifCond .lt 12, 3) := dk_155 0 12 (dk_at dksX2_change_9 0 rfl rfl)
theorem dX2_change_213 : decode cX2_change 213 = .ok (.iload 10, 2) := dk_21 10 (dk_at dksX2_change_9 3 rfl rfl)
theorem dX2_change_215 : decode cX2_change 215 = .ok (.i2l, 1) := dk_133 (dk_at dksX2_change_9 5 rfl rfl)
theorem dX2_change_216 : decode cX2_change 216 = .ok (.lload 6, 2) := dk_22 6 (dk_at dksX2_change_9 6 rfl rfl)
theorem dX2_change_218 : decode cX2_change 218 = .ok (.lmul, 1) := dk_105 (dk_at dksX2_change_9 8 rfl rfl)
theorem dX2_change_219 : decode cX2_change 219 = .ok (.goto 5, 3) := dk_167 0 5 (dk_at dksX2_change_9 9 rfl rfl)
theorem dX2_change_222 : decode cX2_change 222 = .ok (.lload 11, 2) := dk_22 11 (dk_at dksX2_change_9 12 rfl rfl)
theorem dX2_change_224 : decode cX2_change 224 = .ok (.lastore, 1) := dk_80 (dk_at dksX2_change_9 14 rfl rfl)
theorem dX2_change_225 : decode cX2_change 225 = .ok (.iinc 10 1, 3) := dk_132 10 1 (dk_at dksX2_change_9 15 rfl rfl)
theorem dX2_change_228 : decode cX2_change 228 = .ok (.goto (-114), 3) := dk_167 255 142 (dk_at dksX2_change_9 18 rfl rfl)
theorem dX2_change_231 : decode cX2_change 231 = .ok (.iconst 0, 1) := dk_3 (dk_at dksX2_change_9 21 rfl rfl)
theorem dX2_change_232 : decode cX2_change 232 = .ok (.istore 10, 2) := dk_54 10 (dk_at dksX2_change_9 22 rfl rfl)
theorem dX2_change_234 : decode cX2_change 234 = .ok (.iload 10, 2) := dk_21 10 (dk_at dksX2_change_10 0 rfl rfl)
theorem dX2_change_236 : decode cX2_change 236 = .ok (.bipush 69, 2) := dk_16 69 (dk_at dksX2_change_10 2 rfl rfl)
theorem dX2_change_238 : decode cX2_change 238 = .ok (.iload 9, 2) := dk_21 9 (dk_at dksX2_change_10 4 rfl rfl)
theorem dX2_change_240 : decode cX2_change 240 = .ok (.isub, 1) := dk_100 (dk_at dksX2_change_10 6 rfl rfl)
theorem dX2_change_241 : decode cX2_change 241 = .ok (.if_icmp .ge 23, 3) := dk_162 0 23 (dk_at dksX2_change_10 7 rfl rfl)
theorem dX2_change_244 : decode cX2_change 244 = .ok (.aload_n 0, 1) := dk_42 (dk_at dksX2_change_10 10 rfl rfl)
theorem dX2_change_245 : decode cX2_change 245 = .ok (.getfield 61, 3) := dk_180 0 61 (dk_at dksX2_change_10 11 rfl rfl)
theorem dX2_change_248 : decode cX2_change 248 = .ok (.iload 10, 2) := dk_21 10 (dk_at dksX2_change_10 14 rfl rfl)
theorem dX2_change_250 : decode cX2_change 250 = .ok (.aload_n 0, 1) := dk_42 (dk_at dksX2_change_10 16 rfl rfl)
theorem dX2_change_251 : decode cX2_change 251 = .ok (.getfield 65, 3) := dk_180 0 65 (dk_at dksX2_change_10 17 rfl rfl)
theorem dX2_change_254 : decode cX2_change 254 = .ok (.iload 10, 2) := dk_21 10 (dk_at dksX2_change_10 20 rfl rfl)
theorem dX2_change_256 : decode cX2_change 256 = .ok (.laload, 1) := dk_47 (dk_at dksX2_change_10 22 rfl rfl)
theorem dX2_change_257 : decode cX2_change 257 = .ok (.lastore, 1) := dk_80 (dk_at dksX2_change_10 23 rfl rfl)
theorem dX2_change_258 : decode cX2_change 258 = .ok (.iinc 10 1, 3) := dk_132 10 1 (dk_at dksX2_change_11 0 rfl rfl)
theorem dX2_change_261 : decode cX2_change 261 = .ok (.goto (-27), 3) := dk_167 255 229 (dk_at dksX2_change_11 3 rfl rfl)
theorem dX2_change_264 : decode cX2_change 264 = .ok (.iinc 9 1, 3) := dk_132 9 1 (dk_at dksX2_change_11 6 rfl rfl)
theorem dX2_change_267 : decode cX2_change 267 = .ok (.goto (-170), 3) := dk_167 255 86 (dk_at dksX2_change_11 9 rfl rfl)
theorem dX2_change_270 : decode cX2_change 270 = .ok (.iload 4, 2) := dk_21 4 (dk_at dksX2_change_11 12 rfl rfl)
theorem dX2_change_272 : decode cX2_change 272 = .ok (.iconst 1, 1) := dk_4 (dk_at dksX2_change_11 14 rfl rfl)
theorem dX2_change_273 : decode cX2_change 273 = .ok (.if_icmp .ne 16, 3) := dk_160 0 16 (dk_at dksX2_change_11 15 rfl rfl)
theorem dX2_change_276 : decode cX2_change 276 = .ok (.iload 8, 2) := dk_21 8 (dk_at dksX2_change_11 18 rfl rfl)
theorem dX2_change_278 : decode cX2_change 278 = .ok (.ifCond .eq 7, 3) := dk_153 0 7 (dk_at dksX2_change_11 20 rfl rfl)
theorem dX2_change_281 : decode cX2_change 281 = .ok (.lconst 1, 1) := dk_10 (dk_at dksX2_change_11 23 rfl rfl)
theorem dX2_change_282 : decode cX2_change 282 = .ok (.goto 20, 3) := dk_167 0 20 (dk_at dksX2_change_12 0 rfl rfl)
theorem dX2_change_285 : decode cX2_change 285 = .ok (.lconst 0, 1) := dk_9 (dk_at dksX2_change_12 3 rfl rfl)
theorem dX2_change_286 : decode cX2_change 286 = .ok (.goto 16, 3) := dk_167 0 16 (dk_at dksX2_change_12 4 rfl rfl)
theorem dX2_change_289 : decode cX2_change 289 = .ok (.aload_n 0, 1) := dk_42 (dk_at dksX2_change_12 7 rfl rfl)
theorem dX2_change_290 : decode cX2_change 290 = .ok (.getfield 61, 3) := dk_180 0 61 (dk_at dksX2_change_12 8 rfl rfl)
theorem dX2_change_293 : decode cX2_change 293 = .ok (.iload_n 1, 1) := dk_27 (dk_at dksX2_change_12 11 rfl rfl)
theorem dX2_change_294 : decode cX2_change 294 = .ok (.laload, 1) := dk_47 (dk_at dksX2_change_12 12 rfl rfl)
theorem dX2_change_295 : decode cX2_change 295 = .ok (.lload 6, 2) := dk_22 6 (dk_at dksX2_change_12 13 rfl rfl)
theorem dX2_change_297 : decode cX2_change 297 = .ok (.iload 5, 2) := dk_21 5 (dk_at dksX2_change_12 15 rfl rfl)
theorem dX2_change_299 : decode cX2_change 299 = .ok (.invokestatic 264, 3) := dk_184 1 8 (dk_at dksX2_change_12 17 rfl rfl)
theorem dX2_change_302 : decode cX2_change 302 = .ok (.lreturn, 1) := dk_173 (dk_at dksX2_change_12 20 rfl rfl)
abbrev cX2_lowest : ByteArray := prog_4_method_54_code
def yX2_lowest : MethodName := ⟨RX2, "lowest", "(JJI)J"⟩
def dkwX2_lowest_1 : List UInt8 := [22, 9, 55, 7, 167, 255, 234, 21, 4, 154, 0, 10, 30, 22, 5, 109, 167, 0, 7, 32, 22, 5, 109, 173]
abbrev dktX2_lowest_1 : List UInt8 := dkwX2_lowest_1 ++ []
def dkwX2_lowest_0 : List UInt8 := [32, 55, 5, 30, 55, 7, 22, 7, 9, 148, 153, 0, 21, 22, 5, 22, 7, 113, 55, 9, 22, 7, 55, 5]
abbrev dktX2_lowest_0 : List UInt8 := dkwX2_lowest_0 ++ dktX2_lowest_1
theorem dksX2_lowest_0 : cX2_lowest.data.toList.drop 0 = dktX2_lowest_0 := by decide +kernel
theorem dksX2_lowest_1 : cX2_lowest.data.toList.drop 24 = dktX2_lowest_1 := dk_seg dksX2_lowest_0 24 rfl rfl
theorem dX2_lowest_0 : decode cX2_lowest 0 = .ok (.lload_n 2, 1) := dk_32 (dk_at dksX2_lowest_0 0 rfl rfl)
theorem dX2_lowest_1 : decode cX2_lowest 1 = .ok (.lstore 5, 2) := dk_55 5 (dk_at dksX2_lowest_0 1 rfl rfl)
theorem dX2_lowest_3 : decode cX2_lowest 3 = .ok (.lload_n 0, 1) := dk_30 (dk_at dksX2_lowest_0 3 rfl rfl)
theorem dX2_lowest_4 : decode cX2_lowest 4 = .ok (.lstore 7, 2) := dk_55 7 (dk_at dksX2_lowest_0 4 rfl rfl)
theorem dX2_lowest_6 : decode cX2_lowest 6 = .ok (.lload 7, 2) := dk_22 7 (dk_at dksX2_lowest_0 6 rfl rfl)
theorem dX2_lowest_8 : decode cX2_lowest 8 = .ok (.lconst 0, 1) := dk_9 (dk_at dksX2_lowest_0 8 rfl rfl)
theorem dX2_lowest_9 : decode cX2_lowest 9 = .ok (.lcmp, 1) := dk_148 (dk_at dksX2_lowest_0 9 rfl rfl)
theorem dX2_lowest_10 : decode cX2_lowest 10 = .ok (.ifCond .eq 21, 3) := dk_153 0 21 (dk_at dksX2_lowest_0 10 rfl rfl)
theorem dX2_lowest_13 : decode cX2_lowest 13 = .ok (.lload 5, 2) := dk_22 5 (dk_at dksX2_lowest_0 13 rfl rfl)
theorem dX2_lowest_15 : decode cX2_lowest 15 = .ok (.lload 7, 2) := dk_22 7 (dk_at dksX2_lowest_0 15 rfl rfl)
theorem dX2_lowest_17 : decode cX2_lowest 17 = .ok (.lrem, 1) := dk_113 (dk_at dksX2_lowest_0 17 rfl rfl)
theorem dX2_lowest_18 : decode cX2_lowest 18 = .ok (.lstore 9, 2) := dk_55 9 (dk_at dksX2_lowest_0 18 rfl rfl)
theorem dX2_lowest_20 : decode cX2_lowest 20 = .ok (.lload 7, 2) := dk_22 7 (dk_at dksX2_lowest_0 20 rfl rfl)
theorem dX2_lowest_22 : decode cX2_lowest 22 = .ok (.lstore 5, 2) := dk_55 5 (dk_at dksX2_lowest_0 22 rfl rfl)
theorem dX2_lowest_24 : decode cX2_lowest 24 = .ok (.lload 9, 2) := dk_22 9 (dk_at dksX2_lowest_1 0 rfl rfl)
theorem dX2_lowest_26 : decode cX2_lowest 26 = .ok (.lstore 7, 2) := dk_55 7 (dk_at dksX2_lowest_1 2 rfl rfl)
theorem dX2_lowest_28 : decode cX2_lowest 28 = .ok (.goto (-22), 3) := dk_167 255 234 (dk_at dksX2_lowest_1 4 rfl rfl)
theorem dX2_lowest_31 : decode cX2_lowest 31 = .ok (.iload 4, 2) := dk_21 4 (dk_at dksX2_lowest_1 7 rfl rfl)
theorem dX2_lowest_33 : decode cX2_lowest 33 = .ok (.ifCond .ne 10, 3) := dk_154 0 10 (dk_at dksX2_lowest_1 9 rfl rfl)
theorem dX2_lowest_36 : decode cX2_lowest 36 = .ok (.lload_n 0, 1) := dk_30 (dk_at dksX2_lowest_1 12 rfl rfl)
theorem dX2_lowest_37 : decode cX2_lowest 37 = .ok (.lload 5, 2) := dk_22 5 (dk_at dksX2_lowest_1 13 rfl rfl)
theorem dX2_lowest_39 : decode cX2_lowest 39 = .ok (.ldiv, 1) := dk_109 (dk_at dksX2_lowest_1 15 rfl rfl)
theorem dX2_lowest_40 : decode cX2_lowest 40 = .ok (.goto 7, 3) := dk_167 0 7 (dk_at dksX2_lowest_1 16 rfl rfl)
theorem dX2_lowest_43 : decode cX2_lowest 43 = .ok (.lload_n 2, 1) := dk_32 (dk_at dksX2_lowest_1 19 rfl rfl)
theorem dX2_lowest_44 : decode cX2_lowest 44 = .ok (.lload 5, 2) := dk_22 5 (dk_at dksX2_lowest_1 20 rfl rfl)
theorem dX2_lowest_46 : decode cX2_lowest 46 = .ok (.ldiv, 1) := dk_109 (dk_at dksX2_lowest_1 22 rfl rfl)
theorem dX2_lowest_47 : decode cX2_lowest 47 = .ok (.lreturn, 1) := dk_173 (dk_at dksX2_lowest_1 23 rfl rfl)
abbrev cX2_sample : ByteArray := prog_4_method_57_code
def yX2_sample : MethodName := ⟨RX2, "sample", "(IIIII)J"⟩
def dkwX2_sample_3 : List UInt8 := [29, 21, 4, 100, 182, 1, 14, 105, 42, 27, 29, 182, 1, 14, 21, 5, 184, 1, 8, 173]
abbrev dktX2_sample_3 : List UInt8 := dkwX2_sample_3 ++ []
def dkwX2_sample_2 : List UInt8 := [133, 9, 10, 184, 0, 80, 154, 0, 7, 20, 1, 6, 173, 42, 28, 21, 4, 182, 1, 14, 42, 27, 28, 100]
abbrev dktX2_sample_2 : List UInt8 := dkwX2_sample_2 ++ dktX2_sample_3
def dkwX2_sample_1 : List UInt8 := [133, 9, 27, 133, 184, 0, 80, 153, 0, 26, 21, 4, 133, 9, 29, 133, 184, 0, 80, 153, 0, 14, 21, 5]
abbrev dktX2_sample_1 : List UInt8 := dkwX2_sample_1 ++ dktX2_sample_2
def dkwX2_sample_0 : List UInt8 := [27, 133, 10, 20, 1, 12, 184, 0, 80, 153, 0, 48, 28, 133, 9, 27, 133, 184, 0, 80, 153, 0, 37, 29]
abbrev dktX2_sample_0 : List UInt8 := dkwX2_sample_0 ++ dktX2_sample_1
theorem dksX2_sample_0 : cX2_sample.data.toList.drop 0 = dktX2_sample_0 := by decide +kernel
theorem dksX2_sample_1 : cX2_sample.data.toList.drop 24 = dktX2_sample_1 := dk_seg dksX2_sample_0 24 rfl rfl
theorem dksX2_sample_2 : cX2_sample.data.toList.drop 48 = dktX2_sample_2 := dk_seg dksX2_sample_1 24 rfl rfl
theorem dksX2_sample_3 : cX2_sample.data.toList.drop 72 = dktX2_sample_3 := dk_seg dksX2_sample_2 24 rfl rfl
theorem dX2_sample_0 : decode cX2_sample 0 = .ok (.iload_n 1, 1) := dk_27 (dk_at dksX2_sample_0 0 rfl rfl)
theorem dX2_sample_1 : decode cX2_sample 1 = .ok (.i2l, 1) := dk_133 (dk_at dksX2_sample_0 1 rfl rfl)
theorem dX2_sample_2 : decode cX2_sample 2 = .ok (.lconst 1, 1) := dk_10 (dk_at dksX2_sample_0 2 rfl rfl)
theorem dX2_sample_3 : decode cX2_sample 3 = .ok (.ldc2_w 268, 3) := dk_20 1 12 (dk_at dksX2_sample_0 3 rfl rfl)
theorem dX2_sample_6 : decode cX2_sample 6 = .ok (.invokestatic 80, 3) := dk_184 0 80 (dk_at dksX2_sample_0 6 rfl rfl)
theorem dX2_sample_9 : decode cX2_sample 9 = .ok (.ifCond .eq 48, 3) := dk_153 0 48 (dk_at dksX2_sample_0 9 rfl rfl)
theorem dX2_sample_12 : decode cX2_sample 12 = .ok (.iload_n 2, 1) := dk_28 (dk_at dksX2_sample_0 12 rfl rfl)
theorem dX2_sample_13 : decode cX2_sample 13 = .ok (.i2l, 1) := dk_133 (dk_at dksX2_sample_0 13 rfl rfl)
theorem dX2_sample_14 : decode cX2_sample 14 = .ok (.lconst 0, 1) := dk_9 (dk_at dksX2_sample_0 14 rfl rfl)
theorem dX2_sample_15 : decode cX2_sample 15 = .ok (.iload_n 1, 1) := dk_27 (dk_at dksX2_sample_0 15 rfl rfl)
theorem dX2_sample_16 : decode cX2_sample 16 = .ok (.i2l, 1) := dk_133 (dk_at dksX2_sample_0 16 rfl rfl)
theorem dX2_sample_17 : decode cX2_sample 17 = .ok (.invokestatic 80, 3) := dk_184 0 80 (dk_at dksX2_sample_0 17 rfl rfl)
theorem dX2_sample_20 : decode cX2_sample 20 = .ok (.ifCond .eq 37, 3) := dk_153 0 37 (dk_at dksX2_sample_0 20 rfl rfl)
theorem dX2_sample_23 : decode cX2_sample 23 = .ok (.iload_n 3, 1) := dk_29 (dk_at dksX2_sample_0 23 rfl rfl)
theorem dX2_sample_24 : decode cX2_sample 24 = .ok (.i2l, 1) := dk_133 (dk_at dksX2_sample_1 0 rfl rfl)
theorem dX2_sample_25 : decode cX2_sample 25 = .ok (.lconst 0, 1) := dk_9 (dk_at dksX2_sample_1 1 rfl rfl)
theorem dX2_sample_26 : decode cX2_sample 26 = .ok (.iload_n 1, 1) := dk_27 (dk_at dksX2_sample_1 2 rfl rfl)
theorem dX2_sample_27 : decode cX2_sample 27 = .ok (.i2l, 1) := dk_133 (dk_at dksX2_sample_1 3 rfl rfl)
theorem dX2_sample_28 : decode cX2_sample 28 = .ok (.invokestatic 80, 3) := dk_184 0 80 (dk_at dksX2_sample_1 4 rfl rfl)
theorem dX2_sample_31 : decode cX2_sample 31 = .ok (.ifCond .eq 26, 3) := dk_153 0 26 (dk_at dksX2_sample_1 7 rfl rfl)
theorem dX2_sample_34 : decode cX2_sample 34 = .ok (.iload 4, 2) := dk_21 4 (dk_at dksX2_sample_1 10 rfl rfl)
theorem dX2_sample_36 : decode cX2_sample 36 = .ok (.i2l, 1) := dk_133 (dk_at dksX2_sample_1 12 rfl rfl)
theorem dX2_sample_37 : decode cX2_sample 37 = .ok (.lconst 0, 1) := dk_9 (dk_at dksX2_sample_1 13 rfl rfl)
theorem dX2_sample_38 : decode cX2_sample 38 = .ok (.iload_n 3, 1) := dk_29 (dk_at dksX2_sample_1 14 rfl rfl)
theorem dX2_sample_39 : decode cX2_sample 39 = .ok (.i2l, 1) := dk_133 (dk_at dksX2_sample_1 15 rfl rfl)
theorem dX2_sample_40 : decode cX2_sample 40 = .ok (.invokestatic 80, 3) := dk_184 0 80 (dk_at dksX2_sample_1 16 rfl rfl)
theorem dX2_sample_43 : decode cX2_sample 43 = .ok (.ifCond .eq 14, 3) := dk_153 0 14 (dk_at dksX2_sample_1 19 rfl rfl)
theorem dX2_sample_46 : decode cX2_sample 46 = .ok (.iload 5, 2) := dk_21 5 (dk_at dksX2_sample_1 22 rfl rfl)
theorem dX2_sample_48 : decode cX2_sample 48 = .ok (.i2l, 1) := dk_133 (dk_at dksX2_sample_2 0 rfl rfl)
theorem dX2_sample_49 : decode cX2_sample 49 = .ok (.lconst 0, 1) := dk_9 (dk_at dksX2_sample_2 1 rfl rfl)
theorem dX2_sample_50 : decode cX2_sample 50 = .ok (.lconst 1, 1) := dk_10 (dk_at dksX2_sample_2 2 rfl rfl)
theorem dX2_sample_51 : decode cX2_sample 51 = .ok (.invokestatic 80, 3) := dk_184 0 80 (dk_at dksX2_sample_2 3 rfl rfl)
theorem dX2_sample_54 : decode cX2_sample 54 = .ok (.ifCond .ne 7, 3) := dk_154 0 7 (dk_at dksX2_sample_2 6 rfl rfl)
theorem dX2_sample_57 : decode cX2_sample 57 = .ok (.ldc2_w 262, 3) := dk_20 1 6 (dk_at dksX2_sample_2 9 rfl rfl)
theorem dX2_sample_60 : decode cX2_sample 60 = .ok (.lreturn, 1) := dk_173 (dk_at dksX2_sample_2 12 rfl rfl)
theorem dX2_sample_61 : decode cX2_sample 61 = .ok (.aload_n 0, 1) := dk_42 (dk_at dksX2_sample_2 13 rfl rfl)
theorem dX2_sample_62 : decode cX2_sample 62 = .ok (.iload_n 2, 1) := dk_28 (dk_at dksX2_sample_2 14 rfl rfl)
theorem dX2_sample_63 : decode cX2_sample 63 = .ok (.iload 4, 2) := dk_21 4 (dk_at dksX2_sample_2 15 rfl rfl)
theorem dX2_sample_65 : decode cX2_sample 65 = .ok (.invokevirtual 270, 3) := dk_182 1 14 (dk_at dksX2_sample_2 17 rfl rfl)
theorem dX2_sample_68 : decode cX2_sample 68 = .ok (.aload_n 0, 1) := dk_42 (dk_at dksX2_sample_2 20 rfl rfl)
theorem dX2_sample_69 : decode cX2_sample 69 = .ok (.iload_n 1, 1) := dk_27 (dk_at dksX2_sample_2 21 rfl rfl)
theorem dX2_sample_70 : decode cX2_sample 70 = .ok (.iload_n 2, 1) := dk_28 (dk_at dksX2_sample_2 22 rfl rfl)
theorem dX2_sample_71 : decode cX2_sample 71 = .ok (.isub, 1) := dk_100 (dk_at dksX2_sample_2 23 rfl rfl)
theorem dX2_sample_72 : decode cX2_sample 72 = .ok (.iload_n 3, 1) := dk_29 (dk_at dksX2_sample_3 0 rfl rfl)
theorem dX2_sample_73 : decode cX2_sample 73 = .ok (.iload 4, 2) := dk_21 4 (dk_at dksX2_sample_3 1 rfl rfl)
theorem dX2_sample_75 : decode cX2_sample 75 = .ok (.isub, 1) := dk_100 (dk_at dksX2_sample_3 3 rfl rfl)
theorem dX2_sample_76 : decode cX2_sample 76 = .ok (.invokevirtual 270, 3) := dk_182 1 14 (dk_at dksX2_sample_3 4 rfl rfl)
theorem dX2_sample_79 : decode cX2_sample 79 = .ok (.lmul, 1) := dk_105 (dk_at dksX2_sample_3 7 rfl rfl)
theorem dX2_sample_80 : decode cX2_sample 80 = .ok (.aload_n 0, 1) := dk_42 (dk_at dksX2_sample_3 8 rfl rfl)
theorem dX2_sample_81 : decode cX2_sample 81 = .ok (.iload_n 1, 1) := dk_27 (dk_at dksX2_sample_3 9 rfl rfl)
theorem dX2_sample_82 : decode cX2_sample 82 = .ok (.iload_n 3, 1) := dk_29 (dk_at dksX2_sample_3 10 rfl rfl)
theorem dX2_sample_83 : decode cX2_sample 83 = .ok (.invokevirtual 270, 3) := dk_182 1 14 (dk_at dksX2_sample_3 11 rfl rfl)
theorem dX2_sample_86 : decode cX2_sample 86 = .ok (.iload 5, 2) := dk_21 5 (dk_at dksX2_sample_3 14 rfl rfl)
theorem dX2_sample_88 : decode cX2_sample 88 = .ok (.invokestatic 264, 3) := dk_184 1 8 (dk_at dksX2_sample_3 16 rfl rfl)
theorem dX2_sample_91 : decode cX2_sample 91 = .ok (.lreturn, 1) := dk_173 (dk_at dksX2_sample_3 19 rfl rfl)
abbrev cX2_chooseOf : ByteArray := prog_4_method_56_code
def yX2_chooseOf : MethodName := ⟨RX2, "chooseOf", "(II)J"⟩
def dkwX2_chooseOf_3 : List UInt8 := [132, 3, 1, 167, 255, 214, 42, 180, 0, 68, 28, 47, 173]
abbrev dktX2_chooseOf_3 : List UInt8 := dkwX2_chooseOf_3 ++ []
def dkwX2_chooseOf_2 : List UInt8 := [180, 0, 68, 21, 4, 92, 47, 42, 180, 0, 68, 21, 4, 4, 100, 47, 97, 80, 132, 4, 255, 167, 255, 229]
abbrev dktX2_chooseOf_2 : List UInt8 := dkwX2_chooseOf_2 ++ dktX2_chooseOf_3
def dkwX2_chooseOf_1 : List UInt8 := [132, 3, 1, 167, 255, 232, 3, 62, 29, 27, 162, 0, 43, 16, 30, 54, 4, 21, 4, 158, 0, 28, 42]
abbrev dktX2_chooseOf_1 : List UInt8 := dkwX2_chooseOf_1 ++ dktX2_chooseOf_2
def dkwX2_chooseOf_0 : List UInt8 := [3, 62, 29, 16, 30, 163, 0, 24, 42, 180, 0, 68, 29, 29, 154, 0, 7, 10, 167, 0, 4, 9, 80]
abbrev dktX2_chooseOf_0 : List UInt8 := dkwX2_chooseOf_0 ++ dktX2_chooseOf_1
theorem dksX2_chooseOf_0 : cX2_chooseOf.data.toList.drop 0 = dktX2_chooseOf_0 := by decide +kernel
theorem dksX2_chooseOf_1 : cX2_chooseOf.data.toList.drop 23 = dktX2_chooseOf_1 := dk_seg dksX2_chooseOf_0 23 rfl rfl
theorem dksX2_chooseOf_2 : cX2_chooseOf.data.toList.drop 46 = dktX2_chooseOf_2 := dk_seg dksX2_chooseOf_1 23 rfl rfl
theorem dksX2_chooseOf_3 : cX2_chooseOf.data.toList.drop 70 = dktX2_chooseOf_3 := dk_seg dksX2_chooseOf_2 24 rfl rfl
theorem dX2_chooseOf_0 : decode cX2_chooseOf 0 = .ok (.iconst 0, 1) := dk_3 (dk_at dksX2_chooseOf_0 0 rfl rfl)
theorem dX2_chooseOf_1 : decode cX2_chooseOf 1 = .ok (.istore_n 3, 1) := dk_62 (dk_at dksX2_chooseOf_0 1 rfl rfl)
theorem dX2_chooseOf_2 : decode cX2_chooseOf 2 = .ok (.iload_n 3, 1) := dk_29 (dk_at dksX2_chooseOf_0 2 rfl rfl)
theorem dX2_chooseOf_3 : decode cX2_chooseOf 3 = .ok (.bipush 30, 2) := dk_16 30 (dk_at dksX2_chooseOf_0 3 rfl rfl)
theorem dX2_chooseOf_5 : decode cX2_chooseOf 5 = .ok (.if_icmp .gt 24, 3) := dk_163 0 24 (dk_at dksX2_chooseOf_0 5 rfl rfl)
theorem dX2_chooseOf_8 : decode cX2_chooseOf 8 = .ok (.aload_n 0, 1) := dk_42 (dk_at dksX2_chooseOf_0 8 rfl rfl)
theorem dX2_chooseOf_9 : decode cX2_chooseOf 9 = .ok (.getfield 68, 3) := dk_180 0 68 (dk_at dksX2_chooseOf_0 9 rfl rfl)
theorem dX2_chooseOf_12 : decode cX2_chooseOf 12 = .ok (.iload_n 3, 1) := dk_29 (dk_at dksX2_chooseOf_0 12 rfl rfl)
theorem dX2_chooseOf_13 : decode cX2_chooseOf 13 = .ok (.iload_n 3, 1) := dk_29 (dk_at dksX2_chooseOf_0 13 rfl rfl)
theorem dX2_chooseOf_14 : decode cX2_chooseOf 14 = .ok (.ifCond .ne 7, 3) := dk_154 0 7 (dk_at dksX2_chooseOf_0 14 rfl rfl)
theorem dX2_chooseOf_17 : decode cX2_chooseOf 17 = .ok (.lconst 1, 1) := dk_10 (dk_at dksX2_chooseOf_0 17 rfl rfl)
theorem dX2_chooseOf_18 : decode cX2_chooseOf 18 = .ok (.goto 4, 3) := dk_167 0 4 (dk_at dksX2_chooseOf_0 18 rfl rfl)
theorem dX2_chooseOf_21 : decode cX2_chooseOf 21 = .ok (.lconst 0, 1) := dk_9 (dk_at dksX2_chooseOf_0 21 rfl rfl)
theorem dX2_chooseOf_22 : decode cX2_chooseOf 22 = .ok (.lastore, 1) := dk_80 (dk_at dksX2_chooseOf_0 22 rfl rfl)
theorem dX2_chooseOf_23 : decode cX2_chooseOf 23 = .ok (.iinc 3 1, 3) := dk_132 3 1 (dk_at dksX2_chooseOf_1 0 rfl rfl)
theorem dX2_chooseOf_26 : decode cX2_chooseOf 26 = .ok (.goto (-24), 3) := dk_167 255 232 (dk_at dksX2_chooseOf_1 3 rfl rfl)
theorem dX2_chooseOf_29 : decode cX2_chooseOf 29 = .ok (.iconst 0, 1) := dk_3 (dk_at dksX2_chooseOf_1 6 rfl rfl)
theorem dX2_chooseOf_30 : decode cX2_chooseOf 30 = .ok (.istore_n 3, 1) := dk_62 (dk_at dksX2_chooseOf_1 7 rfl rfl)
theorem dX2_chooseOf_31 : decode cX2_chooseOf 31 = .ok (.iload_n 3, 1) := dk_29 (dk_at dksX2_chooseOf_1 8 rfl rfl)
theorem dX2_chooseOf_32 : decode cX2_chooseOf 32 = .ok (.iload_n 1, 1) := dk_27 (dk_at dksX2_chooseOf_1 9 rfl rfl)
theorem dX2_chooseOf_33 : decode cX2_chooseOf 33 = .ok (.if_icmp .ge 43, 3) := dk_162 0 43 (dk_at dksX2_chooseOf_1 10 rfl rfl)
theorem dX2_chooseOf_36 : decode cX2_chooseOf 36 = .ok (.bipush 30, 2) := dk_16 30 (dk_at dksX2_chooseOf_1 13 rfl rfl)
theorem dX2_chooseOf_38 : decode cX2_chooseOf 38 = .ok (.istore 4, 2) := dk_54 4 (dk_at dksX2_chooseOf_1 15 rfl rfl)
theorem dX2_chooseOf_40 : decode cX2_chooseOf 40 = .ok (.iload 4, 2) := dk_21 4 (dk_at dksX2_chooseOf_1 17 rfl rfl)
theorem dX2_chooseOf_42 : decode cX2_chooseOf 42 = .ok (.ifCond .le 28, 3) := dk_158 0 28 (dk_at dksX2_chooseOf_1 19 rfl rfl)
theorem dX2_chooseOf_45 : decode cX2_chooseOf 45 = .ok (.aload_n 0, 1) := dk_42 (dk_at dksX2_chooseOf_1 22 rfl rfl)
theorem dX2_chooseOf_46 : decode cX2_chooseOf 46 = .ok (.getfield 68, 3) := dk_180 0 68 (dk_at dksX2_chooseOf_2 0 rfl rfl)
theorem dX2_chooseOf_49 : decode cX2_chooseOf 49 = .ok (.iload 4, 2) := dk_21 4 (dk_at dksX2_chooseOf_2 3 rfl rfl)
theorem dX2_chooseOf_51 : decode cX2_chooseOf 51 = .ok (.dup2, 1) := dk_92 (dk_at dksX2_chooseOf_2 5 rfl rfl)
theorem dX2_chooseOf_52 : decode cX2_chooseOf 52 = .ok (.laload, 1) := dk_47 (dk_at dksX2_chooseOf_2 6 rfl rfl)
theorem dX2_chooseOf_53 : decode cX2_chooseOf 53 = .ok (.aload_n 0, 1) := dk_42 (dk_at dksX2_chooseOf_2 7 rfl rfl)
theorem dX2_chooseOf_54 : decode cX2_chooseOf 54 = .ok (.getfield 68, 3) := dk_180 0 68 (dk_at dksX2_chooseOf_2 8 rfl rfl)
theorem dX2_chooseOf_57 : decode cX2_chooseOf 57 = .ok (.iload 4, 2) := dk_21 4 (dk_at dksX2_chooseOf_2 11 rfl rfl)
theorem dX2_chooseOf_59 : decode cX2_chooseOf 59 = .ok (.iconst 1, 1) := dk_4 (dk_at dksX2_chooseOf_2 13 rfl rfl)
theorem dX2_chooseOf_60 : decode cX2_chooseOf 60 = .ok (.isub, 1) := dk_100 (dk_at dksX2_chooseOf_2 14 rfl rfl)
theorem dX2_chooseOf_61 : decode cX2_chooseOf 61 = .ok (.laload, 1) := dk_47 (dk_at dksX2_chooseOf_2 15 rfl rfl)
theorem dX2_chooseOf_62 : decode cX2_chooseOf 62 = .ok (.ladd, 1) := dk_97 (dk_at dksX2_chooseOf_2 16 rfl rfl)
theorem dX2_chooseOf_63 : decode cX2_chooseOf 63 = .ok (.lastore, 1) := dk_80 (dk_at dksX2_chooseOf_2 17 rfl rfl)
theorem dX2_chooseOf_64 : decode cX2_chooseOf 64 = .ok (.iinc 4 (-1), 3) := dk_132 4 255 (dk_at dksX2_chooseOf_2 18 rfl rfl)
theorem dX2_chooseOf_67 : decode cX2_chooseOf 67 = .ok (.goto (-27), 3) := dk_167 255 229 (dk_at dksX2_chooseOf_2 21 rfl rfl)
theorem dX2_chooseOf_70 : decode cX2_chooseOf 70 = .ok (.iinc 3 1, 3) := dk_132 3 1 (dk_at dksX2_chooseOf_3 0 rfl rfl)
theorem dX2_chooseOf_73 : decode cX2_chooseOf 73 = .ok (.goto (-42), 3) := dk_167 255 214 (dk_at dksX2_chooseOf_3 3 rfl rfl)
theorem dX2_chooseOf_76 : decode cX2_chooseOf 76 = .ok (.aload_n 0, 1) := dk_42 (dk_at dksX2_chooseOf_3 6 rfl rfl)
theorem dX2_chooseOf_77 : decode cX2_chooseOf 77 = .ok (.getfield 68, 3) := dk_180 0 68 (dk_at dksX2_chooseOf_3 7 rfl rfl)
theorem dX2_chooseOf_80 : decode cX2_chooseOf 80 = .ok (.iload_n 2, 1) := dk_28 (dk_at dksX2_chooseOf_3 10 rfl rfl)
theorem dX2_chooseOf_81 : decode cX2_chooseOf 81 = .ok (.laload, 1) := dk_47 (dk_at dksX2_chooseOf_3 11 rfl rfl)
theorem dX2_chooseOf_82 : decode cX2_chooseOf 82 = .ok (.lreturn, 1) := dk_173 (dk_at dksX2_chooseOf_3 12 rfl rfl)
abbrev cX2_seen : ByteArray := prog_4_method_58_code
def yX2_seen : MethodName := ⟨RX2, "seen", "(III)I"⟩
def dkwX2_seen_3 : List UInt8 := [180, 0, 31, 42, 180, 1, 20, 29, 79, 42, 89, 180, 1, 20, 4, 96, 181, 1, 20, 42, 180, 1, 20, 172]
abbrev dktX2_seen_3 : List UInt8 := dkwX2_seen_3 ++ []
def dkwX2_seen_2 : List UInt8 := [172, 42, 180, 0, 25, 42, 180, 1, 20, 27, 79, 42, 180, 0, 28, 42, 180, 1, 20, 28, 79, 42]
abbrev dktX2_seen_2 : List UInt8 := dkwX2_seen_2 ++ dktX2_seen_3
def dkwX2_seen_1 : List UInt8 := [29, 133, 9, 10, 184, 0, 80, 154, 0, 6, 16, 254, 172, 42, 180, 1, 20, 16, 8, 160, 0, 6, 16, 252]
abbrev dktX2_seen_1 : List UInt8 := dkwX2_seen_1 ++ dktX2_seen_2
def dkwX2_seen_0 : List UInt8 := [27, 133, 9, 20, 1, 18, 184, 0, 80, 153, 0, 25, 28, 133, 9, 20, 1, 0, 184, 0, 80, 153, 0, 13]
abbrev dktX2_seen_0 : List UInt8 := dkwX2_seen_0 ++ dktX2_seen_1
theorem dksX2_seen_0 : cX2_seen.data.toList.drop 0 = dktX2_seen_0 := by decide +kernel
theorem dksX2_seen_1 : cX2_seen.data.toList.drop 24 = dktX2_seen_1 := dk_seg dksX2_seen_0 24 rfl rfl
theorem dksX2_seen_2 : cX2_seen.data.toList.drop 48 = dktX2_seen_2 := dk_seg dksX2_seen_1 24 rfl rfl
theorem dksX2_seen_3 : cX2_seen.data.toList.drop 70 = dktX2_seen_3 := dk_seg dksX2_seen_2 22 rfl rfl
theorem dX2_seen_0 : decode cX2_seen 0 = .ok (.iload_n 1, 1) := dk_27 (dk_at dksX2_seen_0 0 rfl rfl)
theorem dX2_seen_1 : decode cX2_seen 1 = .ok (.i2l, 1) := dk_133 (dk_at dksX2_seen_0 1 rfl rfl)
theorem dX2_seen_2 : decode cX2_seen 2 = .ok (.lconst 0, 1) := dk_9 (dk_at dksX2_seen_0 2 rfl rfl)
theorem dX2_seen_3 : decode cX2_seen 3 = .ok (.ldc2_w 274, 3) := dk_20 1 18 (dk_at dksX2_seen_0 3 rfl rfl)
theorem dX2_seen_6 : decode cX2_seen 6 = .ok (.invokestatic 80, 3) := dk_184 0 80 (dk_at dksX2_seen_0 6 rfl rfl)
theorem dX2_seen_9 : decode cX2_seen 9 = .ok (.ifCond .eq 25, 3) := dk_153 0 25 (dk_at dksX2_seen_0 9 rfl rfl)
theorem dX2_seen_12 : decode cX2_seen 12 = .ok (.iload_n 2, 1) := dk_28 (dk_at dksX2_seen_0 12 rfl rfl)
theorem dX2_seen_13 : decode cX2_seen 13 = .ok (.i2l, 1) := dk_133 (dk_at dksX2_seen_0 13 rfl rfl)
theorem dX2_seen_14 : decode cX2_seen 14 = .ok (.lconst 0, 1) := dk_9 (dk_at dksX2_seen_0 14 rfl rfl)
theorem dX2_seen_15 : decode cX2_seen 15 = .ok (.ldc2_w 256, 3) := dk_20 1 0 (dk_at dksX2_seen_0 15 rfl rfl)
theorem dX2_seen_18 : decode cX2_seen 18 = .ok (.invokestatic 80, 3) := dk_184 0 80 (dk_at dksX2_seen_0 18 rfl rfl)
theorem dX2_seen_21 : decode cX2_seen 21 = .ok (.ifCond .eq 13, 3) := dk_153 0 13 (dk_at dksX2_seen_0 21 rfl rfl)
theorem dX2_seen_24 : decode cX2_seen 24 = .ok (.iload_n 3, 1) := dk_29 (dk_at dksX2_seen_1 0 rfl rfl)
theorem dX2_seen_25 : decode cX2_seen 25 = .ok (.i2l, 1) := dk_133 (dk_at dksX2_seen_1 1 rfl rfl)
theorem dX2_seen_26 : decode cX2_seen 26 = .ok (.lconst 0, 1) := dk_9 (dk_at dksX2_seen_1 2 rfl rfl)
theorem dX2_seen_27 : decode cX2_seen 27 = .ok (.lconst 1, 1) := dk_10 (dk_at dksX2_seen_1 3 rfl rfl)
theorem dX2_seen_28 : decode cX2_seen 28 = .ok (.invokestatic 80, 3) := dk_184 0 80 (dk_at dksX2_seen_1 4 rfl rfl)
theorem dX2_seen_31 : decode cX2_seen 31 = .ok (.ifCond .ne 6, 3) := dk_154 0 6 (dk_at dksX2_seen_1 7 rfl rfl)
theorem dX2_seen_34 : decode cX2_seen 34 = .ok (.bipush (-2), 2) := dk_16 254 (dk_at dksX2_seen_1 10 rfl rfl)
theorem dX2_seen_36 : decode cX2_seen 36 = .ok (.ireturn, 1) := dk_172 (dk_at dksX2_seen_1 12 rfl rfl)
theorem dX2_seen_37 : decode cX2_seen 37 = .ok (.aload_n 0, 1) := dk_42 (dk_at dksX2_seen_1 13 rfl rfl)
theorem dX2_seen_38 : decode cX2_seen 38 = .ok (.getfield 276, 3) := dk_180 1 20 (dk_at dksX2_seen_1 14 rfl rfl)
theorem dX2_seen_41 : decode cX2_seen 41 = .ok (.bipush 8, 2) := dk_16 8 (dk_at dksX2_seen_1 17 rfl rfl)
theorem dX2_seen_43 : decode cX2_seen 43 = .ok (.if_icmp .ne 6, 3) := dk_160 0 6 (dk_at dksX2_seen_1 19 rfl rfl)
theorem dX2_seen_46 : decode cX2_seen 46 = .ok (.bipush (-4), 2) := dk_16 252 (dk_at dksX2_seen_1 22 rfl rfl)
theorem dX2_seen_48 : decode cX2_seen 48 = .ok (.ireturn, 1) := dk_172 (dk_at dksX2_seen_2 0 rfl rfl)
theorem dX2_seen_49 : decode cX2_seen 49 = .ok (.aload_n 0, 1) := dk_42 (dk_at dksX2_seen_2 1 rfl rfl)
theorem dX2_seen_50 : decode cX2_seen 50 = .ok (.getfield 25, 3) := dk_180 0 25 (dk_at dksX2_seen_2 2 rfl rfl)
theorem dX2_seen_53 : decode cX2_seen 53 = .ok (.aload_n 0, 1) := dk_42 (dk_at dksX2_seen_2 5 rfl rfl)
theorem dX2_seen_54 : decode cX2_seen 54 = .ok (.getfield 276, 3) := dk_180 1 20 (dk_at dksX2_seen_2 6 rfl rfl)
theorem dX2_seen_57 : decode cX2_seen 57 = .ok (.iload_n 1, 1) := dk_27 (dk_at dksX2_seen_2 9 rfl rfl)
theorem dX2_seen_58 : decode cX2_seen 58 = .ok (.iastore, 1) := dk_79 (dk_at dksX2_seen_2 10 rfl rfl)
theorem dX2_seen_59 : decode cX2_seen 59 = .ok (.aload_n 0, 1) := dk_42 (dk_at dksX2_seen_2 11 rfl rfl)
theorem dX2_seen_60 : decode cX2_seen 60 = .ok (.getfield 28, 3) := dk_180 0 28 (dk_at dksX2_seen_2 12 rfl rfl)
theorem dX2_seen_63 : decode cX2_seen 63 = .ok (.aload_n 0, 1) := dk_42 (dk_at dksX2_seen_2 15 rfl rfl)
theorem dX2_seen_64 : decode cX2_seen 64 = .ok (.getfield 276, 3) := dk_180 1 20 (dk_at dksX2_seen_2 16 rfl rfl)
theorem dX2_seen_67 : decode cX2_seen 67 = .ok (.iload_n 2, 1) := dk_28 (dk_at dksX2_seen_2 19 rfl rfl)
theorem dX2_seen_68 : decode cX2_seen 68 = .ok (.iastore, 1) := dk_79 (dk_at dksX2_seen_2 20 rfl rfl)
theorem dX2_seen_69 : decode cX2_seen 69 = .ok (.aload_n 0, 1) := dk_42 (dk_at dksX2_seen_2 21 rfl rfl)
theorem dX2_seen_70 : decode cX2_seen 70 = .ok (.getfield 31, 3) := dk_180 0 31 (dk_at dksX2_seen_3 0 rfl rfl)
theorem dX2_seen_73 : decode cX2_seen 73 = .ok (.aload_n 0, 1) := dk_42 (dk_at dksX2_seen_3 3 rfl rfl)
theorem dX2_seen_74 : decode cX2_seen 74 = .ok (.getfield 276, 3) := dk_180 1 20 (dk_at dksX2_seen_3 4 rfl rfl)
theorem dX2_seen_77 : decode cX2_seen 77 = .ok (.iload_n 3, 1) := dk_29 (dk_at dksX2_seen_3 7 rfl rfl)
theorem dX2_seen_78 : decode cX2_seen 78 = .ok (.iastore, 1) := dk_79 (dk_at dksX2_seen_3 8 rfl rfl)
theorem dX2_seen_79 : decode cX2_seen 79 = .ok (.aload_n 0, 1) := dk_42 (dk_at dksX2_seen_3 9 rfl rfl)
theorem dX2_seen_80 : decode cX2_seen 80 = .ok (.dup, 1) := dk_89 (dk_at dksX2_seen_3 10 rfl rfl)
theorem dX2_seen_81 : decode cX2_seen 81 = .ok (.getfield 276, 3) := dk_180 1 20 (dk_at dksX2_seen_3 11 rfl rfl)
theorem dX2_seen_84 : decode cX2_seen 84 = .ok (.iconst 1, 1) := dk_4 (dk_at dksX2_seen_3 14 rfl rfl)
theorem dX2_seen_85 : decode cX2_seen 85 = .ok (.iadd, 1) := dk_96 (dk_at dksX2_seen_3 15 rfl rfl)
theorem dX2_seen_86 : decode cX2_seen 86 = .ok (.putfield 276, 3) := dk_181 1 20 (dk_at dksX2_seen_3 16 rfl rfl)
theorem dX2_seen_89 : decode cX2_seen 89 = .ok (.aload_n 0, 1) := dk_42 (dk_at dksX2_seen_3 19 rfl rfl)
theorem dX2_seen_90 : decode cX2_seen 90 = .ok (.getfield 276, 3) := dk_180 1 20 (dk_at dksX2_seen_3 20 rfl rfl)
theorem dX2_seen_93 : decode cX2_seen 93 = .ok (.ireturn, 1) := dk_172 (dk_at dksX2_seen_3 23 rfl rfl)
abbrev cX2_forget : ByteArray := prog_4_method_59_code
def yX2_forget : MethodName := ⟨RX2, "forget", "()I"⟩
def dkwX2_forget_0 : List UInt8 := [42, 180, 1, 20, 60, 42, 3, 181, 1, 20, 27, 172]
abbrev dktX2_forget_0 : List UInt8 := dkwX2_forget_0 ++ []
theorem dksX2_forget_0 : cX2_forget.data.toList.drop 0 = dktX2_forget_0 := by decide +kernel
theorem dX2_forget_0 : decode cX2_forget 0 = .ok (.aload_n 0, 1) := dk_42 (dk_at dksX2_forget_0 0 rfl rfl)
theorem dX2_forget_1 : decode cX2_forget 1 = .ok (.getfield 276, 3) := dk_180 1 20 (dk_at dksX2_forget_0 1 rfl rfl)
theorem dX2_forget_4 : decode cX2_forget 4 = .ok (.istore_n 1, 1) := dk_60 (dk_at dksX2_forget_0 4 rfl rfl)
theorem dX2_forget_5 : decode cX2_forget 5 = .ok (.aload_n 0, 1) := dk_42 (dk_at dksX2_forget_0 5 rfl rfl)
theorem dX2_forget_6 : decode cX2_forget 6 = .ok (.iconst 0, 1) := dk_3 (dk_at dksX2_forget_0 6 rfl rfl)
theorem dX2_forget_7 : decode cX2_forget 7 = .ok (.putfield 276, 3) := dk_181 1 20 (dk_at dksX2_forget_0 7 rfl rfl)
theorem dX2_forget_10 : decode cX2_forget 10 = .ok (.iload_n 1, 1) := dk_27 (dk_at dksX2_forget_0 10 rfl rfl)
theorem dX2_forget_11 : decode cX2_forget 11 = .ok (.ireturn, 1) := dk_172 (dk_at dksX2_forget_0 11 rfl rfl)
abbrev cX2_clerks : ByteArray := prog_4_method_61_code
def yX2_clerks : MethodName := ⟨RX2, "clerks", "(II)I"⟩
def dkwX2_clerks_2 : List UInt8 := [132, 3, 1, 132, 4, 1, 167, 255, 224, 28, 2, 160, 0, 7, 29, 167, 0, 5, 16, 250, 172]
abbrev dktX2_clerks_2 : List UInt8 := dkwX2_clerks_2 ++ []
def dkwX2_clerks_1 : List UInt8 := [17, 1, 0, 162, 0, 30, 42, 27, 21, 4, 182, 1, 26, 153, 0, 14, 29, 28, 160, 0, 6, 21, 4, 172]
abbrev dktX2_clerks_1 : List UInt8 := dkwX2_clerks_1 ++ dktX2_clerks_2
def dkwX2_clerks_0 : List UInt8 := [27, 133, 9, 20, 0, 235, 184, 0, 80, 154, 0, 6, 16, 254, 172, 3, 62, 3, 54, 4, 21, 4]
abbrev dktX2_clerks_0 : List UInt8 := dkwX2_clerks_0 ++ dktX2_clerks_1
theorem dksX2_clerks_0 : cX2_clerks.data.toList.drop 0 = dktX2_clerks_0 := by decide +kernel
theorem dksX2_clerks_1 : cX2_clerks.data.toList.drop 22 = dktX2_clerks_1 := dk_seg dksX2_clerks_0 22 rfl rfl
theorem dksX2_clerks_2 : cX2_clerks.data.toList.drop 46 = dktX2_clerks_2 := dk_seg dksX2_clerks_1 24 rfl rfl
theorem dX2_clerks_0 : decode cX2_clerks 0 = .ok (.iload_n 1, 1) := dk_27 (dk_at dksX2_clerks_0 0 rfl rfl)
theorem dX2_clerks_1 : decode cX2_clerks 1 = .ok (.i2l, 1) := dk_133 (dk_at dksX2_clerks_0 1 rfl rfl)
theorem dX2_clerks_2 : decode cX2_clerks 2 = .ok (.lconst 0, 1) := dk_9 (dk_at dksX2_clerks_0 2 rfl rfl)
theorem dX2_clerks_3 : decode cX2_clerks 3 = .ok (.ldc2_w 235, 3) := dk_20 0 235 (dk_at dksX2_clerks_0 3 rfl rfl)
theorem dX2_clerks_6 : decode cX2_clerks 6 = .ok (.invokestatic 80, 3) := dk_184 0 80 (dk_at dksX2_clerks_0 6 rfl rfl)
theorem dX2_clerks_9 : decode cX2_clerks 9 = .ok (.ifCond .ne 6, 3) := dk_154 0 6 (dk_at dksX2_clerks_0 9 rfl rfl)
theorem dX2_clerks_12 : decode cX2_clerks 12 = .ok (.bipush (-2), 2) := dk_16 254 (dk_at dksX2_clerks_0 12 rfl rfl)
theorem dX2_clerks_14 : decode cX2_clerks 14 = .ok (.ireturn, 1) := dk_172 (dk_at dksX2_clerks_0 14 rfl rfl)
theorem dX2_clerks_15 : decode cX2_clerks 15 = .ok (.iconst 0, 1) := dk_3 (dk_at dksX2_clerks_0 15 rfl rfl)
theorem dX2_clerks_16 : decode cX2_clerks 16 = .ok (.istore_n 3, 1) := dk_62 (dk_at dksX2_clerks_0 16 rfl rfl)
theorem dX2_clerks_17 : decode cX2_clerks 17 = .ok (.iconst 0, 1) := dk_3 (dk_at dksX2_clerks_0 17 rfl rfl)
theorem dX2_clerks_18 : decode cX2_clerks 18 = .ok (.istore 4, 2) := dk_54 4 (dk_at dksX2_clerks_0 18 rfl rfl)
theorem dX2_clerks_20 : decode cX2_clerks 20 = .ok (.iload 4, 2) := dk_21 4 (dk_at dksX2_clerks_0 20 rfl rfl)
theorem dX2_clerks_22 : decode cX2_clerks 22 = .ok (.sipush 256, 3) := dk_17 1 0 (dk_at dksX2_clerks_1 0 rfl rfl)
theorem dX2_clerks_25 : decode cX2_clerks 25 = .ok (.if_icmp .ge 30, 3) := dk_162 0 30 (dk_at dksX2_clerks_1 3 rfl rfl)
theorem dX2_clerks_28 : decode cX2_clerks 28 = .ok (.aload_n 0, 1) := dk_42 (dk_at dksX2_clerks_1 6 rfl rfl)
theorem dX2_clerks_29 : decode cX2_clerks 29 = .ok (.iload_n 1, 1) := dk_27 (dk_at dksX2_clerks_1 7 rfl rfl)
theorem dX2_clerks_30 : decode cX2_clerks 30 = .ok (.iload 4, 2) := dk_21 4 (dk_at dksX2_clerks_1 8 rfl rfl)
theorem dX2_clerks_32 : decode cX2_clerks 32 = .ok (.invokevirtual 282, 3) := dk_182 1 26 (dk_at dksX2_clerks_1 10 rfl rfl)
theorem dX2_clerks_35 : decode cX2_clerks 35 = .ok (.ifCond .eq 14, 3) := dk_153 0 14 (dk_at dksX2_clerks_1 13 rfl rfl)
theorem dX2_clerks_38 : decode cX2_clerks 38 = .ok (.iload_n 3, 1) := dk_29 (dk_at dksX2_clerks_1 16 rfl rfl)
theorem dX2_clerks_39 : decode cX2_clerks 39 = .ok (.iload_n 2, 1) := dk_28 (dk_at dksX2_clerks_1 17 rfl rfl)
theorem dX2_clerks_40 : decode cX2_clerks 40 = .ok (.if_icmp .ne 6, 3) := dk_160 0 6 (dk_at dksX2_clerks_1 18 rfl rfl)
theorem dX2_clerks_43 : decode cX2_clerks 43 = .ok (.iload 4, 2) := dk_21 4 (dk_at dksX2_clerks_1 21 rfl rfl)
theorem dX2_clerks_45 : decode cX2_clerks 45 = .ok (.ireturn, 1) := dk_172 (dk_at dksX2_clerks_1 23 rfl rfl)
theorem dX2_clerks_46 : decode cX2_clerks 46 = .ok (.iinc 3 1, 3) := dk_132 3 1 (dk_at dksX2_clerks_2 0 rfl rfl)
theorem dX2_clerks_49 : decode cX2_clerks 49 = .ok (.iinc 4 1, 3) := dk_132 4 1 (dk_at dksX2_clerks_2 3 rfl rfl)
theorem dX2_clerks_52 : decode cX2_clerks 52 = .ok (.goto (-32), 3) := dk_167 255 224 (dk_at dksX2_clerks_2 6 rfl rfl)
theorem dX2_clerks_55 : decode cX2_clerks 55 = .ok (.iload_n 2, 1) := dk_28 (dk_at dksX2_clerks_2 9 rfl rfl)
theorem dX2_clerks_56 : decode cX2_clerks 56 = .ok (.iconst (-1), 1) := dk_2 (dk_at dksX2_clerks_2 10 rfl rfl)
theorem dX2_clerks_57 : decode cX2_clerks 57 = .ok (.if_icmp .ne 7, 3) := dk_160 0 7 (dk_at dksX2_clerks_2 11 rfl rfl)
theorem dX2_clerks_60 : decode cX2_clerks 60 = .ok (.iload_n 3, 1) := dk_29 (dk_at dksX2_clerks_2 14 rfl rfl)
theorem dX2_clerks_61 : decode cX2_clerks 61 = .ok (.goto 5, 3) := dk_167 0 5 (dk_at dksX2_clerks_2 15 rfl rfl)
theorem dX2_clerks_64 : decode cX2_clerks 64 = .ok (.bipush (-6), 2) := dk_16 250 (dk_at dksX2_clerks_2 18 rfl rfl)
theorem dX2_clerks_66 : decode cX2_clerks 66 = .ok (.ireturn, 1) := dk_172 (dk_at dksX2_clerks_2 20 rfl rfl)
abbrev cX2_fits : ByteArray := prog_4_method_60_code
def yX2_fits : MethodName := ⟨RX2, "fits", "(II)Z"⟩
def dkwX2_fits_4 : List UInt8 := [29, 172]
abbrev dktX2_fits_4 : List UInt8 := dkwX2_fits_4 ++ []
def dkwX2_fits_3 : List UInt8 := [21, 5, 42, 180, 0, 28, 21, 4, 46, 161, 0, 7, 4, 167, 0, 4, 3, 62, 132, 4, 1, 167, 255, 181]
abbrev dktX2_fits_3 : List UInt8 := dkwX2_fits_3 ++ dktX2_fits_4
def dkwX2_fits_2 : List UInt8 := [180, 0, 31, 21, 4, 46, 154, 0, 18, 21, 5, 42, 180, 0, 28, 21, 4, 46, 160, 0, 22, 167, 0, 15]
abbrev dktX2_fits_2 : List UInt8 := dkwX2_fits_2 ++ dktX2_fits_3
def dkwX2_fits_1 : List UInt8 := [162, 0, 72, 42, 180, 0, 25, 21, 4, 46, 28, 2, 130, 126, 184, 1, 23, 54, 5, 29, 153, 0, 44, 42]
abbrev dktX2_fits_1 : List UInt8 := dkwX2_fits_1 ++ dktX2_fits_2
def dkwX2_fits_0 : List UInt8 := [28, 184, 1, 23, 27, 163, 0, 7, 4, 167, 0, 4, 3, 62, 3, 54, 4, 21, 4, 42, 180, 1, 20]
abbrev dktX2_fits_0 : List UInt8 := dkwX2_fits_0 ++ dktX2_fits_1
theorem dksX2_fits_0 : cX2_fits.data.toList.drop 0 = dktX2_fits_0 := by decide +kernel
theorem dksX2_fits_1 : cX2_fits.data.toList.drop 23 = dktX2_fits_1 := dk_seg dksX2_fits_0 23 rfl rfl
theorem dksX2_fits_2 : cX2_fits.data.toList.drop 47 = dktX2_fits_2 := dk_seg dksX2_fits_1 24 rfl rfl
theorem dksX2_fits_3 : cX2_fits.data.toList.drop 71 = dktX2_fits_3 := dk_seg dksX2_fits_2 24 rfl rfl
theorem dksX2_fits_4 : cX2_fits.data.toList.drop 95 = dktX2_fits_4 := dk_seg dksX2_fits_3 24 rfl rfl
theorem dX2_fits_0 : decode cX2_fits 0 = .ok (.iload_n 2, 1) := dk_28 (dk_at dksX2_fits_0 0 rfl rfl)
theorem dX2_fits_1 : decode cX2_fits 1 = .ok (.invokestatic 279, 3) := dk_184 1 23 (dk_at dksX2_fits_0 1 rfl rfl)
theorem dX2_fits_4 : decode cX2_fits 4 = .ok (.iload_n 1, 1) := dk_27 (dk_at dksX2_fits_0 4 rfl rfl)
theorem dX2_fits_5 : decode cX2_fits 5 = .ok (.if_icmp .gt 7, 3) := dk_163 0 7 (dk_at dksX2_fits_0 5 rfl rfl)
theorem dX2_fits_8 : decode cX2_fits 8 = .ok (.iconst 1, 1) := dk_4 (dk_at dksX2_fits_0 8 rfl rfl)
theorem dX2_fits_9 : decode cX2_fits 9 = .ok (.goto 4, 3) := dk_167 0 4 (dk_at dksX2_fits_0 9 rfl rfl)
theorem dX2_fits_12 : decode cX2_fits 12 = .ok (.iconst 0, 1) := dk_3 (dk_at dksX2_fits_0 12 rfl rfl)
theorem dX2_fits_13 : decode cX2_fits 13 = .ok (.istore_n 3, 1) := dk_62 (dk_at dksX2_fits_0 13 rfl rfl)
theorem dX2_fits_14 : decode cX2_fits 14 = .ok (.iconst 0, 1) := dk_3 (dk_at dksX2_fits_0 14 rfl rfl)
theorem dX2_fits_15 : decode cX2_fits 15 = .ok (.istore 4, 2) := dk_54 4 (dk_at dksX2_fits_0 15 rfl rfl)
theorem dX2_fits_17 : decode cX2_fits 17 = .ok (.iload 4, 2) := dk_21 4 (dk_at dksX2_fits_0 17 rfl rfl)
theorem dX2_fits_19 : decode cX2_fits 19 = .ok (.aload_n 0, 1) := dk_42 (dk_at dksX2_fits_0 19 rfl rfl)
theorem dX2_fits_20 : decode cX2_fits 20 = .ok (.getfield 276, 3) := dk_180 1 20 (dk_at dksX2_fits_0 20 rfl rfl)
theorem dX2_fits_23 : decode cX2_fits 23 = .ok (.if_icmp .ge 72, 3) := dk_162 0 72 (dk_at dksX2_fits_1 0 rfl rfl)
theorem dX2_fits_26 : decode cX2_fits 26 = .ok (.aload_n 0, 1) := dk_42 (dk_at dksX2_fits_1 3 rfl rfl)
theorem dX2_fits_27 : decode cX2_fits 27 = .ok (.getfield 25, 3) := dk_180 0 25 (dk_at dksX2_fits_1 4 rfl rfl)
theorem dX2_fits_30 : decode cX2_fits 30 = .ok (.iload 4, 2) := dk_21 4 (dk_at dksX2_fits_1 7 rfl rfl)
theorem dX2_fits_32 : decode cX2_fits 32 = .ok (.iaload, 1) := dk_46 (dk_at dksX2_fits_1 9 rfl rfl)
theorem dX2_fits_33 : decode cX2_fits 33 = .ok (.iload_n 2, 1) := dk_28 (dk_at dksX2_fits_1 10 rfl rfl)
theorem dX2_fits_34 : decode cX2_fits 34 = .ok (.iconst (-1), 1) := dk_2 (dk_at dksX2_fits_1 11 rfl rfl)
theorem dX2_fits_35 : decode cX2_fits 35 = .ok (.ixor, 1) := dk_130 (dk_at dksX2_fits_1 12 rfl rfl)
theorem dX2_fits_36 : decode cX2_fits 36 = .ok (.iand, 1) := dk_126 (dk_at dksX2_fits_1 13 rfl rfl)
theorem dX2_fits_37 : decode cX2_fits 37 = .ok (.invokestatic 279, 3) := dk_184 1 23 (dk_at dksX2_fits_1 14 rfl rfl)
theorem dX2_fits_40 : decode cX2_fits 40 = .ok (.istore 5, 2) := dk_54 5 (dk_at dksX2_fits_1 17 rfl rfl)
theorem dX2_fits_42 : decode cX2_fits 42 = .ok (.iload_n 3, 1) := dk_29 (dk_at dksX2_fits_1 19 rfl rfl)
theorem dX2_fits_43 : decode cX2_fits 43 = .ok (.ifCond .eq 44, 3) := dk_153 0 44 (dk_at dksX2_fits_1 20 rfl rfl)
theorem dX2_fits_46 : decode cX2_fits 46 = .ok (.aload_n 0, 1) := dk_42 (dk_at dksX2_fits_1 23 rfl rfl)
theorem dX2_fits_47 : decode cX2_fits 47 = .ok (.getfield 31, 3) := dk_180 0 31 (dk_at dksX2_fits_2 0 rfl rfl)
theorem dX2_fits_50 : decode cX2_fits 50 = .ok (.iload 4, 2) := dk_21 4 (dk_at dksX2_fits_2 3 rfl rfl)
theorem dX2_fits_52 : decode cX2_fits 52 = .ok (.iaload, 1) := dk_46 (dk_at dksX2_fits_2 5 rfl rfl)
theorem dX2_fits_53 : decode cX2_fits 53 = .ok (.ifCond .ne 18, 3) := dk_154 0 18 (dk_at dksX2_fits_2 6 rfl rfl)
theorem dX2_fits_56 : decode cX2_fits 56 = .ok (.iload 5, 2) := dk_21 5 (dk_at dksX2_fits_2 9 rfl rfl)
theorem dX2_fits_58 : decode cX2_fits 58 = .ok (.aload_n 0, 1) := dk_42 (dk_at dksX2_fits_2 11 rfl rfl)
theorem dX2_fits_59 : decode cX2_fits 59 = .ok (.getfield 28, 3) := dk_180 0 28 (dk_at dksX2_fits_2 12 rfl rfl)
theorem dX2_fits_62 : decode cX2_fits 62 = .ok (.iload 4, 2) := dk_21 4 (dk_at dksX2_fits_2 15 rfl rfl)
theorem dX2_fits_64 : decode cX2_fits 64 = .ok (.iaload, 1) := dk_46 (dk_at dksX2_fits_2 17 rfl rfl)
theorem dX2_fits_65 : decode cX2_fits 65 = .ok (.if_icmp .ne 22, 3) := dk_160 0 22 (dk_at dksX2_fits_2 18 rfl rfl)
theorem dX2_fits_68 : decode cX2_fits 68 = .ok (.goto 15, 3) := dk_167 0 15 (dk_at dksX2_fits_2 21 rfl rfl)
theorem dX2_fits_71 : decode cX2_fits 71 = .ok (.iload 5, 2) := dk_21 5 (dk_at dksX2_fits_3 0 rfl rfl)
theorem dX2_fits_73 : decode cX2_fits 73 = .ok (.aload_n 0, 1) := dk_42 (dk_at dksX2_fits_3 2 rfl rfl)
theorem dX2_fits_74 : decode cX2_fits 74 = .ok (.getfield 28, 3) := dk_180 0 28 (dk_at dksX2_fits_3 3 rfl rfl)
theorem dX2_fits_77 : decode cX2_fits 77 = .ok (.iload 4, 2) := dk_21 4 (dk_at dksX2_fits_3 6 rfl rfl)
theorem dX2_fits_79 : decode cX2_fits 79 = .ok (.iaload, 1) := dk_46 (dk_at dksX2_fits_3 8 rfl rfl)
theorem dX2_fits_80 : decode cX2_fits 80 = .ok (.if_icmp .lt 7, 3) := dk_161 0 7 (dk_at dksX2_fits_3 9 rfl rfl)
theorem dX2_fits_83 : decode cX2_fits 83 = .ok (.iconst 1, 1) := dk_4 (dk_at dksX2_fits_3 12 rfl rfl)
theorem dX2_fits_84 : decode cX2_fits 84 = .ok (.goto 4, 3) := dk_167 0 4 (dk_at dksX2_fits_3 13 rfl rfl)
theorem dX2_fits_87 : decode cX2_fits 87 = .ok (.iconst 0, 1) := dk_3 (dk_at dksX2_fits_3 16 rfl rfl)
theorem dX2_fits_88 : decode cX2_fits 88 = .ok (.istore_n 3, 1) := dk_62 (dk_at dksX2_fits_3 17 rfl rfl)
theorem dX2_fits_89 : decode cX2_fits 89 = .ok (.iinc 4 1, 3) := dk_132 4 1 (dk_at dksX2_fits_3 18 rfl rfl)
theorem dX2_fits_92 : decode cX2_fits 92 = .ok (.goto (-75), 3) := dk_167 255 181 (dk_at dksX2_fits_3 21 rfl rfl)
theorem dX2_fits_95 : decode cX2_fits 95 = .ok (.iload_n 3, 1) := dk_29 (dk_at dksX2_fits_4 0 rfl rfl)
theorem dX2_fits_96 : decode cX2_fits 96 = .ok (.ireturn, 1) := dk_172 (dk_at dksX2_fits_4 1 rfl rfl)
abbrev cX2_bitsOf : ByteArray := prog_4_method_4_code
def yX2_bitsOf : MethodName := ⟨RX2, "bitsOf", "(I)I"⟩
def dkwX2_bitsOf_0 : List UInt8 := [3, 60, 26, 61, 28, 153, 0, 15, 132, 1, 1, 28, 28, 4, 100, 126, 61, 167, 255, 243, 27, 172]
abbrev dktX2_bitsOf_0 : List UInt8 := dkwX2_bitsOf_0 ++ []
theorem dksX2_bitsOf_0 : cX2_bitsOf.data.toList.drop 0 = dktX2_bitsOf_0 := by decide +kernel
theorem dX2_bitsOf_0 : decode cX2_bitsOf 0 = .ok (.iconst 0, 1) := dk_3 (dk_at dksX2_bitsOf_0 0 rfl rfl)
theorem dX2_bitsOf_1 : decode cX2_bitsOf 1 = .ok (.istore_n 1, 1) := dk_60 (dk_at dksX2_bitsOf_0 1 rfl rfl)
theorem dX2_bitsOf_2 : decode cX2_bitsOf 2 = .ok (.iload_n 0, 1) := dk_26 (dk_at dksX2_bitsOf_0 2 rfl rfl)
theorem dX2_bitsOf_3 : decode cX2_bitsOf 3 = .ok (.istore_n 2, 1) := dk_61 (dk_at dksX2_bitsOf_0 3 rfl rfl)
theorem dX2_bitsOf_4 : decode cX2_bitsOf 4 = .ok (.iload_n 2, 1) := dk_28 (dk_at dksX2_bitsOf_0 4 rfl rfl)
theorem dX2_bitsOf_5 : decode cX2_bitsOf 5 = .ok (.ifCond .eq 15, 3) := dk_153 0 15 (dk_at dksX2_bitsOf_0 5 rfl rfl)
theorem dX2_bitsOf_8 : decode cX2_bitsOf 8 = .ok (.iinc 1 1, 3) := dk_132 1 1 (dk_at dksX2_bitsOf_0 8 rfl rfl)
theorem dX2_bitsOf_11 : decode cX2_bitsOf 11 = .ok (.iload_n 2, 1) := dk_28 (dk_at dksX2_bitsOf_0 11 rfl rfl)
theorem dX2_bitsOf_12 : decode cX2_bitsOf 12 = .ok (.iload_n 2, 1) := dk_28 (dk_at dksX2_bitsOf_0 12 rfl rfl)
theorem dX2_bitsOf_13 : decode cX2_bitsOf 13 = .ok (.iconst 1, 1) := dk_4 (dk_at dksX2_bitsOf_0 13 rfl rfl)
theorem dX2_bitsOf_14 : decode cX2_bitsOf 14 = .ok (.isub, 1) := dk_100 (dk_at dksX2_bitsOf_0 14 rfl rfl)
theorem dX2_bitsOf_15 : decode cX2_bitsOf 15 = .ok (.iand, 1) := dk_126 (dk_at dksX2_bitsOf_0 15 rfl rfl)
theorem dX2_bitsOf_16 : decode cX2_bitsOf 16 = .ok (.istore_n 2, 1) := dk_61 (dk_at dksX2_bitsOf_0 16 rfl rfl)
theorem dX2_bitsOf_17 : decode cX2_bitsOf 17 = .ok (.goto (-13), 3) := dk_167 255 243 (dk_at dksX2_bitsOf_0 17 rfl rfl)
theorem dX2_bitsOf_20 : decode cX2_bitsOf 20 = .ok (.iload_n 1, 1) := dk_27 (dk_at dksX2_bitsOf_0 20 rfl rfl)
theorem dX2_bitsOf_21 : decode cX2_bitsOf 21 = .ok (.ireturn, 1) := dk_172 (dk_at dksX2_bitsOf_0 21 rfl rfl)
abbrev cX2_count : ByteArray := prog_4_method_63_code
def yX2_count : MethodName := ⟨RX2, "count", "(II)I"⟩
def dkwX2_count_4 : List UInt8 := [154, 0, 8, 16, 250, 167, 0, 13, 28, 154, 0, 7, 29, 167, 0, 5, 21, 4, 172]
abbrev dktX2_count_4 : List UInt8 := dkwX2_count_4 ++ []
def dkwX2_count_3 : List UInt8 := [21, 4, 162, 0, 8, 21, 6, 167, 0, 5, 21, 4, 54, 4, 132, 5, 1, 167, 255, 207, 21, 4]
abbrev dktX2_count_3 : List UInt8 := dkwX2_count_3 ++ dktX2_count_4
def dkwX2_count_2 : List UInt8 := [21, 5, 182, 1, 30, 54, 6, 21, 6, 21, 4, 162, 0, 8, 21, 5, 167, 0, 4, 29, 62, 21, 6]
abbrev dktX2_count_2 : List UInt8 := dkwX2_count_2 ++ dktX2_count_3
def dkwX2_count_1 : List UInt8 := [172, 3, 62, 42, 27, 3, 182, 1, 30, 54, 4, 4, 54, 5, 21, 5, 16, 8, 162, 0, 48, 42, 27]
abbrev dktX2_count_1 : List UInt8 := dkwX2_count_1 ++ dktX2_count_2
def dkwX2_count_0 : List UInt8 := [27, 133, 9, 20, 0, 235, 184, 0, 80, 153, 0, 13, 28, 133, 9, 10, 184, 0, 80, 154, 0, 6, 16, 254]
abbrev dktX2_count_0 : List UInt8 := dkwX2_count_0 ++ dktX2_count_1
theorem dksX2_count_0 : cX2_count.data.toList.drop 0 = dktX2_count_0 := by decide +kernel
theorem dksX2_count_1 : cX2_count.data.toList.drop 24 = dktX2_count_1 := dk_seg dksX2_count_0 24 rfl rfl
theorem dksX2_count_2 : cX2_count.data.toList.drop 47 = dktX2_count_2 := dk_seg dksX2_count_1 23 rfl rfl
theorem dksX2_count_3 : cX2_count.data.toList.drop 70 = dktX2_count_3 := dk_seg dksX2_count_2 23 rfl rfl
theorem dksX2_count_4 : cX2_count.data.toList.drop 92 = dktX2_count_4 := dk_seg dksX2_count_3 22 rfl rfl
theorem dX2_count_0 : decode cX2_count 0 = .ok (.iload_n 1, 1) := dk_27 (dk_at dksX2_count_0 0 rfl rfl)
theorem dX2_count_1 : decode cX2_count 1 = .ok (.i2l, 1) := dk_133 (dk_at dksX2_count_0 1 rfl rfl)
theorem dX2_count_2 : decode cX2_count 2 = .ok (.lconst 0, 1) := dk_9 (dk_at dksX2_count_0 2 rfl rfl)
theorem dX2_count_3 : decode cX2_count 3 = .ok (.ldc2_w 235, 3) := dk_20 0 235 (dk_at dksX2_count_0 3 rfl rfl)
theorem dX2_count_6 : decode cX2_count 6 = .ok (.invokestatic 80, 3) := dk_184 0 80 (dk_at dksX2_count_0 6 rfl rfl)
theorem dX2_count_9 : decode cX2_count 9 = .ok (.ifCond .eq 13, 3) := dk_153 0 13 (dk_at dksX2_count_0 9 rfl rfl)
theorem dX2_count_12 : decode cX2_count 12 = .ok (.iload_n 2, 1) := dk_28 (dk_at dksX2_count_0 12 rfl rfl)
theorem dX2_count_13 : decode cX2_count 13 = .ok (.i2l, 1) := dk_133 (dk_at dksX2_count_0 13 rfl rfl)
theorem dX2_count_14 : decode cX2_count 14 = .ok (.lconst 0, 1) := dk_9 (dk_at dksX2_count_0 14 rfl rfl)
theorem dX2_count_15 : decode cX2_count 15 = .ok (.lconst 1, 1) := dk_10 (dk_at dksX2_count_0 15 rfl rfl)
theorem dX2_count_16 : decode cX2_count 16 = .ok (.invokestatic 80, 3) := dk_184 0 80 (dk_at dksX2_count_0 16 rfl rfl)
theorem dX2_count_19 : decode cX2_count 19 = .ok (.ifCond .ne 6, 3) := dk_154 0 6 (dk_at dksX2_count_0 19 rfl rfl)
theorem dX2_count_22 : decode cX2_count 22 = .ok (.bipush (-2), 2) := dk_16 254 (dk_at dksX2_count_0 22 rfl rfl)
theorem dX2_count_24 : decode cX2_count 24 = .ok (.ireturn, 1) := dk_172 (dk_at dksX2_count_1 0 rfl rfl)
theorem dX2_count_25 : decode cX2_count 25 = .ok (.iconst 0, 1) := dk_3 (dk_at dksX2_count_1 1 rfl rfl)
theorem dX2_count_26 : decode cX2_count 26 = .ok (.istore_n 3, 1) := dk_62 (dk_at dksX2_count_1 2 rfl rfl)
theorem dX2_count_27 : decode cX2_count 27 = .ok (.aload_n 0, 1) := dk_42 (dk_at dksX2_count_1 3 rfl rfl)
theorem dX2_count_28 : decode cX2_count 28 = .ok (.iload_n 1, 1) := dk_27 (dk_at dksX2_count_1 4 rfl rfl)
theorem dX2_count_29 : decode cX2_count 29 = .ok (.iconst 0, 1) := dk_3 (dk_at dksX2_count_1 5 rfl rfl)
theorem dX2_count_30 : decode cX2_count 30 = .ok (.invokevirtual 286, 3) := dk_182 1 30 (dk_at dksX2_count_1 6 rfl rfl)
theorem dX2_count_33 : decode cX2_count 33 = .ok (.istore 4, 2) := dk_54 4 (dk_at dksX2_count_1 9 rfl rfl)
theorem dX2_count_35 : decode cX2_count 35 = .ok (.iconst 1, 1) := dk_4 (dk_at dksX2_count_1 11 rfl rfl)
theorem dX2_count_36 : decode cX2_count 36 = .ok (.istore 5, 2) := dk_54 5 (dk_at dksX2_count_1 12 rfl rfl)
theorem dX2_count_38 : decode cX2_count 38 = .ok (.iload 5, 2) := dk_21 5 (dk_at dksX2_count_1 14 rfl rfl)
theorem dX2_count_40 : decode cX2_count 40 = .ok (.bipush 8, 2) := dk_16 8 (dk_at dksX2_count_1 16 rfl rfl)
theorem dX2_count_42 : decode cX2_count 42 = .ok (.if_icmp .ge 48, 3) := dk_162 0 48 (dk_at dksX2_count_1 18 rfl rfl)
theorem dX2_count_45 : decode cX2_count 45 = .ok (.aload_n 0, 1) := dk_42 (dk_at dksX2_count_1 21 rfl rfl)
theorem dX2_count_46 : decode cX2_count 46 = .ok (.iload_n 1, 1) := dk_27 (dk_at dksX2_count_1 22 rfl rfl)
theorem dX2_count_47 : decode cX2_count 47 = .ok (.iload 5, 2) := dk_21 5 (dk_at dksX2_count_2 0 rfl rfl)
theorem dX2_count_49 : decode cX2_count 49 = .ok (.invokevirtual 286, 3) := dk_182 1 30 (dk_at dksX2_count_2 2 rfl rfl)
theorem dX2_count_52 : decode cX2_count 52 = .ok (.istore 6, 2) := dk_54 6 (dk_at dksX2_count_2 5 rfl rfl)
theorem dX2_count_54 : decode cX2_count 54 = .ok (.iload 6, 2) := dk_21 6 (dk_at dksX2_count_2 7 rfl rfl)
theorem dX2_count_56 : decode cX2_count 56 = .ok (.iload 4, 2) := dk_21 4 (dk_at dksX2_count_2 9 rfl rfl)
theorem dX2_count_58 : decode cX2_count 58 = .ok (.if_icmp .ge 8, 3) := dk_162 0 8 (dk_at dksX2_count_2 11 rfl rfl)
theorem dX2_count_61 : decode cX2_count 61 = .ok (.iload 5, 2) := dk_21 5 (dk_at dksX2_count_2 14 rfl rfl)
theorem dX2_count_63 : decode cX2_count 63 = .ok (.goto 4, 3) := dk_167 0 4 (dk_at dksX2_count_2 16 rfl rfl)
theorem dX2_count_66 : decode cX2_count 66 = .ok (.iload_n 3, 1) := dk_29 (dk_at dksX2_count_2 19 rfl rfl)
theorem dX2_count_67 : decode cX2_count 67 = .ok (.istore_n 3, 1) := dk_62 (dk_at dksX2_count_2 20 rfl rfl)
theorem dX2_count_68 : decode cX2_count 68 = .ok (.iload 6, 2) := dk_21 6 (dk_at dksX2_count_2 21 rfl rfl)
theorem dX2_count_70 : decode cX2_count 70 = .ok (.iload 4, 2) := dk_21 4 (dk_at dksX2_count_3 0 rfl rfl)
theorem dX2_count_72 : decode cX2_count 72 = .ok (.if_icmp .ge 8, 3) := dk_162 0 8 (dk_at dksX2_count_3 2 rfl rfl)
theorem dX2_count_75 : decode cX2_count 75 = .ok (.iload 6, 2) := dk_21 6 (dk_at dksX2_count_3 5 rfl rfl)
theorem dX2_count_77 : decode cX2_count 77 = .ok (.goto 5, 3) := dk_167 0 5 (dk_at dksX2_count_3 7 rfl rfl)
theorem dX2_count_80 : decode cX2_count 80 = .ok (.iload 4, 2) := dk_21 4 (dk_at dksX2_count_3 10 rfl rfl)
theorem dX2_count_82 : decode cX2_count 82 = .ok (.istore 4, 2) := dk_54 4 (dk_at dksX2_count_3 12 rfl rfl)
theorem dX2_count_84 : decode cX2_count 84 = .ok (.iinc 5 1, 3) := dk_132 5 1 (dk_at dksX2_count_3 14 rfl rfl)
theorem dX2_count_87 : decode cX2_count 87 = .ok (.goto (-49), 3) := dk_167 255 207 (dk_at dksX2_count_3 17 rfl rfl)
theorem dX2_count_90 : decode cX2_count 90 = .ok (.iload 4, 2) := dk_21 4 (dk_at dksX2_count_3 20 rfl rfl)
theorem dX2_count_92 : decode cX2_count 92 = .ok (.ifCond .ne 8, 3) := dk_154 0 8 (dk_at dksX2_count_4 0 rfl rfl)
theorem dX2_count_95 : decode cX2_count 95 = .ok (.bipush (-6), 2) := dk_16 250 (dk_at dksX2_count_4 3 rfl rfl)
theorem dX2_count_97 : decode cX2_count 97 = .ok (.goto 13, 3) := dk_167 0 13 (dk_at dksX2_count_4 5 rfl rfl)
theorem dX2_count_100 : decode cX2_count 100 = .ok (.iload_n 2, 1) := dk_28 (dk_at dksX2_count_4 8 rfl rfl)
theorem dX2_count_101 : decode cX2_count 101 = .ok (.ifCond .ne 7, 3) := dk_154 0 7 (dk_at dksX2_count_4 9 rfl rfl)
theorem dX2_count_104 : decode cX2_count 104 = .ok (.iload_n 3, 1) := dk_29 (dk_at dksX2_count_4 12 rfl rfl)
theorem dX2_count_105 : decode cX2_count 105 = .ok (.goto 5, 3) := dk_167 0 5 (dk_at dksX2_count_4 13 rfl rfl)
theorem dX2_count_108 : decode cX2_count 108 = .ok (.iload 4, 2) := dk_21 4 (dk_at dksX2_count_4 16 rfl rfl)
theorem dX2_count_110 : decode cX2_count 110 = .ok (.ireturn, 1) := dk_172 (dk_at dksX2_count_4 18 rfl rfl)
abbrev cX2_mostLeft : ByteArray := prog_4_method_62_code
def yX2_mostLeft : MethodName := ⟨RX2, "mostLeft", "(II)I"⟩
def dkwX2_mostLeft_3 : List UInt8 := [21, 4, 29, 100, 164, 0, 7, 29, 167, 0, 7, 21, 4, 29, 100, 172]
abbrev dktX2_mostLeft_3 : List UInt8 := dkwX2_mostLeft_3 ++ []
def dkwX2_mostLeft_2 : List UInt8 := [21, 5, 28, 122, 4, 126, 4, 160, 0, 7, 4, 167, 0, 4, 3, 96, 62, 132, 5, 1, 167, 255, 198, 29]
abbrev dktX2_mostLeft_2 : List UInt8 := dkwX2_mostLeft_2 ++ dktX2_mostLeft_3
def dkwX2_mostLeft_1 : List UInt8 := [54, 6, 21, 4, 21, 6, 153, 0, 7, 4, 167, 0, 4, 3, 96, 54, 4, 29, 21, 6, 153, 0, 17]
abbrev dktX2_mostLeft_1 : List UInt8 := dkwX2_mostLeft_1 ++ dktX2_mostLeft_2
def dkwX2_mostLeft_0 : List UInt8 := [3, 62, 3, 54, 4, 3, 54, 5, 21, 5, 17, 1, 0, 162, 0, 56, 42, 27, 21, 5, 182, 1, 26]
abbrev dktX2_mostLeft_0 : List UInt8 := dkwX2_mostLeft_0 ++ dktX2_mostLeft_1
theorem dksX2_mostLeft_0 : cX2_mostLeft.data.toList.drop 0 = dktX2_mostLeft_0 := by decide +kernel
theorem dksX2_mostLeft_1 : cX2_mostLeft.data.toList.drop 23 = dktX2_mostLeft_1 := dk_seg dksX2_mostLeft_0 23 rfl rfl
theorem dksX2_mostLeft_2 : cX2_mostLeft.data.toList.drop 46 = dktX2_mostLeft_2 := dk_seg dksX2_mostLeft_1 23 rfl rfl
theorem dksX2_mostLeft_3 : cX2_mostLeft.data.toList.drop 70 = dktX2_mostLeft_3 := dk_seg dksX2_mostLeft_2 24 rfl rfl
theorem dX2_mostLeft_0 : decode cX2_mostLeft 0 = .ok (.iconst 0, 1) := dk_3 (dk_at dksX2_mostLeft_0 0 rfl rfl)
theorem dX2_mostLeft_1 : decode cX2_mostLeft 1 = .ok (.istore_n 3, 1) := dk_62 (dk_at dksX2_mostLeft_0 1 rfl rfl)
theorem dX2_mostLeft_2 : decode cX2_mostLeft 2 = .ok (.iconst 0, 1) := dk_3 (dk_at dksX2_mostLeft_0 2 rfl rfl)
theorem dX2_mostLeft_3 : decode cX2_mostLeft 3 = .ok (.istore 4, 2) := dk_54 4 (dk_at dksX2_mostLeft_0 3 rfl rfl)
theorem dX2_mostLeft_5 : decode cX2_mostLeft 5 = .ok (.iconst 0, 1) := dk_3 (dk_at dksX2_mostLeft_0 5 rfl rfl)
theorem dX2_mostLeft_6 : decode cX2_mostLeft 6 = .ok (.istore 5, 2) := dk_54 5 (dk_at dksX2_mostLeft_0 6 rfl rfl)
theorem dX2_mostLeft_8 : decode cX2_mostLeft 8 = .ok (.iload 5, 2) := dk_21 5 (dk_at dksX2_mostLeft_0 8 rfl rfl)
theorem dX2_mostLeft_10 : decode cX2_mostLeft 10 = .ok (.sipush 256, 3) := dk_17 1 0 (dk_at dksX2_mostLeft_0 10 rfl rfl)
theorem dX2_mostLeft_13 : decode cX2_mostLeft 13 = .ok (.if_icmp .ge 56, 3) := dk_162 0 56 (dk_at dksX2_mostLeft_0 13 rfl rfl)
theorem dX2_mostLeft_16 : decode cX2_mostLeft 16 = .ok (.aload_n 0, 1) := dk_42 (dk_at dksX2_mostLeft_0 16 rfl rfl)
theorem dX2_mostLeft_17 : decode cX2_mostLeft 17 = .ok (.iload_n 1, 1) := dk_27 (dk_at dksX2_mostLeft_0 17 rfl rfl)
theorem dX2_mostLeft_18 : decode cX2_mostLeft 18 = .ok (.iload 5, 2) := dk_21 5 (dk_at dksX2_mostLeft_0 18 rfl rfl)
theorem dX2_mostLeft_20 : decode cX2_mostLeft 20 = .ok (.invokevirtual 282, 3) := dk_182 1 26 (dk_at dksX2_mostLeft_0 20 rfl rfl)
theorem dX2_mostLeft_23 : decode cX2_mostLeft 23 = .ok (.istore 6, 2) := dk_54 6 (dk_at dksX2_mostLeft_1 0 rfl rfl)
theorem dX2_mostLeft_25 : decode cX2_mostLeft 25 = .ok (.iload 4, 2) := dk_21 4 (dk_at dksX2_mostLeft_1 2 rfl rfl)
theorem dX2_mostLeft_27 : decode cX2_mostLeft 27 = .ok (.iload 6, 2) := dk_21 6 (dk_at dksX2_mostLeft_1 4 rfl rfl)
theorem dX2_mostLeft_29 : decode cX2_mostLeft 29 = .ok (.ifCond .eq 7, 3) := dk_153 0 7 (dk_at dksX2_mostLeft_1 6 rfl rfl)
theorem dX2_mostLeft_32 : decode cX2_mostLeft 32 = .ok (.iconst 1, 1) := dk_4 (dk_at dksX2_mostLeft_1 9 rfl rfl)
theorem dX2_mostLeft_33 : decode cX2_mostLeft 33 = .ok (.goto 4, 3) := dk_167 0 4 (dk_at dksX2_mostLeft_1 10 rfl rfl)
theorem dX2_mostLeft_36 : decode cX2_mostLeft 36 = .ok (.iconst 0, 1) := dk_3 (dk_at dksX2_mostLeft_1 13 rfl rfl)
theorem dX2_mostLeft_37 : decode cX2_mostLeft 37 = .ok (.iadd, 1) := dk_96 (dk_at dksX2_mostLeft_1 14 rfl rfl)
theorem dX2_mostLeft_38 : decode cX2_mostLeft 38 = .ok (.istore 4, 2) := dk_54 4 (dk_at dksX2_mostLeft_1 15 rfl rfl)
theorem dX2_mostLeft_40 : decode cX2_mostLeft 40 = .ok (.iload_n 3, 1) := dk_29 (dk_at dksX2_mostLeft_1 17 rfl rfl)
theorem dX2_mostLeft_41 : decode cX2_mostLeft 41 = .ok (.iload 6, 2) := dk_21 6 (dk_at dksX2_mostLeft_1 18 rfl rfl)
theorem dX2_mostLeft_43 : decode cX2_mostLeft 43 = .ok (.ifCond .eq 17, 3) := dk_153 0 17 (dk_at dksX2_mostLeft_1 20 rfl rfl)
theorem dX2_mostLeft_46 : decode cX2_mostLeft 46 = .ok (.iload 5, 2) := dk_21 5 (dk_at dksX2_mostLeft_2 0 rfl rfl)
theorem dX2_mostLeft_48 : decode cX2_mostLeft 48 = .ok (.iload_n 2, 1) := dk_28 (dk_at dksX2_mostLeft_2 2 rfl rfl)
theorem dX2_mostLeft_49 : decode cX2_mostLeft 49 = .ok (.ishr, 1) := dk_122 (dk_at dksX2_mostLeft_2 3 rfl rfl)
theorem dX2_mostLeft_50 : decode cX2_mostLeft 50 = .ok (.iconst 1, 1) := dk_4 (dk_at dksX2_mostLeft_2 4 rfl rfl)
theorem dX2_mostLeft_51 : decode cX2_mostLeft 51 = .ok (.iand, 1) := dk_126 (dk_at dksX2_mostLeft_2 5 rfl rfl)
theorem dX2_mostLeft_52 : decode cX2_mostLeft 52 = .ok (.iconst 1, 1) := dk_4 (dk_at dksX2_mostLeft_2 6 rfl rfl)
theorem dX2_mostLeft_53 : decode cX2_mostLeft 53 = .ok (.if_icmp .ne 7, 3) := dk_160 0 7 (dk_at dksX2_mostLeft_2 7 rfl rfl)
theorem dX2_mostLeft_56 : decode cX2_mostLeft 56 = .ok (.iconst 1, 1) := dk_4 (dk_at dksX2_mostLeft_2 10 rfl rfl)
theorem dX2_mostLeft_57 : decode cX2_mostLeft 57 = .ok (.goto 4, 3) := dk_167 0 4 (dk_at dksX2_mostLeft_2 11 rfl rfl)
theorem dX2_mostLeft_60 : decode cX2_mostLeft 60 = .ok (.iconst 0, 1) := dk_3 (dk_at dksX2_mostLeft_2 14 rfl rfl)
theorem dX2_mostLeft_61 : decode cX2_mostLeft 61 = .ok (.iadd, 1) := dk_96 (dk_at dksX2_mostLeft_2 15 rfl rfl)
theorem dX2_mostLeft_62 : decode cX2_mostLeft 62 = .ok (.istore_n 3, 1) := dk_62 (dk_at dksX2_mostLeft_2 16 rfl rfl)
theorem dX2_mostLeft_63 : decode cX2_mostLeft 63 = .ok (.iinc 5 1, 3) := dk_132 5 1 (dk_at dksX2_mostLeft_2 17 rfl rfl)
theorem dX2_mostLeft_66 : decode cX2_mostLeft 66 = .ok (.goto (-58), 3) := dk_167 255 198 (dk_at dksX2_mostLeft_2 20 rfl rfl)
theorem dX2_mostLeft_69 : decode cX2_mostLeft 69 = .ok (.iload_n 3, 1) := dk_29 (dk_at dksX2_mostLeft_2 23 rfl rfl)
theorem dX2_mostLeft_70 : decode cX2_mostLeft 70 = .ok (.iload 4, 2) := dk_21 4 (dk_at dksX2_mostLeft_3 0 rfl rfl)
theorem dX2_mostLeft_72 : decode cX2_mostLeft 72 = .ok (.iload_n 3, 1) := dk_29 (dk_at dksX2_mostLeft_3 2 rfl rfl)
theorem dX2_mostLeft_73 : decode cX2_mostLeft 73 = .ok (.isub, 1) := dk_100 (dk_at dksX2_mostLeft_3 3 rfl rfl)
theorem dX2_mostLeft_74 : decode cX2_mostLeft 74 = .ok (.if_icmp .le 7, 3) := dk_164 0 7 (dk_at dksX2_mostLeft_3 4 rfl rfl)
theorem dX2_mostLeft_77 : decode cX2_mostLeft 77 = .ok (.iload_n 3, 1) := dk_29 (dk_at dksX2_mostLeft_3 7 rfl rfl)
theorem dX2_mostLeft_78 : decode cX2_mostLeft 78 = .ok (.goto 7, 3) := dk_167 0 7 (dk_at dksX2_mostLeft_3 8 rfl rfl)
theorem dX2_mostLeft_81 : decode cX2_mostLeft 81 = .ok (.iload 4, 2) := dk_21 4 (dk_at dksX2_mostLeft_3 11 rfl rfl)
theorem dX2_mostLeft_83 : decode cX2_mostLeft 83 = .ok (.iload_n 3, 1) := dk_29 (dk_at dksX2_mostLeft_3 13 rfl rfl)
theorem dX2_mostLeft_84 : decode cX2_mostLeft 84 = .ok (.isub, 1) := dk_100 (dk_at dksX2_mostLeft_3 14 rfl rfl)
theorem dX2_mostLeft_85 : decode cX2_mostLeft 85 = .ok (.ireturn, 1) := dk_172 (dk_at dksX2_mostLeft_3 15 rfl rfl)
abbrev cX2_year : ByteArray := prog_4_method_66_code
def yX2_year : MethodName := ⟨RX2, "year", "(III)I"⟩
def dkwX2_year_7 : List UInt8 := [54, 5, 42, 21, 5, 182, 0, 226, 172]
abbrev dktX2_year_7 : List UInt8 := dkwX2_year_7 ++ []
def dkwX2_year_6 : List UInt8 := [167, 0, 24, 29, 4, 160, 0, 10, 42, 182, 0, 164, 167, 0, 12, 42, 16, 250, 182, 0, 229, 184, 1, 23]
abbrev dktX2_year_6 : List UInt8 := dkwX2_year_6 ++ dktX2_year_7
def dkwX2_year_5 : List UInt8 := [21, 6, 21, 7, 21, 8, 182, 0, 208, 132, 5, 1, 167, 255, 174, 29, 154, 0, 10, 42, 182, 0, 157]
abbrev dktX2_year_5 : List UInt8 := dkwX2_year_5 ++ dktX2_year_6
def dkwX2_year_4 : List UInt8 := [21, 4, 16, 48, 108, 184, 1, 42, 54, 8, 42, 21, 6, 21, 7, 21, 8, 182, 0, 205, 154, 0, 13, 42]
abbrev dktX2_year_4 : List UInt8 := dkwX2_year_4 ++ dktX2_year_5
def dkwX2_year_3 : List UInt8 := [54, 4, 21, 4, 16, 6, 108, 16, 8, 112, 184, 1, 39, 54, 6, 21, 4, 16, 6, 112, 54, 7, 21, 6]
abbrev dktX2_year_3 : List UInt8 := dkwX2_year_3 ++ dktX2_year_4
def dkwX2_year_2 : List UInt8 := [54, 5, 21, 5, 28, 162, 0, 82, 20, 1, 33, 21, 4, 133, 105, 20, 1, 35, 97, 20, 1, 37, 113, 136]
abbrev dktX2_year_2 : List UInt8 := dkwX2_year_2 ++ dktX2_year_3
def dkwX2_year_1 : List UInt8 := [29, 133, 9, 20, 0, 221, 184, 0, 80, 154, 0, 6, 16, 254, 172, 42, 182, 0, 212, 27, 54, 4, 3]
abbrev dktX2_year_1 : List UInt8 := dkwX2_year_1 ++ dktX2_year_2
def dkwX2_year_0 : List UInt8 := [27, 133, 9, 20, 0, 88, 184, 0, 80, 153, 0, 27, 28, 133, 10, 20, 0, 252, 184, 0, 80, 153, 0, 15]
abbrev dktX2_year_0 : List UInt8 := dkwX2_year_0 ++ dktX2_year_1
theorem dksX2_year_0 : cX2_year.data.toList.drop 0 = dktX2_year_0 := by decide +kernel
theorem dksX2_year_1 : cX2_year.data.toList.drop 24 = dktX2_year_1 := dk_seg dksX2_year_0 24 rfl rfl
theorem dksX2_year_2 : cX2_year.data.toList.drop 47 = dktX2_year_2 := dk_seg dksX2_year_1 23 rfl rfl
theorem dksX2_year_3 : cX2_year.data.toList.drop 71 = dktX2_year_3 := dk_seg dksX2_year_2 24 rfl rfl
theorem dksX2_year_4 : cX2_year.data.toList.drop 95 = dktX2_year_4 := dk_seg dksX2_year_3 24 rfl rfl
theorem dksX2_year_5 : cX2_year.data.toList.drop 119 = dktX2_year_5 := dk_seg dksX2_year_4 24 rfl rfl
theorem dksX2_year_6 : cX2_year.data.toList.drop 142 = dktX2_year_6 := dk_seg dksX2_year_5 23 rfl rfl
theorem dksX2_year_7 : cX2_year.data.toList.drop 166 = dktX2_year_7 := dk_seg dksX2_year_6 24 rfl rfl
theorem dX2_year_0 : decode cX2_year 0 = .ok (.iload_n 1, 1) := dk_27 (dk_at dksX2_year_0 0 rfl rfl)
theorem dX2_year_1 : decode cX2_year 1 = .ok (.i2l, 1) := dk_133 (dk_at dksX2_year_0 1 rfl rfl)
theorem dX2_year_2 : decode cX2_year 2 = .ok (.lconst 0, 1) := dk_9 (dk_at dksX2_year_0 2 rfl rfl)
theorem dX2_year_3 : decode cX2_year 3 = .ok (.ldc2_w 88, 3) := dk_20 0 88 (dk_at dksX2_year_0 3 rfl rfl)
theorem dX2_year_6 : decode cX2_year 6 = .ok (.invokestatic 80, 3) := dk_184 0 80 (dk_at dksX2_year_0 6 rfl rfl)
theorem dX2_year_9 : decode cX2_year 9 = .ok (.ifCond .eq 27, 3) := dk_153 0 27 (dk_at dksX2_year_0 9 rfl rfl)
theorem dX2_year_12 : decode cX2_year 12 = .ok (.iload_n 2, 1) := dk_28 (dk_at dksX2_year_0 12 rfl rfl)
theorem dX2_year_13 : decode cX2_year 13 = .ok (.i2l, 1) := dk_133 (dk_at dksX2_year_0 13 rfl rfl)
theorem dX2_year_14 : decode cX2_year 14 = .ok (.lconst 1, 1) := dk_10 (dk_at dksX2_year_0 14 rfl rfl)
theorem dX2_year_15 : decode cX2_year 15 = .ok (.ldc2_w 252, 3) := dk_20 0 252 (dk_at dksX2_year_0 15 rfl rfl)
theorem dX2_year_18 : decode cX2_year 18 = .ok (.invokestatic 80, 3) := dk_184 0 80 (dk_at dksX2_year_0 18 rfl rfl)
theorem dX2_year_21 : decode cX2_year 21 = .ok (.ifCond .eq 15, 3) := dk_153 0 15 (dk_at dksX2_year_0 21 rfl rfl)
theorem dX2_year_24 : decode cX2_year 24 = .ok (.iload_n 3, 1) := dk_29 (dk_at dksX2_year_1 0 rfl rfl)
theorem dX2_year_25 : decode cX2_year 25 = .ok (.i2l, 1) := dk_133 (dk_at dksX2_year_1 1 rfl rfl)
theorem dX2_year_26 : decode cX2_year 26 = .ok (.lconst 0, 1) := dk_9 (dk_at dksX2_year_1 2 rfl rfl)
theorem dX2_year_27 : decode cX2_year 27 = .ok (.ldc2_w 221, 3) := dk_20 0 221 (dk_at dksX2_year_1 3 rfl rfl)
theorem dX2_year_30 : decode cX2_year 30 = .ok (.invokestatic 80, 3) := dk_184 0 80 (dk_at dksX2_year_1 6 rfl rfl)
theorem dX2_year_33 : decode cX2_year 33 = .ok (.ifCond .ne 6, 3) := dk_154 0 6 (dk_at dksX2_year_1 9 rfl rfl)
theorem dX2_year_36 : decode cX2_year 36 = .ok (.bipush (-2), 2) := dk_16 254 (dk_at dksX2_year_1 12 rfl rfl)
theorem dX2_year_38 : decode cX2_year 38 = .ok (.ireturn, 1) := dk_172 (dk_at dksX2_year_1 14 rfl rfl)
theorem dX2_year_39 : decode cX2_year 39 = .ok (.aload_n 0, 1) := dk_42 (dk_at dksX2_year_1 15 rfl rfl)
theorem dX2_year_40 : decode cX2_year 40 = .ok (.invokevirtual 212, 3) := dk_182 0 212 (dk_at dksX2_year_1 16 rfl rfl)
theorem dX2_year_43 : decode cX2_year 43 = .ok (.iload_n 1, 1) := dk_27 (dk_at dksX2_year_1 19 rfl rfl)
theorem dX2_year_44 : decode cX2_year 44 = .ok (.istore 4, 2) := dk_54 4 (dk_at dksX2_year_1 20 rfl rfl)
theorem dX2_year_46 : decode cX2_year 46 = .ok (.iconst 0, 1) := dk_3 (dk_at dksX2_year_1 22 rfl rfl)
theorem dX2_year_47 : decode cX2_year 47 = .ok (.istore 5, 2) := dk_54 5 (dk_at dksX2_year_2 0 rfl rfl)
theorem dX2_year_49 : decode cX2_year 49 = .ok (.iload 5, 2) := dk_21 5 (dk_at dksX2_year_2 2 rfl rfl)
theorem dX2_year_51 : decode cX2_year 51 = .ok (.iload_n 2, 1) := dk_28 (dk_at dksX2_year_2 4 rfl rfl)
theorem dX2_year_52 : decode cX2_year 52 = .ok (.if_icmp .ge 82, 3) := dk_162 0 82 (dk_at dksX2_year_2 5 rfl rfl)
theorem dX2_year_55 : decode cX2_year 55 = .ok (.ldc2_w 289, 3) := dk_20 1 33 (dk_at dksX2_year_2 8 rfl rfl)
theorem dX2_year_58 : decode cX2_year 58 = .ok (.iload 4, 2) := dk_21 4 (dk_at dksX2_year_2 11 rfl rfl)
theorem dX2_year_60 : decode cX2_year 60 = .ok (.i2l, 1) := dk_133 (dk_at dksX2_year_2 13 rfl rfl)
theorem dX2_year_61 : decode cX2_year 61 = .ok (.lmul, 1) := dk_105 (dk_at dksX2_year_2 14 rfl rfl)
theorem dX2_year_62 : decode cX2_year 62 = .ok (.ldc2_w 291, 3) := dk_20 1 35 (dk_at dksX2_year_2 15 rfl rfl)
theorem dX2_year_65 : decode cX2_year 65 = .ok (.ladd, 1) := dk_97 (dk_at dksX2_year_2 18 rfl rfl)
theorem dX2_year_66 : decode cX2_year 66 = .ok (.ldc2_w 293, 3) := dk_20 1 37 (dk_at dksX2_year_2 19 rfl rfl)
theorem dX2_year_69 : decode cX2_year 69 = .ok (.lrem, 1) := dk_113 (dk_at dksX2_year_2 22 rfl rfl)
theorem dX2_year_70 : decode cX2_year 70 = .ok (.l2i, 1) := dk_136 (dk_at dksX2_year_2 23 rfl rfl)
theorem dX2_year_71 : decode cX2_year 71 = .ok (.istore 4, 2) := dk_54 4 (dk_at dksX2_year_3 0 rfl rfl)
theorem dX2_year_73 : decode cX2_year 73 = .ok (.iload 4, 2) := dk_21 4 (dk_at dksX2_year_3 2 rfl rfl)
theorem dX2_year_75 : decode cX2_year 75 = .ok (.bipush 6, 2) := dk_16 6 (dk_at dksX2_year_3 4 rfl rfl)
theorem dX2_year_77 : decode cX2_year 77 = .ok (.idiv, 1) := dk_108 (dk_at dksX2_year_3 6 rfl rfl)
theorem dX2_year_78 : decode cX2_year 78 = .ok (.bipush 8, 2) := dk_16 8 (dk_at dksX2_year_3 7 rfl rfl)
theorem dX2_year_80 : decode cX2_year 80 = .ok (.irem, 1) := dk_112 (dk_at dksX2_year_3 9 rfl rfl)
theorem dX2_year_81 : decode cX2_year 81 = .ok (.invokestatic 295, 3) := dk_184 1 39 (dk_at dksX2_year_3 10 rfl rfl)
theorem dX2_year_84 : decode cX2_year 84 = .ok (.istore 6, 2) := dk_54 6 (dk_at dksX2_year_3 13 rfl rfl)
theorem dX2_year_86 : decode cX2_year 86 = .ok (.iload 4, 2) := dk_21 4 (dk_at dksX2_year_3 15 rfl rfl)
theorem dX2_year_88 : decode cX2_year 88 = .ok (.bipush 6, 2) := dk_16 6 (dk_at dksX2_year_3 17 rfl rfl)
theorem dX2_year_90 : decode cX2_year 90 = .ok (.irem, 1) := dk_112 (dk_at dksX2_year_3 19 rfl rfl)
theorem dX2_year_91 : decode cX2_year 91 = .ok (.istore 7, 2) := dk_54 7 (dk_at dksX2_year_3 20 rfl rfl)
theorem dX2_year_93 : decode cX2_year 93 = .ok (.iload 6, 2) := dk_21 6 (dk_at dksX2_year_3 22 rfl rfl)
theorem dX2_year_95 : decode cX2_year 95 = .ok (.iload 4, 2) := dk_21 4 (dk_at dksX2_year_4 0 rfl rfl)
theorem dX2_year_97 : decode cX2_year 97 = .ok (.bipush 48, 2) := dk_16 48 (dk_at dksX2_year_4 2 rfl rfl)
theorem dX2_year_99 : decode cX2_year 99 = .ok (.idiv, 1) := dk_108 (dk_at dksX2_year_4 4 rfl rfl)
theorem dX2_year_100 : decode cX2_year 100 = .ok (.invokestatic 298, 3) := dk_184 1 42 (dk_at dksX2_year_4 5 rfl rfl)
theorem dX2_year_103 : decode cX2_year 103 = .ok (.istore 8, 2) := dk_54 8 (dk_at dksX2_year_4 8 rfl rfl)
theorem dX2_year_105 : decode cX2_year 105 = .ok (.aload_n 0, 1) := dk_42 (dk_at dksX2_year_4 10 rfl rfl)
theorem dX2_year_106 : decode cX2_year 106 = .ok (.iload 6, 2) := dk_21 6 (dk_at dksX2_year_4 11 rfl rfl)
theorem dX2_year_108 : decode cX2_year 108 = .ok (.iload 7, 2) := dk_21 7 (dk_at dksX2_year_4 13 rfl rfl)
theorem dX2_year_110 : decode cX2_year 110 = .ok (.iload 8, 2) := dk_21 8 (dk_at dksX2_year_4 15 rfl rfl)
theorem dX2_year_112 : decode cX2_year 112 = .ok (.invokevirtual 205, 3) := dk_182 0 205 (dk_at dksX2_year_4 17 rfl rfl)
theorem dX2_year_115 : decode cX2_year 115 = .ok (.ifCond .ne 13, 3) := dk_154 0 13 (dk_at dksX2_year_4 20 rfl rfl)
theorem dX2_year_118 : decode cX2_year 118 = .ok (.aload_n 0, 1) := dk_42 (dk_at dksX2_year_4 23 rfl rfl)
theorem dX2_year_119 : decode cX2_year 119 = .ok (.iload 6, 2) := dk_21 6 (dk_at dksX2_year_5 0 rfl rfl)
theorem dX2_year_121 : decode cX2_year 121 = .ok (.iload 7, 2) := dk_21 7 (dk_at dksX2_year_5 2 rfl rfl)
theorem dX2_year_123 : decode cX2_year 123 = .ok (.iload 8, 2) := dk_21 8 (dk_at dksX2_year_5 4 rfl rfl)
theorem dX2_year_125 : decode cX2_year 125 = .ok (.invokevirtual 208, 3) := dk_182 0 208 (dk_at dksX2_year_5 6 rfl rfl)
theorem dX2_year_128 : decode cX2_year 128 = .ok (.iinc 5 1, 3) := dk_132 5 1 (dk_at dksX2_year_5 9 rfl rfl)
theorem dX2_year_131 : decode cX2_year 131 = .ok (.goto (-82), 3) := dk_167 255 174 (dk_at dksX2_year_5 12 rfl rfl)
theorem dX2_year_134 : decode cX2_year 134 = .ok (.iload_n 3, 1) := dk_29 (dk_at dksX2_year_5 15 rfl rfl)
theorem dX2_year_135 : decode cX2_year 135 = .ok (.ifCond .ne 10, 3) := dk_154 0 10 (dk_at dksX2_year_5 16 rfl rfl)
theorem dX2_year_138 : decode cX2_year 138 = .ok (.aload_n 0, 1) := dk_42 (dk_at dksX2_year_5 19 rfl rfl)
theorem dX2_year_139 : decode cX2_year 139 = .ok (.invokevirtual 157, 3) := dk_182 0 157 (dk_at dksX2_year_5 20 rfl rfl)
theorem dX2_year_142 : decode cX2_year 142 = .ok (.goto 24, 3) := dk_167 0 24 (dk_at dksX2_year_6 0 rfl rfl)
theorem dX2_year_145 : decode cX2_year 145 = .ok (.iload_n 3, 1) := dk_29 (dk_at dksX2_year_6 3 rfl rfl)
theorem dX2_year_146 : decode cX2_year 146 = .ok (.iconst 1, 1) := dk_4 (dk_at dksX2_year_6 4 rfl rfl)
theorem dX2_year_147 : decode cX2_year 147 = .ok (.if_icmp .ne 10, 3) := dk_160 0 10 (dk_at dksX2_year_6 5 rfl rfl)
theorem dX2_year_150 : decode cX2_year 150 = .ok (.aload_n 0, 1) := dk_42 (dk_at dksX2_year_6 8 rfl rfl)
theorem dX2_year_151 : decode cX2_year 151 = .ok (.invokevirtual 164, 3) := dk_182 0 164 (dk_at dksX2_year_6 9 rfl rfl)
theorem dX2_year_154 : decode cX2_year 154 = .ok (.goto 12, 3) := dk_167 0 12 (dk_at dksX2_year_6 12 rfl rfl)
theorem dX2_year_157 : decode cX2_year 157 = .ok (.aload_n 0, 1) := dk_42 (dk_at dksX2_year_6 15 rfl rfl)
theorem dX2_year_158 : decode cX2_year 158 = .ok (.bipush (-6), 2) := dk_16 250 (dk_at dksX2_year_6 16 rfl rfl)
theorem dX2_year_160 : decode cX2_year 160 = .ok (.invokevirtual 229, 3) := dk_182 0 229 (dk_at dksX2_year_6 18 rfl rfl)
theorem dX2_year_163 : decode cX2_year 163 = .ok (.invokestatic 279, 3) := dk_184 1 23 (dk_at dksX2_year_6 21 rfl rfl)
theorem dX2_year_166 : decode cX2_year 166 = .ok (.istore 5, 2) := dk_54 5 (dk_at dksX2_year_7 0 rfl rfl)
theorem dX2_year_168 : decode cX2_year 168 = .ok (.aload_n 0, 1) := dk_42 (dk_at dksX2_year_7 2 rfl rfl)
theorem dX2_year_169 : decode cX2_year 169 = .ok (.iload 5, 2) := dk_21 5 (dk_at dksX2_year_7 3 rfl rfl)
theorem dX2_year_171 : decode cX2_year 171 = .ok (.invokevirtual 226, 3) := dk_182 0 226 (dk_at dksX2_year_7 5 rfl rfl)
theorem dX2_year_174 : decode cX2_year 174 = .ok (.ireturn, 1) := dk_172 (dk_at dksX2_year_7 8 rfl rfl)
abbrev cX2_actBy : ByteArray := prog_4_method_64_code
def yX2_actBy : MethodName := ⟨RX2, "actBy", "(I)I"⟩
def dkwX2_actBy_2 : List UInt8 := [3, 172, 8, 172, 5, 172, 6, 172, 7, 172, 4, 172, 16, 6, 172]
abbrev dktX2_actBy_2 : List UInt8 := dkwX2_actBy_2 ++ []
def dkwX2_actBy_1 : List UInt8 := [170, 0, 0, 0, 0, 0, 55, 0, 0, 0, 0, 0, 0, 0, 6, 0, 0, 0, 43, 0, 0, 0, 45, 0, 0, 0, 47, 0, 0, 0, 47, 0, 0, 0, 49, 0, 0, 0, 51, 0, 0, 0, 53]
abbrev dktX2_actBy_1 : List UInt8 := dkwX2_actBy_1 ++ dktX2_actBy_2
def dkwX2_actBy_0 : List UInt8 := [26]
abbrev dktX2_actBy_0 : List UInt8 := dkwX2_actBy_0 ++ dktX2_actBy_1
theorem dksX2_actBy_0 : cX2_actBy.data.toList.drop 0 = dktX2_actBy_0 := by decide +kernel
theorem dksX2_actBy_1 : cX2_actBy.data.toList.drop 1 = dktX2_actBy_1 := dk_seg dksX2_actBy_0 1 rfl rfl
theorem dksX2_actBy_2 : cX2_actBy.data.toList.drop 44 = dktX2_actBy_2 := dk_seg dksX2_actBy_1 43 rfl rfl
theorem dX2_actBy_0 : decode cX2_actBy 0 = .ok (.iload_n 0, 1) := dk_26 (dk_at dksX2_actBy_0 0 rfl rfl)
theorem dX2_actBy_1 : decode cX2_actBy 1 = .ok (.tableswitch 55 0 6 #[43, 45, 47, 47, 49, 51, 53], 43) := by decide +kernel
theorem dX2_actBy_44 : decode cX2_actBy 44 = .ok (.iconst 0, 1) := dk_3 (dk_at dksX2_actBy_2 0 rfl rfl)
theorem dX2_actBy_45 : decode cX2_actBy 45 = .ok (.ireturn, 1) := dk_172 (dk_at dksX2_actBy_2 1 rfl rfl)
theorem dX2_actBy_46 : decode cX2_actBy 46 = .ok (.iconst 5, 1) := dk_8 (dk_at dksX2_actBy_2 2 rfl rfl)
theorem dX2_actBy_47 : decode cX2_actBy 47 = .ok (.ireturn, 1) := dk_172 (dk_at dksX2_actBy_2 3 rfl rfl)
theorem dX2_actBy_48 : decode cX2_actBy 48 = .ok (.iconst 2, 1) := dk_5 (dk_at dksX2_actBy_2 4 rfl rfl)
theorem dX2_actBy_49 : decode cX2_actBy 49 = .ok (.ireturn, 1) := dk_172 (dk_at dksX2_actBy_2 5 rfl rfl)
theorem dX2_actBy_50 : decode cX2_actBy 50 = .ok (.iconst 3, 1) := dk_6 (dk_at dksX2_actBy_2 6 rfl rfl)
theorem dX2_actBy_51 : decode cX2_actBy 51 = .ok (.ireturn, 1) := dk_172 (dk_at dksX2_actBy_2 7 rfl rfl)
theorem dX2_actBy_52 : decode cX2_actBy 52 = .ok (.iconst 4, 1) := dk_7 (dk_at dksX2_actBy_2 8 rfl rfl)
theorem dX2_actBy_53 : decode cX2_actBy 53 = .ok (.ireturn, 1) := dk_172 (dk_at dksX2_actBy_2 9 rfl rfl)
theorem dX2_actBy_54 : decode cX2_actBy 54 = .ok (.iconst 1, 1) := dk_4 (dk_at dksX2_actBy_2 10 rfl rfl)
theorem dX2_actBy_55 : decode cX2_actBy 55 = .ok (.ireturn, 1) := dk_172 (dk_at dksX2_actBy_2 11 rfl rfl)
theorem dX2_actBy_56 : decode cX2_actBy 56 = .ok (.bipush 6, 2) := dk_16 6 (dk_at dksX2_actBy_2 12 rfl rfl)
theorem dX2_actBy_58 : decode cX2_actBy 58 = .ok (.ireturn, 1) := dk_172 (dk_at dksX2_actBy_2 14 rfl rfl)
abbrev cX2_muchBy : ByteArray := prog_4_method_65_code
def yX2_muchBy : MethodName := ⟨RX2, "muchBy", "(II)I"⟩
def dkwX2_muchBy_3 : List UInt8 := [16, 9, 112, 96, 104, 172]
abbrev dktX2_muchBy_3 : List UInt8 := dkwX2_muchBy_3 ++ []
def dkwX2_muchBy_2 : List UInt8 := [27, 16, 8, 112, 172, 27, 16, 6, 112, 172, 16, 10, 4, 27, 16, 9, 112, 96, 104, 172, 16, 100, 4, 27]
abbrev dktX2_muchBy_2 : List UInt8 := dkwX2_muchBy_2 ++ dktX2_muchBy_3
def dkwX2_muchBy_1 : List UInt8 := [170, 0, 0, 0, 0, 0, 47, 0, 0, 0, 2, 0, 0, 0, 4, 0, 0, 0, 27, 0, 0, 0, 37, 0, 0, 0, 32]
abbrev dktX2_muchBy_1 : List UInt8 := dkwX2_muchBy_1 ++ dktX2_muchBy_2
def dkwX2_muchBy_0 : List UInt8 := [26]
abbrev dktX2_muchBy_0 : List UInt8 := dkwX2_muchBy_0 ++ dktX2_muchBy_1
theorem dksX2_muchBy_0 : cX2_muchBy.data.toList.drop 0 = dktX2_muchBy_0 := by decide +kernel
theorem dksX2_muchBy_1 : cX2_muchBy.data.toList.drop 1 = dktX2_muchBy_1 := dk_seg dksX2_muchBy_0 1 rfl rfl
theorem dksX2_muchBy_2 : cX2_muchBy.data.toList.drop 28 = dktX2_muchBy_2 := dk_seg dksX2_muchBy_1 27 rfl rfl
theorem dksX2_muchBy_3 : cX2_muchBy.data.toList.drop 52 = dktX2_muchBy_3 := dk_seg dksX2_muchBy_2 24 rfl rfl
theorem dX2_muchBy_0 : decode cX2_muchBy 0 = .ok (.iload_n 0, 1) := dk_26 (dk_at dksX2_muchBy_0 0 rfl rfl)
theorem dX2_muchBy_1 : decode cX2_muchBy 1 = .ok (.tableswitch 47 2 4 #[27, 37, 32], 27) := by decide +kernel
theorem dX2_muchBy_28 : decode cX2_muchBy 28 = .ok (.iload_n 1, 1) := dk_27 (dk_at dksX2_muchBy_2 0 rfl rfl)
theorem dX2_muchBy_29 : decode cX2_muchBy 29 = .ok (.bipush 8, 2) := dk_16 8 (dk_at dksX2_muchBy_2 1 rfl rfl)
theorem dX2_muchBy_31 : decode cX2_muchBy 31 = .ok (.irem, 1) := dk_112 (dk_at dksX2_muchBy_2 3 rfl rfl)
theorem dX2_muchBy_32 : decode cX2_muchBy 32 = .ok (.ireturn, 1) := dk_172 (dk_at dksX2_muchBy_2 4 rfl rfl)
theorem dX2_muchBy_33 : decode cX2_muchBy 33 = .ok (.iload_n 1, 1) := dk_27 (dk_at dksX2_muchBy_2 5 rfl rfl)
theorem dX2_muchBy_34 : decode cX2_muchBy 34 = .ok (.bipush 6, 2) := dk_16 6 (dk_at dksX2_muchBy_2 6 rfl rfl)
theorem dX2_muchBy_36 : decode cX2_muchBy 36 = .ok (.irem, 1) := dk_112 (dk_at dksX2_muchBy_2 8 rfl rfl)
theorem dX2_muchBy_37 : decode cX2_muchBy 37 = .ok (.ireturn, 1) := dk_172 (dk_at dksX2_muchBy_2 9 rfl rfl)
theorem dX2_muchBy_38 : decode cX2_muchBy 38 = .ok (.bipush 10, 2) := dk_16 10 (dk_at dksX2_muchBy_2 10 rfl rfl)
theorem dX2_muchBy_40 : decode cX2_muchBy 40 = .ok (.iconst 1, 1) := dk_4 (dk_at dksX2_muchBy_2 12 rfl rfl)
theorem dX2_muchBy_41 : decode cX2_muchBy 41 = .ok (.iload_n 1, 1) := dk_27 (dk_at dksX2_muchBy_2 13 rfl rfl)
theorem dX2_muchBy_42 : decode cX2_muchBy 42 = .ok (.bipush 9, 2) := dk_16 9 (dk_at dksX2_muchBy_2 14 rfl rfl)
theorem dX2_muchBy_44 : decode cX2_muchBy 44 = .ok (.irem, 1) := dk_112 (dk_at dksX2_muchBy_2 16 rfl rfl)
theorem dX2_muchBy_45 : decode cX2_muchBy 45 = .ok (.iadd, 1) := dk_96 (dk_at dksX2_muchBy_2 17 rfl rfl)
theorem dX2_muchBy_46 : decode cX2_muchBy 46 = .ok (.imul, 1) := dk_104 (dk_at dksX2_muchBy_2 18 rfl rfl)
theorem dX2_muchBy_47 : decode cX2_muchBy 47 = .ok (.ireturn, 1) := dk_172 (dk_at dksX2_muchBy_2 19 rfl rfl)
theorem dX2_muchBy_48 : decode cX2_muchBy 48 = .ok (.bipush 100, 2) := dk_16 100 (dk_at dksX2_muchBy_2 20 rfl rfl)
theorem dX2_muchBy_50 : decode cX2_muchBy 50 = .ok (.iconst 1, 1) := dk_4 (dk_at dksX2_muchBy_2 22 rfl rfl)
theorem dX2_muchBy_51 : decode cX2_muchBy 51 = .ok (.iload_n 1, 1) := dk_27 (dk_at dksX2_muchBy_2 23 rfl rfl)
theorem dX2_muchBy_52 : decode cX2_muchBy 52 = .ok (.bipush 9, 2) := dk_16 9 (dk_at dksX2_muchBy_3 0 rfl rfl)
theorem dX2_muchBy_54 : decode cX2_muchBy 54 = .ok (.irem, 1) := dk_112 (dk_at dksX2_muchBy_3 2 rfl rfl)
theorem dX2_muchBy_55 : decode cX2_muchBy 55 = .ok (.iadd, 1) := dk_96 (dk_at dksX2_muchBy_3 3 rfl rfl)
theorem dX2_muchBy_56 : decode cX2_muchBy 56 = .ok (.imul, 1) := dk_104 (dk_at dksX2_muchBy_3 4 rfl rfl)
theorem dX2_muchBy_57 : decode cX2_muchBy 57 = .ok (.ireturn, 1) := dk_172 (dk_at dksX2_muchBy_3 5 rfl rfl)
abbrev cX2_image : ByteArray := prog_4_method_70_code
def yX2_image : MethodName := ⟨RX2, "image", "(I)I"⟩
def dkwX2_image_1 : List UInt8 := [181, 1, 45, 42, 182, 1, 59, 42, 180, 0, 74, 27, 4, 84, 4, 172]
abbrev dktX2_image_1 : List UInt8 := dkwX2_image_1 ++ []
def dkwX2_image_0 : List UInt8 := [27, 133, 9, 10, 184, 0, 80, 154, 0, 6, 16, 254, 172, 42, 16, 100, 27, 104, 181, 1, 49, 42, 4]
abbrev dktX2_image_0 : List UInt8 := dkwX2_image_0 ++ dktX2_image_1
theorem dksX2_image_0 : cX2_image.data.toList.drop 0 = dktX2_image_0 := by decide +kernel
theorem dksX2_image_1 : cX2_image.data.toList.drop 23 = dktX2_image_1 := dk_seg dksX2_image_0 23 rfl rfl
theorem dX2_image_0 : decode cX2_image 0 = .ok (.iload_n 1, 1) := dk_27 (dk_at dksX2_image_0 0 rfl rfl)
theorem dX2_image_1 : decode cX2_image 1 = .ok (.i2l, 1) := dk_133 (dk_at dksX2_image_0 1 rfl rfl)
theorem dX2_image_2 : decode cX2_image 2 = .ok (.lconst 0, 1) := dk_9 (dk_at dksX2_image_0 2 rfl rfl)
theorem dX2_image_3 : decode cX2_image 3 = .ok (.lconst 1, 1) := dk_10 (dk_at dksX2_image_0 3 rfl rfl)
theorem dX2_image_4 : decode cX2_image 4 = .ok (.invokestatic 80, 3) := dk_184 0 80 (dk_at dksX2_image_0 4 rfl rfl)
theorem dX2_image_7 : decode cX2_image 7 = .ok (.ifCond .ne 6, 3) := dk_154 0 6 (dk_at dksX2_image_0 7 rfl rfl)
theorem dX2_image_10 : decode cX2_image 10 = .ok (.bipush (-2), 2) := dk_16 254 (dk_at dksX2_image_0 10 rfl rfl)
theorem dX2_image_12 : decode cX2_image 12 = .ok (.ireturn, 1) := dk_172 (dk_at dksX2_image_0 12 rfl rfl)
theorem dX2_image_13 : decode cX2_image 13 = .ok (.aload_n 0, 1) := dk_42 (dk_at dksX2_image_0 13 rfl rfl)
theorem dX2_image_14 : decode cX2_image 14 = .ok (.bipush 100, 2) := dk_16 100 (dk_at dksX2_image_0 14 rfl rfl)
theorem dX2_image_16 : decode cX2_image 16 = .ok (.iload_n 1, 1) := dk_27 (dk_at dksX2_image_0 16 rfl rfl)
theorem dX2_image_17 : decode cX2_image 17 = .ok (.imul, 1) := dk_104 (dk_at dksX2_image_0 17 rfl rfl)
theorem dX2_image_18 : decode cX2_image 18 = .ok (.putfield 305, 3) := dk_181 1 49 (dk_at dksX2_image_0 18 rfl rfl)
theorem dX2_image_21 : decode cX2_image 21 = .ok (.aload_n 0, 1) := dk_42 (dk_at dksX2_image_0 21 rfl rfl)
theorem dX2_image_22 : decode cX2_image 22 = .ok (.iconst 1, 1) := dk_4 (dk_at dksX2_image_0 22 rfl rfl)
theorem dX2_image_23 : decode cX2_image 23 = .ok (.putfield 301, 3) := dk_181 1 45 (dk_at dksX2_image_1 0 rfl rfl)
theorem dX2_image_26 : decode cX2_image 26 = .ok (.aload_n 0, 1) := dk_42 (dk_at dksX2_image_1 3 rfl rfl)
theorem dX2_image_27 : decode cX2_image 27 = .ok (.invokevirtual 315, 3) := dk_182 1 59 (dk_at dksX2_image_1 4 rfl rfl)
theorem dX2_image_30 : decode cX2_image 30 = .ok (.aload_n 0, 1) := dk_42 (dk_at dksX2_image_1 7 rfl rfl)
theorem dX2_image_31 : decode cX2_image 31 = .ok (.getfield 74, 3) := dk_180 0 74 (dk_at dksX2_image_1 8 rfl rfl)
theorem dX2_image_34 : decode cX2_image 34 = .ok (.iload_n 1, 1) := dk_27 (dk_at dksX2_image_1 11 rfl rfl)
theorem dX2_image_35 : decode cX2_image 35 = .ok (.iconst 1, 1) := dk_4 (dk_at dksX2_image_1 12 rfl rfl)
theorem dX2_image_36 : decode cX2_image 36 = .ok (.bastore, 1) := dk_84 (dk_at dksX2_image_1 13 rfl rfl)
theorem dX2_image_37 : decode cX2_image 37 = .ok (.iconst 1, 1) := dk_4 (dk_at dksX2_image_1 14 rfl rfl)
theorem dX2_image_38 : decode cX2_image 38 = .ok (.ireturn, 1) := dk_172 (dk_at dksX2_image_1 15 rfl rfl)
abbrev cX2_passAll : ByteArray := prog_4_method_69_code
def yX2_passAll : MethodName := ⟨RX2, "passAll", "()V"⟩
def dkwX2_passAll_5 : List UInt8 := [182, 1, 55, 42, 42, 180, 0, 28, 16, 8, 182, 1, 55, 42, 42, 180, 0, 31, 16, 8, 182, 1, 55, 177]
abbrev dktX2_passAll_5 : List UInt8 := dkwX2_passAll_5 ++ []
def dkwX2_passAll_4 : List UInt8 := [16, 8, 182, 1, 55, 42, 42, 180, 0, 22, 16, 8, 182, 1, 55, 42, 42, 180, 0, 25, 16, 8]
abbrev dktX2_passAll_4 : List UInt8 := dkwX2_passAll_4 ++ dktX2_passAll_5
def dkwX2_passAll_3 : List UInt8 := [180, 0, 13, 16, 6, 182, 1, 55, 42, 42, 180, 0, 16, 16, 36, 182, 1, 55, 42, 42, 180, 0, 19]
abbrev dktX2_passAll_3 : List UInt8 := dkwX2_passAll_3 ++ dktX2_passAll_4
def dkwX2_passAll_2 : List UInt8 := [42, 42, 42, 180, 1, 20, 182, 1, 52, 181, 1, 20, 42, 42, 180, 0, 7, 16, 6, 182, 1, 55, 42, 42]
abbrev dktX2_passAll_2 : List UInt8 := dkwX2_passAll_2 ++ dktX2_passAll_3
def dkwX2_passAll_1 : List UInt8 := [42, 42, 42, 180, 0, 183, 182, 1, 52, 181, 0, 183, 42, 42, 42, 180, 0, 180, 182, 1, 52, 181, 0, 180]
abbrev dktX2_passAll_1 : List UInt8 := dkwX2_passAll_1 ++ dktX2_passAll_2
def dkwX2_passAll_0 : List UInt8 := [42, 42, 42, 180, 0, 98, 182, 1, 52, 181, 0, 98, 42, 42, 42, 180, 0, 102, 182, 1, 52, 181, 0, 102]
abbrev dktX2_passAll_0 : List UInt8 := dkwX2_passAll_0 ++ dktX2_passAll_1
theorem dksX2_passAll_0 : cX2_passAll.data.toList.drop 0 = dktX2_passAll_0 := by decide +kernel
theorem dksX2_passAll_1 : cX2_passAll.data.toList.drop 24 = dktX2_passAll_1 := dk_seg dksX2_passAll_0 24 rfl rfl
theorem dksX2_passAll_2 : cX2_passAll.data.toList.drop 48 = dktX2_passAll_2 := dk_seg dksX2_passAll_1 24 rfl rfl
theorem dksX2_passAll_3 : cX2_passAll.data.toList.drop 72 = dktX2_passAll_3 := dk_seg dksX2_passAll_2 24 rfl rfl
theorem dksX2_passAll_4 : cX2_passAll.data.toList.drop 95 = dktX2_passAll_4 := dk_seg dksX2_passAll_3 23 rfl rfl
theorem dksX2_passAll_5 : cX2_passAll.data.toList.drop 117 = dktX2_passAll_5 := dk_seg dksX2_passAll_4 22 rfl rfl
theorem dX2_passAll_0 : decode cX2_passAll 0 = .ok (.aload_n 0, 1) := dk_42 (dk_at dksX2_passAll_0 0 rfl rfl)
theorem dX2_passAll_1 : decode cX2_passAll 1 = .ok (.aload_n 0, 1) := dk_42 (dk_at dksX2_passAll_0 1 rfl rfl)
theorem dX2_passAll_2 : decode cX2_passAll 2 = .ok (.aload_n 0, 1) := dk_42 (dk_at dksX2_passAll_0 2 rfl rfl)
theorem dX2_passAll_3 : decode cX2_passAll 3 = .ok (.getfield 98, 3) := dk_180 0 98 (dk_at dksX2_passAll_0 3 rfl rfl)
theorem dX2_passAll_6 : decode cX2_passAll 6 = .ok (.invokevirtual 308, 3) := dk_182 1 52 (dk_at dksX2_passAll_0 6 rfl rfl)
theorem dX2_passAll_9 : decode cX2_passAll 9 = .ok (.putfield 98, 3) := dk_181 0 98 (dk_at dksX2_passAll_0 9 rfl rfl)
theorem dX2_passAll_12 : decode cX2_passAll 12 = .ok (.aload_n 0, 1) := dk_42 (dk_at dksX2_passAll_0 12 rfl rfl)
theorem dX2_passAll_13 : decode cX2_passAll 13 = .ok (.aload_n 0, 1) := dk_42 (dk_at dksX2_passAll_0 13 rfl rfl)
theorem dX2_passAll_14 : decode cX2_passAll 14 = .ok (.aload_n 0, 1) := dk_42 (dk_at dksX2_passAll_0 14 rfl rfl)
theorem dX2_passAll_15 : decode cX2_passAll 15 = .ok (.getfield 102, 3) := dk_180 0 102 (dk_at dksX2_passAll_0 15 rfl rfl)
theorem dX2_passAll_18 : decode cX2_passAll 18 = .ok (.invokevirtual 308, 3) := dk_182 1 52 (dk_at dksX2_passAll_0 18 rfl rfl)
theorem dX2_passAll_21 : decode cX2_passAll 21 = .ok (.putfield 102, 3) := dk_181 0 102 (dk_at dksX2_passAll_0 21 rfl rfl)
theorem dX2_passAll_24 : decode cX2_passAll 24 = .ok (.aload_n 0, 1) := dk_42 (dk_at dksX2_passAll_1 0 rfl rfl)
theorem dX2_passAll_25 : decode cX2_passAll 25 = .ok (.aload_n 0, 1) := dk_42 (dk_at dksX2_passAll_1 1 rfl rfl)
theorem dX2_passAll_26 : decode cX2_passAll 26 = .ok (.aload_n 0, 1) := dk_42 (dk_at dksX2_passAll_1 2 rfl rfl)
theorem dX2_passAll_27 : decode cX2_passAll 27 = .ok (.getfield 183, 3) := dk_180 0 183 (dk_at dksX2_passAll_1 3 rfl rfl)
theorem dX2_passAll_30 : decode cX2_passAll 30 = .ok (.invokevirtual 308, 3) := dk_182 1 52 (dk_at dksX2_passAll_1 6 rfl rfl)
theorem dX2_passAll_33 : decode cX2_passAll 33 = .ok (.putfield 183, 3) := dk_181 0 183 (dk_at dksX2_passAll_1 9 rfl rfl)
theorem dX2_passAll_36 : decode cX2_passAll 36 = .ok (.aload_n 0, 1) := dk_42 (dk_at dksX2_passAll_1 12 rfl rfl)
theorem dX2_passAll_37 : decode cX2_passAll 37 = .ok (.aload_n 0, 1) := dk_42 (dk_at dksX2_passAll_1 13 rfl rfl)
theorem dX2_passAll_38 : decode cX2_passAll 38 = .ok (.aload_n 0, 1) := dk_42 (dk_at dksX2_passAll_1 14 rfl rfl)
theorem dX2_passAll_39 : decode cX2_passAll 39 = .ok (.getfield 180, 3) := dk_180 0 180 (dk_at dksX2_passAll_1 15 rfl rfl)
theorem dX2_passAll_42 : decode cX2_passAll 42 = .ok (.invokevirtual 308, 3) := dk_182 1 52 (dk_at dksX2_passAll_1 18 rfl rfl)
theorem dX2_passAll_45 : decode cX2_passAll 45 = .ok (.putfield 180, 3) := dk_181 0 180 (dk_at dksX2_passAll_1 21 rfl rfl)
theorem dX2_passAll_48 : decode cX2_passAll 48 = .ok (.aload_n 0, 1) := dk_42 (dk_at dksX2_passAll_2 0 rfl rfl)
theorem dX2_passAll_49 : decode cX2_passAll 49 = .ok (.aload_n 0, 1) := dk_42 (dk_at dksX2_passAll_2 1 rfl rfl)
theorem dX2_passAll_50 : decode cX2_passAll 50 = .ok (.aload_n 0, 1) := dk_42 (dk_at dksX2_passAll_2 2 rfl rfl)
theorem dX2_passAll_51 : decode cX2_passAll 51 = .ok (.getfield 276, 3) := dk_180 1 20 (dk_at dksX2_passAll_2 3 rfl rfl)
theorem dX2_passAll_54 : decode cX2_passAll 54 = .ok (.invokevirtual 308, 3) := dk_182 1 52 (dk_at dksX2_passAll_2 6 rfl rfl)
theorem dX2_passAll_57 : decode cX2_passAll 57 = .ok (.putfield 276, 3) := dk_181 1 20 (dk_at dksX2_passAll_2 9 rfl rfl)
theorem dX2_passAll_60 : decode cX2_passAll 60 = .ok (.aload_n 0, 1) := dk_42 (dk_at dksX2_passAll_2 12 rfl rfl)
theorem dX2_passAll_61 : decode cX2_passAll 61 = .ok (.aload_n 0, 1) := dk_42 (dk_at dksX2_passAll_2 13 rfl rfl)
theorem dX2_passAll_62 : decode cX2_passAll 62 = .ok (.getfield 7, 3) := dk_180 0 7 (dk_at dksX2_passAll_2 14 rfl rfl)
theorem dX2_passAll_65 : decode cX2_passAll 65 = .ok (.bipush 6, 2) := dk_16 6 (dk_at dksX2_passAll_2 17 rfl rfl)
theorem dX2_passAll_67 : decode cX2_passAll 67 = .ok (.invokevirtual 311, 3) := dk_182 1 55 (dk_at dksX2_passAll_2 19 rfl rfl)
theorem dX2_passAll_70 : decode cX2_passAll 70 = .ok (.aload_n 0, 1) := dk_42 (dk_at dksX2_passAll_2 22 rfl rfl)
theorem dX2_passAll_71 : decode cX2_passAll 71 = .ok (.aload_n 0, 1) := dk_42 (dk_at dksX2_passAll_2 23 rfl rfl)
theorem dX2_passAll_72 : decode cX2_passAll 72 = .ok (.getfield 13, 3) := dk_180 0 13 (dk_at dksX2_passAll_3 0 rfl rfl)
theorem dX2_passAll_75 : decode cX2_passAll 75 = .ok (.bipush 6, 2) := dk_16 6 (dk_at dksX2_passAll_3 3 rfl rfl)
theorem dX2_passAll_77 : decode cX2_passAll 77 = .ok (.invokevirtual 311, 3) := dk_182 1 55 (dk_at dksX2_passAll_3 5 rfl rfl)
theorem dX2_passAll_80 : decode cX2_passAll 80 = .ok (.aload_n 0, 1) := dk_42 (dk_at dksX2_passAll_3 8 rfl rfl)
theorem dX2_passAll_81 : decode cX2_passAll 81 = .ok (.aload_n 0, 1) := dk_42 (dk_at dksX2_passAll_3 9 rfl rfl)
theorem dX2_passAll_82 : decode cX2_passAll 82 = .ok (.getfield 16, 3) := dk_180 0 16 (dk_at dksX2_passAll_3 10 rfl rfl)
theorem dX2_passAll_85 : decode cX2_passAll 85 = .ok (.bipush 36, 2) := dk_16 36 (dk_at dksX2_passAll_3 13 rfl rfl)
theorem dX2_passAll_87 : decode cX2_passAll 87 = .ok (.invokevirtual 311, 3) := dk_182 1 55 (dk_at dksX2_passAll_3 15 rfl rfl)
theorem dX2_passAll_90 : decode cX2_passAll 90 = .ok (.aload_n 0, 1) := dk_42 (dk_at dksX2_passAll_3 18 rfl rfl)
theorem dX2_passAll_91 : decode cX2_passAll 91 = .ok (.aload_n 0, 1) := dk_42 (dk_at dksX2_passAll_3 19 rfl rfl)
theorem dX2_passAll_92 : decode cX2_passAll 92 = .ok (.getfield 19, 3) := dk_180 0 19 (dk_at dksX2_passAll_3 20 rfl rfl)
theorem dX2_passAll_95 : decode cX2_passAll 95 = .ok (.bipush 8, 2) := dk_16 8 (dk_at dksX2_passAll_4 0 rfl rfl)
theorem dX2_passAll_97 : decode cX2_passAll 97 = .ok (.invokevirtual 311, 3) := dk_182 1 55 (dk_at dksX2_passAll_4 2 rfl rfl)
theorem dX2_passAll_100 : decode cX2_passAll 100 = .ok (.aload_n 0, 1) := dk_42 (dk_at dksX2_passAll_4 5 rfl rfl)
theorem dX2_passAll_101 : decode cX2_passAll 101 = .ok (.aload_n 0, 1) := dk_42 (dk_at dksX2_passAll_4 6 rfl rfl)
theorem dX2_passAll_102 : decode cX2_passAll 102 = .ok (.getfield 22, 3) := dk_180 0 22 (dk_at dksX2_passAll_4 7 rfl rfl)
theorem dX2_passAll_105 : decode cX2_passAll 105 = .ok (.bipush 8, 2) := dk_16 8 (dk_at dksX2_passAll_4 10 rfl rfl)
theorem dX2_passAll_107 : decode cX2_passAll 107 = .ok (.invokevirtual 311, 3) := dk_182 1 55 (dk_at dksX2_passAll_4 12 rfl rfl)
theorem dX2_passAll_110 : decode cX2_passAll 110 = .ok (.aload_n 0, 1) := dk_42 (dk_at dksX2_passAll_4 15 rfl rfl)
theorem dX2_passAll_111 : decode cX2_passAll 111 = .ok (.aload_n 0, 1) := dk_42 (dk_at dksX2_passAll_4 16 rfl rfl)
theorem dX2_passAll_112 : decode cX2_passAll 112 = .ok (.getfield 25, 3) := dk_180 0 25 (dk_at dksX2_passAll_4 17 rfl rfl)
theorem dX2_passAll_115 : decode cX2_passAll 115 = .ok (.bipush 8, 2) := dk_16 8 (dk_at dksX2_passAll_4 20 rfl rfl)
theorem dX2_passAll_117 : decode cX2_passAll 117 = .ok (.invokevirtual 311, 3) := dk_182 1 55 (dk_at dksX2_passAll_5 0 rfl rfl)
theorem dX2_passAll_120 : decode cX2_passAll 120 = .ok (.aload_n 0, 1) := dk_42 (dk_at dksX2_passAll_5 3 rfl rfl)
theorem dX2_passAll_121 : decode cX2_passAll 121 = .ok (.aload_n 0, 1) := dk_42 (dk_at dksX2_passAll_5 4 rfl rfl)
theorem dX2_passAll_122 : decode cX2_passAll 122 = .ok (.getfield 28, 3) := dk_180 0 28 (dk_at dksX2_passAll_5 5 rfl rfl)
theorem dX2_passAll_125 : decode cX2_passAll 125 = .ok (.bipush 8, 2) := dk_16 8 (dk_at dksX2_passAll_5 8 rfl rfl)
theorem dX2_passAll_127 : decode cX2_passAll 127 = .ok (.invokevirtual 311, 3) := dk_182 1 55 (dk_at dksX2_passAll_5 10 rfl rfl)
theorem dX2_passAll_130 : decode cX2_passAll 130 = .ok (.aload_n 0, 1) := dk_42 (dk_at dksX2_passAll_5 13 rfl rfl)
theorem dX2_passAll_131 : decode cX2_passAll 131 = .ok (.aload_n 0, 1) := dk_42 (dk_at dksX2_passAll_5 14 rfl rfl)
theorem dX2_passAll_132 : decode cX2_passAll 132 = .ok (.getfield 31, 3) := dk_180 0 31 (dk_at dksX2_passAll_5 15 rfl rfl)
theorem dX2_passAll_135 : decode cX2_passAll 135 = .ok (.bipush 8, 2) := dk_16 8 (dk_at dksX2_passAll_5 18 rfl rfl)
theorem dX2_passAll_137 : decode cX2_passAll 137 = .ok (.invokevirtual 311, 3) := dk_182 1 55 (dk_at dksX2_passAll_5 20 rfl rfl)
theorem dX2_passAll_140 : decode cX2_passAll 140 = .ok (.return_, 1) := dk_177 (dk_at dksX2_passAll_5 23 rfl rfl)
abbrev cX2_pass : ByteArray := prog_4_method_67_code
def yX2_pass : MethodName := ⟨RX2, "pass", "(I)I"⟩
def dkwX2_pass_1 : List UInt8 := [180, 0, 71, 42, 180, 1, 49, 28, 79, 42, 89, 180, 1, 49, 4, 96, 181, 1, 49, 28, 172]
abbrev dktX2_pass_1 : List UInt8 := dkwX2_pass_1 ++ []
def dkwX2_pass_0 : List UInt8 := [42, 180, 1, 45, 153, 0, 7, 27, 167, 0, 12, 42, 180, 0, 71, 42, 180, 1, 49, 46, 61, 42]
abbrev dktX2_pass_0 : List UInt8 := dkwX2_pass_0 ++ dktX2_pass_1
theorem dksX2_pass_0 : cX2_pass.data.toList.drop 0 = dktX2_pass_0 := by decide +kernel
theorem dksX2_pass_1 : cX2_pass.data.toList.drop 22 = dktX2_pass_1 := dk_seg dksX2_pass_0 22 rfl rfl
theorem dX2_pass_0 : decode cX2_pass 0 = .ok (.aload_n 0, 1) := dk_42 (dk_at dksX2_pass_0 0 rfl rfl)
theorem dX2_pass_1 : decode cX2_pass 1 = .ok (.getfield 301, 3) := dk_180 1 45 (dk_at dksX2_pass_0 1 rfl rfl)
theorem dX2_pass_4 : decode cX2_pass 4 = .ok (.ifCond .eq 7, 3) := dk_153 0 7 (dk_at dksX2_pass_0 4 rfl rfl)
theorem dX2_pass_7 : decode cX2_pass 7 = .ok (.iload_n 1, 1) := dk_27 (dk_at dksX2_pass_0 7 rfl rfl)
theorem dX2_pass_8 : decode cX2_pass 8 = .ok (.goto 12, 3) := dk_167 0 12 (dk_at dksX2_pass_0 8 rfl rfl)
theorem dX2_pass_11 : decode cX2_pass 11 = .ok (.aload_n 0, 1) := dk_42 (dk_at dksX2_pass_0 11 rfl rfl)
theorem dX2_pass_12 : decode cX2_pass 12 = .ok (.getfield 71, 3) := dk_180 0 71 (dk_at dksX2_pass_0 12 rfl rfl)
theorem dX2_pass_15 : decode cX2_pass 15 = .ok (.aload_n 0, 1) := dk_42 (dk_at dksX2_pass_0 15 rfl rfl)
theorem dX2_pass_16 : decode cX2_pass 16 = .ok (.getfield 305, 3) := dk_180 1 49 (dk_at dksX2_pass_0 16 rfl rfl)
theorem dX2_pass_19 : decode cX2_pass 19 = .ok (.iaload, 1) := dk_46 (dk_at dksX2_pass_0 19 rfl rfl)
theorem dX2_pass_20 : decode cX2_pass 20 = .ok (.istore_n 2, 1) := dk_61 (dk_at dksX2_pass_0 20 rfl rfl)
theorem dX2_pass_21 : decode cX2_pass 21 = .ok (.aload_n 0, 1) := dk_42 (dk_at dksX2_pass_0 21 rfl rfl)
theorem dX2_pass_22 : decode cX2_pass 22 = .ok (.getfield 71, 3) := dk_180 0 71 (dk_at dksX2_pass_1 0 rfl rfl)
theorem dX2_pass_25 : decode cX2_pass 25 = .ok (.aload_n 0, 1) := dk_42 (dk_at dksX2_pass_1 3 rfl rfl)
theorem dX2_pass_26 : decode cX2_pass 26 = .ok (.getfield 305, 3) := dk_180 1 49 (dk_at dksX2_pass_1 4 rfl rfl)
theorem dX2_pass_29 : decode cX2_pass 29 = .ok (.iload_n 2, 1) := dk_28 (dk_at dksX2_pass_1 7 rfl rfl)
theorem dX2_pass_30 : decode cX2_pass 30 = .ok (.iastore, 1) := dk_79 (dk_at dksX2_pass_1 8 rfl rfl)
theorem dX2_pass_31 : decode cX2_pass 31 = .ok (.aload_n 0, 1) := dk_42 (dk_at dksX2_pass_1 9 rfl rfl)
theorem dX2_pass_32 : decode cX2_pass 32 = .ok (.dup, 1) := dk_89 (dk_at dksX2_pass_1 10 rfl rfl)
theorem dX2_pass_33 : decode cX2_pass 33 = .ok (.getfield 305, 3) := dk_180 1 49 (dk_at dksX2_pass_1 11 rfl rfl)
theorem dX2_pass_36 : decode cX2_pass 36 = .ok (.iconst 1, 1) := dk_4 (dk_at dksX2_pass_1 14 rfl rfl)
theorem dX2_pass_37 : decode cX2_pass 37 = .ok (.iadd, 1) := dk_96 (dk_at dksX2_pass_1 15 rfl rfl)
theorem dX2_pass_38 : decode cX2_pass 38 = .ok (.putfield 305, 3) := dk_181 1 49 (dk_at dksX2_pass_1 16 rfl rfl)
theorem dX2_pass_41 : decode cX2_pass 41 = .ok (.iload_n 2, 1) := dk_28 (dk_at dksX2_pass_1 19 rfl rfl)
theorem dX2_pass_42 : decode cX2_pass 42 = .ok (.ireturn, 1) := dk_172 (dk_at dksX2_pass_1 20 rfl rfl)
abbrev cX2_passRow : ByteArray := prog_4_method_68_code
def yX2_passRow : MethodName := ⟨RX2, "passRow", "([II)V"⟩
def dkwX2_passRow_0 : List UInt8 := [3, 62, 29, 28, 162, 0, 19, 43, 29, 42, 43, 29, 46, 182, 1, 52, 79, 132, 3, 1, 167, 255, 238, 177]
abbrev dktX2_passRow_0 : List UInt8 := dkwX2_passRow_0 ++ []
theorem dksX2_passRow_0 : cX2_passRow.data.toList.drop 0 = dktX2_passRow_0 := by decide +kernel
theorem dX2_passRow_0 : decode cX2_passRow 0 = .ok (.iconst 0, 1) := dk_3 (dk_at dksX2_passRow_0 0 rfl rfl)
theorem dX2_passRow_1 : decode cX2_passRow 1 = .ok (.istore_n 3, 1) := dk_62 (dk_at dksX2_passRow_0 1 rfl rfl)
theorem dX2_passRow_2 : decode cX2_passRow 2 = .ok (.iload_n 3, 1) := dk_29 (dk_at dksX2_passRow_0 2 rfl rfl)
theorem dX2_passRow_3 : decode cX2_passRow 3 = .ok (.iload_n 2, 1) := dk_28 (dk_at dksX2_passRow_0 3 rfl rfl)
theorem dX2_passRow_4 : decode cX2_passRow 4 = .ok (.if_icmp .ge 19, 3) := dk_162 0 19 (dk_at dksX2_passRow_0 4 rfl rfl)
theorem dX2_passRow_7 : decode cX2_passRow 7 = .ok (.aload_n 1, 1) := dk_43 (dk_at dksX2_passRow_0 7 rfl rfl)
theorem dX2_passRow_8 : decode cX2_passRow 8 = .ok (.iload_n 3, 1) := dk_29 (dk_at dksX2_passRow_0 8 rfl rfl)
theorem dX2_passRow_9 : decode cX2_passRow 9 = .ok (.aload_n 0, 1) := dk_42 (dk_at dksX2_passRow_0 9 rfl rfl)
theorem dX2_passRow_10 : decode cX2_passRow 10 = .ok (.aload_n 1, 1) := dk_43 (dk_at dksX2_passRow_0 10 rfl rfl)
theorem dX2_passRow_11 : decode cX2_passRow 11 = .ok (.iload_n 3, 1) := dk_29 (dk_at dksX2_passRow_0 11 rfl rfl)
theorem dX2_passRow_12 : decode cX2_passRow 12 = .ok (.iaload, 1) := dk_46 (dk_at dksX2_passRow_0 12 rfl rfl)
theorem dX2_passRow_13 : decode cX2_passRow 13 = .ok (.invokevirtual 308, 3) := dk_182 1 52 (dk_at dksX2_passRow_0 13 rfl rfl)
theorem dX2_passRow_16 : decode cX2_passRow 16 = .ok (.iastore, 1) := dk_79 (dk_at dksX2_passRow_0 16 rfl rfl)
theorem dX2_passRow_17 : decode cX2_passRow 17 = .ok (.iinc 3 1, 3) := dk_132 3 1 (dk_at dksX2_passRow_0 17 rfl rfl)
theorem dX2_passRow_20 : decode cX2_passRow 20 = .ok (.goto (-18), 3) := dk_167 255 238 (dk_at dksX2_passRow_0 20 rfl rfl)
theorem dX2_passRow_23 : decode cX2_passRow 23 = .ok (.return_, 1) := dk_177 (dk_at dksX2_passRow_0 23 rfl rfl)
abbrev cX2_restore : ByteArray := prog_4_method_71_code
def yX2_restore : MethodName := ⟨RX2, "restore", "(I)I"⟩
def dkwX2_restore_1 : List UInt8 := [172, 42, 16, 100, 27, 104, 181, 1, 49, 42, 3, 181, 1, 45, 42, 182, 1, 59, 4, 172]
abbrev dktX2_restore_1 : List UInt8 := dkwX2_restore_1 ++ []
def dkwX2_restore_0 : List UInt8 := [27, 133, 9, 10, 184, 0, 80, 154, 0, 6, 16, 254, 172, 42, 180, 0, 74, 27, 51, 154, 0, 6, 16, 253]
abbrev dktX2_restore_0 : List UInt8 := dkwX2_restore_0 ++ dktX2_restore_1
theorem dksX2_restore_0 : cX2_restore.data.toList.drop 0 = dktX2_restore_0 := by decide +kernel
theorem dksX2_restore_1 : cX2_restore.data.toList.drop 24 = dktX2_restore_1 := dk_seg dksX2_restore_0 24 rfl rfl
theorem dX2_restore_0 : decode cX2_restore 0 = .ok (.iload_n 1, 1) := dk_27 (dk_at dksX2_restore_0 0 rfl rfl)
theorem dX2_restore_1 : decode cX2_restore 1 = .ok (.i2l, 1) := dk_133 (dk_at dksX2_restore_0 1 rfl rfl)
theorem dX2_restore_2 : decode cX2_restore 2 = .ok (.lconst 0, 1) := dk_9 (dk_at dksX2_restore_0 2 rfl rfl)
theorem dX2_restore_3 : decode cX2_restore 3 = .ok (.lconst 1, 1) := dk_10 (dk_at dksX2_restore_0 3 rfl rfl)
theorem dX2_restore_4 : decode cX2_restore 4 = .ok (.invokestatic 80, 3) := dk_184 0 80 (dk_at dksX2_restore_0 4 rfl rfl)
theorem dX2_restore_7 : decode cX2_restore 7 = .ok (.ifCond .ne 6, 3) := dk_154 0 6 (dk_at dksX2_restore_0 7 rfl rfl)
theorem dX2_restore_10 : decode cX2_restore 10 = .ok (.bipush (-2), 2) := dk_16 254 (dk_at dksX2_restore_0 10 rfl rfl)
theorem dX2_restore_12 : decode cX2_restore 12 = .ok (.ireturn, 1) := dk_172 (dk_at dksX2_restore_0 12 rfl rfl)
theorem dX2_restore_13 : decode cX2_restore 13 = .ok (.aload_n 0, 1) := dk_42 (dk_at dksX2_restore_0 13 rfl rfl)
theorem dX2_restore_14 : decode cX2_restore 14 = .ok (.getfield 74, 3) := dk_180 0 74 (dk_at dksX2_restore_0 14 rfl rfl)
theorem dX2_restore_17 : decode cX2_restore 17 = .ok (.iload_n 1, 1) := dk_27 (dk_at dksX2_restore_0 17 rfl rfl)
theorem dX2_restore_18 : decode cX2_restore 18 = .ok (.baload, 1) := dk_51 (dk_at dksX2_restore_0 18 rfl rfl)
theorem dX2_restore_19 : decode cX2_restore 19 = .ok (.ifCond .ne 6, 3) := dk_154 0 6 (dk_at dksX2_restore_0 19 rfl rfl)
theorem dX2_restore_22 : decode cX2_restore 22 = .ok (.bipush (-3), 2) := dk_16 253 (dk_at dksX2_restore_0 22 rfl rfl)
theorem dX2_restore_24 : decode cX2_restore 24 = .ok (.ireturn, 1) := dk_172 (dk_at dksX2_restore_1 0 rfl rfl)
theorem dX2_restore_25 : decode cX2_restore 25 = .ok (.aload_n 0, 1) := dk_42 (dk_at dksX2_restore_1 1 rfl rfl)
theorem dX2_restore_26 : decode cX2_restore 26 = .ok (.bipush 100, 2) := dk_16 100 (dk_at dksX2_restore_1 2 rfl rfl)
theorem dX2_restore_28 : decode cX2_restore 28 = .ok (.iload_n 1, 1) := dk_27 (dk_at dksX2_restore_1 4 rfl rfl)
theorem dX2_restore_29 : decode cX2_restore 29 = .ok (.imul, 1) := dk_104 (dk_at dksX2_restore_1 5 rfl rfl)
theorem dX2_restore_30 : decode cX2_restore 30 = .ok (.putfield 305, 3) := dk_181 1 49 (dk_at dksX2_restore_1 6 rfl rfl)
theorem dX2_restore_33 : decode cX2_restore 33 = .ok (.aload_n 0, 1) := dk_42 (dk_at dksX2_restore_1 9 rfl rfl)
theorem dX2_restore_34 : decode cX2_restore 34 = .ok (.iconst 0, 1) := dk_3 (dk_at dksX2_restore_1 10 rfl rfl)
theorem dX2_restore_35 : decode cX2_restore 35 = .ok (.putfield 301, 3) := dk_181 1 45 (dk_at dksX2_restore_1 11 rfl rfl)
theorem dX2_restore_38 : decode cX2_restore 38 = .ok (.aload_n 0, 1) := dk_42 (dk_at dksX2_restore_1 14 rfl rfl)
theorem dX2_restore_39 : decode cX2_restore 39 = .ok (.invokevirtual 315, 3) := dk_182 1 59 (dk_at dksX2_restore_1 15 rfl rfl)
theorem dX2_restore_42 : decode cX2_restore 42 = .ok (.iconst 1, 1) := dk_4 (dk_at dksX2_restore_1 18 rfl rfl)
theorem dX2_restore_43 : decode cX2_restore 43 = .ok (.ireturn, 1) := dk_172 (dk_at dksX2_restore_1 19 rfl rfl)
abbrev cX2_told : ByteArray := prog_4_method_74_code
def yX2_told : MethodName := ⟨RX2, "told", "(I)I"⟩
def dkwX2_told_6 : List UInt8 := [27, 182, 1, 73, 172]
abbrev dktX2_told_6 : List UInt8 := dkwX2_told_6 ++ []
def dkwX2_told_5 : List UInt8 := [184, 0, 80, 153, 0, 20, 42, 27, 16, 10, 108, 4, 100, 27, 16, 10, 112, 182, 1, 70, 167, 0, 8, 42]
abbrev dktX2_told_5 : List UInt8 := dkwX2_told_5 ++ dktX2_told_6
def dkwX2_told_4 : List UInt8 := [160, 0, 12, 42, 180, 0, 22, 28, 46, 167, 0, 5, 16, 254, 172, 27, 133, 20, 1, 4, 20, 1, 68]
abbrev dktX2_told_4 : List UInt8 := dkwX2_told_4 ++ dktX2_told_5
def dkwX2_told_3 : List UInt8 := [61, 27, 16, 10, 112, 154, 0, 12, 42, 180, 0, 19, 28, 46, 167, 0, 22, 27, 16, 10, 112, 4]
abbrev dktX2_told_3 : List UInt8 := dkwX2_told_3 ++ dktX2_told_4
def dkwX2_told_2 : List UInt8 := [16, 254, 172, 27, 133, 20, 0, 151, 20, 1, 66, 184, 0, 80, 153, 0, 47, 27, 16, 100, 100, 16, 10, 108]
abbrev dktX2_told_2 : List UInt8 := dkwX2_told_2 ++ dktX2_told_3
def dkwX2_told_1 : List UInt8 := [180, 0, 16, 16, 6, 27, 17, 0, 200, 100, 16, 10, 108, 104, 27, 16, 10, 112, 96, 46, 167, 0, 5]
abbrev dktX2_told_1 : List UInt8 := dkwX2_told_1 ++ dktX2_told_2
def dkwX2_told_0 : List UInt8 := [27, 133, 20, 1, 62, 20, 1, 64, 184, 0, 80, 153, 0, 39, 27, 16, 10, 112, 16, 6, 162, 0, 27, 42]
abbrev dktX2_told_0 : List UInt8 := dkwX2_told_0 ++ dktX2_told_1
theorem dksX2_told_0 : cX2_told.data.toList.drop 0 = dktX2_told_0 := by decide +kernel
theorem dksX2_told_1 : cX2_told.data.toList.drop 24 = dktX2_told_1 := dk_seg dksX2_told_0 24 rfl rfl
theorem dksX2_told_2 : cX2_told.data.toList.drop 47 = dktX2_told_2 := dk_seg dksX2_told_1 23 rfl rfl
theorem dksX2_told_3 : cX2_told.data.toList.drop 71 = dktX2_told_3 := dk_seg dksX2_told_2 24 rfl rfl
theorem dksX2_told_4 : cX2_told.data.toList.drop 93 = dktX2_told_4 := dk_seg dksX2_told_3 22 rfl rfl
theorem dksX2_told_5 : cX2_told.data.toList.drop 116 = dktX2_told_5 := dk_seg dksX2_told_4 23 rfl rfl
theorem dksX2_told_6 : cX2_told.data.toList.drop 140 = dktX2_told_6 := dk_seg dksX2_told_5 24 rfl rfl
theorem dX2_told_0 : decode cX2_told 0 = .ok (.iload_n 1, 1) := dk_27 (dk_at dksX2_told_0 0 rfl rfl)
theorem dX2_told_1 : decode cX2_told 1 = .ok (.i2l, 1) := dk_133 (dk_at dksX2_told_0 1 rfl rfl)
theorem dX2_told_2 : decode cX2_told 2 = .ok (.ldc2_w 318, 3) := dk_20 1 62 (dk_at dksX2_told_0 2 rfl rfl)
theorem dX2_told_5 : decode cX2_told 5 = .ok (.ldc2_w 320, 3) := dk_20 1 64 (dk_at dksX2_told_0 5 rfl rfl)
theorem dX2_told_8 : decode cX2_told 8 = .ok (.invokestatic 80, 3) := dk_184 0 80 (dk_at dksX2_told_0 8 rfl rfl)
theorem dX2_told_11 : decode cX2_told 11 = .ok (.ifCond .eq 39, 3) := dk_153 0 39 (dk_at dksX2_told_0 11 rfl rfl)
theorem dX2_told_14 : decode cX2_told 14 = .ok (.iload_n 1, 1) := dk_27 (dk_at dksX2_told_0 14 rfl rfl)
theorem dX2_told_15 : decode cX2_told 15 = .ok (.bipush 10, 2) := dk_16 10 (dk_at dksX2_told_0 15 rfl rfl)
theorem dX2_told_17 : decode cX2_told 17 = .ok (.irem, 1) := dk_112 (dk_at dksX2_told_0 17 rfl rfl)
theorem dX2_told_18 : decode cX2_told 18 = .ok (.bipush 6, 2) := dk_16 6 (dk_at dksX2_told_0 18 rfl rfl)
theorem dX2_told_20 : decode cX2_told 20 = .ok (.if_icmp .ge 27, 3) := dk_162 0 27 (dk_at dksX2_told_0 20 rfl rfl)
theorem dX2_told_23 : decode cX2_told 23 = .ok (.aload_n 0, 1) := dk_42 (dk_at dksX2_told_0 23 rfl rfl)
theorem dX2_told_24 : decode cX2_told 24 = .ok (.getfield 16, 3) := dk_180 0 16 (dk_at dksX2_told_1 0 rfl rfl)
theorem dX2_told_27 : decode cX2_told 27 = .ok (.bipush 6, 2) := dk_16 6 (dk_at dksX2_told_1 3 rfl rfl)
theorem dX2_told_29 : decode cX2_told 29 = .ok (.iload_n 1, 1) := dk_27 (dk_at dksX2_told_1 5 rfl rfl)
theorem dX2_told_30 : decode cX2_told 30 = .ok (.sipush 200, 3) := dk_17 0 200 (dk_at dksX2_told_1 6 rfl rfl)
theorem dX2_told_33 : decode cX2_told 33 = .ok (.isub, 1) := dk_100 (dk_at dksX2_told_1 9 rfl rfl)
theorem dX2_told_34 : decode cX2_told 34 = .ok (.bipush 10, 2) := dk_16 10 (dk_at dksX2_told_1 10 rfl rfl)
theorem dX2_told_36 : decode cX2_told 36 = .ok (.idiv, 1) := dk_108 (dk_at dksX2_told_1 12 rfl rfl)
theorem dX2_told_37 : decode cX2_told 37 = .ok (.imul, 1) := dk_104 (dk_at dksX2_told_1 13 rfl rfl)
theorem dX2_told_38 : decode cX2_told 38 = .ok (.iload_n 1, 1) := dk_27 (dk_at dksX2_told_1 14 rfl rfl)
theorem dX2_told_39 : decode cX2_told 39 = .ok (.bipush 10, 2) := dk_16 10 (dk_at dksX2_told_1 15 rfl rfl)
theorem dX2_told_41 : decode cX2_told 41 = .ok (.irem, 1) := dk_112 (dk_at dksX2_told_1 17 rfl rfl)
theorem dX2_told_42 : decode cX2_told 42 = .ok (.iadd, 1) := dk_96 (dk_at dksX2_told_1 18 rfl rfl)
theorem dX2_told_43 : decode cX2_told 43 = .ok (.iaload, 1) := dk_46 (dk_at dksX2_told_1 19 rfl rfl)
theorem dX2_told_44 : decode cX2_told 44 = .ok (.goto 5, 3) := dk_167 0 5 (dk_at dksX2_told_1 20 rfl rfl)
theorem dX2_told_47 : decode cX2_told 47 = .ok (.bipush (-2), 2) := dk_16 254 (dk_at dksX2_told_2 0 rfl rfl)
theorem dX2_told_49 : decode cX2_told 49 = .ok (.ireturn, 1) := dk_172 (dk_at dksX2_told_2 2 rfl rfl)
theorem dX2_told_50 : decode cX2_told 50 = .ok (.iload_n 1, 1) := dk_27 (dk_at dksX2_told_2 3 rfl rfl)
theorem dX2_told_51 : decode cX2_told 51 = .ok (.i2l, 1) := dk_133 (dk_at dksX2_told_2 4 rfl rfl)
theorem dX2_told_52 : decode cX2_told 52 = .ok (.ldc2_w 151, 3) := dk_20 0 151 (dk_at dksX2_told_2 5 rfl rfl)
theorem dX2_told_55 : decode cX2_told 55 = .ok (.ldc2_w 322, 3) := dk_20 1 66 (dk_at dksX2_told_2 8 rfl rfl)
theorem dX2_told_58 : decode cX2_told 58 = .ok (.invokestatic 80, 3) := dk_184 0 80 (dk_at dksX2_told_2 11 rfl rfl)
theorem dX2_told_61 : decode cX2_told 61 = .ok (.ifCond .eq 47, 3) := dk_153 0 47 (dk_at dksX2_told_2 14 rfl rfl)
theorem dX2_told_64 : decode cX2_told 64 = .ok (.iload_n 1, 1) := dk_27 (dk_at dksX2_told_2 17 rfl rfl)
theorem dX2_told_65 : decode cX2_told 65 = .ok (.bipush 100, 2) := dk_16 100 (dk_at dksX2_told_2 18 rfl rfl)
theorem dX2_told_67 : decode cX2_told 67 = .ok (.isub, 1) := dk_100 (dk_at dksX2_told_2 20 rfl rfl)
theorem dX2_told_68 : decode cX2_told 68 = .ok (.bipush 10, 2) := dk_16 10 (dk_at dksX2_told_2 21 rfl rfl)
theorem dX2_told_70 : decode cX2_told 70 = .ok (.idiv, 1) := dk_108 (dk_at dksX2_told_2 23 rfl rfl)
theorem dX2_told_71 : decode cX2_told 71 = .ok (.istore_n 2, 1) := dk_61 (dk_at dksX2_told_3 0 rfl rfl)
theorem dX2_told_72 : decode cX2_told 72 = .ok (.iload_n 1, 1) := dk_27 (dk_at dksX2_told_3 1 rfl rfl)
theorem dX2_told_73 : decode cX2_told 73 = .ok (.bipush 10, 2) := dk_16 10 (dk_at dksX2_told_3 2 rfl rfl)
theorem dX2_told_75 : decode cX2_told 75 = .ok (.irem, 1) := dk_112 (dk_at dksX2_told_3 4 rfl rfl)
theorem dX2_told_76 : decode cX2_told 76 = .ok (.ifCond .ne 12, 3) := dk_154 0 12 (dk_at dksX2_told_3 5 rfl rfl)
theorem dX2_told_79 : decode cX2_told 79 = .ok (.aload_n 0, 1) := dk_42 (dk_at dksX2_told_3 8 rfl rfl)
theorem dX2_told_80 : decode cX2_told 80 = .ok (.getfield 19, 3) := dk_180 0 19 (dk_at dksX2_told_3 9 rfl rfl)
theorem dX2_told_83 : decode cX2_told 83 = .ok (.iload_n 2, 1) := dk_28 (dk_at dksX2_told_3 12 rfl rfl)
theorem dX2_told_84 : decode cX2_told 84 = .ok (.iaload, 1) := dk_46 (dk_at dksX2_told_3 13 rfl rfl)
theorem dX2_told_85 : decode cX2_told 85 = .ok (.goto 22, 3) := dk_167 0 22 (dk_at dksX2_told_3 14 rfl rfl)
theorem dX2_told_88 : decode cX2_told 88 = .ok (.iload_n 1, 1) := dk_27 (dk_at dksX2_told_3 17 rfl rfl)
theorem dX2_told_89 : decode cX2_told 89 = .ok (.bipush 10, 2) := dk_16 10 (dk_at dksX2_told_3 18 rfl rfl)
theorem dX2_told_91 : decode cX2_told 91 = .ok (.irem, 1) := dk_112 (dk_at dksX2_told_3 20 rfl rfl)
theorem dX2_told_92 : decode cX2_told 92 = .ok (.iconst 1, 1) := dk_4 (dk_at dksX2_told_3 21 rfl rfl)
theorem dX2_told_93 : decode cX2_told 93 = .ok (.if_icmp .ne 12, 3) := dk_160 0 12 (dk_at dksX2_told_4 0 rfl rfl)
theorem dX2_told_96 : decode cX2_told 96 = .ok (.aload_n 0, 1) := dk_42 (dk_at dksX2_told_4 3 rfl rfl)
theorem dX2_told_97 : decode cX2_told 97 = .ok (.getfield 22, 3) := dk_180 0 22 (dk_at dksX2_told_4 4 rfl rfl)
theorem dX2_told_100 : decode cX2_told 100 = .ok (.iload_n 2, 1) := dk_28 (dk_at dksX2_told_4 7 rfl rfl)
theorem dX2_told_101 : decode cX2_told 101 = .ok (.iaload, 1) := dk_46 (dk_at dksX2_told_4 8 rfl rfl)
theorem dX2_told_102 : decode cX2_told 102 = .ok (.goto 5, 3) := dk_167 0 5 (dk_at dksX2_told_4 9 rfl rfl)
theorem dX2_told_105 : decode cX2_told 105 = .ok (.bipush (-2), 2) := dk_16 254 (dk_at dksX2_told_4 12 rfl rfl)
theorem dX2_told_107 : decode cX2_told 107 = .ok (.ireturn, 1) := dk_172 (dk_at dksX2_told_4 14 rfl rfl)
theorem dX2_told_108 : decode cX2_told 108 = .ok (.iload_n 1, 1) := dk_27 (dk_at dksX2_told_4 15 rfl rfl)
theorem dX2_told_109 : decode cX2_told 109 = .ok (.i2l, 1) := dk_133 (dk_at dksX2_told_4 16 rfl rfl)
theorem dX2_told_110 : decode cX2_told 110 = .ok (.ldc2_w 260, 3) := dk_20 1 4 (dk_at dksX2_told_4 17 rfl rfl)
theorem dX2_told_113 : decode cX2_told 113 = .ok (.ldc2_w 324, 3) := dk_20 1 68 (dk_at dksX2_told_4 20 rfl rfl)
theorem dX2_told_116 : decode cX2_told 116 = .ok (.invokestatic 80, 3) := dk_184 0 80 (dk_at dksX2_told_5 0 rfl rfl)
theorem dX2_told_119 : decode cX2_told 119 = .ok (.ifCond .eq 20, 3) := dk_153 0 20 (dk_at dksX2_told_5 3 rfl rfl)
theorem dX2_told_122 : decode cX2_told 122 = .ok (.aload_n 0, 1) := dk_42 (dk_at dksX2_told_5 6 rfl rfl)
theorem dX2_told_123 : decode cX2_told 123 = .ok (.iload_n 1, 1) := dk_27 (dk_at dksX2_told_5 7 rfl rfl)
theorem dX2_told_124 : decode cX2_told 124 = .ok (.bipush 10, 2) := dk_16 10 (dk_at dksX2_told_5 8 rfl rfl)
theorem dX2_told_126 : decode cX2_told 126 = .ok (.idiv, 1) := dk_108 (dk_at dksX2_told_5 10 rfl rfl)
theorem dX2_told_127 : decode cX2_told 127 = .ok (.iconst 1, 1) := dk_4 (dk_at dksX2_told_5 11 rfl rfl)
theorem dX2_told_128 : decode cX2_told 128 = .ok (.isub, 1) := dk_100 (dk_at dksX2_told_5 12 rfl rfl)
theorem dX2_told_129 : decode cX2_told 129 = .ok (.iload_n 1, 1) := dk_27 (dk_at dksX2_told_5 13 rfl rfl)
theorem dX2_told_130 : decode cX2_told 130 = .ok (.bipush 10, 2) := dk_16 10 (dk_at dksX2_told_5 14 rfl rfl)
theorem dX2_told_132 : decode cX2_told 132 = .ok (.irem, 1) := dk_112 (dk_at dksX2_told_5 16 rfl rfl)
theorem dX2_told_133 : decode cX2_told 133 = .ok (.invokevirtual 326, 3) := dk_182 1 70 (dk_at dksX2_told_5 17 rfl rfl)
theorem dX2_told_136 : decode cX2_told 136 = .ok (.goto 8, 3) := dk_167 0 8 (dk_at dksX2_told_5 20 rfl rfl)
theorem dX2_told_139 : decode cX2_told 139 = .ok (.aload_n 0, 1) := dk_42 (dk_at dksX2_told_5 23 rfl rfl)
theorem dX2_told_140 : decode cX2_told 140 = .ok (.iload_n 1, 1) := dk_27 (dk_at dksX2_told_6 0 rfl rfl)
theorem dX2_told_141 : decode cX2_told 141 = .ok (.invokevirtual 329, 3) := dk_182 1 73 (dk_at dksX2_told_6 1 rfl rfl)
theorem dX2_told_144 : decode cX2_told 144 = .ok (.ireturn, 1) := dk_172 (dk_at dksX2_told_6 4 rfl rfl)
abbrev cX2_toldOfOne : ByteArray := prog_4_method_72_code
def yX2_toldOfOne : MethodName := ⟨RX2, "toldOfOne", "(II)I"⟩
def dkwX2_toldOfOne_0 : List UInt8 := [28, 6, 162, 0, 12, 42, 27, 28, 182, 0, 237, 167, 0, 5, 16, 254, 172]
abbrev dktX2_toldOfOne_0 : List UInt8 := dkwX2_toldOfOne_0 ++ []
theorem dksX2_toldOfOne_0 : cX2_toldOfOne.data.toList.drop 0 = dktX2_toldOfOne_0 := by decide +kernel
theorem dX2_toldOfOne_0 : decode cX2_toldOfOne 0 = .ok (.iload_n 2, 1) := dk_28 (dk_at dksX2_toldOfOne_0 0 rfl rfl)
theorem dX2_toldOfOne_1 : decode cX2_toldOfOne 1 = .ok (.iconst 3, 1) := dk_6 (dk_at dksX2_toldOfOne_0 1 rfl rfl)
theorem dX2_toldOfOne_2 : decode cX2_toldOfOne 2 = .ok (.if_icmp .ge 12, 3) := dk_162 0 12 (dk_at dksX2_toldOfOne_0 2 rfl rfl)
theorem dX2_toldOfOne_5 : decode cX2_toldOfOne 5 = .ok (.aload_n 0, 1) := dk_42 (dk_at dksX2_toldOfOne_0 5 rfl rfl)
theorem dX2_toldOfOne_6 : decode cX2_toldOfOne 6 = .ok (.iload_n 1, 1) := dk_27 (dk_at dksX2_toldOfOne_0 6 rfl rfl)
theorem dX2_toldOfOne_7 : decode cX2_toldOfOne 7 = .ok (.iload_n 2, 1) := dk_28 (dk_at dksX2_toldOfOne_0 7 rfl rfl)
theorem dX2_toldOfOne_8 : decode cX2_toldOfOne 8 = .ok (.invokevirtual 237, 3) := dk_182 0 237 (dk_at dksX2_toldOfOne_0 8 rfl rfl)
theorem dX2_toldOfOne_11 : decode cX2_toldOfOne 11 = .ok (.goto 5, 3) := dk_167 0 5 (dk_at dksX2_toldOfOne_0 11 rfl rfl)
theorem dX2_toldOfOne_14 : decode cX2_toldOfOne 14 = .ok (.bipush (-2), 2) := dk_16 254 (dk_at dksX2_toldOfOne_0 14 rfl rfl)
theorem dX2_toldOfOne_16 : decode cX2_toldOfOne 16 = .ok (.ireturn, 1) := dk_172 (dk_at dksX2_toldOfOne_0 16 rfl rfl)
abbrev cX2_toldOfAll : ByteArray := prog_4_method_73_code
def yX2_toldOfAll : MethodName := ⟨RX2, "toldOfAll", "(I)I"⟩
def dkwX2_toldOfAll_3 : List UInt8 := [172, 42, 180, 1, 20, 172, 42, 182, 0, 157, 172, 42, 182, 0, 153, 172, 42, 182, 0, 164, 172, 16, 254, 172]
abbrev dktX2_toldOfAll_3 : List UInt8 := dkwX2_toldOfAll_3 ++ []
def dkwX2_toldOfAll_2 : List UInt8 := [42, 180, 0, 109, 172, 42, 180, 0, 98, 172, 42, 180, 0, 102, 172, 42, 180, 0, 183, 172, 42, 180, 0, 180]
abbrev dktX2_toldOfAll_2 : List UInt8 := dkwX2_toldOfAll_2 ++ dktX2_toldOfAll_3
def dkwX2_toldOfAll_1 : List UInt8 := [170, 0, 0, 0, 0, 0, 96, 0, 0, 0, 0, 0, 0, 0, 8, 0, 0, 0, 51, 0, 0, 0, 56, 0, 0, 0, 61, 0, 0, 0, 66, 0, 0, 0, 71, 0, 0, 0, 76, 0, 0, 0, 81, 0, 0, 0, 86, 0, 0, 0, 91]
abbrev dktX2_toldOfAll_1 : List UInt8 := dkwX2_toldOfAll_1 ++ dktX2_toldOfAll_2
def dkwX2_toldOfAll_0 : List UInt8 := [27]
abbrev dktX2_toldOfAll_0 : List UInt8 := dkwX2_toldOfAll_0 ++ dktX2_toldOfAll_1
theorem dksX2_toldOfAll_0 : cX2_toldOfAll.data.toList.drop 0 = dktX2_toldOfAll_0 := by decide +kernel
theorem dksX2_toldOfAll_1 : cX2_toldOfAll.data.toList.drop 1 = dktX2_toldOfAll_1 := dk_seg dksX2_toldOfAll_0 1 rfl rfl
theorem dksX2_toldOfAll_2 : cX2_toldOfAll.data.toList.drop 52 = dktX2_toldOfAll_2 := dk_seg dksX2_toldOfAll_1 51 rfl rfl
theorem dksX2_toldOfAll_3 : cX2_toldOfAll.data.toList.drop 76 = dktX2_toldOfAll_3 := dk_seg dksX2_toldOfAll_2 24 rfl rfl
theorem dX2_toldOfAll_0 : decode cX2_toldOfAll 0 = .ok (.iload_n 1, 1) := dk_27 (dk_at dksX2_toldOfAll_0 0 rfl rfl)
theorem dX2_toldOfAll_1 : decode cX2_toldOfAll 1 = .ok (.tableswitch 96 0 8 #[51, 56, 61, 66, 71, 76, 81, 86, 91], 51) := by decide +kernel
theorem dX2_toldOfAll_52 : decode cX2_toldOfAll 52 = .ok (.aload_n 0, 1) := dk_42 (dk_at dksX2_toldOfAll_2 0 rfl rfl)
theorem dX2_toldOfAll_53 : decode cX2_toldOfAll 53 = .ok (.getfield 109, 3) := dk_180 0 109 (dk_at dksX2_toldOfAll_2 1 rfl rfl)
theorem dX2_toldOfAll_56 : decode cX2_toldOfAll 56 = .ok (.ireturn, 1) := dk_172 (dk_at dksX2_toldOfAll_2 4 rfl rfl)
theorem dX2_toldOfAll_57 : decode cX2_toldOfAll 57 = .ok (.aload_n 0, 1) := dk_42 (dk_at dksX2_toldOfAll_2 5 rfl rfl)
theorem dX2_toldOfAll_58 : decode cX2_toldOfAll 58 = .ok (.getfield 98, 3) := dk_180 0 98 (dk_at dksX2_toldOfAll_2 6 rfl rfl)
theorem dX2_toldOfAll_61 : decode cX2_toldOfAll 61 = .ok (.ireturn, 1) := dk_172 (dk_at dksX2_toldOfAll_2 9 rfl rfl)
theorem dX2_toldOfAll_62 : decode cX2_toldOfAll 62 = .ok (.aload_n 0, 1) := dk_42 (dk_at dksX2_toldOfAll_2 10 rfl rfl)
theorem dX2_toldOfAll_63 : decode cX2_toldOfAll 63 = .ok (.getfield 102, 3) := dk_180 0 102 (dk_at dksX2_toldOfAll_2 11 rfl rfl)
theorem dX2_toldOfAll_66 : decode cX2_toldOfAll 66 = .ok (.ireturn, 1) := dk_172 (dk_at dksX2_toldOfAll_2 14 rfl rfl)
theorem dX2_toldOfAll_67 : decode cX2_toldOfAll 67 = .ok (.aload_n 0, 1) := dk_42 (dk_at dksX2_toldOfAll_2 15 rfl rfl)
theorem dX2_toldOfAll_68 : decode cX2_toldOfAll 68 = .ok (.getfield 183, 3) := dk_180 0 183 (dk_at dksX2_toldOfAll_2 16 rfl rfl)
theorem dX2_toldOfAll_71 : decode cX2_toldOfAll 71 = .ok (.ireturn, 1) := dk_172 (dk_at dksX2_toldOfAll_2 19 rfl rfl)
theorem dX2_toldOfAll_72 : decode cX2_toldOfAll 72 = .ok (.aload_n 0, 1) := dk_42 (dk_at dksX2_toldOfAll_2 20 rfl rfl)
theorem dX2_toldOfAll_73 : decode cX2_toldOfAll 73 = .ok (.getfield 180, 3) := dk_180 0 180 (dk_at dksX2_toldOfAll_2 21 rfl rfl)
theorem dX2_toldOfAll_76 : decode cX2_toldOfAll 76 = .ok (.ireturn, 1) := dk_172 (dk_at dksX2_toldOfAll_3 0 rfl rfl)
theorem dX2_toldOfAll_77 : decode cX2_toldOfAll 77 = .ok (.aload_n 0, 1) := dk_42 (dk_at dksX2_toldOfAll_3 1 rfl rfl)
theorem dX2_toldOfAll_78 : decode cX2_toldOfAll 78 = .ok (.getfield 276, 3) := dk_180 1 20 (dk_at dksX2_toldOfAll_3 2 rfl rfl)
theorem dX2_toldOfAll_81 : decode cX2_toldOfAll 81 = .ok (.ireturn, 1) := dk_172 (dk_at dksX2_toldOfAll_3 5 rfl rfl)
theorem dX2_toldOfAll_82 : decode cX2_toldOfAll 82 = .ok (.aload_n 0, 1) := dk_42 (dk_at dksX2_toldOfAll_3 6 rfl rfl)
theorem dX2_toldOfAll_83 : decode cX2_toldOfAll 83 = .ok (.invokevirtual 157, 3) := dk_182 0 157 (dk_at dksX2_toldOfAll_3 7 rfl rfl)
theorem dX2_toldOfAll_86 : decode cX2_toldOfAll 86 = .ok (.ireturn, 1) := dk_172 (dk_at dksX2_toldOfAll_3 10 rfl rfl)
theorem dX2_toldOfAll_87 : decode cX2_toldOfAll 87 = .ok (.aload_n 0, 1) := dk_42 (dk_at dksX2_toldOfAll_3 11 rfl rfl)
theorem dX2_toldOfAll_88 : decode cX2_toldOfAll 88 = .ok (.invokevirtual 153, 3) := dk_182 0 153 (dk_at dksX2_toldOfAll_3 12 rfl rfl)
theorem dX2_toldOfAll_91 : decode cX2_toldOfAll 91 = .ok (.ireturn, 1) := dk_172 (dk_at dksX2_toldOfAll_3 15 rfl rfl)
theorem dX2_toldOfAll_92 : decode cX2_toldOfAll 92 = .ok (.aload_n 0, 1) := dk_42 (dk_at dksX2_toldOfAll_3 16 rfl rfl)
theorem dX2_toldOfAll_93 : decode cX2_toldOfAll 93 = .ok (.invokevirtual 164, 3) := dk_182 0 164 (dk_at dksX2_toldOfAll_3 17 rfl rfl)
theorem dX2_toldOfAll_96 : decode cX2_toldOfAll 96 = .ok (.ireturn, 1) := dk_172 (dk_at dksX2_toldOfAll_3 20 rfl rfl)
theorem dX2_toldOfAll_97 : decode cX2_toldOfAll 97 = .ok (.bipush (-2), 2) := dk_16 254 (dk_at dksX2_toldOfAll_3 21 rfl rfl)
theorem dX2_toldOfAll_99 : decode cX2_toldOfAll 99 = .ok (.ireturn, 1) := dk_172 (dk_at dksX2_toldOfAll_3 23 rfl rfl)
theorem q51 : (Jvm.Cond.initialized "AbbeyNotesModel") ∈ lw_all := lw_g (lw_at lw_m1 4 rfl) rfl
theorem q453 : (Jvm.Cond.instantiable "AbbeyNotesModel" (34 : Nat)) ∈ lw_all := lw_g (lw_at lw_m2 166 rfl) rfl
theorem q455 : (Jvm.Cond.instanceMethod ({ cls := "AbbeyNotesModel", name := "<init>", desc := "()V" } : Jvm.MethodName)) ∈ lw_all := lw_g (lw_at lw_m2 168 rfl) rfl
theorem q456 : (Jvm.Cond.code ({ cls := "AbbeyNotesModel", name := "<init>", desc := "()V" } : Jvm.MethodName) prog_4_method_1_code (2 : Nat) (Option.none : Option Jvm.ClassFile.FieldType)) ∈ lw_all := lw_g (lw_at lw_m2 169 rfl) rfl
theorem q457 : (Jvm.Cond.methodLink "AbbeyNotesModel" (1 : Nat) ({ cls := "java/lang/Object", name := "<init>", desc := "()V" } : Jvm.MethodName)) ∈ lw_all := lw_g (lw_at lw_m2 170 rfl) rfl
theorem q458 : (Jvm.Cond.fieldLink "AbbeyNotesModel" (7 : Nat) "AbbeyNotesModel" "paper" "[I") ∈ lw_all := lw_g (lw_at lw_m2 171 rfl) rfl
theorem q459 : (Jvm.Cond.fieldLink "AbbeyNotesModel" (13 : Nat) "AbbeyNotesModel" "coin" "[I") ∈ lw_all := lw_g (lw_at lw_m2 172 rfl) rfl
theorem q460 : (Jvm.Cond.fieldLink "AbbeyNotesModel" (16 : Nat) "AbbeyNotesModel" "owes" "[I") ∈ lw_all := lw_g (lw_at lw_m2 173 rfl) rfl
theorem q461 : (Jvm.Cond.fieldLink "AbbeyNotesModel" (19 : Nat) "AbbeyNotesModel" "price" "[I") ∈ lw_all := lw_g (lw_at lw_m2 174 rfl) rfl
theorem q462 : (Jvm.Cond.fieldLink "AbbeyNotesModel" (22 : Nat) "AbbeyNotesModel" "owner" "[I") ∈ lw_all := lw_g (lw_at lw_m2 175 rfl) rfl
theorem q463 : (Jvm.Cond.fieldLink "AbbeyNotesModel" (98 : Nat) "AbbeyNotesModel" "chest" "I") ∈ lw_all := lw_g (lw_at lw_m2 176 rfl) rfl
theorem q464 : (Jvm.Cond.fieldLink "AbbeyNotesModel" (102 : Nat) "AbbeyNotesModel" "forged" "I") ∈ lw_all := lw_g (lw_at lw_m2 177 rfl) rfl
theorem q465 : (Jvm.Cond.fieldLink "AbbeyNotesModel" (183 : Nat) "AbbeyNotesModel" "burnt" "I") ∈ lw_all := lw_g (lw_at lw_m2 178 rfl) rfl
theorem q466 : (Jvm.Cond.fieldLink "AbbeyNotesModel" (180 : Nat) "AbbeyNotesModel" "months" "I") ∈ lw_all := lw_g (lw_at lw_m2 179 rfl) rfl
theorem q467 : (Jvm.Cond.fieldLink "AbbeyNotesModel" (25 : Nat) "AbbeyNotesModel" "sightSet" "[I") ∈ lw_all := lw_g (lw_at lw_m2 180 rfl) rfl
theorem q468 : (Jvm.Cond.fieldLink "AbbeyNotesModel" (28 : Nat) "AbbeyNotesModel" "sightMany" "[I") ∈ lw_all := lw_g (lw_at lw_m2 181 rfl) rfl
theorem q469 : (Jvm.Cond.fieldLink "AbbeyNotesModel" (31 : Nat) "AbbeyNotesModel" "sightHow" "[I") ∈ lw_all := lw_g (lw_at lw_m2 182 rfl) rfl
theorem q470 : (Jvm.Cond.fieldLink "AbbeyNotesModel" (276 : Nat) "AbbeyNotesModel" "sights" "I") ∈ lw_all := lw_g (lw_at lw_m2 183 rfl) rfl
theorem q471 : (Jvm.Cond.fieldLink "AbbeyNotesModel" (34 : Nat) "AbbeyNotesModel" "pad" "[I") ∈ lw_all := lw_g (lw_at lw_m2 184 rfl) rfl
theorem q472 : (Jvm.Cond.fieldLink "AbbeyNotesModel" (109 : Nat) "AbbeyNotesModel" "padMany" "I") ∈ lw_all := lw_g (lw_at lw_m2 185 rfl) rfl
theorem q473 : (Jvm.Cond.fieldLink "AbbeyNotesModel" (37 : Nat) "AbbeyNotesModel" "act" "[I") ∈ lw_all := lw_g (lw_at lw_m2 186 rfl) rfl
theorem q474 : (Jvm.Cond.fieldLink "AbbeyNotesModel" (40 : Nat) "AbbeyNotesModel" "who" "[I") ∈ lw_all := lw_g (lw_at lw_m2 187 rfl) rfl
theorem q475 : (Jvm.Cond.fieldLink "AbbeyNotesModel" (43 : Nat) "AbbeyNotesModel" "much" "[I") ∈ lw_all := lw_g (lw_at lw_m2 188 rfl) rfl
theorem q476 : (Jvm.Cond.fieldLink "AbbeyNotesModel" (112 : Nat) "AbbeyNotesModel" "acts" "I") ∈ lw_all := lw_g (lw_at lw_m2 189 rfl) rfl
theorem q477 : (Jvm.Cond.fieldLink "AbbeyNotesModel" (46 : Nat) "AbbeyNotesModel" "had" "[I") ∈ lw_all := lw_g (lw_at lw_m2 190 rfl) rfl
theorem q478 : (Jvm.Cond.fieldLink "AbbeyNotesModel" (196 : Nat) "AbbeyNotesModel" "badAct" "I") ∈ lw_all := lw_g (lw_at lw_m2 191 rfl) rfl
theorem q479 : (Jvm.Cond.fieldLink "AbbeyNotesModel" (199 : Nat) "AbbeyNotesModel" "badWhy" "I") ∈ lw_all := lw_g (lw_at lw_m2 192 rfl) rfl
theorem q480 : (Jvm.Cond.fieldLink "AbbeyNotesModel" (202 : Nat) "AbbeyNotesModel" "endedMany" "I") ∈ lw_all := lw_g (lw_at lw_m2 193 rfl) rfl
theorem q481 : (Jvm.Cond.fieldLink "AbbeyNotesModel" (49 : Nat) "AbbeyNotesModel" "endRate" "[I") ∈ lw_all := lw_g (lw_at lw_m2 194 rfl) rfl
theorem q482 : (Jvm.Cond.fieldLink "AbbeyNotesModel" (52 : Nat) "AbbeyNotesModel" "net" "[I") ∈ lw_all := lw_g (lw_at lw_m2 195 rfl) rfl
theorem q483 : (Jvm.Cond.fieldLink "AbbeyNotesModel" (55 : Nat) "AbbeyNotesModel" "evenSets" "[I") ∈ lw_all := lw_g (lw_at lw_m2 196 rfl) rfl
theorem q484 : (Jvm.Cond.fieldLink "AbbeyNotesModel" (58 : Nat) "AbbeyNotesModel" "row" "[I") ∈ lw_all := lw_g (lw_at lw_m2 197 rfl) rfl
theorem q485 : (Jvm.Cond.fieldLink "AbbeyNotesModel" (61 : Nat) "AbbeyNotesModel" "brings" "[J") ∈ lw_all := lw_g (lw_at lw_m2 198 rfl) rfl
theorem q486 : (Jvm.Cond.fieldLink "AbbeyNotesModel" (65 : Nat) "AbbeyNotesModel" "bringsThen" "[J") ∈ lw_all := lw_g (lw_at lw_m2 199 rfl) rfl
theorem q487 : (Jvm.Cond.fieldLink "AbbeyNotesModel" (68 : Nat) "AbbeyNotesModel" "choose" "[J") ∈ lw_all := lw_g (lw_at lw_m2 200 rfl) rfl
theorem q488 : (Jvm.Cond.fieldLink "AbbeyNotesModel" (71 : Nat) "AbbeyNotesModel" "kept" "[I") ∈ lw_all := lw_g (lw_at lw_m2 201 rfl) rfl
theorem q489 : (Jvm.Cond.fieldLink "AbbeyNotesModel" (74 : Nat) "AbbeyNotesModel" "isKept" "[Z") ∈ lw_all := lw_g (lw_at lw_m2 202 rfl) rfl
theorem q490 : (Jvm.Cond.fieldLink "AbbeyNotesModel" (305 : Nat) "AbbeyNotesModel" "keptAt" "I") ∈ lw_all := lw_g (lw_at lw_m2 203 rfl) rfl
theorem q491 : (Jvm.Cond.fieldLink "AbbeyNotesModel" (301 : Nat) "AbbeyNotesModel" "isWriting" "Z") ∈ lw_all := lw_g (lw_at lw_m2 204 rfl) rfl
theorem q492 : (Jvm.Cond.laysFinal "AbbeyNotesModel" "AbbeyNotesModel" "paper" "[I") ∈ lw_all := lw_g (lw_at lw_m2 205 rfl) rfl
theorem q493 : (Jvm.Cond.soleField "AbbeyNotesModel" "paper") ∈ lw_all := lw_g (lw_at lw_m2 206 rfl) rfl
theorem q494 : (Jvm.Cond.laysFinal "AbbeyNotesModel" "AbbeyNotesModel" "coin" "[I") ∈ lw_all := lw_g (lw_at lw_m2 207 rfl) rfl
theorem q495 : (Jvm.Cond.soleField "AbbeyNotesModel" "coin") ∈ lw_all := lw_g (lw_at lw_m2 208 rfl) rfl
theorem q496 : (Jvm.Cond.laysFinal "AbbeyNotesModel" "AbbeyNotesModel" "owes" "[I") ∈ lw_all := lw_g (lw_at lw_m2 209 rfl) rfl
theorem q497 : (Jvm.Cond.soleField "AbbeyNotesModel" "owes") ∈ lw_all := lw_g (lw_at lw_m2 210 rfl) rfl
theorem q498 : (Jvm.Cond.laysFinal "AbbeyNotesModel" "AbbeyNotesModel" "price" "[I") ∈ lw_all := lw_g (lw_at lw_m2 211 rfl) rfl
theorem q499 : (Jvm.Cond.soleField "AbbeyNotesModel" "price") ∈ lw_all := lw_g (lw_at lw_m2 212 rfl) rfl
theorem q500 : (Jvm.Cond.laysFinal "AbbeyNotesModel" "AbbeyNotesModel" "owner" "[I") ∈ lw_all := lw_g (lw_at lw_m2 213 rfl) rfl
theorem q501 : (Jvm.Cond.soleField "AbbeyNotesModel" "owner") ∈ lw_all := lw_g (lw_at lw_m2 214 rfl) rfl
theorem q502 : (Jvm.Cond.lays "AbbeyNotesModel" "AbbeyNotesModel" "chest" "I") ∈ lw_all := lw_g (lw_at lw_m2 215 rfl) rfl
theorem q503 : (Jvm.Cond.soleField "AbbeyNotesModel" "chest") ∈ lw_all := lw_g (lw_at lw_m2 216 rfl) rfl
theorem q504 : (Jvm.Cond.lays "AbbeyNotesModel" "AbbeyNotesModel" "forged" "I") ∈ lw_all := lw_g (lw_at lw_m2 217 rfl) rfl
theorem q505 : (Jvm.Cond.soleField "AbbeyNotesModel" "forged") ∈ lw_all := lw_g (lw_at lw_m2 218 rfl) rfl
theorem q506 : (Jvm.Cond.lays "AbbeyNotesModel" "AbbeyNotesModel" "burnt" "I") ∈ lw_all := lw_g (lw_at lw_m2 219 rfl) rfl
theorem q507 : (Jvm.Cond.soleField "AbbeyNotesModel" "burnt") ∈ lw_all := lw_g (lw_at lw_m2 220 rfl) rfl
theorem q508 : (Jvm.Cond.lays "AbbeyNotesModel" "AbbeyNotesModel" "months" "I") ∈ lw_all := lw_g (lw_at lw_m2 221 rfl) rfl
theorem q509 : (Jvm.Cond.soleField "AbbeyNotesModel" "months") ∈ lw_all := lw_g (lw_at lw_m2 222 rfl) rfl
theorem q510 : (Jvm.Cond.laysFinal "AbbeyNotesModel" "AbbeyNotesModel" "sightSet" "[I") ∈ lw_all := lw_g (lw_at lw_m2 223 rfl) rfl
theorem q511 : (Jvm.Cond.soleField "AbbeyNotesModel" "sightSet") ∈ lw_all := lw_g (lw_at lw_m2 224 rfl) rfl
theorem q512 : (Jvm.Cond.laysFinal "AbbeyNotesModel" "AbbeyNotesModel" "sightMany" "[I") ∈ lw_all := lw_g (lw_at lw_m2 225 rfl) rfl
theorem q513 : (Jvm.Cond.soleField "AbbeyNotesModel" "sightMany") ∈ lw_all := lw_g (lw_at lw_m2 226 rfl) rfl
theorem q514 : (Jvm.Cond.laysFinal "AbbeyNotesModel" "AbbeyNotesModel" "sightHow" "[I") ∈ lw_all := lw_g (lw_at lw_m2 227 rfl) rfl
theorem q515 : (Jvm.Cond.soleField "AbbeyNotesModel" "sightHow") ∈ lw_all := lw_g (lw_at lw_m2 228 rfl) rfl
theorem q516 : (Jvm.Cond.lays "AbbeyNotesModel" "AbbeyNotesModel" "sights" "I") ∈ lw_all := lw_g (lw_at lw_m2 229 rfl) rfl
theorem q517 : (Jvm.Cond.soleField "AbbeyNotesModel" "sights") ∈ lw_all := lw_g (lw_at lw_m2 230 rfl) rfl
theorem q518 : (Jvm.Cond.laysFinal "AbbeyNotesModel" "AbbeyNotesModel" "pad" "[I") ∈ lw_all := lw_g (lw_at lw_m2 231 rfl) rfl
theorem q519 : (Jvm.Cond.soleField "AbbeyNotesModel" "pad") ∈ lw_all := lw_g (lw_at lw_m2 232 rfl) rfl
theorem q520 : (Jvm.Cond.lays "AbbeyNotesModel" "AbbeyNotesModel" "padMany" "I") ∈ lw_all := lw_g (lw_at lw_m2 233 rfl) rfl
theorem q521 : (Jvm.Cond.soleField "AbbeyNotesModel" "padMany") ∈ lw_all := lw_g (lw_at lw_m2 234 rfl) rfl
theorem q522 : (Jvm.Cond.laysFinal "AbbeyNotesModel" "AbbeyNotesModel" "act" "[I") ∈ lw_all := lw_g (lw_at lw_m2 235 rfl) rfl
theorem q523 : (Jvm.Cond.soleField "AbbeyNotesModel" "act") ∈ lw_all := lw_g (lw_at lw_m2 236 rfl) rfl
theorem q524 : (Jvm.Cond.laysFinal "AbbeyNotesModel" "AbbeyNotesModel" "who" "[I") ∈ lw_all := lw_g (lw_at lw_m2 237 rfl) rfl
theorem q525 : (Jvm.Cond.soleField "AbbeyNotesModel" "who") ∈ lw_all := lw_g (lw_at lw_m2 238 rfl) rfl
theorem q526 : (Jvm.Cond.laysFinal "AbbeyNotesModel" "AbbeyNotesModel" "much" "[I") ∈ lw_all := lw_g (lw_at lw_m2 239 rfl) rfl
theorem q527 : (Jvm.Cond.soleField "AbbeyNotesModel" "much") ∈ lw_all := lw_g (lw_at lw_m3 0 rfl) rfl
theorem q528 : (Jvm.Cond.lays "AbbeyNotesModel" "AbbeyNotesModel" "acts" "I") ∈ lw_all := lw_g (lw_at lw_m3 1 rfl) rfl
theorem q529 : (Jvm.Cond.soleField "AbbeyNotesModel" "acts") ∈ lw_all := lw_g (lw_at lw_m3 2 rfl) rfl
theorem q530 : (Jvm.Cond.laysFinal "AbbeyNotesModel" "AbbeyNotesModel" "had" "[I") ∈ lw_all := lw_g (lw_at lw_m3 3 rfl) rfl
theorem q531 : (Jvm.Cond.soleField "AbbeyNotesModel" "had") ∈ lw_all := lw_g (lw_at lw_m3 4 rfl) rfl
theorem q532 : (Jvm.Cond.lays "AbbeyNotesModel" "AbbeyNotesModel" "badAct" "I") ∈ lw_all := lw_g (lw_at lw_m3 5 rfl) rfl
theorem q533 : (Jvm.Cond.soleField "AbbeyNotesModel" "badAct") ∈ lw_all := lw_g (lw_at lw_m3 6 rfl) rfl
theorem q534 : (Jvm.Cond.lays "AbbeyNotesModel" "AbbeyNotesModel" "badWhy" "I") ∈ lw_all := lw_g (lw_at lw_m3 7 rfl) rfl
theorem q535 : (Jvm.Cond.soleField "AbbeyNotesModel" "badWhy") ∈ lw_all := lw_g (lw_at lw_m3 8 rfl) rfl
theorem q536 : (Jvm.Cond.lays "AbbeyNotesModel" "AbbeyNotesModel" "endedMany" "I") ∈ lw_all := lw_g (lw_at lw_m3 9 rfl) rfl
theorem q537 : (Jvm.Cond.soleField "AbbeyNotesModel" "endedMany") ∈ lw_all := lw_g (lw_at lw_m3 10 rfl) rfl
theorem q538 : (Jvm.Cond.laysFinal "AbbeyNotesModel" "AbbeyNotesModel" "endRate" "[I") ∈ lw_all := lw_g (lw_at lw_m3 11 rfl) rfl
theorem q539 : (Jvm.Cond.soleField "AbbeyNotesModel" "endRate") ∈ lw_all := lw_g (lw_at lw_m3 12 rfl) rfl
theorem q540 : (Jvm.Cond.laysFinal "AbbeyNotesModel" "AbbeyNotesModel" "net" "[I") ∈ lw_all := lw_g (lw_at lw_m3 13 rfl) rfl
theorem q541 : (Jvm.Cond.soleField "AbbeyNotesModel" "net") ∈ lw_all := lw_g (lw_at lw_m3 14 rfl) rfl
theorem q542 : (Jvm.Cond.laysFinal "AbbeyNotesModel" "AbbeyNotesModel" "evenSets" "[I") ∈ lw_all := lw_g (lw_at lw_m3 15 rfl) rfl
theorem q543 : (Jvm.Cond.soleField "AbbeyNotesModel" "evenSets") ∈ lw_all := lw_g (lw_at lw_m3 16 rfl) rfl
theorem q544 : (Jvm.Cond.laysFinal "AbbeyNotesModel" "AbbeyNotesModel" "row" "[I") ∈ lw_all := lw_g (lw_at lw_m3 17 rfl) rfl
theorem q545 : (Jvm.Cond.soleField "AbbeyNotesModel" "row") ∈ lw_all := lw_g (lw_at lw_m3 18 rfl) rfl
theorem q546 : (Jvm.Cond.laysFinal "AbbeyNotesModel" "AbbeyNotesModel" "brings" "[J") ∈ lw_all := lw_g (lw_at lw_m3 19 rfl) rfl
theorem q547 : (Jvm.Cond.soleField "AbbeyNotesModel" "brings") ∈ lw_all := lw_g (lw_at lw_m3 20 rfl) rfl
theorem q548 : (Jvm.Cond.laysFinal "AbbeyNotesModel" "AbbeyNotesModel" "bringsThen" "[J") ∈ lw_all := lw_g (lw_at lw_m3 21 rfl) rfl
theorem q549 : (Jvm.Cond.soleField "AbbeyNotesModel" "bringsThen") ∈ lw_all := lw_g (lw_at lw_m3 22 rfl) rfl
theorem q550 : (Jvm.Cond.laysFinal "AbbeyNotesModel" "AbbeyNotesModel" "choose" "[J") ∈ lw_all := lw_g (lw_at lw_m3 23 rfl) rfl
theorem q551 : (Jvm.Cond.soleField "AbbeyNotesModel" "choose") ∈ lw_all := lw_g (lw_at lw_m3 24 rfl) rfl
theorem q552 : (Jvm.Cond.laysFinal "AbbeyNotesModel" "AbbeyNotesModel" "kept" "[I") ∈ lw_all := lw_g (lw_at lw_m3 25 rfl) rfl
theorem q553 : (Jvm.Cond.soleField "AbbeyNotesModel" "kept") ∈ lw_all := lw_g (lw_at lw_m3 26 rfl) rfl
theorem q554 : (Jvm.Cond.laysFinal "AbbeyNotesModel" "AbbeyNotesModel" "isKept" "[Z") ∈ lw_all := lw_g (lw_at lw_m3 27 rfl) rfl
theorem q555 : (Jvm.Cond.soleField "AbbeyNotesModel" "isKept") ∈ lw_all := lw_g (lw_at lw_m3 28 rfl) rfl
theorem q556 : (Jvm.Cond.lays "AbbeyNotesModel" "AbbeyNotesModel" "keptAt" "I") ∈ lw_all := lw_g (lw_at lw_m3 29 rfl) rfl
theorem q557 : (Jvm.Cond.soleField "AbbeyNotesModel" "keptAt") ∈ lw_all := lw_g (lw_at lw_m3 30 rfl) rfl
theorem q558 : (Jvm.Cond.lays "AbbeyNotesModel" "AbbeyNotesModel" "isWriting" "Z") ∈ lw_all := lw_g (lw_at lw_m3 31 rfl) rfl
theorem q559 : (Jvm.Cond.soleField "AbbeyNotesModel" "isWriting") ∈ lw_all := lw_g (lw_at lw_m3 32 rfl) rfl
theorem q560 : (Jvm.Cond.superclass "AbbeyNotesModel" "java/lang/Object") ∈ lw_all := lw_g (lw_at lw_m3 33 rfl) rfl
theorem q563 : (Jvm.Cond.instanceMethod ({ cls := "AbbeyNotesModel", name := "one", desc := "(III)I" } : Jvm.MethodName)) ∈ lw_all := lw_g (lw_at lw_m3 36 rfl) rfl
theorem q564 : (Jvm.Cond.selects "AbbeyNotesModel" ({ cls := "AbbeyNotesModel", name := "one", desc := "(III)I" } : Jvm.MethodName) ({ cls := "AbbeyNotesModel", name := "one", desc := "(III)I" } : Jvm.MethodName)) ∈ lw_all := lw_g (lw_at lw_m3 37 rfl) rfl
theorem q565 : (Jvm.Cond.code ({ cls := "AbbeyNotesModel", name := "one", desc := "(III)I" } : Jvm.MethodName) prog_4_method_6_code (5 : Nat) (Option.some Jvm.ClassFile.FieldType.int)) ∈ lw_all := lw_g (lw_at lw_m3 38 rfl) rfl
theorem q566 : (Jvm.Cond.methodLink "AbbeyNotesModel" (84 : Nat) ({ cls := "AbbeyNotesModel", name := "isOne", desc := "(I)Z" } : Jvm.MethodName)) ∈ lw_all := lw_g (lw_at lw_m3 39 rfl) rfl
theorem q567 : (Jvm.Cond.static ({ cls := "AbbeyNotesModel", name := "isOne", desc := "(I)Z" } : Jvm.MethodName)) ∈ lw_all := lw_g (lw_at lw_m3 40 rfl) rfl
theorem q568 : (Jvm.Cond.code ({ cls := "AbbeyNotesModel", name := "isOne", desc := "(I)Z" } : Jvm.MethodName) prog_4_method_5_code (1 : Nat) (Option.some Jvm.ClassFile.FieldType.boolean)) ∈ lw_all := lw_g (lw_at lw_m3 41 rfl) rfl
theorem q569 : (Jvm.Cond.constantLong "AbbeyNotesModel" (78 : Nat) (5 : Int64)) ∈ lw_all := lw_g (lw_at lw_m3 42 rfl) rfl
theorem q570 : (Jvm.Cond.methodLink "AbbeyNotesModel" (80 : Nat) ({ cls := "AbbeyNotesModel", name := "in", desc := "(JJJ)Z" } : Jvm.MethodName)) ∈ lw_all := lw_g (lw_at lw_m3 43 rfl) rfl
theorem q571 : (Jvm.Cond.static ({ cls := "AbbeyNotesModel", name := "in", desc := "(JJJ)Z" } : Jvm.MethodName)) ∈ lw_all := lw_g (lw_at lw_m3 44 rfl) rfl
theorem q572 : (Jvm.Cond.code ({ cls := "AbbeyNotesModel", name := "in", desc := "(JJJ)Z" } : Jvm.MethodName) prog_4_method_3_code (6 : Nat) (Option.some Jvm.ClassFile.FieldType.boolean)) ∈ lw_all := lw_g (lw_at lw_m3 45 rfl) rfl
theorem q573 : (Jvm.Cond.constantLong "AbbeyNotesModel" (88 : Nat) (9999 : Int64)) ∈ lw_all := lw_g (lw_at lw_m3 46 rfl) rfl
theorem q575 : (Jvm.Cond.instanceMethod ({ cls := "AbbeyNotesModel", name := "owe", desc := "(III)I" } : Jvm.MethodName)) ∈ lw_all := lw_g (lw_at lw_m3 48 rfl) rfl
theorem q576 : (Jvm.Cond.selects "AbbeyNotesModel" ({ cls := "AbbeyNotesModel", name := "owe", desc := "(III)I" } : Jvm.MethodName) ({ cls := "AbbeyNotesModel", name := "owe", desc := "(III)I" } : Jvm.MethodName)) ∈ lw_all := lw_g (lw_at lw_m3 49 rfl) rfl
theorem q577 : (Jvm.Cond.code ({ cls := "AbbeyNotesModel", name := "owe", desc := "(III)I" } : Jvm.MethodName) prog_4_method_7_code (5 : Nat) (Option.some Jvm.ClassFile.FieldType.int)) ∈ lw_all := lw_g (lw_at lw_m3 50 rfl) rfl
theorem q578 : (Jvm.Cond.constantLong "AbbeyNotesModel" (90 : Nat) (999 : Int64)) ∈ lw_all := lw_g (lw_at lw_m3 51 rfl) rfl
theorem q580 : (Jvm.Cond.instanceMethod ({ cls := "AbbeyNotesModel", name := "lot", desc := "(III)I" } : Jvm.MethodName)) ∈ lw_all := lw_g (lw_at lw_m3 53 rfl) rfl
theorem q581 : (Jvm.Cond.selects "AbbeyNotesModel" ({ cls := "AbbeyNotesModel", name := "lot", desc := "(III)I" } : Jvm.MethodName) ({ cls := "AbbeyNotesModel", name := "lot", desc := "(III)I" } : Jvm.MethodName)) ∈ lw_all := lw_g (lw_at lw_m3 54 rfl) rfl
theorem q582 : (Jvm.Cond.code ({ cls := "AbbeyNotesModel", name := "lot", desc := "(III)I" } : Jvm.MethodName) prog_4_method_8_code (5 : Nat) (Option.some Jvm.ClassFile.FieldType.int)) ∈ lw_all := lw_g (lw_at lw_m3 55 rfl) rfl
theorem q583 : (Jvm.Cond.constantLong "AbbeyNotesModel" (92 : Nat) (7 : Int64)) ∈ lw_all := lw_g (lw_at lw_m3 56 rfl) rfl
theorem q584 : (Jvm.Cond.constantLong "AbbeyNotesModel" (94 : Nat) (-1 : Int64)) ∈ lw_all := lw_g (lw_at lw_m3 57 rfl) rfl
theorem q586 : (Jvm.Cond.instanceMethod ({ cls := "AbbeyNotesModel", name := "set", desc := "(II)I" } : Jvm.MethodName)) ∈ lw_all := lw_g (lw_at lw_m3 59 rfl) rfl
theorem q587 : (Jvm.Cond.selects "AbbeyNotesModel" ({ cls := "AbbeyNotesModel", name := "set", desc := "(II)I" } : Jvm.MethodName) ({ cls := "AbbeyNotesModel", name := "set", desc := "(II)I" } : Jvm.MethodName)) ∈ lw_all := lw_g (lw_at lw_m3 60 rfl) rfl
theorem q588 : (Jvm.Cond.code ({ cls := "AbbeyNotesModel", name := "set", desc := "(II)I" } : Jvm.MethodName) prog_4_method_9_code (4 : Nat) (Option.some Jvm.ClassFile.FieldType.int)) ∈ lw_all := lw_g (lw_at lw_m3 61 rfl) rfl
theorem q589 : (Jvm.Cond.constantLong "AbbeyNotesModel" (96 : Nat) (99999 : Int64)) ∈ lw_all := lw_g (lw_at lw_m3 62 rfl) rfl
theorem q591 : (Jvm.Cond.instanceMethod ({ cls := "AbbeyNotesModel", name := "say", desc := "(I)I" } : Jvm.MethodName)) ∈ lw_all := lw_g (lw_at lw_m3 64 rfl) rfl
theorem q592 : (Jvm.Cond.selects "AbbeyNotesModel" ({ cls := "AbbeyNotesModel", name := "say", desc := "(I)I" } : Jvm.MethodName) ({ cls := "AbbeyNotesModel", name := "say", desc := "(I)I" } : Jvm.MethodName)) ∈ lw_all := lw_g (lw_at lw_m3 65 rfl) rfl
theorem q593 : (Jvm.Cond.code ({ cls := "AbbeyNotesModel", name := "say", desc := "(I)I" } : Jvm.MethodName) prog_4_method_10_code (2 : Nat) (Option.some Jvm.ClassFile.FieldType.int)) ∈ lw_all := lw_g (lw_at lw_m3 66 rfl) rfl
theorem q594 : (Jvm.Cond.constantLong "AbbeyNotesModel" (105 : Nat) (33 : Int64)) ∈ lw_all := lw_g (lw_at lw_m3 67 rfl) rfl
theorem q595 : (Jvm.Cond.constantLong "AbbeyNotesModel" (107 : Nat) (126 : Int64)) ∈ lw_all := lw_g (lw_at lw_m3 68 rfl) rfl
theorem q597 : (Jvm.Cond.instanceMethod ({ cls := "AbbeyNotesModel", name := "wipe", desc := "()I" } : Jvm.MethodName)) ∈ lw_all := lw_g (lw_at lw_m3 70 rfl) rfl
theorem q598 : (Jvm.Cond.selects "AbbeyNotesModel" ({ cls := "AbbeyNotesModel", name := "wipe", desc := "()I" } : Jvm.MethodName) ({ cls := "AbbeyNotesModel", name := "wipe", desc := "()I" } : Jvm.MethodName)) ∈ lw_all := lw_g (lw_at lw_m3 71 rfl) rfl
theorem q599 : (Jvm.Cond.code ({ cls := "AbbeyNotesModel", name := "wipe", desc := "()I" } : Jvm.MethodName) prog_4_method_11_code (2 : Nat) (Option.some Jvm.ClassFile.FieldType.int)) ∈ lw_all := lw_g (lw_at lw_m3 72 rfl) rfl
theorem q601 : (Jvm.Cond.instanceMethod ({ cls := "AbbeyNotesModel", name := "fault", desc := "()I" } : Jvm.MethodName)) ∈ lw_all := lw_g (lw_at lw_m3 74 rfl) rfl
theorem q602 : (Jvm.Cond.selects "AbbeyNotesModel" ({ cls := "AbbeyNotesModel", name := "fault", desc := "()I" } : Jvm.MethodName) ({ cls := "AbbeyNotesModel", name := "fault", desc := "()I" } : Jvm.MethodName)) ∈ lw_all := lw_g (lw_at lw_m3 75 rfl) rfl
theorem q603 : (Jvm.Cond.code ({ cls := "AbbeyNotesModel", name := "fault", desc := "()I" } : Jvm.MethodName) prog_4_method_19_code (3 : Nat) (Option.some Jvm.ClassFile.FieldType.int)) ∈ lw_all := lw_g (lw_at lw_m3 76 rfl) rfl
theorem q604 : (Jvm.Cond.methodLink "AbbeyNotesModel" (148 : Nat) ({ cls := "AbbeyNotesModel", name := "readOn", desc := "(II)I" } : Jvm.MethodName)) ∈ lw_all := lw_g (lw_at lw_m3 77 rfl) rfl
theorem q605 : (Jvm.Cond.privateMethod ({ cls := "AbbeyNotesModel", name := "readOn", desc := "(II)I" } : Jvm.MethodName)) ∈ lw_tbl := lw_at lw_m3 78 rfl
theorem q606 : (Jvm.Cond.instanceMethod ({ cls := "AbbeyNotesModel", name := "readOn", desc := "(II)I" } : Jvm.MethodName)) ∈ lw_all := lw_g (lw_at lw_m3 79 rfl) rfl
theorem q607 : (Jvm.Cond.code ({ cls := "AbbeyNotesModel", name := "readOn", desc := "(II)I" } : Jvm.MethodName) prog_4_method_18_code (3 : Nat) (Option.some Jvm.ClassFile.FieldType.int)) ∈ lw_all := lw_g (lw_at lw_m3 80 rfl) rfl
theorem q608 : (Jvm.Cond.methodLink "AbbeyNotesModel" (130 : Nat) ({ cls := "AbbeyNotesModel", name := "begin", desc := "(I)I" } : Jvm.MethodName)) ∈ lw_all := lw_g (lw_at lw_m3 81 rfl) rfl
theorem q609 : (Jvm.Cond.privateMethod ({ cls := "AbbeyNotesModel", name := "begin", desc := "(I)I" } : Jvm.MethodName)) ∈ lw_tbl := lw_at lw_m3 82 rfl
theorem q610 : (Jvm.Cond.instanceMethod ({ cls := "AbbeyNotesModel", name := "begin", desc := "(I)I" } : Jvm.MethodName)) ∈ lw_all := lw_g (lw_at lw_m3 83 rfl) rfl
theorem q611 : (Jvm.Cond.code ({ cls := "AbbeyNotesModel", name := "begin", desc := "(I)I" } : Jvm.MethodName) prog_4_method_14_code (2 : Nat) (Option.some Jvm.ClassFile.FieldType.int)) ∈ lw_all := lw_g (lw_at lw_m3 84 rfl) rfl
theorem q612 : (Jvm.Cond.methodLink "AbbeyNotesModel" (119 : Nat) ({ cls := "AbbeyNotesModel", name := "isLetter", desc := "(I)Z" } : Jvm.MethodName)) ∈ lw_all := lw_g (lw_at lw_m3 85 rfl) rfl
theorem q613 : (Jvm.Cond.static ({ cls := "AbbeyNotesModel", name := "isLetter", desc := "(I)Z" } : Jvm.MethodName)) ∈ lw_all := lw_g (lw_at lw_m3 86 rfl) rfl
theorem q614 : (Jvm.Cond.code ({ cls := "AbbeyNotesModel", name := "isLetter", desc := "(I)Z" } : Jvm.MethodName) prog_4_method_13_code (1 : Nat) (Option.some Jvm.ClassFile.FieldType.boolean)) ∈ lw_all := lw_g (lw_at lw_m3 87 rfl) rfl
theorem q615 : (Jvm.Cond.constantLong "AbbeyNotesModel" (115 : Nat) (65 : Int64)) ∈ lw_all := lw_g (lw_at lw_m3 88 rfl) rfl
theorem q616 : (Jvm.Cond.constantLong "AbbeyNotesModel" (117 : Nat) (70 : Int64)) ∈ lw_all := lw_g (lw_at lw_m3 89 rfl) rfl
theorem q617 : (Jvm.Cond.methodLink "AbbeyNotesModel" (122 : Nat) ({ cls := "AbbeyNotesModel", name := "close", desc := "(II)I" } : Jvm.MethodName)) ∈ lw_all := lw_g (lw_at lw_m3 90 rfl) rfl
theorem q618 : (Jvm.Cond.privateMethod ({ cls := "AbbeyNotesModel", name := "close", desc := "(II)I" } : Jvm.MethodName)) ∈ lw_tbl := lw_at lw_m3 91 rfl
theorem q619 : (Jvm.Cond.instanceMethod ({ cls := "AbbeyNotesModel", name := "close", desc := "(II)I" } : Jvm.MethodName)) ∈ lw_all := lw_g (lw_at lw_m3 92 rfl) rfl
theorem q620 : (Jvm.Cond.code ({ cls := "AbbeyNotesModel", name := "close", desc := "(II)I" } : Jvm.MethodName) prog_4_method_12_code (3 : Nat) (Option.some Jvm.ClassFile.FieldType.int)) ∈ lw_all := lw_g (lw_at lw_m3 93 rfl) rfl
theorem q621 : (Jvm.Cond.methodLink "AbbeyNotesModel" (134 : Nat) ({ cls := "AbbeyNotesModel", name := "deed", desc := "(I)I" } : Jvm.MethodName)) ∈ lw_all := lw_g (lw_at lw_m3 94 rfl) rfl
theorem q622 : (Jvm.Cond.static ({ cls := "AbbeyNotesModel", name := "deed", desc := "(I)I" } : Jvm.MethodName)) ∈ lw_all := lw_g (lw_at lw_m3 95 rfl) rfl
theorem q623 : (Jvm.Cond.code ({ cls := "AbbeyNotesModel", name := "deed", desc := "(I)I" } : Jvm.MethodName) prog_4_method_15_code (1 : Nat) (Option.some Jvm.ClassFile.FieldType.int)) ∈ lw_all := lw_g (lw_at lw_m3 96 rfl) rfl
theorem q624 : (Jvm.Cond.methodLink "AbbeyNotesModel" (137 : Nat) ({ cls := "AbbeyNotesModel", name := "number", desc := "(III)I" } : Jvm.MethodName)) ∈ lw_all := lw_g (lw_at lw_m3 97 rfl) rfl
theorem q625 : (Jvm.Cond.privateMethod ({ cls := "AbbeyNotesModel", name := "number", desc := "(III)I" } : Jvm.MethodName)) ∈ lw_tbl := lw_at lw_m3 98 rfl
theorem q626 : (Jvm.Cond.instanceMethod ({ cls := "AbbeyNotesModel", name := "number", desc := "(III)I" } : Jvm.MethodName)) ∈ lw_all := lw_g (lw_at lw_m3 99 rfl) rfl
theorem q627 : (Jvm.Cond.code ({ cls := "AbbeyNotesModel", name := "number", desc := "(III)I" } : Jvm.MethodName) prog_4_method_17_code (4 : Nat) (Option.some Jvm.ClassFile.FieldType.int)) ∈ lw_all := lw_g (lw_at lw_m3 100 rfl) rfl
theorem q628 : (Jvm.Cond.constantLong "AbbeyNotesModel" (126 : Nat) (49 : Int64)) ∈ lw_all := lw_g (lw_at lw_m3 101 rfl) rfl
theorem q629 : (Jvm.Cond.constantLong "AbbeyNotesModel" (128 : Nat) (57 : Int64)) ∈ lw_all := lw_g (lw_at lw_m3 102 rfl) rfl
theorem q630 : (Jvm.Cond.methodLink "AbbeyNotesModel" (141 : Nat) ({ cls := "AbbeyNotesModel", name := "forWhom", desc := "(I)I" } : Jvm.MethodName)) ∈ lw_all := lw_g (lw_at lw_m3 103 rfl) rfl
theorem q631 : (Jvm.Cond.privateMethod ({ cls := "AbbeyNotesModel", name := "forWhom", desc := "(I)I" } : Jvm.MethodName)) ∈ lw_tbl := lw_at lw_m3 104 rfl
theorem q632 : (Jvm.Cond.instanceMethod ({ cls := "AbbeyNotesModel", name := "forWhom", desc := "(I)I" } : Jvm.MethodName)) ∈ lw_all := lw_g (lw_at lw_m3 105 rfl) rfl
theorem q633 : (Jvm.Cond.code ({ cls := "AbbeyNotesModel", name := "forWhom", desc := "(I)I" } : Jvm.MethodName) prog_4_method_16_code (2 : Nat) (Option.some Jvm.ClassFile.FieldType.int)) ∈ lw_all := lw_g (lw_at lw_m3 106 rfl) rfl
theorem q634 : (Jvm.Cond.constantLong "AbbeyNotesModel" (144 : Nat) (48 : Int64)) ∈ lw_all := lw_g (lw_at lw_m3 107 rfl) rfl
theorem q635 : (Jvm.Cond.constantLong "AbbeyNotesModel" (146 : Nat) (55 : Int64)) ∈ lw_all := lw_g (lw_at lw_m3 108 rfl) rfl
theorem q637 : (Jvm.Cond.instanceMethod ({ cls := "AbbeyNotesModel", name := "judge", desc := "(I)I" } : Jvm.MethodName)) ∈ lw_all := lw_g (lw_at lw_m3 110 rfl) rfl
theorem q638 : (Jvm.Cond.selects "AbbeyNotesModel" ({ cls := "AbbeyNotesModel", name := "judge", desc := "(I)I" } : Jvm.MethodName) ({ cls := "AbbeyNotesModel", name := "judge", desc := "(I)I" } : Jvm.MethodName)) ∈ lw_all := lw_g (lw_at lw_m3 111 rfl) rfl
theorem q639 : (Jvm.Cond.code ({ cls := "AbbeyNotesModel", name := "judge", desc := "(I)I" } : Jvm.MethodName) prog_4_method_37_code (3 : Nat) (Option.some Jvm.ClassFile.FieldType.int)) ∈ lw_all := lw_g (lw_at lw_m3 112 rfl) rfl
theorem q640 : (Jvm.Cond.constantLong "AbbeyNotesModel" (221 : Nat) (2 : Int64)) ∈ lw_all := lw_g (lw_at lw_m3 113 rfl) rfl
theorem q641 : (Jvm.Cond.methodLink "AbbeyNotesModel" (223 : Nat) ({ cls := "AbbeyNotesModel", name := "refusal", desc := "()I" } : Jvm.MethodName)) ∈ lw_all := lw_g (lw_at lw_m3 114 rfl) rfl
theorem q642 : (Jvm.Cond.privateMethod ({ cls := "AbbeyNotesModel", name := "refusal", desc := "()I" } : Jvm.MethodName)) ∈ lw_tbl := lw_at lw_m3 115 rfl
theorem q643 : (Jvm.Cond.instanceMethod ({ cls := "AbbeyNotesModel", name := "refusal", desc := "()I" } : Jvm.MethodName)) ∈ lw_all := lw_g (lw_at lw_m3 116 rfl) rfl
theorem q644 : (Jvm.Cond.code ({ cls := "AbbeyNotesModel", name := "refusal", desc := "()I" } : Jvm.MethodName) prog_4_method_36_code (1 : Nat) (Option.some Jvm.ClassFile.FieldType.int)) ∈ lw_all := lw_g (lw_at lw_m3 117 rfl) rfl
theorem q645 : (Jvm.Cond.methodLink "AbbeyNotesModel" (212 : Nat) ({ cls := "AbbeyNotesModel", name := "keepNow", desc := "()V" } : Jvm.MethodName)) ∈ lw_all := lw_g (lw_at lw_m3 118 rfl) rfl
theorem q646 : (Jvm.Cond.privateMethod ({ cls := "AbbeyNotesModel", name := "keepNow", desc := "()V" } : Jvm.MethodName)) ∈ lw_tbl := lw_at lw_m3 119 rfl
theorem q647 : (Jvm.Cond.instanceMethod ({ cls := "AbbeyNotesModel", name := "keepNow", desc := "()V" } : Jvm.MethodName)) ∈ lw_all := lw_g (lw_at lw_m3 120 rfl) rfl
theorem q648 : (Jvm.Cond.code ({ cls := "AbbeyNotesModel", name := "keepNow", desc := "()V" } : Jvm.MethodName) prog_4_method_33_code (2 : Nat) (Option.none : Option Jvm.ClassFile.FieldType)) ∈ lw_all := lw_g (lw_at lw_m3 121 rfl) rfl
theorem q649 : (Jvm.Cond.methodLink "AbbeyNotesModel" (215 : Nat) ({ cls := "AbbeyNotesModel", name := "fault", desc := "()I" } : Jvm.MethodName)) ∈ lw_all := lw_g (lw_at lw_m3 122 rfl) rfl
theorem q650 : (Jvm.Cond.methodLink "AbbeyNotesModel" (218 : Nat) ({ cls := "AbbeyNotesModel", name := "goMonths", desc := "()V" } : Jvm.MethodName)) ∈ lw_all := lw_g (lw_at lw_m3 123 rfl) rfl
theorem q651 : (Jvm.Cond.privateMethod ({ cls := "AbbeyNotesModel", name := "goMonths", desc := "()V" } : Jvm.MethodName)) ∈ lw_tbl := lw_at lw_m3 124 rfl
theorem q652 : (Jvm.Cond.instanceMethod ({ cls := "AbbeyNotesModel", name := "goMonths", desc := "()V" } : Jvm.MethodName)) ∈ lw_all := lw_g (lw_at lw_m3 125 rfl) rfl
theorem q653 : (Jvm.Cond.code ({ cls := "AbbeyNotesModel", name := "goMonths", desc := "()V" } : Jvm.MethodName) prog_4_method_35_code (3 : Nat) (Option.none : Option Jvm.ClassFile.FieldType)) ∈ lw_all := lw_g (lw_at lw_m3 126 rfl) rfl
theorem q654 : (Jvm.Cond.methodLink "AbbeyNotesModel" (205 : Nat) ({ cls := "AbbeyNotesModel", name := "whyNot", desc := "(III)I" } : Jvm.MethodName)) ∈ lw_all := lw_g (lw_at lw_m3 127 rfl) rfl
theorem q655 : (Jvm.Cond.privateMethod ({ cls := "AbbeyNotesModel", name := "whyNot", desc := "(III)I" } : Jvm.MethodName)) ∈ lw_tbl := lw_at lw_m3 128 rfl
theorem q656 : (Jvm.Cond.instanceMethod ({ cls := "AbbeyNotesModel", name := "whyNot", desc := "(III)I" } : Jvm.MethodName)) ∈ lw_all := lw_g (lw_at lw_m3 129 rfl) rfl
theorem q657 : (Jvm.Cond.code ({ cls := "AbbeyNotesModel", name := "whyNot", desc := "(III)I" } : Jvm.MethodName) prog_4_method_28_code (4 : Nat) (Option.some Jvm.ClassFile.FieldType.int)) ∈ lw_all := lw_g (lw_at lw_m3 130 rfl) rfl
theorem q658 : (Jvm.Cond.constant "AbbeyNotesModel" (170 : Nat) (99999 : Int32)) ∈ lw_all := lw_g (lw_at lw_m3 131 rfl) rfl
theorem q659 : (Jvm.Cond.methodLink "AbbeyNotesModel" (174 : Nat) ({ cls := "AbbeyNotesModel", name := "whyNotChange", desc := "(II)I" } : Jvm.MethodName)) ∈ lw_all := lw_g (lw_at lw_m3 132 rfl) rfl
theorem q660 : (Jvm.Cond.privateMethod ({ cls := "AbbeyNotesModel", name := "whyNotChange", desc := "(II)I" } : Jvm.MethodName)) ∈ lw_tbl := lw_at lw_m3 133 rfl
theorem q661 : (Jvm.Cond.instanceMethod ({ cls := "AbbeyNotesModel", name := "whyNotChange", desc := "(II)I" } : Jvm.MethodName)) ∈ lw_all := lw_g (lw_at lw_m3 134 rfl) rfl
theorem q662 : (Jvm.Cond.code ({ cls := "AbbeyNotesModel", name := "whyNotChange", desc := "(II)I" } : Jvm.MethodName) prog_4_method_26_code (3 : Nat) (Option.some Jvm.ClassFile.FieldType.int)) ∈ lw_all := lw_g (lw_at lw_m3 135 rfl) rfl
theorem q663 : (Jvm.Cond.methodLink "AbbeyNotesModel" (167 : Nat) ({ cls := "AbbeyNotesModel", name := "worth", desc := "(I)I" } : Jvm.MethodName)) ∈ lw_all := lw_g (lw_at lw_m3 136 rfl) rfl
theorem q664 : (Jvm.Cond.privateMethod ({ cls := "AbbeyNotesModel", name := "worth", desc := "(I)I" } : Jvm.MethodName)) ∈ lw_tbl := lw_at lw_m3 137 rfl
theorem q665 : (Jvm.Cond.instanceMethod ({ cls := "AbbeyNotesModel", name := "worth", desc := "(I)I" } : Jvm.MethodName)) ∈ lw_all := lw_g (lw_at lw_m3 138 rfl) rfl
theorem q666 : (Jvm.Cond.code ({ cls := "AbbeyNotesModel", name := "worth", desc := "(I)I" } : Jvm.MethodName) prog_4_method_24_code (2 : Nat) (Option.some Jvm.ClassFile.FieldType.int)) ∈ lw_all := lw_g (lw_at lw_m3 139 rfl) rfl
theorem q667 : (Jvm.Cond.methodLink "AbbeyNotesModel" (164 : Nat) ({ cls := "AbbeyNotesModel", name := "rate", desc := "()I" } : Jvm.MethodName)) ∈ lw_all := lw_g (lw_at lw_m3 140 rfl) rfl
theorem q668 : (Jvm.Cond.privateMethod ({ cls := "AbbeyNotesModel", name := "rate", desc := "()I" } : Jvm.MethodName)) ∈ lw_tbl := lw_at lw_m3 141 rfl
theorem q669 : (Jvm.Cond.instanceMethod ({ cls := "AbbeyNotesModel", name := "rate", desc := "()I" } : Jvm.MethodName)) ∈ lw_all := lw_g (lw_at lw_m3 142 rfl) rfl
theorem q670 : (Jvm.Cond.code ({ cls := "AbbeyNotesModel", name := "rate", desc := "()I" } : Jvm.MethodName) prog_4_method_23_code (1 : Nat) (Option.some Jvm.ClassFile.FieldType.int)) ∈ lw_all := lw_g (lw_at lw_m3 143 rfl) rfl
theorem q671 : (Jvm.Cond.methodLink "AbbeyNotesModel" (153 : Nat) ({ cls := "AbbeyNotesModel", name := "land", desc := "()I" } : Jvm.MethodName)) ∈ lw_all := lw_g (lw_at lw_m3 144 rfl) rfl
theorem q672 : (Jvm.Cond.privateMethod ({ cls := "AbbeyNotesModel", name := "land", desc := "()I" } : Jvm.MethodName)) ∈ lw_tbl := lw_at lw_m3 145 rfl
theorem q673 : (Jvm.Cond.instanceMethod ({ cls := "AbbeyNotesModel", name := "land", desc := "()I" } : Jvm.MethodName)) ∈ lw_all := lw_g (lw_at lw_m3 146 rfl) rfl
theorem q674 : (Jvm.Cond.code ({ cls := "AbbeyNotesModel", name := "land", desc := "()I" } : Jvm.MethodName) prog_4_method_21_code (3 : Nat) (Option.some Jvm.ClassFile.FieldType.int)) ∈ lw_all := lw_g (lw_at lw_m3 147 rfl) rfl
theorem q675 : (Jvm.Cond.methodLink "AbbeyNotesModel" (157 : Nat) ({ cls := "AbbeyNotesModel", name := "notes", desc := "()I" } : Jvm.MethodName)) ∈ lw_all := lw_g (lw_at lw_m3 148 rfl) rfl
theorem q676 : (Jvm.Cond.privateMethod ({ cls := "AbbeyNotesModel", name := "notes", desc := "()I" } : Jvm.MethodName)) ∈ lw_tbl := lw_at lw_m3 149 rfl
theorem q677 : (Jvm.Cond.instanceMethod ({ cls := "AbbeyNotesModel", name := "notes", desc := "()I" } : Jvm.MethodName)) ∈ lw_all := lw_g (lw_at lw_m3 150 rfl) rfl
theorem q678 : (Jvm.Cond.code ({ cls := "AbbeyNotesModel", name := "notes", desc := "()I" } : Jvm.MethodName) prog_4_method_20_code (3 : Nat) (Option.some Jvm.ClassFile.FieldType.int)) ∈ lw_all := lw_g (lw_at lw_m3 151 rfl) rfl
theorem q679 : (Jvm.Cond.methodLink "AbbeyNotesModel" (160 : Nat) ({ cls := "AbbeyNotesModel", name := "rateOf", desc := "(IJ)I" } : Jvm.MethodName)) ∈ lw_all := lw_g (lw_at lw_m3 152 rfl) rfl
theorem q680 : (Jvm.Cond.static ({ cls := "AbbeyNotesModel", name := "rateOf", desc := "(IJ)I" } : Jvm.MethodName)) ∈ lw_all := lw_g (lw_at lw_m3 153 rfl) rfl
theorem q681 : (Jvm.Cond.code ({ cls := "AbbeyNotesModel", name := "rateOf", desc := "(IJ)I" } : Jvm.MethodName) prog_4_method_22_code (5 : Nat) (Option.some Jvm.ClassFile.FieldType.int)) ∈ lw_all := lw_g (lw_at lw_m3 154 rfl) rfl
theorem q682 : (Jvm.Cond.constantLong "AbbeyNotesModel" (151 : Nat) (100 : Int64)) ∈ lw_all := lw_g (lw_at lw_m3 155 rfl) rfl
theorem q683 : (Jvm.Cond.methodLink "AbbeyNotesModel" (177 : Nat) ({ cls := "AbbeyNotesModel", name := "whyNotPay", desc := "(II)I" } : Jvm.MethodName)) ∈ lw_all := lw_g (lw_at lw_m3 156 rfl) rfl
theorem q684 : (Jvm.Cond.privateMethod ({ cls := "AbbeyNotesModel", name := "whyNotPay", desc := "(II)I" } : Jvm.MethodName)) ∈ lw_tbl := lw_at lw_m3 157 rfl
theorem q685 : (Jvm.Cond.instanceMethod ({ cls := "AbbeyNotesModel", name := "whyNotPay", desc := "(II)I" } : Jvm.MethodName)) ∈ lw_all := lw_g (lw_at lw_m3 158 rfl) rfl
theorem q686 : (Jvm.Cond.code ({ cls := "AbbeyNotesModel", name := "whyNotPay", desc := "(II)I" } : Jvm.MethodName) prog_4_method_27_code (4 : Nat) (Option.some Jvm.ClassFile.FieldType.int)) ∈ lw_all := lw_g (lw_at lw_m3 159 rfl) rfl
theorem q687 : (Jvm.Cond.methodLink "AbbeyNotesModel" (171 : Nat) ({ cls := "AbbeyNotesModel", name := "payment", desc := "(II)I" } : Jvm.MethodName)) ∈ lw_all := lw_g (lw_at lw_m3 160 rfl) rfl
theorem q688 : (Jvm.Cond.privateMethod ({ cls := "AbbeyNotesModel", name := "payment", desc := "(II)I" } : Jvm.MethodName)) ∈ lw_tbl := lw_at lw_m3 161 rfl
theorem q689 : (Jvm.Cond.instanceMethod ({ cls := "AbbeyNotesModel", name := "payment", desc := "(II)I" } : Jvm.MethodName)) ∈ lw_all := lw_g (lw_at lw_m3 162 rfl) rfl
theorem q690 : (Jvm.Cond.code ({ cls := "AbbeyNotesModel", name := "payment", desc := "(II)I" } : Jvm.MethodName) prog_4_method_25_code (4 : Nat) (Option.some Jvm.ClassFile.FieldType.int)) ∈ lw_all := lw_g (lw_at lw_m3 163 rfl) rfl
theorem q691 : (Jvm.Cond.methodLink "AbbeyNotesModel" (208 : Nat) ({ cls := "AbbeyNotesModel", name := "happen", desc := "(III)V" } : Jvm.MethodName)) ∈ lw_all := lw_g (lw_at lw_m3 164 rfl) rfl
theorem q692 : (Jvm.Cond.privateMethod ({ cls := "AbbeyNotesModel", name := "happen", desc := "(III)V" } : Jvm.MethodName)) ∈ lw_tbl := lw_at lw_m3 165 rfl
theorem q693 : (Jvm.Cond.instanceMethod ({ cls := "AbbeyNotesModel", name := "happen", desc := "(III)V" } : Jvm.MethodName)) ∈ lw_all := lw_g (lw_at lw_m3 166 rfl) rfl
theorem q694 : (Jvm.Cond.code ({ cls := "AbbeyNotesModel", name := "happen", desc := "(III)V" } : Jvm.MethodName) prog_4_method_32_code (4 : Nat) (Option.none : Option Jvm.ClassFile.FieldType)) ∈ lw_all := lw_g (lw_at lw_m3 167 rfl) rfl
theorem q695 : (Jvm.Cond.methodLink "AbbeyNotesModel" (186 : Nat) ({ cls := "AbbeyNotesModel", name := "buy", desc := "(II)V" } : Jvm.MethodName)) ∈ lw_all := lw_g (lw_at lw_m3 168 rfl) rfl
theorem q696 : (Jvm.Cond.privateMethod ({ cls := "AbbeyNotesModel", name := "buy", desc := "(II)V" } : Jvm.MethodName)) ∈ lw_tbl := lw_at lw_m3 169 rfl
theorem q697 : (Jvm.Cond.instanceMethod ({ cls := "AbbeyNotesModel", name := "buy", desc := "(II)V" } : Jvm.MethodName)) ∈ lw_all := lw_g (lw_at lw_m3 170 rfl) rfl
theorem q698 : (Jvm.Cond.code ({ cls := "AbbeyNotesModel", name := "buy", desc := "(II)V" } : Jvm.MethodName) prog_4_method_31_code (3 : Nat) (Option.none : Option Jvm.ClassFile.FieldType)) ∈ lw_all := lw_g (lw_at lw_m3 171 rfl) rfl
theorem q699 : (Jvm.Cond.methodLink "AbbeyNotesModel" (190 : Nat) ({ cls := "AbbeyNotesModel", name := "swap", desc := "(II)V" } : Jvm.MethodName)) ∈ lw_all := lw_g (lw_at lw_m3 172 rfl) rfl
theorem q700 : (Jvm.Cond.privateMethod ({ cls := "AbbeyNotesModel", name := "swap", desc := "(II)V" } : Jvm.MethodName)) ∈ lw_tbl := lw_at lw_m3 173 rfl
theorem q701 : (Jvm.Cond.instanceMethod ({ cls := "AbbeyNotesModel", name := "swap", desc := "(II)V" } : Jvm.MethodName)) ∈ lw_all := lw_g (lw_at lw_m3 174 rfl) rfl
theorem q702 : (Jvm.Cond.code ({ cls := "AbbeyNotesModel", name := "swap", desc := "(II)V" } : Jvm.MethodName) prog_4_method_29_code (3 : Nat) (Option.none : Option Jvm.ClassFile.FieldType)) ∈ lw_all := lw_g (lw_at lw_m3 175 rfl) rfl
theorem q703 : (Jvm.Cond.methodLink "AbbeyNotesModel" (193 : Nat) ({ cls := "AbbeyNotesModel", name := "pay", desc := "(II)V" } : Jvm.MethodName)) ∈ lw_all := lw_g (lw_at lw_m3 176 rfl) rfl
theorem q704 : (Jvm.Cond.privateMethod ({ cls := "AbbeyNotesModel", name := "pay", desc := "(II)V" } : Jvm.MethodName)) ∈ lw_tbl := lw_at lw_m3 177 rfl
theorem q705 : (Jvm.Cond.instanceMethod ({ cls := "AbbeyNotesModel", name := "pay", desc := "(II)V" } : Jvm.MethodName)) ∈ lw_all := lw_g (lw_at lw_m3 178 rfl) rfl
theorem q706 : (Jvm.Cond.code ({ cls := "AbbeyNotesModel", name := "pay", desc := "(II)V" } : Jvm.MethodName) prog_4_method_30_code (4 : Nat) (Option.none : Option Jvm.ClassFile.FieldType)) ∈ lw_all := lw_g (lw_at lw_m3 179 rfl) rfl
theorem q707 : (Jvm.Cond.methodLink "AbbeyNotesModel" (226 : Nat) ({ cls := "AbbeyNotesModel", name := "back", desc := "(I)I" } : Jvm.MethodName)) ∈ lw_all := lw_g (lw_at lw_m3 180 rfl) rfl
theorem q708 : (Jvm.Cond.privateMethod ({ cls := "AbbeyNotesModel", name := "back", desc := "(I)I" } : Jvm.MethodName)) ∈ lw_tbl := lw_at lw_m3 181 rfl
theorem q709 : (Jvm.Cond.instanceMethod ({ cls := "AbbeyNotesModel", name := "back", desc := "(I)I" } : Jvm.MethodName)) ∈ lw_all := lw_g (lw_at lw_m3 182 rfl) rfl
theorem q710 : (Jvm.Cond.code ({ cls := "AbbeyNotesModel", name := "back", desc := "(I)I" } : Jvm.MethodName) prog_4_method_34_code (3 : Nat) (Option.some Jvm.ClassFile.FieldType.int)) ∈ lw_all := lw_g (lw_at lw_m3 183 rfl) rfl
theorem q712 : (Jvm.Cond.instanceMethod ({ cls := "AbbeyNotesModel", name := "behind", desc := "(II)I" } : Jvm.MethodName)) ∈ lw_all := lw_g (lw_at lw_m3 185 rfl) rfl
theorem q713 : (Jvm.Cond.selects "AbbeyNotesModel" ({ cls := "AbbeyNotesModel", name := "behind", desc := "(II)I" } : Jvm.MethodName) ({ cls := "AbbeyNotesModel", name := "behind", desc := "(II)I" } : Jvm.MethodName)) ∈ lw_all := lw_g (lw_at lw_m3 186 rfl) rfl
theorem q714 : (Jvm.Cond.code ({ cls := "AbbeyNotesModel", name := "behind", desc := "(II)I" } : Jvm.MethodName) prog_4_method_41_code (4 : Nat) (Option.some Jvm.ClassFile.FieldType.int)) ∈ lw_all := lw_g (lw_at lw_m3 187 rfl) rfl
theorem q715 : (Jvm.Cond.constantLong "AbbeyNotesModel" (235 : Nat) (3 : Int64)) ∈ lw_all := lw_g (lw_at lw_m3 188 rfl) rfl
theorem q716 : (Jvm.Cond.methodLink "AbbeyNotesModel" (237 : Nat) ({ cls := "AbbeyNotesModel", name := "ofOne", desc := "(II)I" } : Jvm.MethodName)) ∈ lw_all := lw_g (lw_at lw_m3 189 rfl) rfl
theorem q717 : (Jvm.Cond.privateMethod ({ cls := "AbbeyNotesModel", name := "ofOne", desc := "(II)I" } : Jvm.MethodName)) ∈ lw_tbl := lw_at lw_m3 190 rfl
theorem q718 : (Jvm.Cond.instanceMethod ({ cls := "AbbeyNotesModel", name := "ofOne", desc := "(II)I" } : Jvm.MethodName)) ∈ lw_all := lw_g (lw_at lw_m3 191 rfl) rfl
theorem q719 : (Jvm.Cond.code ({ cls := "AbbeyNotesModel", name := "ofOne", desc := "(II)I" } : Jvm.MethodName) prog_4_method_40_code (3 : Nat) (Option.some Jvm.ClassFile.FieldType.int)) ∈ lw_all := lw_g (lw_at lw_m3 192 rfl) rfl
theorem q720 : (Jvm.Cond.methodLink "AbbeyNotesModel" (229 : Nat) ({ cls := "AbbeyNotesModel", name := "lotsOf", desc := "(I)I" } : Jvm.MethodName)) ∈ lw_all := lw_g (lw_at lw_m3 193 rfl) rfl
theorem q721 : (Jvm.Cond.privateMethod ({ cls := "AbbeyNotesModel", name := "lotsOf", desc := "(I)I" } : Jvm.MethodName)) ∈ lw_tbl := lw_at lw_m3 194 rfl
theorem q722 : (Jvm.Cond.instanceMethod ({ cls := "AbbeyNotesModel", name := "lotsOf", desc := "(I)I" } : Jvm.MethodName)) ∈ lw_all := lw_g (lw_at lw_m3 195 rfl) rfl
theorem q723 : (Jvm.Cond.code ({ cls := "AbbeyNotesModel", name := "lotsOf", desc := "(I)I" } : Jvm.MethodName) prog_4_method_38_code (4 : Nat) (Option.some Jvm.ClassFile.FieldType.int)) ∈ lw_all := lw_g (lw_at lw_m3 196 rfl) rfl
theorem q724 : (Jvm.Cond.methodLink "AbbeyNotesModel" (232 : Nat) ({ cls := "AbbeyNotesModel", name := "owesInAll", desc := "(I)I" } : Jvm.MethodName)) ∈ lw_all := lw_g (lw_at lw_m3 197 rfl) rfl
theorem q725 : (Jvm.Cond.privateMethod ({ cls := "AbbeyNotesModel", name := "owesInAll", desc := "(I)I" } : Jvm.MethodName)) ∈ lw_tbl := lw_at lw_m3 198 rfl
theorem q726 : (Jvm.Cond.instanceMethod ({ cls := "AbbeyNotesModel", name := "owesInAll", desc := "(I)I" } : Jvm.MethodName)) ∈ lw_all := lw_g (lw_at lw_m3 199 rfl) rfl
theorem q727 : (Jvm.Cond.code ({ cls := "AbbeyNotesModel", name := "owesInAll", desc := "(I)I" } : Jvm.MethodName) prog_4_method_39_code (4 : Nat) (Option.some Jvm.ClassFile.FieldType.int)) ∈ lw_all := lw_g (lw_at lw_m3 200 rfl) rfl
theorem q729 : (Jvm.Cond.instanceMethod ({ cls := "AbbeyNotesModel", name := "total", desc := "(I)I" } : Jvm.MethodName)) ∈ lw_all := lw_g (lw_at lw_m3 202 rfl) rfl
theorem q730 : (Jvm.Cond.selects "AbbeyNotesModel" ({ cls := "AbbeyNotesModel", name := "total", desc := "(I)I" } : Jvm.MethodName) ({ cls := "AbbeyNotesModel", name := "total", desc := "(I)I" } : Jvm.MethodName)) ∈ lw_all := lw_g (lw_at lw_m3 203 rfl) rfl
theorem q731 : (Jvm.Cond.code ({ cls := "AbbeyNotesModel", name := "total", desc := "(I)I" } : Jvm.MethodName) prog_4_method_43_code (3 : Nat) (Option.some Jvm.ClassFile.FieldType.int)) ∈ lw_all := lw_g (lw_at lw_m3 204 rfl) rfl
theorem q732 : (Jvm.Cond.methodLink "AbbeyNotesModel" (240 : Nat) ({ cls := "AbbeyNotesModel", name := "ofAll", desc := "(I)I" } : Jvm.MethodName)) ∈ lw_all := lw_g (lw_at lw_m3 205 rfl) rfl
theorem q733 : (Jvm.Cond.privateMethod ({ cls := "AbbeyNotesModel", name := "ofAll", desc := "(I)I" } : Jvm.MethodName)) ∈ lw_tbl := lw_at lw_m3 206 rfl
theorem q734 : (Jvm.Cond.instanceMethod ({ cls := "AbbeyNotesModel", name := "ofAll", desc := "(I)I" } : Jvm.MethodName)) ∈ lw_all := lw_g (lw_at lw_m3 207 rfl) rfl
theorem q735 : (Jvm.Cond.code ({ cls := "AbbeyNotesModel", name := "ofAll", desc := "(I)I" } : Jvm.MethodName) prog_4_method_42_code (2 : Nat) (Option.some Jvm.ClassFile.FieldType.int)) ∈ lw_all := lw_g (lw_at lw_m3 208 rfl) rfl
theorem q737 : (Jvm.Cond.instanceMethod ({ cls := "AbbeyNotesModel", name := "fell", desc := "(I)I" } : Jvm.MethodName)) ∈ lw_all := lw_g (lw_at lw_m3 210 rfl) rfl
theorem q738 : (Jvm.Cond.selects "AbbeyNotesModel" ({ cls := "AbbeyNotesModel", name := "fell", desc := "(I)I" } : Jvm.MethodName) ({ cls := "AbbeyNotesModel", name := "fell", desc := "(I)I" } : Jvm.MethodName)) ∈ lw_all := lw_g (lw_at lw_m3 211 rfl) rfl
theorem q739 : (Jvm.Cond.code ({ cls := "AbbeyNotesModel", name := "fell", desc := "(I)I" } : Jvm.MethodName) prog_4_method_44_code (4 : Nat) (Option.some Jvm.ClassFile.FieldType.int)) ∈ lw_all := lw_g (lw_at lw_m3 212 rfl) rfl
theorem q741 : (Jvm.Cond.instanceMethod ({ cls := "AbbeyNotesModel", name := "done", desc := "()I" } : Jvm.MethodName)) ∈ lw_all := lw_g (lw_at lw_m3 214 rfl) rfl
theorem q742 : (Jvm.Cond.selects "AbbeyNotesModel" ({ cls := "AbbeyNotesModel", name := "done", desc := "()I" } : Jvm.MethodName) ({ cls := "AbbeyNotesModel", name := "done", desc := "()I" } : Jvm.MethodName)) ∈ lw_all := lw_g (lw_at lw_m3 215 rfl) rfl
theorem q743 : (Jvm.Cond.code ({ cls := "AbbeyNotesModel", name := "done", desc := "()I" } : Jvm.MethodName) prog_4_method_45_code (2 : Nat) (Option.some Jvm.ClassFile.FieldType.int)) ∈ lw_all := lw_g (lw_at lw_m3 216 rfl) rfl
theorem q745 : (Jvm.Cond.instanceMethod ({ cls := "AbbeyNotesModel", name := "struck", desc := "(I)I" } : Jvm.MethodName)) ∈ lw_all := lw_g (lw_at lw_m3 218 rfl) rfl
theorem q746 : (Jvm.Cond.selects "AbbeyNotesModel" ({ cls := "AbbeyNotesModel", name := "struck", desc := "(I)I" } : Jvm.MethodName) ({ cls := "AbbeyNotesModel", name := "struck", desc := "(I)I" } : Jvm.MethodName)) ∈ lw_all := lw_g (lw_at lw_m3 219 rfl) rfl
theorem q747 : (Jvm.Cond.code ({ cls := "AbbeyNotesModel", name := "struck", desc := "(I)I" } : Jvm.MethodName) prog_4_method_48_code (5 : Nat) (Option.some Jvm.ClassFile.FieldType.int)) ∈ lw_all := lw_g (lw_at lw_m3 220 rfl) rfl
theorem q748 : (Jvm.Cond.methodLink "AbbeyNotesModel" (246 : Nat) ({ cls := "AbbeyNotesModel", name := "mostEven", desc := "(I)I" } : Jvm.MethodName)) ∈ lw_all := lw_g (lw_at lw_m3 221 rfl) rfl
theorem q749 : (Jvm.Cond.privateMethod ({ cls := "AbbeyNotesModel", name := "mostEven", desc := "(I)I" } : Jvm.MethodName)) ∈ lw_tbl := lw_at lw_m3 222 rfl
theorem q750 : (Jvm.Cond.instanceMethod ({ cls := "AbbeyNotesModel", name := "mostEven", desc := "(I)I" } : Jvm.MethodName)) ∈ lw_all := lw_g (lw_at lw_m3 223 rfl) rfl
theorem q751 : (Jvm.Cond.code ({ cls := "AbbeyNotesModel", name := "mostEven", desc := "(I)I" } : Jvm.MethodName) prog_4_method_47_code (6 : Nat) (Option.some Jvm.ClassFile.FieldType.int)) ∈ lw_all := lw_g (lw_at lw_m3 224 rfl) rfl
theorem q752 : (Jvm.Cond.methodLink "AbbeyNotesModel" (243 : Nat) ({ cls := "AbbeyNotesModel", name := "netOf", desc := "(I)I" } : Jvm.MethodName)) ∈ lw_all := lw_g (lw_at lw_m3 225 rfl) rfl
theorem q753 : (Jvm.Cond.privateMethod ({ cls := "AbbeyNotesModel", name := "netOf", desc := "(I)I" } : Jvm.MethodName)) ∈ lw_tbl := lw_at lw_m3 226 rfl
theorem q754 : (Jvm.Cond.instanceMethod ({ cls := "AbbeyNotesModel", name := "netOf", desc := "(I)I" } : Jvm.MethodName)) ∈ lw_all := lw_g (lw_at lw_m3 227 rfl) rfl
theorem q755 : (Jvm.Cond.code ({ cls := "AbbeyNotesModel", name := "netOf", desc := "(I)I" } : Jvm.MethodName) prog_4_method_46_code (4 : Nat) (Option.some Jvm.ClassFile.FieldType.int)) ∈ lw_all := lw_g (lw_at lw_m3 228 rfl) rfl
theorem q757 : (Jvm.Cond.instanceMethod ({ cls := "AbbeyNotesModel", name := "prints", desc := "(I)I" } : Jvm.MethodName)) ∈ lw_all := lw_g (lw_at lw_m3 230 rfl) rfl
theorem q758 : (Jvm.Cond.selects "AbbeyNotesModel" ({ cls := "AbbeyNotesModel", name := "prints", desc := "(I)I" } : Jvm.MethodName) ({ cls := "AbbeyNotesModel", name := "prints", desc := "(I)I" } : Jvm.MethodName)) ∈ lw_all := lw_g (lw_at lw_m3 231 rfl) rfl
theorem q759 : (Jvm.Cond.code ({ cls := "AbbeyNotesModel", name := "prints", desc := "(I)I" } : Jvm.MethodName) prog_4_method_49_code (4 : Nat) (Option.some Jvm.ClassFile.FieldType.int)) ∈ lw_all := lw_g (lw_at lw_m3 232 rfl) rfl
theorem q761 : (Jvm.Cond.instanceMethod ({ cls := "AbbeyNotesModel", name := "buys", desc := "(II)I" } : Jvm.MethodName)) ∈ lw_all := lw_g (lw_at lw_m3 234 rfl) rfl
theorem q762 : (Jvm.Cond.selects "AbbeyNotesModel" ({ cls := "AbbeyNotesModel", name := "buys", desc := "(II)I" } : Jvm.MethodName) ({ cls := "AbbeyNotesModel", name := "buys", desc := "(II)I" } : Jvm.MethodName)) ∈ lw_all := lw_g (lw_at lw_m3 235 rfl) rfl
theorem q763 : (Jvm.Cond.code ({ cls := "AbbeyNotesModel", name := "buys", desc := "(II)I" } : Jvm.MethodName) prog_4_method_51_code (7 : Nat) (Option.some Jvm.ClassFile.FieldType.int)) ∈ lw_all := lw_g (lw_at lw_m3 236 rfl) rfl
theorem q764 : (Jvm.Cond.methodLink "AbbeyNotesModel" (249 : Nat) ({ cls := "AbbeyNotesModel", name := "pricesOf", desc := "(I)I" } : Jvm.MethodName)) ∈ lw_all := lw_g (lw_at lw_m3 237 rfl) rfl
theorem q765 : (Jvm.Cond.privateMethod ({ cls := "AbbeyNotesModel", name := "pricesOf", desc := "(I)I" } : Jvm.MethodName)) ∈ lw_tbl := lw_at lw_m3 238 rfl
theorem q766 : (Jvm.Cond.instanceMethod ({ cls := "AbbeyNotesModel", name := "pricesOf", desc := "(I)I" } : Jvm.MethodName)) ∈ lw_all := lw_g (lw_at lw_m3 239 rfl) rfl
theorem q767 : (Jvm.Cond.code ({ cls := "AbbeyNotesModel", name := "pricesOf", desc := "(I)I" } : Jvm.MethodName) prog_4_method_50_code (4 : Nat) (Option.some Jvm.ClassFile.FieldType.int)) ∈ lw_all := lw_g (lw_at lw_m4 0 rfl) rfl
theorem q769 : (Jvm.Cond.instanceMethod ({ cls := "AbbeyNotesModel", name := "runs", desc := "(III)I" } : Jvm.MethodName)) ∈ lw_all := lw_g (lw_at lw_m4 2 rfl) rfl
theorem q770 : (Jvm.Cond.selects "AbbeyNotesModel" ({ cls := "AbbeyNotesModel", name := "runs", desc := "(III)I" } : Jvm.MethodName) ({ cls := "AbbeyNotesModel", name := "runs", desc := "(III)I" } : Jvm.MethodName)) ∈ lw_all := lw_g (lw_at lw_m4 3 rfl) rfl
theorem q771 : (Jvm.Cond.code ({ cls := "AbbeyNotesModel", name := "runs", desc := "(III)I" } : Jvm.MethodName) prog_4_method_52_code (8 : Nat) (Option.some Jvm.ClassFile.FieldType.int)) ∈ lw_all := lw_g (lw_at lw_m4 4 rfl) rfl
theorem q772 : (Jvm.Cond.constantLong "AbbeyNotesModel" (252 : Nat) (99 : Int64)) ∈ lw_all := lw_g (lw_at lw_m4 5 rfl) rfl
theorem q774 : (Jvm.Cond.instanceMethod ({ cls := "AbbeyNotesModel", name := "wages", desc := "(II)I" } : Jvm.MethodName)) ∈ lw_all := lw_g (lw_at lw_m4 7 rfl) rfl
theorem q775 : (Jvm.Cond.selects "AbbeyNotesModel" ({ cls := "AbbeyNotesModel", name := "wages", desc := "(II)I" } : Jvm.MethodName) ({ cls := "AbbeyNotesModel", name := "wages", desc := "(II)I" } : Jvm.MethodName)) ∈ lw_all := lw_g (lw_at lw_m4 8 rfl) rfl
theorem q776 : (Jvm.Cond.code ({ cls := "AbbeyNotesModel", name := "wages", desc := "(II)I" } : Jvm.MethodName) prog_4_method_53_code (7 : Nat) (Option.some Jvm.ClassFile.FieldType.int)) ∈ lw_all := lw_g (lw_at lw_m4 9 rfl) rfl
theorem q777 : (Jvm.Cond.constantLong "AbbeyNotesModel" (254 : Nat) (999999999 : Int64)) ∈ lw_all := lw_g (lw_at lw_m4 10 rfl) rfl
theorem q778 : (Jvm.Cond.constantLong "AbbeyNotesModel" (256 : Nat) (8 : Int64)) ∈ lw_all := lw_g (lw_at lw_m4 11 rfl) rfl
theorem q780 : (Jvm.Cond.instanceMethod ({ cls := "AbbeyNotesModel", name := "change", desc := "(IIIII)J" } : Jvm.MethodName)) ∈ lw_all := lw_g (lw_at lw_m4 13 rfl) rfl
theorem q781 : (Jvm.Cond.selects "AbbeyNotesModel" ({ cls := "AbbeyNotesModel", name := "change", desc := "(IIIII)J" } : Jvm.MethodName) ({ cls := "AbbeyNotesModel", name := "change", desc := "(IIIII)J" } : Jvm.MethodName)) ∈ lw_all := lw_g (lw_at lw_m4 14 rfl) rfl
theorem q782 : (Jvm.Cond.code ({ cls := "AbbeyNotesModel", name := "change", desc := "(IIIII)J" } : Jvm.MethodName) prog_4_method_55_code (13 : Nat) (Option.some Jvm.ClassFile.FieldType.long)) ∈ lw_all := lw_g (lw_at lw_m4 15 rfl) rfl
theorem q783 : (Jvm.Cond.constantLong "AbbeyNotesModel" (258 : Nat) (60 : Int64)) ∈ lw_all := lw_g (lw_at lw_m4 16 rfl) rfl
theorem q784 : (Jvm.Cond.constantLong "AbbeyNotesModel" (260 : Nat) (10 : Int64)) ∈ lw_all := lw_g (lw_at lw_m4 17 rfl) rfl
theorem q785 : (Jvm.Cond.constantLong "AbbeyNotesModel" (262 : Nat) (-1000000000000000002 : Int64)) ∈ lw_all := lw_g (lw_at lw_m4 18 rfl) rfl
theorem q786 : (Jvm.Cond.methodLink "AbbeyNotesModel" (264 : Nat) ({ cls := "AbbeyNotesModel", name := "lowest", desc := "(JJI)J" } : Jvm.MethodName)) ∈ lw_all := lw_g (lw_at lw_m4 19 rfl) rfl
theorem q787 : (Jvm.Cond.static ({ cls := "AbbeyNotesModel", name := "lowest", desc := "(JJI)J" } : Jvm.MethodName)) ∈ lw_all := lw_g (lw_at lw_m4 20 rfl) rfl
theorem q788 : (Jvm.Cond.code ({ cls := "AbbeyNotesModel", name := "lowest", desc := "(JJI)J" } : Jvm.MethodName) prog_4_method_54_code (11 : Nat) (Option.some Jvm.ClassFile.FieldType.long)) ∈ lw_all := lw_g (lw_at lw_m4 21 rfl) rfl
theorem q790 : (Jvm.Cond.instanceMethod ({ cls := "AbbeyNotesModel", name := "sample", desc := "(IIIII)J" } : Jvm.MethodName)) ∈ lw_all := lw_g (lw_at lw_m4 23 rfl) rfl
theorem q791 : (Jvm.Cond.selects "AbbeyNotesModel" ({ cls := "AbbeyNotesModel", name := "sample", desc := "(IIIII)J" } : Jvm.MethodName) ({ cls := "AbbeyNotesModel", name := "sample", desc := "(IIIII)J" } : Jvm.MethodName)) ∈ lw_all := lw_g (lw_at lw_m4 24 rfl) rfl
theorem q792 : (Jvm.Cond.code ({ cls := "AbbeyNotesModel", name := "sample", desc := "(IIIII)J" } : Jvm.MethodName) prog_4_method_57_code (6 : Nat) (Option.some Jvm.ClassFile.FieldType.long)) ∈ lw_all := lw_g (lw_at lw_m4 25 rfl) rfl
theorem q793 : (Jvm.Cond.constantLong "AbbeyNotesModel" (268 : Nat) (30 : Int64)) ∈ lw_all := lw_g (lw_at lw_m4 26 rfl) rfl
theorem q794 : (Jvm.Cond.methodLink "AbbeyNotesModel" (270 : Nat) ({ cls := "AbbeyNotesModel", name := "chooseOf", desc := "(II)J" } : Jvm.MethodName)) ∈ lw_all := lw_g (lw_at lw_m4 27 rfl) rfl
theorem q795 : (Jvm.Cond.privateMethod ({ cls := "AbbeyNotesModel", name := "chooseOf", desc := "(II)J" } : Jvm.MethodName)) ∈ lw_tbl := lw_at lw_m4 28 rfl
theorem q796 : (Jvm.Cond.instanceMethod ({ cls := "AbbeyNotesModel", name := "chooseOf", desc := "(II)J" } : Jvm.MethodName)) ∈ lw_all := lw_g (lw_at lw_m4 29 rfl) rfl
theorem q797 : (Jvm.Cond.code ({ cls := "AbbeyNotesModel", name := "chooseOf", desc := "(II)J" } : Jvm.MethodName) prog_4_method_56_code (5 : Nat) (Option.some Jvm.ClassFile.FieldType.long)) ∈ lw_all := lw_g (lw_at lw_m4 30 rfl) rfl
theorem q799 : (Jvm.Cond.instanceMethod ({ cls := "AbbeyNotesModel", name := "seen", desc := "(III)I" } : Jvm.MethodName)) ∈ lw_all := lw_g (lw_at lw_m4 32 rfl) rfl
theorem q800 : (Jvm.Cond.selects "AbbeyNotesModel" ({ cls := "AbbeyNotesModel", name := "seen", desc := "(III)I" } : Jvm.MethodName) ({ cls := "AbbeyNotesModel", name := "seen", desc := "(III)I" } : Jvm.MethodName)) ∈ lw_all := lw_g (lw_at lw_m4 33 rfl) rfl
theorem q801 : (Jvm.Cond.code ({ cls := "AbbeyNotesModel", name := "seen", desc := "(III)I" } : Jvm.MethodName) prog_4_method_58_code (4 : Nat) (Option.some Jvm.ClassFile.FieldType.int)) ∈ lw_all := lw_g (lw_at lw_m4 34 rfl) rfl
theorem q802 : (Jvm.Cond.constantLong "AbbeyNotesModel" (274 : Nat) (255 : Int64)) ∈ lw_all := lw_g (lw_at lw_m4 35 rfl) rfl
theorem q804 : (Jvm.Cond.instanceMethod ({ cls := "AbbeyNotesModel", name := "forget", desc := "()I" } : Jvm.MethodName)) ∈ lw_all := lw_g (lw_at lw_m4 37 rfl) rfl
theorem q805 : (Jvm.Cond.selects "AbbeyNotesModel" ({ cls := "AbbeyNotesModel", name := "forget", desc := "()I" } : Jvm.MethodName) ({ cls := "AbbeyNotesModel", name := "forget", desc := "()I" } : Jvm.MethodName)) ∈ lw_all := lw_g (lw_at lw_m4 38 rfl) rfl
theorem q806 : (Jvm.Cond.code ({ cls := "AbbeyNotesModel", name := "forget", desc := "()I" } : Jvm.MethodName) prog_4_method_59_code (2 : Nat) (Option.some Jvm.ClassFile.FieldType.int)) ∈ lw_all := lw_g (lw_at lw_m4 39 rfl) rfl
theorem q808 : (Jvm.Cond.instanceMethod ({ cls := "AbbeyNotesModel", name := "clerks", desc := "(II)I" } : Jvm.MethodName)) ∈ lw_all := lw_g (lw_at lw_m4 41 rfl) rfl
theorem q809 : (Jvm.Cond.selects "AbbeyNotesModel" ({ cls := "AbbeyNotesModel", name := "clerks", desc := "(II)I" } : Jvm.MethodName) ({ cls := "AbbeyNotesModel", name := "clerks", desc := "(II)I" } : Jvm.MethodName)) ∈ lw_all := lw_g (lw_at lw_m4 42 rfl) rfl
theorem q810 : (Jvm.Cond.code ({ cls := "AbbeyNotesModel", name := "clerks", desc := "(II)I" } : Jvm.MethodName) prog_4_method_61_code (5 : Nat) (Option.some Jvm.ClassFile.FieldType.int)) ∈ lw_all := lw_g (lw_at lw_m4 43 rfl) rfl
theorem q811 : (Jvm.Cond.methodLink "AbbeyNotesModel" (282 : Nat) ({ cls := "AbbeyNotesModel", name := "fits", desc := "(II)Z" } : Jvm.MethodName)) ∈ lw_all := lw_g (lw_at lw_m4 44 rfl) rfl
theorem q812 : (Jvm.Cond.privateMethod ({ cls := "AbbeyNotesModel", name := "fits", desc := "(II)Z" } : Jvm.MethodName)) ∈ lw_tbl := lw_at lw_m4 45 rfl
theorem q813 : (Jvm.Cond.instanceMethod ({ cls := "AbbeyNotesModel", name := "fits", desc := "(II)Z" } : Jvm.MethodName)) ∈ lw_all := lw_g (lw_at lw_m4 46 rfl) rfl
theorem q814 : (Jvm.Cond.code ({ cls := "AbbeyNotesModel", name := "fits", desc := "(II)Z" } : Jvm.MethodName) prog_4_method_60_code (6 : Nat) (Option.some Jvm.ClassFile.FieldType.boolean)) ∈ lw_all := lw_g (lw_at lw_m4 47 rfl) rfl
theorem q815 : (Jvm.Cond.methodLink "AbbeyNotesModel" (279 : Nat) ({ cls := "AbbeyNotesModel", name := "bitsOf", desc := "(I)I" } : Jvm.MethodName)) ∈ lw_all := lw_g (lw_at lw_m4 48 rfl) rfl
theorem q816 : (Jvm.Cond.static ({ cls := "AbbeyNotesModel", name := "bitsOf", desc := "(I)I" } : Jvm.MethodName)) ∈ lw_all := lw_g (lw_at lw_m4 49 rfl) rfl
theorem q817 : (Jvm.Cond.code ({ cls := "AbbeyNotesModel", name := "bitsOf", desc := "(I)I" } : Jvm.MethodName) prog_4_method_4_code (3 : Nat) (Option.some Jvm.ClassFile.FieldType.int)) ∈ lw_all := lw_g (lw_at lw_m4 50 rfl) rfl
theorem q819 : (Jvm.Cond.instanceMethod ({ cls := "AbbeyNotesModel", name := "count", desc := "(II)I" } : Jvm.MethodName)) ∈ lw_all := lw_g (lw_at lw_m4 52 rfl) rfl
theorem q820 : (Jvm.Cond.selects "AbbeyNotesModel" ({ cls := "AbbeyNotesModel", name := "count", desc := "(II)I" } : Jvm.MethodName) ({ cls := "AbbeyNotesModel", name := "count", desc := "(II)I" } : Jvm.MethodName)) ∈ lw_all := lw_g (lw_at lw_m4 53 rfl) rfl
theorem q821 : (Jvm.Cond.code ({ cls := "AbbeyNotesModel", name := "count", desc := "(II)I" } : Jvm.MethodName) prog_4_method_63_code (7 : Nat) (Option.some Jvm.ClassFile.FieldType.int)) ∈ lw_all := lw_g (lw_at lw_m4 54 rfl) rfl
theorem q822 : (Jvm.Cond.methodLink "AbbeyNotesModel" (286 : Nat) ({ cls := "AbbeyNotesModel", name := "mostLeft", desc := "(II)I" } : Jvm.MethodName)) ∈ lw_all := lw_g (lw_at lw_m4 55 rfl) rfl
theorem q823 : (Jvm.Cond.privateMethod ({ cls := "AbbeyNotesModel", name := "mostLeft", desc := "(II)I" } : Jvm.MethodName)) ∈ lw_tbl := lw_at lw_m4 56 rfl
theorem q824 : (Jvm.Cond.instanceMethod ({ cls := "AbbeyNotesModel", name := "mostLeft", desc := "(II)I" } : Jvm.MethodName)) ∈ lw_all := lw_g (lw_at lw_m4 57 rfl) rfl
theorem q825 : (Jvm.Cond.code ({ cls := "AbbeyNotesModel", name := "mostLeft", desc := "(II)I" } : Jvm.MethodName) prog_4_method_62_code (7 : Nat) (Option.some Jvm.ClassFile.FieldType.int)) ∈ lw_all := lw_g (lw_at lw_m4 58 rfl) rfl
theorem q827 : (Jvm.Cond.instanceMethod ({ cls := "AbbeyNotesModel", name := "year", desc := "(III)I" } : Jvm.MethodName)) ∈ lw_all := lw_g (lw_at lw_m4 60 rfl) rfl
theorem q828 : (Jvm.Cond.selects "AbbeyNotesModel" ({ cls := "AbbeyNotesModel", name := "year", desc := "(III)I" } : Jvm.MethodName) ({ cls := "AbbeyNotesModel", name := "year", desc := "(III)I" } : Jvm.MethodName)) ∈ lw_all := lw_g (lw_at lw_m4 61 rfl) rfl
theorem q829 : (Jvm.Cond.code ({ cls := "AbbeyNotesModel", name := "year", desc := "(III)I" } : Jvm.MethodName) prog_4_method_66_code (9 : Nat) (Option.some Jvm.ClassFile.FieldType.int)) ∈ lw_all := lw_g (lw_at lw_m4 62 rfl) rfl
theorem q830 : (Jvm.Cond.constantLong "AbbeyNotesModel" (289 : Nat) (75 : Int64)) ∈ lw_all := lw_g (lw_at lw_m4 63 rfl) rfl
theorem q831 : (Jvm.Cond.constantLong "AbbeyNotesModel" (291 : Nat) (74 : Int64)) ∈ lw_all := lw_g (lw_at lw_m4 64 rfl) rfl
theorem q832 : (Jvm.Cond.constantLong "AbbeyNotesModel" (293 : Nat) (65537 : Int64)) ∈ lw_all := lw_g (lw_at lw_m4 65 rfl) rfl
theorem q833 : (Jvm.Cond.methodLink "AbbeyNotesModel" (295 : Nat) ({ cls := "AbbeyNotesModel", name := "actBy", desc := "(I)I" } : Jvm.MethodName)) ∈ lw_all := lw_g (lw_at lw_m4 66 rfl) rfl
theorem q834 : (Jvm.Cond.static ({ cls := "AbbeyNotesModel", name := "actBy", desc := "(I)I" } : Jvm.MethodName)) ∈ lw_all := lw_g (lw_at lw_m4 67 rfl) rfl
theorem q835 : (Jvm.Cond.code ({ cls := "AbbeyNotesModel", name := "actBy", desc := "(I)I" } : Jvm.MethodName) prog_4_method_64_code (1 : Nat) (Option.some Jvm.ClassFile.FieldType.int)) ∈ lw_all := lw_g (lw_at lw_m4 68 rfl) rfl
theorem q836 : (Jvm.Cond.methodLink "AbbeyNotesModel" (298 : Nat) ({ cls := "AbbeyNotesModel", name := "muchBy", desc := "(II)I" } : Jvm.MethodName)) ∈ lw_all := lw_g (lw_at lw_m4 69 rfl) rfl
theorem q837 : (Jvm.Cond.static ({ cls := "AbbeyNotesModel", name := "muchBy", desc := "(II)I" } : Jvm.MethodName)) ∈ lw_all := lw_g (lw_at lw_m4 70 rfl) rfl
theorem q838 : (Jvm.Cond.code ({ cls := "AbbeyNotesModel", name := "muchBy", desc := "(II)I" } : Jvm.MethodName) prog_4_method_65_code (2 : Nat) (Option.some Jvm.ClassFile.FieldType.int)) ∈ lw_all := lw_g (lw_at lw_m4 71 rfl) rfl
theorem q840 : (Jvm.Cond.instanceMethod ({ cls := "AbbeyNotesModel", name := "image", desc := "(I)I" } : Jvm.MethodName)) ∈ lw_all := lw_g (lw_at lw_m4 73 rfl) rfl
theorem q841 : (Jvm.Cond.selects "AbbeyNotesModel" ({ cls := "AbbeyNotesModel", name := "image", desc := "(I)I" } : Jvm.MethodName) ({ cls := "AbbeyNotesModel", name := "image", desc := "(I)I" } : Jvm.MethodName)) ∈ lw_all := lw_g (lw_at lw_m4 74 rfl) rfl
theorem q842 : (Jvm.Cond.code ({ cls := "AbbeyNotesModel", name := "image", desc := "(I)I" } : Jvm.MethodName) prog_4_method_70_code (2 : Nat) (Option.some Jvm.ClassFile.FieldType.int)) ∈ lw_all := lw_g (lw_at lw_m4 75 rfl) rfl
theorem q843 : (Jvm.Cond.methodLink "AbbeyNotesModel" (315 : Nat) ({ cls := "AbbeyNotesModel", name := "passAll", desc := "()V" } : Jvm.MethodName)) ∈ lw_all := lw_g (lw_at lw_m4 76 rfl) rfl
theorem q844 : (Jvm.Cond.privateMethod ({ cls := "AbbeyNotesModel", name := "passAll", desc := "()V" } : Jvm.MethodName)) ∈ lw_tbl := lw_at lw_m4 77 rfl
theorem q845 : (Jvm.Cond.instanceMethod ({ cls := "AbbeyNotesModel", name := "passAll", desc := "()V" } : Jvm.MethodName)) ∈ lw_all := lw_g (lw_at lw_m4 78 rfl) rfl
theorem q846 : (Jvm.Cond.code ({ cls := "AbbeyNotesModel", name := "passAll", desc := "()V" } : Jvm.MethodName) prog_4_method_69_code (1 : Nat) (Option.none : Option Jvm.ClassFile.FieldType)) ∈ lw_all := lw_g (lw_at lw_m4 79 rfl) rfl
theorem q847 : (Jvm.Cond.methodLink "AbbeyNotesModel" (308 : Nat) ({ cls := "AbbeyNotesModel", name := "pass", desc := "(I)I" } : Jvm.MethodName)) ∈ lw_all := lw_g (lw_at lw_m4 80 rfl) rfl
theorem q848 : (Jvm.Cond.privateMethod ({ cls := "AbbeyNotesModel", name := "pass", desc := "(I)I" } : Jvm.MethodName)) ∈ lw_tbl := lw_at lw_m4 81 rfl
theorem q849 : (Jvm.Cond.instanceMethod ({ cls := "AbbeyNotesModel", name := "pass", desc := "(I)I" } : Jvm.MethodName)) ∈ lw_all := lw_g (lw_at lw_m4 82 rfl) rfl
theorem q850 : (Jvm.Cond.code ({ cls := "AbbeyNotesModel", name := "pass", desc := "(I)I" } : Jvm.MethodName) prog_4_method_67_code (3 : Nat) (Option.some Jvm.ClassFile.FieldType.int)) ∈ lw_all := lw_g (lw_at lw_m4 83 rfl) rfl
theorem q851 : (Jvm.Cond.methodLink "AbbeyNotesModel" (311 : Nat) ({ cls := "AbbeyNotesModel", name := "passRow", desc := "([II)V" } : Jvm.MethodName)) ∈ lw_all := lw_g (lw_at lw_m4 84 rfl) rfl
theorem q852 : (Jvm.Cond.privateMethod ({ cls := "AbbeyNotesModel", name := "passRow", desc := "([II)V" } : Jvm.MethodName)) ∈ lw_tbl := lw_at lw_m4 85 rfl
theorem q853 : (Jvm.Cond.instanceMethod ({ cls := "AbbeyNotesModel", name := "passRow", desc := "([II)V" } : Jvm.MethodName)) ∈ lw_all := lw_g (lw_at lw_m4 86 rfl) rfl
theorem q854 : (Jvm.Cond.code ({ cls := "AbbeyNotesModel", name := "passRow", desc := "([II)V" } : Jvm.MethodName) prog_4_method_68_code (4 : Nat) (Option.none : Option Jvm.ClassFile.FieldType)) ∈ lw_all := lw_g (lw_at lw_m4 87 rfl) rfl
theorem q856 : (Jvm.Cond.instanceMethod ({ cls := "AbbeyNotesModel", name := "restore", desc := "(I)I" } : Jvm.MethodName)) ∈ lw_all := lw_g (lw_at lw_m4 89 rfl) rfl
theorem q857 : (Jvm.Cond.selects "AbbeyNotesModel" ({ cls := "AbbeyNotesModel", name := "restore", desc := "(I)I" } : Jvm.MethodName) ({ cls := "AbbeyNotesModel", name := "restore", desc := "(I)I" } : Jvm.MethodName)) ∈ lw_all := lw_g (lw_at lw_m4 90 rfl) rfl
theorem q858 : (Jvm.Cond.code ({ cls := "AbbeyNotesModel", name := "restore", desc := "(I)I" } : Jvm.MethodName) prog_4_method_71_code (2 : Nat) (Option.some Jvm.ClassFile.FieldType.int)) ∈ lw_all := lw_g (lw_at lw_m4 91 rfl) rfl
theorem q860 : (Jvm.Cond.instanceMethod ({ cls := "AbbeyNotesModel", name := "told", desc := "(I)I" } : Jvm.MethodName)) ∈ lw_all := lw_g (lw_at lw_m4 93 rfl) rfl
theorem q861 : (Jvm.Cond.selects "AbbeyNotesModel" ({ cls := "AbbeyNotesModel", name := "told", desc := "(I)I" } : Jvm.MethodName) ({ cls := "AbbeyNotesModel", name := "told", desc := "(I)I" } : Jvm.MethodName)) ∈ lw_all := lw_g (lw_at lw_m4 94 rfl) rfl
theorem q862 : (Jvm.Cond.code ({ cls := "AbbeyNotesModel", name := "told", desc := "(I)I" } : Jvm.MethodName) prog_4_method_74_code (3 : Nat) (Option.some Jvm.ClassFile.FieldType.int)) ∈ lw_all := lw_g (lw_at lw_m4 95 rfl) rfl
theorem q863 : (Jvm.Cond.constantLong "AbbeyNotesModel" (318 : Nat) (200 : Int64)) ∈ lw_all := lw_g (lw_at lw_m4 96 rfl) rfl
theorem q864 : (Jvm.Cond.constantLong "AbbeyNotesModel" (320 : Nat) (259 : Int64)) ∈ lw_all := lw_g (lw_at lw_m4 97 rfl) rfl
theorem q865 : (Jvm.Cond.constantLong "AbbeyNotesModel" (322 : Nat) (179 : Int64)) ∈ lw_all := lw_g (lw_at lw_m4 98 rfl) rfl
theorem q866 : (Jvm.Cond.constantLong "AbbeyNotesModel" (324 : Nat) (69 : Int64)) ∈ lw_all := lw_g (lw_at lw_m4 99 rfl) rfl
theorem q867 : (Jvm.Cond.methodLink "AbbeyNotesModel" (326 : Nat) ({ cls := "AbbeyNotesModel", name := "toldOfOne", desc := "(II)I" } : Jvm.MethodName)) ∈ lw_all := lw_g (lw_at lw_m4 100 rfl) rfl
theorem q868 : (Jvm.Cond.privateMethod ({ cls := "AbbeyNotesModel", name := "toldOfOne", desc := "(II)I" } : Jvm.MethodName)) ∈ lw_tbl := lw_at lw_m4 101 rfl
theorem q869 : (Jvm.Cond.instanceMethod ({ cls := "AbbeyNotesModel", name := "toldOfOne", desc := "(II)I" } : Jvm.MethodName)) ∈ lw_all := lw_g (lw_at lw_m4 102 rfl) rfl
theorem q870 : (Jvm.Cond.code ({ cls := "AbbeyNotesModel", name := "toldOfOne", desc := "(II)I" } : Jvm.MethodName) prog_4_method_72_code (3 : Nat) (Option.some Jvm.ClassFile.FieldType.int)) ∈ lw_all := lw_g (lw_at lw_m4 103 rfl) rfl
theorem q871 : (Jvm.Cond.methodLink "AbbeyNotesModel" (329 : Nat) ({ cls := "AbbeyNotesModel", name := "toldOfAll", desc := "(I)I" } : Jvm.MethodName)) ∈ lw_all := lw_g (lw_at lw_m4 104 rfl) rfl
theorem q872 : (Jvm.Cond.privateMethod ({ cls := "AbbeyNotesModel", name := "toldOfAll", desc := "(I)I" } : Jvm.MethodName)) ∈ lw_tbl := lw_at lw_m4 105 rfl
theorem q873 : (Jvm.Cond.instanceMethod ({ cls := "AbbeyNotesModel", name := "toldOfAll", desc := "(I)I" } : Jvm.MethodName)) ∈ lw_all := lw_g (lw_at lw_m4 106 rfl) rfl
theorem q874 : (Jvm.Cond.code ({ cls := "AbbeyNotesModel", name := "toldOfAll", desc := "(I)I" } : Jvm.MethodName) prog_4_method_73_code (2 : Nat) (Option.some Jvm.ClassFile.FieldType.int)) ∈ lw_all := lw_g (lw_at lw_m4 107 rfl) rfl
theorem in_X2 : ∀ w ∈ wsX20, w ∈ lw_all := lw_in wsX20 [492, 494, 496, 498, 500, 502, 504, 506, 508, 510, 512, 514, 516, 518, 520, 522, 524, 526, 528, 530, 532, 534, 536, 538, 540, 542, 544, 546, 548, 550, 552, 554, 556, 558] (by decide +kernel) (by decide +kernel)
