/-! CableDrawerModel -/
set_option maxRecDepth 100000
def RX6 : String := "CableDrawerModel"
def TX6 : u_T := fun k => match k with
  | 0 => ("CableDrawerModel", "status", "I", false)
  | 1 => ("CableDrawerModel", "thrown", "I", false)
  | 2 => ("CableDrawerModel", "above", "J", false)
  | 3 => ("CableDrawerModel", "under", "J", false)
  | 4 => ("CableDrawerModel", "traySort", "[I", true)
  | 5 => ("CableDrawerModel", "trayMany", "[I", true)
  | 6 => ("CableDrawerModel", "numbers", "[J", true)
  | 7 => ("CableDrawerModel", "tape", "[B", true)
  | 8 => ("CableDrawerModel", "taped", "I", false)
  | 9 => ("CableDrawerModel", "textEnd", "I", false)
  | 10 => ("CableDrawerModel", "faultKind", "I", false)
  | 11 => ("CableDrawerModel", "faultAt", "I", false)
  | 12 => ("CableDrawerModel", "bad", "I", false)
  | 13 => ("CableDrawerModel", "badAt", "I", false)
  | 14 => ("CableDrawerModel", "token", "I", false)
  | 15 => ("CableDrawerModel", "at", "I", false)
  | 16 => ("CableDrawerModel", "behind", "I", false)
  | 17 => ("CableDrawerModel", "number", "I", false)
  | 18 => ("CableDrawerModel", "letters", "I", false)
  | 19 => ("CableDrawerModel", "word", "J", false)
  | 20 => ("CableDrawerModel", "c", "[I", true)
  | 21 => ("CableDrawerModel", "kept", "[I", true)
  | 22 => ("CableDrawerModel", "words", "[J", true)
  | 23 => ("CableDrawerModel", "markMany", "I", false)
  | 24 => ("CableDrawerModel", "newSteps", "I", false)
  | 25 => ("CableDrawerModel", "random", "I", false)
  | 26 => ("CableDrawerModel", "bestFrom", "I", false)
  | 27 => ("CableDrawerModel", "bestTo", "I", false)
  | 28 => ("CableDrawerModel", "bestPull", "I", false)
  | 29 => ("CableDrawerModel", "lengths", "[I", true)
  | 30 => ("CableDrawerModel", "loose", "[I", true)
  | 31 => ("CableDrawerModel", "wayNow", "[I", true)
  | 32 => ("CableDrawerModel", "wayTold", "[I", true)
  | 33 => ("CableDrawerModel", "hasWay", "Z", false)
  | 34 => ("CableDrawerModel", "left", "[I", true)
  | 35 => ("CableDrawerModel", "orderNow", "[I", true)
  | 36 => ("CableDrawerModel", "orderTold", "[I", true)
  | 37 => ("CableDrawerModel", "kept2", "[I", true)
  | 38 => ("CableDrawerModel", "orderMany", "I", false)
  | 39 => ("CableDrawerModel", "loosensTold", "I", false)
  | 40 => ("CableDrawerModel", "livedLast", "[I", true)
  | 41 => ("CableDrawerModel", "before", "[I", true)
  | 42 => ("CableDrawerModel", "hasLived", "Z", false)
  | 43 => ("CableDrawerModel", "isOver", "Z", false)
  | 44 => ("CableDrawerModel", "done", "I", false)
  | 45 => ("CableDrawerModel", "missed", "I", false)
  | 46 => ("CableDrawerModel", "openMany", "I", false)
  | 47 => ("CableDrawerModel", "came", "I", false)
  | 48 => ("CableDrawerModel", "taken", "I", false)
  | _ => ("CableDrawerModel", "leftOver", "I", false)
def tyX6 : Nat → FieldType := fun k => match k with
  | 0 => .int
  | 1 => .int
  | 2 => .long
  | 3 => .long
  | 4 => .array .int
  | 5 => .array .int
  | 6 => .array .long
  | 7 => .array .byte
  | 8 => .int
  | 9 => .int
  | 10 => .int
  | 11 => .int
  | 12 => .int
  | 13 => .int
  | 14 => .int
  | 15 => .int
  | 16 => .int
  | 17 => .int
  | 18 => .int
  | 19 => .long
  | 20 => .array .int
  | 21 => .array .int
  | 22 => .array .long
  | 23 => .int
  | 24 => .int
  | 25 => .int
  | 26 => .int
  | 27 => .int
  | 28 => .int
  | 29 => .array .int
  | 30 => .array .int
  | 31 => .array .int
  | 32 => .array .int
  | 33 => .boolean
  | 34 => .array .int
  | 35 => .array .int
  | 36 => .array .int
  | 37 => .array .int
  | 38 => .int
  | 39 => .int
  | 40 => .array .int
  | 41 => .array .int
  | 42 => .boolean
  | 43 => .boolean
  | 44 => .int
  | 45 => .int
  | 46 => .int
  | 47 => .int
  | 48 => .int
  | _ => .int
abbrev wsX60 : List Cond := u_ws RX6 TX6 50
set_option maxRecDepth 100000 in
theorem nmX6 : ∀ a, a < 50 → ∀ b, b < 50 → a ≠ b → (TX6 a).2.1 ≠ (TX6 b).2.1 := by decide +kernel
set_option maxRecDepth 100000 in
theorem tyX6_ok : ∀ k, k < 50 → parseFieldDescriptor (TX6 k).2.2.1 = some (tyX6 k) := by decide +kernel
abbrev cX6_init : ByteArray := prog_16_method_1_code
def yX6_init : MethodName := ⟨RX6, "<init>", "()V"⟩
def dkwX6_init_7 : List UInt8 := [162, 0, 16, 42, 180, 0, 17, 27, 2, 79, 132, 1, 1, 167, 255, 241, 177]
abbrev dktX6_init_7 : List UInt8 := dkwX6_init_7 ++ []
def dkwX6_init_6 : List UInt8 := [181, 0, 68, 42, 8, 188, 10, 181, 0, 71, 42, 17, 0, 132, 188, 10, 181, 0, 74, 3, 60, 27, 7]
abbrev dktX6_init_6 : List UInt8 := dkwX6_init_6 ++ dktX6_init_7
def dkwX6_init_5 : List UInt8 := [188, 10, 181, 0, 59, 42, 16, 8, 188, 10, 181, 0, 62, 42, 17, 0, 132, 188, 10, 181, 0, 65, 42, 2]
abbrev dktX6_init_5 : List UInt8 := dkwX6_init_5 ++ dktX6_init_6
def dkwX6_init_4 : List UInt8 := [188, 10, 181, 0, 50, 42, 7, 188, 10, 181, 0, 53, 42, 17, 1, 0, 188, 10, 181, 0, 56, 42, 16, 8]
abbrev dktX6_init_4 : List UInt8 := dkwX6_init_4 ++ dktX6_init_5
def dkwX6_init_3 : List UInt8 := [188, 11, 181, 0, 41, 42, 16, 24, 188, 10, 181, 0, 44, 42, 16, 24, 188, 10, 181, 0, 47, 42, 7]
abbrev dktX6_init_3 : List UInt8 := dkwX6_init_3 ++ dktX6_init_4
def dkwX6_init_2 : List UInt8 := [181, 0, 32, 42, 17, 8, 2, 188, 10, 181, 0, 35, 42, 17, 0, 132, 188, 10, 181, 0, 38, 42, 16, 55]
abbrev dktX6_init_2 : List UInt8 := dkwX6_init_2 ++ dktX6_init_3
def dkwX6_init_1 : List UInt8 := [17, 0, 240, 188, 11, 181, 0, 20, 42, 17, 3, 132, 188, 8, 181, 0, 24, 42, 2, 181, 0, 28, 42, 2]
abbrev dktX6_init_1 : List UInt8 := dkwX6_init_1 ++ dktX6_init_2
def dkwX6_init_0 : List UInt8 := [42, 183, 0, 1, 42, 10, 181, 0, 7, 42, 7, 188, 10, 181, 0, 13, 42, 7, 188, 10, 181, 0, 17, 42]
abbrev dktX6_init_0 : List UInt8 := dkwX6_init_0 ++ dktX6_init_1
theorem dksX6_init_0 : cX6_init.data.toList.drop 0 = dktX6_init_0 := by decide +kernel
theorem dksX6_init_1 : cX6_init.data.toList.drop 24 = dktX6_init_1 := dk_seg dksX6_init_0 24 rfl rfl
theorem dksX6_init_2 : cX6_init.data.toList.drop 48 = dktX6_init_2 := dk_seg dksX6_init_1 24 rfl rfl
theorem dksX6_init_3 : cX6_init.data.toList.drop 72 = dktX6_init_3 := dk_seg dksX6_init_2 24 rfl rfl
theorem dksX6_init_4 : cX6_init.data.toList.drop 95 = dktX6_init_4 := dk_seg dksX6_init_3 23 rfl rfl
theorem dksX6_init_5 : cX6_init.data.toList.drop 119 = dktX6_init_5 := dk_seg dksX6_init_4 24 rfl rfl
theorem dksX6_init_6 : cX6_init.data.toList.drop 143 = dktX6_init_6 := dk_seg dksX6_init_5 24 rfl rfl
theorem dksX6_init_7 : cX6_init.data.toList.drop 166 = dktX6_init_7 := dk_seg dksX6_init_6 23 rfl rfl
theorem dX6_init_0 : decode cX6_init 0 = .ok (.aload_n 0, 1) := dk_42 (dk_at dksX6_init_0 0 rfl rfl)
theorem dX6_init_1 : decode cX6_init 1 = .ok (.invokespecial 1, 3) := dk_183 0 1 (dk_at dksX6_init_0 1 rfl rfl)
theorem dX6_init_4 : decode cX6_init 4 = .ok (.aload_n 0, 1) := dk_42 (dk_at dksX6_init_0 4 rfl rfl)
theorem dX6_init_5 : decode cX6_init 5 = .ok (.lconst 1, 1) := dk_10 (dk_at dksX6_init_0 5 rfl rfl)
theorem dX6_init_6 : decode cX6_init 6 = .ok (.putfield 7, 3) := dk_181 0 7 (dk_at dksX6_init_0 6 rfl rfl)
theorem dX6_init_9 : decode cX6_init 9 = .ok (.aload_n 0, 1) := dk_42 (dk_at dksX6_init_0 9 rfl rfl)
theorem dX6_init_10 : decode cX6_init 10 = .ok (.iconst 4, 1) := dk_7 (dk_at dksX6_init_0 10 rfl rfl)
theorem dX6_init_11 : decode cX6_init 11 = .ok (.newarray .int, 2) := dk_188_10 (dk_at dksX6_init_0 11 rfl rfl)
theorem dX6_init_13 : decode cX6_init 13 = .ok (.putfield 13, 3) := dk_181 0 13 (dk_at dksX6_init_0 13 rfl rfl)
theorem dX6_init_16 : decode cX6_init 16 = .ok (.aload_n 0, 1) := dk_42 (dk_at dksX6_init_0 16 rfl rfl)
theorem dX6_init_17 : decode cX6_init 17 = .ok (.iconst 4, 1) := dk_7 (dk_at dksX6_init_0 17 rfl rfl)
theorem dX6_init_18 : decode cX6_init 18 = .ok (.newarray .int, 2) := dk_188_10 (dk_at dksX6_init_0 18 rfl rfl)
theorem dX6_init_20 : decode cX6_init 20 = .ok (.putfield 17, 3) := dk_181 0 17 (dk_at dksX6_init_0 20 rfl rfl)
theorem dX6_init_23 : decode cX6_init 23 = .ok (.aload_n 0, 1) := dk_42 (dk_at dksX6_init_0 23 rfl rfl)
theorem dX6_init_24 : decode cX6_init 24 = .ok (.sipush 240, 3) := dk_17 0 240 (dk_at dksX6_init_1 0 rfl rfl)
theorem dX6_init_27 : decode cX6_init 27 = .ok (.newarray .long, 2) := dk_188_11 (dk_at dksX6_init_1 3 rfl rfl)
theorem dX6_init_29 : decode cX6_init 29 = .ok (.putfield 20, 3) := dk_181 0 20 (dk_at dksX6_init_1 5 rfl rfl)
theorem dX6_init_32 : decode cX6_init 32 = .ok (.aload_n 0, 1) := dk_42 (dk_at dksX6_init_1 8 rfl rfl)
theorem dX6_init_33 : decode cX6_init 33 = .ok (.sipush 900, 3) := dk_17 3 132 (dk_at dksX6_init_1 9 rfl rfl)
theorem dX6_init_36 : decode cX6_init 36 = .ok (.newarray .byte, 2) := dk_188_8 (dk_at dksX6_init_1 12 rfl rfl)
theorem dX6_init_38 : decode cX6_init 38 = .ok (.putfield 24, 3) := dk_181 0 24 (dk_at dksX6_init_1 14 rfl rfl)
theorem dX6_init_41 : decode cX6_init 41 = .ok (.aload_n 0, 1) := dk_42 (dk_at dksX6_init_1 17 rfl rfl)
theorem dX6_init_42 : decode cX6_init 42 = .ok (.iconst (-1), 1) := dk_2 (dk_at dksX6_init_1 18 rfl rfl)
theorem dX6_init_43 : decode cX6_init 43 = .ok (.putfield 28, 3) := dk_181 0 28 (dk_at dksX6_init_1 19 rfl rfl)
theorem dX6_init_46 : decode cX6_init 46 = .ok (.aload_n 0, 1) := dk_42 (dk_at dksX6_init_1 22 rfl rfl)
theorem dX6_init_47 : decode cX6_init 47 = .ok (.iconst (-1), 1) := dk_2 (dk_at dksX6_init_1 23 rfl rfl)
theorem dX6_init_48 : decode cX6_init 48 = .ok (.putfield 32, 3) := dk_181 0 32 (dk_at dksX6_init_2 0 rfl rfl)
theorem dX6_init_51 : decode cX6_init 51 = .ok (.aload_n 0, 1) := dk_42 (dk_at dksX6_init_2 3 rfl rfl)
theorem dX6_init_52 : decode cX6_init 52 = .ok (.sipush 2050, 3) := dk_17 8 2 (dk_at dksX6_init_2 4 rfl rfl)
theorem dX6_init_55 : decode cX6_init 55 = .ok (.newarray .int, 2) := dk_188_10 (dk_at dksX6_init_2 7 rfl rfl)
theorem dX6_init_57 : decode cX6_init 57 = .ok (.putfield 35, 3) := dk_181 0 35 (dk_at dksX6_init_2 9 rfl rfl)
theorem dX6_init_60 : decode cX6_init 60 = .ok (.aload_n 0, 1) := dk_42 (dk_at dksX6_init_2 12 rfl rfl)
theorem dX6_init_61 : decode cX6_init 61 = .ok (.sipush 132, 3) := dk_17 0 132 (dk_at dksX6_init_2 13 rfl rfl)
theorem dX6_init_64 : decode cX6_init 64 = .ok (.newarray .int, 2) := dk_188_10 (dk_at dksX6_init_2 16 rfl rfl)
theorem dX6_init_66 : decode cX6_init 66 = .ok (.putfield 38, 3) := dk_181 0 38 (dk_at dksX6_init_2 18 rfl rfl)
theorem dX6_init_69 : decode cX6_init 69 = .ok (.aload_n 0, 1) := dk_42 (dk_at dksX6_init_2 21 rfl rfl)
theorem dX6_init_70 : decode cX6_init 70 = .ok (.bipush 55, 2) := dk_16 55 (dk_at dksX6_init_2 22 rfl rfl)
theorem dX6_init_72 : decode cX6_init 72 = .ok (.newarray .long, 2) := dk_188_11 (dk_at dksX6_init_3 0 rfl rfl)
theorem dX6_init_74 : decode cX6_init 74 = .ok (.putfield 41, 3) := dk_181 0 41 (dk_at dksX6_init_3 2 rfl rfl)
theorem dX6_init_77 : decode cX6_init 77 = .ok (.aload_n 0, 1) := dk_42 (dk_at dksX6_init_3 5 rfl rfl)
theorem dX6_init_78 : decode cX6_init 78 = .ok (.bipush 24, 2) := dk_16 24 (dk_at dksX6_init_3 6 rfl rfl)
theorem dX6_init_80 : decode cX6_init 80 = .ok (.newarray .int, 2) := dk_188_10 (dk_at dksX6_init_3 8 rfl rfl)
theorem dX6_init_82 : decode cX6_init 82 = .ok (.putfield 44, 3) := dk_181 0 44 (dk_at dksX6_init_3 10 rfl rfl)
theorem dX6_init_85 : decode cX6_init 85 = .ok (.aload_n 0, 1) := dk_42 (dk_at dksX6_init_3 13 rfl rfl)
theorem dX6_init_86 : decode cX6_init 86 = .ok (.bipush 24, 2) := dk_16 24 (dk_at dksX6_init_3 14 rfl rfl)
theorem dX6_init_88 : decode cX6_init 88 = .ok (.newarray .int, 2) := dk_188_10 (dk_at dksX6_init_3 16 rfl rfl)
theorem dX6_init_90 : decode cX6_init 90 = .ok (.putfield 47, 3) := dk_181 0 47 (dk_at dksX6_init_3 18 rfl rfl)
theorem dX6_init_93 : decode cX6_init 93 = .ok (.aload_n 0, 1) := dk_42 (dk_at dksX6_init_3 21 rfl rfl)
theorem dX6_init_94 : decode cX6_init 94 = .ok (.iconst 4, 1) := dk_7 (dk_at dksX6_init_3 22 rfl rfl)
theorem dX6_init_95 : decode cX6_init 95 = .ok (.newarray .int, 2) := dk_188_10 (dk_at dksX6_init_4 0 rfl rfl)
theorem dX6_init_97 : decode cX6_init 97 = .ok (.putfield 50, 3) := dk_181 0 50 (dk_at dksX6_init_4 2 rfl rfl)
theorem dX6_init_100 : decode cX6_init 100 = .ok (.aload_n 0, 1) := dk_42 (dk_at dksX6_init_4 5 rfl rfl)
theorem dX6_init_101 : decode cX6_init 101 = .ok (.iconst 4, 1) := dk_7 (dk_at dksX6_init_4 6 rfl rfl)
theorem dX6_init_102 : decode cX6_init 102 = .ok (.newarray .int, 2) := dk_188_10 (dk_at dksX6_init_4 7 rfl rfl)
theorem dX6_init_104 : decode cX6_init 104 = .ok (.putfield 53, 3) := dk_181 0 53 (dk_at dksX6_init_4 9 rfl rfl)
theorem dX6_init_107 : decode cX6_init 107 = .ok (.aload_n 0, 1) := dk_42 (dk_at dksX6_init_4 12 rfl rfl)
theorem dX6_init_108 : decode cX6_init 108 = .ok (.sipush 256, 3) := dk_17 1 0 (dk_at dksX6_init_4 13 rfl rfl)
theorem dX6_init_111 : decode cX6_init 111 = .ok (.newarray .int, 2) := dk_188_10 (dk_at dksX6_init_4 16 rfl rfl)
theorem dX6_init_113 : decode cX6_init 113 = .ok (.putfield 56, 3) := dk_181 0 56 (dk_at dksX6_init_4 18 rfl rfl)
theorem dX6_init_116 : decode cX6_init 116 = .ok (.aload_n 0, 1) := dk_42 (dk_at dksX6_init_4 21 rfl rfl)
theorem dX6_init_117 : decode cX6_init 117 = .ok (.bipush 8, 2) := dk_16 8 (dk_at dksX6_init_4 22 rfl rfl)
theorem dX6_init_119 : decode cX6_init 119 = .ok (.newarray .int, 2) := dk_188_10 (dk_at dksX6_init_5 0 rfl rfl)
theorem dX6_init_121 : decode cX6_init 121 = .ok (.putfield 59, 3) := dk_181 0 59 (dk_at dksX6_init_5 2 rfl rfl)
theorem dX6_init_124 : decode cX6_init 124 = .ok (.aload_n 0, 1) := dk_42 (dk_at dksX6_init_5 5 rfl rfl)
theorem dX6_init_125 : decode cX6_init 125 = .ok (.bipush 8, 2) := dk_16 8 (dk_at dksX6_init_5 6 rfl rfl)
theorem dX6_init_127 : decode cX6_init 127 = .ok (.newarray .int, 2) := dk_188_10 (dk_at dksX6_init_5 8 rfl rfl)
theorem dX6_init_129 : decode cX6_init 129 = .ok (.putfield 62, 3) := dk_181 0 62 (dk_at dksX6_init_5 10 rfl rfl)
theorem dX6_init_132 : decode cX6_init 132 = .ok (.aload_n 0, 1) := dk_42 (dk_at dksX6_init_5 13 rfl rfl)
theorem dX6_init_133 : decode cX6_init 133 = .ok (.sipush 132, 3) := dk_17 0 132 (dk_at dksX6_init_5 14 rfl rfl)
theorem dX6_init_136 : decode cX6_init 136 = .ok (.newarray .int, 2) := dk_188_10 (dk_at dksX6_init_5 17 rfl rfl)
theorem dX6_init_138 : decode cX6_init 138 = .ok (.putfield 65, 3) := dk_181 0 65 (dk_at dksX6_init_5 19 rfl rfl)
theorem dX6_init_141 : decode cX6_init 141 = .ok (.aload_n 0, 1) := dk_42 (dk_at dksX6_init_5 22 rfl rfl)
theorem dX6_init_142 : decode cX6_init 142 = .ok (.iconst (-1), 1) := dk_2 (dk_at dksX6_init_5 23 rfl rfl)
theorem dX6_init_143 : decode cX6_init 143 = .ok (.putfield 68, 3) := dk_181 0 68 (dk_at dksX6_init_6 0 rfl rfl)
theorem dX6_init_146 : decode cX6_init 146 = .ok (.aload_n 0, 1) := dk_42 (dk_at dksX6_init_6 3 rfl rfl)
theorem dX6_init_147 : decode cX6_init 147 = .ok (.iconst 5, 1) := dk_8 (dk_at dksX6_init_6 4 rfl rfl)
theorem dX6_init_148 : decode cX6_init 148 = .ok (.newarray .int, 2) := dk_188_10 (dk_at dksX6_init_6 5 rfl rfl)
theorem dX6_init_150 : decode cX6_init 150 = .ok (.putfield 71, 3) := dk_181 0 71 (dk_at dksX6_init_6 7 rfl rfl)
theorem dX6_init_153 : decode cX6_init 153 = .ok (.aload_n 0, 1) := dk_42 (dk_at dksX6_init_6 10 rfl rfl)
theorem dX6_init_154 : decode cX6_init 154 = .ok (.sipush 132, 3) := dk_17 0 132 (dk_at dksX6_init_6 11 rfl rfl)
theorem dX6_init_157 : decode cX6_init 157 = .ok (.newarray .int, 2) := dk_188_10 (dk_at dksX6_init_6 14 rfl rfl)
theorem dX6_init_159 : decode cX6_init 159 = .ok (.putfield 74, 3) := dk_181 0 74 (dk_at dksX6_init_6 16 rfl rfl)
theorem dX6_init_162 : decode cX6_init 162 = .ok (.iconst 0, 1) := dk_3 (dk_at dksX6_init_6 19 rfl rfl)
theorem dX6_init_163 : decode cX6_init 163 = .ok (.istore_n 1, 1) := dk_60 (dk_at dksX6_init_6 20 rfl rfl)
theorem dX6_init_164 : decode cX6_init 164 = .ok (.iload_n 1, 1) := dk_27 (dk_at dksX6_init_6 21 rfl rfl)
theorem dX6_init_165 : decode cX6_init 165 = .ok (.iconst 4, 1) := dk_7 (dk_at dksX6_init_6 22 rfl rfl)
theorem dX6_init_166 : decode cX6_init 166 = .ok (.if_icmp .ge 16, 3) := dk_162 0 16 (dk_at dksX6_init_7 0 rfl rfl)
theorem dX6_init_169 : decode cX6_init 169 = .ok (.aload_n 0, 1) := dk_42 (dk_at dksX6_init_7 3 rfl rfl)
theorem dX6_init_170 : decode cX6_init 170 = .ok (.getfield 17, 3) := dk_180 0 17 (dk_at dksX6_init_7 4 rfl rfl)
theorem dX6_init_173 : decode cX6_init 173 = .ok (.iload_n 1, 1) := dk_27 (dk_at dksX6_init_7 7 rfl rfl)
theorem dX6_init_174 : decode cX6_init 174 = .ok (.iconst (-1), 1) := dk_2 (dk_at dksX6_init_7 8 rfl rfl)
theorem dX6_init_175 : decode cX6_init 175 = .ok (.iastore, 1) := dk_79 (dk_at dksX6_init_7 9 rfl rfl)
theorem dX6_init_176 : decode cX6_init 176 = .ok (.iinc 1 1, 3) := dk_132 1 1 (dk_at dksX6_init_7 10 rfl rfl)
theorem dX6_init_179 : decode cX6_init 179 = .ok (.goto (-15), 3) := dk_167 255 241 (dk_at dksX6_init_7 13 rfl rfl)
theorem dX6_init_182 : decode cX6_init 182 = .ok (.return_, 1) := dk_177 (dk_at dksX6_init_7 16 rfl rfl)
abbrev cX6_status : ByteArray := prog_16_method_3_code
def yX6_status : MethodName := ⟨RX6, "status", "()I"⟩
def dkwX6_status_0 : List UInt8 := [42, 3, 181, 0, 77, 42, 180, 0, 80, 172]
abbrev dktX6_status_0 : List UInt8 := dkwX6_status_0 ++ []
theorem dksX6_status_0 : cX6_status.data.toList.drop 0 = dktX6_status_0 := by decide +kernel
theorem dX6_status_0 : decode cX6_status 0 = .ok (.aload_n 0, 1) := dk_42 (dk_at dksX6_status_0 0 rfl rfl)
theorem dX6_status_1 : decode cX6_status 1 = .ok (.iconst 0, 1) := dk_3 (dk_at dksX6_status_0 1 rfl rfl)
theorem dX6_status_2 : decode cX6_status 2 = .ok (.putfield 77, 3) := dk_181 0 77 (dk_at dksX6_status_0 2 rfl rfl)
theorem dX6_status_5 : decode cX6_status 5 = .ok (.aload_n 0, 1) := dk_42 (dk_at dksX6_status_0 5 rfl rfl)
theorem dX6_status_6 : decode cX6_status 6 = .ok (.getfield 80, 3) := dk_180 0 80 (dk_at dksX6_status_0 6 rfl rfl)
theorem dX6_status_9 : decode cX6_status 9 = .ok (.ireturn, 1) := dk_172 (dk_at dksX6_status_0 9 rfl rfl)
abbrev cX6_top : ByteArray := prog_16_method_4_code
def yX6_top : MethodName := ⟨RX6, "top", "()J"⟩
def dkwX6_top_0 : List UInt8 := [42, 3, 181, 0, 77, 42, 180, 0, 83, 173]
abbrev dktX6_top_0 : List UInt8 := dkwX6_top_0 ++ []
theorem dksX6_top_0 : cX6_top.data.toList.drop 0 = dktX6_top_0 := by decide +kernel
theorem dX6_top_0 : decode cX6_top 0 = .ok (.aload_n 0, 1) := dk_42 (dk_at dksX6_top_0 0 rfl rfl)
theorem dX6_top_1 : decode cX6_top 1 = .ok (.iconst 0, 1) := dk_3 (dk_at dksX6_top_0 1 rfl rfl)
theorem dX6_top_2 : decode cX6_top 2 = .ok (.putfield 77, 3) := dk_181 0 77 (dk_at dksX6_top_0 2 rfl rfl)
theorem dX6_top_5 : decode cX6_top 5 = .ok (.aload_n 0, 1) := dk_42 (dk_at dksX6_top_0 5 rfl rfl)
theorem dX6_top_6 : decode cX6_top 6 = .ok (.getfield 83, 3) := dk_180 0 83 (dk_at dksX6_top_0 6 rfl rfl)
theorem dX6_top_9 : decode cX6_top 9 = .ok (.lreturn, 1) := dk_173 (dk_at dksX6_top_0 9 rfl rfl)
abbrev cX6_bottom : ByteArray := prog_16_method_5_code
def yX6_bottom : MethodName := ⟨RX6, "bottom", "()J"⟩
def dkwX6_bottom_0 : List UInt8 := [42, 3, 181, 0, 77, 42, 180, 0, 7, 173]
abbrev dktX6_bottom_0 : List UInt8 := dkwX6_bottom_0 ++ []
theorem dksX6_bottom_0 : cX6_bottom.data.toList.drop 0 = dktX6_bottom_0 := by decide +kernel
theorem dX6_bottom_0 : decode cX6_bottom 0 = .ok (.aload_n 0, 1) := dk_42 (dk_at dksX6_bottom_0 0 rfl rfl)
theorem dX6_bottom_1 : decode cX6_bottom 1 = .ok (.iconst 0, 1) := dk_3 (dk_at dksX6_bottom_0 1 rfl rfl)
theorem dX6_bottom_2 : decode cX6_bottom 2 = .ok (.putfield 77, 3) := dk_181 0 77 (dk_at dksX6_bottom_0 2 rfl rfl)
theorem dX6_bottom_5 : decode cX6_bottom 5 = .ok (.aload_n 0, 1) := dk_42 (dk_at dksX6_bottom_0 5 rfl rfl)
theorem dX6_bottom_6 : decode cX6_bottom 6 = .ok (.getfield 7, 3) := dk_180 0 7 (dk_at dksX6_bottom_0 6 rfl rfl)
theorem dX6_bottom_9 : decode cX6_bottom 9 = .ok (.lreturn, 1) := dk_173 (dk_at dksX6_bottom_0 9 rfl rfl)
abbrev cX6_tray : ByteArray := prog_16_method_11_code
def yX6_tray : MethodName := ⟨RX6, "tray", "(III)Z"⟩
def dkwX6_tray_4 : List UInt8 := [132, 4, 1, 167, 255, 234, 4, 172]
abbrev dktX6_tray_4 : List UInt8 := dkwX6_tray_4 ++ []
def dkwX6_tray_3 : List UInt8 := [3, 54, 4, 21, 4, 29, 162, 0, 22, 42, 180, 0, 20, 16, 60, 27, 104, 21, 4, 96, 9, 80]
abbrev dktX6_tray_3 : List UInt8 := dkwX6_tray_3 ++ dktX6_tray_4
def dkwX6_tray_2 : List UInt8 := [156, 0, 10, 42, 16, 6, 182, 0, 92, 172, 42, 180, 0, 13, 27, 28, 79, 42, 180, 0, 17, 27, 29, 79]
abbrev dktX6_tray_2 : List UInt8 := dkwX6_tray_2 ++ dktX6_tray_3
def dkwX6_tray_1 : List UInt8 := [6, 164, 0, 9, 42, 4, 182, 0, 92, 172, 29, 16, 60, 164, 0, 9, 42, 8, 182, 0, 92, 172, 29]
abbrev dktX6_tray_1 : List UInt8 := dkwX6_tray_1 ++ dktX6_tray_2
def dkwX6_tray_0 : List UInt8 := [42, 3, 181, 0, 77, 42, 3, 181, 0, 80, 27, 155, 0, 17, 27, 7, 162, 0, 12, 28, 155, 0, 8, 28]
abbrev dktX6_tray_0 : List UInt8 := dkwX6_tray_0 ++ dktX6_tray_1
theorem dksX6_tray_0 : cX6_tray.data.toList.drop 0 = dktX6_tray_0 := by decide +kernel
theorem dksX6_tray_1 : cX6_tray.data.toList.drop 24 = dktX6_tray_1 := dk_seg dksX6_tray_0 24 rfl rfl
theorem dksX6_tray_2 : cX6_tray.data.toList.drop 47 = dktX6_tray_2 := dk_seg dksX6_tray_1 23 rfl rfl
theorem dksX6_tray_3 : cX6_tray.data.toList.drop 71 = dktX6_tray_3 := dk_seg dksX6_tray_2 24 rfl rfl
theorem dksX6_tray_4 : cX6_tray.data.toList.drop 93 = dktX6_tray_4 := dk_seg dksX6_tray_3 22 rfl rfl
theorem dX6_tray_0 : decode cX6_tray 0 = .ok (.aload_n 0, 1) := dk_42 (dk_at dksX6_tray_0 0 rfl rfl)
theorem dX6_tray_1 : decode cX6_tray 1 = .ok (.iconst 0, 1) := dk_3 (dk_at dksX6_tray_0 1 rfl rfl)
theorem dX6_tray_2 : decode cX6_tray 2 = .ok (.putfield 77, 3) := dk_181 0 77 (dk_at dksX6_tray_0 2 rfl rfl)
theorem dX6_tray_5 : decode cX6_tray 5 = .ok (.aload_n 0, 1) := dk_42 (dk_at dksX6_tray_0 5 rfl rfl)
theorem dX6_tray_6 : decode cX6_tray 6 = .ok (.iconst 0, 1) := dk_3 (dk_at dksX6_tray_0 6 rfl rfl)
theorem dX6_tray_7 : decode cX6_tray 7 = .ok (.putfield 80, 3) := dk_181 0 80 (dk_at dksX6_tray_0 7 rfl rfl)
theorem dX6_tray_10 : decode cX6_tray 10 = .ok (.iload_n 1, 1) := dk_27 (dk_at dksX6_tray_0 10 rfl rfl)
theorem dX6_tray_11 : decode cX6_tray 11 = .ok (.ifCond .lt 17, 3) := dk_155 0 17 (dk_at dksX6_tray_0 11 rfl rfl)
theorem dX6_tray_14 : decode cX6_tray 14 = .ok (.iload_n 1, 1) := dk_27 (dk_at dksX6_tray_0 14 rfl rfl)
theorem dX6_tray_15 : decode cX6_tray 15 = .ok (.iconst 4, 1) := dk_7 (dk_at dksX6_tray_0 15 rfl rfl)
theorem dX6_tray_16 : decode cX6_tray 16 = .ok (.if_icmp .ge 12, 3) := dk_162 0 12 (dk_at dksX6_tray_0 16 rfl rfl)
theorem dX6_tray_19 : decode cX6_tray 19 = .ok (.iload_n 2, 1) := dk_28 (dk_at dksX6_tray_0 19 rfl rfl)
theorem dX6_tray_20 : decode cX6_tray 20 = .ok (.ifCond .lt 8, 3) := dk_155 0 8 (dk_at dksX6_tray_0 20 rfl rfl)
theorem dX6_tray_23 : decode cX6_tray 23 = .ok (.iload_n 2, 1) := dk_28 (dk_at dksX6_tray_0 23 rfl rfl)
theorem dX6_tray_24 : decode cX6_tray 24 = .ok (.iconst 3, 1) := dk_6 (dk_at dksX6_tray_1 0 rfl rfl)
theorem dX6_tray_25 : decode cX6_tray 25 = .ok (.if_icmp .le 9, 3) := dk_164 0 9 (dk_at dksX6_tray_1 1 rfl rfl)
theorem dX6_tray_28 : decode cX6_tray 28 = .ok (.aload_n 0, 1) := dk_42 (dk_at dksX6_tray_1 4 rfl rfl)
theorem dX6_tray_29 : decode cX6_tray 29 = .ok (.iconst 1, 1) := dk_4 (dk_at dksX6_tray_1 5 rfl rfl)
theorem dX6_tray_30 : decode cX6_tray 30 = .ok (.invokevirtual 92, 3) := dk_182 0 92 (dk_at dksX6_tray_1 6 rfl rfl)
theorem dX6_tray_33 : decode cX6_tray 33 = .ok (.ireturn, 1) := dk_172 (dk_at dksX6_tray_1 9 rfl rfl)
theorem dX6_tray_34 : decode cX6_tray 34 = .ok (.iload_n 3, 1) := dk_29 (dk_at dksX6_tray_1 10 rfl rfl)
theorem dX6_tray_35 : decode cX6_tray 35 = .ok (.bipush 60, 2) := dk_16 60 (dk_at dksX6_tray_1 11 rfl rfl)
theorem dX6_tray_37 : decode cX6_tray 37 = .ok (.if_icmp .le 9, 3) := dk_164 0 9 (dk_at dksX6_tray_1 13 rfl rfl)
theorem dX6_tray_40 : decode cX6_tray 40 = .ok (.aload_n 0, 1) := dk_42 (dk_at dksX6_tray_1 16 rfl rfl)
theorem dX6_tray_41 : decode cX6_tray 41 = .ok (.iconst 5, 1) := dk_8 (dk_at dksX6_tray_1 17 rfl rfl)
theorem dX6_tray_42 : decode cX6_tray 42 = .ok (.invokevirtual 92, 3) := dk_182 0 92 (dk_at dksX6_tray_1 18 rfl rfl)
theorem dX6_tray_45 : decode cX6_tray 45 = .ok (.ireturn, 1) := dk_172 (dk_at dksX6_tray_1 21 rfl rfl)
theorem dX6_tray_46 : decode cX6_tray 46 = .ok (.iload_n 3, 1) := dk_29 (dk_at dksX6_tray_1 22 rfl rfl)
theorem dX6_tray_47 : decode cX6_tray 47 = .ok (.ifCond .ge 10, 3) := dk_156 0 10 (dk_at dksX6_tray_2 0 rfl rfl)
theorem dX6_tray_50 : decode cX6_tray 50 = .ok (.aload_n 0, 1) := dk_42 (dk_at dksX6_tray_2 3 rfl rfl)
theorem dX6_tray_51 : decode cX6_tray 51 = .ok (.bipush 6, 2) := dk_16 6 (dk_at dksX6_tray_2 4 rfl rfl)
theorem dX6_tray_53 : decode cX6_tray 53 = .ok (.invokevirtual 92, 3) := dk_182 0 92 (dk_at dksX6_tray_2 6 rfl rfl)
theorem dX6_tray_56 : decode cX6_tray 56 = .ok (.ireturn, 1) := dk_172 (dk_at dksX6_tray_2 9 rfl rfl)
theorem dX6_tray_57 : decode cX6_tray 57 = .ok (.aload_n 0, 1) := dk_42 (dk_at dksX6_tray_2 10 rfl rfl)
theorem dX6_tray_58 : decode cX6_tray 58 = .ok (.getfield 13, 3) := dk_180 0 13 (dk_at dksX6_tray_2 11 rfl rfl)
theorem dX6_tray_61 : decode cX6_tray 61 = .ok (.iload_n 1, 1) := dk_27 (dk_at dksX6_tray_2 14 rfl rfl)
theorem dX6_tray_62 : decode cX6_tray 62 = .ok (.iload_n 2, 1) := dk_28 (dk_at dksX6_tray_2 15 rfl rfl)
theorem dX6_tray_63 : decode cX6_tray 63 = .ok (.iastore, 1) := dk_79 (dk_at dksX6_tray_2 16 rfl rfl)
theorem dX6_tray_64 : decode cX6_tray 64 = .ok (.aload_n 0, 1) := dk_42 (dk_at dksX6_tray_2 17 rfl rfl)
theorem dX6_tray_65 : decode cX6_tray 65 = .ok (.getfield 17, 3) := dk_180 0 17 (dk_at dksX6_tray_2 18 rfl rfl)
theorem dX6_tray_68 : decode cX6_tray 68 = .ok (.iload_n 1, 1) := dk_27 (dk_at dksX6_tray_2 21 rfl rfl)
theorem dX6_tray_69 : decode cX6_tray 69 = .ok (.iload_n 3, 1) := dk_29 (dk_at dksX6_tray_2 22 rfl rfl)
theorem dX6_tray_70 : decode cX6_tray 70 = .ok (.iastore, 1) := dk_79 (dk_at dksX6_tray_2 23 rfl rfl)
theorem dX6_tray_71 : decode cX6_tray 71 = .ok (.iconst 0, 1) := dk_3 (dk_at dksX6_tray_3 0 rfl rfl)
theorem dX6_tray_72 : decode cX6_tray 72 = .ok (.istore 4, 2) := dk_54 4 (dk_at dksX6_tray_3 1 rfl rfl)
theorem dX6_tray_74 : decode cX6_tray 74 = .ok (.iload 4, 2) := dk_21 4 (dk_at dksX6_tray_3 3 rfl rfl)
theorem dX6_tray_76 : decode cX6_tray 76 = .ok (.iload_n 3, 1) := dk_29 (dk_at dksX6_tray_3 5 rfl rfl)
theorem dX6_tray_77 : decode cX6_tray 77 = .ok (.if_icmp .ge 22, 3) := dk_162 0 22 (dk_at dksX6_tray_3 6 rfl rfl)
theorem dX6_tray_80 : decode cX6_tray 80 = .ok (.aload_n 0, 1) := dk_42 (dk_at dksX6_tray_3 9 rfl rfl)
theorem dX6_tray_81 : decode cX6_tray 81 = .ok (.getfield 20, 3) := dk_180 0 20 (dk_at dksX6_tray_3 10 rfl rfl)
theorem dX6_tray_84 : decode cX6_tray 84 = .ok (.bipush 60, 2) := dk_16 60 (dk_at dksX6_tray_3 13 rfl rfl)
theorem dX6_tray_86 : decode cX6_tray 86 = .ok (.iload_n 1, 1) := dk_27 (dk_at dksX6_tray_3 15 rfl rfl)
theorem dX6_tray_87 : decode cX6_tray 87 = .ok (.imul, 1) := dk_104 (dk_at dksX6_tray_3 16 rfl rfl)
theorem dX6_tray_88 : decode cX6_tray 88 = .ok (.iload 4, 2) := dk_21 4 (dk_at dksX6_tray_3 17 rfl rfl)
theorem dX6_tray_90 : decode cX6_tray 90 = .ok (.iadd, 1) := dk_96 (dk_at dksX6_tray_3 19 rfl rfl)
theorem dX6_tray_91 : decode cX6_tray 91 = .ok (.lconst 0, 1) := dk_9 (dk_at dksX6_tray_3 20 rfl rfl)
theorem dX6_tray_92 : decode cX6_tray 92 = .ok (.lastore, 1) := dk_80 (dk_at dksX6_tray_3 21 rfl rfl)
theorem dX6_tray_93 : decode cX6_tray 93 = .ok (.iinc 4 1, 3) := dk_132 4 1 (dk_at dksX6_tray_4 0 rfl rfl)
theorem dX6_tray_96 : decode cX6_tray 96 = .ok (.goto (-22), 3) := dk_167 255 234 (dk_at dksX6_tray_4 3 rfl rfl)
theorem dX6_tray_99 : decode cX6_tray 99 = .ok (.iconst 1, 1) := dk_4 (dk_at dksX6_tray_4 6 rfl rfl)
theorem dX6_tray_100 : decode cX6_tray 100 = .ok (.ireturn, 1) := dk_172 (dk_at dksX6_tray_4 7 rfl rfl)
abbrev cX6_no : ByteArray := prog_16_method_7_code
def yX6_no : MethodName := ⟨RX6, "no", "(I)Z"⟩
def dkwX6_no_0 : List UInt8 := [42, 27, 181, 0, 80, 3, 172]
abbrev dktX6_no_0 : List UInt8 := dkwX6_no_0 ++ []
theorem dksX6_no_0 : cX6_no.data.toList.drop 0 = dktX6_no_0 := by decide +kernel
theorem dX6_no_0 : decode cX6_no 0 = .ok (.aload_n 0, 1) := dk_42 (dk_at dksX6_no_0 0 rfl rfl)
theorem dX6_no_1 : decode cX6_no 1 = .ok (.iload_n 1, 1) := dk_27 (dk_at dksX6_no_0 1 rfl rfl)
theorem dX6_no_2 : decode cX6_no 2 = .ok (.putfield 80, 3) := dk_181 0 80 (dk_at dksX6_no_0 2 rfl rfl)
theorem dX6_no_5 : decode cX6_no 5 = .ok (.iconst 0, 1) := dk_3 (dk_at dksX6_no_0 5 rfl rfl)
theorem dX6_no_6 : decode cX6_no 6 = .ok (.ireturn, 1) := dk_172 (dk_at dksX6_no_0 6 rfl rfl)
abbrev cX6_write : ByteArray := prog_16_method_14_code
def yX6_write : MethodName := ⟨RX6, "write", "(IIJ)Z"⟩
def dkwX6_write_1 : List UInt8 := [42, 180, 0, 20, 16, 60, 27, 104, 28, 96, 42, 180, 0, 13, 27, 46, 33, 184, 0, 104, 80, 4, 172]
abbrev dktX6_write_1 : List UInt8 := dkwX6_write_1 ++ []
def dkwX6_write_0 : List UInt8 := [42, 3, 181, 0, 77, 42, 42, 27, 28, 182, 0, 100, 181, 0, 80, 42, 180, 0, 80, 158, 0, 5, 3, 172]
abbrev dktX6_write_0 : List UInt8 := dkwX6_write_0 ++ dktX6_write_1
theorem dksX6_write_0 : cX6_write.data.toList.drop 0 = dktX6_write_0 := by decide +kernel
theorem dksX6_write_1 : cX6_write.data.toList.drop 24 = dktX6_write_1 := dk_seg dksX6_write_0 24 rfl rfl
theorem dX6_write_0 : decode cX6_write 0 = .ok (.aload_n 0, 1) := dk_42 (dk_at dksX6_write_0 0 rfl rfl)
theorem dX6_write_1 : decode cX6_write 1 = .ok (.iconst 0, 1) := dk_3 (dk_at dksX6_write_0 1 rfl rfl)
theorem dX6_write_2 : decode cX6_write 2 = .ok (.putfield 77, 3) := dk_181 0 77 (dk_at dksX6_write_0 2 rfl rfl)
theorem dX6_write_5 : decode cX6_write 5 = .ok (.aload_n 0, 1) := dk_42 (dk_at dksX6_write_0 5 rfl rfl)
theorem dX6_write_6 : decode cX6_write 6 = .ok (.aload_n 0, 1) := dk_42 (dk_at dksX6_write_0 6 rfl rfl)
theorem dX6_write_7 : decode cX6_write 7 = .ok (.iload_n 1, 1) := dk_27 (dk_at dksX6_write_0 7 rfl rfl)
theorem dX6_write_8 : decode cX6_write 8 = .ok (.iload_n 2, 1) := dk_28 (dk_at dksX6_write_0 8 rfl rfl)
theorem dX6_write_9 : decode cX6_write 9 = .ok (.invokevirtual 100, 3) := dk_182 0 100 (dk_at dksX6_write_0 9 rfl rfl)
theorem dX6_write_12 : decode cX6_write 12 = .ok (.putfield 80, 3) := dk_181 0 80 (dk_at dksX6_write_0 12 rfl rfl)
theorem dX6_write_15 : decode cX6_write 15 = .ok (.aload_n 0, 1) := dk_42 (dk_at dksX6_write_0 15 rfl rfl)
theorem dX6_write_16 : decode cX6_write 16 = .ok (.getfield 80, 3) := dk_180 0 80 (dk_at dksX6_write_0 16 rfl rfl)
theorem dX6_write_19 : decode cX6_write 19 = .ok (.ifCond .le 5, 3) := dk_158 0 5 (dk_at dksX6_write_0 19 rfl rfl)
theorem dX6_write_22 : decode cX6_write 22 = .ok (.iconst 0, 1) := dk_3 (dk_at dksX6_write_0 22 rfl rfl)
theorem dX6_write_23 : decode cX6_write 23 = .ok (.ireturn, 1) := dk_172 (dk_at dksX6_write_0 23 rfl rfl)
theorem dX6_write_24 : decode cX6_write 24 = .ok (.aload_n 0, 1) := dk_42 (dk_at dksX6_write_1 0 rfl rfl)
theorem dX6_write_25 : decode cX6_write 25 = .ok (.getfield 20, 3) := dk_180 0 20 (dk_at dksX6_write_1 1 rfl rfl)
theorem dX6_write_28 : decode cX6_write 28 = .ok (.bipush 60, 2) := dk_16 60 (dk_at dksX6_write_1 4 rfl rfl)
theorem dX6_write_30 : decode cX6_write 30 = .ok (.iload_n 1, 1) := dk_27 (dk_at dksX6_write_1 6 rfl rfl)
theorem dX6_write_31 : decode cX6_write 31 = .ok (.imul, 1) := dk_104 (dk_at dksX6_write_1 7 rfl rfl)
theorem dX6_write_32 : decode cX6_write 32 = .ok (.iload_n 2, 1) := dk_28 (dk_at dksX6_write_1 8 rfl rfl)
theorem dX6_write_33 : decode cX6_write 33 = .ok (.iadd, 1) := dk_96 (dk_at dksX6_write_1 9 rfl rfl)
theorem dX6_write_34 : decode cX6_write 34 = .ok (.aload_n 0, 1) := dk_42 (dk_at dksX6_write_1 10 rfl rfl)
theorem dX6_write_35 : decode cX6_write 35 = .ok (.getfield 13, 3) := dk_180 0 13 (dk_at dksX6_write_1 11 rfl rfl)
theorem dX6_write_38 : decode cX6_write 38 = .ok (.iload_n 1, 1) := dk_27 (dk_at dksX6_write_1 14 rfl rfl)
theorem dX6_write_39 : decode cX6_write 39 = .ok (.iaload, 1) := dk_46 (dk_at dksX6_write_1 15 rfl rfl)
theorem dX6_write_40 : decode cX6_write 40 = .ok (.lload_n 3, 1) := dk_33 (dk_at dksX6_write_1 16 rfl rfl)
theorem dX6_write_41 : decode cX6_write 41 = .ok (.invokestatic 104, 3) := dk_184 0 104 (dk_at dksX6_write_1 17 rfl rfl)
theorem dX6_write_44 : decode cX6_write 44 = .ok (.lastore, 1) := dk_80 (dk_at dksX6_write_1 20 rfl rfl)
theorem dX6_write_45 : decode cX6_write 45 = .ok (.iconst 1, 1) := dk_4 (dk_at dksX6_write_1 21 rfl rfl)
theorem dX6_write_46 : decode cX6_write 46 = .ok (.ireturn, 1) := dk_172 (dk_at dksX6_write_1 22 rfl rfl)
abbrev cX6_placed : ByteArray := prog_16_method_13_code
def yX6_placed : MethodName := ⟨RX6, "placed", "(II)I"⟩
def dkwX6_placed_1 : List UInt8 := [46, 161, 0, 7, 7, 167, 0, 4, 3, 172]
abbrev dktX6_placed_1 : List UInt8 := dkwX6_placed_1 ++ []
def dkwX6_placed_0 : List UInt8 := [42, 27, 182, 0, 96, 62, 29, 158, 0, 7, 29, 167, 0, 22, 28, 155, 0, 13, 28, 42, 180, 0, 17, 27]
abbrev dktX6_placed_0 : List UInt8 := dkwX6_placed_0 ++ dktX6_placed_1
theorem dksX6_placed_0 : cX6_placed.data.toList.drop 0 = dktX6_placed_0 := by decide +kernel
theorem dksX6_placed_1 : cX6_placed.data.toList.drop 24 = dktX6_placed_1 := dk_seg dksX6_placed_0 24 rfl rfl
theorem dX6_placed_0 : decode cX6_placed 0 = .ok (.aload_n 0, 1) := dk_42 (dk_at dksX6_placed_0 0 rfl rfl)
theorem dX6_placed_1 : decode cX6_placed 1 = .ok (.iload_n 1, 1) := dk_27 (dk_at dksX6_placed_0 1 rfl rfl)
theorem dX6_placed_2 : decode cX6_placed 2 = .ok (.invokevirtual 96, 3) := dk_182 0 96 (dk_at dksX6_placed_0 2 rfl rfl)
theorem dX6_placed_5 : decode cX6_placed 5 = .ok (.istore_n 3, 1) := dk_62 (dk_at dksX6_placed_0 5 rfl rfl)
theorem dX6_placed_6 : decode cX6_placed 6 = .ok (.iload_n 3, 1) := dk_29 (dk_at dksX6_placed_0 6 rfl rfl)
theorem dX6_placed_7 : decode cX6_placed 7 = .ok (.ifCond .le 7, 3) := dk_158 0 7 (dk_at dksX6_placed_0 7 rfl rfl)
theorem dX6_placed_10 : decode cX6_placed 10 = .ok (.iload_n 3, 1) := dk_29 (dk_at dksX6_placed_0 10 rfl rfl)
theorem dX6_placed_11 : decode cX6_placed 11 = .ok (.goto 22, 3) := dk_167 0 22 (dk_at dksX6_placed_0 11 rfl rfl)
theorem dX6_placed_14 : decode cX6_placed 14 = .ok (.iload_n 2, 1) := dk_28 (dk_at dksX6_placed_0 14 rfl rfl)
theorem dX6_placed_15 : decode cX6_placed 15 = .ok (.ifCond .lt 13, 3) := dk_155 0 13 (dk_at dksX6_placed_0 15 rfl rfl)
theorem dX6_placed_18 : decode cX6_placed 18 = .ok (.iload_n 2, 1) := dk_28 (dk_at dksX6_placed_0 18 rfl rfl)
theorem dX6_placed_19 : decode cX6_placed 19 = .ok (.aload_n 0, 1) := dk_42 (dk_at dksX6_placed_0 19 rfl rfl)
theorem dX6_placed_20 : decode cX6_placed 20 = .ok (.getfield 17, 3) := dk_180 0 17 (dk_at dksX6_placed_0 20 rfl rfl)
theorem dX6_placed_23 : decode cX6_placed 23 = .ok (.iload_n 1, 1) := dk_27 (dk_at dksX6_placed_0 23 rfl rfl)
theorem dX6_placed_24 : decode cX6_placed 24 = .ok (.iaload, 1) := dk_46 (dk_at dksX6_placed_1 0 rfl rfl)
theorem dX6_placed_25 : decode cX6_placed 25 = .ok (.if_icmp .lt 7, 3) := dk_161 0 7 (dk_at dksX6_placed_1 1 rfl rfl)
theorem dX6_placed_28 : decode cX6_placed 28 = .ok (.iconst 4, 1) := dk_7 (dk_at dksX6_placed_1 4 rfl rfl)
theorem dX6_placed_29 : decode cX6_placed 29 = .ok (.goto 4, 3) := dk_167 0 4 (dk_at dksX6_placed_1 5 rfl rfl)
theorem dX6_placed_32 : decode cX6_placed 32 = .ok (.iconst 0, 1) := dk_3 (dk_at dksX6_placed_1 8 rfl rfl)
theorem dX6_placed_33 : decode cX6_placed 33 = .ok (.ireturn, 1) := dk_172 (dk_at dksX6_placed_1 9 rfl rfl)
abbrev cX6_trayed : ByteArray := prog_16_method_12_code
def yX6_trayed : MethodName := ⟨RX6, "trayed", "(I)I"⟩
def dkwX6_trayed_1 : List UInt8 := [167, 0, 4, 3, 172]
abbrev dktX6_trayed_1 : List UInt8 := dkwX6_trayed_1 ++ []
def dkwX6_trayed_0 : List UInt8 := [27, 155, 0, 8, 27, 7, 161, 0, 7, 4, 167, 0, 17, 42, 180, 0, 17, 27, 46, 156, 0, 7, 6]
abbrev dktX6_trayed_0 : List UInt8 := dkwX6_trayed_0 ++ dktX6_trayed_1
theorem dksX6_trayed_0 : cX6_trayed.data.toList.drop 0 = dktX6_trayed_0 := by decide +kernel
theorem dksX6_trayed_1 : cX6_trayed.data.toList.drop 23 = dktX6_trayed_1 := dk_seg dksX6_trayed_0 23 rfl rfl
theorem dX6_trayed_0 : decode cX6_trayed 0 = .ok (.iload_n 1, 1) := dk_27 (dk_at dksX6_trayed_0 0 rfl rfl)
theorem dX6_trayed_1 : decode cX6_trayed 1 = .ok (.ifCond .lt 8, 3) := dk_155 0 8 (dk_at dksX6_trayed_0 1 rfl rfl)
theorem dX6_trayed_4 : decode cX6_trayed 4 = .ok (.iload_n 1, 1) := dk_27 (dk_at dksX6_trayed_0 4 rfl rfl)
theorem dX6_trayed_5 : decode cX6_trayed 5 = .ok (.iconst 4, 1) := dk_7 (dk_at dksX6_trayed_0 5 rfl rfl)
theorem dX6_trayed_6 : decode cX6_trayed 6 = .ok (.if_icmp .lt 7, 3) := dk_161 0 7 (dk_at dksX6_trayed_0 6 rfl rfl)
theorem dX6_trayed_9 : decode cX6_trayed 9 = .ok (.iconst 1, 1) := dk_4 (dk_at dksX6_trayed_0 9 rfl rfl)
theorem dX6_trayed_10 : decode cX6_trayed 10 = .ok (.goto 17, 3) := dk_167 0 17 (dk_at dksX6_trayed_0 10 rfl rfl)
theorem dX6_trayed_13 : decode cX6_trayed 13 = .ok (.aload_n 0, 1) := dk_42 (dk_at dksX6_trayed_0 13 rfl rfl)
theorem dX6_trayed_14 : decode cX6_trayed 14 = .ok (.getfield 17, 3) := dk_180 0 17 (dk_at dksX6_trayed_0 14 rfl rfl)
theorem dX6_trayed_17 : decode cX6_trayed 17 = .ok (.iload_n 1, 1) := dk_27 (dk_at dksX6_trayed_0 17 rfl rfl)
theorem dX6_trayed_18 : decode cX6_trayed 18 = .ok (.iaload, 1) := dk_46 (dk_at dksX6_trayed_0 18 rfl rfl)
theorem dX6_trayed_19 : decode cX6_trayed 19 = .ok (.ifCond .ge 7, 3) := dk_156 0 7 (dk_at dksX6_trayed_0 19 rfl rfl)
theorem dX6_trayed_22 : decode cX6_trayed 22 = .ok (.iconst 3, 1) := dk_6 (dk_at dksX6_trayed_0 22 rfl rfl)
theorem dX6_trayed_23 : decode cX6_trayed 23 = .ok (.goto 4, 3) := dk_167 0 4 (dk_at dksX6_trayed_1 0 rfl rfl)
theorem dX6_trayed_26 : decode cX6_trayed 26 = .ok (.iconst 0, 1) := dk_3 (dk_at dksX6_trayed_1 3 rfl rfl)
theorem dX6_trayed_27 : decode cX6_trayed 27 = .ok (.ireturn, 1) := dk_172 (dk_at dksX6_trayed_1 4 rfl rfl)
abbrev cX6_cut : ByteArray := prog_16_method_10_code
def yX6_cut : MethodName := ⟨RX6, "cut", "(IJ)J"⟩
def dkwX6_cut_1 : List UInt8 := [5, 160, 0, 9, 31, 136, 133, 167, 0, 4, 31, 173]
abbrev dktX6_cut_1 : List UInt8 := dkwX6_cut_1 ++ []
def dkwX6_cut_0 : List UInt8 := [26, 154, 0, 10, 31, 136, 145, 133, 167, 0, 27, 26, 4, 160, 0, 10, 31, 136, 147, 133, 167, 0, 15, 26]
abbrev dktX6_cut_0 : List UInt8 := dkwX6_cut_0 ++ dktX6_cut_1
theorem dksX6_cut_0 : cX6_cut.data.toList.drop 0 = dktX6_cut_0 := by decide +kernel
theorem dksX6_cut_1 : cX6_cut.data.toList.drop 24 = dktX6_cut_1 := dk_seg dksX6_cut_0 24 rfl rfl
theorem dX6_cut_0 : decode cX6_cut 0 = .ok (.iload_n 0, 1) := dk_26 (dk_at dksX6_cut_0 0 rfl rfl)
theorem dX6_cut_1 : decode cX6_cut 1 = .ok (.ifCond .ne 10, 3) := dk_154 0 10 (dk_at dksX6_cut_0 1 rfl rfl)
theorem dX6_cut_4 : decode cX6_cut 4 = .ok (.lload_n 1, 1) := dk_31 (dk_at dksX6_cut_0 4 rfl rfl)
theorem dX6_cut_5 : decode cX6_cut 5 = .ok (.l2i, 1) := dk_136 (dk_at dksX6_cut_0 5 rfl rfl)
theorem dX6_cut_6 : decode cX6_cut 6 = .ok (.i2b, 1) := dk_145 (dk_at dksX6_cut_0 6 rfl rfl)
theorem dX6_cut_7 : decode cX6_cut 7 = .ok (.i2l, 1) := dk_133 (dk_at dksX6_cut_0 7 rfl rfl)
theorem dX6_cut_8 : decode cX6_cut 8 = .ok (.goto 27, 3) := dk_167 0 27 (dk_at dksX6_cut_0 8 rfl rfl)
theorem dX6_cut_11 : decode cX6_cut 11 = .ok (.iload_n 0, 1) := dk_26 (dk_at dksX6_cut_0 11 rfl rfl)
theorem dX6_cut_12 : decode cX6_cut 12 = .ok (.iconst 1, 1) := dk_4 (dk_at dksX6_cut_0 12 rfl rfl)
theorem dX6_cut_13 : decode cX6_cut 13 = .ok (.if_icmp .ne 10, 3) := dk_160 0 10 (dk_at dksX6_cut_0 13 rfl rfl)
theorem dX6_cut_16 : decode cX6_cut 16 = .ok (.lload_n 1, 1) := dk_31 (dk_at dksX6_cut_0 16 rfl rfl)
theorem dX6_cut_17 : decode cX6_cut 17 = .ok (.l2i, 1) := dk_136 (dk_at dksX6_cut_0 17 rfl rfl)
theorem dX6_cut_18 : decode cX6_cut 18 = .ok (.i2s, 1) := dk_147 (dk_at dksX6_cut_0 18 rfl rfl)
theorem dX6_cut_19 : decode cX6_cut 19 = .ok (.i2l, 1) := dk_133 (dk_at dksX6_cut_0 19 rfl rfl)
theorem dX6_cut_20 : decode cX6_cut 20 = .ok (.goto 15, 3) := dk_167 0 15 (dk_at dksX6_cut_0 20 rfl rfl)
theorem dX6_cut_23 : decode cX6_cut 23 = .ok (.iload_n 0, 1) := dk_26 (dk_at dksX6_cut_0 23 rfl rfl)
theorem dX6_cut_24 : decode cX6_cut 24 = .ok (.iconst 2, 1) := dk_5 (dk_at dksX6_cut_1 0 rfl rfl)
theorem dX6_cut_25 : decode cX6_cut 25 = .ok (.if_icmp .ne 9, 3) := dk_160 0 9 (dk_at dksX6_cut_1 1 rfl rfl)
theorem dX6_cut_28 : decode cX6_cut 28 = .ok (.lload_n 1, 1) := dk_31 (dk_at dksX6_cut_1 4 rfl rfl)
theorem dX6_cut_29 : decode cX6_cut 29 = .ok (.l2i, 1) := dk_136 (dk_at dksX6_cut_1 5 rfl rfl)
theorem dX6_cut_30 : decode cX6_cut 30 = .ok (.i2l, 1) := dk_133 (dk_at dksX6_cut_1 6 rfl rfl)
theorem dX6_cut_31 : decode cX6_cut 31 = .ok (.goto 4, 3) := dk_167 0 4 (dk_at dksX6_cut_1 7 rfl rfl)
theorem dX6_cut_34 : decode cX6_cut 34 = .ok (.lload_n 1, 1) := dk_31 (dk_at dksX6_cut_1 10 rfl rfl)
theorem dX6_cut_35 : decode cX6_cut 35 = .ok (.lreturn, 1) := dk_173 (dk_at dksX6_cut_1 11 rfl rfl)
abbrev cX6_read : ByteArray := prog_16_method_15_code
def yX6_read : MethodName := ⟨RX6, "read", "(II)J"⟩
def dkwX6_read_1 : List UInt8 := [20, 0, 108, 167, 0, 14, 42, 180, 0, 20, 16, 60, 27, 104, 28, 96, 47, 173]
abbrev dktX6_read_1 : List UInt8 := dkwX6_read_1 ++ []
def dkwX6_read_0 : List UInt8 := [42, 3, 181, 0, 77, 42, 42, 27, 28, 182, 0, 100, 181, 0, 80, 42, 180, 0, 80, 158, 0, 9]
abbrev dktX6_read_0 : List UInt8 := dkwX6_read_0 ++ dktX6_read_1
theorem dksX6_read_0 : cX6_read.data.toList.drop 0 = dktX6_read_0 := by decide +kernel
theorem dksX6_read_1 : cX6_read.data.toList.drop 22 = dktX6_read_1 := dk_seg dksX6_read_0 22 rfl rfl
theorem dX6_read_0 : decode cX6_read 0 = .ok (.aload_n 0, 1) := dk_42 (dk_at dksX6_read_0 0 rfl rfl)
theorem dX6_read_1 : decode cX6_read 1 = .ok (.iconst 0, 1) := dk_3 (dk_at dksX6_read_0 1 rfl rfl)
theorem dX6_read_2 : decode cX6_read 2 = .ok (.putfield 77, 3) := dk_181 0 77 (dk_at dksX6_read_0 2 rfl rfl)
theorem dX6_read_5 : decode cX6_read 5 = .ok (.aload_n 0, 1) := dk_42 (dk_at dksX6_read_0 5 rfl rfl)
theorem dX6_read_6 : decode cX6_read 6 = .ok (.aload_n 0, 1) := dk_42 (dk_at dksX6_read_0 6 rfl rfl)
theorem dX6_read_7 : decode cX6_read 7 = .ok (.iload_n 1, 1) := dk_27 (dk_at dksX6_read_0 7 rfl rfl)
theorem dX6_read_8 : decode cX6_read 8 = .ok (.iload_n 2, 1) := dk_28 (dk_at dksX6_read_0 8 rfl rfl)
theorem dX6_read_9 : decode cX6_read 9 = .ok (.invokevirtual 100, 3) := dk_182 0 100 (dk_at dksX6_read_0 9 rfl rfl)
theorem dX6_read_12 : decode cX6_read 12 = .ok (.putfield 80, 3) := dk_181 0 80 (dk_at dksX6_read_0 12 rfl rfl)
theorem dX6_read_15 : decode cX6_read 15 = .ok (.aload_n 0, 1) := dk_42 (dk_at dksX6_read_0 15 rfl rfl)
theorem dX6_read_16 : decode cX6_read 16 = .ok (.getfield 80, 3) := dk_180 0 80 (dk_at dksX6_read_0 16 rfl rfl)
theorem dX6_read_19 : decode cX6_read 19 = .ok (.ifCond .le 9, 3) := dk_158 0 9 (dk_at dksX6_read_0 19 rfl rfl)
theorem dX6_read_22 : decode cX6_read 22 = .ok (.ldc2_w 108, 3) := dk_20 0 108 (dk_at dksX6_read_1 0 rfl rfl)
theorem dX6_read_25 : decode cX6_read 25 = .ok (.goto 14, 3) := dk_167 0 14 (dk_at dksX6_read_1 3 rfl rfl)
theorem dX6_read_28 : decode cX6_read 28 = .ok (.aload_n 0, 1) := dk_42 (dk_at dksX6_read_1 6 rfl rfl)
theorem dX6_read_29 : decode cX6_read 29 = .ok (.getfield 20, 3) := dk_180 0 20 (dk_at dksX6_read_1 7 rfl rfl)
theorem dX6_read_32 : decode cX6_read 32 = .ok (.bipush 60, 2) := dk_16 60 (dk_at dksX6_read_1 10 rfl rfl)
theorem dX6_read_34 : decode cX6_read 34 = .ok (.iload_n 1, 1) := dk_27 (dk_at dksX6_read_1 12 rfl rfl)
theorem dX6_read_35 : decode cX6_read 35 = .ok (.imul, 1) := dk_104 (dk_at dksX6_read_1 13 rfl rfl)
theorem dX6_read_36 : decode cX6_read 36 = .ok (.iload_n 2, 1) := dk_28 (dk_at dksX6_read_1 14 rfl rfl)
theorem dX6_read_37 : decode cX6_read 37 = .ok (.iadd, 1) := dk_96 (dk_at dksX6_read_1 15 rfl rfl)
theorem dX6_read_38 : decode cX6_read 38 = .ok (.laload, 1) := dk_47 (dk_at dksX6_read_1 16 rfl rfl)
theorem dX6_read_39 : decode cX6_read 39 = .ok (.lreturn, 1) := dk_173 (dk_at dksX6_read_1 17 rfl rfl)
abbrev cX6_pour : ByteArray := prog_16_method_16_code
def yX6_pour : MethodName := ⟨RX6, "pour", "(IIIII)Z"⟩
def dkwX6_pour_9 : List UInt8 := [21, 8, 96, 47, 80, 132, 7, 1, 167, 255, 198, 4, 172]
abbrev dktX6_pour_9 : List UInt8 := dkwX6_pour_9 ++ []
def dkwX6_pour_8 : List UInt8 := [180, 0, 20, 16, 60, 29, 104, 21, 4, 96, 21, 8, 96, 42, 180, 0, 20, 16, 60, 27, 104, 28, 96]
abbrev dktX6_pour_8 : List UInt8 := dkwX6_pour_8 ++ dktX6_pour_9
def dkwX6_pour_7 : List UInt8 := [162, 0, 57, 21, 6, 153, 0, 13, 21, 5, 4, 100, 21, 7, 100, 167, 0, 5, 21, 7, 54, 8, 42]
abbrev dktX6_pour_7 : List UInt8 := dkwX6_pour_7 ++ dktX6_pour_8
def dkwX6_pour_6 : List UInt8 := [182, 0, 92, 172, 28, 21, 4, 162, 0, 7, 4, 167, 0, 4, 3, 54, 6, 3, 54, 7, 21, 7, 21, 5]
abbrev dktX6_pour_6 : List UInt8 := dkwX6_pour_6 ++ dktX6_pour_7
def dkwX6_pour_5 : List UInt8 := [157, 0, 21, 21, 4, 133, 21, 5, 133, 97, 42, 180, 0, 17, 29, 46, 133, 148, 158, 0, 9, 42, 7]
abbrev dktX6_pour_5 : List UInt8 := dkwX6_pour_5 ++ dktX6_pour_6
def dkwX6_pour_4 : List UInt8 := [155, 0, 43, 21, 4, 155, 0, 38, 28, 133, 21, 5, 133, 97, 42, 180, 0, 17, 27, 46, 133, 148]
abbrev dktX6_pour_4 : List UInt8 := dkwX6_pour_4 ++ dktX6_pour_5
def dkwX6_pour_3 : List UInt8 := [159, 0, 10, 42, 16, 11, 182, 0, 92, 172, 21, 5, 156, 0, 10, 42, 16, 6, 182, 0, 92, 172, 28]
abbrev dktX6_pour_3 : List UInt8 := dkwX6_pour_3 ++ dktX6_pour_4
def dkwX6_pour_2 : List UInt8 := [46, 156, 0, 9, 42, 6, 182, 0, 92, 172, 42, 180, 0, 13, 27, 46, 42, 180, 0, 13, 29, 46]
abbrev dktX6_pour_2 : List UInt8 := dkwX6_pour_2 ++ dktX6_pour_3
def dkwX6_pour_1 : List UInt8 := [7, 161, 0, 9, 42, 4, 182, 0, 92, 172, 42, 180, 0, 17, 27, 46, 155, 0, 12, 42, 180, 0, 17, 29]
abbrev dktX6_pour_1 : List UInt8 := dkwX6_pour_1 ++ dktX6_pour_2
def dkwX6_pour_0 : List UInt8 := [42, 3, 181, 0, 77, 42, 3, 181, 0, 80, 27, 155, 0, 17, 27, 7, 162, 0, 12, 29, 155, 0, 8, 29]
abbrev dktX6_pour_0 : List UInt8 := dkwX6_pour_0 ++ dktX6_pour_1
theorem dksX6_pour_0 : cX6_pour.data.toList.drop 0 = dktX6_pour_0 := by decide +kernel
theorem dksX6_pour_1 : cX6_pour.data.toList.drop 24 = dktX6_pour_1 := dk_seg dksX6_pour_0 24 rfl rfl
theorem dksX6_pour_2 : cX6_pour.data.toList.drop 48 = dktX6_pour_2 := dk_seg dksX6_pour_1 24 rfl rfl
theorem dksX6_pour_3 : cX6_pour.data.toList.drop 70 = dktX6_pour_3 := dk_seg dksX6_pour_2 22 rfl rfl
theorem dksX6_pour_4 : cX6_pour.data.toList.drop 93 = dktX6_pour_4 := dk_seg dksX6_pour_3 23 rfl rfl
theorem dksX6_pour_5 : cX6_pour.data.toList.drop 115 = dktX6_pour_5 := dk_seg dksX6_pour_4 22 rfl rfl
theorem dksX6_pour_6 : cX6_pour.data.toList.drop 138 = dktX6_pour_6 := dk_seg dksX6_pour_5 23 rfl rfl
theorem dksX6_pour_7 : cX6_pour.data.toList.drop 162 = dktX6_pour_7 := dk_seg dksX6_pour_6 24 rfl rfl
theorem dksX6_pour_8 : cX6_pour.data.toList.drop 185 = dktX6_pour_8 := dk_seg dksX6_pour_7 23 rfl rfl
theorem dksX6_pour_9 : cX6_pour.data.toList.drop 208 = dktX6_pour_9 := dk_seg dksX6_pour_8 23 rfl rfl
theorem dX6_pour_0 : decode cX6_pour 0 = .ok (.aload_n 0, 1) := dk_42 (dk_at dksX6_pour_0 0 rfl rfl)
theorem dX6_pour_1 : decode cX6_pour 1 = .ok (.iconst 0, 1) := dk_3 (dk_at dksX6_pour_0 1 rfl rfl)
theorem dX6_pour_2 : decode cX6_pour 2 = .ok (.putfield 77, 3) := dk_181 0 77 (dk_at dksX6_pour_0 2 rfl rfl)
theorem dX6_pour_5 : decode cX6_pour 5 = .ok (.aload_n 0, 1) := dk_42 (dk_at dksX6_pour_0 5 rfl rfl)
theorem dX6_pour_6 : decode cX6_pour 6 = .ok (.iconst 0, 1) := dk_3 (dk_at dksX6_pour_0 6 rfl rfl)
theorem dX6_pour_7 : decode cX6_pour 7 = .ok (.putfield 80, 3) := dk_181 0 80 (dk_at dksX6_pour_0 7 rfl rfl)
theorem dX6_pour_10 : decode cX6_pour 10 = .ok (.iload_n 1, 1) := dk_27 (dk_at dksX6_pour_0 10 rfl rfl)
theorem dX6_pour_11 : decode cX6_pour 11 = .ok (.ifCond .lt 17, 3) := dk_155 0 17 (dk_at dksX6_pour_0 11 rfl rfl)
theorem dX6_pour_14 : decode cX6_pour 14 = .ok (.iload_n 1, 1) := dk_27 (dk_at dksX6_pour_0 14 rfl rfl)
theorem dX6_pour_15 : decode cX6_pour 15 = .ok (.iconst 4, 1) := dk_7 (dk_at dksX6_pour_0 15 rfl rfl)
theorem dX6_pour_16 : decode cX6_pour 16 = .ok (.if_icmp .ge 12, 3) := dk_162 0 12 (dk_at dksX6_pour_0 16 rfl rfl)
theorem dX6_pour_19 : decode cX6_pour 19 = .ok (.iload_n 3, 1) := dk_29 (dk_at dksX6_pour_0 19 rfl rfl)
theorem dX6_pour_20 : decode cX6_pour 20 = .ok (.ifCond .lt 8, 3) := dk_155 0 8 (dk_at dksX6_pour_0 20 rfl rfl)
theorem dX6_pour_23 : decode cX6_pour 23 = .ok (.iload_n 3, 1) := dk_29 (dk_at dksX6_pour_0 23 rfl rfl)
theorem dX6_pour_24 : decode cX6_pour 24 = .ok (.iconst 4, 1) := dk_7 (dk_at dksX6_pour_1 0 rfl rfl)
theorem dX6_pour_25 : decode cX6_pour 25 = .ok (.if_icmp .lt 9, 3) := dk_161 0 9 (dk_at dksX6_pour_1 1 rfl rfl)
theorem dX6_pour_28 : decode cX6_pour 28 = .ok (.aload_n 0, 1) := dk_42 (dk_at dksX6_pour_1 4 rfl rfl)
theorem dX6_pour_29 : decode cX6_pour 29 = .ok (.iconst 1, 1) := dk_4 (dk_at dksX6_pour_1 5 rfl rfl)
theorem dX6_pour_30 : decode cX6_pour 30 = .ok (.invokevirtual 92, 3) := dk_182 0 92 (dk_at dksX6_pour_1 6 rfl rfl)
theorem dX6_pour_33 : decode cX6_pour 33 = .ok (.ireturn, 1) := dk_172 (dk_at dksX6_pour_1 9 rfl rfl)
theorem dX6_pour_34 : decode cX6_pour 34 = .ok (.aload_n 0, 1) := dk_42 (dk_at dksX6_pour_1 10 rfl rfl)
theorem dX6_pour_35 : decode cX6_pour 35 = .ok (.getfield 17, 3) := dk_180 0 17 (dk_at dksX6_pour_1 11 rfl rfl)
theorem dX6_pour_38 : decode cX6_pour 38 = .ok (.iload_n 1, 1) := dk_27 (dk_at dksX6_pour_1 14 rfl rfl)
theorem dX6_pour_39 : decode cX6_pour 39 = .ok (.iaload, 1) := dk_46 (dk_at dksX6_pour_1 15 rfl rfl)
theorem dX6_pour_40 : decode cX6_pour 40 = .ok (.ifCond .lt 12, 3) := dk_155 0 12 (dk_at dksX6_pour_1 16 rfl rfl)
theorem dX6_pour_43 : decode cX6_pour 43 = .ok (.aload_n 0, 1) := dk_42 (dk_at dksX6_pour_1 19 rfl rfl)
theorem dX6_pour_44 : decode cX6_pour 44 = .ok (.getfield 17, 3) := dk_180 0 17 (dk_at dksX6_pour_1 20 rfl rfl)
theorem dX6_pour_47 : decode cX6_pour 47 = .ok (.iload_n 3, 1) := dk_29 (dk_at dksX6_pour_1 23 rfl rfl)
theorem dX6_pour_48 : decode cX6_pour 48 = .ok (.iaload, 1) := dk_46 (dk_at dksX6_pour_2 0 rfl rfl)
theorem dX6_pour_49 : decode cX6_pour 49 = .ok (.ifCond .ge 9, 3) := dk_156 0 9 (dk_at dksX6_pour_2 1 rfl rfl)
theorem dX6_pour_52 : decode cX6_pour 52 = .ok (.aload_n 0, 1) := dk_42 (dk_at dksX6_pour_2 4 rfl rfl)
theorem dX6_pour_53 : decode cX6_pour 53 = .ok (.iconst 3, 1) := dk_6 (dk_at dksX6_pour_2 5 rfl rfl)
theorem dX6_pour_54 : decode cX6_pour 54 = .ok (.invokevirtual 92, 3) := dk_182 0 92 (dk_at dksX6_pour_2 6 rfl rfl)
theorem dX6_pour_57 : decode cX6_pour 57 = .ok (.ireturn, 1) := dk_172 (dk_at dksX6_pour_2 9 rfl rfl)
theorem dX6_pour_58 : decode cX6_pour 58 = .ok (.aload_n 0, 1) := dk_42 (dk_at dksX6_pour_2 10 rfl rfl)
theorem dX6_pour_59 : decode cX6_pour 59 = .ok (.getfield 13, 3) := dk_180 0 13 (dk_at dksX6_pour_2 11 rfl rfl)
theorem dX6_pour_62 : decode cX6_pour 62 = .ok (.iload_n 1, 1) := dk_27 (dk_at dksX6_pour_2 14 rfl rfl)
theorem dX6_pour_63 : decode cX6_pour 63 = .ok (.iaload, 1) := dk_46 (dk_at dksX6_pour_2 15 rfl rfl)
theorem dX6_pour_64 : decode cX6_pour 64 = .ok (.aload_n 0, 1) := dk_42 (dk_at dksX6_pour_2 16 rfl rfl)
theorem dX6_pour_65 : decode cX6_pour 65 = .ok (.getfield 13, 3) := dk_180 0 13 (dk_at dksX6_pour_2 17 rfl rfl)
theorem dX6_pour_68 : decode cX6_pour 68 = .ok (.iload_n 3, 1) := dk_29 (dk_at dksX6_pour_2 20 rfl rfl)
theorem dX6_pour_69 : decode cX6_pour 69 = .ok (.iaload, 1) := dk_46 (dk_at dksX6_pour_2 21 rfl rfl)
theorem dX6_pour_70 : decode cX6_pour 70 = .ok (.if_icmp .eq 10, 3) := dk_159 0 10 (dk_at dksX6_pour_3 0 rfl rfl)
theorem dX6_pour_73 : decode cX6_pour 73 = .ok (.aload_n 0, 1) := dk_42 (dk_at dksX6_pour_3 3 rfl rfl)
theorem dX6_pour_74 : decode cX6_pour 74 = .ok (.bipush 11, 2) := dk_16 11 (dk_at dksX6_pour_3 4 rfl rfl)
theorem dX6_pour_76 : decode cX6_pour 76 = .ok (.invokevirtual 92, 3) := dk_182 0 92 (dk_at dksX6_pour_3 6 rfl rfl)
theorem dX6_pour_79 : decode cX6_pour 79 = .ok (.ireturn, 1) := dk_172 (dk_at dksX6_pour_3 9 rfl rfl)
theorem dX6_pour_80 : decode cX6_pour 80 = .ok (.iload 5, 2) := dk_21 5 (dk_at dksX6_pour_3 10 rfl rfl)
theorem dX6_pour_82 : decode cX6_pour 82 = .ok (.ifCond .ge 10, 3) := dk_156 0 10 (dk_at dksX6_pour_3 12 rfl rfl)
theorem dX6_pour_85 : decode cX6_pour 85 = .ok (.aload_n 0, 1) := dk_42 (dk_at dksX6_pour_3 15 rfl rfl)
theorem dX6_pour_86 : decode cX6_pour 86 = .ok (.bipush 6, 2) := dk_16 6 (dk_at dksX6_pour_3 16 rfl rfl)
theorem dX6_pour_88 : decode cX6_pour 88 = .ok (.invokevirtual 92, 3) := dk_182 0 92 (dk_at dksX6_pour_3 18 rfl rfl)
theorem dX6_pour_91 : decode cX6_pour 91 = .ok (.ireturn, 1) := dk_172 (dk_at dksX6_pour_3 21 rfl rfl)
theorem dX6_pour_92 : decode cX6_pour 92 = .ok (.iload_n 2, 1) := dk_28 (dk_at dksX6_pour_3 22 rfl rfl)
theorem dX6_pour_93 : decode cX6_pour 93 = .ok (.ifCond .lt 43, 3) := dk_155 0 43 (dk_at dksX6_pour_4 0 rfl rfl)
theorem dX6_pour_96 : decode cX6_pour 96 = .ok (.iload 4, 2) := dk_21 4 (dk_at dksX6_pour_4 3 rfl rfl)
theorem dX6_pour_98 : decode cX6_pour 98 = .ok (.ifCond .lt 38, 3) := dk_155 0 38 (dk_at dksX6_pour_4 5 rfl rfl)
theorem dX6_pour_101 : decode cX6_pour 101 = .ok (.iload_n 2, 1) := dk_28 (dk_at dksX6_pour_4 8 rfl rfl)
theorem dX6_pour_102 : decode cX6_pour 102 = .ok (.i2l, 1) := dk_133 (dk_at dksX6_pour_4 9 rfl rfl)
theorem dX6_pour_103 : decode cX6_pour 103 = .ok (.iload 5, 2) := dk_21 5 (dk_at dksX6_pour_4 10 rfl rfl)
theorem dX6_pour_105 : decode cX6_pour 105 = .ok (.i2l, 1) := dk_133 (dk_at dksX6_pour_4 12 rfl rfl)
theorem dX6_pour_106 : decode cX6_pour 106 = .ok (.ladd, 1) := dk_97 (dk_at dksX6_pour_4 13 rfl rfl)
theorem dX6_pour_107 : decode cX6_pour 107 = .ok (.aload_n 0, 1) := dk_42 (dk_at dksX6_pour_4 14 rfl rfl)
theorem dX6_pour_108 : decode cX6_pour 108 = .ok (.getfield 17, 3) := dk_180 0 17 (dk_at dksX6_pour_4 15 rfl rfl)
theorem dX6_pour_111 : decode cX6_pour 111 = .ok (.iload_n 1, 1) := dk_27 (dk_at dksX6_pour_4 18 rfl rfl)
theorem dX6_pour_112 : decode cX6_pour 112 = .ok (.iaload, 1) := dk_46 (dk_at dksX6_pour_4 19 rfl rfl)
theorem dX6_pour_113 : decode cX6_pour 113 = .ok (.i2l, 1) := dk_133 (dk_at dksX6_pour_4 20 rfl rfl)
theorem dX6_pour_114 : decode cX6_pour 114 = .ok (.lcmp, 1) := dk_148 (dk_at dksX6_pour_4 21 rfl rfl)
theorem dX6_pour_115 : decode cX6_pour 115 = .ok (.ifCond .gt 21, 3) := dk_157 0 21 (dk_at dksX6_pour_5 0 rfl rfl)
theorem dX6_pour_118 : decode cX6_pour 118 = .ok (.iload 4, 2) := dk_21 4 (dk_at dksX6_pour_5 3 rfl rfl)
theorem dX6_pour_120 : decode cX6_pour 120 = .ok (.i2l, 1) := dk_133 (dk_at dksX6_pour_5 5 rfl rfl)
theorem dX6_pour_121 : decode cX6_pour 121 = .ok (.iload 5, 2) := dk_21 5 (dk_at dksX6_pour_5 6 rfl rfl)
theorem dX6_pour_123 : decode cX6_pour 123 = .ok (.i2l, 1) := dk_133 (dk_at dksX6_pour_5 8 rfl rfl)
theorem dX6_pour_124 : decode cX6_pour 124 = .ok (.ladd, 1) := dk_97 (dk_at dksX6_pour_5 9 rfl rfl)
theorem dX6_pour_125 : decode cX6_pour 125 = .ok (.aload_n 0, 1) := dk_42 (dk_at dksX6_pour_5 10 rfl rfl)
theorem dX6_pour_126 : decode cX6_pour 126 = .ok (.getfield 17, 3) := dk_180 0 17 (dk_at dksX6_pour_5 11 rfl rfl)
theorem dX6_pour_129 : decode cX6_pour 129 = .ok (.iload_n 3, 1) := dk_29 (dk_at dksX6_pour_5 14 rfl rfl)
theorem dX6_pour_130 : decode cX6_pour 130 = .ok (.iaload, 1) := dk_46 (dk_at dksX6_pour_5 15 rfl rfl)
theorem dX6_pour_131 : decode cX6_pour 131 = .ok (.i2l, 1) := dk_133 (dk_at dksX6_pour_5 16 rfl rfl)
theorem dX6_pour_132 : decode cX6_pour 132 = .ok (.lcmp, 1) := dk_148 (dk_at dksX6_pour_5 17 rfl rfl)
theorem dX6_pour_133 : decode cX6_pour 133 = .ok (.ifCond .le 9, 3) := dk_158 0 9 (dk_at dksX6_pour_5 18 rfl rfl)
theorem dX6_pour_136 : decode cX6_pour 136 = .ok (.aload_n 0, 1) := dk_42 (dk_at dksX6_pour_5 21 rfl rfl)
theorem dX6_pour_137 : decode cX6_pour 137 = .ok (.iconst 4, 1) := dk_7 (dk_at dksX6_pour_5 22 rfl rfl)
theorem dX6_pour_138 : decode cX6_pour 138 = .ok (.invokevirtual 92, 3) := dk_182 0 92 (dk_at dksX6_pour_6 0 rfl rfl)
theorem dX6_pour_141 : decode cX6_pour 141 = .ok (.ireturn, 1) := dk_172 (dk_at dksX6_pour_6 3 rfl rfl)
theorem dX6_pour_142 : decode cX6_pour 142 = .ok (.iload_n 2, 1) := dk_28 (dk_at dksX6_pour_6 4 rfl rfl)
theorem dX6_pour_143 : decode cX6_pour 143 = .ok (.iload 4, 2) := dk_21 4 (dk_at dksX6_pour_6 5 rfl rfl)
theorem dX6_pour_145 : decode cX6_pour 145 = .ok (.if_icmp .ge 7, 3) := dk_162 0 7 (dk_at dksX6_pour_6 7 rfl rfl)
theorem dX6_pour_148 : decode cX6_pour 148 = .ok (.iconst 1, 1) := dk_4 (dk_at dksX6_pour_6 10 rfl rfl)
theorem dX6_pour_149 : decode cX6_pour 149 = .ok (.goto 4, 3) := dk_167 0 4 (dk_at dksX6_pour_6 11 rfl rfl)
theorem dX6_pour_152 : decode cX6_pour 152 = .ok (.iconst 0, 1) := dk_3 (dk_at dksX6_pour_6 14 rfl rfl)
theorem dX6_pour_153 : decode cX6_pour 153 = .ok (.istore 6, 2) := dk_54 6 (dk_at dksX6_pour_6 15 rfl rfl)
theorem dX6_pour_155 : decode cX6_pour 155 = .ok (.iconst 0, 1) := dk_3 (dk_at dksX6_pour_6 17 rfl rfl)
theorem dX6_pour_156 : decode cX6_pour 156 = .ok (.istore 7, 2) := dk_54 7 (dk_at dksX6_pour_6 18 rfl rfl)
theorem dX6_pour_158 : decode cX6_pour 158 = .ok (.iload 7, 2) := dk_21 7 (dk_at dksX6_pour_6 20 rfl rfl)
theorem dX6_pour_160 : decode cX6_pour 160 = .ok (.iload 5, 2) := dk_21 5 (dk_at dksX6_pour_6 22 rfl rfl)
theorem dX6_pour_162 : decode cX6_pour 162 = .ok (.if_icmp .ge 57, 3) := dk_162 0 57 (dk_at dksX6_pour_7 0 rfl rfl)
theorem dX6_pour_165 : decode cX6_pour 165 = .ok (.iload 6, 2) := dk_21 6 (dk_at dksX6_pour_7 3 rfl rfl)
theorem dX6_pour_167 : decode cX6_pour 167 = .ok (.ifCond .eq 13, 3) := dk_153 0 13 (dk_at dksX6_pour_7 5 rfl rfl)
theorem dX6_pour_170 : decode cX6_pour 170 = .ok (.iload 5, 2) := dk_21 5 (dk_at dksX6_pour_7 8 rfl rfl)
theorem dX6_pour_172 : decode cX6_pour 172 = .ok (.iconst 1, 1) := dk_4 (dk_at dksX6_pour_7 10 rfl rfl)
theorem dX6_pour_173 : decode cX6_pour 173 = .ok (.isub, 1) := dk_100 (dk_at dksX6_pour_7 11 rfl rfl)
theorem dX6_pour_174 : decode cX6_pour 174 = .ok (.iload 7, 2) := dk_21 7 (dk_at dksX6_pour_7 12 rfl rfl)
theorem dX6_pour_176 : decode cX6_pour 176 = .ok (.isub, 1) := dk_100 (dk_at dksX6_pour_7 14 rfl rfl)
theorem dX6_pour_177 : decode cX6_pour 177 = .ok (.goto 5, 3) := dk_167 0 5 (dk_at dksX6_pour_7 15 rfl rfl)
theorem dX6_pour_180 : decode cX6_pour 180 = .ok (.iload 7, 2) := dk_21 7 (dk_at dksX6_pour_7 18 rfl rfl)
theorem dX6_pour_182 : decode cX6_pour 182 = .ok (.istore 8, 2) := dk_54 8 (dk_at dksX6_pour_7 20 rfl rfl)
theorem dX6_pour_184 : decode cX6_pour 184 = .ok (.aload_n 0, 1) := dk_42 (dk_at dksX6_pour_7 22 rfl rfl)
theorem dX6_pour_185 : decode cX6_pour 185 = .ok (.getfield 20, 3) := dk_180 0 20 (dk_at dksX6_pour_8 0 rfl rfl)
theorem dX6_pour_188 : decode cX6_pour 188 = .ok (.bipush 60, 2) := dk_16 60 (dk_at dksX6_pour_8 3 rfl rfl)
theorem dX6_pour_190 : decode cX6_pour 190 = .ok (.iload_n 3, 1) := dk_29 (dk_at dksX6_pour_8 5 rfl rfl)
theorem dX6_pour_191 : decode cX6_pour 191 = .ok (.imul, 1) := dk_104 (dk_at dksX6_pour_8 6 rfl rfl)
theorem dX6_pour_192 : decode cX6_pour 192 = .ok (.iload 4, 2) := dk_21 4 (dk_at dksX6_pour_8 7 rfl rfl)
theorem dX6_pour_194 : decode cX6_pour 194 = .ok (.iadd, 1) := dk_96 (dk_at dksX6_pour_8 9 rfl rfl)
theorem dX6_pour_195 : decode cX6_pour 195 = .ok (.iload 8, 2) := dk_21 8 (dk_at dksX6_pour_8 10 rfl rfl)
theorem dX6_pour_197 : decode cX6_pour 197 = .ok (.iadd, 1) := dk_96 (dk_at dksX6_pour_8 12 rfl rfl)
theorem dX6_pour_198 : decode cX6_pour 198 = .ok (.aload_n 0, 1) := dk_42 (dk_at dksX6_pour_8 13 rfl rfl)
theorem dX6_pour_199 : decode cX6_pour 199 = .ok (.getfield 20, 3) := dk_180 0 20 (dk_at dksX6_pour_8 14 rfl rfl)
theorem dX6_pour_202 : decode cX6_pour 202 = .ok (.bipush 60, 2) := dk_16 60 (dk_at dksX6_pour_8 17 rfl rfl)
theorem dX6_pour_204 : decode cX6_pour 204 = .ok (.iload_n 1, 1) := dk_27 (dk_at dksX6_pour_8 19 rfl rfl)
theorem dX6_pour_205 : decode cX6_pour 205 = .ok (.imul, 1) := dk_104 (dk_at dksX6_pour_8 20 rfl rfl)
theorem dX6_pour_206 : decode cX6_pour 206 = .ok (.iload_n 2, 1) := dk_28 (dk_at dksX6_pour_8 21 rfl rfl)
theorem dX6_pour_207 : decode cX6_pour 207 = .ok (.iadd, 1) := dk_96 (dk_at dksX6_pour_8 22 rfl rfl)
theorem dX6_pour_208 : decode cX6_pour 208 = .ok (.iload 8, 2) := dk_21 8 (dk_at dksX6_pour_9 0 rfl rfl)
theorem dX6_pour_210 : decode cX6_pour 210 = .ok (.iadd, 1) := dk_96 (dk_at dksX6_pour_9 2 rfl rfl)
theorem dX6_pour_211 : decode cX6_pour 211 = .ok (.laload, 1) := dk_47 (dk_at dksX6_pour_9 3 rfl rfl)
theorem dX6_pour_212 : decode cX6_pour 212 = .ok (.lastore, 1) := dk_80 (dk_at dksX6_pour_9 4 rfl rfl)
theorem dX6_pour_213 : decode cX6_pour 213 = .ok (.iinc 7 1, 3) := dk_132 7 1 (dk_at dksX6_pour_9 5 rfl rfl)
theorem dX6_pour_216 : decode cX6_pour 216 = .ok (.goto (-58), 3) := dk_167 255 198 (dk_at dksX6_pour_9 8 rfl rfl)
theorem dX6_pour_219 : decode cX6_pour 219 = .ok (.iconst 1, 1) := dk_4 (dk_at dksX6_pour_9 11 rfl rfl)
theorem dX6_pour_220 : decode cX6_pour 220 = .ok (.ireturn, 1) := dk_172 (dk_at dksX6_pour_9 12 rfl rfl)
abbrev cX6_feed : ByteArray := prog_16_method_48_code
def yX6_feed : MethodName := ⟨RX6, "feed", "(IIIII)I"⟩
def dkwX6_feed_2 : List UInt8 := [182, 0, 235, 42, 180, 0, 232, 172]
abbrev dktX6_feed_2 : List UInt8 := dkwX6_feed_2 ++ []
def dkwX6_feed_1 : List UInt8 := [182, 0, 235, 42, 28, 182, 0, 235, 42, 29, 182, 0, 235, 42, 21, 4, 182, 0, 235, 42, 21, 5]
abbrev dktX6_feed_1 : List UInt8 := dkwX6_feed_1 ++ dktX6_feed_2
def dkwX6_feed_0 : List UInt8 := [42, 3, 181, 0, 77, 42, 180, 0, 232, 16, 20, 96, 17, 3, 132, 164, 0, 5, 2, 172, 42, 27]
abbrev dktX6_feed_0 : List UInt8 := dkwX6_feed_0 ++ dktX6_feed_1
theorem dksX6_feed_0 : cX6_feed.data.toList.drop 0 = dktX6_feed_0 := by decide +kernel
theorem dksX6_feed_1 : cX6_feed.data.toList.drop 22 = dktX6_feed_1 := dk_seg dksX6_feed_0 22 rfl rfl
theorem dksX6_feed_2 : cX6_feed.data.toList.drop 44 = dktX6_feed_2 := dk_seg dksX6_feed_1 22 rfl rfl
theorem dX6_feed_0 : decode cX6_feed 0 = .ok (.aload_n 0, 1) := dk_42 (dk_at dksX6_feed_0 0 rfl rfl)
theorem dX6_feed_1 : decode cX6_feed 1 = .ok (.iconst 0, 1) := dk_3 (dk_at dksX6_feed_0 1 rfl rfl)
theorem dX6_feed_2 : decode cX6_feed 2 = .ok (.putfield 77, 3) := dk_181 0 77 (dk_at dksX6_feed_0 2 rfl rfl)
theorem dX6_feed_5 : decode cX6_feed 5 = .ok (.aload_n 0, 1) := dk_42 (dk_at dksX6_feed_0 5 rfl rfl)
theorem dX6_feed_6 : decode cX6_feed 6 = .ok (.getfield 232, 3) := dk_180 0 232 (dk_at dksX6_feed_0 6 rfl rfl)
theorem dX6_feed_9 : decode cX6_feed 9 = .ok (.bipush 20, 2) := dk_16 20 (dk_at dksX6_feed_0 9 rfl rfl)
theorem dX6_feed_11 : decode cX6_feed 11 = .ok (.iadd, 1) := dk_96 (dk_at dksX6_feed_0 11 rfl rfl)
theorem dX6_feed_12 : decode cX6_feed 12 = .ok (.sipush 900, 3) := dk_17 3 132 (dk_at dksX6_feed_0 12 rfl rfl)
theorem dX6_feed_15 : decode cX6_feed 15 = .ok (.if_icmp .le 5, 3) := dk_164 0 5 (dk_at dksX6_feed_0 15 rfl rfl)
theorem dX6_feed_18 : decode cX6_feed 18 = .ok (.iconst (-1), 1) := dk_2 (dk_at dksX6_feed_0 18 rfl rfl)
theorem dX6_feed_19 : decode cX6_feed 19 = .ok (.ireturn, 1) := dk_172 (dk_at dksX6_feed_0 19 rfl rfl)
theorem dX6_feed_20 : decode cX6_feed 20 = .ok (.aload_n 0, 1) := dk_42 (dk_at dksX6_feed_0 20 rfl rfl)
theorem dX6_feed_21 : decode cX6_feed 21 = .ok (.iload_n 1, 1) := dk_27 (dk_at dksX6_feed_0 21 rfl rfl)
theorem dX6_feed_22 : decode cX6_feed 22 = .ok (.invokevirtual 235, 3) := dk_182 0 235 (dk_at dksX6_feed_1 0 rfl rfl)
theorem dX6_feed_25 : decode cX6_feed 25 = .ok (.aload_n 0, 1) := dk_42 (dk_at dksX6_feed_1 3 rfl rfl)
theorem dX6_feed_26 : decode cX6_feed 26 = .ok (.iload_n 2, 1) := dk_28 (dk_at dksX6_feed_1 4 rfl rfl)
theorem dX6_feed_27 : decode cX6_feed 27 = .ok (.invokevirtual 235, 3) := dk_182 0 235 (dk_at dksX6_feed_1 5 rfl rfl)
theorem dX6_feed_30 : decode cX6_feed 30 = .ok (.aload_n 0, 1) := dk_42 (dk_at dksX6_feed_1 8 rfl rfl)
theorem dX6_feed_31 : decode cX6_feed 31 = .ok (.iload_n 3, 1) := dk_29 (dk_at dksX6_feed_1 9 rfl rfl)
theorem dX6_feed_32 : decode cX6_feed 32 = .ok (.invokevirtual 235, 3) := dk_182 0 235 (dk_at dksX6_feed_1 10 rfl rfl)
theorem dX6_feed_35 : decode cX6_feed 35 = .ok (.aload_n 0, 1) := dk_42 (dk_at dksX6_feed_1 13 rfl rfl)
theorem dX6_feed_36 : decode cX6_feed 36 = .ok (.iload 4, 2) := dk_21 4 (dk_at dksX6_feed_1 14 rfl rfl)
theorem dX6_feed_38 : decode cX6_feed 38 = .ok (.invokevirtual 235, 3) := dk_182 0 235 (dk_at dksX6_feed_1 16 rfl rfl)
theorem dX6_feed_41 : decode cX6_feed 41 = .ok (.aload_n 0, 1) := dk_42 (dk_at dksX6_feed_1 19 rfl rfl)
theorem dX6_feed_42 : decode cX6_feed 42 = .ok (.iload 5, 2) := dk_21 5 (dk_at dksX6_feed_1 20 rfl rfl)
theorem dX6_feed_44 : decode cX6_feed 44 = .ok (.invokevirtual 235, 3) := dk_182 0 235 (dk_at dksX6_feed_2 0 rfl rfl)
theorem dX6_feed_47 : decode cX6_feed 47 = .ok (.aload_n 0, 1) := dk_42 (dk_at dksX6_feed_2 3 rfl rfl)
theorem dX6_feed_48 : decode cX6_feed 48 = .ok (.getfield 232, 3) := dk_180 0 232 (dk_at dksX6_feed_2 4 rfl rfl)
theorem dX6_feed_51 : decode cX6_feed 51 = .ok (.ireturn, 1) := dk_172 (dk_at dksX6_feed_2 7 rfl rfl)
abbrev cX6_lay : ByteArray := prog_16_method_49_code
def yX6_lay : MethodName := ⟨RX6, "lay", "(I)V"⟩
def dkwX6_lay_1 : List UInt8 := [180, 0, 232, 4, 96, 181, 0, 232, 132, 2, 255, 167, 255, 223, 177]
abbrev dktX6_lay_1 : List UInt8 := dkwX6_lay_1 ++ []
def dkwX6_lay_0 : List UInt8 := [6, 61, 28, 155, 0, 35, 42, 180, 0, 24, 42, 180, 0, 232, 27, 16, 8, 28, 104, 122, 145, 84, 42, 89]
abbrev dktX6_lay_0 : List UInt8 := dkwX6_lay_0 ++ dktX6_lay_1
theorem dksX6_lay_0 : cX6_lay.data.toList.drop 0 = dktX6_lay_0 := by decide +kernel
theorem dksX6_lay_1 : cX6_lay.data.toList.drop 24 = dktX6_lay_1 := dk_seg dksX6_lay_0 24 rfl rfl
theorem dX6_lay_0 : decode cX6_lay 0 = .ok (.iconst 3, 1) := dk_6 (dk_at dksX6_lay_0 0 rfl rfl)
theorem dX6_lay_1 : decode cX6_lay 1 = .ok (.istore_n 2, 1) := dk_61 (dk_at dksX6_lay_0 1 rfl rfl)
theorem dX6_lay_2 : decode cX6_lay 2 = .ok (.iload_n 2, 1) := dk_28 (dk_at dksX6_lay_0 2 rfl rfl)
theorem dX6_lay_3 : decode cX6_lay 3 = .ok (.ifCond .lt 35, 3) := dk_155 0 35 (dk_at dksX6_lay_0 3 rfl rfl)
theorem dX6_lay_6 : decode cX6_lay 6 = .ok (.aload_n 0, 1) := dk_42 (dk_at dksX6_lay_0 6 rfl rfl)
theorem dX6_lay_7 : decode cX6_lay 7 = .ok (.getfield 24, 3) := dk_180 0 24 (dk_at dksX6_lay_0 7 rfl rfl)
theorem dX6_lay_10 : decode cX6_lay 10 = .ok (.aload_n 0, 1) := dk_42 (dk_at dksX6_lay_0 10 rfl rfl)
theorem dX6_lay_11 : decode cX6_lay 11 = .ok (.getfield 232, 3) := dk_180 0 232 (dk_at dksX6_lay_0 11 rfl rfl)
theorem dX6_lay_14 : decode cX6_lay 14 = .ok (.iload_n 1, 1) := dk_27 (dk_at dksX6_lay_0 14 rfl rfl)
theorem dX6_lay_15 : decode cX6_lay 15 = .ok (.bipush 8, 2) := dk_16 8 (dk_at dksX6_lay_0 15 rfl rfl)
theorem dX6_lay_17 : decode cX6_lay 17 = .ok (.iload_n 2, 1) := dk_28 (dk_at dksX6_lay_0 17 rfl rfl)
theorem dX6_lay_18 : decode cX6_lay 18 = .ok (.imul, 1) := dk_104 (dk_at dksX6_lay_0 18 rfl rfl)
theorem dX6_lay_19 : decode cX6_lay 19 = .ok (.ishr, 1) := dk_122 (dk_at dksX6_lay_0 19 rfl rfl)
theorem dX6_lay_20 : decode cX6_lay 20 = .ok (.i2b, 1) := dk_145 (dk_at dksX6_lay_0 20 rfl rfl)
theorem dX6_lay_21 : decode cX6_lay 21 = .ok (.bastore, 1) := dk_84 (dk_at dksX6_lay_0 21 rfl rfl)
theorem dX6_lay_22 : decode cX6_lay 22 = .ok (.aload_n 0, 1) := dk_42 (dk_at dksX6_lay_0 22 rfl rfl)
theorem dX6_lay_23 : decode cX6_lay 23 = .ok (.dup, 1) := dk_89 (dk_at dksX6_lay_0 23 rfl rfl)
theorem dX6_lay_24 : decode cX6_lay 24 = .ok (.getfield 232, 3) := dk_180 0 232 (dk_at dksX6_lay_1 0 rfl rfl)
theorem dX6_lay_27 : decode cX6_lay 27 = .ok (.iconst 1, 1) := dk_4 (dk_at dksX6_lay_1 3 rfl rfl)
theorem dX6_lay_28 : decode cX6_lay 28 = .ok (.iadd, 1) := dk_96 (dk_at dksX6_lay_1 4 rfl rfl)
theorem dX6_lay_29 : decode cX6_lay 29 = .ok (.putfield 232, 3) := dk_181 0 232 (dk_at dksX6_lay_1 5 rfl rfl)
theorem dX6_lay_32 : decode cX6_lay 32 = .ok (.iinc 2 (-1), 3) := dk_132 2 255 (dk_at dksX6_lay_1 8 rfl rfl)
theorem dX6_lay_35 : decode cX6_lay 35 = .ok (.goto (-33), 3) := dk_167 255 223 (dk_at dksX6_lay_1 11 rfl rfl)
theorem dX6_lay_38 : decode cX6_lay 38 = .ok (.return_, 1) := dk_177 (dk_at dksX6_lay_1 14 rfl rfl)
abbrev cX6_fault : ByteArray := prog_16_method_52_code
def yX6_fault : MethodName := ⟨RX6, "fault", "(I)I"⟩
def dkwX6_fault_1 : List UInt8 := [180, 0, 32, 167, 0, 4, 2, 172]
abbrev dktX6_fault_1 : List UInt8 := dkwX6_fault_1 ++ []
def dkwX6_fault_0 : List UInt8 := [42, 3, 181, 0, 77, 27, 154, 0, 10, 42, 180, 0, 28, 167, 0, 16, 27, 4, 160, 0, 10, 42]
abbrev dktX6_fault_0 : List UInt8 := dkwX6_fault_0 ++ dktX6_fault_1
theorem dksX6_fault_0 : cX6_fault.data.toList.drop 0 = dktX6_fault_0 := by decide +kernel
theorem dksX6_fault_1 : cX6_fault.data.toList.drop 22 = dktX6_fault_1 := dk_seg dksX6_fault_0 22 rfl rfl
theorem dX6_fault_0 : decode cX6_fault 0 = .ok (.aload_n 0, 1) := dk_42 (dk_at dksX6_fault_0 0 rfl rfl)
theorem dX6_fault_1 : decode cX6_fault 1 = .ok (.iconst 0, 1) := dk_3 (dk_at dksX6_fault_0 1 rfl rfl)
theorem dX6_fault_2 : decode cX6_fault 2 = .ok (.putfield 77, 3) := dk_181 0 77 (dk_at dksX6_fault_0 2 rfl rfl)
theorem dX6_fault_5 : decode cX6_fault 5 = .ok (.iload_n 1, 1) := dk_27 (dk_at dksX6_fault_0 5 rfl rfl)
theorem dX6_fault_6 : decode cX6_fault 6 = .ok (.ifCond .ne 10, 3) := dk_154 0 10 (dk_at dksX6_fault_0 6 rfl rfl)
theorem dX6_fault_9 : decode cX6_fault 9 = .ok (.aload_n 0, 1) := dk_42 (dk_at dksX6_fault_0 9 rfl rfl)
theorem dX6_fault_10 : decode cX6_fault 10 = .ok (.getfield 28, 3) := dk_180 0 28 (dk_at dksX6_fault_0 10 rfl rfl)
theorem dX6_fault_13 : decode cX6_fault 13 = .ok (.goto 16, 3) := dk_167 0 16 (dk_at dksX6_fault_0 13 rfl rfl)
theorem dX6_fault_16 : decode cX6_fault 16 = .ok (.iload_n 1, 1) := dk_27 (dk_at dksX6_fault_0 16 rfl rfl)
theorem dX6_fault_17 : decode cX6_fault 17 = .ok (.iconst 1, 1) := dk_4 (dk_at dksX6_fault_0 17 rfl rfl)
theorem dX6_fault_18 : decode cX6_fault 18 = .ok (.if_icmp .ne 10, 3) := dk_160 0 10 (dk_at dksX6_fault_0 18 rfl rfl)
theorem dX6_fault_21 : decode cX6_fault 21 = .ok (.aload_n 0, 1) := dk_42 (dk_at dksX6_fault_0 21 rfl rfl)
theorem dX6_fault_22 : decode cX6_fault 22 = .ok (.getfield 32, 3) := dk_180 0 32 (dk_at dksX6_fault_1 0 rfl rfl)
theorem dX6_fault_25 : decode cX6_fault 25 = .ok (.goto 4, 3) := dk_167 0 4 (dk_at dksX6_fault_1 3 rfl rfl)
theorem dX6_fault_28 : decode cX6_fault 28 = .ok (.iconst (-1), 1) := dk_2 (dk_at dksX6_fault_1 6 rfl rfl)
theorem dX6_fault_29 : decode cX6_fault 29 = .ok (.ireturn, 1) := dk_172 (dk_at dksX6_fault_1 7 rfl rfl)
abbrev cX6_drawer : ByteArray := prog_16_method_61_code
def yX6_drawer : MethodName := ⟨RX6, "drawer", "(I)I"⟩
def dkwX6_drawer_6 : List UInt8 := [180, 0, 35, 3, 46, 172]
abbrev dktX6_drawer_6 : List UInt8 := dkwX6_drawer_6 ++ []
def dkwX6_drawer_5 : List UInt8 := [182, 0, 254, 167, 255, 186, 42, 182, 1, 23, 154, 0, 5, 2, 172, 42, 7, 3, 182, 1, 26, 42]
abbrev dktX6_drawer_5 : List UInt8 := dkwX6_drawer_5 ++ dktX6_drawer_6
def dkwX6_drawer_4 : List UInt8 := [182, 0, 194, 153, 0, 10, 42, 182, 1, 17, 167, 0, 7, 42, 182, 0, 229, 42, 42, 16, 59, 182, 1, 20]
abbrev dktX6_drawer_4 : List UInt8 := dkwX6_drawer_4 ++ dktX6_drawer_5
def dkwX6_drawer_3 : List UInt8 := [42, 182, 1, 11, 167, 0, 35, 42, 182, 0, 173, 153, 0, 10, 42, 182, 1, 14, 167, 0, 21, 42]
abbrev dktX6_drawer_3 : List UInt8 := dkwX6_drawer_3 ++ dktX6_drawer_4
def dkwX6_drawer_2 : List UInt8 := [167, 255, 235, 42, 180, 0, 216, 154, 0, 69, 42, 180, 0, 132, 153, 0, 62, 42, 182, 0, 176, 153, 0, 10]
abbrev dktX6_drawer_2 : List UInt8 := dkwX6_drawer_2 ++ dktX6_drawer_3
def dkwX6_drawer_1 : List UInt8 := [61, 28, 17, 1, 154, 162, 0, 20, 42, 180, 0, 35, 17, 6, 104, 28, 96, 3, 79, 132, 2, 1]
abbrev dktX6_drawer_1 : List UInt8 := dkwX6_drawer_1 ++ dktX6_drawer_2
def dkwX6_drawer_0 : List UInt8 := [42, 3, 181, 0, 77, 42, 3, 181, 0, 80, 42, 27, 17, 3, 132, 182, 1, 8, 154, 0, 5, 2, 172, 3]
abbrev dktX6_drawer_0 : List UInt8 := dkwX6_drawer_0 ++ dktX6_drawer_1
theorem dksX6_drawer_0 : cX6_drawer.data.toList.drop 0 = dktX6_drawer_0 := by decide +kernel
theorem dksX6_drawer_1 : cX6_drawer.data.toList.drop 24 = dktX6_drawer_1 := dk_seg dksX6_drawer_0 24 rfl rfl
theorem dksX6_drawer_2 : cX6_drawer.data.toList.drop 46 = dktX6_drawer_2 := dk_seg dksX6_drawer_1 22 rfl rfl
theorem dksX6_drawer_3 : cX6_drawer.data.toList.drop 70 = dktX6_drawer_3 := dk_seg dksX6_drawer_2 24 rfl rfl
theorem dksX6_drawer_4 : cX6_drawer.data.toList.drop 92 = dktX6_drawer_4 := dk_seg dksX6_drawer_3 22 rfl rfl
theorem dksX6_drawer_5 : cX6_drawer.data.toList.drop 116 = dktX6_drawer_5 := dk_seg dksX6_drawer_4 24 rfl rfl
theorem dksX6_drawer_6 : cX6_drawer.data.toList.drop 138 = dktX6_drawer_6 := dk_seg dksX6_drawer_5 22 rfl rfl
theorem dX6_drawer_0 : decode cX6_drawer 0 = .ok (.aload_n 0, 1) := dk_42 (dk_at dksX6_drawer_0 0 rfl rfl)
theorem dX6_drawer_1 : decode cX6_drawer 1 = .ok (.iconst 0, 1) := dk_3 (dk_at dksX6_drawer_0 1 rfl rfl)
theorem dX6_drawer_2 : decode cX6_drawer 2 = .ok (.putfield 77, 3) := dk_181 0 77 (dk_at dksX6_drawer_0 2 rfl rfl)
theorem dX6_drawer_5 : decode cX6_drawer 5 = .ok (.aload_n 0, 1) := dk_42 (dk_at dksX6_drawer_0 5 rfl rfl)
theorem dX6_drawer_6 : decode cX6_drawer 6 = .ok (.iconst 0, 1) := dk_3 (dk_at dksX6_drawer_0 6 rfl rfl)
theorem dX6_drawer_7 : decode cX6_drawer 7 = .ok (.putfield 80, 3) := dk_181 0 80 (dk_at dksX6_drawer_0 7 rfl rfl)
theorem dX6_drawer_10 : decode cX6_drawer 10 = .ok (.aload_n 0, 1) := dk_42 (dk_at dksX6_drawer_0 10 rfl rfl)
theorem dX6_drawer_11 : decode cX6_drawer 11 = .ok (.iload_n 1, 1) := dk_27 (dk_at dksX6_drawer_0 11 rfl rfl)
theorem dX6_drawer_12 : decode cX6_drawer 12 = .ok (.sipush 900, 3) := dk_17 3 132 (dk_at dksX6_drawer_0 12 rfl rfl)
theorem dX6_drawer_15 : decode cX6_drawer 15 = .ok (.invokevirtual 264, 3) := dk_182 1 8 (dk_at dksX6_drawer_0 15 rfl rfl)
theorem dX6_drawer_18 : decode cX6_drawer 18 = .ok (.ifCond .ne 5, 3) := dk_154 0 5 (dk_at dksX6_drawer_0 18 rfl rfl)
theorem dX6_drawer_21 : decode cX6_drawer 21 = .ok (.iconst (-1), 1) := dk_2 (dk_at dksX6_drawer_0 21 rfl rfl)
theorem dX6_drawer_22 : decode cX6_drawer 22 = .ok (.ireturn, 1) := dk_172 (dk_at dksX6_drawer_0 22 rfl rfl)
theorem dX6_drawer_23 : decode cX6_drawer 23 = .ok (.iconst 0, 1) := dk_3 (dk_at dksX6_drawer_0 23 rfl rfl)
theorem dX6_drawer_24 : decode cX6_drawer 24 = .ok (.istore_n 2, 1) := dk_61 (dk_at dksX6_drawer_1 0 rfl rfl)
theorem dX6_drawer_25 : decode cX6_drawer 25 = .ok (.iload_n 2, 1) := dk_28 (dk_at dksX6_drawer_1 1 rfl rfl)
theorem dX6_drawer_26 : decode cX6_drawer 26 = .ok (.sipush 410, 3) := dk_17 1 154 (dk_at dksX6_drawer_1 2 rfl rfl)
theorem dX6_drawer_29 : decode cX6_drawer 29 = .ok (.if_icmp .ge 20, 3) := dk_162 0 20 (dk_at dksX6_drawer_1 5 rfl rfl)
theorem dX6_drawer_32 : decode cX6_drawer 32 = .ok (.aload_n 0, 1) := dk_42 (dk_at dksX6_drawer_1 8 rfl rfl)
theorem dX6_drawer_33 : decode cX6_drawer 33 = .ok (.getfield 35, 3) := dk_180 0 35 (dk_at dksX6_drawer_1 9 rfl rfl)
theorem dX6_drawer_36 : decode cX6_drawer 36 = .ok (.sipush 1640, 3) := dk_17 6 104 (dk_at dksX6_drawer_1 12 rfl rfl)
theorem dX6_drawer_39 : decode cX6_drawer 39 = .ok (.iload_n 2, 1) := dk_28 (dk_at dksX6_drawer_1 15 rfl rfl)
theorem dX6_drawer_40 : decode cX6_drawer 40 = .ok (.iadd, 1) := dk_96 (dk_at dksX6_drawer_1 16 rfl rfl)
theorem dX6_drawer_41 : decode cX6_drawer 41 = .ok (.iconst 0, 1) := dk_3 (dk_at dksX6_drawer_1 17 rfl rfl)
theorem dX6_drawer_42 : decode cX6_drawer 42 = .ok (.iastore, 1) := dk_79 (dk_at dksX6_drawer_1 18 rfl rfl)
theorem dX6_drawer_43 : decode cX6_drawer 43 = .ok (.iinc 2 1, 3) := dk_132 2 1 (dk_at dksX6_drawer_1 19 rfl rfl)
theorem dX6_drawer_46 : decode cX6_drawer 46 = .ok (.goto (-21), 3) := dk_167 255 235 (dk_at dksX6_drawer_2 0 rfl rfl)
theorem dX6_drawer_49 : decode cX6_drawer 49 = .ok (.aload_n 0, 1) := dk_42 (dk_at dksX6_drawer_2 3 rfl rfl)
theorem dX6_drawer_50 : decode cX6_drawer 50 = .ok (.getfield 216, 3) := dk_180 0 216 (dk_at dksX6_drawer_2 4 rfl rfl)
theorem dX6_drawer_53 : decode cX6_drawer 53 = .ok (.ifCond .ne 69, 3) := dk_154 0 69 (dk_at dksX6_drawer_2 7 rfl rfl)
theorem dX6_drawer_56 : decode cX6_drawer 56 = .ok (.aload_n 0, 1) := dk_42 (dk_at dksX6_drawer_2 10 rfl rfl)
theorem dX6_drawer_57 : decode cX6_drawer 57 = .ok (.getfield 132, 3) := dk_180 0 132 (dk_at dksX6_drawer_2 11 rfl rfl)
theorem dX6_drawer_60 : decode cX6_drawer 60 = .ok (.ifCond .eq 62, 3) := dk_153 0 62 (dk_at dksX6_drawer_2 14 rfl rfl)
theorem dX6_drawer_63 : decode cX6_drawer 63 = .ok (.aload_n 0, 1) := dk_42 (dk_at dksX6_drawer_2 17 rfl rfl)
theorem dX6_drawer_64 : decode cX6_drawer 64 = .ok (.invokevirtual 176, 3) := dk_182 0 176 (dk_at dksX6_drawer_2 18 rfl rfl)
theorem dX6_drawer_67 : decode cX6_drawer 67 = .ok (.ifCond .eq 10, 3) := dk_153 0 10 (dk_at dksX6_drawer_2 21 rfl rfl)
theorem dX6_drawer_70 : decode cX6_drawer 70 = .ok (.aload_n 0, 1) := dk_42 (dk_at dksX6_drawer_3 0 rfl rfl)
theorem dX6_drawer_71 : decode cX6_drawer 71 = .ok (.invokevirtual 267, 3) := dk_182 1 11 (dk_at dksX6_drawer_3 1 rfl rfl)
theorem dX6_drawer_74 : decode cX6_drawer 74 = .ok (.goto 35, 3) := dk_167 0 35 (dk_at dksX6_drawer_3 4 rfl rfl)
theorem dX6_drawer_77 : decode cX6_drawer 77 = .ok (.aload_n 0, 1) := dk_42 (dk_at dksX6_drawer_3 7 rfl rfl)
theorem dX6_drawer_78 : decode cX6_drawer 78 = .ok (.invokevirtual 173, 3) := dk_182 0 173 (dk_at dksX6_drawer_3 8 rfl rfl)
theorem dX6_drawer_81 : decode cX6_drawer 81 = .ok (.ifCond .eq 10, 3) := dk_153 0 10 (dk_at dksX6_drawer_3 11 rfl rfl)
theorem dX6_drawer_84 : decode cX6_drawer 84 = .ok (.aload_n 0, 1) := dk_42 (dk_at dksX6_drawer_3 14 rfl rfl)
theorem dX6_drawer_85 : decode cX6_drawer 85 = .ok (.invokevirtual 270, 3) := dk_182 1 14 (dk_at dksX6_drawer_3 15 rfl rfl)
theorem dX6_drawer_88 : decode cX6_drawer 88 = .ok (.goto 21, 3) := dk_167 0 21 (dk_at dksX6_drawer_3 18 rfl rfl)
theorem dX6_drawer_91 : decode cX6_drawer 91 = .ok (.aload_n 0, 1) := dk_42 (dk_at dksX6_drawer_3 21 rfl rfl)
theorem dX6_drawer_92 : decode cX6_drawer 92 = .ok (.invokevirtual 194, 3) := dk_182 0 194 (dk_at dksX6_drawer_4 0 rfl rfl)
theorem dX6_drawer_95 : decode cX6_drawer 95 = .ok (.ifCond .eq 10, 3) := dk_153 0 10 (dk_at dksX6_drawer_4 3 rfl rfl)
theorem dX6_drawer_98 : decode cX6_drawer 98 = .ok (.aload_n 0, 1) := dk_42 (dk_at dksX6_drawer_4 6 rfl rfl)
theorem dX6_drawer_99 : decode cX6_drawer 99 = .ok (.invokevirtual 273, 3) := dk_182 1 17 (dk_at dksX6_drawer_4 7 rfl rfl)
theorem dX6_drawer_102 : decode cX6_drawer 102 = .ok (.goto 7, 3) := dk_167 0 7 (dk_at dksX6_drawer_4 10 rfl rfl)
theorem dX6_drawer_105 : decode cX6_drawer 105 = .ok (.aload_n 0, 1) := dk_42 (dk_at dksX6_drawer_4 13 rfl rfl)
theorem dX6_drawer_106 : decode cX6_drawer 106 = .ok (.invokevirtual 229, 3) := dk_182 0 229 (dk_at dksX6_drawer_4 14 rfl rfl)
theorem dX6_drawer_109 : decode cX6_drawer 109 = .ok (.aload_n 0, 1) := dk_42 (dk_at dksX6_drawer_4 17 rfl rfl)
theorem dX6_drawer_110 : decode cX6_drawer 110 = .ok (.aload_n 0, 1) := dk_42 (dk_at dksX6_drawer_4 18 rfl rfl)
theorem dX6_drawer_111 : decode cX6_drawer 111 = .ok (.bipush 59, 2) := dk_16 59 (dk_at dksX6_drawer_4 19 rfl rfl)
theorem dX6_drawer_113 : decode cX6_drawer 113 = .ok (.invokevirtual 276, 3) := dk_182 1 20 (dk_at dksX6_drawer_4 21 rfl rfl)
theorem dX6_drawer_116 : decode cX6_drawer 116 = .ok (.invokevirtual 254, 3) := dk_182 0 254 (dk_at dksX6_drawer_5 0 rfl rfl)
theorem dX6_drawer_119 : decode cX6_drawer 119 = .ok (.goto (-70), 3) := dk_167 255 186 (dk_at dksX6_drawer_5 3 rfl rfl)
theorem dX6_drawer_122 : decode cX6_drawer 122 = .ok (.aload_n 0, 1) := dk_42 (dk_at dksX6_drawer_5 6 rfl rfl)
theorem dX6_drawer_123 : decode cX6_drawer 123 = .ok (.invokevirtual 279, 3) := dk_182 1 23 (dk_at dksX6_drawer_5 7 rfl rfl)
theorem dX6_drawer_126 : decode cX6_drawer 126 = .ok (.ifCond .ne 5, 3) := dk_154 0 5 (dk_at dksX6_drawer_5 10 rfl rfl)
theorem dX6_drawer_129 : decode cX6_drawer 129 = .ok (.iconst (-1), 1) := dk_2 (dk_at dksX6_drawer_5 13 rfl rfl)
theorem dX6_drawer_130 : decode cX6_drawer 130 = .ok (.ireturn, 1) := dk_172 (dk_at dksX6_drawer_5 14 rfl rfl)
theorem dX6_drawer_131 : decode cX6_drawer 131 = .ok (.aload_n 0, 1) := dk_42 (dk_at dksX6_drawer_5 15 rfl rfl)
theorem dX6_drawer_132 : decode cX6_drawer 132 = .ok (.iconst 4, 1) := dk_7 (dk_at dksX6_drawer_5 16 rfl rfl)
theorem dX6_drawer_133 : decode cX6_drawer 133 = .ok (.iconst 0, 1) := dk_3 (dk_at dksX6_drawer_5 17 rfl rfl)
theorem dX6_drawer_134 : decode cX6_drawer 134 = .ok (.invokevirtual 282, 3) := dk_182 1 26 (dk_at dksX6_drawer_5 18 rfl rfl)
theorem dX6_drawer_137 : decode cX6_drawer 137 = .ok (.aload_n 0, 1) := dk_42 (dk_at dksX6_drawer_5 21 rfl rfl)
theorem dX6_drawer_138 : decode cX6_drawer 138 = .ok (.getfield 35, 3) := dk_180 0 35 (dk_at dksX6_drawer_6 0 rfl rfl)
theorem dX6_drawer_141 : decode cX6_drawer 141 = .ok (.iconst 0, 1) := dk_3 (dk_at dksX6_drawer_6 3 rfl rfl)
theorem dX6_drawer_142 : decode cX6_drawer 142 = .ok (.iaload, 1) := dk_46 (dk_at dksX6_drawer_6 4 rfl rfl)
theorem dX6_drawer_143 : decode cX6_drawer 143 = .ok (.ireturn, 1) := dk_172 (dk_at dksX6_drawer_6 5 rfl rfl)
abbrev cX6_starts : ByteArray := prog_16_method_50_code
def yX6_starts : MethodName := ⟨RX6, "starts", "(II)Z"⟩
def dkwX6_starts_2 : List UInt8 := [172]
abbrev dktX6_starts_2 : List UInt8 := dkwX6_starts_2 ++ []
def dkwX6_starts_1 : List UInt8 := [27, 181, 0, 120, 42, 3, 181, 0, 232, 42, 3, 181, 0, 123, 42, 3, 181, 0, 216, 42, 182, 0, 226, 4]
abbrev dktX6_starts_1 : List UInt8 := dkwX6_starts_1 ++ dktX6_starts_2
def dkwX6_starts_0 : List UInt8 := [27, 155, 0, 16, 27, 42, 180, 0, 232, 163, 0, 8, 27, 28, 164, 0, 9, 42, 8, 182, 0, 92, 172, 42]
abbrev dktX6_starts_0 : List UInt8 := dkwX6_starts_0 ++ dktX6_starts_1
theorem dksX6_starts_0 : cX6_starts.data.toList.drop 0 = dktX6_starts_0 := by decide +kernel
theorem dksX6_starts_1 : cX6_starts.data.toList.drop 24 = dktX6_starts_1 := dk_seg dksX6_starts_0 24 rfl rfl
theorem dksX6_starts_2 : cX6_starts.data.toList.drop 48 = dktX6_starts_2 := dk_seg dksX6_starts_1 24 rfl rfl
theorem dX6_starts_0 : decode cX6_starts 0 = .ok (.iload_n 1, 1) := dk_27 (dk_at dksX6_starts_0 0 rfl rfl)
theorem dX6_starts_1 : decode cX6_starts 1 = .ok (.ifCond .lt 16, 3) := dk_155 0 16 (dk_at dksX6_starts_0 1 rfl rfl)
theorem dX6_starts_4 : decode cX6_starts 4 = .ok (.iload_n 1, 1) := dk_27 (dk_at dksX6_starts_0 4 rfl rfl)
theorem dX6_starts_5 : decode cX6_starts 5 = .ok (.aload_n 0, 1) := dk_42 (dk_at dksX6_starts_0 5 rfl rfl)
theorem dX6_starts_6 : decode cX6_starts 6 = .ok (.getfield 232, 3) := dk_180 0 232 (dk_at dksX6_starts_0 6 rfl rfl)
theorem dX6_starts_9 : decode cX6_starts 9 = .ok (.if_icmp .gt 8, 3) := dk_163 0 8 (dk_at dksX6_starts_0 9 rfl rfl)
theorem dX6_starts_12 : decode cX6_starts 12 = .ok (.iload_n 1, 1) := dk_27 (dk_at dksX6_starts_0 12 rfl rfl)
theorem dX6_starts_13 : decode cX6_starts 13 = .ok (.iload_n 2, 1) := dk_28 (dk_at dksX6_starts_0 13 rfl rfl)
theorem dX6_starts_14 : decode cX6_starts 14 = .ok (.if_icmp .le 9, 3) := dk_164 0 9 (dk_at dksX6_starts_0 14 rfl rfl)
theorem dX6_starts_17 : decode cX6_starts 17 = .ok (.aload_n 0, 1) := dk_42 (dk_at dksX6_starts_0 17 rfl rfl)
theorem dX6_starts_18 : decode cX6_starts 18 = .ok (.iconst 5, 1) := dk_8 (dk_at dksX6_starts_0 18 rfl rfl)
theorem dX6_starts_19 : decode cX6_starts 19 = .ok (.invokevirtual 92, 3) := dk_182 0 92 (dk_at dksX6_starts_0 19 rfl rfl)
theorem dX6_starts_22 : decode cX6_starts 22 = .ok (.ireturn, 1) := dk_172 (dk_at dksX6_starts_0 22 rfl rfl)
theorem dX6_starts_23 : decode cX6_starts 23 = .ok (.aload_n 0, 1) := dk_42 (dk_at dksX6_starts_0 23 rfl rfl)
theorem dX6_starts_24 : decode cX6_starts 24 = .ok (.iload_n 1, 1) := dk_27 (dk_at dksX6_starts_1 0 rfl rfl)
theorem dX6_starts_25 : decode cX6_starts 25 = .ok (.putfield 120, 3) := dk_181 0 120 (dk_at dksX6_starts_1 1 rfl rfl)
theorem dX6_starts_28 : decode cX6_starts 28 = .ok (.aload_n 0, 1) := dk_42 (dk_at dksX6_starts_1 4 rfl rfl)
theorem dX6_starts_29 : decode cX6_starts 29 = .ok (.iconst 0, 1) := dk_3 (dk_at dksX6_starts_1 5 rfl rfl)
theorem dX6_starts_30 : decode cX6_starts 30 = .ok (.putfield 232, 3) := dk_181 0 232 (dk_at dksX6_starts_1 6 rfl rfl)
theorem dX6_starts_33 : decode cX6_starts 33 = .ok (.aload_n 0, 1) := dk_42 (dk_at dksX6_starts_1 9 rfl rfl)
theorem dX6_starts_34 : decode cX6_starts 34 = .ok (.iconst 0, 1) := dk_3 (dk_at dksX6_starts_1 10 rfl rfl)
theorem dX6_starts_35 : decode cX6_starts 35 = .ok (.putfield 123, 3) := dk_181 0 123 (dk_at dksX6_starts_1 11 rfl rfl)
theorem dX6_starts_38 : decode cX6_starts 38 = .ok (.aload_n 0, 1) := dk_42 (dk_at dksX6_starts_1 14 rfl rfl)
theorem dX6_starts_39 : decode cX6_starts 39 = .ok (.iconst 0, 1) := dk_3 (dk_at dksX6_starts_1 15 rfl rfl)
theorem dX6_starts_40 : decode cX6_starts 40 = .ok (.putfield 216, 3) := dk_181 0 216 (dk_at dksX6_starts_1 16 rfl rfl)
theorem dX6_starts_43 : decode cX6_starts 43 = .ok (.aload_n 0, 1) := dk_42 (dk_at dksX6_starts_1 19 rfl rfl)
theorem dX6_starts_44 : decode cX6_starts 44 = .ok (.invokevirtual 226, 3) := dk_182 0 226 (dk_at dksX6_starts_1 20 rfl rfl)
theorem dX6_starts_47 : decode cX6_starts 47 = .ok (.iconst 1, 1) := dk_4 (dk_at dksX6_starts_1 23 rfl rfl)
theorem dX6_starts_48 : decode cX6_starts 48 = .ok (.ireturn, 1) := dk_172 (dk_at dksX6_starts_2 0 rfl rfl)
abbrev cX6_next : ByteArray := prog_16_method_24_code
def yX6_next : MethodName := ⟨RX6, "next", "()V"⟩
def dkwX6_next_14 : List UInt8 := [181, 0, 132, 177]
abbrev dktX6_next_14 : List UInt8 := dkwX6_next_14 ++ []
def dkwX6_next_13 : List UInt8 := [4, 96, 181, 0, 123, 42, 27, 181, 0, 151, 42, 42, 27, 182, 0, 154, 153, 0, 7, 6, 167, 0, 4, 7]
abbrev dktX6_next_13 : List UInt8 := dkwX6_next_13 ++ dktX6_next_14
def dkwX6_next_12 : List UInt8 := [180, 0, 126, 100, 7, 164, 0, 7, 7, 167, 0, 4, 5, 181, 0, 132, 167, 0, 35, 42, 42, 180, 0, 126]
abbrev dktX6_next_12 : List UInt8 := dkwX6_next_12 ++ dktX6_next_13
def dkwX6_next_11 : List UInt8 := [181, 0, 151, 42, 89, 180, 0, 123, 4, 96, 181, 0, 123, 167, 255, 196, 42, 42, 180, 0, 123, 42]
abbrev dktX6_next_11 : List UInt8 := dkwX6_next_11 ++ dktX6_next_12
def dkwX6_next_10 : List UInt8 := [162, 0, 26, 42, 16, 10, 42, 180, 0, 151, 104, 42, 42, 180, 0, 123, 182, 0, 129, 96, 16, 48, 100]
abbrev dktX6_next_10 : List UInt8 := dkwX6_next_10 ++ dktX6_next_11
def dkwX6_next_9 : List UInt8 := [42, 180, 0, 123, 182, 0, 129, 184, 0, 148, 153, 0, 52, 42, 180, 0, 123, 42, 180, 0, 126, 100, 7]
abbrev dktX6_next_9 : List UInt8 := dkwX6_next_9 ++ dktX6_next_10
def dkwX6_next_8 : List UInt8 := [42, 180, 0, 126, 100, 181, 0, 145, 167, 0, 135, 27, 184, 0, 148, 153, 0, 96, 42, 3, 181, 0, 151, 42]
abbrev dktX6_next_8 : List UInt8 := dkwX6_next_8 ++ dktX6_next_9
def dkwX6_next_7 : List UInt8 := [20, 0, 108, 181, 0, 138, 42, 89, 180, 0, 123, 4, 96, 181, 0, 123, 167, 255, 186, 42, 42, 180, 0, 123]
abbrev dktX6_next_7 : List UInt8 := dkwX6_next_7 ++ dktX6_next_8
def dkwX6_next_6 : List UInt8 := [180, 0, 138, 20, 0, 141, 105, 42, 42, 180, 0, 123, 182, 0, 129, 133, 97, 20, 0, 143, 101, 167, 0, 6]
abbrev dktX6_next_6 : List UInt8 := dkwX6_next_6 ++ dktX6_next_7
def dkwX6_next_5 : List UInt8 := [184, 0, 135, 153, 0, 62, 42, 42, 180, 0, 123, 42, 180, 0, 126, 100, 16, 8, 162, 0, 28, 42]
abbrev dktX6_next_5 : List UInt8 := dkwX6_next_5 ++ dktX6_next_6
def dkwX6_next_4 : List UInt8 := [184, 0, 135, 153, 0, 102, 42, 4, 181, 0, 132, 42, 9, 181, 0, 138, 42, 42, 180, 0, 123, 182, 0, 129]
abbrev dktX6_next_4 : List UInt8 := dkwX6_next_4 ++ dktX6_next_5
def dkwX6_next_3 : List UInt8 := [180, 0, 120, 161, 0, 9, 42, 3, 181, 0, 132, 177, 42, 42, 180, 0, 126, 182, 0, 129, 60, 27]
abbrev dktX6_next_3 : List UInt8 := dkwX6_next_3 ++ dktX6_next_4
def dkwX6_next_2 : List UInt8 := [180, 0, 126, 4, 96, 181, 0, 126, 167, 255, 209, 42, 42, 180, 0, 126, 181, 0, 123, 42, 180, 0, 126, 42]
abbrev dktX6_next_2 : List UInt8 := dkwX6_next_2 ++ dktX6_next_3
def dkwX6_next_1 : List UInt8 := [182, 0, 129, 16, 10, 159, 0, 16, 42, 42, 180, 0, 126, 182, 0, 129, 16, 32, 160, 0, 16, 42, 89]
abbrev dktX6_next_1 : List UInt8 := dkwX6_next_1 ++ dktX6_next_2
def dkwX6_next_0 : List UInt8 := [42, 42, 180, 0, 123, 181, 0, 126, 42, 180, 0, 126, 42, 180, 0, 120, 162, 0, 42, 42, 42, 180, 0, 126]
abbrev dktX6_next_0 : List UInt8 := dkwX6_next_0 ++ dktX6_next_1
theorem dksX6_next_0 : cX6_next.data.toList.drop 0 = dktX6_next_0 := by decide +kernel
theorem dksX6_next_1 : cX6_next.data.toList.drop 24 = dktX6_next_1 := dk_seg dksX6_next_0 24 rfl rfl
theorem dksX6_next_2 : cX6_next.data.toList.drop 47 = dktX6_next_2 := dk_seg dksX6_next_1 23 rfl rfl
theorem dksX6_next_3 : cX6_next.data.toList.drop 71 = dktX6_next_3 := dk_seg dksX6_next_2 24 rfl rfl
theorem dksX6_next_4 : cX6_next.data.toList.drop 93 = dktX6_next_4 := dk_seg dksX6_next_3 22 rfl rfl
theorem dksX6_next_5 : cX6_next.data.toList.drop 117 = dktX6_next_5 := dk_seg dksX6_next_4 24 rfl rfl
theorem dksX6_next_6 : cX6_next.data.toList.drop 139 = dktX6_next_6 := dk_seg dksX6_next_5 22 rfl rfl
theorem dksX6_next_7 : cX6_next.data.toList.drop 163 = dktX6_next_7 := dk_seg dksX6_next_6 24 rfl rfl
theorem dksX6_next_8 : cX6_next.data.toList.drop 187 = dktX6_next_8 := dk_seg dksX6_next_7 24 rfl rfl
theorem dksX6_next_9 : cX6_next.data.toList.drop 211 = dktX6_next_9 := dk_seg dksX6_next_8 24 rfl rfl
theorem dksX6_next_10 : cX6_next.data.toList.drop 234 = dktX6_next_10 := dk_seg dksX6_next_9 23 rfl rfl
theorem dksX6_next_11 : cX6_next.data.toList.drop 257 = dktX6_next_11 := dk_seg dksX6_next_10 23 rfl rfl
theorem dksX6_next_12 : cX6_next.data.toList.drop 279 = dktX6_next_12 := dk_seg dksX6_next_11 22 rfl rfl
theorem dksX6_next_13 : cX6_next.data.toList.drop 303 = dktX6_next_13 := dk_seg dksX6_next_12 24 rfl rfl
theorem dksX6_next_14 : cX6_next.data.toList.drop 327 = dktX6_next_14 := dk_seg dksX6_next_13 24 rfl rfl
theorem dX6_next_0 : decode cX6_next 0 = .ok (.aload_n 0, 1) := dk_42 (dk_at dksX6_next_0 0 rfl rfl)
theorem dX6_next_1 : decode cX6_next 1 = .ok (.aload_n 0, 1) := dk_42 (dk_at dksX6_next_0 1 rfl rfl)
theorem dX6_next_2 : decode cX6_next 2 = .ok (.getfield 123, 3) := dk_180 0 123 (dk_at dksX6_next_0 2 rfl rfl)
theorem dX6_next_5 : decode cX6_next 5 = .ok (.putfield 126, 3) := dk_181 0 126 (dk_at dksX6_next_0 5 rfl rfl)
theorem dX6_next_8 : decode cX6_next 8 = .ok (.aload_n 0, 1) := dk_42 (dk_at dksX6_next_0 8 rfl rfl)
theorem dX6_next_9 : decode cX6_next 9 = .ok (.getfield 126, 3) := dk_180 0 126 (dk_at dksX6_next_0 9 rfl rfl)
theorem dX6_next_12 : decode cX6_next 12 = .ok (.aload_n 0, 1) := dk_42 (dk_at dksX6_next_0 12 rfl rfl)
theorem dX6_next_13 : decode cX6_next 13 = .ok (.getfield 120, 3) := dk_180 0 120 (dk_at dksX6_next_0 13 rfl rfl)
theorem dX6_next_16 : decode cX6_next 16 = .ok (.if_icmp .ge 42, 3) := dk_162 0 42 (dk_at dksX6_next_0 16 rfl rfl)
theorem dX6_next_19 : decode cX6_next 19 = .ok (.aload_n 0, 1) := dk_42 (dk_at dksX6_next_0 19 rfl rfl)
theorem dX6_next_20 : decode cX6_next 20 = .ok (.aload_n 0, 1) := dk_42 (dk_at dksX6_next_0 20 rfl rfl)
theorem dX6_next_21 : decode cX6_next 21 = .ok (.getfield 126, 3) := dk_180 0 126 (dk_at dksX6_next_0 21 rfl rfl)
theorem dX6_next_24 : decode cX6_next 24 = .ok (.invokevirtual 129, 3) := dk_182 0 129 (dk_at dksX6_next_1 0 rfl rfl)
theorem dX6_next_27 : decode cX6_next 27 = .ok (.bipush 10, 2) := dk_16 10 (dk_at dksX6_next_1 3 rfl rfl)
theorem dX6_next_29 : decode cX6_next 29 = .ok (.if_icmp .eq 16, 3) := dk_159 0 16 (dk_at dksX6_next_1 5 rfl rfl)
theorem dX6_next_32 : decode cX6_next 32 = .ok (.aload_n 0, 1) := dk_42 (dk_at dksX6_next_1 8 rfl rfl)
theorem dX6_next_33 : decode cX6_next 33 = .ok (.aload_n 0, 1) := dk_42 (dk_at dksX6_next_1 9 rfl rfl)
theorem dX6_next_34 : decode cX6_next 34 = .ok (.getfield 126, 3) := dk_180 0 126 (dk_at dksX6_next_1 10 rfl rfl)
theorem dX6_next_37 : decode cX6_next 37 = .ok (.invokevirtual 129, 3) := dk_182 0 129 (dk_at dksX6_next_1 13 rfl rfl)
theorem dX6_next_40 : decode cX6_next 40 = .ok (.bipush 32, 2) := dk_16 32 (dk_at dksX6_next_1 16 rfl rfl)
theorem dX6_next_42 : decode cX6_next 42 = .ok (.if_icmp .ne 16, 3) := dk_160 0 16 (dk_at dksX6_next_1 18 rfl rfl)
theorem dX6_next_45 : decode cX6_next 45 = .ok (.aload_n 0, 1) := dk_42 (dk_at dksX6_next_1 21 rfl rfl)
theorem dX6_next_46 : decode cX6_next 46 = .ok (.dup, 1) := dk_89 (dk_at dksX6_next_1 22 rfl rfl)
theorem dX6_next_47 : decode cX6_next 47 = .ok (.getfield 126, 3) := dk_180 0 126 (dk_at dksX6_next_2 0 rfl rfl)
theorem dX6_next_50 : decode cX6_next 50 = .ok (.iconst 1, 1) := dk_4 (dk_at dksX6_next_2 3 rfl rfl)
theorem dX6_next_51 : decode cX6_next 51 = .ok (.iadd, 1) := dk_96 (dk_at dksX6_next_2 4 rfl rfl)
theorem dX6_next_52 : decode cX6_next 52 = .ok (.putfield 126, 3) := dk_181 0 126 (dk_at dksX6_next_2 5 rfl rfl)
theorem dX6_next_55 : decode cX6_next 55 = .ok (.goto (-47), 3) := dk_167 255 209 (dk_at dksX6_next_2 8 rfl rfl)
theorem dX6_next_58 : decode cX6_next 58 = .ok (.aload_n 0, 1) := dk_42 (dk_at dksX6_next_2 11 rfl rfl)
theorem dX6_next_59 : decode cX6_next 59 = .ok (.aload_n 0, 1) := dk_42 (dk_at dksX6_next_2 12 rfl rfl)
theorem dX6_next_60 : decode cX6_next 60 = .ok (.getfield 126, 3) := dk_180 0 126 (dk_at dksX6_next_2 13 rfl rfl)
theorem dX6_next_63 : decode cX6_next 63 = .ok (.putfield 123, 3) := dk_181 0 123 (dk_at dksX6_next_2 16 rfl rfl)
theorem dX6_next_66 : decode cX6_next 66 = .ok (.aload_n 0, 1) := dk_42 (dk_at dksX6_next_2 19 rfl rfl)
theorem dX6_next_67 : decode cX6_next 67 = .ok (.getfield 126, 3) := dk_180 0 126 (dk_at dksX6_next_2 20 rfl rfl)
theorem dX6_next_70 : decode cX6_next 70 = .ok (.aload_n 0, 1) := dk_42 (dk_at dksX6_next_2 23 rfl rfl)
theorem dX6_next_71 : decode cX6_next 71 = .ok (.getfield 120, 3) := dk_180 0 120 (dk_at dksX6_next_3 0 rfl rfl)
theorem dX6_next_74 : decode cX6_next 74 = .ok (.if_icmp .lt 9, 3) := dk_161 0 9 (dk_at dksX6_next_3 3 rfl rfl)
theorem dX6_next_77 : decode cX6_next 77 = .ok (.aload_n 0, 1) := dk_42 (dk_at dksX6_next_3 6 rfl rfl)
theorem dX6_next_78 : decode cX6_next 78 = .ok (.iconst 0, 1) := dk_3 (dk_at dksX6_next_3 7 rfl rfl)
theorem dX6_next_79 : decode cX6_next 79 = .ok (.putfield 132, 3) := dk_181 0 132 (dk_at dksX6_next_3 8 rfl rfl)
theorem dX6_next_82 : decode cX6_next 82 = .ok (.return_, 1) := dk_177 (dk_at dksX6_next_3 11 rfl rfl)
theorem dX6_next_83 : decode cX6_next 83 = .ok (.aload_n 0, 1) := dk_42 (dk_at dksX6_next_3 12 rfl rfl)
theorem dX6_next_84 : decode cX6_next 84 = .ok (.aload_n 0, 1) := dk_42 (dk_at dksX6_next_3 13 rfl rfl)
theorem dX6_next_85 : decode cX6_next 85 = .ok (.getfield 126, 3) := dk_180 0 126 (dk_at dksX6_next_3 14 rfl rfl)
theorem dX6_next_88 : decode cX6_next 88 = .ok (.invokevirtual 129, 3) := dk_182 0 129 (dk_at dksX6_next_3 17 rfl rfl)
theorem dX6_next_91 : decode cX6_next 91 = .ok (.istore_n 1, 1) := dk_60 (dk_at dksX6_next_3 20 rfl rfl)
theorem dX6_next_92 : decode cX6_next 92 = .ok (.iload_n 1, 1) := dk_27 (dk_at dksX6_next_3 21 rfl rfl)
theorem dX6_next_93 : decode cX6_next 93 = .ok (.invokestatic 135, 3) := dk_184 0 135 (dk_at dksX6_next_4 0 rfl rfl)
theorem dX6_next_96 : decode cX6_next 96 = .ok (.ifCond .eq 102, 3) := dk_153 0 102 (dk_at dksX6_next_4 3 rfl rfl)
theorem dX6_next_99 : decode cX6_next 99 = .ok (.aload_n 0, 1) := dk_42 (dk_at dksX6_next_4 6 rfl rfl)
theorem dX6_next_100 : decode cX6_next 100 = .ok (.iconst 1, 1) := dk_4 (dk_at dksX6_next_4 7 rfl rfl)
theorem dX6_next_101 : decode cX6_next 101 = .ok (.putfield 132, 3) := dk_181 0 132 (dk_at dksX6_next_4 8 rfl rfl)
theorem dX6_next_104 : decode cX6_next 104 = .ok (.aload_n 0, 1) := dk_42 (dk_at dksX6_next_4 11 rfl rfl)
theorem dX6_next_105 : decode cX6_next 105 = .ok (.lconst 0, 1) := dk_9 (dk_at dksX6_next_4 12 rfl rfl)
theorem dX6_next_106 : decode cX6_next 106 = .ok (.putfield 138, 3) := dk_181 0 138 (dk_at dksX6_next_4 13 rfl rfl)
theorem dX6_next_109 : decode cX6_next 109 = .ok (.aload_n 0, 1) := dk_42 (dk_at dksX6_next_4 16 rfl rfl)
theorem dX6_next_110 : decode cX6_next 110 = .ok (.aload_n 0, 1) := dk_42 (dk_at dksX6_next_4 17 rfl rfl)
theorem dX6_next_111 : decode cX6_next 111 = .ok (.getfield 123, 3) := dk_180 0 123 (dk_at dksX6_next_4 18 rfl rfl)
theorem dX6_next_114 : decode cX6_next 114 = .ok (.invokevirtual 129, 3) := dk_182 0 129 (dk_at dksX6_next_4 21 rfl rfl)
theorem dX6_next_117 : decode cX6_next 117 = .ok (.invokestatic 135, 3) := dk_184 0 135 (dk_at dksX6_next_5 0 rfl rfl)
theorem dX6_next_120 : decode cX6_next 120 = .ok (.ifCond .eq 62, 3) := dk_153 0 62 (dk_at dksX6_next_5 3 rfl rfl)
theorem dX6_next_123 : decode cX6_next 123 = .ok (.aload_n 0, 1) := dk_42 (dk_at dksX6_next_5 6 rfl rfl)
theorem dX6_next_124 : decode cX6_next 124 = .ok (.aload_n 0, 1) := dk_42 (dk_at dksX6_next_5 7 rfl rfl)
theorem dX6_next_125 : decode cX6_next 125 = .ok (.getfield 123, 3) := dk_180 0 123 (dk_at dksX6_next_5 8 rfl rfl)
theorem dX6_next_128 : decode cX6_next 128 = .ok (.aload_n 0, 1) := dk_42 (dk_at dksX6_next_5 11 rfl rfl)
theorem dX6_next_129 : decode cX6_next 129 = .ok (.getfield 126, 3) := dk_180 0 126 (dk_at dksX6_next_5 12 rfl rfl)
theorem dX6_next_132 : decode cX6_next 132 = .ok (.isub, 1) := dk_100 (dk_at dksX6_next_5 15 rfl rfl)
theorem dX6_next_133 : decode cX6_next 133 = .ok (.bipush 8, 2) := dk_16 8 (dk_at dksX6_next_5 16 rfl rfl)
theorem dX6_next_135 : decode cX6_next 135 = .ok (.if_icmp .ge 28, 3) := dk_162 0 28 (dk_at dksX6_next_5 18 rfl rfl)
theorem dX6_next_138 : decode cX6_next 138 = .ok (.aload_n 0, 1) := dk_42 (dk_at dksX6_next_5 21 rfl rfl)
theorem dX6_next_139 : decode cX6_next 139 = .ok (.getfield 138, 3) := dk_180 0 138 (dk_at dksX6_next_6 0 rfl rfl)
theorem dX6_next_142 : decode cX6_next 142 = .ok (.ldc2_w 141, 3) := dk_20 0 141 (dk_at dksX6_next_6 3 rfl rfl)
theorem dX6_next_145 : decode cX6_next 145 = .ok (.lmul, 1) := dk_105 (dk_at dksX6_next_6 6 rfl rfl)
theorem dX6_next_146 : decode cX6_next 146 = .ok (.aload_n 0, 1) := dk_42 (dk_at dksX6_next_6 7 rfl rfl)
theorem dX6_next_147 : decode cX6_next 147 = .ok (.aload_n 0, 1) := dk_42 (dk_at dksX6_next_6 8 rfl rfl)
theorem dX6_next_148 : decode cX6_next 148 = .ok (.getfield 123, 3) := dk_180 0 123 (dk_at dksX6_next_6 9 rfl rfl)
theorem dX6_next_151 : decode cX6_next 151 = .ok (.invokevirtual 129, 3) := dk_182 0 129 (dk_at dksX6_next_6 12 rfl rfl)
theorem dX6_next_154 : decode cX6_next 154 = .ok (.i2l, 1) := dk_133 (dk_at dksX6_next_6 15 rfl rfl)
theorem dX6_next_155 : decode cX6_next 155 = .ok (.ladd, 1) := dk_97 (dk_at dksX6_next_6 16 rfl rfl)
theorem dX6_next_156 : decode cX6_next 156 = .ok (.ldc2_w 143, 3) := dk_20 0 143 (dk_at dksX6_next_6 17 rfl rfl)
theorem dX6_next_159 : decode cX6_next 159 = .ok (.lsub, 1) := dk_101 (dk_at dksX6_next_6 20 rfl rfl)
theorem dX6_next_160 : decode cX6_next 160 = .ok (.goto 6, 3) := dk_167 0 6 (dk_at dksX6_next_6 21 rfl rfl)
theorem dX6_next_163 : decode cX6_next 163 = .ok (.ldc2_w 108, 3) := dk_20 0 108 (dk_at dksX6_next_7 0 rfl rfl)
theorem dX6_next_166 : decode cX6_next 166 = .ok (.putfield 138, 3) := dk_181 0 138 (dk_at dksX6_next_7 3 rfl rfl)
theorem dX6_next_169 : decode cX6_next 169 = .ok (.aload_n 0, 1) := dk_42 (dk_at dksX6_next_7 6 rfl rfl)
theorem dX6_next_170 : decode cX6_next 170 = .ok (.dup, 1) := dk_89 (dk_at dksX6_next_7 7 rfl rfl)
theorem dX6_next_171 : decode cX6_next 171 = .ok (.getfield 123, 3) := dk_180 0 123 (dk_at dksX6_next_7 8 rfl rfl)
theorem dX6_next_174 : decode cX6_next 174 = .ok (.iconst 1, 1) := dk_4 (dk_at dksX6_next_7 11 rfl rfl)
theorem dX6_next_175 : decode cX6_next 175 = .ok (.iadd, 1) := dk_96 (dk_at dksX6_next_7 12 rfl rfl)
theorem dX6_next_176 : decode cX6_next 176 = .ok (.putfield 123, 3) := dk_181 0 123 (dk_at dksX6_next_7 13 rfl rfl)
theorem dX6_next_179 : decode cX6_next 179 = .ok (.goto (-70), 3) := dk_167 255 186 (dk_at dksX6_next_7 16 rfl rfl)
theorem dX6_next_182 : decode cX6_next 182 = .ok (.aload_n 0, 1) := dk_42 (dk_at dksX6_next_7 19 rfl rfl)
theorem dX6_next_183 : decode cX6_next 183 = .ok (.aload_n 0, 1) := dk_42 (dk_at dksX6_next_7 20 rfl rfl)
theorem dX6_next_184 : decode cX6_next 184 = .ok (.getfield 123, 3) := dk_180 0 123 (dk_at dksX6_next_7 21 rfl rfl)
theorem dX6_next_187 : decode cX6_next 187 = .ok (.aload_n 0, 1) := dk_42 (dk_at dksX6_next_8 0 rfl rfl)
theorem dX6_next_188 : decode cX6_next 188 = .ok (.getfield 126, 3) := dk_180 0 126 (dk_at dksX6_next_8 1 rfl rfl)
theorem dX6_next_191 : decode cX6_next 191 = .ok (.isub, 1) := dk_100 (dk_at dksX6_next_8 4 rfl rfl)
theorem dX6_next_192 : decode cX6_next 192 = .ok (.putfield 145, 3) := dk_181 0 145 (dk_at dksX6_next_8 5 rfl rfl)
theorem dX6_next_195 : decode cX6_next 195 = .ok (.goto 135, 3) := dk_167 0 135 (dk_at dksX6_next_8 8 rfl rfl)
theorem dX6_next_198 : decode cX6_next 198 = .ok (.iload_n 1, 1) := dk_27 (dk_at dksX6_next_8 11 rfl rfl)
theorem dX6_next_199 : decode cX6_next 199 = .ok (.invokestatic 148, 3) := dk_184 0 148 (dk_at dksX6_next_8 12 rfl rfl)
theorem dX6_next_202 : decode cX6_next 202 = .ok (.ifCond .eq 96, 3) := dk_153 0 96 (dk_at dksX6_next_8 15 rfl rfl)
theorem dX6_next_205 : decode cX6_next 205 = .ok (.aload_n 0, 1) := dk_42 (dk_at dksX6_next_8 18 rfl rfl)
theorem dX6_next_206 : decode cX6_next 206 = .ok (.iconst 0, 1) := dk_3 (dk_at dksX6_next_8 19 rfl rfl)
theorem dX6_next_207 : decode cX6_next 207 = .ok (.putfield 151, 3) := dk_181 0 151 (dk_at dksX6_next_8 20 rfl rfl)
theorem dX6_next_210 : decode cX6_next 210 = .ok (.aload_n 0, 1) := dk_42 (dk_at dksX6_next_8 23 rfl rfl)
theorem dX6_next_211 : decode cX6_next 211 = .ok (.aload_n 0, 1) := dk_42 (dk_at dksX6_next_9 0 rfl rfl)
theorem dX6_next_212 : decode cX6_next 212 = .ok (.getfield 123, 3) := dk_180 0 123 (dk_at dksX6_next_9 1 rfl rfl)
theorem dX6_next_215 : decode cX6_next 215 = .ok (.invokevirtual 129, 3) := dk_182 0 129 (dk_at dksX6_next_9 4 rfl rfl)
theorem dX6_next_218 : decode cX6_next 218 = .ok (.invokestatic 148, 3) := dk_184 0 148 (dk_at dksX6_next_9 7 rfl rfl)
theorem dX6_next_221 : decode cX6_next 221 = .ok (.ifCond .eq 52, 3) := dk_153 0 52 (dk_at dksX6_next_9 10 rfl rfl)
theorem dX6_next_224 : decode cX6_next 224 = .ok (.aload_n 0, 1) := dk_42 (dk_at dksX6_next_9 13 rfl rfl)
theorem dX6_next_225 : decode cX6_next 225 = .ok (.getfield 123, 3) := dk_180 0 123 (dk_at dksX6_next_9 14 rfl rfl)
theorem dX6_next_228 : decode cX6_next 228 = .ok (.aload_n 0, 1) := dk_42 (dk_at dksX6_next_9 17 rfl rfl)
theorem dX6_next_229 : decode cX6_next 229 = .ok (.getfield 126, 3) := dk_180 0 126 (dk_at dksX6_next_9 18 rfl rfl)
theorem dX6_next_232 : decode cX6_next 232 = .ok (.isub, 1) := dk_100 (dk_at dksX6_next_9 21 rfl rfl)
theorem dX6_next_233 : decode cX6_next 233 = .ok (.iconst 4, 1) := dk_7 (dk_at dksX6_next_9 22 rfl rfl)
theorem dX6_next_234 : decode cX6_next 234 = .ok (.if_icmp .ge 26, 3) := dk_162 0 26 (dk_at dksX6_next_10 0 rfl rfl)
theorem dX6_next_237 : decode cX6_next 237 = .ok (.aload_n 0, 1) := dk_42 (dk_at dksX6_next_10 3 rfl rfl)
theorem dX6_next_238 : decode cX6_next 238 = .ok (.bipush 10, 2) := dk_16 10 (dk_at dksX6_next_10 4 rfl rfl)
theorem dX6_next_240 : decode cX6_next 240 = .ok (.aload_n 0, 1) := dk_42 (dk_at dksX6_next_10 6 rfl rfl)
theorem dX6_next_241 : decode cX6_next 241 = .ok (.getfield 151, 3) := dk_180 0 151 (dk_at dksX6_next_10 7 rfl rfl)
theorem dX6_next_244 : decode cX6_next 244 = .ok (.imul, 1) := dk_104 (dk_at dksX6_next_10 10 rfl rfl)
theorem dX6_next_245 : decode cX6_next 245 = .ok (.aload_n 0, 1) := dk_42 (dk_at dksX6_next_10 11 rfl rfl)
theorem dX6_next_246 : decode cX6_next 246 = .ok (.aload_n 0, 1) := dk_42 (dk_at dksX6_next_10 12 rfl rfl)
theorem dX6_next_247 : decode cX6_next 247 = .ok (.getfield 123, 3) := dk_180 0 123 (dk_at dksX6_next_10 13 rfl rfl)
theorem dX6_next_250 : decode cX6_next 250 = .ok (.invokevirtual 129, 3) := dk_182 0 129 (dk_at dksX6_next_10 16 rfl rfl)
theorem dX6_next_253 : decode cX6_next 253 = .ok (.iadd, 1) := dk_96 (dk_at dksX6_next_10 19 rfl rfl)
theorem dX6_next_254 : decode cX6_next 254 = .ok (.bipush 48, 2) := dk_16 48 (dk_at dksX6_next_10 20 rfl rfl)
theorem dX6_next_256 : decode cX6_next 256 = .ok (.isub, 1) := dk_100 (dk_at dksX6_next_10 22 rfl rfl)
theorem dX6_next_257 : decode cX6_next 257 = .ok (.putfield 151, 3) := dk_181 0 151 (dk_at dksX6_next_11 0 rfl rfl)
theorem dX6_next_260 : decode cX6_next 260 = .ok (.aload_n 0, 1) := dk_42 (dk_at dksX6_next_11 3 rfl rfl)
theorem dX6_next_261 : decode cX6_next 261 = .ok (.dup, 1) := dk_89 (dk_at dksX6_next_11 4 rfl rfl)
theorem dX6_next_262 : decode cX6_next 262 = .ok (.getfield 123, 3) := dk_180 0 123 (dk_at dksX6_next_11 5 rfl rfl)
theorem dX6_next_265 : decode cX6_next 265 = .ok (.iconst 1, 1) := dk_4 (dk_at dksX6_next_11 8 rfl rfl)
theorem dX6_next_266 : decode cX6_next 266 = .ok (.iadd, 1) := dk_96 (dk_at dksX6_next_11 9 rfl rfl)
theorem dX6_next_267 : decode cX6_next 267 = .ok (.putfield 123, 3) := dk_181 0 123 (dk_at dksX6_next_11 10 rfl rfl)
theorem dX6_next_270 : decode cX6_next 270 = .ok (.goto (-60), 3) := dk_167 255 196 (dk_at dksX6_next_11 13 rfl rfl)
theorem dX6_next_273 : decode cX6_next 273 = .ok (.aload_n 0, 1) := dk_42 (dk_at dksX6_next_11 16 rfl rfl)
theorem dX6_next_274 : decode cX6_next 274 = .ok (.aload_n 0, 1) := dk_42 (dk_at dksX6_next_11 17 rfl rfl)
theorem dX6_next_275 : decode cX6_next 275 = .ok (.getfield 123, 3) := dk_180 0 123 (dk_at dksX6_next_11 18 rfl rfl)
theorem dX6_next_278 : decode cX6_next 278 = .ok (.aload_n 0, 1) := dk_42 (dk_at dksX6_next_11 21 rfl rfl)
theorem dX6_next_279 : decode cX6_next 279 = .ok (.getfield 126, 3) := dk_180 0 126 (dk_at dksX6_next_12 0 rfl rfl)
theorem dX6_next_282 : decode cX6_next 282 = .ok (.isub, 1) := dk_100 (dk_at dksX6_next_12 3 rfl rfl)
theorem dX6_next_283 : decode cX6_next 283 = .ok (.iconst 4, 1) := dk_7 (dk_at dksX6_next_12 4 rfl rfl)
theorem dX6_next_284 : decode cX6_next 284 = .ok (.if_icmp .le 7, 3) := dk_164 0 7 (dk_at dksX6_next_12 5 rfl rfl)
theorem dX6_next_287 : decode cX6_next 287 = .ok (.iconst 4, 1) := dk_7 (dk_at dksX6_next_12 8 rfl rfl)
theorem dX6_next_288 : decode cX6_next 288 = .ok (.goto 4, 3) := dk_167 0 4 (dk_at dksX6_next_12 9 rfl rfl)
theorem dX6_next_291 : decode cX6_next 291 = .ok (.iconst 2, 1) := dk_5 (dk_at dksX6_next_12 12 rfl rfl)
theorem dX6_next_292 : decode cX6_next 292 = .ok (.putfield 132, 3) := dk_181 0 132 (dk_at dksX6_next_12 13 rfl rfl)
theorem dX6_next_295 : decode cX6_next 295 = .ok (.goto 35, 3) := dk_167 0 35 (dk_at dksX6_next_12 16 rfl rfl)
theorem dX6_next_298 : decode cX6_next 298 = .ok (.aload_n 0, 1) := dk_42 (dk_at dksX6_next_12 19 rfl rfl)
theorem dX6_next_299 : decode cX6_next 299 = .ok (.aload_n 0, 1) := dk_42 (dk_at dksX6_next_12 20 rfl rfl)
theorem dX6_next_300 : decode cX6_next 300 = .ok (.getfield 126, 3) := dk_180 0 126 (dk_at dksX6_next_12 21 rfl rfl)
theorem dX6_next_303 : decode cX6_next 303 = .ok (.iconst 1, 1) := dk_4 (dk_at dksX6_next_13 0 rfl rfl)
theorem dX6_next_304 : decode cX6_next 304 = .ok (.iadd, 1) := dk_96 (dk_at dksX6_next_13 1 rfl rfl)
theorem dX6_next_305 : decode cX6_next 305 = .ok (.putfield 123, 3) := dk_181 0 123 (dk_at dksX6_next_13 2 rfl rfl)
theorem dX6_next_308 : decode cX6_next 308 = .ok (.aload_n 0, 1) := dk_42 (dk_at dksX6_next_13 5 rfl rfl)
theorem dX6_next_309 : decode cX6_next 309 = .ok (.iload_n 1, 1) := dk_27 (dk_at dksX6_next_13 6 rfl rfl)
theorem dX6_next_310 : decode cX6_next 310 = .ok (.putfield 151, 3) := dk_181 0 151 (dk_at dksX6_next_13 7 rfl rfl)
theorem dX6_next_313 : decode cX6_next 313 = .ok (.aload_n 0, 1) := dk_42 (dk_at dksX6_next_13 10 rfl rfl)
theorem dX6_next_314 : decode cX6_next 314 = .ok (.aload_n 0, 1) := dk_42 (dk_at dksX6_next_13 11 rfl rfl)
theorem dX6_next_315 : decode cX6_next 315 = .ok (.iload_n 1, 1) := dk_27 (dk_at dksX6_next_13 12 rfl rfl)
theorem dX6_next_316 : decode cX6_next 316 = .ok (.invokevirtual 154, 3) := dk_182 0 154 (dk_at dksX6_next_13 13 rfl rfl)
theorem dX6_next_319 : decode cX6_next 319 = .ok (.ifCond .eq 7, 3) := dk_153 0 7 (dk_at dksX6_next_13 16 rfl rfl)
theorem dX6_next_322 : decode cX6_next 322 = .ok (.iconst 3, 1) := dk_6 (dk_at dksX6_next_13 19 rfl rfl)
theorem dX6_next_323 : decode cX6_next 323 = .ok (.goto 4, 3) := dk_167 0 4 (dk_at dksX6_next_13 20 rfl rfl)
theorem dX6_next_326 : decode cX6_next 326 = .ok (.iconst 4, 1) := dk_7 (dk_at dksX6_next_13 23 rfl rfl)
theorem dX6_next_327 : decode cX6_next 327 = .ok (.putfield 132, 3) := dk_181 0 132 (dk_at dksX6_next_14 0 rfl rfl)
theorem dX6_next_330 : decode cX6_next 330 = .ok (.return_, 1) := dk_177 (dk_at dksX6_next_14 3 rfl rfl)
abbrev cX6_look2 : ByteArray := prog_16_method_20_code
def yX6_look2 : MethodName := ⟨RX6, "look2", "(I)I"⟩
def dkwX6_look2_0 : List UInt8 := [27, 42, 180, 0, 120, 162, 0, 16, 42, 180, 0, 24, 27, 51, 17, 0, 255, 126, 167, 0, 4, 3, 172]
abbrev dktX6_look2_0 : List UInt8 := dkwX6_look2_0 ++ []
theorem dksX6_look2_0 : cX6_look2.data.toList.drop 0 = dktX6_look2_0 := by decide +kernel
theorem dX6_look2_0 : decode cX6_look2 0 = .ok (.iload_n 1, 1) := dk_27 (dk_at dksX6_look2_0 0 rfl rfl)
theorem dX6_look2_1 : decode cX6_look2 1 = .ok (.aload_n 0, 1) := dk_42 (dk_at dksX6_look2_0 1 rfl rfl)
theorem dX6_look2_2 : decode cX6_look2 2 = .ok (.getfield 120, 3) := dk_180 0 120 (dk_at dksX6_look2_0 2 rfl rfl)
theorem dX6_look2_5 : decode cX6_look2 5 = .ok (.if_icmp .ge 16, 3) := dk_162 0 16 (dk_at dksX6_look2_0 5 rfl rfl)
theorem dX6_look2_8 : decode cX6_look2 8 = .ok (.aload_n 0, 1) := dk_42 (dk_at dksX6_look2_0 8 rfl rfl)
theorem dX6_look2_9 : decode cX6_look2 9 = .ok (.getfield 24, 3) := dk_180 0 24 (dk_at dksX6_look2_0 9 rfl rfl)
theorem dX6_look2_12 : decode cX6_look2 12 = .ok (.iload_n 1, 1) := dk_27 (dk_at dksX6_look2_0 12 rfl rfl)
theorem dX6_look2_13 : decode cX6_look2 13 = .ok (.baload, 1) := dk_51 (dk_at dksX6_look2_0 13 rfl rfl)
theorem dX6_look2_14 : decode cX6_look2 14 = .ok (.sipush 255, 3) := dk_17 0 255 (dk_at dksX6_look2_0 14 rfl rfl)
theorem dX6_look2_17 : decode cX6_look2 17 = .ok (.iand, 1) := dk_126 (dk_at dksX6_look2_0 17 rfl rfl)
theorem dX6_look2_18 : decode cX6_look2 18 = .ok (.goto 4, 3) := dk_167 0 4 (dk_at dksX6_look2_0 18 rfl rfl)
theorem dX6_look2_21 : decode cX6_look2 21 = .ok (.iconst 0, 1) := dk_3 (dk_at dksX6_look2_0 21 rfl rfl)
theorem dX6_look2_22 : decode cX6_look2 22 = .ok (.ireturn, 1) := dk_172 (dk_at dksX6_look2_0 22 rfl rfl)
abbrev cX6_isLetter : ByteArray := prog_16_method_21_code
def yX6_isLetter : MethodName := ⟨RX6, "isLetter", "(I)Z"⟩
def dkwX6_isLetter_0 : List UInt8 := [26, 16, 97, 161, 0, 13, 26, 16, 122, 163, 0, 7, 4, 167, 0, 4, 3, 172]
abbrev dktX6_isLetter_0 : List UInt8 := dkwX6_isLetter_0 ++ []
theorem dksX6_isLetter_0 : cX6_isLetter.data.toList.drop 0 = dktX6_isLetter_0 := by decide +kernel
theorem dX6_isLetter_0 : decode cX6_isLetter 0 = .ok (.iload_n 0, 1) := dk_26 (dk_at dksX6_isLetter_0 0 rfl rfl)
theorem dX6_isLetter_1 : decode cX6_isLetter 1 = .ok (.bipush 97, 2) := dk_16 97 (dk_at dksX6_isLetter_0 1 rfl rfl)
theorem dX6_isLetter_3 : decode cX6_isLetter 3 = .ok (.if_icmp .lt 13, 3) := dk_161 0 13 (dk_at dksX6_isLetter_0 3 rfl rfl)
theorem dX6_isLetter_6 : decode cX6_isLetter 6 = .ok (.iload_n 0, 1) := dk_26 (dk_at dksX6_isLetter_0 6 rfl rfl)
theorem dX6_isLetter_7 : decode cX6_isLetter 7 = .ok (.bipush 122, 2) := dk_16 122 (dk_at dksX6_isLetter_0 7 rfl rfl)
theorem dX6_isLetter_9 : decode cX6_isLetter 9 = .ok (.if_icmp .gt 7, 3) := dk_163 0 7 (dk_at dksX6_isLetter_0 9 rfl rfl)
theorem dX6_isLetter_12 : decode cX6_isLetter 12 = .ok (.iconst 1, 1) := dk_4 (dk_at dksX6_isLetter_0 12 rfl rfl)
theorem dX6_isLetter_13 : decode cX6_isLetter 13 = .ok (.goto 4, 3) := dk_167 0 4 (dk_at dksX6_isLetter_0 13 rfl rfl)
theorem dX6_isLetter_16 : decode cX6_isLetter 16 = .ok (.iconst 0, 1) := dk_3 (dk_at dksX6_isLetter_0 16 rfl rfl)
theorem dX6_isLetter_17 : decode cX6_isLetter 17 = .ok (.ireturn, 1) := dk_172 (dk_at dksX6_isLetter_0 17 rfl rfl)
abbrev cX6_isDigit : ByteArray := prog_16_method_22_code
def yX6_isDigit : MethodName := ⟨RX6, "isDigit", "(I)Z"⟩
def dkwX6_isDigit_0 : List UInt8 := [26, 16, 48, 161, 0, 13, 26, 16, 57, 163, 0, 7, 4, 167, 0, 4, 3, 172]
abbrev dktX6_isDigit_0 : List UInt8 := dkwX6_isDigit_0 ++ []
theorem dksX6_isDigit_0 : cX6_isDigit.data.toList.drop 0 = dktX6_isDigit_0 := by decide +kernel
theorem dX6_isDigit_0 : decode cX6_isDigit 0 = .ok (.iload_n 0, 1) := dk_26 (dk_at dksX6_isDigit_0 0 rfl rfl)
theorem dX6_isDigit_1 : decode cX6_isDigit 1 = .ok (.bipush 48, 2) := dk_16 48 (dk_at dksX6_isDigit_0 1 rfl rfl)
theorem dX6_isDigit_3 : decode cX6_isDigit 3 = .ok (.if_icmp .lt 13, 3) := dk_161 0 13 (dk_at dksX6_isDigit_0 3 rfl rfl)
theorem dX6_isDigit_6 : decode cX6_isDigit 6 = .ok (.iload_n 0, 1) := dk_26 (dk_at dksX6_isDigit_0 6 rfl rfl)
theorem dX6_isDigit_7 : decode cX6_isDigit 7 = .ok (.bipush 57, 2) := dk_16 57 (dk_at dksX6_isDigit_0 7 rfl rfl)
theorem dX6_isDigit_9 : decode cX6_isDigit 9 = .ok (.if_icmp .gt 7, 3) := dk_163 0 7 (dk_at dksX6_isDigit_0 9 rfl rfl)
theorem dX6_isDigit_12 : decode cX6_isDigit 12 = .ok (.iconst 1, 1) := dk_4 (dk_at dksX6_isDigit_0 12 rfl rfl)
theorem dX6_isDigit_13 : decode cX6_isDigit 13 = .ok (.goto 4, 3) := dk_167 0 4 (dk_at dksX6_isDigit_0 13 rfl rfl)
theorem dX6_isDigit_16 : decode cX6_isDigit 16 = .ok (.iconst 0, 1) := dk_3 (dk_at dksX6_isDigit_0 16 rfl rfl)
theorem dX6_isDigit_17 : decode cX6_isDigit 17 = .ok (.ireturn, 1) := dk_172 (dk_at dksX6_isDigit_0 17 rfl rfl)
abbrev cX6_isSignByte : ByteArray := prog_16_method_23_code
def yX6_isSignByte : MethodName := ⟨RX6, "isSignByte", "(I)Z"⟩
def dkwX6_isSignByte_1 : List UInt8 := [4, 167, 0, 4, 3, 172]
abbrev dktX6_isSignByte_1 : List UInt8 := dkwX6_isSignByte_1 ++ []
def dkwX6_isSignByte_0 : List UInt8 := [27, 16, 59, 159, 0, 21, 27, 16, 60, 159, 0, 15, 27, 16, 62, 159, 0, 9, 27, 16, 61, 160, 0, 7]
abbrev dktX6_isSignByte_0 : List UInt8 := dkwX6_isSignByte_0 ++ dktX6_isSignByte_1
theorem dksX6_isSignByte_0 : cX6_isSignByte.data.toList.drop 0 = dktX6_isSignByte_0 := by decide +kernel
theorem dksX6_isSignByte_1 : cX6_isSignByte.data.toList.drop 24 = dktX6_isSignByte_1 := dk_seg dksX6_isSignByte_0 24 rfl rfl
theorem dX6_isSignByte_0 : decode cX6_isSignByte 0 = .ok (.iload_n 1, 1) := dk_27 (dk_at dksX6_isSignByte_0 0 rfl rfl)
theorem dX6_isSignByte_1 : decode cX6_isSignByte 1 = .ok (.bipush 59, 2) := dk_16 59 (dk_at dksX6_isSignByte_0 1 rfl rfl)
theorem dX6_isSignByte_3 : decode cX6_isSignByte 3 = .ok (.if_icmp .eq 21, 3) := dk_159 0 21 (dk_at dksX6_isSignByte_0 3 rfl rfl)
theorem dX6_isSignByte_6 : decode cX6_isSignByte 6 = .ok (.iload_n 1, 1) := dk_27 (dk_at dksX6_isSignByte_0 6 rfl rfl)
theorem dX6_isSignByte_7 : decode cX6_isSignByte 7 = .ok (.bipush 60, 2) := dk_16 60 (dk_at dksX6_isSignByte_0 7 rfl rfl)
theorem dX6_isSignByte_9 : decode cX6_isSignByte 9 = .ok (.if_icmp .eq 15, 3) := dk_159 0 15 (dk_at dksX6_isSignByte_0 9 rfl rfl)
theorem dX6_isSignByte_12 : decode cX6_isSignByte 12 = .ok (.iload_n 1, 1) := dk_27 (dk_at dksX6_isSignByte_0 12 rfl rfl)
theorem dX6_isSignByte_13 : decode cX6_isSignByte 13 = .ok (.bipush 62, 2) := dk_16 62 (dk_at dksX6_isSignByte_0 13 rfl rfl)
theorem dX6_isSignByte_15 : decode cX6_isSignByte 15 = .ok (.if_icmp .eq 9, 3) := dk_159 0 9 (dk_at dksX6_isSignByte_0 15 rfl rfl)
theorem dX6_isSignByte_18 : decode cX6_isSignByte 18 = .ok (.iload_n 1, 1) := dk_27 (dk_at dksX6_isSignByte_0 18 rfl rfl)
theorem dX6_isSignByte_19 : decode cX6_isSignByte 19 = .ok (.bipush 61, 2) := dk_16 61 (dk_at dksX6_isSignByte_0 19 rfl rfl)
theorem dX6_isSignByte_21 : decode cX6_isSignByte 21 = .ok (.if_icmp .ne 7, 3) := dk_160 0 7 (dk_at dksX6_isSignByte_0 21 rfl rfl)
theorem dX6_isSignByte_24 : decode cX6_isSignByte 24 = .ok (.iconst 1, 1) := dk_4 (dk_at dksX6_isSignByte_1 0 rfl rfl)
theorem dX6_isSignByte_25 : decode cX6_isSignByte 25 = .ok (.goto 4, 3) := dk_167 0 4 (dk_at dksX6_isSignByte_1 1 rfl rfl)
theorem dX6_isSignByte_28 : decode cX6_isSignByte 28 = .ok (.iconst 0, 1) := dk_3 (dk_at dksX6_isSignByte_1 4 rfl rfl)
theorem dX6_isSignByte_29 : decode cX6_isSignByte 29 = .ok (.ireturn, 1) := dk_172 (dk_at dksX6_isSignByte_1 5 rfl rfl)
abbrev cX6_isLead : ByteArray := prog_16_method_28_code
def yX6_isLead : MethodName := ⟨RX6, "isLead", "()Z"⟩
def dkwX6_isLead_0 : List UInt8 := [42, 16, 108, 16, 101, 16, 97, 16, 100, 3, 3, 184, 0, 157, 182, 0, 161, 172]
abbrev dktX6_isLead_0 : List UInt8 := dkwX6_isLead_0 ++ []
theorem dksX6_isLead_0 : cX6_isLead.data.toList.drop 0 = dktX6_isLead_0 := by decide +kernel
theorem dX6_isLead_0 : decode cX6_isLead 0 = .ok (.aload_n 0, 1) := dk_42 (dk_at dksX6_isLead_0 0 rfl rfl)
theorem dX6_isLead_1 : decode cX6_isLead 1 = .ok (.bipush 108, 2) := dk_16 108 (dk_at dksX6_isLead_0 1 rfl rfl)
theorem dX6_isLead_3 : decode cX6_isLead 3 = .ok (.bipush 101, 2) := dk_16 101 (dk_at dksX6_isLead_0 3 rfl rfl)
theorem dX6_isLead_5 : decode cX6_isLead 5 = .ok (.bipush 97, 2) := dk_16 97 (dk_at dksX6_isLead_0 5 rfl rfl)
theorem dX6_isLead_7 : decode cX6_isLead 7 = .ok (.bipush 100, 2) := dk_16 100 (dk_at dksX6_isLead_0 7 rfl rfl)
theorem dX6_isLead_9 : decode cX6_isLead 9 = .ok (.iconst 0, 1) := dk_3 (dk_at dksX6_isLead_0 9 rfl rfl)
theorem dX6_isLead_10 : decode cX6_isLead 10 = .ok (.iconst 0, 1) := dk_3 (dk_at dksX6_isLead_0 10 rfl rfl)
theorem dX6_isLead_11 : decode cX6_isLead 11 = .ok (.invokestatic 157, 3) := dk_184 0 157 (dk_at dksX6_isLead_0 11 rfl rfl)
theorem dX6_isLead_14 : decode cX6_isLead 14 = .ok (.invokevirtual 161, 3) := dk_182 0 161 (dk_at dksX6_isLead_0 14 rfl rfl)
theorem dX6_isLead_17 : decode cX6_isLead 17 = .ok (.ireturn, 1) := dk_172 (dk_at dksX6_isLead_0 17 rfl rfl)
abbrev cX6_spelled : ByteArray := prog_16_method_26_code
def yX6_spelled : MethodName := ⟨RX6, "spelled", "(IIIIII)J"⟩
def dkwX6_spelled_5 : List UInt8 := [173]
abbrev dktX6_spelled_5 : List UInt8 := dkwX6_spelled_5 ++ []
def dkwX6_spelled_4 : List UInt8 := [21, 5, 158, 0, 20, 22, 6, 20, 0, 141, 105, 21, 5, 133, 97, 20, 0, 143, 101, 167, 0, 5, 22, 6]
abbrev dktX6_spelled_4 : List UInt8 := dkwX6_spelled_4 ++ dktX6_spelled_5
def dkwX6_spelled_3 : List UInt8 := [158, 0, 20, 22, 6, 20, 0, 141, 105, 21, 4, 133, 97, 20, 0, 143, 101, 167, 0, 5, 22, 6, 55, 6]
abbrev dktX6_spelled_3 : List UInt8 := dkwX6_spelled_3 ++ dktX6_spelled_4
def dkwX6_spelled_2 : List UInt8 := [22, 6, 20, 0, 141, 105, 29, 133, 97, 20, 0, 143, 101, 167, 0, 5, 22, 6, 55, 6, 21, 4]
abbrev dktX6_spelled_2 : List UInt8 := dkwX6_spelled_2 ++ dktX6_spelled_3
def dkwX6_spelled_1 : List UInt8 := [22, 6, 20, 0, 141, 105, 28, 133, 97, 20, 0, 143, 101, 167, 0, 5, 22, 6, 55, 6, 29, 158, 0, 19]
abbrev dktX6_spelled_1 : List UInt8 := dkwX6_spelled_1 ++ dktX6_spelled_2
def dkwX6_spelled_0 : List UInt8 := [26, 133, 20, 0, 143, 101, 20, 0, 141, 105, 27, 133, 97, 20, 0, 143, 101, 55, 6, 28, 158, 0, 19]
abbrev dktX6_spelled_0 : List UInt8 := dkwX6_spelled_0 ++ dktX6_spelled_1
theorem dksX6_spelled_0 : cX6_spelled.data.toList.drop 0 = dktX6_spelled_0 := by decide +kernel
theorem dksX6_spelled_1 : cX6_spelled.data.toList.drop 23 = dktX6_spelled_1 := dk_seg dksX6_spelled_0 23 rfl rfl
theorem dksX6_spelled_2 : cX6_spelled.data.toList.drop 47 = dktX6_spelled_2 := dk_seg dksX6_spelled_1 24 rfl rfl
theorem dksX6_spelled_3 : cX6_spelled.data.toList.drop 69 = dktX6_spelled_3 := dk_seg dksX6_spelled_2 22 rfl rfl
theorem dksX6_spelled_4 : cX6_spelled.data.toList.drop 93 = dktX6_spelled_4 := dk_seg dksX6_spelled_3 24 rfl rfl
theorem dksX6_spelled_5 : cX6_spelled.data.toList.drop 117 = dktX6_spelled_5 := dk_seg dksX6_spelled_4 24 rfl rfl
theorem dX6_spelled_0 : decode cX6_spelled 0 = .ok (.iload_n 0, 1) := dk_26 (dk_at dksX6_spelled_0 0 rfl rfl)
theorem dX6_spelled_1 : decode cX6_spelled 1 = .ok (.i2l, 1) := dk_133 (dk_at dksX6_spelled_0 1 rfl rfl)
theorem dX6_spelled_2 : decode cX6_spelled 2 = .ok (.ldc2_w 143, 3) := dk_20 0 143 (dk_at dksX6_spelled_0 2 rfl rfl)
theorem dX6_spelled_5 : decode cX6_spelled 5 = .ok (.lsub, 1) := dk_101 (dk_at dksX6_spelled_0 5 rfl rfl)
theorem dX6_spelled_6 : decode cX6_spelled 6 = .ok (.ldc2_w 141, 3) := dk_20 0 141 (dk_at dksX6_spelled_0 6 rfl rfl)
theorem dX6_spelled_9 : decode cX6_spelled 9 = .ok (.lmul, 1) := dk_105 (dk_at dksX6_spelled_0 9 rfl rfl)
theorem dX6_spelled_10 : decode cX6_spelled 10 = .ok (.iload_n 1, 1) := dk_27 (dk_at dksX6_spelled_0 10 rfl rfl)
theorem dX6_spelled_11 : decode cX6_spelled 11 = .ok (.i2l, 1) := dk_133 (dk_at dksX6_spelled_0 11 rfl rfl)
theorem dX6_spelled_12 : decode cX6_spelled 12 = .ok (.ladd, 1) := dk_97 (dk_at dksX6_spelled_0 12 rfl rfl)
theorem dX6_spelled_13 : decode cX6_spelled 13 = .ok (.ldc2_w 143, 3) := dk_20 0 143 (dk_at dksX6_spelled_0 13 rfl rfl)
theorem dX6_spelled_16 : decode cX6_spelled 16 = .ok (.lsub, 1) := dk_101 (dk_at dksX6_spelled_0 16 rfl rfl)
theorem dX6_spelled_17 : decode cX6_spelled 17 = .ok (.lstore 6, 2) := dk_55 6 (dk_at dksX6_spelled_0 17 rfl rfl)
theorem dX6_spelled_19 : decode cX6_spelled 19 = .ok (.iload_n 2, 1) := dk_28 (dk_at dksX6_spelled_0 19 rfl rfl)
theorem dX6_spelled_20 : decode cX6_spelled 20 = .ok (.ifCond .le 19, 3) := dk_158 0 19 (dk_at dksX6_spelled_0 20 rfl rfl)
theorem dX6_spelled_23 : decode cX6_spelled 23 = .ok (.lload 6, 2) := dk_22 6 (dk_at dksX6_spelled_1 0 rfl rfl)
theorem dX6_spelled_25 : decode cX6_spelled 25 = .ok (.ldc2_w 141, 3) := dk_20 0 141 (dk_at dksX6_spelled_1 2 rfl rfl)
theorem dX6_spelled_28 : decode cX6_spelled 28 = .ok (.lmul, 1) := dk_105 (dk_at dksX6_spelled_1 5 rfl rfl)
theorem dX6_spelled_29 : decode cX6_spelled 29 = .ok (.iload_n 2, 1) := dk_28 (dk_at dksX6_spelled_1 6 rfl rfl)
theorem dX6_spelled_30 : decode cX6_spelled 30 = .ok (.i2l, 1) := dk_133 (dk_at dksX6_spelled_1 7 rfl rfl)
theorem dX6_spelled_31 : decode cX6_spelled 31 = .ok (.ladd, 1) := dk_97 (dk_at dksX6_spelled_1 8 rfl rfl)
theorem dX6_spelled_32 : decode cX6_spelled 32 = .ok (.ldc2_w 143, 3) := dk_20 0 143 (dk_at dksX6_spelled_1 9 rfl rfl)
theorem dX6_spelled_35 : decode cX6_spelled 35 = .ok (.lsub, 1) := dk_101 (dk_at dksX6_spelled_1 12 rfl rfl)
theorem dX6_spelled_36 : decode cX6_spelled 36 = .ok (.goto 5, 3) := dk_167 0 5 (dk_at dksX6_spelled_1 13 rfl rfl)
theorem dX6_spelled_39 : decode cX6_spelled 39 = .ok (.lload 6, 2) := dk_22 6 (dk_at dksX6_spelled_1 16 rfl rfl)
theorem dX6_spelled_41 : decode cX6_spelled 41 = .ok (.lstore 6, 2) := dk_55 6 (dk_at dksX6_spelled_1 18 rfl rfl)
theorem dX6_spelled_43 : decode cX6_spelled 43 = .ok (.iload_n 3, 1) := dk_29 (dk_at dksX6_spelled_1 20 rfl rfl)
theorem dX6_spelled_44 : decode cX6_spelled 44 = .ok (.ifCond .le 19, 3) := dk_158 0 19 (dk_at dksX6_spelled_1 21 rfl rfl)
theorem dX6_spelled_47 : decode cX6_spelled 47 = .ok (.lload 6, 2) := dk_22 6 (dk_at dksX6_spelled_2 0 rfl rfl)
theorem dX6_spelled_49 : decode cX6_spelled 49 = .ok (.ldc2_w 141, 3) := dk_20 0 141 (dk_at dksX6_spelled_2 2 rfl rfl)
theorem dX6_spelled_52 : decode cX6_spelled 52 = .ok (.lmul, 1) := dk_105 (dk_at dksX6_spelled_2 5 rfl rfl)
theorem dX6_spelled_53 : decode cX6_spelled 53 = .ok (.iload_n 3, 1) := dk_29 (dk_at dksX6_spelled_2 6 rfl rfl)
theorem dX6_spelled_54 : decode cX6_spelled 54 = .ok (.i2l, 1) := dk_133 (dk_at dksX6_spelled_2 7 rfl rfl)
theorem dX6_spelled_55 : decode cX6_spelled 55 = .ok (.ladd, 1) := dk_97 (dk_at dksX6_spelled_2 8 rfl rfl)
theorem dX6_spelled_56 : decode cX6_spelled 56 = .ok (.ldc2_w 143, 3) := dk_20 0 143 (dk_at dksX6_spelled_2 9 rfl rfl)
theorem dX6_spelled_59 : decode cX6_spelled 59 = .ok (.lsub, 1) := dk_101 (dk_at dksX6_spelled_2 12 rfl rfl)
theorem dX6_spelled_60 : decode cX6_spelled 60 = .ok (.goto 5, 3) := dk_167 0 5 (dk_at dksX6_spelled_2 13 rfl rfl)
theorem dX6_spelled_63 : decode cX6_spelled 63 = .ok (.lload 6, 2) := dk_22 6 (dk_at dksX6_spelled_2 16 rfl rfl)
theorem dX6_spelled_65 : decode cX6_spelled 65 = .ok (.lstore 6, 2) := dk_55 6 (dk_at dksX6_spelled_2 18 rfl rfl)
theorem dX6_spelled_67 : decode cX6_spelled 67 = .ok (.iload 4, 2) := dk_21 4 (dk_at dksX6_spelled_2 20 rfl rfl)
theorem dX6_spelled_69 : decode cX6_spelled 69 = .ok (.ifCond .le 20, 3) := dk_158 0 20 (dk_at dksX6_spelled_3 0 rfl rfl)
theorem dX6_spelled_72 : decode cX6_spelled 72 = .ok (.lload 6, 2) := dk_22 6 (dk_at dksX6_spelled_3 3 rfl rfl)
theorem dX6_spelled_74 : decode cX6_spelled 74 = .ok (.ldc2_w 141, 3) := dk_20 0 141 (dk_at dksX6_spelled_3 5 rfl rfl)
theorem dX6_spelled_77 : decode cX6_spelled 77 = .ok (.lmul, 1) := dk_105 (dk_at dksX6_spelled_3 8 rfl rfl)
theorem dX6_spelled_78 : decode cX6_spelled 78 = .ok (.iload 4, 2) := dk_21 4 (dk_at dksX6_spelled_3 9 rfl rfl)
theorem dX6_spelled_80 : decode cX6_spelled 80 = .ok (.i2l, 1) := dk_133 (dk_at dksX6_spelled_3 11 rfl rfl)
theorem dX6_spelled_81 : decode cX6_spelled 81 = .ok (.ladd, 1) := dk_97 (dk_at dksX6_spelled_3 12 rfl rfl)
theorem dX6_spelled_82 : decode cX6_spelled 82 = .ok (.ldc2_w 143, 3) := dk_20 0 143 (dk_at dksX6_spelled_3 13 rfl rfl)
theorem dX6_spelled_85 : decode cX6_spelled 85 = .ok (.lsub, 1) := dk_101 (dk_at dksX6_spelled_3 16 rfl rfl)
theorem dX6_spelled_86 : decode cX6_spelled 86 = .ok (.goto 5, 3) := dk_167 0 5 (dk_at dksX6_spelled_3 17 rfl rfl)
theorem dX6_spelled_89 : decode cX6_spelled 89 = .ok (.lload 6, 2) := dk_22 6 (dk_at dksX6_spelled_3 20 rfl rfl)
theorem dX6_spelled_91 : decode cX6_spelled 91 = .ok (.lstore 6, 2) := dk_55 6 (dk_at dksX6_spelled_3 22 rfl rfl)
theorem dX6_spelled_93 : decode cX6_spelled 93 = .ok (.iload 5, 2) := dk_21 5 (dk_at dksX6_spelled_4 0 rfl rfl)
theorem dX6_spelled_95 : decode cX6_spelled 95 = .ok (.ifCond .le 20, 3) := dk_158 0 20 (dk_at dksX6_spelled_4 2 rfl rfl)
theorem dX6_spelled_98 : decode cX6_spelled 98 = .ok (.lload 6, 2) := dk_22 6 (dk_at dksX6_spelled_4 5 rfl rfl)
theorem dX6_spelled_100 : decode cX6_spelled 100 = .ok (.ldc2_w 141, 3) := dk_20 0 141 (dk_at dksX6_spelled_4 7 rfl rfl)
theorem dX6_spelled_103 : decode cX6_spelled 103 = .ok (.lmul, 1) := dk_105 (dk_at dksX6_spelled_4 10 rfl rfl)
theorem dX6_spelled_104 : decode cX6_spelled 104 = .ok (.iload 5, 2) := dk_21 5 (dk_at dksX6_spelled_4 11 rfl rfl)
theorem dX6_spelled_106 : decode cX6_spelled 106 = .ok (.i2l, 1) := dk_133 (dk_at dksX6_spelled_4 13 rfl rfl)
theorem dX6_spelled_107 : decode cX6_spelled 107 = .ok (.ladd, 1) := dk_97 (dk_at dksX6_spelled_4 14 rfl rfl)
theorem dX6_spelled_108 : decode cX6_spelled 108 = .ok (.ldc2_w 143, 3) := dk_20 0 143 (dk_at dksX6_spelled_4 15 rfl rfl)
theorem dX6_spelled_111 : decode cX6_spelled 111 = .ok (.lsub, 1) := dk_101 (dk_at dksX6_spelled_4 18 rfl rfl)
theorem dX6_spelled_112 : decode cX6_spelled 112 = .ok (.goto 5, 3) := dk_167 0 5 (dk_at dksX6_spelled_4 19 rfl rfl)
theorem dX6_spelled_115 : decode cX6_spelled 115 = .ok (.lload 6, 2) := dk_22 6 (dk_at dksX6_spelled_4 22 rfl rfl)
theorem dX6_spelled_117 : decode cX6_spelled 117 = .ok (.lreturn, 1) := dk_173 (dk_at dksX6_spelled_5 0 rfl rfl)
abbrev cX6_isWord : ByteArray := prog_16_method_27_code
def yX6_isWord : MethodName := ⟨RX6, "isWord", "(J)Z"⟩
def dkwX6_isWord_0 : List UInt8 := [42, 180, 0, 132, 4, 160, 0, 16, 42, 180, 0, 138, 31, 148, 154, 0, 7, 4, 167, 0, 4, 3, 172]
abbrev dktX6_isWord_0 : List UInt8 := dkwX6_isWord_0 ++ []
theorem dksX6_isWord_0 : cX6_isWord.data.toList.drop 0 = dktX6_isWord_0 := by decide +kernel
theorem dX6_isWord_0 : decode cX6_isWord 0 = .ok (.aload_n 0, 1) := dk_42 (dk_at dksX6_isWord_0 0 rfl rfl)
theorem dX6_isWord_1 : decode cX6_isWord 1 = .ok (.getfield 132, 3) := dk_180 0 132 (dk_at dksX6_isWord_0 1 rfl rfl)
theorem dX6_isWord_4 : decode cX6_isWord 4 = .ok (.iconst 1, 1) := dk_4 (dk_at dksX6_isWord_0 4 rfl rfl)
theorem dX6_isWord_5 : decode cX6_isWord 5 = .ok (.if_icmp .ne 16, 3) := dk_160 0 16 (dk_at dksX6_isWord_0 5 rfl rfl)
theorem dX6_isWord_8 : decode cX6_isWord 8 = .ok (.aload_n 0, 1) := dk_42 (dk_at dksX6_isWord_0 8 rfl rfl)
theorem dX6_isWord_9 : decode cX6_isWord 9 = .ok (.getfield 138, 3) := dk_180 0 138 (dk_at dksX6_isWord_0 9 rfl rfl)
theorem dX6_isWord_12 : decode cX6_isWord 12 = .ok (.lload_n 1, 1) := dk_31 (dk_at dksX6_isWord_0 12 rfl rfl)
theorem dX6_isWord_13 : decode cX6_isWord 13 = .ok (.lcmp, 1) := dk_148 (dk_at dksX6_isWord_0 13 rfl rfl)
theorem dX6_isWord_14 : decode cX6_isWord 14 = .ok (.ifCond .ne 7, 3) := dk_154 0 7 (dk_at dksX6_isWord_0 14 rfl rfl)
theorem dX6_isWord_17 : decode cX6_isWord 17 = .ok (.iconst 1, 1) := dk_4 (dk_at dksX6_isWord_0 17 rfl rfl)
theorem dX6_isWord_18 : decode cX6_isWord 18 = .ok (.goto 4, 3) := dk_167 0 4 (dk_at dksX6_isWord_0 18 rfl rfl)
theorem dX6_isWord_21 : decode cX6_isWord 21 = .ok (.iconst 0, 1) := dk_3 (dk_at dksX6_isWord_0 21 rfl rfl)
theorem dX6_isWord_22 : decode cX6_isWord 22 = .ok (.ireturn, 1) := dk_172 (dk_at dksX6_isWord_0 22 rfl rfl)
abbrev cX6_readLead : ByteArray := prog_16_method_58_code
def yX6_readLead : MethodName := ⟨RX6, "readLead", "()V"⟩
def dkwX6_readLead_13 : List UInt8 := [17, 6, 104, 92, 46, 4, 96, 79, 177]
abbrev dktX6_readLead_13 : List UInt8 := dkwX6_readLead_13 ++ []
def dkwX6_readLead_12 : List UInt8 := [158, 0, 4, 177, 42, 180, 0, 35, 17, 6, 107, 92, 46, 4, 27, 120, 128, 79, 42, 180, 0, 35]
abbrev dktX6_readLead_12 : List UInt8 := dkwX6_readLead_12 ++ dktX6_readLead_13
def dkwX6_readLead_11 : List UInt8 := [42, 180, 0, 35, 17, 6, 108, 92, 46, 4, 27, 120, 128, 79, 42, 182, 0, 226, 42, 180, 0, 216]
abbrev dktX6_readLead_11 : List UInt8 := dkwX6_readLead_11 ++ dktX6_readLead_12
def dkwX6_readLead_10 : List UInt8 := [27, 96, 42, 3, 16, 16, 182, 1, 5, 79, 42, 180, 0, 216, 154, 0, 28, 42, 182, 0, 169, 153, 0, 21]
abbrev dktX6_readLead_10 : List UInt8 := dkwX6_readLead_10 ++ dktX6_readLead_11
def dkwX6_readLead_9 : List UInt8 := [180, 0, 216, 154, 0, 31, 42, 182, 0, 191, 153, 0, 24, 42, 182, 0, 226, 42, 180, 0, 35, 17, 6, 152]
abbrev dktX6_readLead_9 : List UInt8 := dkwX6_readLead_9 ++ dktX6_readLead_10
def dkwX6_readLead_8 : List UInt8 := [182, 0, 226, 42, 180, 0, 35, 17, 6, 144, 27, 96, 42, 3, 17, 3, 231, 182, 1, 5, 79, 42]
abbrev dktX6_readLead_8 : List UInt8 := dkwX6_readLead_8 ++ dktX6_readLead_9
def dkwX6_readLead_7 : List UInt8 := [96, 42, 4, 16, 9, 182, 1, 5, 79, 42, 180, 0, 216, 154, 0, 32, 42, 182, 0, 188, 153, 0, 25, 42]
abbrev dktX6_readLead_7 : List UInt8 := dkwX6_readLead_7 ++ dktX6_readLead_8
def dkwX6_readLead_6 : List UInt8 := [180, 0, 35, 17, 6, 128, 27, 96, 42, 4, 16, 9, 182, 1, 5, 79, 42, 180, 0, 35, 17, 6, 136, 27]
abbrev dktX6_readLead_6 : List UInt8 := dkwX6_readLead_6 ++ dktX6_readLead_7
def dkwX6_readLead_5 : List UInt8 := [182, 1, 5, 79, 42, 180, 0, 216, 154, 0, 48, 42, 182, 0, 185, 153, 0, 41, 42, 182, 0, 226, 42]
abbrev dktX6_readLead_5 : List UInt8 := dkwX6_readLead_5 ++ dktX6_readLead_6
def dkwX6_readLead_4 : List UInt8 := [182, 0, 182, 153, 0, 24, 42, 182, 0, 226, 42, 180, 0, 35, 17, 6, 120, 27, 96, 42, 3, 16, 9]
abbrev dktX6_readLead_4 : List UInt8 := dkwX6_readLead_4 ++ dktX6_readLead_5
def dkwX6_readLead_3 : List UInt8 := [27, 96, 6, 79, 42, 180, 0, 35, 17, 6, 136, 27, 96, 6, 79, 42, 180, 0, 216, 154, 0, 31, 42]
abbrev dktX6_readLead_3 : List UInt8 := dkwX6_readLead_3 ++ dktX6_readLead_4
def dkwX6_readLead_2 : List UInt8 := [42, 180, 0, 35, 17, 6, 112, 27, 96, 42, 4, 16, 30, 182, 1, 5, 79, 42, 180, 0, 35, 17, 6, 128]
abbrev dktX6_readLead_2 : List UInt8 := dkwX6_readLead_2 ++ dktX6_readLead_3
def dkwX6_readLead_1 : List UInt8 := [182, 0, 222, 42, 180, 0, 216, 158, 0, 4, 177, 42, 27, 182, 1, 2, 42, 42, 182, 0, 179, 182, 0, 254]
abbrev dktX6_readLead_1 : List UInt8 := dkwX6_readLead_1 ++ dktX6_readLead_2
def dkwX6_readLead_0 : List UInt8 := [42, 180, 0, 35, 17, 6, 104, 46, 60, 27, 16, 8, 160, 0, 13, 42, 16, 6, 42, 180, 0, 126]
abbrev dktX6_readLead_0 : List UInt8 := dkwX6_readLead_0 ++ dktX6_readLead_1
theorem dksX6_readLead_0 : cX6_readLead.data.toList.drop 0 = dktX6_readLead_0 := by decide +kernel
theorem dksX6_readLead_1 : cX6_readLead.data.toList.drop 22 = dktX6_readLead_1 := dk_seg dksX6_readLead_0 22 rfl rfl
theorem dksX6_readLead_2 : cX6_readLead.data.toList.drop 46 = dktX6_readLead_2 := dk_seg dksX6_readLead_1 24 rfl rfl
theorem dksX6_readLead_3 : cX6_readLead.data.toList.drop 70 = dktX6_readLead_3 := dk_seg dksX6_readLead_2 24 rfl rfl
theorem dksX6_readLead_4 : cX6_readLead.data.toList.drop 93 = dktX6_readLead_4 := dk_seg dksX6_readLead_3 23 rfl rfl
theorem dksX6_readLead_5 : cX6_readLead.data.toList.drop 116 = dktX6_readLead_5 := dk_seg dksX6_readLead_4 23 rfl rfl
theorem dksX6_readLead_6 : cX6_readLead.data.toList.drop 139 = dktX6_readLead_6 := dk_seg dksX6_readLead_5 23 rfl rfl
theorem dksX6_readLead_7 : cX6_readLead.data.toList.drop 163 = dktX6_readLead_7 := dk_seg dksX6_readLead_6 24 rfl rfl
theorem dksX6_readLead_8 : cX6_readLead.data.toList.drop 187 = dktX6_readLead_8 := dk_seg dksX6_readLead_7 24 rfl rfl
theorem dksX6_readLead_9 : cX6_readLead.data.toList.drop 209 = dktX6_readLead_9 := dk_seg dksX6_readLead_8 22 rfl rfl
theorem dksX6_readLead_10 : cX6_readLead.data.toList.drop 233 = dktX6_readLead_10 := dk_seg dksX6_readLead_9 24 rfl rfl
theorem dksX6_readLead_11 : cX6_readLead.data.toList.drop 257 = dktX6_readLead_11 := dk_seg dksX6_readLead_10 24 rfl rfl
theorem dksX6_readLead_12 : cX6_readLead.data.toList.drop 279 = dktX6_readLead_12 := dk_seg dksX6_readLead_11 22 rfl rfl
theorem dksX6_readLead_13 : cX6_readLead.data.toList.drop 301 = dktX6_readLead_13 := dk_seg dksX6_readLead_12 22 rfl rfl
theorem dX6_readLead_0 : decode cX6_readLead 0 = .ok (.aload_n 0, 1) := dk_42 (dk_at dksX6_readLead_0 0 rfl rfl)
theorem dX6_readLead_1 : decode cX6_readLead 1 = .ok (.getfield 35, 3) := dk_180 0 35 (dk_at dksX6_readLead_0 1 rfl rfl)
theorem dX6_readLead_4 : decode cX6_readLead 4 = .ok (.sipush 1640, 3) := dk_17 6 104 (dk_at dksX6_readLead_0 4 rfl rfl)
theorem dX6_readLead_7 : decode cX6_readLead 7 = .ok (.iaload, 1) := dk_46 (dk_at dksX6_readLead_0 7 rfl rfl)
theorem dX6_readLead_8 : decode cX6_readLead 8 = .ok (.istore_n 1, 1) := dk_60 (dk_at dksX6_readLead_0 8 rfl rfl)
theorem dX6_readLead_9 : decode cX6_readLead 9 = .ok (.iload_n 1, 1) := dk_27 (dk_at dksX6_readLead_0 9 rfl rfl)
theorem dX6_readLead_10 : decode cX6_readLead 10 = .ok (.bipush 8, 2) := dk_16 8 (dk_at dksX6_readLead_0 10 rfl rfl)
theorem dX6_readLead_12 : decode cX6_readLead 12 = .ok (.if_icmp .ne 13, 3) := dk_160 0 13 (dk_at dksX6_readLead_0 12 rfl rfl)
theorem dX6_readLead_15 : decode cX6_readLead 15 = .ok (.aload_n 0, 1) := dk_42 (dk_at dksX6_readLead_0 15 rfl rfl)
theorem dX6_readLead_16 : decode cX6_readLead 16 = .ok (.bipush 6, 2) := dk_16 6 (dk_at dksX6_readLead_0 16 rfl rfl)
theorem dX6_readLead_18 : decode cX6_readLead 18 = .ok (.aload_n 0, 1) := dk_42 (dk_at dksX6_readLead_0 18 rfl rfl)
theorem dX6_readLead_19 : decode cX6_readLead 19 = .ok (.getfield 126, 3) := dk_180 0 126 (dk_at dksX6_readLead_0 19 rfl rfl)
theorem dX6_readLead_22 : decode cX6_readLead 22 = .ok (.invokevirtual 222, 3) := dk_182 0 222 (dk_at dksX6_readLead_1 0 rfl rfl)
theorem dX6_readLead_25 : decode cX6_readLead 25 = .ok (.aload_n 0, 1) := dk_42 (dk_at dksX6_readLead_1 3 rfl rfl)
theorem dX6_readLead_26 : decode cX6_readLead 26 = .ok (.getfield 216, 3) := dk_180 0 216 (dk_at dksX6_readLead_1 4 rfl rfl)
theorem dX6_readLead_29 : decode cX6_readLead 29 = .ok (.ifCond .le 4, 3) := dk_158 0 4 (dk_at dksX6_readLead_1 7 rfl rfl)
theorem dX6_readLead_32 : decode cX6_readLead 32 = .ok (.return_, 1) := dk_177 (dk_at dksX6_readLead_1 10 rfl rfl)
theorem dX6_readLead_33 : decode cX6_readLead 33 = .ok (.aload_n 0, 1) := dk_42 (dk_at dksX6_readLead_1 11 rfl rfl)
theorem dX6_readLead_34 : decode cX6_readLead 34 = .ok (.iload_n 1, 1) := dk_27 (dk_at dksX6_readLead_1 12 rfl rfl)
theorem dX6_readLead_35 : decode cX6_readLead 35 = .ok (.invokevirtual 258, 3) := dk_182 1 2 (dk_at dksX6_readLead_1 13 rfl rfl)
theorem dX6_readLead_38 : decode cX6_readLead 38 = .ok (.aload_n 0, 1) := dk_42 (dk_at dksX6_readLead_1 16 rfl rfl)
theorem dX6_readLead_39 : decode cX6_readLead 39 = .ok (.aload_n 0, 1) := dk_42 (dk_at dksX6_readLead_1 17 rfl rfl)
theorem dX6_readLead_40 : decode cX6_readLead 40 = .ok (.invokevirtual 179, 3) := dk_182 0 179 (dk_at dksX6_readLead_1 18 rfl rfl)
theorem dX6_readLead_43 : decode cX6_readLead 43 = .ok (.invokevirtual 254, 3) := dk_182 0 254 (dk_at dksX6_readLead_1 21 rfl rfl)
theorem dX6_readLead_46 : decode cX6_readLead 46 = .ok (.aload_n 0, 1) := dk_42 (dk_at dksX6_readLead_2 0 rfl rfl)
theorem dX6_readLead_47 : decode cX6_readLead 47 = .ok (.getfield 35, 3) := dk_180 0 35 (dk_at dksX6_readLead_2 1 rfl rfl)
theorem dX6_readLead_50 : decode cX6_readLead 50 = .ok (.sipush 1648, 3) := dk_17 6 112 (dk_at dksX6_readLead_2 4 rfl rfl)
theorem dX6_readLead_53 : decode cX6_readLead 53 = .ok (.iload_n 1, 1) := dk_27 (dk_at dksX6_readLead_2 7 rfl rfl)
theorem dX6_readLead_54 : decode cX6_readLead 54 = .ok (.iadd, 1) := dk_96 (dk_at dksX6_readLead_2 8 rfl rfl)
theorem dX6_readLead_55 : decode cX6_readLead 55 = .ok (.aload_n 0, 1) := dk_42 (dk_at dksX6_readLead_2 9 rfl rfl)
theorem dX6_readLead_56 : decode cX6_readLead 56 = .ok (.iconst 1, 1) := dk_4 (dk_at dksX6_readLead_2 10 rfl rfl)
theorem dX6_readLead_57 : decode cX6_readLead 57 = .ok (.bipush 30, 2) := dk_16 30 (dk_at dksX6_readLead_2 11 rfl rfl)
theorem dX6_readLead_59 : decode cX6_readLead 59 = .ok (.invokevirtual 261, 3) := dk_182 1 5 (dk_at dksX6_readLead_2 13 rfl rfl)
theorem dX6_readLead_62 : decode cX6_readLead 62 = .ok (.iastore, 1) := dk_79 (dk_at dksX6_readLead_2 16 rfl rfl)
theorem dX6_readLead_63 : decode cX6_readLead 63 = .ok (.aload_n 0, 1) := dk_42 (dk_at dksX6_readLead_2 17 rfl rfl)
theorem dX6_readLead_64 : decode cX6_readLead 64 = .ok (.getfield 35, 3) := dk_180 0 35 (dk_at dksX6_readLead_2 18 rfl rfl)
theorem dX6_readLead_67 : decode cX6_readLead 67 = .ok (.sipush 1664, 3) := dk_17 6 128 (dk_at dksX6_readLead_2 21 rfl rfl)
theorem dX6_readLead_70 : decode cX6_readLead 70 = .ok (.iload_n 1, 1) := dk_27 (dk_at dksX6_readLead_3 0 rfl rfl)
theorem dX6_readLead_71 : decode cX6_readLead 71 = .ok (.iadd, 1) := dk_96 (dk_at dksX6_readLead_3 1 rfl rfl)
theorem dX6_readLead_72 : decode cX6_readLead 72 = .ok (.iconst 3, 1) := dk_6 (dk_at dksX6_readLead_3 2 rfl rfl)
theorem dX6_readLead_73 : decode cX6_readLead 73 = .ok (.iastore, 1) := dk_79 (dk_at dksX6_readLead_3 3 rfl rfl)
theorem dX6_readLead_74 : decode cX6_readLead 74 = .ok (.aload_n 0, 1) := dk_42 (dk_at dksX6_readLead_3 4 rfl rfl)
theorem dX6_readLead_75 : decode cX6_readLead 75 = .ok (.getfield 35, 3) := dk_180 0 35 (dk_at dksX6_readLead_3 5 rfl rfl)
theorem dX6_readLead_78 : decode cX6_readLead 78 = .ok (.sipush 1672, 3) := dk_17 6 136 (dk_at dksX6_readLead_3 8 rfl rfl)
theorem dX6_readLead_81 : decode cX6_readLead 81 = .ok (.iload_n 1, 1) := dk_27 (dk_at dksX6_readLead_3 11 rfl rfl)
theorem dX6_readLead_82 : decode cX6_readLead 82 = .ok (.iadd, 1) := dk_96 (dk_at dksX6_readLead_3 12 rfl rfl)
theorem dX6_readLead_83 : decode cX6_readLead 83 = .ok (.iconst 3, 1) := dk_6 (dk_at dksX6_readLead_3 13 rfl rfl)
theorem dX6_readLead_84 : decode cX6_readLead 84 = .ok (.iastore, 1) := dk_79 (dk_at dksX6_readLead_3 14 rfl rfl)
theorem dX6_readLead_85 : decode cX6_readLead 85 = .ok (.aload_n 0, 1) := dk_42 (dk_at dksX6_readLead_3 15 rfl rfl)
theorem dX6_readLead_86 : decode cX6_readLead 86 = .ok (.getfield 216, 3) := dk_180 0 216 (dk_at dksX6_readLead_3 16 rfl rfl)
theorem dX6_readLead_89 : decode cX6_readLead 89 = .ok (.ifCond .ne 31, 3) := dk_154 0 31 (dk_at dksX6_readLead_3 19 rfl rfl)
theorem dX6_readLead_92 : decode cX6_readLead 92 = .ok (.aload_n 0, 1) := dk_42 (dk_at dksX6_readLead_3 22 rfl rfl)
theorem dX6_readLead_93 : decode cX6_readLead 93 = .ok (.invokevirtual 182, 3) := dk_182 0 182 (dk_at dksX6_readLead_4 0 rfl rfl)
theorem dX6_readLead_96 : decode cX6_readLead 96 = .ok (.ifCond .eq 24, 3) := dk_153 0 24 (dk_at dksX6_readLead_4 3 rfl rfl)
theorem dX6_readLead_99 : decode cX6_readLead 99 = .ok (.aload_n 0, 1) := dk_42 (dk_at dksX6_readLead_4 6 rfl rfl)
theorem dX6_readLead_100 : decode cX6_readLead 100 = .ok (.invokevirtual 226, 3) := dk_182 0 226 (dk_at dksX6_readLead_4 7 rfl rfl)
theorem dX6_readLead_103 : decode cX6_readLead 103 = .ok (.aload_n 0, 1) := dk_42 (dk_at dksX6_readLead_4 10 rfl rfl)
theorem dX6_readLead_104 : decode cX6_readLead 104 = .ok (.getfield 35, 3) := dk_180 0 35 (dk_at dksX6_readLead_4 11 rfl rfl)
theorem dX6_readLead_107 : decode cX6_readLead 107 = .ok (.sipush 1656, 3) := dk_17 6 120 (dk_at dksX6_readLead_4 14 rfl rfl)
theorem dX6_readLead_110 : decode cX6_readLead 110 = .ok (.iload_n 1, 1) := dk_27 (dk_at dksX6_readLead_4 17 rfl rfl)
theorem dX6_readLead_111 : decode cX6_readLead 111 = .ok (.iadd, 1) := dk_96 (dk_at dksX6_readLead_4 18 rfl rfl)
theorem dX6_readLead_112 : decode cX6_readLead 112 = .ok (.aload_n 0, 1) := dk_42 (dk_at dksX6_readLead_4 19 rfl rfl)
theorem dX6_readLead_113 : decode cX6_readLead 113 = .ok (.iconst 0, 1) := dk_3 (dk_at dksX6_readLead_4 20 rfl rfl)
theorem dX6_readLead_114 : decode cX6_readLead 114 = .ok (.bipush 9, 2) := dk_16 9 (dk_at dksX6_readLead_4 21 rfl rfl)
theorem dX6_readLead_116 : decode cX6_readLead 116 = .ok (.invokevirtual 261, 3) := dk_182 1 5 (dk_at dksX6_readLead_5 0 rfl rfl)
theorem dX6_readLead_119 : decode cX6_readLead 119 = .ok (.iastore, 1) := dk_79 (dk_at dksX6_readLead_5 3 rfl rfl)
theorem dX6_readLead_120 : decode cX6_readLead 120 = .ok (.aload_n 0, 1) := dk_42 (dk_at dksX6_readLead_5 4 rfl rfl)
theorem dX6_readLead_121 : decode cX6_readLead 121 = .ok (.getfield 216, 3) := dk_180 0 216 (dk_at dksX6_readLead_5 5 rfl rfl)
theorem dX6_readLead_124 : decode cX6_readLead 124 = .ok (.ifCond .ne 48, 3) := dk_154 0 48 (dk_at dksX6_readLead_5 8 rfl rfl)
theorem dX6_readLead_127 : decode cX6_readLead 127 = .ok (.aload_n 0, 1) := dk_42 (dk_at dksX6_readLead_5 11 rfl rfl)
theorem dX6_readLead_128 : decode cX6_readLead 128 = .ok (.invokevirtual 185, 3) := dk_182 0 185 (dk_at dksX6_readLead_5 12 rfl rfl)
theorem dX6_readLead_131 : decode cX6_readLead 131 = .ok (.ifCond .eq 41, 3) := dk_153 0 41 (dk_at dksX6_readLead_5 15 rfl rfl)
theorem dX6_readLead_134 : decode cX6_readLead 134 = .ok (.aload_n 0, 1) := dk_42 (dk_at dksX6_readLead_5 18 rfl rfl)
theorem dX6_readLead_135 : decode cX6_readLead 135 = .ok (.invokevirtual 226, 3) := dk_182 0 226 (dk_at dksX6_readLead_5 19 rfl rfl)
theorem dX6_readLead_138 : decode cX6_readLead 138 = .ok (.aload_n 0, 1) := dk_42 (dk_at dksX6_readLead_5 22 rfl rfl)
theorem dX6_readLead_139 : decode cX6_readLead 139 = .ok (.getfield 35, 3) := dk_180 0 35 (dk_at dksX6_readLead_6 0 rfl rfl)
theorem dX6_readLead_142 : decode cX6_readLead 142 = .ok (.sipush 1664, 3) := dk_17 6 128 (dk_at dksX6_readLead_6 3 rfl rfl)
theorem dX6_readLead_145 : decode cX6_readLead 145 = .ok (.iload_n 1, 1) := dk_27 (dk_at dksX6_readLead_6 6 rfl rfl)
theorem dX6_readLead_146 : decode cX6_readLead 146 = .ok (.iadd, 1) := dk_96 (dk_at dksX6_readLead_6 7 rfl rfl)
theorem dX6_readLead_147 : decode cX6_readLead 147 = .ok (.aload_n 0, 1) := dk_42 (dk_at dksX6_readLead_6 8 rfl rfl)
theorem dX6_readLead_148 : decode cX6_readLead 148 = .ok (.iconst 1, 1) := dk_4 (dk_at dksX6_readLead_6 9 rfl rfl)
theorem dX6_readLead_149 : decode cX6_readLead 149 = .ok (.bipush 9, 2) := dk_16 9 (dk_at dksX6_readLead_6 10 rfl rfl)
theorem dX6_readLead_151 : decode cX6_readLead 151 = .ok (.invokevirtual 261, 3) := dk_182 1 5 (dk_at dksX6_readLead_6 12 rfl rfl)
theorem dX6_readLead_154 : decode cX6_readLead 154 = .ok (.iastore, 1) := dk_79 (dk_at dksX6_readLead_6 15 rfl rfl)
theorem dX6_readLead_155 : decode cX6_readLead 155 = .ok (.aload_n 0, 1) := dk_42 (dk_at dksX6_readLead_6 16 rfl rfl)
theorem dX6_readLead_156 : decode cX6_readLead 156 = .ok (.getfield 35, 3) := dk_180 0 35 (dk_at dksX6_readLead_6 17 rfl rfl)
theorem dX6_readLead_159 : decode cX6_readLead 159 = .ok (.sipush 1672, 3) := dk_17 6 136 (dk_at dksX6_readLead_6 20 rfl rfl)
theorem dX6_readLead_162 : decode cX6_readLead 162 = .ok (.iload_n 1, 1) := dk_27 (dk_at dksX6_readLead_6 23 rfl rfl)
theorem dX6_readLead_163 : decode cX6_readLead 163 = .ok (.iadd, 1) := dk_96 (dk_at dksX6_readLead_7 0 rfl rfl)
theorem dX6_readLead_164 : decode cX6_readLead 164 = .ok (.aload_n 0, 1) := dk_42 (dk_at dksX6_readLead_7 1 rfl rfl)
theorem dX6_readLead_165 : decode cX6_readLead 165 = .ok (.iconst 1, 1) := dk_4 (dk_at dksX6_readLead_7 2 rfl rfl)
theorem dX6_readLead_166 : decode cX6_readLead 166 = .ok (.bipush 9, 2) := dk_16 9 (dk_at dksX6_readLead_7 3 rfl rfl)
theorem dX6_readLead_168 : decode cX6_readLead 168 = .ok (.invokevirtual 261, 3) := dk_182 1 5 (dk_at dksX6_readLead_7 5 rfl rfl)
theorem dX6_readLead_171 : decode cX6_readLead 171 = .ok (.iastore, 1) := dk_79 (dk_at dksX6_readLead_7 8 rfl rfl)
theorem dX6_readLead_172 : decode cX6_readLead 172 = .ok (.aload_n 0, 1) := dk_42 (dk_at dksX6_readLead_7 9 rfl rfl)
theorem dX6_readLead_173 : decode cX6_readLead 173 = .ok (.getfield 216, 3) := dk_180 0 216 (dk_at dksX6_readLead_7 10 rfl rfl)
theorem dX6_readLead_176 : decode cX6_readLead 176 = .ok (.ifCond .ne 32, 3) := dk_154 0 32 (dk_at dksX6_readLead_7 13 rfl rfl)
theorem dX6_readLead_179 : decode cX6_readLead 179 = .ok (.aload_n 0, 1) := dk_42 (dk_at dksX6_readLead_7 16 rfl rfl)
theorem dX6_readLead_180 : decode cX6_readLead 180 = .ok (.invokevirtual 188, 3) := dk_182 0 188 (dk_at dksX6_readLead_7 17 rfl rfl)
theorem dX6_readLead_183 : decode cX6_readLead 183 = .ok (.ifCond .eq 25, 3) := dk_153 0 25 (dk_at dksX6_readLead_7 20 rfl rfl)
theorem dX6_readLead_186 : decode cX6_readLead 186 = .ok (.aload_n 0, 1) := dk_42 (dk_at dksX6_readLead_7 23 rfl rfl)
theorem dX6_readLead_187 : decode cX6_readLead 187 = .ok (.invokevirtual 226, 3) := dk_182 0 226 (dk_at dksX6_readLead_8 0 rfl rfl)
theorem dX6_readLead_190 : decode cX6_readLead 190 = .ok (.aload_n 0, 1) := dk_42 (dk_at dksX6_readLead_8 3 rfl rfl)
theorem dX6_readLead_191 : decode cX6_readLead 191 = .ok (.getfield 35, 3) := dk_180 0 35 (dk_at dksX6_readLead_8 4 rfl rfl)
theorem dX6_readLead_194 : decode cX6_readLead 194 = .ok (.sipush 1680, 3) := dk_17 6 144 (dk_at dksX6_readLead_8 7 rfl rfl)
theorem dX6_readLead_197 : decode cX6_readLead 197 = .ok (.iload_n 1, 1) := dk_27 (dk_at dksX6_readLead_8 10 rfl rfl)
theorem dX6_readLead_198 : decode cX6_readLead 198 = .ok (.iadd, 1) := dk_96 (dk_at dksX6_readLead_8 11 rfl rfl)
theorem dX6_readLead_199 : decode cX6_readLead 199 = .ok (.aload_n 0, 1) := dk_42 (dk_at dksX6_readLead_8 12 rfl rfl)
theorem dX6_readLead_200 : decode cX6_readLead 200 = .ok (.iconst 0, 1) := dk_3 (dk_at dksX6_readLead_8 13 rfl rfl)
theorem dX6_readLead_201 : decode cX6_readLead 201 = .ok (.sipush 999, 3) := dk_17 3 231 (dk_at dksX6_readLead_8 14 rfl rfl)
theorem dX6_readLead_204 : decode cX6_readLead 204 = .ok (.invokevirtual 261, 3) := dk_182 1 5 (dk_at dksX6_readLead_8 17 rfl rfl)
theorem dX6_readLead_207 : decode cX6_readLead 207 = .ok (.iastore, 1) := dk_79 (dk_at dksX6_readLead_8 20 rfl rfl)
theorem dX6_readLead_208 : decode cX6_readLead 208 = .ok (.aload_n 0, 1) := dk_42 (dk_at dksX6_readLead_8 21 rfl rfl)
theorem dX6_readLead_209 : decode cX6_readLead 209 = .ok (.getfield 216, 3) := dk_180 0 216 (dk_at dksX6_readLead_9 0 rfl rfl)
theorem dX6_readLead_212 : decode cX6_readLead 212 = .ok (.ifCond .ne 31, 3) := dk_154 0 31 (dk_at dksX6_readLead_9 3 rfl rfl)
theorem dX6_readLead_215 : decode cX6_readLead 215 = .ok (.aload_n 0, 1) := dk_42 (dk_at dksX6_readLead_9 6 rfl rfl)
theorem dX6_readLead_216 : decode cX6_readLead 216 = .ok (.invokevirtual 191, 3) := dk_182 0 191 (dk_at dksX6_readLead_9 7 rfl rfl)
theorem dX6_readLead_219 : decode cX6_readLead 219 = .ok (.ifCond .eq 24, 3) := dk_153 0 24 (dk_at dksX6_readLead_9 10 rfl rfl)
theorem dX6_readLead_222 : decode cX6_readLead 222 = .ok (.aload_n 0, 1) := dk_42 (dk_at dksX6_readLead_9 13 rfl rfl)
theorem dX6_readLead_223 : decode cX6_readLead 223 = .ok (.invokevirtual 226, 3) := dk_182 0 226 (dk_at dksX6_readLead_9 14 rfl rfl)
theorem dX6_readLead_226 : decode cX6_readLead 226 = .ok (.aload_n 0, 1) := dk_42 (dk_at dksX6_readLead_9 17 rfl rfl)
theorem dX6_readLead_227 : decode cX6_readLead 227 = .ok (.getfield 35, 3) := dk_180 0 35 (dk_at dksX6_readLead_9 18 rfl rfl)
theorem dX6_readLead_230 : decode cX6_readLead 230 = .ok (.sipush 1688, 3) := dk_17 6 152 (dk_at dksX6_readLead_9 21 rfl rfl)
theorem dX6_readLead_233 : decode cX6_readLead 233 = .ok (.iload_n 1, 1) := dk_27 (dk_at dksX6_readLead_10 0 rfl rfl)
theorem dX6_readLead_234 : decode cX6_readLead 234 = .ok (.iadd, 1) := dk_96 (dk_at dksX6_readLead_10 1 rfl rfl)
theorem dX6_readLead_235 : decode cX6_readLead 235 = .ok (.aload_n 0, 1) := dk_42 (dk_at dksX6_readLead_10 2 rfl rfl)
theorem dX6_readLead_236 : decode cX6_readLead 236 = .ok (.iconst 0, 1) := dk_3 (dk_at dksX6_readLead_10 3 rfl rfl)
theorem dX6_readLead_237 : decode cX6_readLead 237 = .ok (.bipush 16, 2) := dk_16 16 (dk_at dksX6_readLead_10 4 rfl rfl)
theorem dX6_readLead_239 : decode cX6_readLead 239 = .ok (.invokevirtual 261, 3) := dk_182 1 5 (dk_at dksX6_readLead_10 6 rfl rfl)
theorem dX6_readLead_242 : decode cX6_readLead 242 = .ok (.iastore, 1) := dk_79 (dk_at dksX6_readLead_10 9 rfl rfl)
theorem dX6_readLead_243 : decode cX6_readLead 243 = .ok (.aload_n 0, 1) := dk_42 (dk_at dksX6_readLead_10 10 rfl rfl)
theorem dX6_readLead_244 : decode cX6_readLead 244 = .ok (.getfield 216, 3) := dk_180 0 216 (dk_at dksX6_readLead_10 11 rfl rfl)
theorem dX6_readLead_247 : decode cX6_readLead 247 = .ok (.ifCond .ne 28, 3) := dk_154 0 28 (dk_at dksX6_readLead_10 14 rfl rfl)
theorem dX6_readLead_250 : decode cX6_readLead 250 = .ok (.aload_n 0, 1) := dk_42 (dk_at dksX6_readLead_10 17 rfl rfl)
theorem dX6_readLead_251 : decode cX6_readLead 251 = .ok (.invokevirtual 169, 3) := dk_182 0 169 (dk_at dksX6_readLead_10 18 rfl rfl)
theorem dX6_readLead_254 : decode cX6_readLead 254 = .ok (.ifCond .eq 21, 3) := dk_153 0 21 (dk_at dksX6_readLead_10 21 rfl rfl)
theorem dX6_readLead_257 : decode cX6_readLead 257 = .ok (.aload_n 0, 1) := dk_42 (dk_at dksX6_readLead_11 0 rfl rfl)
theorem dX6_readLead_258 : decode cX6_readLead 258 = .ok (.getfield 35, 3) := dk_180 0 35 (dk_at dksX6_readLead_11 1 rfl rfl)
theorem dX6_readLead_261 : decode cX6_readLead 261 = .ok (.sipush 1644, 3) := dk_17 6 108 (dk_at dksX6_readLead_11 4 rfl rfl)
theorem dX6_readLead_264 : decode cX6_readLead 264 = .ok (.dup2, 1) := dk_92 (dk_at dksX6_readLead_11 7 rfl rfl)
theorem dX6_readLead_265 : decode cX6_readLead 265 = .ok (.iaload, 1) := dk_46 (dk_at dksX6_readLead_11 8 rfl rfl)
theorem dX6_readLead_266 : decode cX6_readLead 266 = .ok (.iconst 1, 1) := dk_4 (dk_at dksX6_readLead_11 9 rfl rfl)
theorem dX6_readLead_267 : decode cX6_readLead 267 = .ok (.iload_n 1, 1) := dk_27 (dk_at dksX6_readLead_11 10 rfl rfl)
theorem dX6_readLead_268 : decode cX6_readLead 268 = .ok (.ishl, 1) := dk_120 (dk_at dksX6_readLead_11 11 rfl rfl)
theorem dX6_readLead_269 : decode cX6_readLead 269 = .ok (.ior, 1) := dk_128 (dk_at dksX6_readLead_11 12 rfl rfl)
theorem dX6_readLead_270 : decode cX6_readLead 270 = .ok (.iastore, 1) := dk_79 (dk_at dksX6_readLead_11 13 rfl rfl)
theorem dX6_readLead_271 : decode cX6_readLead 271 = .ok (.aload_n 0, 1) := dk_42 (dk_at dksX6_readLead_11 14 rfl rfl)
theorem dX6_readLead_272 : decode cX6_readLead 272 = .ok (.invokevirtual 226, 3) := dk_182 0 226 (dk_at dksX6_readLead_11 15 rfl rfl)
theorem dX6_readLead_275 : decode cX6_readLead 275 = .ok (.aload_n 0, 1) := dk_42 (dk_at dksX6_readLead_11 18 rfl rfl)
theorem dX6_readLead_276 : decode cX6_readLead 276 = .ok (.getfield 216, 3) := dk_180 0 216 (dk_at dksX6_readLead_11 19 rfl rfl)
theorem dX6_readLead_279 : decode cX6_readLead 279 = .ok (.ifCond .le 4, 3) := dk_158 0 4 (dk_at dksX6_readLead_12 0 rfl rfl)
theorem dX6_readLead_282 : decode cX6_readLead 282 = .ok (.return_, 1) := dk_177 (dk_at dksX6_readLead_12 3 rfl rfl)
theorem dX6_readLead_283 : decode cX6_readLead 283 = .ok (.aload_n 0, 1) := dk_42 (dk_at dksX6_readLead_12 4 rfl rfl)
theorem dX6_readLead_284 : decode cX6_readLead 284 = .ok (.getfield 35, 3) := dk_180 0 35 (dk_at dksX6_readLead_12 5 rfl rfl)
theorem dX6_readLead_287 : decode cX6_readLead 287 = .ok (.sipush 1643, 3) := dk_17 6 107 (dk_at dksX6_readLead_12 8 rfl rfl)
theorem dX6_readLead_290 : decode cX6_readLead 290 = .ok (.dup2, 1) := dk_92 (dk_at dksX6_readLead_12 11 rfl rfl)
theorem dX6_readLead_291 : decode cX6_readLead 291 = .ok (.iaload, 1) := dk_46 (dk_at dksX6_readLead_12 12 rfl rfl)
theorem dX6_readLead_292 : decode cX6_readLead 292 = .ok (.iconst 1, 1) := dk_4 (dk_at dksX6_readLead_12 13 rfl rfl)
theorem dX6_readLead_293 : decode cX6_readLead 293 = .ok (.iload_n 1, 1) := dk_27 (dk_at dksX6_readLead_12 14 rfl rfl)
theorem dX6_readLead_294 : decode cX6_readLead 294 = .ok (.ishl, 1) := dk_120 (dk_at dksX6_readLead_12 15 rfl rfl)
theorem dX6_readLead_295 : decode cX6_readLead 295 = .ok (.ior, 1) := dk_128 (dk_at dksX6_readLead_12 16 rfl rfl)
theorem dX6_readLead_296 : decode cX6_readLead 296 = .ok (.iastore, 1) := dk_79 (dk_at dksX6_readLead_12 17 rfl rfl)
theorem dX6_readLead_297 : decode cX6_readLead 297 = .ok (.aload_n 0, 1) := dk_42 (dk_at dksX6_readLead_12 18 rfl rfl)
theorem dX6_readLead_298 : decode cX6_readLead 298 = .ok (.getfield 35, 3) := dk_180 0 35 (dk_at dksX6_readLead_12 19 rfl rfl)
theorem dX6_readLead_301 : decode cX6_readLead 301 = .ok (.sipush 1640, 3) := dk_17 6 104 (dk_at dksX6_readLead_13 0 rfl rfl)
theorem dX6_readLead_304 : decode cX6_readLead 304 = .ok (.dup2, 1) := dk_92 (dk_at dksX6_readLead_13 3 rfl rfl)
theorem dX6_readLead_305 : decode cX6_readLead 305 = .ok (.iaload, 1) := dk_46 (dk_at dksX6_readLead_13 4 rfl rfl)
theorem dX6_readLead_306 : decode cX6_readLead 306 = .ok (.iconst 1, 1) := dk_4 (dk_at dksX6_readLead_13 5 rfl rfl)
theorem dX6_readLead_307 : decode cX6_readLead 307 = .ok (.iadd, 1) := dk_96 (dk_at dksX6_readLead_13 6 rfl rfl)
theorem dX6_readLead_308 : decode cX6_readLead 308 = .ok (.iastore, 1) := dk_79 (dk_at dksX6_readLead_13 7 rfl rfl)
theorem dX6_readLead_309 : decode cX6_readLead 309 = .ok (.return_, 1) := dk_177 (dk_at dksX6_readLead_13 8 rfl rfl)
abbrev cX6_fail : ByteArray := prog_16_method_44_code
def yX6_fail : MethodName := ⟨RX6, "fail", "(II)V"⟩
def dkwX6_fail_0 : List UInt8 := [42, 180, 0, 216, 158, 0, 4, 177, 42, 27, 181, 0, 216, 42, 28, 181, 0, 219, 177]
abbrev dktX6_fail_0 : List UInt8 := dkwX6_fail_0 ++ []
theorem dksX6_fail_0 : cX6_fail.data.toList.drop 0 = dktX6_fail_0 := by decide +kernel
theorem dX6_fail_0 : decode cX6_fail 0 = .ok (.aload_n 0, 1) := dk_42 (dk_at dksX6_fail_0 0 rfl rfl)
theorem dX6_fail_1 : decode cX6_fail 1 = .ok (.getfield 216, 3) := dk_180 0 216 (dk_at dksX6_fail_0 1 rfl rfl)
theorem dX6_fail_4 : decode cX6_fail 4 = .ok (.ifCond .le 4, 3) := dk_158 0 4 (dk_at dksX6_fail_0 4 rfl rfl)
theorem dX6_fail_7 : decode cX6_fail 7 = .ok (.return_, 1) := dk_177 (dk_at dksX6_fail_0 7 rfl rfl)
theorem dX6_fail_8 : decode cX6_fail 8 = .ok (.aload_n 0, 1) := dk_42 (dk_at dksX6_fail_0 8 rfl rfl)
theorem dX6_fail_9 : decode cX6_fail 9 = .ok (.iload_n 1, 1) := dk_27 (dk_at dksX6_fail_0 9 rfl rfl)
theorem dX6_fail_10 : decode cX6_fail 10 = .ok (.putfield 216, 3) := dk_181 0 216 (dk_at dksX6_fail_0 10 rfl rfl)
theorem dX6_fail_13 : decode cX6_fail 13 = .ok (.aload_n 0, 1) := dk_42 (dk_at dksX6_fail_0 13 rfl rfl)
theorem dX6_fail_14 : decode cX6_fail 14 = .ok (.iload_n 2, 1) := dk_28 (dk_at dksX6_fail_0 14 rfl rfl)
theorem dX6_fail_15 : decode cX6_fail 15 = .ok (.putfield 219, 3) := dk_181 0 219 (dk_at dksX6_fail_0 15 rfl rfl)
theorem dX6_fail_18 : decode cX6_fail 18 = .ok (.return_, 1) := dk_177 (dk_at dksX6_fail_0 18 rfl rfl)
abbrev cX6_readNew : ByteArray := prog_16_method_55_code
def yX6_readNew : MethodName := ⟨RX6, "readNew", "(I)V"⟩
def dkwX6_readNew_3 : List UInt8 := [177]
abbrev dktX6_readNew_3 : List UInt8 := dkwX6_readNew_3 ++ []
def dkwX6_readNew_2 : List UInt8 := [180, 0, 216, 158, 0, 4, 177, 42, 180, 0, 41, 16, 44, 27, 96, 42, 180, 0, 138, 80, 42, 182, 0, 226]
abbrev dktX6_readNew_2 : List UInt8 := dkwX6_readNew_2 ++ dktX6_readNew_3
def dkwX6_readNew_1 : List UInt8 := [182, 0, 242, 156, 0, 10, 42, 182, 0, 245, 153, 0, 12, 42, 6, 42, 180, 0, 126, 182, 0, 222, 42]
abbrev dktX6_readNew_1 : List UInt8 := dkwX6_readNew_1 ++ dktX6_readNew_2
def dkwX6_readNew_0 : List UInt8 := [42, 182, 0, 226, 42, 182, 0, 239, 154, 0, 7, 42, 182, 0, 229, 42, 180, 0, 216, 154, 0, 27, 42, 7]
abbrev dktX6_readNew_0 : List UInt8 := dkwX6_readNew_0 ++ dktX6_readNew_1
theorem dksX6_readNew_0 : cX6_readNew.data.toList.drop 0 = dktX6_readNew_0 := by decide +kernel
theorem dksX6_readNew_1 : cX6_readNew.data.toList.drop 24 = dktX6_readNew_1 := dk_seg dksX6_readNew_0 24 rfl rfl
theorem dksX6_readNew_2 : cX6_readNew.data.toList.drop 47 = dktX6_readNew_2 := dk_seg dksX6_readNew_1 23 rfl rfl
theorem dksX6_readNew_3 : cX6_readNew.data.toList.drop 71 = dktX6_readNew_3 := dk_seg dksX6_readNew_2 24 rfl rfl
theorem dX6_readNew_0 : decode cX6_readNew 0 = .ok (.aload_n 0, 1) := dk_42 (dk_at dksX6_readNew_0 0 rfl rfl)
theorem dX6_readNew_1 : decode cX6_readNew 1 = .ok (.invokevirtual 226, 3) := dk_182 0 226 (dk_at dksX6_readNew_0 1 rfl rfl)
theorem dX6_readNew_4 : decode cX6_readNew 4 = .ok (.aload_n 0, 1) := dk_42 (dk_at dksX6_readNew_0 4 rfl rfl)
theorem dX6_readNew_5 : decode cX6_readNew 5 = .ok (.invokevirtual 239, 3) := dk_182 0 239 (dk_at dksX6_readNew_0 5 rfl rfl)
theorem dX6_readNew_8 : decode cX6_readNew 8 = .ok (.ifCond .ne 7, 3) := dk_154 0 7 (dk_at dksX6_readNew_0 8 rfl rfl)
theorem dX6_readNew_11 : decode cX6_readNew 11 = .ok (.aload_n 0, 1) := dk_42 (dk_at dksX6_readNew_0 11 rfl rfl)
theorem dX6_readNew_12 : decode cX6_readNew 12 = .ok (.invokevirtual 229, 3) := dk_182 0 229 (dk_at dksX6_readNew_0 12 rfl rfl)
theorem dX6_readNew_15 : decode cX6_readNew 15 = .ok (.aload_n 0, 1) := dk_42 (dk_at dksX6_readNew_0 15 rfl rfl)
theorem dX6_readNew_16 : decode cX6_readNew 16 = .ok (.getfield 216, 3) := dk_180 0 216 (dk_at dksX6_readNew_0 16 rfl rfl)
theorem dX6_readNew_19 : decode cX6_readNew 19 = .ok (.ifCond .ne 27, 3) := dk_154 0 27 (dk_at dksX6_readNew_0 19 rfl rfl)
theorem dX6_readNew_22 : decode cX6_readNew 22 = .ok (.aload_n 0, 1) := dk_42 (dk_at dksX6_readNew_0 22 rfl rfl)
theorem dX6_readNew_23 : decode cX6_readNew 23 = .ok (.iconst 4, 1) := dk_7 (dk_at dksX6_readNew_0 23 rfl rfl)
theorem dX6_readNew_24 : decode cX6_readNew 24 = .ok (.invokevirtual 242, 3) := dk_182 0 242 (dk_at dksX6_readNew_1 0 rfl rfl)
theorem dX6_readNew_27 : decode cX6_readNew 27 = .ok (.ifCond .ge 10, 3) := dk_156 0 10 (dk_at dksX6_readNew_1 3 rfl rfl)
theorem dX6_readNew_30 : decode cX6_readNew 30 = .ok (.aload_n 0, 1) := dk_42 (dk_at dksX6_readNew_1 6 rfl rfl)
theorem dX6_readNew_31 : decode cX6_readNew 31 = .ok (.invokevirtual 245, 3) := dk_182 0 245 (dk_at dksX6_readNew_1 7 rfl rfl)
theorem dX6_readNew_34 : decode cX6_readNew 34 = .ok (.ifCond .eq 12, 3) := dk_153 0 12 (dk_at dksX6_readNew_1 10 rfl rfl)
theorem dX6_readNew_37 : decode cX6_readNew 37 = .ok (.aload_n 0, 1) := dk_42 (dk_at dksX6_readNew_1 13 rfl rfl)
theorem dX6_readNew_38 : decode cX6_readNew 38 = .ok (.iconst 3, 1) := dk_6 (dk_at dksX6_readNew_1 14 rfl rfl)
theorem dX6_readNew_39 : decode cX6_readNew 39 = .ok (.aload_n 0, 1) := dk_42 (dk_at dksX6_readNew_1 15 rfl rfl)
theorem dX6_readNew_40 : decode cX6_readNew 40 = .ok (.getfield 126, 3) := dk_180 0 126 (dk_at dksX6_readNew_1 16 rfl rfl)
theorem dX6_readNew_43 : decode cX6_readNew 43 = .ok (.invokevirtual 222, 3) := dk_182 0 222 (dk_at dksX6_readNew_1 19 rfl rfl)
theorem dX6_readNew_46 : decode cX6_readNew 46 = .ok (.aload_n 0, 1) := dk_42 (dk_at dksX6_readNew_1 22 rfl rfl)
theorem dX6_readNew_47 : decode cX6_readNew 47 = .ok (.getfield 216, 3) := dk_180 0 216 (dk_at dksX6_readNew_2 0 rfl rfl)
theorem dX6_readNew_50 : decode cX6_readNew 50 = .ok (.ifCond .le 4, 3) := dk_158 0 4 (dk_at dksX6_readNew_2 3 rfl rfl)
theorem dX6_readNew_53 : decode cX6_readNew 53 = .ok (.return_, 1) := dk_177 (dk_at dksX6_readNew_2 6 rfl rfl)
theorem dX6_readNew_54 : decode cX6_readNew 54 = .ok (.aload_n 0, 1) := dk_42 (dk_at dksX6_readNew_2 7 rfl rfl)
theorem dX6_readNew_55 : decode cX6_readNew 55 = .ok (.getfield 41, 3) := dk_180 0 41 (dk_at dksX6_readNew_2 8 rfl rfl)
theorem dX6_readNew_58 : decode cX6_readNew 58 = .ok (.bipush 44, 2) := dk_16 44 (dk_at dksX6_readNew_2 11 rfl rfl)
theorem dX6_readNew_60 : decode cX6_readNew 60 = .ok (.iload_n 1, 1) := dk_27 (dk_at dksX6_readNew_2 13 rfl rfl)
theorem dX6_readNew_61 : decode cX6_readNew 61 = .ok (.iadd, 1) := dk_96 (dk_at dksX6_readNew_2 14 rfl rfl)
theorem dX6_readNew_62 : decode cX6_readNew 62 = .ok (.aload_n 0, 1) := dk_42 (dk_at dksX6_readNew_2 15 rfl rfl)
theorem dX6_readNew_63 : decode cX6_readNew 63 = .ok (.getfield 138, 3) := dk_180 0 138 (dk_at dksX6_readNew_2 16 rfl rfl)
theorem dX6_readNew_66 : decode cX6_readNew 66 = .ok (.lastore, 1) := dk_80 (dk_at dksX6_readNew_2 19 rfl rfl)
theorem dX6_readNew_67 : decode cX6_readNew 67 = .ok (.aload_n 0, 1) := dk_42 (dk_at dksX6_readNew_2 20 rfl rfl)
theorem dX6_readNew_68 : decode cX6_readNew 68 = .ok (.invokevirtual 226, 3) := dk_182 0 226 (dk_at dksX6_readNew_2 21 rfl rfl)
theorem dX6_readNew_71 : decode cX6_readNew 71 = .ok (.return_, 1) := dk_177 (dk_at dksX6_readNew_3 0 rfl rfl)
abbrev cX6_isName : ByteArray := prog_16_method_43_code
def yX6_isName : MethodName := ⟨RX6, "isName", "()Z"⟩
def dkwX6_isName_1 : List UInt8 := [4, 167, 0, 4, 3, 172]
abbrev dktX6_isName_1 : List UInt8 := dkwX6_isName_1 ++ []
def dkwX6_isName_0 : List UInt8 := [42, 180, 0, 132, 4, 160, 0, 23, 42, 180, 0, 145, 16, 8, 163, 0, 14, 42, 182, 0, 213, 154, 0, 7]
abbrev dktX6_isName_0 : List UInt8 := dkwX6_isName_0 ++ dktX6_isName_1
theorem dksX6_isName_0 : cX6_isName.data.toList.drop 0 = dktX6_isName_0 := by decide +kernel
theorem dksX6_isName_1 : cX6_isName.data.toList.drop 24 = dktX6_isName_1 := dk_seg dksX6_isName_0 24 rfl rfl
theorem dX6_isName_0 : decode cX6_isName 0 = .ok (.aload_n 0, 1) := dk_42 (dk_at dksX6_isName_0 0 rfl rfl)
theorem dX6_isName_1 : decode cX6_isName 1 = .ok (.getfield 132, 3) := dk_180 0 132 (dk_at dksX6_isName_0 1 rfl rfl)
theorem dX6_isName_4 : decode cX6_isName 4 = .ok (.iconst 1, 1) := dk_4 (dk_at dksX6_isName_0 4 rfl rfl)
theorem dX6_isName_5 : decode cX6_isName 5 = .ok (.if_icmp .ne 23, 3) := dk_160 0 23 (dk_at dksX6_isName_0 5 rfl rfl)
theorem dX6_isName_8 : decode cX6_isName 8 = .ok (.aload_n 0, 1) := dk_42 (dk_at dksX6_isName_0 8 rfl rfl)
theorem dX6_isName_9 : decode cX6_isName 9 = .ok (.getfield 145, 3) := dk_180 0 145 (dk_at dksX6_isName_0 9 rfl rfl)
theorem dX6_isName_12 : decode cX6_isName 12 = .ok (.bipush 8, 2) := dk_16 8 (dk_at dksX6_isName_0 12 rfl rfl)
theorem dX6_isName_14 : decode cX6_isName 14 = .ok (.if_icmp .gt 14, 3) := dk_163 0 14 (dk_at dksX6_isName_0 14 rfl rfl)
theorem dX6_isName_17 : decode cX6_isName 17 = .ok (.aload_n 0, 1) := dk_42 (dk_at dksX6_isName_0 17 rfl rfl)
theorem dX6_isName_18 : decode cX6_isName 18 = .ok (.invokevirtual 213, 3) := dk_182 0 213 (dk_at dksX6_isName_0 18 rfl rfl)
theorem dX6_isName_21 : decode cX6_isName 21 = .ok (.ifCond .ne 7, 3) := dk_154 0 7 (dk_at dksX6_isName_0 21 rfl rfl)
theorem dX6_isName_24 : decode cX6_isName 24 = .ok (.iconst 1, 1) := dk_4 (dk_at dksX6_isName_1 0 rfl rfl)
theorem dX6_isName_25 : decode cX6_isName 25 = .ok (.goto 4, 3) := dk_167 0 4 (dk_at dksX6_isName_1 1 rfl rfl)
theorem dX6_isName_28 : decode cX6_isName 28 = .ok (.iconst 0, 1) := dk_3 (dk_at dksX6_isName_1 4 rfl rfl)
theorem dX6_isName_29 : decode cX6_isName 29 = .ok (.ireturn, 1) := dk_172 (dk_at dksX6_isName_1 5 rfl rfl)
abbrev cX6_isKept : ByteArray := prog_16_method_42_code
def yX6_isKept : MethodName := ⟨RX6, "isKept", "()Z"⟩
def dkwX6_isKept_4 : List UInt8 := [182, 0, 210, 153, 0, 7, 4, 167, 0, 4, 3, 172]
abbrev dktX6_isKept_4 : List UInt8 := dkwX6_isKept_4 ++ []
def dkwX6_isKept_3 : List UInt8 := [4, 172, 42, 182, 0, 200, 157, 0, 24, 42, 182, 0, 204, 156, 0, 17, 42, 182, 0, 207, 156, 0, 10, 42]
abbrev dktX6_isKept_3 : List UInt8 := dkwX6_isKept_3 ++ dktX6_isKept_4
def dkwX6_isKept_2 : List UInt8 := [154, 0, 24, 42, 182, 0, 173, 154, 0, 17, 42, 182, 0, 194, 154, 0, 10, 42, 182, 0, 197, 153, 0, 5]
abbrev dktX6_isKept_2 : List UInt8 := dkwX6_isKept_2 ++ dktX6_isKept_3
def dkwX6_isKept_1 : List UInt8 := [182, 0, 185, 154, 0, 45, 42, 182, 0, 188, 154, 0, 38, 42, 182, 0, 191, 154, 0, 31, 42, 182, 0, 169]
abbrev dktX6_isKept_1 : List UInt8 := dkwX6_isKept_1 ++ dktX6_isKept_2
def dkwX6_isKept_0 : List UInt8 := [42, 182, 0, 176, 154, 0, 66, 42, 182, 0, 179, 154, 0, 59, 42, 182, 0, 182, 154, 0, 52, 42]
abbrev dktX6_isKept_0 : List UInt8 := dkwX6_isKept_0 ++ dktX6_isKept_1
theorem dksX6_isKept_0 : cX6_isKept.data.toList.drop 0 = dktX6_isKept_0 := by decide +kernel
theorem dksX6_isKept_1 : cX6_isKept.data.toList.drop 22 = dktX6_isKept_1 := dk_seg dksX6_isKept_0 22 rfl rfl
theorem dksX6_isKept_2 : cX6_isKept.data.toList.drop 46 = dktX6_isKept_2 := dk_seg dksX6_isKept_1 24 rfl rfl
theorem dksX6_isKept_3 : cX6_isKept.data.toList.drop 70 = dktX6_isKept_3 := dk_seg dksX6_isKept_2 24 rfl rfl
theorem dksX6_isKept_4 : cX6_isKept.data.toList.drop 94 = dktX6_isKept_4 := dk_seg dksX6_isKept_3 24 rfl rfl
theorem dX6_isKept_0 : decode cX6_isKept 0 = .ok (.aload_n 0, 1) := dk_42 (dk_at dksX6_isKept_0 0 rfl rfl)
theorem dX6_isKept_1 : decode cX6_isKept 1 = .ok (.invokevirtual 176, 3) := dk_182 0 176 (dk_at dksX6_isKept_0 1 rfl rfl)
theorem dX6_isKept_4 : decode cX6_isKept 4 = .ok (.ifCond .ne 66, 3) := dk_154 0 66 (dk_at dksX6_isKept_0 4 rfl rfl)
theorem dX6_isKept_7 : decode cX6_isKept 7 = .ok (.aload_n 0, 1) := dk_42 (dk_at dksX6_isKept_0 7 rfl rfl)
theorem dX6_isKept_8 : decode cX6_isKept 8 = .ok (.invokevirtual 179, 3) := dk_182 0 179 (dk_at dksX6_isKept_0 8 rfl rfl)
theorem dX6_isKept_11 : decode cX6_isKept 11 = .ok (.ifCond .ne 59, 3) := dk_154 0 59 (dk_at dksX6_isKept_0 11 rfl rfl)
theorem dX6_isKept_14 : decode cX6_isKept 14 = .ok (.aload_n 0, 1) := dk_42 (dk_at dksX6_isKept_0 14 rfl rfl)
theorem dX6_isKept_15 : decode cX6_isKept 15 = .ok (.invokevirtual 182, 3) := dk_182 0 182 (dk_at dksX6_isKept_0 15 rfl rfl)
theorem dX6_isKept_18 : decode cX6_isKept 18 = .ok (.ifCond .ne 52, 3) := dk_154 0 52 (dk_at dksX6_isKept_0 18 rfl rfl)
theorem dX6_isKept_21 : decode cX6_isKept 21 = .ok (.aload_n 0, 1) := dk_42 (dk_at dksX6_isKept_0 21 rfl rfl)
theorem dX6_isKept_22 : decode cX6_isKept 22 = .ok (.invokevirtual 185, 3) := dk_182 0 185 (dk_at dksX6_isKept_1 0 rfl rfl)
theorem dX6_isKept_25 : decode cX6_isKept 25 = .ok (.ifCond .ne 45, 3) := dk_154 0 45 (dk_at dksX6_isKept_1 3 rfl rfl)
theorem dX6_isKept_28 : decode cX6_isKept 28 = .ok (.aload_n 0, 1) := dk_42 (dk_at dksX6_isKept_1 6 rfl rfl)
theorem dX6_isKept_29 : decode cX6_isKept 29 = .ok (.invokevirtual 188, 3) := dk_182 0 188 (dk_at dksX6_isKept_1 7 rfl rfl)
theorem dX6_isKept_32 : decode cX6_isKept 32 = .ok (.ifCond .ne 38, 3) := dk_154 0 38 (dk_at dksX6_isKept_1 10 rfl rfl)
theorem dX6_isKept_35 : decode cX6_isKept 35 = .ok (.aload_n 0, 1) := dk_42 (dk_at dksX6_isKept_1 13 rfl rfl)
theorem dX6_isKept_36 : decode cX6_isKept 36 = .ok (.invokevirtual 191, 3) := dk_182 0 191 (dk_at dksX6_isKept_1 14 rfl rfl)
theorem dX6_isKept_39 : decode cX6_isKept 39 = .ok (.ifCond .ne 31, 3) := dk_154 0 31 (dk_at dksX6_isKept_1 17 rfl rfl)
theorem dX6_isKept_42 : decode cX6_isKept 42 = .ok (.aload_n 0, 1) := dk_42 (dk_at dksX6_isKept_1 20 rfl rfl)
theorem dX6_isKept_43 : decode cX6_isKept 43 = .ok (.invokevirtual 169, 3) := dk_182 0 169 (dk_at dksX6_isKept_1 21 rfl rfl)
theorem dX6_isKept_46 : decode cX6_isKept 46 = .ok (.ifCond .ne 24, 3) := dk_154 0 24 (dk_at dksX6_isKept_2 0 rfl rfl)
theorem dX6_isKept_49 : decode cX6_isKept 49 = .ok (.aload_n 0, 1) := dk_42 (dk_at dksX6_isKept_2 3 rfl rfl)
theorem dX6_isKept_50 : decode cX6_isKept 50 = .ok (.invokevirtual 173, 3) := dk_182 0 173 (dk_at dksX6_isKept_2 4 rfl rfl)
theorem dX6_isKept_53 : decode cX6_isKept 53 = .ok (.ifCond .ne 17, 3) := dk_154 0 17 (dk_at dksX6_isKept_2 7 rfl rfl)
theorem dX6_isKept_56 : decode cX6_isKept 56 = .ok (.aload_n 0, 1) := dk_42 (dk_at dksX6_isKept_2 10 rfl rfl)
theorem dX6_isKept_57 : decode cX6_isKept 57 = .ok (.invokevirtual 194, 3) := dk_182 0 194 (dk_at dksX6_isKept_2 11 rfl rfl)
theorem dX6_isKept_60 : decode cX6_isKept 60 = .ok (.ifCond .ne 10, 3) := dk_154 0 10 (dk_at dksX6_isKept_2 14 rfl rfl)
theorem dX6_isKept_63 : decode cX6_isKept 63 = .ok (.aload_n 0, 1) := dk_42 (dk_at dksX6_isKept_2 17 rfl rfl)
theorem dX6_isKept_64 : decode cX6_isKept 64 = .ok (.invokevirtual 197, 3) := dk_182 0 197 (dk_at dksX6_isKept_2 18 rfl rfl)
theorem dX6_isKept_67 : decode cX6_isKept 67 = .ok (.ifCond .eq 5, 3) := dk_153 0 5 (dk_at dksX6_isKept_2 21 rfl rfl)
theorem dX6_isKept_70 : decode cX6_isKept 70 = .ok (.iconst 1, 1) := dk_4 (dk_at dksX6_isKept_3 0 rfl rfl)
theorem dX6_isKept_71 : decode cX6_isKept 71 = .ok (.ireturn, 1) := dk_172 (dk_at dksX6_isKept_3 1 rfl rfl)
theorem dX6_isKept_72 : decode cX6_isKept 72 = .ok (.aload_n 0, 1) := dk_42 (dk_at dksX6_isKept_3 2 rfl rfl)
theorem dX6_isKept_73 : decode cX6_isKept 73 = .ok (.invokevirtual 200, 3) := dk_182 0 200 (dk_at dksX6_isKept_3 3 rfl rfl)
theorem dX6_isKept_76 : decode cX6_isKept 76 = .ok (.ifCond .gt 24, 3) := dk_157 0 24 (dk_at dksX6_isKept_3 6 rfl rfl)
theorem dX6_isKept_79 : decode cX6_isKept 79 = .ok (.aload_n 0, 1) := dk_42 (dk_at dksX6_isKept_3 9 rfl rfl)
theorem dX6_isKept_80 : decode cX6_isKept 80 = .ok (.invokevirtual 204, 3) := dk_182 0 204 (dk_at dksX6_isKept_3 10 rfl rfl)
theorem dX6_isKept_83 : decode cX6_isKept 83 = .ok (.ifCond .ge 17, 3) := dk_156 0 17 (dk_at dksX6_isKept_3 13 rfl rfl)
theorem dX6_isKept_86 : decode cX6_isKept 86 = .ok (.aload_n 0, 1) := dk_42 (dk_at dksX6_isKept_3 16 rfl rfl)
theorem dX6_isKept_87 : decode cX6_isKept 87 = .ok (.invokevirtual 207, 3) := dk_182 0 207 (dk_at dksX6_isKept_3 17 rfl rfl)
theorem dX6_isKept_90 : decode cX6_isKept 90 = .ok (.ifCond .ge 10, 3) := dk_156 0 10 (dk_at dksX6_isKept_3 20 rfl rfl)
theorem dX6_isKept_93 : decode cX6_isKept 93 = .ok (.aload_n 0, 1) := dk_42 (dk_at dksX6_isKept_3 23 rfl rfl)
theorem dX6_isKept_94 : decode cX6_isKept 94 = .ok (.invokevirtual 210, 3) := dk_182 0 210 (dk_at dksX6_isKept_4 0 rfl rfl)
theorem dX6_isKept_97 : decode cX6_isKept 97 = .ok (.ifCond .eq 7, 3) := dk_153 0 7 (dk_at dksX6_isKept_4 3 rfl rfl)
theorem dX6_isKept_100 : decode cX6_isKept 100 = .ok (.iconst 1, 1) := dk_4 (dk_at dksX6_isKept_4 6 rfl rfl)
theorem dX6_isKept_101 : decode cX6_isKept 101 = .ok (.goto 4, 3) := dk_167 0 4 (dk_at dksX6_isKept_4 7 rfl rfl)
theorem dX6_isKept_104 : decode cX6_isKept 104 = .ok (.iconst 0, 1) := dk_3 (dk_at dksX6_isKept_4 10 rfl rfl)
theorem dX6_isKept_105 : decode cX6_isKept 105 = .ok (.ireturn, 1) := dk_172 (dk_at dksX6_isKept_4 11 rfl rfl)
abbrev cX6_isLong : ByteArray := prog_16_method_29_code
def yX6_isLong : MethodName := ⟨RX6, "isLong", "()Z"⟩
def dkwX6_isLong_0 : List UInt8 := [42, 16, 108, 16, 111, 16, 110, 16, 103, 3, 3, 184, 0, 157, 182, 0, 161, 172]
abbrev dktX6_isLong_0 : List UInt8 := dkwX6_isLong_0 ++ []
theorem dksX6_isLong_0 : cX6_isLong.data.toList.drop 0 = dktX6_isLong_0 := by decide +kernel
theorem dX6_isLong_0 : decode cX6_isLong 0 = .ok (.aload_n 0, 1) := dk_42 (dk_at dksX6_isLong_0 0 rfl rfl)
theorem dX6_isLong_1 : decode cX6_isLong 1 = .ok (.bipush 108, 2) := dk_16 108 (dk_at dksX6_isLong_0 1 rfl rfl)
theorem dX6_isLong_3 : decode cX6_isLong 3 = .ok (.bipush 111, 2) := dk_16 111 (dk_at dksX6_isLong_0 3 rfl rfl)
theorem dX6_isLong_5 : decode cX6_isLong 5 = .ok (.bipush 110, 2) := dk_16 110 (dk_at dksX6_isLong_0 5 rfl rfl)
theorem dX6_isLong_7 : decode cX6_isLong 7 = .ok (.bipush 103, 2) := dk_16 103 (dk_at dksX6_isLong_0 7 rfl rfl)
theorem dX6_isLong_9 : decode cX6_isLong 9 = .ok (.iconst 0, 1) := dk_3 (dk_at dksX6_isLong_0 9 rfl rfl)
theorem dX6_isLong_10 : decode cX6_isLong 10 = .ok (.iconst 0, 1) := dk_3 (dk_at dksX6_isLong_0 10 rfl rfl)
theorem dX6_isLong_11 : decode cX6_isLong 11 = .ok (.invokestatic 157, 3) := dk_184 0 157 (dk_at dksX6_isLong_0 11 rfl rfl)
theorem dX6_isLong_14 : decode cX6_isLong 14 = .ok (.invokevirtual 161, 3) := dk_182 0 161 (dk_at dksX6_isLong_0 14 rfl rfl)
theorem dX6_isLong_17 : decode cX6_isLong 17 = .ok (.ireturn, 1) := dk_172 (dk_at dksX6_isLong_0 17 rfl rfl)
abbrev cX6_isStiff : ByteArray := prog_16_method_30_code
def yX6_isStiff : MethodName := ⟨RX6, "isStiff", "()Z"⟩
def dkwX6_isStiff_0 : List UInt8 := [42, 16, 115, 16, 116, 16, 105, 16, 102, 16, 102, 3, 184, 0, 157, 182, 0, 161, 172]
abbrev dktX6_isStiff_0 : List UInt8 := dkwX6_isStiff_0 ++ []
theorem dksX6_isStiff_0 : cX6_isStiff.data.toList.drop 0 = dktX6_isStiff_0 := by decide +kernel
theorem dX6_isStiff_0 : decode cX6_isStiff 0 = .ok (.aload_n 0, 1) := dk_42 (dk_at dksX6_isStiff_0 0 rfl rfl)
theorem dX6_isStiff_1 : decode cX6_isStiff 1 = .ok (.bipush 115, 2) := dk_16 115 (dk_at dksX6_isStiff_0 1 rfl rfl)
theorem dX6_isStiff_3 : decode cX6_isStiff 3 = .ok (.bipush 116, 2) := dk_16 116 (dk_at dksX6_isStiff_0 3 rfl rfl)
theorem dX6_isStiff_5 : decode cX6_isStiff 5 = .ok (.bipush 105, 2) := dk_16 105 (dk_at dksX6_isStiff_0 5 rfl rfl)
theorem dX6_isStiff_7 : decode cX6_isStiff 7 = .ok (.bipush 102, 2) := dk_16 102 (dk_at dksX6_isStiff_0 7 rfl rfl)
theorem dX6_isStiff_9 : decode cX6_isStiff 9 = .ok (.bipush 102, 2) := dk_16 102 (dk_at dksX6_isStiff_0 9 rfl rfl)
theorem dX6_isStiff_11 : decode cX6_isStiff 11 = .ok (.iconst 0, 1) := dk_3 (dk_at dksX6_isStiff_0 11 rfl rfl)
theorem dX6_isStiff_12 : decode cX6_isStiff 12 = .ok (.invokestatic 157, 3) := dk_184 0 157 (dk_at dksX6_isStiff_0 12 rfl rfl)
theorem dX6_isStiff_15 : decode cX6_isStiff 15 = .ok (.invokevirtual 161, 3) := dk_182 0 161 (dk_at dksX6_isStiff_0 15 rfl rfl)
theorem dX6_isStiff_18 : decode cX6_isStiff 18 = .ok (.ireturn, 1) := dk_172 (dk_at dksX6_isStiff_0 18 rfl rfl)
abbrev cX6_isEnds : ByteArray := prog_16_method_31_code
def yX6_isEnds : MethodName := ⟨RX6, "isEnds", "()Z"⟩
def dkwX6_isEnds_0 : List UInt8 := [42, 16, 101, 16, 110, 16, 100, 16, 115, 3, 3, 184, 0, 157, 182, 0, 161, 172]
abbrev dktX6_isEnds_0 : List UInt8 := dkwX6_isEnds_0 ++ []
theorem dksX6_isEnds_0 : cX6_isEnds.data.toList.drop 0 = dktX6_isEnds_0 := by decide +kernel
theorem dX6_isEnds_0 : decode cX6_isEnds 0 = .ok (.aload_n 0, 1) := dk_42 (dk_at dksX6_isEnds_0 0 rfl rfl)
theorem dX6_isEnds_1 : decode cX6_isEnds 1 = .ok (.bipush 101, 2) := dk_16 101 (dk_at dksX6_isEnds_0 1 rfl rfl)
theorem dX6_isEnds_3 : decode cX6_isEnds 3 = .ok (.bipush 110, 2) := dk_16 110 (dk_at dksX6_isEnds_0 3 rfl rfl)
theorem dX6_isEnds_5 : decode cX6_isEnds 5 = .ok (.bipush 100, 2) := dk_16 100 (dk_at dksX6_isEnds_0 5 rfl rfl)
theorem dX6_isEnds_7 : decode cX6_isEnds 7 = .ok (.bipush 115, 2) := dk_16 115 (dk_at dksX6_isEnds_0 7 rfl rfl)
theorem dX6_isEnds_9 : decode cX6_isEnds 9 = .ok (.iconst 0, 1) := dk_3 (dk_at dksX6_isEnds_0 9 rfl rfl)
theorem dX6_isEnds_10 : decode cX6_isEnds 10 = .ok (.iconst 0, 1) := dk_3 (dk_at dksX6_isEnds_0 10 rfl rfl)
theorem dX6_isEnds_11 : decode cX6_isEnds 11 = .ok (.invokestatic 157, 3) := dk_184 0 157 (dk_at dksX6_isEnds_0 11 rfl rfl)
theorem dX6_isEnds_14 : decode cX6_isEnds 14 = .ok (.invokevirtual 161, 3) := dk_182 0 161 (dk_at dksX6_isEnds_0 14 rfl rfl)
theorem dX6_isEnds_17 : decode cX6_isEnds 17 = .ok (.ireturn, 1) := dk_172 (dk_at dksX6_isEnds_0 17 rfl rfl)
abbrev cX6_isCosts : ByteArray := prog_16_method_32_code
def yX6_isCosts : MethodName := ⟨RX6, "isCosts", "()Z"⟩
def dkwX6_isCosts_0 : List UInt8 := [42, 16, 99, 16, 111, 16, 115, 16, 116, 16, 115, 3, 184, 0, 157, 182, 0, 161, 172]
abbrev dktX6_isCosts_0 : List UInt8 := dkwX6_isCosts_0 ++ []
theorem dksX6_isCosts_0 : cX6_isCosts.data.toList.drop 0 = dktX6_isCosts_0 := by decide +kernel
theorem dX6_isCosts_0 : decode cX6_isCosts 0 = .ok (.aload_n 0, 1) := dk_42 (dk_at dksX6_isCosts_0 0 rfl rfl)
theorem dX6_isCosts_1 : decode cX6_isCosts 1 = .ok (.bipush 99, 2) := dk_16 99 (dk_at dksX6_isCosts_0 1 rfl rfl)
theorem dX6_isCosts_3 : decode cX6_isCosts 3 = .ok (.bipush 111, 2) := dk_16 111 (dk_at dksX6_isCosts_0 3 rfl rfl)
theorem dX6_isCosts_5 : decode cX6_isCosts 5 = .ok (.bipush 115, 2) := dk_16 115 (dk_at dksX6_isCosts_0 5 rfl rfl)
theorem dX6_isCosts_7 : decode cX6_isCosts 7 = .ok (.bipush 116, 2) := dk_16 116 (dk_at dksX6_isCosts_0 7 rfl rfl)
theorem dX6_isCosts_9 : decode cX6_isCosts 9 = .ok (.bipush 115, 2) := dk_16 115 (dk_at dksX6_isCosts_0 9 rfl rfl)
theorem dX6_isCosts_11 : decode cX6_isCosts 11 = .ok (.iconst 0, 1) := dk_3 (dk_at dksX6_isCosts_0 11 rfl rfl)
theorem dX6_isCosts_12 : decode cX6_isCosts 12 = .ok (.invokestatic 157, 3) := dk_184 0 157 (dk_at dksX6_isCosts_0 12 rfl rfl)
theorem dX6_isCosts_15 : decode cX6_isCosts 15 = .ok (.invokevirtual 161, 3) := dk_182 0 161 (dk_at dksX6_isCosts_0 15 rfl rfl)
theorem dX6_isCosts_18 : decode cX6_isCosts 18 = .ok (.ireturn, 1) := dk_172 (dk_at dksX6_isCosts_0 18 rfl rfl)
abbrev cX6_isUsed : ByteArray := prog_16_method_33_code
def yX6_isUsed : MethodName := ⟨RX6, "isUsed", "()Z"⟩
def dkwX6_isUsed_0 : List UInt8 := [42, 16, 117, 16, 115, 16, 101, 16, 100, 3, 3, 184, 0, 157, 182, 0, 161, 172]
abbrev dktX6_isUsed_0 : List UInt8 := dkwX6_isUsed_0 ++ []
theorem dksX6_isUsed_0 : cX6_isUsed.data.toList.drop 0 = dktX6_isUsed_0 := by decide +kernel
theorem dX6_isUsed_0 : decode cX6_isUsed 0 = .ok (.aload_n 0, 1) := dk_42 (dk_at dksX6_isUsed_0 0 rfl rfl)
theorem dX6_isUsed_1 : decode cX6_isUsed 1 = .ok (.bipush 117, 2) := dk_16 117 (dk_at dksX6_isUsed_0 1 rfl rfl)
theorem dX6_isUsed_3 : decode cX6_isUsed 3 = .ok (.bipush 115, 2) := dk_16 115 (dk_at dksX6_isUsed_0 3 rfl rfl)
theorem dX6_isUsed_5 : decode cX6_isUsed 5 = .ok (.bipush 101, 2) := dk_16 101 (dk_at dksX6_isUsed_0 5 rfl rfl)
theorem dX6_isUsed_7 : decode cX6_isUsed 7 = .ok (.bipush 100, 2) := dk_16 100 (dk_at dksX6_isUsed_0 7 rfl rfl)
theorem dX6_isUsed_9 : decode cX6_isUsed 9 = .ok (.iconst 0, 1) := dk_3 (dk_at dksX6_isUsed_0 9 rfl rfl)
theorem dX6_isUsed_10 : decode cX6_isUsed 10 = .ok (.iconst 0, 1) := dk_3 (dk_at dksX6_isUsed_0 10 rfl rfl)
theorem dX6_isUsed_11 : decode cX6_isUsed 11 = .ok (.invokestatic 157, 3) := dk_184 0 157 (dk_at dksX6_isUsed_0 11 rfl rfl)
theorem dX6_isUsed_14 : decode cX6_isUsed 14 = .ok (.invokevirtual 161, 3) := dk_182 0 161 (dk_at dksX6_isUsed_0 14 rfl rfl)
theorem dX6_isUsed_17 : decode cX6_isUsed 17 = .ok (.ireturn, 1) := dk_172 (dk_at dksX6_isUsed_0 17 rfl rfl)
abbrev cX6_isClip : ByteArray := prog_16_method_34_code
def yX6_isClip : MethodName := ⟨RX6, "isClip", "()Z"⟩
def dkwX6_isClip_0 : List UInt8 := [42, 16, 99, 16, 108, 16, 105, 16, 112, 3, 3, 184, 0, 157, 182, 0, 161, 172]
abbrev dktX6_isClip_0 : List UInt8 := dkwX6_isClip_0 ++ []
theorem dksX6_isClip_0 : cX6_isClip.data.toList.drop 0 = dktX6_isClip_0 := by decide +kernel
theorem dX6_isClip_0 : decode cX6_isClip 0 = .ok (.aload_n 0, 1) := dk_42 (dk_at dksX6_isClip_0 0 rfl rfl)
theorem dX6_isClip_1 : decode cX6_isClip 1 = .ok (.bipush 99, 2) := dk_16 99 (dk_at dksX6_isClip_0 1 rfl rfl)
theorem dX6_isClip_3 : decode cX6_isClip 3 = .ok (.bipush 108, 2) := dk_16 108 (dk_at dksX6_isClip_0 3 rfl rfl)
theorem dX6_isClip_5 : decode cX6_isClip 5 = .ok (.bipush 105, 2) := dk_16 105 (dk_at dksX6_isClip_0 5 rfl rfl)
theorem dX6_isClip_7 : decode cX6_isClip 7 = .ok (.bipush 112, 2) := dk_16 112 (dk_at dksX6_isClip_0 7 rfl rfl)
theorem dX6_isClip_9 : decode cX6_isClip 9 = .ok (.iconst 0, 1) := dk_3 (dk_at dksX6_isClip_0 9 rfl rfl)
theorem dX6_isClip_10 : decode cX6_isClip 10 = .ok (.iconst 0, 1) := dk_3 (dk_at dksX6_isClip_0 10 rfl rfl)
theorem dX6_isClip_11 : decode cX6_isClip 11 = .ok (.invokestatic 157, 3) := dk_184 0 157 (dk_at dksX6_isClip_0 11 rfl rfl)
theorem dX6_isClip_14 : decode cX6_isClip 14 = .ok (.invokevirtual 161, 3) := dk_182 0 161 (dk_at dksX6_isClip_0 14 rfl rfl)
theorem dX6_isClip_17 : decode cX6_isClip 17 = .ok (.ireturn, 1) := dk_172 (dk_at dksX6_isClip_0 17 rfl rfl)
abbrev cX6_isCross : ByteArray := prog_16_method_35_code
def yX6_isCross : MethodName := ⟨RX6, "isCross", "()Z"⟩
def dkwX6_isCross_0 : List UInt8 := [42, 16, 99, 16, 114, 16, 111, 16, 115, 16, 115, 3, 184, 0, 157, 182, 0, 161, 172]
abbrev dktX6_isCross_0 : List UInt8 := dkwX6_isCross_0 ++ []
theorem dksX6_isCross_0 : cX6_isCross.data.toList.drop 0 = dktX6_isCross_0 := by decide +kernel
theorem dX6_isCross_0 : decode cX6_isCross 0 = .ok (.aload_n 0, 1) := dk_42 (dk_at dksX6_isCross_0 0 rfl rfl)
theorem dX6_isCross_1 : decode cX6_isCross 1 = .ok (.bipush 99, 2) := dk_16 99 (dk_at dksX6_isCross_0 1 rfl rfl)
theorem dX6_isCross_3 : decode cX6_isCross 3 = .ok (.bipush 114, 2) := dk_16 114 (dk_at dksX6_isCross_0 3 rfl rfl)
theorem dX6_isCross_5 : decode cX6_isCross 5 = .ok (.bipush 111, 2) := dk_16 111 (dk_at dksX6_isCross_0 5 rfl rfl)
theorem dX6_isCross_7 : decode cX6_isCross 7 = .ok (.bipush 115, 2) := dk_16 115 (dk_at dksX6_isCross_0 7 rfl rfl)
theorem dX6_isCross_9 : decode cX6_isCross 9 = .ok (.bipush 115, 2) := dk_16 115 (dk_at dksX6_isCross_0 9 rfl rfl)
theorem dX6_isCross_11 : decode cX6_isCross 11 = .ok (.iconst 0, 1) := dk_3 (dk_at dksX6_isCross_0 11 rfl rfl)
theorem dX6_isCross_12 : decode cX6_isCross 12 = .ok (.invokestatic 157, 3) := dk_184 0 157 (dk_at dksX6_isCross_0 12 rfl rfl)
theorem dX6_isCross_15 : decode cX6_isCross 15 = .ok (.invokevirtual 161, 3) := dk_182 0 161 (dk_at dksX6_isCross_0 15 rfl rfl)
theorem dX6_isCross_18 : decode cX6_isCross 18 = .ok (.ireturn, 1) := dk_172 (dk_at dksX6_isCross_0 18 rfl rfl)
abbrev cX6_isLook : ByteArray := prog_16_method_36_code
def yX6_isLook : MethodName := ⟨RX6, "isLook", "()Z"⟩
def dkwX6_isLook_0 : List UInt8 := [42, 16, 108, 16, 111, 16, 111, 16, 107, 3, 3, 184, 0, 157, 182, 0, 161, 172]
abbrev dktX6_isLook_0 : List UInt8 := dkwX6_isLook_0 ++ []
theorem dksX6_isLook_0 : cX6_isLook.data.toList.drop 0 = dktX6_isLook_0 := by decide +kernel
theorem dX6_isLook_0 : decode cX6_isLook 0 = .ok (.aload_n 0, 1) := dk_42 (dk_at dksX6_isLook_0 0 rfl rfl)
theorem dX6_isLook_1 : decode cX6_isLook 1 = .ok (.bipush 108, 2) := dk_16 108 (dk_at dksX6_isLook_0 1 rfl rfl)
theorem dX6_isLook_3 : decode cX6_isLook 3 = .ok (.bipush 111, 2) := dk_16 111 (dk_at dksX6_isLook_0 3 rfl rfl)
theorem dX6_isLook_5 : decode cX6_isLook 5 = .ok (.bipush 111, 2) := dk_16 111 (dk_at dksX6_isLook_0 5 rfl rfl)
theorem dX6_isLook_7 : decode cX6_isLook 7 = .ok (.bipush 107, 2) := dk_16 107 (dk_at dksX6_isLook_0 7 rfl rfl)
theorem dX6_isLook_9 : decode cX6_isLook 9 = .ok (.iconst 0, 1) := dk_3 (dk_at dksX6_isLook_0 9 rfl rfl)
theorem dX6_isLook_10 : decode cX6_isLook 10 = .ok (.iconst 0, 1) := dk_3 (dk_at dksX6_isLook_0 10 rfl rfl)
theorem dX6_isLook_11 : decode cX6_isLook 11 = .ok (.invokestatic 157, 3) := dk_184 0 157 (dk_at dksX6_isLook_0 11 rfl rfl)
theorem dX6_isLook_14 : decode cX6_isLook 14 = .ok (.invokevirtual 161, 3) := dk_182 0 161 (dk_at dksX6_isLook_0 14 rfl rfl)
theorem dX6_isLook_17 : decode cX6_isLook 17 = .ok (.ireturn, 1) := dk_172 (dk_at dksX6_isLook_0 17 rfl rfl)
abbrev cX6_isFrom : ByteArray := prog_16_method_37_code
def yX6_isFrom : MethodName := ⟨RX6, "isFrom", "()Z"⟩
def dkwX6_isFrom_0 : List UInt8 := [42, 16, 102, 16, 114, 16, 111, 16, 109, 3, 3, 184, 0, 157, 182, 0, 161, 172]
abbrev dktX6_isFrom_0 : List UInt8 := dkwX6_isFrom_0 ++ []
theorem dksX6_isFrom_0 : cX6_isFrom.data.toList.drop 0 = dktX6_isFrom_0 := by decide +kernel
theorem dX6_isFrom_0 : decode cX6_isFrom 0 = .ok (.aload_n 0, 1) := dk_42 (dk_at dksX6_isFrom_0 0 rfl rfl)
theorem dX6_isFrom_1 : decode cX6_isFrom 1 = .ok (.bipush 102, 2) := dk_16 102 (dk_at dksX6_isFrom_0 1 rfl rfl)
theorem dX6_isFrom_3 : decode cX6_isFrom 3 = .ok (.bipush 114, 2) := dk_16 114 (dk_at dksX6_isFrom_0 3 rfl rfl)
theorem dX6_isFrom_5 : decode cX6_isFrom 5 = .ok (.bipush 111, 2) := dk_16 111 (dk_at dksX6_isFrom_0 5 rfl rfl)
theorem dX6_isFrom_7 : decode cX6_isFrom 7 = .ok (.bipush 109, 2) := dk_16 109 (dk_at dksX6_isFrom_0 7 rfl rfl)
theorem dX6_isFrom_9 : decode cX6_isFrom 9 = .ok (.iconst 0, 1) := dk_3 (dk_at dksX6_isFrom_0 9 rfl rfl)
theorem dX6_isFrom_10 : decode cX6_isFrom 10 = .ok (.iconst 0, 1) := dk_3 (dk_at dksX6_isFrom_0 10 rfl rfl)
theorem dX6_isFrom_11 : decode cX6_isFrom 11 = .ok (.invokestatic 157, 3) := dk_184 0 157 (dk_at dksX6_isFrom_0 11 rfl rfl)
theorem dX6_isFrom_14 : decode cX6_isFrom 14 = .ok (.invokevirtual 161, 3) := dk_182 0 161 (dk_at dksX6_isFrom_0 14 rfl rfl)
theorem dX6_isFrom_17 : decode cX6_isFrom 17 = .ok (.ireturn, 1) := dk_172 (dk_at dksX6_isFrom_0 17 rfl rfl)
abbrev cX6_stateWord : ByteArray := prog_16_method_38_code
def yX6_stateWord : MethodName := ⟨RX6, "stateWord", "()I"⟩
def dkwX6_stateWord_3 : List UInt8 := [16, 116, 3, 3, 184, 0, 157, 182, 0, 161, 153, 0, 7, 6, 167, 0, 4, 3, 172]
abbrev dktX6_stateWord_3 : List UInt8 := dkwX6_stateWord_3 ++ []
def dkwX6_stateWord_2 : List UInt8 := [16, 104, 16, 116, 3, 184, 0, 157, 182, 0, 161, 153, 0, 5, 5, 172, 42, 16, 107, 16, 110, 16, 111]
abbrev dktX6_stateWord_2 : List UInt8 := dkwX6_stateWord_2 ++ dktX6_stateWord_3
def dkwX6_stateWord_1 : List UInt8 := [20, 0, 141, 105, 20, 0, 167, 97, 182, 0, 161, 153, 0, 5, 4, 172, 42, 16, 116, 16, 105, 16, 103]
abbrev dktX6_stateWord_1 : List UInt8 := dkwX6_stateWord_1 ++ dktX6_stateWord_2
def dkwX6_stateWord_0 : List UInt8 := [42, 16, 116, 16, 104, 16, 114, 16, 101, 16, 97, 16, 100, 184, 0, 157, 20, 0, 141, 105, 20, 0, 165, 97]
abbrev dktX6_stateWord_0 : List UInt8 := dkwX6_stateWord_0 ++ dktX6_stateWord_1
theorem dksX6_stateWord_0 : cX6_stateWord.data.toList.drop 0 = dktX6_stateWord_0 := by decide +kernel
theorem dksX6_stateWord_1 : cX6_stateWord.data.toList.drop 24 = dktX6_stateWord_1 := dk_seg dksX6_stateWord_0 24 rfl rfl
theorem dksX6_stateWord_2 : cX6_stateWord.data.toList.drop 47 = dktX6_stateWord_2 := dk_seg dksX6_stateWord_1 23 rfl rfl
theorem dksX6_stateWord_3 : cX6_stateWord.data.toList.drop 70 = dktX6_stateWord_3 := dk_seg dksX6_stateWord_2 23 rfl rfl
theorem dX6_stateWord_0 : decode cX6_stateWord 0 = .ok (.aload_n 0, 1) := dk_42 (dk_at dksX6_stateWord_0 0 rfl rfl)
theorem dX6_stateWord_1 : decode cX6_stateWord 1 = .ok (.bipush 116, 2) := dk_16 116 (dk_at dksX6_stateWord_0 1 rfl rfl)
theorem dX6_stateWord_3 : decode cX6_stateWord 3 = .ok (.bipush 104, 2) := dk_16 104 (dk_at dksX6_stateWord_0 3 rfl rfl)
theorem dX6_stateWord_5 : decode cX6_stateWord 5 = .ok (.bipush 114, 2) := dk_16 114 (dk_at dksX6_stateWord_0 5 rfl rfl)
theorem dX6_stateWord_7 : decode cX6_stateWord 7 = .ok (.bipush 101, 2) := dk_16 101 (dk_at dksX6_stateWord_0 7 rfl rfl)
theorem dX6_stateWord_9 : decode cX6_stateWord 9 = .ok (.bipush 97, 2) := dk_16 97 (dk_at dksX6_stateWord_0 9 rfl rfl)
theorem dX6_stateWord_11 : decode cX6_stateWord 11 = .ok (.bipush 100, 2) := dk_16 100 (dk_at dksX6_stateWord_0 11 rfl rfl)
theorem dX6_stateWord_13 : decode cX6_stateWord 13 = .ok (.invokestatic 157, 3) := dk_184 0 157 (dk_at dksX6_stateWord_0 13 rfl rfl)
theorem dX6_stateWord_16 : decode cX6_stateWord 16 = .ok (.ldc2_w 141, 3) := dk_20 0 141 (dk_at dksX6_stateWord_0 16 rfl rfl)
theorem dX6_stateWord_19 : decode cX6_stateWord 19 = .ok (.lmul, 1) := dk_105 (dk_at dksX6_stateWord_0 19 rfl rfl)
theorem dX6_stateWord_20 : decode cX6_stateWord 20 = .ok (.ldc2_w 165, 3) := dk_20 0 165 (dk_at dksX6_stateWord_0 20 rfl rfl)
theorem dX6_stateWord_23 : decode cX6_stateWord 23 = .ok (.ladd, 1) := dk_97 (dk_at dksX6_stateWord_0 23 rfl rfl)
theorem dX6_stateWord_24 : decode cX6_stateWord 24 = .ok (.ldc2_w 141, 3) := dk_20 0 141 (dk_at dksX6_stateWord_1 0 rfl rfl)
theorem dX6_stateWord_27 : decode cX6_stateWord 27 = .ok (.lmul, 1) := dk_105 (dk_at dksX6_stateWord_1 3 rfl rfl)
theorem dX6_stateWord_28 : decode cX6_stateWord 28 = .ok (.ldc2_w 167, 3) := dk_20 0 167 (dk_at dksX6_stateWord_1 4 rfl rfl)
theorem dX6_stateWord_31 : decode cX6_stateWord 31 = .ok (.ladd, 1) := dk_97 (dk_at dksX6_stateWord_1 7 rfl rfl)
theorem dX6_stateWord_32 : decode cX6_stateWord 32 = .ok (.invokevirtual 161, 3) := dk_182 0 161 (dk_at dksX6_stateWord_1 8 rfl rfl)
theorem dX6_stateWord_35 : decode cX6_stateWord 35 = .ok (.ifCond .eq 5, 3) := dk_153 0 5 (dk_at dksX6_stateWord_1 11 rfl rfl)
theorem dX6_stateWord_38 : decode cX6_stateWord 38 = .ok (.iconst 1, 1) := dk_4 (dk_at dksX6_stateWord_1 14 rfl rfl)
theorem dX6_stateWord_39 : decode cX6_stateWord 39 = .ok (.ireturn, 1) := dk_172 (dk_at dksX6_stateWord_1 15 rfl rfl)
theorem dX6_stateWord_40 : decode cX6_stateWord 40 = .ok (.aload_n 0, 1) := dk_42 (dk_at dksX6_stateWord_1 16 rfl rfl)
theorem dX6_stateWord_41 : decode cX6_stateWord 41 = .ok (.bipush 116, 2) := dk_16 116 (dk_at dksX6_stateWord_1 17 rfl rfl)
theorem dX6_stateWord_43 : decode cX6_stateWord 43 = .ok (.bipush 105, 2) := dk_16 105 (dk_at dksX6_stateWord_1 19 rfl rfl)
theorem dX6_stateWord_45 : decode cX6_stateWord 45 = .ok (.bipush 103, 2) := dk_16 103 (dk_at dksX6_stateWord_1 21 rfl rfl)
theorem dX6_stateWord_47 : decode cX6_stateWord 47 = .ok (.bipush 104, 2) := dk_16 104 (dk_at dksX6_stateWord_2 0 rfl rfl)
theorem dX6_stateWord_49 : decode cX6_stateWord 49 = .ok (.bipush 116, 2) := dk_16 116 (dk_at dksX6_stateWord_2 2 rfl rfl)
theorem dX6_stateWord_51 : decode cX6_stateWord 51 = .ok (.iconst 0, 1) := dk_3 (dk_at dksX6_stateWord_2 4 rfl rfl)
theorem dX6_stateWord_52 : decode cX6_stateWord 52 = .ok (.invokestatic 157, 3) := dk_184 0 157 (dk_at dksX6_stateWord_2 5 rfl rfl)
theorem dX6_stateWord_55 : decode cX6_stateWord 55 = .ok (.invokevirtual 161, 3) := dk_182 0 161 (dk_at dksX6_stateWord_2 8 rfl rfl)
theorem dX6_stateWord_58 : decode cX6_stateWord 58 = .ok (.ifCond .eq 5, 3) := dk_153 0 5 (dk_at dksX6_stateWord_2 11 rfl rfl)
theorem dX6_stateWord_61 : decode cX6_stateWord 61 = .ok (.iconst 2, 1) := dk_5 (dk_at dksX6_stateWord_2 14 rfl rfl)
theorem dX6_stateWord_62 : decode cX6_stateWord 62 = .ok (.ireturn, 1) := dk_172 (dk_at dksX6_stateWord_2 15 rfl rfl)
theorem dX6_stateWord_63 : decode cX6_stateWord 63 = .ok (.aload_n 0, 1) := dk_42 (dk_at dksX6_stateWord_2 16 rfl rfl)
theorem dX6_stateWord_64 : decode cX6_stateWord 64 = .ok (.bipush 107, 2) := dk_16 107 (dk_at dksX6_stateWord_2 17 rfl rfl)
theorem dX6_stateWord_66 : decode cX6_stateWord 66 = .ok (.bipush 110, 2) := dk_16 110 (dk_at dksX6_stateWord_2 19 rfl rfl)
theorem dX6_stateWord_68 : decode cX6_stateWord 68 = .ok (.bipush 111, 2) := dk_16 111 (dk_at dksX6_stateWord_2 21 rfl rfl)
theorem dX6_stateWord_70 : decode cX6_stateWord 70 = .ok (.bipush 116, 2) := dk_16 116 (dk_at dksX6_stateWord_3 0 rfl rfl)
theorem dX6_stateWord_72 : decode cX6_stateWord 72 = .ok (.iconst 0, 1) := dk_3 (dk_at dksX6_stateWord_3 2 rfl rfl)
theorem dX6_stateWord_73 : decode cX6_stateWord 73 = .ok (.iconst 0, 1) := dk_3 (dk_at dksX6_stateWord_3 3 rfl rfl)
theorem dX6_stateWord_74 : decode cX6_stateWord 74 = .ok (.invokestatic 157, 3) := dk_184 0 157 (dk_at dksX6_stateWord_3 4 rfl rfl)
theorem dX6_stateWord_77 : decode cX6_stateWord 77 = .ok (.invokevirtual 161, 3) := dk_182 0 161 (dk_at dksX6_stateWord_3 7 rfl rfl)
theorem dX6_stateWord_80 : decode cX6_stateWord 80 = .ok (.ifCond .eq 7, 3) := dk_153 0 7 (dk_at dksX6_stateWord_3 10 rfl rfl)
theorem dX6_stateWord_83 : decode cX6_stateWord 83 = .ok (.iconst 3, 1) := dk_6 (dk_at dksX6_stateWord_3 13 rfl rfl)
theorem dX6_stateWord_84 : decode cX6_stateWord 84 = .ok (.goto 4, 3) := dk_167 0 4 (dk_at dksX6_stateWord_3 14 rfl rfl)
theorem dX6_stateWord_87 : decode cX6_stateWord 87 = .ok (.iconst 0, 1) := dk_3 (dk_at dksX6_stateWord_3 17 rfl rfl)
theorem dX6_stateWord_88 : decode cX6_stateWord 88 = .ok (.ireturn, 1) := dk_172 (dk_at dksX6_stateWord_3 18 rfl rfl)
abbrev cX6_stepWord : ByteArray := prog_16_method_39_code
def yX6_stepWord : MethodName := ⟨RX6, "stepWord", "()I"⟩
def dkwX6_stepWord_8 : List UInt8 := [2, 172]
abbrev dktX6_stepWord_8 : List UInt8 := dkwX6_stepWord_8 ++ []
def dkwX6_stepWord_7 : List UInt8 := [16, 115, 16, 116, 16, 111, 16, 112, 3, 3, 184, 0, 157, 182, 0, 161, 153, 0, 8, 16, 8, 167, 0, 4]
abbrev dktX6_stepWord_7 : List UInt8 := dkwX6_stepWord_7 ++ dktX6_stepWord_8
def dkwX6_stepWord_6 : List UInt8 := [42, 16, 108, 16, 111, 16, 111, 16, 112, 3, 3, 184, 0, 157, 182, 0, 161, 153, 0, 6, 16, 7, 172, 42]
abbrev dktX6_stepWord_6 : List UInt8 := dkwX6_stepWord_6 ++ dktX6_stepWord_7
def dkwX6_stepWord_5 : List UInt8 := [172, 42, 16, 119, 16, 104, 16, 101, 16, 110, 3, 3, 184, 0, 157, 182, 0, 161, 153, 0, 6, 16, 6, 172]
abbrev dktX6_stepWord_5 : List UInt8 := dkwX6_stepWord_5 ++ dktX6_stepWord_6
def dkwX6_stepWord_4 : List UInt8 := [16, 116, 3, 3, 3, 184, 0, 157, 182, 0, 161, 153, 0, 5, 7, 172, 42, 182, 0, 169, 153, 0, 5, 8]
abbrev dktX6_stepWord_4 : List UInt8 := dkwX6_stepWord_4 ++ dktX6_stepWord_5
def dkwX6_stepWord_3 : List UInt8 := [16, 117, 16, 108, 16, 108, 3, 3, 184, 0, 157, 182, 0, 161, 153, 0, 5, 6, 172, 42, 16, 99, 16, 117]
abbrev dktX6_stepWord_3 : List UInt8 := dkwX6_stepWord_3 ++ dktX6_stepWord_4
def dkwX6_stepWord_2 : List UInt8 := [16, 111, 16, 111, 16, 115, 16, 101, 16, 110, 184, 0, 157, 182, 0, 161, 153, 0, 5, 5, 172, 42, 16, 112]
abbrev dktX6_stepWord_2 : List UInt8 := dkwX6_stepWord_2 ++ dktX6_stepWord_3
def dkwX6_stepWord_1 : List UInt8 := [16, 116, 16, 97, 16, 107, 16, 101, 3, 3, 184, 0, 157, 182, 0, 161, 153, 0, 5, 4, 172, 42, 16, 108]
abbrev dktX6_stepWord_1 : List UInt8 := dkwX6_stepWord_1 ++ dktX6_stepWord_2
def dkwX6_stepWord_0 : List UInt8 := [42, 16, 111, 16, 112, 16, 101, 16, 110, 3, 3, 184, 0, 157, 182, 0, 161, 153, 0, 5, 3, 172, 42]
abbrev dktX6_stepWord_0 : List UInt8 := dkwX6_stepWord_0 ++ dktX6_stepWord_1
theorem dksX6_stepWord_0 : cX6_stepWord.data.toList.drop 0 = dktX6_stepWord_0 := by decide +kernel
theorem dksX6_stepWord_1 : cX6_stepWord.data.toList.drop 23 = dktX6_stepWord_1 := dk_seg dksX6_stepWord_0 23 rfl rfl
theorem dksX6_stepWord_2 : cX6_stepWord.data.toList.drop 47 = dktX6_stepWord_2 := dk_seg dksX6_stepWord_1 24 rfl rfl
theorem dksX6_stepWord_3 : cX6_stepWord.data.toList.drop 71 = dktX6_stepWord_3 := dk_seg dksX6_stepWord_2 24 rfl rfl
theorem dksX6_stepWord_4 : cX6_stepWord.data.toList.drop 95 = dktX6_stepWord_4 := dk_seg dksX6_stepWord_3 24 rfl rfl
theorem dksX6_stepWord_5 : cX6_stepWord.data.toList.drop 119 = dktX6_stepWord_5 := dk_seg dksX6_stepWord_4 24 rfl rfl
theorem dksX6_stepWord_6 : cX6_stepWord.data.toList.drop 143 = dktX6_stepWord_6 := dk_seg dksX6_stepWord_5 24 rfl rfl
theorem dksX6_stepWord_7 : cX6_stepWord.data.toList.drop 167 = dktX6_stepWord_7 := dk_seg dksX6_stepWord_6 24 rfl rfl
theorem dksX6_stepWord_8 : cX6_stepWord.data.toList.drop 191 = dktX6_stepWord_8 := dk_seg dksX6_stepWord_7 24 rfl rfl
theorem dX6_stepWord_0 : decode cX6_stepWord 0 = .ok (.aload_n 0, 1) := dk_42 (dk_at dksX6_stepWord_0 0 rfl rfl)
theorem dX6_stepWord_1 : decode cX6_stepWord 1 = .ok (.bipush 111, 2) := dk_16 111 (dk_at dksX6_stepWord_0 1 rfl rfl)
theorem dX6_stepWord_3 : decode cX6_stepWord 3 = .ok (.bipush 112, 2) := dk_16 112 (dk_at dksX6_stepWord_0 3 rfl rfl)
theorem dX6_stepWord_5 : decode cX6_stepWord 5 = .ok (.bipush 101, 2) := dk_16 101 (dk_at dksX6_stepWord_0 5 rfl rfl)
theorem dX6_stepWord_7 : decode cX6_stepWord 7 = .ok (.bipush 110, 2) := dk_16 110 (dk_at dksX6_stepWord_0 7 rfl rfl)
theorem dX6_stepWord_9 : decode cX6_stepWord 9 = .ok (.iconst 0, 1) := dk_3 (dk_at dksX6_stepWord_0 9 rfl rfl)
theorem dX6_stepWord_10 : decode cX6_stepWord 10 = .ok (.iconst 0, 1) := dk_3 (dk_at dksX6_stepWord_0 10 rfl rfl)
theorem dX6_stepWord_11 : decode cX6_stepWord 11 = .ok (.invokestatic 157, 3) := dk_184 0 157 (dk_at dksX6_stepWord_0 11 rfl rfl)
theorem dX6_stepWord_14 : decode cX6_stepWord 14 = .ok (.invokevirtual 161, 3) := dk_182 0 161 (dk_at dksX6_stepWord_0 14 rfl rfl)
theorem dX6_stepWord_17 : decode cX6_stepWord 17 = .ok (.ifCond .eq 5, 3) := dk_153 0 5 (dk_at dksX6_stepWord_0 17 rfl rfl)
theorem dX6_stepWord_20 : decode cX6_stepWord 20 = .ok (.iconst 0, 1) := dk_3 (dk_at dksX6_stepWord_0 20 rfl rfl)
theorem dX6_stepWord_21 : decode cX6_stepWord 21 = .ok (.ireturn, 1) := dk_172 (dk_at dksX6_stepWord_0 21 rfl rfl)
theorem dX6_stepWord_22 : decode cX6_stepWord 22 = .ok (.aload_n 0, 1) := dk_42 (dk_at dksX6_stepWord_0 22 rfl rfl)
theorem dX6_stepWord_23 : decode cX6_stepWord 23 = .ok (.bipush 116, 2) := dk_16 116 (dk_at dksX6_stepWord_1 0 rfl rfl)
theorem dX6_stepWord_25 : decode cX6_stepWord 25 = .ok (.bipush 97, 2) := dk_16 97 (dk_at dksX6_stepWord_1 2 rfl rfl)
theorem dX6_stepWord_27 : decode cX6_stepWord 27 = .ok (.bipush 107, 2) := dk_16 107 (dk_at dksX6_stepWord_1 4 rfl rfl)
theorem dX6_stepWord_29 : decode cX6_stepWord 29 = .ok (.bipush 101, 2) := dk_16 101 (dk_at dksX6_stepWord_1 6 rfl rfl)
theorem dX6_stepWord_31 : decode cX6_stepWord 31 = .ok (.iconst 0, 1) := dk_3 (dk_at dksX6_stepWord_1 8 rfl rfl)
theorem dX6_stepWord_32 : decode cX6_stepWord 32 = .ok (.iconst 0, 1) := dk_3 (dk_at dksX6_stepWord_1 9 rfl rfl)
theorem dX6_stepWord_33 : decode cX6_stepWord 33 = .ok (.invokestatic 157, 3) := dk_184 0 157 (dk_at dksX6_stepWord_1 10 rfl rfl)
theorem dX6_stepWord_36 : decode cX6_stepWord 36 = .ok (.invokevirtual 161, 3) := dk_182 0 161 (dk_at dksX6_stepWord_1 13 rfl rfl)
theorem dX6_stepWord_39 : decode cX6_stepWord 39 = .ok (.ifCond .eq 5, 3) := dk_153 0 5 (dk_at dksX6_stepWord_1 16 rfl rfl)
theorem dX6_stepWord_42 : decode cX6_stepWord 42 = .ok (.iconst 1, 1) := dk_4 (dk_at dksX6_stepWord_1 19 rfl rfl)
theorem dX6_stepWord_43 : decode cX6_stepWord 43 = .ok (.ireturn, 1) := dk_172 (dk_at dksX6_stepWord_1 20 rfl rfl)
theorem dX6_stepWord_44 : decode cX6_stepWord 44 = .ok (.aload_n 0, 1) := dk_42 (dk_at dksX6_stepWord_1 21 rfl rfl)
theorem dX6_stepWord_45 : decode cX6_stepWord 45 = .ok (.bipush 108, 2) := dk_16 108 (dk_at dksX6_stepWord_1 22 rfl rfl)
theorem dX6_stepWord_47 : decode cX6_stepWord 47 = .ok (.bipush 111, 2) := dk_16 111 (dk_at dksX6_stepWord_2 0 rfl rfl)
theorem dX6_stepWord_49 : decode cX6_stepWord 49 = .ok (.bipush 111, 2) := dk_16 111 (dk_at dksX6_stepWord_2 2 rfl rfl)
theorem dX6_stepWord_51 : decode cX6_stepWord 51 = .ok (.bipush 115, 2) := dk_16 115 (dk_at dksX6_stepWord_2 4 rfl rfl)
theorem dX6_stepWord_53 : decode cX6_stepWord 53 = .ok (.bipush 101, 2) := dk_16 101 (dk_at dksX6_stepWord_2 6 rfl rfl)
theorem dX6_stepWord_55 : decode cX6_stepWord 55 = .ok (.bipush 110, 2) := dk_16 110 (dk_at dksX6_stepWord_2 8 rfl rfl)
theorem dX6_stepWord_57 : decode cX6_stepWord 57 = .ok (.invokestatic 157, 3) := dk_184 0 157 (dk_at dksX6_stepWord_2 10 rfl rfl)
theorem dX6_stepWord_60 : decode cX6_stepWord 60 = .ok (.invokevirtual 161, 3) := dk_182 0 161 (dk_at dksX6_stepWord_2 13 rfl rfl)
theorem dX6_stepWord_63 : decode cX6_stepWord 63 = .ok (.ifCond .eq 5, 3) := dk_153 0 5 (dk_at dksX6_stepWord_2 16 rfl rfl)
theorem dX6_stepWord_66 : decode cX6_stepWord 66 = .ok (.iconst 2, 1) := dk_5 (dk_at dksX6_stepWord_2 19 rfl rfl)
theorem dX6_stepWord_67 : decode cX6_stepWord 67 = .ok (.ireturn, 1) := dk_172 (dk_at dksX6_stepWord_2 20 rfl rfl)
theorem dX6_stepWord_68 : decode cX6_stepWord 68 = .ok (.aload_n 0, 1) := dk_42 (dk_at dksX6_stepWord_2 21 rfl rfl)
theorem dX6_stepWord_69 : decode cX6_stepWord 69 = .ok (.bipush 112, 2) := dk_16 112 (dk_at dksX6_stepWord_2 22 rfl rfl)
theorem dX6_stepWord_71 : decode cX6_stepWord 71 = .ok (.bipush 117, 2) := dk_16 117 (dk_at dksX6_stepWord_3 0 rfl rfl)
theorem dX6_stepWord_73 : decode cX6_stepWord 73 = .ok (.bipush 108, 2) := dk_16 108 (dk_at dksX6_stepWord_3 2 rfl rfl)
theorem dX6_stepWord_75 : decode cX6_stepWord 75 = .ok (.bipush 108, 2) := dk_16 108 (dk_at dksX6_stepWord_3 4 rfl rfl)
theorem dX6_stepWord_77 : decode cX6_stepWord 77 = .ok (.iconst 0, 1) := dk_3 (dk_at dksX6_stepWord_3 6 rfl rfl)
theorem dX6_stepWord_78 : decode cX6_stepWord 78 = .ok (.iconst 0, 1) := dk_3 (dk_at dksX6_stepWord_3 7 rfl rfl)
theorem dX6_stepWord_79 : decode cX6_stepWord 79 = .ok (.invokestatic 157, 3) := dk_184 0 157 (dk_at dksX6_stepWord_3 8 rfl rfl)
theorem dX6_stepWord_82 : decode cX6_stepWord 82 = .ok (.invokevirtual 161, 3) := dk_182 0 161 (dk_at dksX6_stepWord_3 11 rfl rfl)
theorem dX6_stepWord_85 : decode cX6_stepWord 85 = .ok (.ifCond .eq 5, 3) := dk_153 0 5 (dk_at dksX6_stepWord_3 14 rfl rfl)
theorem dX6_stepWord_88 : decode cX6_stepWord 88 = .ok (.iconst 3, 1) := dk_6 (dk_at dksX6_stepWord_3 17 rfl rfl)
theorem dX6_stepWord_89 : decode cX6_stepWord 89 = .ok (.ireturn, 1) := dk_172 (dk_at dksX6_stepWord_3 18 rfl rfl)
theorem dX6_stepWord_90 : decode cX6_stepWord 90 = .ok (.aload_n 0, 1) := dk_42 (dk_at dksX6_stepWord_3 19 rfl rfl)
theorem dX6_stepWord_91 : decode cX6_stepWord 91 = .ok (.bipush 99, 2) := dk_16 99 (dk_at dksX6_stepWord_3 20 rfl rfl)
theorem dX6_stepWord_93 : decode cX6_stepWord 93 = .ok (.bipush 117, 2) := dk_16 117 (dk_at dksX6_stepWord_3 22 rfl rfl)
theorem dX6_stepWord_95 : decode cX6_stepWord 95 = .ok (.bipush 116, 2) := dk_16 116 (dk_at dksX6_stepWord_4 0 rfl rfl)
theorem dX6_stepWord_97 : decode cX6_stepWord 97 = .ok (.iconst 0, 1) := dk_3 (dk_at dksX6_stepWord_4 2 rfl rfl)
theorem dX6_stepWord_98 : decode cX6_stepWord 98 = .ok (.iconst 0, 1) := dk_3 (dk_at dksX6_stepWord_4 3 rfl rfl)
theorem dX6_stepWord_99 : decode cX6_stepWord 99 = .ok (.iconst 0, 1) := dk_3 (dk_at dksX6_stepWord_4 4 rfl rfl)
theorem dX6_stepWord_100 : decode cX6_stepWord 100 = .ok (.invokestatic 157, 3) := dk_184 0 157 (dk_at dksX6_stepWord_4 5 rfl rfl)
theorem dX6_stepWord_103 : decode cX6_stepWord 103 = .ok (.invokevirtual 161, 3) := dk_182 0 161 (dk_at dksX6_stepWord_4 8 rfl rfl)
theorem dX6_stepWord_106 : decode cX6_stepWord 106 = .ok (.ifCond .eq 5, 3) := dk_153 0 5 (dk_at dksX6_stepWord_4 11 rfl rfl)
theorem dX6_stepWord_109 : decode cX6_stepWord 109 = .ok (.iconst 4, 1) := dk_7 (dk_at dksX6_stepWord_4 14 rfl rfl)
theorem dX6_stepWord_110 : decode cX6_stepWord 110 = .ok (.ireturn, 1) := dk_172 (dk_at dksX6_stepWord_4 15 rfl rfl)
theorem dX6_stepWord_111 : decode cX6_stepWord 111 = .ok (.aload_n 0, 1) := dk_42 (dk_at dksX6_stepWord_4 16 rfl rfl)
theorem dX6_stepWord_112 : decode cX6_stepWord 112 = .ok (.invokevirtual 169, 3) := dk_182 0 169 (dk_at dksX6_stepWord_4 17 rfl rfl)
theorem dX6_stepWord_115 : decode cX6_stepWord 115 = .ok (.ifCond .eq 5, 3) := dk_153 0 5 (dk_at dksX6_stepWord_4 20 rfl rfl)
theorem dX6_stepWord_118 : decode cX6_stepWord 118 = .ok (.iconst 5, 1) := dk_8 (dk_at dksX6_stepWord_4 23 rfl rfl)
theorem dX6_stepWord_119 : decode cX6_stepWord 119 = .ok (.ireturn, 1) := dk_172 (dk_at dksX6_stepWord_5 0 rfl rfl)
theorem dX6_stepWord_120 : decode cX6_stepWord 120 = .ok (.aload_n 0, 1) := dk_42 (dk_at dksX6_stepWord_5 1 rfl rfl)
theorem dX6_stepWord_121 : decode cX6_stepWord 121 = .ok (.bipush 119, 2) := dk_16 119 (dk_at dksX6_stepWord_5 2 rfl rfl)
theorem dX6_stepWord_123 : decode cX6_stepWord 123 = .ok (.bipush 104, 2) := dk_16 104 (dk_at dksX6_stepWord_5 4 rfl rfl)
theorem dX6_stepWord_125 : decode cX6_stepWord 125 = .ok (.bipush 101, 2) := dk_16 101 (dk_at dksX6_stepWord_5 6 rfl rfl)
theorem dX6_stepWord_127 : decode cX6_stepWord 127 = .ok (.bipush 110, 2) := dk_16 110 (dk_at dksX6_stepWord_5 8 rfl rfl)
theorem dX6_stepWord_129 : decode cX6_stepWord 129 = .ok (.iconst 0, 1) := dk_3 (dk_at dksX6_stepWord_5 10 rfl rfl)
theorem dX6_stepWord_130 : decode cX6_stepWord 130 = .ok (.iconst 0, 1) := dk_3 (dk_at dksX6_stepWord_5 11 rfl rfl)
theorem dX6_stepWord_131 : decode cX6_stepWord 131 = .ok (.invokestatic 157, 3) := dk_184 0 157 (dk_at dksX6_stepWord_5 12 rfl rfl)
theorem dX6_stepWord_134 : decode cX6_stepWord 134 = .ok (.invokevirtual 161, 3) := dk_182 0 161 (dk_at dksX6_stepWord_5 15 rfl rfl)
theorem dX6_stepWord_137 : decode cX6_stepWord 137 = .ok (.ifCond .eq 6, 3) := dk_153 0 6 (dk_at dksX6_stepWord_5 18 rfl rfl)
theorem dX6_stepWord_140 : decode cX6_stepWord 140 = .ok (.bipush 6, 2) := dk_16 6 (dk_at dksX6_stepWord_5 21 rfl rfl)
theorem dX6_stepWord_142 : decode cX6_stepWord 142 = .ok (.ireturn, 1) := dk_172 (dk_at dksX6_stepWord_5 23 rfl rfl)
theorem dX6_stepWord_143 : decode cX6_stepWord 143 = .ok (.aload_n 0, 1) := dk_42 (dk_at dksX6_stepWord_6 0 rfl rfl)
theorem dX6_stepWord_144 : decode cX6_stepWord 144 = .ok (.bipush 108, 2) := dk_16 108 (dk_at dksX6_stepWord_6 1 rfl rfl)
theorem dX6_stepWord_146 : decode cX6_stepWord 146 = .ok (.bipush 111, 2) := dk_16 111 (dk_at dksX6_stepWord_6 3 rfl rfl)
theorem dX6_stepWord_148 : decode cX6_stepWord 148 = .ok (.bipush 111, 2) := dk_16 111 (dk_at dksX6_stepWord_6 5 rfl rfl)
theorem dX6_stepWord_150 : decode cX6_stepWord 150 = .ok (.bipush 112, 2) := dk_16 112 (dk_at dksX6_stepWord_6 7 rfl rfl)
theorem dX6_stepWord_152 : decode cX6_stepWord 152 = .ok (.iconst 0, 1) := dk_3 (dk_at dksX6_stepWord_6 9 rfl rfl)
theorem dX6_stepWord_153 : decode cX6_stepWord 153 = .ok (.iconst 0, 1) := dk_3 (dk_at dksX6_stepWord_6 10 rfl rfl)
theorem dX6_stepWord_154 : decode cX6_stepWord 154 = .ok (.invokestatic 157, 3) := dk_184 0 157 (dk_at dksX6_stepWord_6 11 rfl rfl)
theorem dX6_stepWord_157 : decode cX6_stepWord 157 = .ok (.invokevirtual 161, 3) := dk_182 0 161 (dk_at dksX6_stepWord_6 14 rfl rfl)
theorem dX6_stepWord_160 : decode cX6_stepWord 160 = .ok (.ifCond .eq 6, 3) := dk_153 0 6 (dk_at dksX6_stepWord_6 17 rfl rfl)
theorem dX6_stepWord_163 : decode cX6_stepWord 163 = .ok (.bipush 7, 2) := dk_16 7 (dk_at dksX6_stepWord_6 20 rfl rfl)
theorem dX6_stepWord_165 : decode cX6_stepWord 165 = .ok (.ireturn, 1) := dk_172 (dk_at dksX6_stepWord_6 22 rfl rfl)
theorem dX6_stepWord_166 : decode cX6_stepWord 166 = .ok (.aload_n 0, 1) := dk_42 (dk_at dksX6_stepWord_6 23 rfl rfl)
theorem dX6_stepWord_167 : decode cX6_stepWord 167 = .ok (.bipush 115, 2) := dk_16 115 (dk_at dksX6_stepWord_7 0 rfl rfl)
theorem dX6_stepWord_169 : decode cX6_stepWord 169 = .ok (.bipush 116, 2) := dk_16 116 (dk_at dksX6_stepWord_7 2 rfl rfl)
theorem dX6_stepWord_171 : decode cX6_stepWord 171 = .ok (.bipush 111, 2) := dk_16 111 (dk_at dksX6_stepWord_7 4 rfl rfl)
theorem dX6_stepWord_173 : decode cX6_stepWord 173 = .ok (.bipush 112, 2) := dk_16 112 (dk_at dksX6_stepWord_7 6 rfl rfl)
theorem dX6_stepWord_175 : decode cX6_stepWord 175 = .ok (.iconst 0, 1) := dk_3 (dk_at dksX6_stepWord_7 8 rfl rfl)
theorem dX6_stepWord_176 : decode cX6_stepWord 176 = .ok (.iconst 0, 1) := dk_3 (dk_at dksX6_stepWord_7 9 rfl rfl)
theorem dX6_stepWord_177 : decode cX6_stepWord 177 = .ok (.invokestatic 157, 3) := dk_184 0 157 (dk_at dksX6_stepWord_7 10 rfl rfl)
theorem dX6_stepWord_180 : decode cX6_stepWord 180 = .ok (.invokevirtual 161, 3) := dk_182 0 161 (dk_at dksX6_stepWord_7 13 rfl rfl)
theorem dX6_stepWord_183 : decode cX6_stepWord 183 = .ok (.ifCond .eq 8, 3) := dk_153 0 8 (dk_at dksX6_stepWord_7 16 rfl rfl)
theorem dX6_stepWord_186 : decode cX6_stepWord 186 = .ok (.bipush 8, 2) := dk_16 8 (dk_at dksX6_stepWord_7 19 rfl rfl)
theorem dX6_stepWord_188 : decode cX6_stepWord 188 = .ok (.goto 4, 3) := dk_167 0 4 (dk_at dksX6_stepWord_7 21 rfl rfl)
theorem dX6_stepWord_191 : decode cX6_stepWord 191 = .ok (.iconst (-1), 1) := dk_2 (dk_at dksX6_stepWord_8 0 rfl rfl)
theorem dX6_stepWord_192 : decode cX6_stepWord 192 = .ok (.ireturn, 1) := dk_172 (dk_at dksX6_stepWord_8 1 rfl rfl)
abbrev cX6_testWord : ByteArray := prog_16_method_40_code
def yX6_testWord : MethodName := ⟨RX6, "testWord", "()I"⟩
def dkwX6_testWord_2 : List UInt8 := [182, 0, 161, 153, 0, 7, 5, 167, 0, 4, 2, 172]
abbrev dktX6_testWord_2 : List UInt8 := dkwX6_testWord_2 ++ []
def dkwX6_testWord_1 : List UInt8 := [182, 0, 173, 153, 0, 5, 4, 172, 42, 16, 102, 16, 114, 16, 101, 16, 101, 3, 3, 184, 0, 157]
abbrev dktX6_testWord_1 : List UInt8 := dkwX6_testWord_1 ++ dktX6_testWord_2
def dkwX6_testWord_0 : List UInt8 := [42, 16, 108, 16, 117, 16, 109, 16, 112, 3, 3, 184, 0, 157, 182, 0, 161, 153, 0, 5, 3, 172, 42]
abbrev dktX6_testWord_0 : List UInt8 := dkwX6_testWord_0 ++ dktX6_testWord_1
theorem dksX6_testWord_0 : cX6_testWord.data.toList.drop 0 = dktX6_testWord_0 := by decide +kernel
theorem dksX6_testWord_1 : cX6_testWord.data.toList.drop 23 = dktX6_testWord_1 := dk_seg dksX6_testWord_0 23 rfl rfl
theorem dksX6_testWord_2 : cX6_testWord.data.toList.drop 45 = dktX6_testWord_2 := dk_seg dksX6_testWord_1 22 rfl rfl
theorem dX6_testWord_0 : decode cX6_testWord 0 = .ok (.aload_n 0, 1) := dk_42 (dk_at dksX6_testWord_0 0 rfl rfl)
theorem dX6_testWord_1 : decode cX6_testWord 1 = .ok (.bipush 108, 2) := dk_16 108 (dk_at dksX6_testWord_0 1 rfl rfl)
theorem dX6_testWord_3 : decode cX6_testWord 3 = .ok (.bipush 117, 2) := dk_16 117 (dk_at dksX6_testWord_0 3 rfl rfl)
theorem dX6_testWord_5 : decode cX6_testWord 5 = .ok (.bipush 109, 2) := dk_16 109 (dk_at dksX6_testWord_0 5 rfl rfl)
theorem dX6_testWord_7 : decode cX6_testWord 7 = .ok (.bipush 112, 2) := dk_16 112 (dk_at dksX6_testWord_0 7 rfl rfl)
theorem dX6_testWord_9 : decode cX6_testWord 9 = .ok (.iconst 0, 1) := dk_3 (dk_at dksX6_testWord_0 9 rfl rfl)
theorem dX6_testWord_10 : decode cX6_testWord 10 = .ok (.iconst 0, 1) := dk_3 (dk_at dksX6_testWord_0 10 rfl rfl)
theorem dX6_testWord_11 : decode cX6_testWord 11 = .ok (.invokestatic 157, 3) := dk_184 0 157 (dk_at dksX6_testWord_0 11 rfl rfl)
theorem dX6_testWord_14 : decode cX6_testWord 14 = .ok (.invokevirtual 161, 3) := dk_182 0 161 (dk_at dksX6_testWord_0 14 rfl rfl)
theorem dX6_testWord_17 : decode cX6_testWord 17 = .ok (.ifCond .eq 5, 3) := dk_153 0 5 (dk_at dksX6_testWord_0 17 rfl rfl)
theorem dX6_testWord_20 : decode cX6_testWord 20 = .ok (.iconst 0, 1) := dk_3 (dk_at dksX6_testWord_0 20 rfl rfl)
theorem dX6_testWord_21 : decode cX6_testWord 21 = .ok (.ireturn, 1) := dk_172 (dk_at dksX6_testWord_0 21 rfl rfl)
theorem dX6_testWord_22 : decode cX6_testWord 22 = .ok (.aload_n 0, 1) := dk_42 (dk_at dksX6_testWord_0 22 rfl rfl)
theorem dX6_testWord_23 : decode cX6_testWord 23 = .ok (.invokevirtual 173, 3) := dk_182 0 173 (dk_at dksX6_testWord_1 0 rfl rfl)
theorem dX6_testWord_26 : decode cX6_testWord 26 = .ok (.ifCond .eq 5, 3) := dk_153 0 5 (dk_at dksX6_testWord_1 3 rfl rfl)
theorem dX6_testWord_29 : decode cX6_testWord 29 = .ok (.iconst 1, 1) := dk_4 (dk_at dksX6_testWord_1 6 rfl rfl)
theorem dX6_testWord_30 : decode cX6_testWord 30 = .ok (.ireturn, 1) := dk_172 (dk_at dksX6_testWord_1 7 rfl rfl)
theorem dX6_testWord_31 : decode cX6_testWord 31 = .ok (.aload_n 0, 1) := dk_42 (dk_at dksX6_testWord_1 8 rfl rfl)
theorem dX6_testWord_32 : decode cX6_testWord 32 = .ok (.bipush 102, 2) := dk_16 102 (dk_at dksX6_testWord_1 9 rfl rfl)
theorem dX6_testWord_34 : decode cX6_testWord 34 = .ok (.bipush 114, 2) := dk_16 114 (dk_at dksX6_testWord_1 11 rfl rfl)
theorem dX6_testWord_36 : decode cX6_testWord 36 = .ok (.bipush 101, 2) := dk_16 101 (dk_at dksX6_testWord_1 13 rfl rfl)
theorem dX6_testWord_38 : decode cX6_testWord 38 = .ok (.bipush 101, 2) := dk_16 101 (dk_at dksX6_testWord_1 15 rfl rfl)
theorem dX6_testWord_40 : decode cX6_testWord 40 = .ok (.iconst 0, 1) := dk_3 (dk_at dksX6_testWord_1 17 rfl rfl)
theorem dX6_testWord_41 : decode cX6_testWord 41 = .ok (.iconst 0, 1) := dk_3 (dk_at dksX6_testWord_1 18 rfl rfl)
theorem dX6_testWord_42 : decode cX6_testWord 42 = .ok (.invokestatic 157, 3) := dk_184 0 157 (dk_at dksX6_testWord_1 19 rfl rfl)
theorem dX6_testWord_45 : decode cX6_testWord 45 = .ok (.invokevirtual 161, 3) := dk_182 0 161 (dk_at dksX6_testWord_2 0 rfl rfl)
theorem dX6_testWord_48 : decode cX6_testWord 48 = .ok (.ifCond .eq 7, 3) := dk_153 0 7 (dk_at dksX6_testWord_2 3 rfl rfl)
theorem dX6_testWord_51 : decode cX6_testWord 51 = .ok (.iconst 2, 1) := dk_5 (dk_at dksX6_testWord_2 6 rfl rfl)
theorem dX6_testWord_52 : decode cX6_testWord 52 = .ok (.goto 4, 3) := dk_167 0 4 (dk_at dksX6_testWord_2 7 rfl rfl)
theorem dX6_testWord_55 : decode cX6_testWord 55 = .ok (.iconst (-1), 1) := dk_2 (dk_at dksX6_testWord_2 10 rfl rfl)
theorem dX6_testWord_56 : decode cX6_testWord 56 = .ok (.ireturn, 1) := dk_172 (dk_at dksX6_testWord_2 11 rfl rfl)
abbrev cX6_isEnd : ByteArray := prog_16_method_41_code
def yX6_isEnd : MethodName := ⟨RX6, "isEnd", "()Z"⟩
def dkwX6_isEnd_0 : List UInt8 := [42, 16, 101, 16, 110, 16, 100, 3, 3, 3, 184, 0, 157, 182, 0, 161, 172]
abbrev dktX6_isEnd_0 : List UInt8 := dkwX6_isEnd_0 ++ []
theorem dksX6_isEnd_0 : cX6_isEnd.data.toList.drop 0 = dktX6_isEnd_0 := by decide +kernel
theorem dX6_isEnd_0 : decode cX6_isEnd 0 = .ok (.aload_n 0, 1) := dk_42 (dk_at dksX6_isEnd_0 0 rfl rfl)
theorem dX6_isEnd_1 : decode cX6_isEnd 1 = .ok (.bipush 101, 2) := dk_16 101 (dk_at dksX6_isEnd_0 1 rfl rfl)
theorem dX6_isEnd_3 : decode cX6_isEnd 3 = .ok (.bipush 110, 2) := dk_16 110 (dk_at dksX6_isEnd_0 3 rfl rfl)
theorem dX6_isEnd_5 : decode cX6_isEnd 5 = .ok (.bipush 100, 2) := dk_16 100 (dk_at dksX6_isEnd_0 5 rfl rfl)
theorem dX6_isEnd_7 : decode cX6_isEnd 7 = .ok (.iconst 0, 1) := dk_3 (dk_at dksX6_isEnd_0 7 rfl rfl)
theorem dX6_isEnd_8 : decode cX6_isEnd 8 = .ok (.iconst 0, 1) := dk_3 (dk_at dksX6_isEnd_0 8 rfl rfl)
theorem dX6_isEnd_9 : decode cX6_isEnd 9 = .ok (.iconst 0, 1) := dk_3 (dk_at dksX6_isEnd_0 9 rfl rfl)
theorem dX6_isEnd_10 : decode cX6_isEnd 10 = .ok (.invokestatic 157, 3) := dk_184 0 157 (dk_at dksX6_isEnd_0 10 rfl rfl)
theorem dX6_isEnd_13 : decode cX6_isEnd 13 = .ok (.invokevirtual 161, 3) := dk_182 0 161 (dk_at dksX6_isEnd_0 13 rfl rfl)
theorem dX6_isEnd_16 : decode cX6_isEnd 16 = .ok (.ireturn, 1) := dk_172 (dk_at dksX6_isEnd_0 16 rfl rfl)
abbrev cX6_wrong : ByteArray := prog_16_method_45_code
def yX6_wrong : MethodName := ⟨RX6, "wrong", "()V"⟩
def dkwX6_wrong_0 : List UInt8 := [42, 42, 180, 0, 132, 7, 160, 0, 7, 4, 167, 0, 4, 5, 42, 180, 0, 126, 182, 0, 222, 177]
abbrev dktX6_wrong_0 : List UInt8 := dkwX6_wrong_0 ++ []
theorem dksX6_wrong_0 : cX6_wrong.data.toList.drop 0 = dktX6_wrong_0 := by decide +kernel
theorem dX6_wrong_0 : decode cX6_wrong 0 = .ok (.aload_n 0, 1) := dk_42 (dk_at dksX6_wrong_0 0 rfl rfl)
theorem dX6_wrong_1 : decode cX6_wrong 1 = .ok (.aload_n 0, 1) := dk_42 (dk_at dksX6_wrong_0 1 rfl rfl)
theorem dX6_wrong_2 : decode cX6_wrong 2 = .ok (.getfield 132, 3) := dk_180 0 132 (dk_at dksX6_wrong_0 2 rfl rfl)
theorem dX6_wrong_5 : decode cX6_wrong 5 = .ok (.iconst 4, 1) := dk_7 (dk_at dksX6_wrong_0 5 rfl rfl)
theorem dX6_wrong_6 : decode cX6_wrong 6 = .ok (.if_icmp .ne 7, 3) := dk_160 0 7 (dk_at dksX6_wrong_0 6 rfl rfl)
theorem dX6_wrong_9 : decode cX6_wrong 9 = .ok (.iconst 1, 1) := dk_4 (dk_at dksX6_wrong_0 9 rfl rfl)
theorem dX6_wrong_10 : decode cX6_wrong 10 = .ok (.goto 4, 3) := dk_167 0 4 (dk_at dksX6_wrong_0 10 rfl rfl)
theorem dX6_wrong_13 : decode cX6_wrong 13 = .ok (.iconst 2, 1) := dk_5 (dk_at dksX6_wrong_0 13 rfl rfl)
theorem dX6_wrong_14 : decode cX6_wrong 14 = .ok (.aload_n 0, 1) := dk_42 (dk_at dksX6_wrong_0 14 rfl rfl)
theorem dX6_wrong_15 : decode cX6_wrong 15 = .ok (.getfield 126, 3) := dk_180 0 126 (dk_at dksX6_wrong_0 15 rfl rfl)
theorem dX6_wrong_18 : decode cX6_wrong 18 = .ok (.invokevirtual 222, 3) := dk_182 0 222 (dk_at dksX6_wrong_0 18 rfl rfl)
theorem dX6_wrong_21 : decode cX6_wrong 21 = .ok (.return_, 1) := dk_177 (dk_at dksX6_wrong_0 21 rfl rfl)
abbrev cX6_leadNamed : ByteArray := prog_16_method_53_code
def yX6_leadNamed : MethodName := ⟨RX6, "leadNamed", "(I)I"⟩
def dkwX6_leadNamed_1 : List UInt8 := [28, 96, 47, 42, 180, 0, 138, 148, 154, 0, 5, 28, 172, 132, 2, 1, 167, 255, 218, 2, 172]
abbrev dktX6_leadNamed_1 : List UInt8 := dkwX6_leadNamed_1 ++ []
def dkwX6_leadNamed_0 : List UInt8 := [3, 61, 28, 42, 180, 0, 35, 17, 1, 154, 27, 104, 46, 162, 0, 30, 42, 180, 0, 41, 16, 11, 27, 104]
abbrev dktX6_leadNamed_0 : List UInt8 := dkwX6_leadNamed_0 ++ dktX6_leadNamed_1
theorem dksX6_leadNamed_0 : cX6_leadNamed.data.toList.drop 0 = dktX6_leadNamed_0 := by decide +kernel
theorem dksX6_leadNamed_1 : cX6_leadNamed.data.toList.drop 24 = dktX6_leadNamed_1 := dk_seg dksX6_leadNamed_0 24 rfl rfl
theorem dX6_leadNamed_0 : decode cX6_leadNamed 0 = .ok (.iconst 0, 1) := dk_3 (dk_at dksX6_leadNamed_0 0 rfl rfl)
theorem dX6_leadNamed_1 : decode cX6_leadNamed 1 = .ok (.istore_n 2, 1) := dk_61 (dk_at dksX6_leadNamed_0 1 rfl rfl)
theorem dX6_leadNamed_2 : decode cX6_leadNamed 2 = .ok (.iload_n 2, 1) := dk_28 (dk_at dksX6_leadNamed_0 2 rfl rfl)
theorem dX6_leadNamed_3 : decode cX6_leadNamed 3 = .ok (.aload_n 0, 1) := dk_42 (dk_at dksX6_leadNamed_0 3 rfl rfl)
theorem dX6_leadNamed_4 : decode cX6_leadNamed 4 = .ok (.getfield 35, 3) := dk_180 0 35 (dk_at dksX6_leadNamed_0 4 rfl rfl)
theorem dX6_leadNamed_7 : decode cX6_leadNamed 7 = .ok (.sipush 410, 3) := dk_17 1 154 (dk_at dksX6_leadNamed_0 7 rfl rfl)
theorem dX6_leadNamed_10 : decode cX6_leadNamed 10 = .ok (.iload_n 1, 1) := dk_27 (dk_at dksX6_leadNamed_0 10 rfl rfl)
theorem dX6_leadNamed_11 : decode cX6_leadNamed 11 = .ok (.imul, 1) := dk_104 (dk_at dksX6_leadNamed_0 11 rfl rfl)
theorem dX6_leadNamed_12 : decode cX6_leadNamed 12 = .ok (.iaload, 1) := dk_46 (dk_at dksX6_leadNamed_0 12 rfl rfl)
theorem dX6_leadNamed_13 : decode cX6_leadNamed 13 = .ok (.if_icmp .ge 30, 3) := dk_162 0 30 (dk_at dksX6_leadNamed_0 13 rfl rfl)
theorem dX6_leadNamed_16 : decode cX6_leadNamed 16 = .ok (.aload_n 0, 1) := dk_42 (dk_at dksX6_leadNamed_0 16 rfl rfl)
theorem dX6_leadNamed_17 : decode cX6_leadNamed 17 = .ok (.getfield 41, 3) := dk_180 0 41 (dk_at dksX6_leadNamed_0 17 rfl rfl)
theorem dX6_leadNamed_20 : decode cX6_leadNamed 20 = .ok (.bipush 11, 2) := dk_16 11 (dk_at dksX6_leadNamed_0 20 rfl rfl)
theorem dX6_leadNamed_22 : decode cX6_leadNamed 22 = .ok (.iload_n 1, 1) := dk_27 (dk_at dksX6_leadNamed_0 22 rfl rfl)
theorem dX6_leadNamed_23 : decode cX6_leadNamed 23 = .ok (.imul, 1) := dk_104 (dk_at dksX6_leadNamed_0 23 rfl rfl)
theorem dX6_leadNamed_24 : decode cX6_leadNamed 24 = .ok (.iload_n 2, 1) := dk_28 (dk_at dksX6_leadNamed_1 0 rfl rfl)
theorem dX6_leadNamed_25 : decode cX6_leadNamed 25 = .ok (.iadd, 1) := dk_96 (dk_at dksX6_leadNamed_1 1 rfl rfl)
theorem dX6_leadNamed_26 : decode cX6_leadNamed 26 = .ok (.laload, 1) := dk_47 (dk_at dksX6_leadNamed_1 2 rfl rfl)
theorem dX6_leadNamed_27 : decode cX6_leadNamed 27 = .ok (.aload_n 0, 1) := dk_42 (dk_at dksX6_leadNamed_1 3 rfl rfl)
theorem dX6_leadNamed_28 : decode cX6_leadNamed 28 = .ok (.getfield 138, 3) := dk_180 0 138 (dk_at dksX6_leadNamed_1 4 rfl rfl)
theorem dX6_leadNamed_31 : decode cX6_leadNamed 31 = .ok (.lcmp, 1) := dk_148 (dk_at dksX6_leadNamed_1 7 rfl rfl)
theorem dX6_leadNamed_32 : decode cX6_leadNamed 32 = .ok (.ifCond .ne 5, 3) := dk_154 0 5 (dk_at dksX6_leadNamed_1 8 rfl rfl)
theorem dX6_leadNamed_35 : decode cX6_leadNamed 35 = .ok (.iload_n 2, 1) := dk_28 (dk_at dksX6_leadNamed_1 11 rfl rfl)
theorem dX6_leadNamed_36 : decode cX6_leadNamed 36 = .ok (.ireturn, 1) := dk_172 (dk_at dksX6_leadNamed_1 12 rfl rfl)
theorem dX6_leadNamed_37 : decode cX6_leadNamed 37 = .ok (.iinc 2 1, 3) := dk_132 2 1 (dk_at dksX6_leadNamed_1 13 rfl rfl)
theorem dX6_leadNamed_40 : decode cX6_leadNamed 40 = .ok (.goto (-38), 3) := dk_167 255 218 (dk_at dksX6_leadNamed_1 16 rfl rfl)
theorem dX6_leadNamed_43 : decode cX6_leadNamed 43 = .ok (.iconst (-1), 1) := dk_2 (dk_at dksX6_leadNamed_1 19 rfl rfl)
theorem dX6_leadNamed_44 : decode cX6_leadNamed 44 = .ok (.ireturn, 1) := dk_172 (dk_at dksX6_leadNamed_1 20 rfl rfl)
abbrev cX6_isLookNamed : ByteArray := prog_16_method_54_code
def yX6_isLookNamed : MethodName := ⟨RX6, "isLookNamed", "()Z"⟩
def dkwX6_isLookNamed_1 : List UInt8 := [180, 0, 138, 148, 154, 0, 5, 4, 172, 132, 1, 1, 167, 255, 222, 3, 172]
abbrev dktX6_isLookNamed_1 : List UInt8 := dkwX6_isLookNamed_1 ++ []
def dkwX6_isLookNamed_0 : List UInt8 := [3, 60, 27, 42, 180, 0, 35, 17, 6, 106, 46, 162, 0, 28, 42, 180, 0, 41, 16, 52, 27, 96, 47, 42]
abbrev dktX6_isLookNamed_0 : List UInt8 := dkwX6_isLookNamed_0 ++ dktX6_isLookNamed_1
theorem dksX6_isLookNamed_0 : cX6_isLookNamed.data.toList.drop 0 = dktX6_isLookNamed_0 := by decide +kernel
theorem dksX6_isLookNamed_1 : cX6_isLookNamed.data.toList.drop 24 = dktX6_isLookNamed_1 := dk_seg dksX6_isLookNamed_0 24 rfl rfl
theorem dX6_isLookNamed_0 : decode cX6_isLookNamed 0 = .ok (.iconst 0, 1) := dk_3 (dk_at dksX6_isLookNamed_0 0 rfl rfl)
theorem dX6_isLookNamed_1 : decode cX6_isLookNamed 1 = .ok (.istore_n 1, 1) := dk_60 (dk_at dksX6_isLookNamed_0 1 rfl rfl)
theorem dX6_isLookNamed_2 : decode cX6_isLookNamed 2 = .ok (.iload_n 1, 1) := dk_27 (dk_at dksX6_isLookNamed_0 2 rfl rfl)
theorem dX6_isLookNamed_3 : decode cX6_isLookNamed 3 = .ok (.aload_n 0, 1) := dk_42 (dk_at dksX6_isLookNamed_0 3 rfl rfl)
theorem dX6_isLookNamed_4 : decode cX6_isLookNamed 4 = .ok (.getfield 35, 3) := dk_180 0 35 (dk_at dksX6_isLookNamed_0 4 rfl rfl)
theorem dX6_isLookNamed_7 : decode cX6_isLookNamed 7 = .ok (.sipush 1642, 3) := dk_17 6 106 (dk_at dksX6_isLookNamed_0 7 rfl rfl)
theorem dX6_isLookNamed_10 : decode cX6_isLookNamed 10 = .ok (.iaload, 1) := dk_46 (dk_at dksX6_isLookNamed_0 10 rfl rfl)
theorem dX6_isLookNamed_11 : decode cX6_isLookNamed 11 = .ok (.if_icmp .ge 28, 3) := dk_162 0 28 (dk_at dksX6_isLookNamed_0 11 rfl rfl)
theorem dX6_isLookNamed_14 : decode cX6_isLookNamed 14 = .ok (.aload_n 0, 1) := dk_42 (dk_at dksX6_isLookNamed_0 14 rfl rfl)
theorem dX6_isLookNamed_15 : decode cX6_isLookNamed 15 = .ok (.getfield 41, 3) := dk_180 0 41 (dk_at dksX6_isLookNamed_0 15 rfl rfl)
theorem dX6_isLookNamed_18 : decode cX6_isLookNamed 18 = .ok (.bipush 52, 2) := dk_16 52 (dk_at dksX6_isLookNamed_0 18 rfl rfl)
theorem dX6_isLookNamed_20 : decode cX6_isLookNamed 20 = .ok (.iload_n 1, 1) := dk_27 (dk_at dksX6_isLookNamed_0 20 rfl rfl)
theorem dX6_isLookNamed_21 : decode cX6_isLookNamed 21 = .ok (.iadd, 1) := dk_96 (dk_at dksX6_isLookNamed_0 21 rfl rfl)
theorem dX6_isLookNamed_22 : decode cX6_isLookNamed 22 = .ok (.laload, 1) := dk_47 (dk_at dksX6_isLookNamed_0 22 rfl rfl)
theorem dX6_isLookNamed_23 : decode cX6_isLookNamed 23 = .ok (.aload_n 0, 1) := dk_42 (dk_at dksX6_isLookNamed_0 23 rfl rfl)
theorem dX6_isLookNamed_24 : decode cX6_isLookNamed 24 = .ok (.getfield 138, 3) := dk_180 0 138 (dk_at dksX6_isLookNamed_1 0 rfl rfl)
theorem dX6_isLookNamed_27 : decode cX6_isLookNamed 27 = .ok (.lcmp, 1) := dk_148 (dk_at dksX6_isLookNamed_1 3 rfl rfl)
theorem dX6_isLookNamed_28 : decode cX6_isLookNamed 28 = .ok (.ifCond .ne 5, 3) := dk_154 0 5 (dk_at dksX6_isLookNamed_1 4 rfl rfl)
theorem dX6_isLookNamed_31 : decode cX6_isLookNamed 31 = .ok (.iconst 1, 1) := dk_4 (dk_at dksX6_isLookNamed_1 7 rfl rfl)
theorem dX6_isLookNamed_32 : decode cX6_isLookNamed 32 = .ok (.ireturn, 1) := dk_172 (dk_at dksX6_isLookNamed_1 8 rfl rfl)
theorem dX6_isLookNamed_33 : decode cX6_isLookNamed 33 = .ok (.iinc 1 1, 3) := dk_132 1 1 (dk_at dksX6_isLookNamed_1 9 rfl rfl)
theorem dX6_isLookNamed_36 : decode cX6_isLookNamed 36 = .ok (.goto (-34), 3) := dk_167 255 222 (dk_at dksX6_isLookNamed_1 12 rfl rfl)
theorem dX6_isLookNamed_39 : decode cX6_isLookNamed 39 = .ok (.iconst 0, 1) := dk_3 (dk_at dksX6_isLookNamed_1 15 rfl rfl)
theorem dX6_isLookNamed_40 : decode cX6_isLookNamed 40 = .ok (.ireturn, 1) := dk_172 (dk_at dksX6_isLookNamed_1 16 rfl rfl)
abbrev cX6_must : ByteArray := prog_16_method_46_code
def yX6_must : MethodName := ⟨RX6, "must", "(Z)V"⟩
def dkwX6_must_0 : List UInt8 := [42, 180, 0, 216, 158, 0, 4, 177, 27, 153, 0, 10, 42, 182, 0, 226, 167, 0, 7, 42, 182, 0, 229, 177]
abbrev dktX6_must_0 : List UInt8 := dkwX6_must_0 ++ []
theorem dksX6_must_0 : cX6_must.data.toList.drop 0 = dktX6_must_0 := by decide +kernel
theorem dX6_must_0 : decode cX6_must 0 = .ok (.aload_n 0, 1) := dk_42 (dk_at dksX6_must_0 0 rfl rfl)
theorem dX6_must_1 : decode cX6_must 1 = .ok (.getfield 216, 3) := dk_180 0 216 (dk_at dksX6_must_0 1 rfl rfl)
theorem dX6_must_4 : decode cX6_must 4 = .ok (.ifCond .le 4, 3) := dk_158 0 4 (dk_at dksX6_must_0 4 rfl rfl)
theorem dX6_must_7 : decode cX6_must 7 = .ok (.return_, 1) := dk_177 (dk_at dksX6_must_0 7 rfl rfl)
theorem dX6_must_8 : decode cX6_must 8 = .ok (.iload_n 1, 1) := dk_27 (dk_at dksX6_must_0 8 rfl rfl)
theorem dX6_must_9 : decode cX6_must 9 = .ok (.ifCond .eq 10, 3) := dk_153 0 10 (dk_at dksX6_must_0 9 rfl rfl)
theorem dX6_must_12 : decode cX6_must 12 = .ok (.aload_n 0, 1) := dk_42 (dk_at dksX6_must_0 12 rfl rfl)
theorem dX6_must_13 : decode cX6_must 13 = .ok (.invokevirtual 226, 3) := dk_182 0 226 (dk_at dksX6_must_0 13 rfl rfl)
theorem dX6_must_16 : decode cX6_must 16 = .ok (.goto 7, 3) := dk_167 0 7 (dk_at dksX6_must_0 16 rfl rfl)
theorem dX6_must_19 : decode cX6_must 19 = .ok (.aload_n 0, 1) := dk_42 (dk_at dksX6_must_0 19 rfl rfl)
theorem dX6_must_20 : decode cX6_must 20 = .ok (.invokevirtual 229, 3) := dk_182 0 229 (dk_at dksX6_must_0 20 rfl rfl)
theorem dX6_must_23 : decode cX6_must 23 = .ok (.return_, 1) := dk_177 (dk_at dksX6_must_0 23 rfl rfl)
abbrev cX6_count : ByteArray := prog_16_method_47_code
def yX6_count : MethodName := ⟨RX6, "count", "(II)I"⟩
def dkwX6_count_2 : List UInt8 := [182, 0, 222, 42, 180, 0, 216, 158, 0, 5, 3, 172, 42, 180, 0, 151, 62, 42, 182, 0, 226, 29, 172]
abbrev dktX6_count_2 : List UInt8 := dkwX6_count_2 ++ []
def dkwX6_count_1 : List UInt8 := [154, 0, 27, 42, 180, 0, 151, 133, 27, 133, 28, 133, 184, 0, 112, 154, 0, 12, 42, 7, 42, 180, 0, 126]
abbrev dktX6_count_1 : List UInt8 := dkwX6_count_1 ++ dktX6_count_2
def dkwX6_count_0 : List UInt8 := [42, 180, 0, 216, 154, 0, 15, 42, 180, 0, 132, 5, 159, 0, 7, 42, 182, 0, 229, 42, 180, 0, 216]
abbrev dktX6_count_0 : List UInt8 := dkwX6_count_0 ++ dktX6_count_1
theorem dksX6_count_0 : cX6_count.data.toList.drop 0 = dktX6_count_0 := by decide +kernel
theorem dksX6_count_1 : cX6_count.data.toList.drop 23 = dktX6_count_1 := dk_seg dksX6_count_0 23 rfl rfl
theorem dksX6_count_2 : cX6_count.data.toList.drop 47 = dktX6_count_2 := dk_seg dksX6_count_1 24 rfl rfl
theorem dX6_count_0 : decode cX6_count 0 = .ok (.aload_n 0, 1) := dk_42 (dk_at dksX6_count_0 0 rfl rfl)
theorem dX6_count_1 : decode cX6_count 1 = .ok (.getfield 216, 3) := dk_180 0 216 (dk_at dksX6_count_0 1 rfl rfl)
theorem dX6_count_4 : decode cX6_count 4 = .ok (.ifCond .ne 15, 3) := dk_154 0 15 (dk_at dksX6_count_0 4 rfl rfl)
theorem dX6_count_7 : decode cX6_count 7 = .ok (.aload_n 0, 1) := dk_42 (dk_at dksX6_count_0 7 rfl rfl)
theorem dX6_count_8 : decode cX6_count 8 = .ok (.getfield 132, 3) := dk_180 0 132 (dk_at dksX6_count_0 8 rfl rfl)
theorem dX6_count_11 : decode cX6_count 11 = .ok (.iconst 2, 1) := dk_5 (dk_at dksX6_count_0 11 rfl rfl)
theorem dX6_count_12 : decode cX6_count 12 = .ok (.if_icmp .eq 7, 3) := dk_159 0 7 (dk_at dksX6_count_0 12 rfl rfl)
theorem dX6_count_15 : decode cX6_count 15 = .ok (.aload_n 0, 1) := dk_42 (dk_at dksX6_count_0 15 rfl rfl)
theorem dX6_count_16 : decode cX6_count 16 = .ok (.invokevirtual 229, 3) := dk_182 0 229 (dk_at dksX6_count_0 16 rfl rfl)
theorem dX6_count_19 : decode cX6_count 19 = .ok (.aload_n 0, 1) := dk_42 (dk_at dksX6_count_0 19 rfl rfl)
theorem dX6_count_20 : decode cX6_count 20 = .ok (.getfield 216, 3) := dk_180 0 216 (dk_at dksX6_count_0 20 rfl rfl)
theorem dX6_count_23 : decode cX6_count 23 = .ok (.ifCond .ne 27, 3) := dk_154 0 27 (dk_at dksX6_count_1 0 rfl rfl)
theorem dX6_count_26 : decode cX6_count 26 = .ok (.aload_n 0, 1) := dk_42 (dk_at dksX6_count_1 3 rfl rfl)
theorem dX6_count_27 : decode cX6_count 27 = .ok (.getfield 151, 3) := dk_180 0 151 (dk_at dksX6_count_1 4 rfl rfl)
theorem dX6_count_30 : decode cX6_count 30 = .ok (.i2l, 1) := dk_133 (dk_at dksX6_count_1 7 rfl rfl)
theorem dX6_count_31 : decode cX6_count 31 = .ok (.iload_n 1, 1) := dk_27 (dk_at dksX6_count_1 8 rfl rfl)
theorem dX6_count_32 : decode cX6_count 32 = .ok (.i2l, 1) := dk_133 (dk_at dksX6_count_1 9 rfl rfl)
theorem dX6_count_33 : decode cX6_count 33 = .ok (.iload_n 2, 1) := dk_28 (dk_at dksX6_count_1 10 rfl rfl)
theorem dX6_count_34 : decode cX6_count 34 = .ok (.i2l, 1) := dk_133 (dk_at dksX6_count_1 11 rfl rfl)
theorem dX6_count_35 : decode cX6_count 35 = .ok (.invokestatic 112, 3) := dk_184 0 112 (dk_at dksX6_count_1 12 rfl rfl)
theorem dX6_count_38 : decode cX6_count 38 = .ok (.ifCond .ne 12, 3) := dk_154 0 12 (dk_at dksX6_count_1 15 rfl rfl)
theorem dX6_count_41 : decode cX6_count 41 = .ok (.aload_n 0, 1) := dk_42 (dk_at dksX6_count_1 18 rfl rfl)
theorem dX6_count_42 : decode cX6_count 42 = .ok (.iconst 4, 1) := dk_7 (dk_at dksX6_count_1 19 rfl rfl)
theorem dX6_count_43 : decode cX6_count 43 = .ok (.aload_n 0, 1) := dk_42 (dk_at dksX6_count_1 20 rfl rfl)
theorem dX6_count_44 : decode cX6_count 44 = .ok (.getfield 126, 3) := dk_180 0 126 (dk_at dksX6_count_1 21 rfl rfl)
theorem dX6_count_47 : decode cX6_count 47 = .ok (.invokevirtual 222, 3) := dk_182 0 222 (dk_at dksX6_count_2 0 rfl rfl)
theorem dX6_count_50 : decode cX6_count 50 = .ok (.aload_n 0, 1) := dk_42 (dk_at dksX6_count_2 3 rfl rfl)
theorem dX6_count_51 : decode cX6_count 51 = .ok (.getfield 216, 3) := dk_180 0 216 (dk_at dksX6_count_2 4 rfl rfl)
theorem dX6_count_54 : decode cX6_count 54 = .ok (.ifCond .le 5, 3) := dk_158 0 5 (dk_at dksX6_count_2 7 rfl rfl)
theorem dX6_count_57 : decode cX6_count 57 = .ok (.iconst 0, 1) := dk_3 (dk_at dksX6_count_2 10 rfl rfl)
theorem dX6_count_58 : decode cX6_count 58 = .ok (.ireturn, 1) := dk_172 (dk_at dksX6_count_2 11 rfl rfl)
theorem dX6_count_59 : decode cX6_count 59 = .ok (.aload_n 0, 1) := dk_42 (dk_at dksX6_count_2 12 rfl rfl)
theorem dX6_count_60 : decode cX6_count 60 = .ok (.getfield 151, 3) := dk_180 0 151 (dk_at dksX6_count_2 13 rfl rfl)
theorem dX6_count_63 : decode cX6_count 63 = .ok (.istore_n 3, 1) := dk_62 (dk_at dksX6_count_2 16 rfl rfl)
theorem dX6_count_64 : decode cX6_count 64 = .ok (.aload_n 0, 1) := dk_42 (dk_at dksX6_count_2 17 rfl rfl)
theorem dX6_count_65 : decode cX6_count 65 = .ok (.invokevirtual 226, 3) := dk_182 0 226 (dk_at dksX6_count_2 18 rfl rfl)
theorem dX6_count_68 : decode cX6_count 68 = .ok (.iload_n 3, 1) := dk_29 (dk_at dksX6_count_2 21 rfl rfl)
theorem dX6_count_69 : decode cX6_count 69 = .ok (.ireturn, 1) := dk_172 (dk_at dksX6_count_2 22 rfl rfl)
abbrev cX6_isIn : ByteArray := prog_16_method_8_code
def yX6_isIn : MethodName := ⟨RX6, "isIn", "(JJJ)Z"⟩
def dkwX6_isIn_0 : List UInt8 := [30, 32, 148, 155, 0, 14, 30, 22, 4, 148, 157, 0, 7, 4, 167, 0, 4, 3, 172]
abbrev dktX6_isIn_0 : List UInt8 := dkwX6_isIn_0 ++ []
theorem dksX6_isIn_0 : cX6_isIn.data.toList.drop 0 = dktX6_isIn_0 := by decide +kernel
theorem dX6_isIn_0 : decode cX6_isIn 0 = .ok (.lload_n 0, 1) := dk_30 (dk_at dksX6_isIn_0 0 rfl rfl)
theorem dX6_isIn_1 : decode cX6_isIn 1 = .ok (.lload_n 2, 1) := dk_32 (dk_at dksX6_isIn_0 1 rfl rfl)
theorem dX6_isIn_2 : decode cX6_isIn 2 = .ok (.lcmp, 1) := dk_148 (dk_at dksX6_isIn_0 2 rfl rfl)
theorem dX6_isIn_3 : decode cX6_isIn 3 = .ok (.ifCond .lt 14, 3) := dk_155 0 14 (dk_at dksX6_isIn_0 3 rfl rfl)
theorem dX6_isIn_6 : decode cX6_isIn 6 = .ok (.lload_n 0, 1) := dk_30 (dk_at dksX6_isIn_0 6 rfl rfl)
theorem dX6_isIn_7 : decode cX6_isIn 7 = .ok (.lload 4, 2) := dk_22 4 (dk_at dksX6_isIn_0 7 rfl rfl)
theorem dX6_isIn_9 : decode cX6_isIn 9 = .ok (.lcmp, 1) := dk_148 (dk_at dksX6_isIn_0 9 rfl rfl)
theorem dX6_isIn_10 : decode cX6_isIn 10 = .ok (.ifCond .gt 7, 3) := dk_157 0 7 (dk_at dksX6_isIn_0 10 rfl rfl)
theorem dX6_isIn_13 : decode cX6_isIn 13 = .ok (.iconst 1, 1) := dk_4 (dk_at dksX6_isIn_0 13 rfl rfl)
theorem dX6_isIn_14 : decode cX6_isIn 14 = .ok (.goto 4, 3) := dk_167 0 4 (dk_at dksX6_isIn_0 14 rfl rfl)
theorem dX6_isIn_17 : decode cX6_isIn 17 = .ok (.iconst 0, 1) := dk_3 (dk_at dksX6_isIn_0 17 rfl rfl)
theorem dX6_isIn_18 : decode cX6_isIn 18 = .ok (.ireturn, 1) := dk_172 (dk_at dksX6_isIn_0 18 rfl rfl)
abbrev cX6_readCross : ByteArray := prog_16_method_59_code
def yX6_readCross : MethodName := ⟨RX6, "readCross", "()V"⟩
def dkwX6_readCross_8 : List UInt8 := [21, 4, 79, 42, 180, 0, 35, 17, 6, 105, 92, 46, 4, 96, 79, 177]
abbrev dktX6_readCross_8 : List UInt8 := dkwX6_readCross_8 ++ []
def dkwX6_readCross_7 : List UInt8 := [27, 96, 28, 79, 42, 180, 0, 35, 17, 6, 188, 27, 96, 29, 79, 42, 180, 0, 35, 17, 6, 212, 27, 96]
abbrev dktX6_readCross_7 : List UInt8 := dkwX6_readCross_7 ++ dktX6_readCross_8
def dkwX6_readCross_6 : List UInt8 := [21, 4, 158, 0, 7, 42, 182, 0, 226, 42, 180, 0, 216, 158, 0, 4, 177, 42, 180, 0, 35, 17, 6, 164]
abbrev dktX6_readCross_6 : List UInt8 := dkwX6_readCross_6 ++ dktX6_readCross_7
def dkwX6_readCross_5 : List UInt8 := [180, 0, 126, 182, 0, 222, 42, 4, 182, 0, 254, 42, 182, 0, 200, 54, 4, 42, 180, 0, 216, 154, 0, 12]
abbrev dktX6_readCross_5 : List UInt8 := dkwX6_readCross_5 ++ dktX6_readCross_6
def dkwX6_readCross_4 : List UInt8 := [29, 28, 159, 0, 18, 42, 180, 0, 35, 17, 6, 108, 46, 29, 184, 0, 116, 153, 0, 12, 42, 8, 42]
abbrev dktX6_readCross_4 : List UInt8 := dkwX6_readCross_4 ++ dktX6_readCross_5
def dkwX6_readCross_3 : List UInt8 := [180, 0, 126, 182, 0, 222, 42, 4, 182, 0, 254, 42, 7, 182, 0, 251, 62, 42, 180, 0, 216, 154, 0, 32]
abbrev dktX6_readCross_3 : List UInt8 := dkwX6_readCross_3 ++ dktX6_readCross_4
def dkwX6_readCross_2 : List UInt8 := [180, 0, 216, 154, 0, 27, 42, 180, 0, 35, 17, 6, 108, 46, 28, 184, 0, 116, 153, 0, 12, 42, 8, 42]
abbrev dktX6_readCross_2 : List UInt8 := dkwX6_readCross_2 ++ dktX6_readCross_3
def dkwX6_readCross_1 : List UInt8 := [182, 0, 222, 42, 180, 0, 216, 158, 0, 4, 177, 42, 182, 0, 226, 42, 7, 182, 0, 251, 61, 42]
abbrev dktX6_readCross_1 : List UInt8 := dkwX6_readCross_1 ++ dktX6_readCross_2
def dkwX6_readCross_0 : List UInt8 := [42, 180, 0, 35, 17, 6, 105, 46, 60, 27, 16, 24, 160, 0, 13, 42, 16, 6, 42, 180, 0, 126]
abbrev dktX6_readCross_0 : List UInt8 := dkwX6_readCross_0 ++ dktX6_readCross_1
theorem dksX6_readCross_0 : cX6_readCross.data.toList.drop 0 = dktX6_readCross_0 := by decide +kernel
theorem dksX6_readCross_1 : cX6_readCross.data.toList.drop 22 = dktX6_readCross_1 := dk_seg dksX6_readCross_0 22 rfl rfl
theorem dksX6_readCross_2 : cX6_readCross.data.toList.drop 44 = dktX6_readCross_2 := dk_seg dksX6_readCross_1 22 rfl rfl
theorem dksX6_readCross_3 : cX6_readCross.data.toList.drop 68 = dktX6_readCross_3 := dk_seg dksX6_readCross_2 24 rfl rfl
theorem dksX6_readCross_4 : cX6_readCross.data.toList.drop 92 = dktX6_readCross_4 := dk_seg dksX6_readCross_3 24 rfl rfl
theorem dksX6_readCross_5 : cX6_readCross.data.toList.drop 115 = dktX6_readCross_5 := dk_seg dksX6_readCross_4 23 rfl rfl
theorem dksX6_readCross_6 : cX6_readCross.data.toList.drop 139 = dktX6_readCross_6 := dk_seg dksX6_readCross_5 24 rfl rfl
theorem dksX6_readCross_7 : cX6_readCross.data.toList.drop 163 = dktX6_readCross_7 := dk_seg dksX6_readCross_6 24 rfl rfl
theorem dksX6_readCross_8 : cX6_readCross.data.toList.drop 187 = dktX6_readCross_8 := dk_seg dksX6_readCross_7 24 rfl rfl
theorem dX6_readCross_0 : decode cX6_readCross 0 = .ok (.aload_n 0, 1) := dk_42 (dk_at dksX6_readCross_0 0 rfl rfl)
theorem dX6_readCross_1 : decode cX6_readCross 1 = .ok (.getfield 35, 3) := dk_180 0 35 (dk_at dksX6_readCross_0 1 rfl rfl)
theorem dX6_readCross_4 : decode cX6_readCross 4 = .ok (.sipush 1641, 3) := dk_17 6 105 (dk_at dksX6_readCross_0 4 rfl rfl)
theorem dX6_readCross_7 : decode cX6_readCross 7 = .ok (.iaload, 1) := dk_46 (dk_at dksX6_readCross_0 7 rfl rfl)
theorem dX6_readCross_8 : decode cX6_readCross 8 = .ok (.istore_n 1, 1) := dk_60 (dk_at dksX6_readCross_0 8 rfl rfl)
theorem dX6_readCross_9 : decode cX6_readCross 9 = .ok (.iload_n 1, 1) := dk_27 (dk_at dksX6_readCross_0 9 rfl rfl)
theorem dX6_readCross_10 : decode cX6_readCross 10 = .ok (.bipush 24, 2) := dk_16 24 (dk_at dksX6_readCross_0 10 rfl rfl)
theorem dX6_readCross_12 : decode cX6_readCross 12 = .ok (.if_icmp .ne 13, 3) := dk_160 0 13 (dk_at dksX6_readCross_0 12 rfl rfl)
theorem dX6_readCross_15 : decode cX6_readCross 15 = .ok (.aload_n 0, 1) := dk_42 (dk_at dksX6_readCross_0 15 rfl rfl)
theorem dX6_readCross_16 : decode cX6_readCross 16 = .ok (.bipush 6, 2) := dk_16 6 (dk_at dksX6_readCross_0 16 rfl rfl)
theorem dX6_readCross_18 : decode cX6_readCross 18 = .ok (.aload_n 0, 1) := dk_42 (dk_at dksX6_readCross_0 18 rfl rfl)
theorem dX6_readCross_19 : decode cX6_readCross 19 = .ok (.getfield 126, 3) := dk_180 0 126 (dk_at dksX6_readCross_0 19 rfl rfl)
theorem dX6_readCross_22 : decode cX6_readCross 22 = .ok (.invokevirtual 222, 3) := dk_182 0 222 (dk_at dksX6_readCross_1 0 rfl rfl)
theorem dX6_readCross_25 : decode cX6_readCross 25 = .ok (.aload_n 0, 1) := dk_42 (dk_at dksX6_readCross_1 3 rfl rfl)
theorem dX6_readCross_26 : decode cX6_readCross 26 = .ok (.getfield 216, 3) := dk_180 0 216 (dk_at dksX6_readCross_1 4 rfl rfl)
theorem dX6_readCross_29 : decode cX6_readCross 29 = .ok (.ifCond .le 4, 3) := dk_158 0 4 (dk_at dksX6_readCross_1 7 rfl rfl)
theorem dX6_readCross_32 : decode cX6_readCross 32 = .ok (.return_, 1) := dk_177 (dk_at dksX6_readCross_1 10 rfl rfl)
theorem dX6_readCross_33 : decode cX6_readCross 33 = .ok (.aload_n 0, 1) := dk_42 (dk_at dksX6_readCross_1 11 rfl rfl)
theorem dX6_readCross_34 : decode cX6_readCross 34 = .ok (.invokevirtual 226, 3) := dk_182 0 226 (dk_at dksX6_readCross_1 12 rfl rfl)
theorem dX6_readCross_37 : decode cX6_readCross 37 = .ok (.aload_n 0, 1) := dk_42 (dk_at dksX6_readCross_1 15 rfl rfl)
theorem dX6_readCross_38 : decode cX6_readCross 38 = .ok (.iconst 4, 1) := dk_7 (dk_at dksX6_readCross_1 16 rfl rfl)
theorem dX6_readCross_39 : decode cX6_readCross 39 = .ok (.invokevirtual 251, 3) := dk_182 0 251 (dk_at dksX6_readCross_1 17 rfl rfl)
theorem dX6_readCross_42 : decode cX6_readCross 42 = .ok (.istore_n 2, 1) := dk_61 (dk_at dksX6_readCross_1 20 rfl rfl)
theorem dX6_readCross_43 : decode cX6_readCross 43 = .ok (.aload_n 0, 1) := dk_42 (dk_at dksX6_readCross_1 21 rfl rfl)
theorem dX6_readCross_44 : decode cX6_readCross 44 = .ok (.getfield 216, 3) := dk_180 0 216 (dk_at dksX6_readCross_2 0 rfl rfl)
theorem dX6_readCross_47 : decode cX6_readCross 47 = .ok (.ifCond .ne 27, 3) := dk_154 0 27 (dk_at dksX6_readCross_2 3 rfl rfl)
theorem dX6_readCross_50 : decode cX6_readCross 50 = .ok (.aload_n 0, 1) := dk_42 (dk_at dksX6_readCross_2 6 rfl rfl)
theorem dX6_readCross_51 : decode cX6_readCross 51 = .ok (.getfield 35, 3) := dk_180 0 35 (dk_at dksX6_readCross_2 7 rfl rfl)
theorem dX6_readCross_54 : decode cX6_readCross 54 = .ok (.sipush 1644, 3) := dk_17 6 108 (dk_at dksX6_readCross_2 10 rfl rfl)
theorem dX6_readCross_57 : decode cX6_readCross 57 = .ok (.iaload, 1) := dk_46 (dk_at dksX6_readCross_2 13 rfl rfl)
theorem dX6_readCross_58 : decode cX6_readCross 58 = .ok (.iload_n 2, 1) := dk_28 (dk_at dksX6_readCross_2 14 rfl rfl)
theorem dX6_readCross_59 : decode cX6_readCross 59 = .ok (.invokestatic 116, 3) := dk_184 0 116 (dk_at dksX6_readCross_2 15 rfl rfl)
theorem dX6_readCross_62 : decode cX6_readCross 62 = .ok (.ifCond .eq 12, 3) := dk_153 0 12 (dk_at dksX6_readCross_2 18 rfl rfl)
theorem dX6_readCross_65 : decode cX6_readCross 65 = .ok (.aload_n 0, 1) := dk_42 (dk_at dksX6_readCross_2 21 rfl rfl)
theorem dX6_readCross_66 : decode cX6_readCross 66 = .ok (.iconst 5, 1) := dk_8 (dk_at dksX6_readCross_2 22 rfl rfl)
theorem dX6_readCross_67 : decode cX6_readCross 67 = .ok (.aload_n 0, 1) := dk_42 (dk_at dksX6_readCross_2 23 rfl rfl)
theorem dX6_readCross_68 : decode cX6_readCross 68 = .ok (.getfield 126, 3) := dk_180 0 126 (dk_at dksX6_readCross_3 0 rfl rfl)
theorem dX6_readCross_71 : decode cX6_readCross 71 = .ok (.invokevirtual 222, 3) := dk_182 0 222 (dk_at dksX6_readCross_3 3 rfl rfl)
theorem dX6_readCross_74 : decode cX6_readCross 74 = .ok (.aload_n 0, 1) := dk_42 (dk_at dksX6_readCross_3 6 rfl rfl)
theorem dX6_readCross_75 : decode cX6_readCross 75 = .ok (.iconst 1, 1) := dk_4 (dk_at dksX6_readCross_3 7 rfl rfl)
theorem dX6_readCross_76 : decode cX6_readCross 76 = .ok (.invokevirtual 254, 3) := dk_182 0 254 (dk_at dksX6_readCross_3 8 rfl rfl)
theorem dX6_readCross_79 : decode cX6_readCross 79 = .ok (.aload_n 0, 1) := dk_42 (dk_at dksX6_readCross_3 11 rfl rfl)
theorem dX6_readCross_80 : decode cX6_readCross 80 = .ok (.iconst 4, 1) := dk_7 (dk_at dksX6_readCross_3 12 rfl rfl)
theorem dX6_readCross_81 : decode cX6_readCross 81 = .ok (.invokevirtual 251, 3) := dk_182 0 251 (dk_at dksX6_readCross_3 13 rfl rfl)
theorem dX6_readCross_84 : decode cX6_readCross 84 = .ok (.istore_n 3, 1) := dk_62 (dk_at dksX6_readCross_3 16 rfl rfl)
theorem dX6_readCross_85 : decode cX6_readCross 85 = .ok (.aload_n 0, 1) := dk_42 (dk_at dksX6_readCross_3 17 rfl rfl)
theorem dX6_readCross_86 : decode cX6_readCross 86 = .ok (.getfield 216, 3) := dk_180 0 216 (dk_at dksX6_readCross_3 18 rfl rfl)
theorem dX6_readCross_89 : decode cX6_readCross 89 = .ok (.ifCond .ne 32, 3) := dk_154 0 32 (dk_at dksX6_readCross_3 21 rfl rfl)
theorem dX6_readCross_92 : decode cX6_readCross 92 = .ok (.iload_n 3, 1) := dk_29 (dk_at dksX6_readCross_4 0 rfl rfl)
theorem dX6_readCross_93 : decode cX6_readCross 93 = .ok (.iload_n 2, 1) := dk_28 (dk_at dksX6_readCross_4 1 rfl rfl)
theorem dX6_readCross_94 : decode cX6_readCross 94 = .ok (.if_icmp .eq 18, 3) := dk_159 0 18 (dk_at dksX6_readCross_4 2 rfl rfl)
theorem dX6_readCross_97 : decode cX6_readCross 97 = .ok (.aload_n 0, 1) := dk_42 (dk_at dksX6_readCross_4 5 rfl rfl)
theorem dX6_readCross_98 : decode cX6_readCross 98 = .ok (.getfield 35, 3) := dk_180 0 35 (dk_at dksX6_readCross_4 6 rfl rfl)
theorem dX6_readCross_101 : decode cX6_readCross 101 = .ok (.sipush 1644, 3) := dk_17 6 108 (dk_at dksX6_readCross_4 9 rfl rfl)
theorem dX6_readCross_104 : decode cX6_readCross 104 = .ok (.iaload, 1) := dk_46 (dk_at dksX6_readCross_4 12 rfl rfl)
theorem dX6_readCross_105 : decode cX6_readCross 105 = .ok (.iload_n 3, 1) := dk_29 (dk_at dksX6_readCross_4 13 rfl rfl)
theorem dX6_readCross_106 : decode cX6_readCross 106 = .ok (.invokestatic 116, 3) := dk_184 0 116 (dk_at dksX6_readCross_4 14 rfl rfl)
theorem dX6_readCross_109 : decode cX6_readCross 109 = .ok (.ifCond .eq 12, 3) := dk_153 0 12 (dk_at dksX6_readCross_4 17 rfl rfl)
theorem dX6_readCross_112 : decode cX6_readCross 112 = .ok (.aload_n 0, 1) := dk_42 (dk_at dksX6_readCross_4 20 rfl rfl)
theorem dX6_readCross_113 : decode cX6_readCross 113 = .ok (.iconst 5, 1) := dk_8 (dk_at dksX6_readCross_4 21 rfl rfl)
theorem dX6_readCross_114 : decode cX6_readCross 114 = .ok (.aload_n 0, 1) := dk_42 (dk_at dksX6_readCross_4 22 rfl rfl)
theorem dX6_readCross_115 : decode cX6_readCross 115 = .ok (.getfield 126, 3) := dk_180 0 126 (dk_at dksX6_readCross_5 0 rfl rfl)
theorem dX6_readCross_118 : decode cX6_readCross 118 = .ok (.invokevirtual 222, 3) := dk_182 0 222 (dk_at dksX6_readCross_5 3 rfl rfl)
theorem dX6_readCross_121 : decode cX6_readCross 121 = .ok (.aload_n 0, 1) := dk_42 (dk_at dksX6_readCross_5 6 rfl rfl)
theorem dX6_readCross_122 : decode cX6_readCross 122 = .ok (.iconst 1, 1) := dk_4 (dk_at dksX6_readCross_5 7 rfl rfl)
theorem dX6_readCross_123 : decode cX6_readCross 123 = .ok (.invokevirtual 254, 3) := dk_182 0 254 (dk_at dksX6_readCross_5 8 rfl rfl)
theorem dX6_readCross_126 : decode cX6_readCross 126 = .ok (.aload_n 0, 1) := dk_42 (dk_at dksX6_readCross_5 11 rfl rfl)
theorem dX6_readCross_127 : decode cX6_readCross 127 = .ok (.invokevirtual 200, 3) := dk_182 0 200 (dk_at dksX6_readCross_5 12 rfl rfl)
theorem dX6_readCross_130 : decode cX6_readCross 130 = .ok (.istore 4, 2) := dk_54 4 (dk_at dksX6_readCross_5 15 rfl rfl)
theorem dX6_readCross_132 : decode cX6_readCross 132 = .ok (.aload_n 0, 1) := dk_42 (dk_at dksX6_readCross_5 17 rfl rfl)
theorem dX6_readCross_133 : decode cX6_readCross 133 = .ok (.getfield 216, 3) := dk_180 0 216 (dk_at dksX6_readCross_5 18 rfl rfl)
theorem dX6_readCross_136 : decode cX6_readCross 136 = .ok (.ifCond .ne 12, 3) := dk_154 0 12 (dk_at dksX6_readCross_5 21 rfl rfl)
theorem dX6_readCross_139 : decode cX6_readCross 139 = .ok (.iload 4, 2) := dk_21 4 (dk_at dksX6_readCross_6 0 rfl rfl)
theorem dX6_readCross_141 : decode cX6_readCross 141 = .ok (.ifCond .le 7, 3) := dk_158 0 7 (dk_at dksX6_readCross_6 2 rfl rfl)
theorem dX6_readCross_144 : decode cX6_readCross 144 = .ok (.aload_n 0, 1) := dk_42 (dk_at dksX6_readCross_6 5 rfl rfl)
theorem dX6_readCross_145 : decode cX6_readCross 145 = .ok (.invokevirtual 226, 3) := dk_182 0 226 (dk_at dksX6_readCross_6 6 rfl rfl)
theorem dX6_readCross_148 : decode cX6_readCross 148 = .ok (.aload_n 0, 1) := dk_42 (dk_at dksX6_readCross_6 9 rfl rfl)
theorem dX6_readCross_149 : decode cX6_readCross 149 = .ok (.getfield 216, 3) := dk_180 0 216 (dk_at dksX6_readCross_6 10 rfl rfl)
theorem dX6_readCross_152 : decode cX6_readCross 152 = .ok (.ifCond .le 4, 3) := dk_158 0 4 (dk_at dksX6_readCross_6 13 rfl rfl)
theorem dX6_readCross_155 : decode cX6_readCross 155 = .ok (.return_, 1) := dk_177 (dk_at dksX6_readCross_6 16 rfl rfl)
theorem dX6_readCross_156 : decode cX6_readCross 156 = .ok (.aload_n 0, 1) := dk_42 (dk_at dksX6_readCross_6 17 rfl rfl)
theorem dX6_readCross_157 : decode cX6_readCross 157 = .ok (.getfield 35, 3) := dk_180 0 35 (dk_at dksX6_readCross_6 18 rfl rfl)
theorem dX6_readCross_160 : decode cX6_readCross 160 = .ok (.sipush 1700, 3) := dk_17 6 164 (dk_at dksX6_readCross_6 21 rfl rfl)
theorem dX6_readCross_163 : decode cX6_readCross 163 = .ok (.iload_n 1, 1) := dk_27 (dk_at dksX6_readCross_7 0 rfl rfl)
theorem dX6_readCross_164 : decode cX6_readCross 164 = .ok (.iadd, 1) := dk_96 (dk_at dksX6_readCross_7 1 rfl rfl)
theorem dX6_readCross_165 : decode cX6_readCross 165 = .ok (.iload_n 2, 1) := dk_28 (dk_at dksX6_readCross_7 2 rfl rfl)
theorem dX6_readCross_166 : decode cX6_readCross 166 = .ok (.iastore, 1) := dk_79 (dk_at dksX6_readCross_7 3 rfl rfl)
theorem dX6_readCross_167 : decode cX6_readCross 167 = .ok (.aload_n 0, 1) := dk_42 (dk_at dksX6_readCross_7 4 rfl rfl)
theorem dX6_readCross_168 : decode cX6_readCross 168 = .ok (.getfield 35, 3) := dk_180 0 35 (dk_at dksX6_readCross_7 5 rfl rfl)
theorem dX6_readCross_171 : decode cX6_readCross 171 = .ok (.sipush 1724, 3) := dk_17 6 188 (dk_at dksX6_readCross_7 8 rfl rfl)
theorem dX6_readCross_174 : decode cX6_readCross 174 = .ok (.iload_n 1, 1) := dk_27 (dk_at dksX6_readCross_7 11 rfl rfl)
theorem dX6_readCross_175 : decode cX6_readCross 175 = .ok (.iadd, 1) := dk_96 (dk_at dksX6_readCross_7 12 rfl rfl)
theorem dX6_readCross_176 : decode cX6_readCross 176 = .ok (.iload_n 3, 1) := dk_29 (dk_at dksX6_readCross_7 13 rfl rfl)
theorem dX6_readCross_177 : decode cX6_readCross 177 = .ok (.iastore, 1) := dk_79 (dk_at dksX6_readCross_7 14 rfl rfl)
theorem dX6_readCross_178 : decode cX6_readCross 178 = .ok (.aload_n 0, 1) := dk_42 (dk_at dksX6_readCross_7 15 rfl rfl)
theorem dX6_readCross_179 : decode cX6_readCross 179 = .ok (.getfield 35, 3) := dk_180 0 35 (dk_at dksX6_readCross_7 16 rfl rfl)
theorem dX6_readCross_182 : decode cX6_readCross 182 = .ok (.sipush 1748, 3) := dk_17 6 212 (dk_at dksX6_readCross_7 19 rfl rfl)
theorem dX6_readCross_185 : decode cX6_readCross 185 = .ok (.iload_n 1, 1) := dk_27 (dk_at dksX6_readCross_7 22 rfl rfl)
theorem dX6_readCross_186 : decode cX6_readCross 186 = .ok (.iadd, 1) := dk_96 (dk_at dksX6_readCross_7 23 rfl rfl)
theorem dX6_readCross_187 : decode cX6_readCross 187 = .ok (.iload 4, 2) := dk_21 4 (dk_at dksX6_readCross_8 0 rfl rfl)
theorem dX6_readCross_189 : decode cX6_readCross 189 = .ok (.iastore, 1) := dk_79 (dk_at dksX6_readCross_8 2 rfl rfl)
theorem dX6_readCross_190 : decode cX6_readCross 190 = .ok (.aload_n 0, 1) := dk_42 (dk_at dksX6_readCross_8 3 rfl rfl)
theorem dX6_readCross_191 : decode cX6_readCross 191 = .ok (.getfield 35, 3) := dk_180 0 35 (dk_at dksX6_readCross_8 4 rfl rfl)
theorem dX6_readCross_194 : decode cX6_readCross 194 = .ok (.sipush 1641, 3) := dk_17 6 105 (dk_at dksX6_readCross_8 7 rfl rfl)
theorem dX6_readCross_197 : decode cX6_readCross 197 = .ok (.dup2, 1) := dk_92 (dk_at dksX6_readCross_8 10 rfl rfl)
theorem dX6_readCross_198 : decode cX6_readCross 198 = .ok (.iaload, 1) := dk_46 (dk_at dksX6_readCross_8 11 rfl rfl)
theorem dX6_readCross_199 : decode cX6_readCross 199 = .ok (.iconst 1, 1) := dk_4 (dk_at dksX6_readCross_8 12 rfl rfl)
theorem dX6_readCross_200 : decode cX6_readCross 200 = .ok (.iadd, 1) := dk_96 (dk_at dksX6_readCross_8 13 rfl rfl)
theorem dX6_readCross_201 : decode cX6_readCross 201 = .ok (.iastore, 1) := dk_79 (dk_at dksX6_readCross_8 14 rfl rfl)
theorem dX6_readCross_202 : decode cX6_readCross 202 = .ok (.return_, 1) := dk_177 (dk_at dksX6_readCross_8 15 rfl rfl)
abbrev cX6_told : ByteArray := prog_16_method_56_code
def yX6_told : MethodName := ⟨RX6, "told", "(I)I"⟩
def dkwX6_told_2 : List UInt8 := [3, 28, 184, 0, 248, 172]
abbrev dktX6_told_2 : List UInt8 := dkwX6_told_2 ++ []
def dkwX6_told_1 : List UInt8 := [158, 0, 5, 3, 172, 42, 27, 182, 0, 242, 61, 28, 156, 0, 12, 42, 6, 42, 180, 0, 126, 182, 0, 222]
abbrev dktX6_told_1 : List UInt8 := dkwX6_told_1 ++ dktX6_told_2
def dkwX6_told_0 : List UInt8 := [42, 180, 0, 216, 154, 0, 14, 42, 182, 0, 239, 154, 0, 7, 42, 182, 0, 229, 42, 180, 0, 216]
abbrev dktX6_told_0 : List UInt8 := dkwX6_told_0 ++ dktX6_told_1
theorem dksX6_told_0 : cX6_told.data.toList.drop 0 = dktX6_told_0 := by decide +kernel
theorem dksX6_told_1 : cX6_told.data.toList.drop 22 = dktX6_told_1 := dk_seg dksX6_told_0 22 rfl rfl
theorem dksX6_told_2 : cX6_told.data.toList.drop 46 = dktX6_told_2 := dk_seg dksX6_told_1 24 rfl rfl
theorem dX6_told_0 : decode cX6_told 0 = .ok (.aload_n 0, 1) := dk_42 (dk_at dksX6_told_0 0 rfl rfl)
theorem dX6_told_1 : decode cX6_told 1 = .ok (.getfield 216, 3) := dk_180 0 216 (dk_at dksX6_told_0 1 rfl rfl)
theorem dX6_told_4 : decode cX6_told 4 = .ok (.ifCond .ne 14, 3) := dk_154 0 14 (dk_at dksX6_told_0 4 rfl rfl)
theorem dX6_told_7 : decode cX6_told 7 = .ok (.aload_n 0, 1) := dk_42 (dk_at dksX6_told_0 7 rfl rfl)
theorem dX6_told_8 : decode cX6_told 8 = .ok (.invokevirtual 239, 3) := dk_182 0 239 (dk_at dksX6_told_0 8 rfl rfl)
theorem dX6_told_11 : decode cX6_told 11 = .ok (.ifCond .ne 7, 3) := dk_154 0 7 (dk_at dksX6_told_0 11 rfl rfl)
theorem dX6_told_14 : decode cX6_told 14 = .ok (.aload_n 0, 1) := dk_42 (dk_at dksX6_told_0 14 rfl rfl)
theorem dX6_told_15 : decode cX6_told 15 = .ok (.invokevirtual 229, 3) := dk_182 0 229 (dk_at dksX6_told_0 15 rfl rfl)
theorem dX6_told_18 : decode cX6_told 18 = .ok (.aload_n 0, 1) := dk_42 (dk_at dksX6_told_0 18 rfl rfl)
theorem dX6_told_19 : decode cX6_told 19 = .ok (.getfield 216, 3) := dk_180 0 216 (dk_at dksX6_told_0 19 rfl rfl)
theorem dX6_told_22 : decode cX6_told 22 = .ok (.ifCond .le 5, 3) := dk_158 0 5 (dk_at dksX6_told_1 0 rfl rfl)
theorem dX6_told_25 : decode cX6_told 25 = .ok (.iconst 0, 1) := dk_3 (dk_at dksX6_told_1 3 rfl rfl)
theorem dX6_told_26 : decode cX6_told 26 = .ok (.ireturn, 1) := dk_172 (dk_at dksX6_told_1 4 rfl rfl)
theorem dX6_told_27 : decode cX6_told 27 = .ok (.aload_n 0, 1) := dk_42 (dk_at dksX6_told_1 5 rfl rfl)
theorem dX6_told_28 : decode cX6_told 28 = .ok (.iload_n 1, 1) := dk_27 (dk_at dksX6_told_1 6 rfl rfl)
theorem dX6_told_29 : decode cX6_told 29 = .ok (.invokevirtual 242, 3) := dk_182 0 242 (dk_at dksX6_told_1 7 rfl rfl)
theorem dX6_told_32 : decode cX6_told 32 = .ok (.istore_n 2, 1) := dk_61 (dk_at dksX6_told_1 10 rfl rfl)
theorem dX6_told_33 : decode cX6_told 33 = .ok (.iload_n 2, 1) := dk_28 (dk_at dksX6_told_1 11 rfl rfl)
theorem dX6_told_34 : decode cX6_told 34 = .ok (.ifCond .ge 12, 3) := dk_156 0 12 (dk_at dksX6_told_1 12 rfl rfl)
theorem dX6_told_37 : decode cX6_told 37 = .ok (.aload_n 0, 1) := dk_42 (dk_at dksX6_told_1 15 rfl rfl)
theorem dX6_told_38 : decode cX6_told 38 = .ok (.iconst 3, 1) := dk_6 (dk_at dksX6_told_1 16 rfl rfl)
theorem dX6_told_39 : decode cX6_told 39 = .ok (.aload_n 0, 1) := dk_42 (dk_at dksX6_told_1 17 rfl rfl)
theorem dX6_told_40 : decode cX6_told 40 = .ok (.getfield 126, 3) := dk_180 0 126 (dk_at dksX6_told_1 18 rfl rfl)
theorem dX6_told_43 : decode cX6_told 43 = .ok (.invokevirtual 222, 3) := dk_182 0 222 (dk_at dksX6_told_1 21 rfl rfl)
theorem dX6_told_46 : decode cX6_told 46 = .ok (.iconst 0, 1) := dk_3 (dk_at dksX6_told_2 0 rfl rfl)
theorem dX6_told_47 : decode cX6_told 47 = .ok (.iload_n 2, 1) := dk_28 (dk_at dksX6_told_2 1 rfl rfl)
theorem dX6_told_48 : decode cX6_told 48 = .ok (.invokestatic 248, 3) := dk_184 0 248 (dk_at dksX6_told_2 2 rfl rfl)
theorem dX6_told_51 : decode cX6_told 51 = .ok (.ireturn, 1) := dk_172 (dk_at dksX6_told_2 5 rfl rfl)
abbrev cX6_has : ByteArray := prog_16_method_18_code
def yX6_has : MethodName := ⟨RX6, "has", "(II)Z"⟩
def dkwX6_has_0 : List UInt8 := [26, 27, 122, 4, 126, 4, 160, 0, 7, 4, 167, 0, 4, 3, 172]
abbrev dktX6_has_0 : List UInt8 := dkwX6_has_0 ++ []
theorem dksX6_has_0 : cX6_has.data.toList.drop 0 = dktX6_has_0 := by decide +kernel
theorem dX6_has_0 : decode cX6_has 0 = .ok (.iload_n 0, 1) := dk_26 (dk_at dksX6_has_0 0 rfl rfl)
theorem dX6_has_1 : decode cX6_has 1 = .ok (.iload_n 1, 1) := dk_27 (dk_at dksX6_has_0 1 rfl rfl)
theorem dX6_has_2 : decode cX6_has 2 = .ok (.ishr, 1) := dk_122 (dk_at dksX6_has_0 2 rfl rfl)
theorem dX6_has_3 : decode cX6_has 3 = .ok (.iconst 1, 1) := dk_4 (dk_at dksX6_has_0 3 rfl rfl)
theorem dX6_has_4 : decode cX6_has 4 = .ok (.iand, 1) := dk_126 (dk_at dksX6_has_0 4 rfl rfl)
theorem dX6_has_5 : decode cX6_has 5 = .ok (.iconst 1, 1) := dk_4 (dk_at dksX6_has_0 5 rfl rfl)
theorem dX6_has_6 : decode cX6_has 6 = .ok (.if_icmp .ne 7, 3) := dk_160 0 7 (dk_at dksX6_has_0 6 rfl rfl)
theorem dX6_has_9 : decode cX6_has 9 = .ok (.iconst 1, 1) := dk_4 (dk_at dksX6_has_0 9 rfl rfl)
theorem dX6_has_10 : decode cX6_has 10 = .ok (.goto 4, 3) := dk_167 0 4 (dk_at dksX6_has_0 10 rfl rfl)
theorem dX6_has_13 : decode cX6_has 13 = .ok (.iconst 0, 1) := dk_3 (dk_at dksX6_has_0 13 rfl rfl)
theorem dX6_has_14 : decode cX6_has 14 = .ok (.ireturn, 1) := dk_172 (dk_at dksX6_has_0 14 rfl rfl)
abbrev cX6_readLook : ByteArray := prog_16_method_60_code
def yX6_readLook : MethodName := ⟨RX6, "readLook", "()V"⟩
def dkwX6_readLook_6 : List UInt8 := [4, 96, 79, 177]
abbrev dktX6_readLook_6 : List UInt8 := dkwX6_readLook_6 ++ []
def dkwX6_readLook_5 : List UInt8 := [158, 0, 4, 177, 42, 180, 0, 35, 17, 6, 160, 27, 96, 28, 79, 42, 180, 0, 35, 17, 6, 106, 92, 46]
abbrev dktX6_readLook_5 : List UInt8 := dkwX6_readLook_5 ++ dktX6_readLook_6
def dkwX6_readLook_4 : List UInt8 := [120, 128, 61, 42, 180, 0, 132, 4, 160, 0, 7, 4, 167, 0, 4, 3, 62, 167, 255, 187, 42, 180, 0, 216]
abbrev dktX6_readLook_4 : List UInt8 := dkwX6_readLook_4 ++ dktX6_readLook_5
def dkwX6_readLook_3 : List UInt8 := [184, 0, 116, 153, 0, 12, 42, 8, 42, 180, 0, 126, 182, 0, 222, 42, 4, 182, 0, 254, 28, 4, 21, 4]
abbrev dktX6_readLook_3 : List UInt8 := dkwX6_readLook_3 ++ dktX6_readLook_4
def dkwX6_readLook_2 : List UInt8 := [154, 0, 68, 29, 153, 0, 64, 42, 7, 182, 0, 251, 54, 4, 42, 180, 0, 216, 154, 0, 21, 28, 21, 4]
abbrev dktX6_readLook_2 : List UInt8 := dkwX6_readLook_2 ++ dktX6_readLook_3
def dkwX6_readLook_1 : List UInt8 := [42, 180, 0, 216, 158, 0, 4, 177, 42, 16, 8, 27, 96, 182, 1, 2, 3, 61, 4, 62, 42, 180, 0, 216]
abbrev dktX6_readLook_1 : List UInt8 := dkwX6_readLook_1 ++ dktX6_readLook_2
def dkwX6_readLook_0 : List UInt8 := [42, 180, 0, 35, 17, 6, 106, 46, 60, 27, 6, 160, 0, 13, 42, 16, 6, 42, 180, 0, 126, 182, 0, 222]
abbrev dktX6_readLook_0 : List UInt8 := dkwX6_readLook_0 ++ dktX6_readLook_1
theorem dksX6_readLook_0 : cX6_readLook.data.toList.drop 0 = dktX6_readLook_0 := by decide +kernel
theorem dksX6_readLook_1 : cX6_readLook.data.toList.drop 24 = dktX6_readLook_1 := dk_seg dksX6_readLook_0 24 rfl rfl
theorem dksX6_readLook_2 : cX6_readLook.data.toList.drop 48 = dktX6_readLook_2 := dk_seg dksX6_readLook_1 24 rfl rfl
theorem dksX6_readLook_3 : cX6_readLook.data.toList.drop 72 = dktX6_readLook_3 := dk_seg dksX6_readLook_2 24 rfl rfl
theorem dksX6_readLook_4 : cX6_readLook.data.toList.drop 96 = dktX6_readLook_4 := dk_seg dksX6_readLook_3 24 rfl rfl
theorem dksX6_readLook_5 : cX6_readLook.data.toList.drop 120 = dktX6_readLook_5 := dk_seg dksX6_readLook_4 24 rfl rfl
theorem dksX6_readLook_6 : cX6_readLook.data.toList.drop 144 = dktX6_readLook_6 := dk_seg dksX6_readLook_5 24 rfl rfl
theorem dX6_readLook_0 : decode cX6_readLook 0 = .ok (.aload_n 0, 1) := dk_42 (dk_at dksX6_readLook_0 0 rfl rfl)
theorem dX6_readLook_1 : decode cX6_readLook 1 = .ok (.getfield 35, 3) := dk_180 0 35 (dk_at dksX6_readLook_0 1 rfl rfl)
theorem dX6_readLook_4 : decode cX6_readLook 4 = .ok (.sipush 1642, 3) := dk_17 6 106 (dk_at dksX6_readLook_0 4 rfl rfl)
theorem dX6_readLook_7 : decode cX6_readLook 7 = .ok (.iaload, 1) := dk_46 (dk_at dksX6_readLook_0 7 rfl rfl)
theorem dX6_readLook_8 : decode cX6_readLook 8 = .ok (.istore_n 1, 1) := dk_60 (dk_at dksX6_readLook_0 8 rfl rfl)
theorem dX6_readLook_9 : decode cX6_readLook 9 = .ok (.iload_n 1, 1) := dk_27 (dk_at dksX6_readLook_0 9 rfl rfl)
theorem dX6_readLook_10 : decode cX6_readLook 10 = .ok (.iconst 3, 1) := dk_6 (dk_at dksX6_readLook_0 10 rfl rfl)
theorem dX6_readLook_11 : decode cX6_readLook 11 = .ok (.if_icmp .ne 13, 3) := dk_160 0 13 (dk_at dksX6_readLook_0 11 rfl rfl)
theorem dX6_readLook_14 : decode cX6_readLook 14 = .ok (.aload_n 0, 1) := dk_42 (dk_at dksX6_readLook_0 14 rfl rfl)
theorem dX6_readLook_15 : decode cX6_readLook 15 = .ok (.bipush 6, 2) := dk_16 6 (dk_at dksX6_readLook_0 15 rfl rfl)
theorem dX6_readLook_17 : decode cX6_readLook 17 = .ok (.aload_n 0, 1) := dk_42 (dk_at dksX6_readLook_0 17 rfl rfl)
theorem dX6_readLook_18 : decode cX6_readLook 18 = .ok (.getfield 126, 3) := dk_180 0 126 (dk_at dksX6_readLook_0 18 rfl rfl)
theorem dX6_readLook_21 : decode cX6_readLook 21 = .ok (.invokevirtual 222, 3) := dk_182 0 222 (dk_at dksX6_readLook_0 21 rfl rfl)
theorem dX6_readLook_24 : decode cX6_readLook 24 = .ok (.aload_n 0, 1) := dk_42 (dk_at dksX6_readLook_1 0 rfl rfl)
theorem dX6_readLook_25 : decode cX6_readLook 25 = .ok (.getfield 216, 3) := dk_180 0 216 (dk_at dksX6_readLook_1 1 rfl rfl)
theorem dX6_readLook_28 : decode cX6_readLook 28 = .ok (.ifCond .le 4, 3) := dk_158 0 4 (dk_at dksX6_readLook_1 4 rfl rfl)
theorem dX6_readLook_31 : decode cX6_readLook 31 = .ok (.return_, 1) := dk_177 (dk_at dksX6_readLook_1 7 rfl rfl)
theorem dX6_readLook_32 : decode cX6_readLook 32 = .ok (.aload_n 0, 1) := dk_42 (dk_at dksX6_readLook_1 8 rfl rfl)
theorem dX6_readLook_33 : decode cX6_readLook 33 = .ok (.bipush 8, 2) := dk_16 8 (dk_at dksX6_readLook_1 9 rfl rfl)
theorem dX6_readLook_35 : decode cX6_readLook 35 = .ok (.iload_n 1, 1) := dk_27 (dk_at dksX6_readLook_1 11 rfl rfl)
theorem dX6_readLook_36 : decode cX6_readLook 36 = .ok (.iadd, 1) := dk_96 (dk_at dksX6_readLook_1 12 rfl rfl)
theorem dX6_readLook_37 : decode cX6_readLook 37 = .ok (.invokevirtual 258, 3) := dk_182 1 2 (dk_at dksX6_readLook_1 13 rfl rfl)
theorem dX6_readLook_40 : decode cX6_readLook 40 = .ok (.iconst 0, 1) := dk_3 (dk_at dksX6_readLook_1 16 rfl rfl)
theorem dX6_readLook_41 : decode cX6_readLook 41 = .ok (.istore_n 2, 1) := dk_61 (dk_at dksX6_readLook_1 17 rfl rfl)
theorem dX6_readLook_42 : decode cX6_readLook 42 = .ok (.iconst 1, 1) := dk_4 (dk_at dksX6_readLook_1 18 rfl rfl)
theorem dX6_readLook_43 : decode cX6_readLook 43 = .ok (.istore_n 3, 1) := dk_62 (dk_at dksX6_readLook_1 19 rfl rfl)
theorem dX6_readLook_44 : decode cX6_readLook 44 = .ok (.aload_n 0, 1) := dk_42 (dk_at dksX6_readLook_1 20 rfl rfl)
theorem dX6_readLook_45 : decode cX6_readLook 45 = .ok (.getfield 216, 3) := dk_180 0 216 (dk_at dksX6_readLook_1 21 rfl rfl)
theorem dX6_readLook_48 : decode cX6_readLook 48 = .ok (.ifCond .ne 68, 3) := dk_154 0 68 (dk_at dksX6_readLook_2 0 rfl rfl)
theorem dX6_readLook_51 : decode cX6_readLook 51 = .ok (.iload_n 3, 1) := dk_29 (dk_at dksX6_readLook_2 3 rfl rfl)
theorem dX6_readLook_52 : decode cX6_readLook 52 = .ok (.ifCond .eq 64, 3) := dk_153 0 64 (dk_at dksX6_readLook_2 4 rfl rfl)
theorem dX6_readLook_55 : decode cX6_readLook 55 = .ok (.aload_n 0, 1) := dk_42 (dk_at dksX6_readLook_2 7 rfl rfl)
theorem dX6_readLook_56 : decode cX6_readLook 56 = .ok (.iconst 4, 1) := dk_7 (dk_at dksX6_readLook_2 8 rfl rfl)
theorem dX6_readLook_57 : decode cX6_readLook 57 = .ok (.invokevirtual 251, 3) := dk_182 0 251 (dk_at dksX6_readLook_2 9 rfl rfl)
theorem dX6_readLook_60 : decode cX6_readLook 60 = .ok (.istore 4, 2) := dk_54 4 (dk_at dksX6_readLook_2 12 rfl rfl)
theorem dX6_readLook_62 : decode cX6_readLook 62 = .ok (.aload_n 0, 1) := dk_42 (dk_at dksX6_readLook_2 14 rfl rfl)
theorem dX6_readLook_63 : decode cX6_readLook 63 = .ok (.getfield 216, 3) := dk_180 0 216 (dk_at dksX6_readLook_2 15 rfl rfl)
theorem dX6_readLook_66 : decode cX6_readLook 66 = .ok (.ifCond .ne 21, 3) := dk_154 0 21 (dk_at dksX6_readLook_2 18 rfl rfl)
theorem dX6_readLook_69 : decode cX6_readLook 69 = .ok (.iload_n 2, 1) := dk_28 (dk_at dksX6_readLook_2 21 rfl rfl)
theorem dX6_readLook_70 : decode cX6_readLook 70 = .ok (.iload 4, 2) := dk_21 4 (dk_at dksX6_readLook_2 22 rfl rfl)
theorem dX6_readLook_72 : decode cX6_readLook 72 = .ok (.invokestatic 116, 3) := dk_184 0 116 (dk_at dksX6_readLook_3 0 rfl rfl)
theorem dX6_readLook_75 : decode cX6_readLook 75 = .ok (.ifCond .eq 12, 3) := dk_153 0 12 (dk_at dksX6_readLook_3 3 rfl rfl)
theorem dX6_readLook_78 : decode cX6_readLook 78 = .ok (.aload_n 0, 1) := dk_42 (dk_at dksX6_readLook_3 6 rfl rfl)
theorem dX6_readLook_79 : decode cX6_readLook 79 = .ok (.iconst 5, 1) := dk_8 (dk_at dksX6_readLook_3 7 rfl rfl)
theorem dX6_readLook_80 : decode cX6_readLook 80 = .ok (.aload_n 0, 1) := dk_42 (dk_at dksX6_readLook_3 8 rfl rfl)
theorem dX6_readLook_81 : decode cX6_readLook 81 = .ok (.getfield 126, 3) := dk_180 0 126 (dk_at dksX6_readLook_3 9 rfl rfl)
theorem dX6_readLook_84 : decode cX6_readLook 84 = .ok (.invokevirtual 222, 3) := dk_182 0 222 (dk_at dksX6_readLook_3 12 rfl rfl)
theorem dX6_readLook_87 : decode cX6_readLook 87 = .ok (.aload_n 0, 1) := dk_42 (dk_at dksX6_readLook_3 15 rfl rfl)
theorem dX6_readLook_88 : decode cX6_readLook 88 = .ok (.iconst 1, 1) := dk_4 (dk_at dksX6_readLook_3 16 rfl rfl)
theorem dX6_readLook_89 : decode cX6_readLook 89 = .ok (.invokevirtual 254, 3) := dk_182 0 254 (dk_at dksX6_readLook_3 17 rfl rfl)
theorem dX6_readLook_92 : decode cX6_readLook 92 = .ok (.iload_n 2, 1) := dk_28 (dk_at dksX6_readLook_3 20 rfl rfl)
theorem dX6_readLook_93 : decode cX6_readLook 93 = .ok (.iconst 1, 1) := dk_4 (dk_at dksX6_readLook_3 21 rfl rfl)
theorem dX6_readLook_94 : decode cX6_readLook 94 = .ok (.iload 4, 2) := dk_21 4 (dk_at dksX6_readLook_3 22 rfl rfl)
theorem dX6_readLook_96 : decode cX6_readLook 96 = .ok (.ishl, 1) := dk_120 (dk_at dksX6_readLook_4 0 rfl rfl)
theorem dX6_readLook_97 : decode cX6_readLook 97 = .ok (.ior, 1) := dk_128 (dk_at dksX6_readLook_4 1 rfl rfl)
theorem dX6_readLook_98 : decode cX6_readLook 98 = .ok (.istore_n 2, 1) := dk_61 (dk_at dksX6_readLook_4 2 rfl rfl)
theorem dX6_readLook_99 : decode cX6_readLook 99 = .ok (.aload_n 0, 1) := dk_42 (dk_at dksX6_readLook_4 3 rfl rfl)
theorem dX6_readLook_100 : decode cX6_readLook 100 = .ok (.getfield 132, 3) := dk_180 0 132 (dk_at dksX6_readLook_4 4 rfl rfl)
theorem dX6_readLook_103 : decode cX6_readLook 103 = .ok (.iconst 1, 1) := dk_4 (dk_at dksX6_readLook_4 7 rfl rfl)
theorem dX6_readLook_104 : decode cX6_readLook 104 = .ok (.if_icmp .ne 7, 3) := dk_160 0 7 (dk_at dksX6_readLook_4 8 rfl rfl)
theorem dX6_readLook_107 : decode cX6_readLook 107 = .ok (.iconst 1, 1) := dk_4 (dk_at dksX6_readLook_4 11 rfl rfl)
theorem dX6_readLook_108 : decode cX6_readLook 108 = .ok (.goto 4, 3) := dk_167 0 4 (dk_at dksX6_readLook_4 12 rfl rfl)
theorem dX6_readLook_111 : decode cX6_readLook 111 = .ok (.iconst 0, 1) := dk_3 (dk_at dksX6_readLook_4 15 rfl rfl)
theorem dX6_readLook_112 : decode cX6_readLook 112 = .ok (.istore_n 3, 1) := dk_62 (dk_at dksX6_readLook_4 16 rfl rfl)
theorem dX6_readLook_113 : decode cX6_readLook 113 = .ok (.goto (-69), 3) := dk_167 255 187 (dk_at dksX6_readLook_4 17 rfl rfl)
theorem dX6_readLook_116 : decode cX6_readLook 116 = .ok (.aload_n 0, 1) := dk_42 (dk_at dksX6_readLook_4 20 rfl rfl)
theorem dX6_readLook_117 : decode cX6_readLook 117 = .ok (.getfield 216, 3) := dk_180 0 216 (dk_at dksX6_readLook_4 21 rfl rfl)
theorem dX6_readLook_120 : decode cX6_readLook 120 = .ok (.ifCond .le 4, 3) := dk_158 0 4 (dk_at dksX6_readLook_5 0 rfl rfl)
theorem dX6_readLook_123 : decode cX6_readLook 123 = .ok (.return_, 1) := dk_177 (dk_at dksX6_readLook_5 3 rfl rfl)
theorem dX6_readLook_124 : decode cX6_readLook 124 = .ok (.aload_n 0, 1) := dk_42 (dk_at dksX6_readLook_5 4 rfl rfl)
theorem dX6_readLook_125 : decode cX6_readLook 125 = .ok (.getfield 35, 3) := dk_180 0 35 (dk_at dksX6_readLook_5 5 rfl rfl)
theorem dX6_readLook_128 : decode cX6_readLook 128 = .ok (.sipush 1696, 3) := dk_17 6 160 (dk_at dksX6_readLook_5 8 rfl rfl)
theorem dX6_readLook_131 : decode cX6_readLook 131 = .ok (.iload_n 1, 1) := dk_27 (dk_at dksX6_readLook_5 11 rfl rfl)
theorem dX6_readLook_132 : decode cX6_readLook 132 = .ok (.iadd, 1) := dk_96 (dk_at dksX6_readLook_5 12 rfl rfl)
theorem dX6_readLook_133 : decode cX6_readLook 133 = .ok (.iload_n 2, 1) := dk_28 (dk_at dksX6_readLook_5 13 rfl rfl)
theorem dX6_readLook_134 : decode cX6_readLook 134 = .ok (.iastore, 1) := dk_79 (dk_at dksX6_readLook_5 14 rfl rfl)
theorem dX6_readLook_135 : decode cX6_readLook 135 = .ok (.aload_n 0, 1) := dk_42 (dk_at dksX6_readLook_5 15 rfl rfl)
theorem dX6_readLook_136 : decode cX6_readLook 136 = .ok (.getfield 35, 3) := dk_180 0 35 (dk_at dksX6_readLook_5 16 rfl rfl)
theorem dX6_readLook_139 : decode cX6_readLook 139 = .ok (.sipush 1642, 3) := dk_17 6 106 (dk_at dksX6_readLook_5 19 rfl rfl)
theorem dX6_readLook_142 : decode cX6_readLook 142 = .ok (.dup2, 1) := dk_92 (dk_at dksX6_readLook_5 22 rfl rfl)
theorem dX6_readLook_143 : decode cX6_readLook 143 = .ok (.iaload, 1) := dk_46 (dk_at dksX6_readLook_5 23 rfl rfl)
theorem dX6_readLook_144 : decode cX6_readLook 144 = .ok (.iconst 1, 1) := dk_4 (dk_at dksX6_readLook_6 0 rfl rfl)
theorem dX6_readLook_145 : decode cX6_readLook 145 = .ok (.iadd, 1) := dk_96 (dk_at dksX6_readLook_6 1 rfl rfl)
theorem dX6_readLook_146 : decode cX6_readLook 146 = .ok (.iastore, 1) := dk_79 (dk_at dksX6_readLook_6 2 rfl rfl)
theorem dX6_readLook_147 : decode cX6_readLook 147 = .ok (.return_, 1) := dk_177 (dk_at dksX6_readLook_6 3 rfl rfl)
abbrev cX6_isSign : ByteArray := prog_16_method_25_code
def yX6_isSign : MethodName := ⟨RX6, "isSign", "(I)Z"⟩
def dkwX6_isSign_0 : List UInt8 := [42, 180, 0, 132, 6, 160, 0, 15, 42, 180, 0, 151, 27, 160, 0, 7, 4, 167, 0, 4, 3, 172]
abbrev dktX6_isSign_0 : List UInt8 := dkwX6_isSign_0 ++ []
theorem dksX6_isSign_0 : cX6_isSign.data.toList.drop 0 = dktX6_isSign_0 := by decide +kernel
theorem dX6_isSign_0 : decode cX6_isSign 0 = .ok (.aload_n 0, 1) := dk_42 (dk_at dksX6_isSign_0 0 rfl rfl)
theorem dX6_isSign_1 : decode cX6_isSign 1 = .ok (.getfield 132, 3) := dk_180 0 132 (dk_at dksX6_isSign_0 1 rfl rfl)
theorem dX6_isSign_4 : decode cX6_isSign 4 = .ok (.iconst 3, 1) := dk_6 (dk_at dksX6_isSign_0 4 rfl rfl)
theorem dX6_isSign_5 : decode cX6_isSign 5 = .ok (.if_icmp .ne 15, 3) := dk_160 0 15 (dk_at dksX6_isSign_0 5 rfl rfl)
theorem dX6_isSign_8 : decode cX6_isSign 8 = .ok (.aload_n 0, 1) := dk_42 (dk_at dksX6_isSign_0 8 rfl rfl)
theorem dX6_isSign_9 : decode cX6_isSign 9 = .ok (.getfield 151, 3) := dk_180 0 151 (dk_at dksX6_isSign_0 9 rfl rfl)
theorem dX6_isSign_12 : decode cX6_isSign 12 = .ok (.iload_n 1, 1) := dk_27 (dk_at dksX6_isSign_0 12 rfl rfl)
theorem dX6_isSign_13 : decode cX6_isSign 13 = .ok (.if_icmp .ne 7, 3) := dk_160 0 7 (dk_at dksX6_isSign_0 13 rfl rfl)
theorem dX6_isSign_16 : decode cX6_isSign 16 = .ok (.iconst 1, 1) := dk_4 (dk_at dksX6_isSign_0 16 rfl rfl)
theorem dX6_isSign_17 : decode cX6_isSign 17 = .ok (.goto 4, 3) := dk_167 0 4 (dk_at dksX6_isSign_0 17 rfl rfl)
theorem dX6_isSign_20 : decode cX6_isSign 20 = .ok (.iconst 0, 1) := dk_3 (dk_at dksX6_isSign_0 20 rfl rfl)
theorem dX6_isSign_21 : decode cX6_isSign 21 = .ok (.ireturn, 1) := dk_172 (dk_at dksX6_isSign_0 21 rfl rfl)
abbrev cX6_isWell : ByteArray := prog_16_method_51_code
def yX6_isWell : MethodName := ⟨RX6, "isWell", "()Z"⟩
def dkwX6_isWell_2 : List UInt8 := [172]
abbrev dktX6_isWell_2 : List UInt8 := dkwX6_isWell_2 ++ []
def dkwX6_isWell_1 : List UInt8 := [181, 0, 32, 42, 180, 0, 216, 153, 0, 12, 42, 16, 10, 182, 0, 92, 153, 0, 7, 4, 167, 0, 4, 3]
abbrev dktX6_isWell_1 : List UInt8 := dkwX6_isWell_1 ++ dktX6_isWell_2
def dkwX6_isWell_0 : List UInt8 := [42, 42, 180, 0, 216, 181, 0, 28, 42, 42, 180, 0, 216, 154, 0, 7, 2, 167, 0, 7, 42, 180, 0, 219]
abbrev dktX6_isWell_0 : List UInt8 := dkwX6_isWell_0 ++ dktX6_isWell_1
theorem dksX6_isWell_0 : cX6_isWell.data.toList.drop 0 = dktX6_isWell_0 := by decide +kernel
theorem dksX6_isWell_1 : cX6_isWell.data.toList.drop 24 = dktX6_isWell_1 := dk_seg dksX6_isWell_0 24 rfl rfl
theorem dksX6_isWell_2 : cX6_isWell.data.toList.drop 48 = dktX6_isWell_2 := dk_seg dksX6_isWell_1 24 rfl rfl
theorem dX6_isWell_0 : decode cX6_isWell 0 = .ok (.aload_n 0, 1) := dk_42 (dk_at dksX6_isWell_0 0 rfl rfl)
theorem dX6_isWell_1 : decode cX6_isWell 1 = .ok (.aload_n 0, 1) := dk_42 (dk_at dksX6_isWell_0 1 rfl rfl)
theorem dX6_isWell_2 : decode cX6_isWell 2 = .ok (.getfield 216, 3) := dk_180 0 216 (dk_at dksX6_isWell_0 2 rfl rfl)
theorem dX6_isWell_5 : decode cX6_isWell 5 = .ok (.putfield 28, 3) := dk_181 0 28 (dk_at dksX6_isWell_0 5 rfl rfl)
theorem dX6_isWell_8 : decode cX6_isWell 8 = .ok (.aload_n 0, 1) := dk_42 (dk_at dksX6_isWell_0 8 rfl rfl)
theorem dX6_isWell_9 : decode cX6_isWell 9 = .ok (.aload_n 0, 1) := dk_42 (dk_at dksX6_isWell_0 9 rfl rfl)
theorem dX6_isWell_10 : decode cX6_isWell 10 = .ok (.getfield 216, 3) := dk_180 0 216 (dk_at dksX6_isWell_0 10 rfl rfl)
theorem dX6_isWell_13 : decode cX6_isWell 13 = .ok (.ifCond .ne 7, 3) := dk_154 0 7 (dk_at dksX6_isWell_0 13 rfl rfl)
theorem dX6_isWell_16 : decode cX6_isWell 16 = .ok (.iconst (-1), 1) := dk_2 (dk_at dksX6_isWell_0 16 rfl rfl)
theorem dX6_isWell_17 : decode cX6_isWell 17 = .ok (.goto 7, 3) := dk_167 0 7 (dk_at dksX6_isWell_0 17 rfl rfl)
theorem dX6_isWell_20 : decode cX6_isWell 20 = .ok (.aload_n 0, 1) := dk_42 (dk_at dksX6_isWell_0 20 rfl rfl)
theorem dX6_isWell_21 : decode cX6_isWell 21 = .ok (.getfield 219, 3) := dk_180 0 219 (dk_at dksX6_isWell_0 21 rfl rfl)
theorem dX6_isWell_24 : decode cX6_isWell 24 = .ok (.putfield 32, 3) := dk_181 0 32 (dk_at dksX6_isWell_1 0 rfl rfl)
theorem dX6_isWell_27 : decode cX6_isWell 27 = .ok (.aload_n 0, 1) := dk_42 (dk_at dksX6_isWell_1 3 rfl rfl)
theorem dX6_isWell_28 : decode cX6_isWell 28 = .ok (.getfield 216, 3) := dk_180 0 216 (dk_at dksX6_isWell_1 4 rfl rfl)
theorem dX6_isWell_31 : decode cX6_isWell 31 = .ok (.ifCond .eq 12, 3) := dk_153 0 12 (dk_at dksX6_isWell_1 7 rfl rfl)
theorem dX6_isWell_34 : decode cX6_isWell 34 = .ok (.aload_n 0, 1) := dk_42 (dk_at dksX6_isWell_1 10 rfl rfl)
theorem dX6_isWell_35 : decode cX6_isWell 35 = .ok (.bipush 10, 2) := dk_16 10 (dk_at dksX6_isWell_1 11 rfl rfl)
theorem dX6_isWell_37 : decode cX6_isWell 37 = .ok (.invokevirtual 92, 3) := dk_182 0 92 (dk_at dksX6_isWell_1 13 rfl rfl)
theorem dX6_isWell_40 : decode cX6_isWell 40 = .ok (.ifCond .eq 7, 3) := dk_153 0 7 (dk_at dksX6_isWell_1 16 rfl rfl)
theorem dX6_isWell_43 : decode cX6_isWell 43 = .ok (.iconst 1, 1) := dk_4 (dk_at dksX6_isWell_1 19 rfl rfl)
theorem dX6_isWell_44 : decode cX6_isWell 44 = .ok (.goto 4, 3) := dk_167 0 4 (dk_at dksX6_isWell_1 20 rfl rfl)
theorem dX6_isWell_47 : decode cX6_isWell 47 = .ok (.iconst 0, 1) := dk_3 (dk_at dksX6_isWell_1 23 rfl rfl)
theorem dX6_isWell_48 : decode cX6_isWell 48 = .ok (.ireturn, 1) := dk_172 (dk_at dksX6_isWell_2 0 rfl rfl)
abbrev cX6_copy : ByteArray := prog_16_method_148_code
def yX6_copy : MethodName := ⟨RX6, "copy", "(II)V"⟩
def dkwX6_copy_3 : List UInt8 := [167, 255, 225, 177]
abbrev dktX6_copy_3 : List UInt8 := dkwX6_copy_3 ++ []
def dkwX6_copy_2 : List UInt8 := [180, 0, 41, 16, 11, 28, 104, 29, 96, 42, 180, 0, 41, 16, 11, 27, 104, 29, 96, 47, 80, 132, 3, 1]
abbrev dktX6_copy_2 : List UInt8 := dkwX6_copy_2 ++ dktX6_copy_3
def dkwX6_copy_1 : List UInt8 := [17, 1, 154, 27, 104, 29, 96, 46, 79, 132, 3, 1, 167, 255, 222, 3, 62, 29, 16, 11, 162, 0, 31, 42]
abbrev dktX6_copy_1 : List UInt8 := dkwX6_copy_1 ++ dktX6_copy_2
def dkwX6_copy_0 : List UInt8 := [3, 62, 29, 17, 1, 154, 162, 0, 33, 42, 180, 0, 35, 17, 1, 154, 28, 104, 29, 96, 42, 180, 0, 35]
abbrev dktX6_copy_0 : List UInt8 := dkwX6_copy_0 ++ dktX6_copy_1
theorem dksX6_copy_0 : cX6_copy.data.toList.drop 0 = dktX6_copy_0 := by decide +kernel
theorem dksX6_copy_1 : cX6_copy.data.toList.drop 24 = dktX6_copy_1 := dk_seg dksX6_copy_0 24 rfl rfl
theorem dksX6_copy_2 : cX6_copy.data.toList.drop 48 = dktX6_copy_2 := dk_seg dksX6_copy_1 24 rfl rfl
theorem dksX6_copy_3 : cX6_copy.data.toList.drop 72 = dktX6_copy_3 := dk_seg dksX6_copy_2 24 rfl rfl
theorem dX6_copy_0 : decode cX6_copy 0 = .ok (.iconst 0, 1) := dk_3 (dk_at dksX6_copy_0 0 rfl rfl)
theorem dX6_copy_1 : decode cX6_copy 1 = .ok (.istore_n 3, 1) := dk_62 (dk_at dksX6_copy_0 1 rfl rfl)
theorem dX6_copy_2 : decode cX6_copy 2 = .ok (.iload_n 3, 1) := dk_29 (dk_at dksX6_copy_0 2 rfl rfl)
theorem dX6_copy_3 : decode cX6_copy 3 = .ok (.sipush 410, 3) := dk_17 1 154 (dk_at dksX6_copy_0 3 rfl rfl)
theorem dX6_copy_6 : decode cX6_copy 6 = .ok (.if_icmp .ge 33, 3) := dk_162 0 33 (dk_at dksX6_copy_0 6 rfl rfl)
theorem dX6_copy_9 : decode cX6_copy 9 = .ok (.aload_n 0, 1) := dk_42 (dk_at dksX6_copy_0 9 rfl rfl)
theorem dX6_copy_10 : decode cX6_copy 10 = .ok (.getfield 35, 3) := dk_180 0 35 (dk_at dksX6_copy_0 10 rfl rfl)
theorem dX6_copy_13 : decode cX6_copy 13 = .ok (.sipush 410, 3) := dk_17 1 154 (dk_at dksX6_copy_0 13 rfl rfl)
theorem dX6_copy_16 : decode cX6_copy 16 = .ok (.iload_n 2, 1) := dk_28 (dk_at dksX6_copy_0 16 rfl rfl)
theorem dX6_copy_17 : decode cX6_copy 17 = .ok (.imul, 1) := dk_104 (dk_at dksX6_copy_0 17 rfl rfl)
theorem dX6_copy_18 : decode cX6_copy 18 = .ok (.iload_n 3, 1) := dk_29 (dk_at dksX6_copy_0 18 rfl rfl)
theorem dX6_copy_19 : decode cX6_copy 19 = .ok (.iadd, 1) := dk_96 (dk_at dksX6_copy_0 19 rfl rfl)
theorem dX6_copy_20 : decode cX6_copy 20 = .ok (.aload_n 0, 1) := dk_42 (dk_at dksX6_copy_0 20 rfl rfl)
theorem dX6_copy_21 : decode cX6_copy 21 = .ok (.getfield 35, 3) := dk_180 0 35 (dk_at dksX6_copy_0 21 rfl rfl)
theorem dX6_copy_24 : decode cX6_copy 24 = .ok (.sipush 410, 3) := dk_17 1 154 (dk_at dksX6_copy_1 0 rfl rfl)
theorem dX6_copy_27 : decode cX6_copy 27 = .ok (.iload_n 1, 1) := dk_27 (dk_at dksX6_copy_1 3 rfl rfl)
theorem dX6_copy_28 : decode cX6_copy 28 = .ok (.imul, 1) := dk_104 (dk_at dksX6_copy_1 4 rfl rfl)
theorem dX6_copy_29 : decode cX6_copy 29 = .ok (.iload_n 3, 1) := dk_29 (dk_at dksX6_copy_1 5 rfl rfl)
theorem dX6_copy_30 : decode cX6_copy 30 = .ok (.iadd, 1) := dk_96 (dk_at dksX6_copy_1 6 rfl rfl)
theorem dX6_copy_31 : decode cX6_copy 31 = .ok (.iaload, 1) := dk_46 (dk_at dksX6_copy_1 7 rfl rfl)
theorem dX6_copy_32 : decode cX6_copy 32 = .ok (.iastore, 1) := dk_79 (dk_at dksX6_copy_1 8 rfl rfl)
theorem dX6_copy_33 : decode cX6_copy 33 = .ok (.iinc 3 1, 3) := dk_132 3 1 (dk_at dksX6_copy_1 9 rfl rfl)
theorem dX6_copy_36 : decode cX6_copy 36 = .ok (.goto (-34), 3) := dk_167 255 222 (dk_at dksX6_copy_1 12 rfl rfl)
theorem dX6_copy_39 : decode cX6_copy 39 = .ok (.iconst 0, 1) := dk_3 (dk_at dksX6_copy_1 15 rfl rfl)
theorem dX6_copy_40 : decode cX6_copy 40 = .ok (.istore_n 3, 1) := dk_62 (dk_at dksX6_copy_1 16 rfl rfl)
theorem dX6_copy_41 : decode cX6_copy 41 = .ok (.iload_n 3, 1) := dk_29 (dk_at dksX6_copy_1 17 rfl rfl)
theorem dX6_copy_42 : decode cX6_copy 42 = .ok (.bipush 11, 2) := dk_16 11 (dk_at dksX6_copy_1 18 rfl rfl)
theorem dX6_copy_44 : decode cX6_copy 44 = .ok (.if_icmp .ge 31, 3) := dk_162 0 31 (dk_at dksX6_copy_1 20 rfl rfl)
theorem dX6_copy_47 : decode cX6_copy 47 = .ok (.aload_n 0, 1) := dk_42 (dk_at dksX6_copy_1 23 rfl rfl)
theorem dX6_copy_48 : decode cX6_copy 48 = .ok (.getfield 41, 3) := dk_180 0 41 (dk_at dksX6_copy_2 0 rfl rfl)
theorem dX6_copy_51 : decode cX6_copy 51 = .ok (.bipush 11, 2) := dk_16 11 (dk_at dksX6_copy_2 3 rfl rfl)
theorem dX6_copy_53 : decode cX6_copy 53 = .ok (.iload_n 2, 1) := dk_28 (dk_at dksX6_copy_2 5 rfl rfl)
theorem dX6_copy_54 : decode cX6_copy 54 = .ok (.imul, 1) := dk_104 (dk_at dksX6_copy_2 6 rfl rfl)
theorem dX6_copy_55 : decode cX6_copy 55 = .ok (.iload_n 3, 1) := dk_29 (dk_at dksX6_copy_2 7 rfl rfl)
theorem dX6_copy_56 : decode cX6_copy 56 = .ok (.iadd, 1) := dk_96 (dk_at dksX6_copy_2 8 rfl rfl)
theorem dX6_copy_57 : decode cX6_copy 57 = .ok (.aload_n 0, 1) := dk_42 (dk_at dksX6_copy_2 9 rfl rfl)
theorem dX6_copy_58 : decode cX6_copy 58 = .ok (.getfield 41, 3) := dk_180 0 41 (dk_at dksX6_copy_2 10 rfl rfl)
theorem dX6_copy_61 : decode cX6_copy 61 = .ok (.bipush 11, 2) := dk_16 11 (dk_at dksX6_copy_2 13 rfl rfl)
theorem dX6_copy_63 : decode cX6_copy 63 = .ok (.iload_n 1, 1) := dk_27 (dk_at dksX6_copy_2 15 rfl rfl)
theorem dX6_copy_64 : decode cX6_copy 64 = .ok (.imul, 1) := dk_104 (dk_at dksX6_copy_2 16 rfl rfl)
theorem dX6_copy_65 : decode cX6_copy 65 = .ok (.iload_n 3, 1) := dk_29 (dk_at dksX6_copy_2 17 rfl rfl)
theorem dX6_copy_66 : decode cX6_copy 66 = .ok (.iadd, 1) := dk_96 (dk_at dksX6_copy_2 18 rfl rfl)
theorem dX6_copy_67 : decode cX6_copy 67 = .ok (.laload, 1) := dk_47 (dk_at dksX6_copy_2 19 rfl rfl)
theorem dX6_copy_68 : decode cX6_copy 68 = .ok (.lastore, 1) := dk_80 (dk_at dksX6_copy_2 20 rfl rfl)
theorem dX6_copy_69 : decode cX6_copy 69 = .ok (.iinc 3 1, 3) := dk_132 3 1 (dk_at dksX6_copy_2 21 rfl rfl)
theorem dX6_copy_72 : decode cX6_copy 72 = .ok (.goto (-31), 3) := dk_167 255 225 (dk_at dksX6_copy_3 0 rfl rfl)
theorem dX6_copy_75 : decode cX6_copy 75 = .ok (.return_, 1) := dk_177 (dk_at dksX6_copy_3 3 rfl rfl)
abbrev cX6_years : ByteArray := prog_16_method_65_code
def yX6_years : MethodName := ⟨RX6, "years", "(I)I"⟩
def dkwX6_years_5 : List UInt8 := [167, 255, 222, 42, 180, 1, 35, 172]
abbrev dktX6_years_5 : List UInt8 := dkwX6_years_5 ++ []
def dkwX6_years_4 : List UInt8 := [42, 180, 0, 35, 17, 0, 134, 28, 96, 42, 180, 0, 35, 17, 6, 238, 28, 96, 46, 79, 132, 2, 1]
abbrev dktX6_years_4 : List UInt8 := dkwX6_years_4 ++ dktX6_years_5
def dkwX6_years_3 : List UInt8 := [180, 0, 35, 17, 0, 133, 42, 180, 1, 35, 79, 3, 61, 28, 16, 9, 42, 180, 1, 35, 104, 162, 0, 29]
abbrev dktX6_years_3 : List UInt8 := dkwX6_years_3 ++ dktX6_years_4
def dkwX6_years_2 : List UInt8 := [167, 255, 237, 42, 182, 1, 23, 154, 0, 5, 2, 172, 42, 180, 0, 35, 17, 0, 132, 4, 79, 42]
abbrev dktX6_years_2 : List UInt8 := dkwX6_years_2 ++ dktX6_years_3
def dkwX6_years_1 : List UInt8 := [3, 181, 1, 35, 42, 180, 0, 216, 154, 0, 18, 42, 180, 0, 132, 153, 0, 11, 42, 3, 182, 1, 41]
abbrev dktX6_years_1 : List UInt8 := dkwX6_years_1 ++ dktX6_years_2
def dkwX6_years_0 : List UInt8 := [42, 3, 181, 0, 77, 42, 3, 181, 0, 80, 42, 27, 17, 1, 44, 182, 1, 8, 154, 0, 5, 2, 172, 42]
abbrev dktX6_years_0 : List UInt8 := dkwX6_years_0 ++ dktX6_years_1
theorem dksX6_years_0 : cX6_years.data.toList.drop 0 = dktX6_years_0 := by decide +kernel
theorem dksX6_years_1 : cX6_years.data.toList.drop 24 = dktX6_years_1 := dk_seg dksX6_years_0 24 rfl rfl
theorem dksX6_years_2 : cX6_years.data.toList.drop 47 = dktX6_years_2 := dk_seg dksX6_years_1 23 rfl rfl
theorem dksX6_years_3 : cX6_years.data.toList.drop 69 = dktX6_years_3 := dk_seg dksX6_years_2 22 rfl rfl
theorem dksX6_years_4 : cX6_years.data.toList.drop 93 = dktX6_years_4 := dk_seg dksX6_years_3 24 rfl rfl
theorem dksX6_years_5 : cX6_years.data.toList.drop 116 = dktX6_years_5 := dk_seg dksX6_years_4 23 rfl rfl
theorem dX6_years_0 : decode cX6_years 0 = .ok (.aload_n 0, 1) := dk_42 (dk_at dksX6_years_0 0 rfl rfl)
theorem dX6_years_1 : decode cX6_years 1 = .ok (.iconst 0, 1) := dk_3 (dk_at dksX6_years_0 1 rfl rfl)
theorem dX6_years_2 : decode cX6_years 2 = .ok (.putfield 77, 3) := dk_181 0 77 (dk_at dksX6_years_0 2 rfl rfl)
theorem dX6_years_5 : decode cX6_years 5 = .ok (.aload_n 0, 1) := dk_42 (dk_at dksX6_years_0 5 rfl rfl)
theorem dX6_years_6 : decode cX6_years 6 = .ok (.iconst 0, 1) := dk_3 (dk_at dksX6_years_0 6 rfl rfl)
theorem dX6_years_7 : decode cX6_years 7 = .ok (.putfield 80, 3) := dk_181 0 80 (dk_at dksX6_years_0 7 rfl rfl)
theorem dX6_years_10 : decode cX6_years 10 = .ok (.aload_n 0, 1) := dk_42 (dk_at dksX6_years_0 10 rfl rfl)
theorem dX6_years_11 : decode cX6_years 11 = .ok (.iload_n 1, 1) := dk_27 (dk_at dksX6_years_0 11 rfl rfl)
theorem dX6_years_12 : decode cX6_years 12 = .ok (.sipush 300, 3) := dk_17 1 44 (dk_at dksX6_years_0 12 rfl rfl)
theorem dX6_years_15 : decode cX6_years 15 = .ok (.invokevirtual 264, 3) := dk_182 1 8 (dk_at dksX6_years_0 15 rfl rfl)
theorem dX6_years_18 : decode cX6_years 18 = .ok (.ifCond .ne 5, 3) := dk_154 0 5 (dk_at dksX6_years_0 18 rfl rfl)
theorem dX6_years_21 : decode cX6_years 21 = .ok (.iconst (-1), 1) := dk_2 (dk_at dksX6_years_0 21 rfl rfl)
theorem dX6_years_22 : decode cX6_years 22 = .ok (.ireturn, 1) := dk_172 (dk_at dksX6_years_0 22 rfl rfl)
theorem dX6_years_23 : decode cX6_years 23 = .ok (.aload_n 0, 1) := dk_42 (dk_at dksX6_years_0 23 rfl rfl)
theorem dX6_years_24 : decode cX6_years 24 = .ok (.iconst 0, 1) := dk_3 (dk_at dksX6_years_1 0 rfl rfl)
theorem dX6_years_25 : decode cX6_years 25 = .ok (.putfield 291, 3) := dk_181 1 35 (dk_at dksX6_years_1 1 rfl rfl)
theorem dX6_years_28 : decode cX6_years 28 = .ok (.aload_n 0, 1) := dk_42 (dk_at dksX6_years_1 4 rfl rfl)
theorem dX6_years_29 : decode cX6_years 29 = .ok (.getfield 216, 3) := dk_180 0 216 (dk_at dksX6_years_1 5 rfl rfl)
theorem dX6_years_32 : decode cX6_years 32 = .ok (.ifCond .ne 18, 3) := dk_154 0 18 (dk_at dksX6_years_1 8 rfl rfl)
theorem dX6_years_35 : decode cX6_years 35 = .ok (.aload_n 0, 1) := dk_42 (dk_at dksX6_years_1 11 rfl rfl)
theorem dX6_years_36 : decode cX6_years 36 = .ok (.getfield 132, 3) := dk_180 0 132 (dk_at dksX6_years_1 12 rfl rfl)
theorem dX6_years_39 : decode cX6_years 39 = .ok (.ifCond .eq 11, 3) := dk_153 0 11 (dk_at dksX6_years_1 15 rfl rfl)
theorem dX6_years_42 : decode cX6_years 42 = .ok (.aload_n 0, 1) := dk_42 (dk_at dksX6_years_1 18 rfl rfl)
theorem dX6_years_43 : decode cX6_years 43 = .ok (.iconst 0, 1) := dk_3 (dk_at dksX6_years_1 19 rfl rfl)
theorem dX6_years_44 : decode cX6_years 44 = .ok (.invokevirtual 297, 3) := dk_182 1 41 (dk_at dksX6_years_1 20 rfl rfl)
theorem dX6_years_47 : decode cX6_years 47 = .ok (.goto (-19), 3) := dk_167 255 237 (dk_at dksX6_years_2 0 rfl rfl)
theorem dX6_years_50 : decode cX6_years 50 = .ok (.aload_n 0, 1) := dk_42 (dk_at dksX6_years_2 3 rfl rfl)
theorem dX6_years_51 : decode cX6_years 51 = .ok (.invokevirtual 279, 3) := dk_182 1 23 (dk_at dksX6_years_2 4 rfl rfl)
theorem dX6_years_54 : decode cX6_years 54 = .ok (.ifCond .ne 5, 3) := dk_154 0 5 (dk_at dksX6_years_2 7 rfl rfl)
theorem dX6_years_57 : decode cX6_years 57 = .ok (.iconst (-1), 1) := dk_2 (dk_at dksX6_years_2 10 rfl rfl)
theorem dX6_years_58 : decode cX6_years 58 = .ok (.ireturn, 1) := dk_172 (dk_at dksX6_years_2 11 rfl rfl)
theorem dX6_years_59 : decode cX6_years 59 = .ok (.aload_n 0, 1) := dk_42 (dk_at dksX6_years_2 12 rfl rfl)
theorem dX6_years_60 : decode cX6_years 60 = .ok (.getfield 35, 3) := dk_180 0 35 (dk_at dksX6_years_2 13 rfl rfl)
theorem dX6_years_63 : decode cX6_years 63 = .ok (.sipush 132, 3) := dk_17 0 132 (dk_at dksX6_years_2 16 rfl rfl)
theorem dX6_years_66 : decode cX6_years 66 = .ok (.iconst 1, 1) := dk_4 (dk_at dksX6_years_2 19 rfl rfl)
theorem dX6_years_67 : decode cX6_years 67 = .ok (.iastore, 1) := dk_79 (dk_at dksX6_years_2 20 rfl rfl)
theorem dX6_years_68 : decode cX6_years 68 = .ok (.aload_n 0, 1) := dk_42 (dk_at dksX6_years_2 21 rfl rfl)
theorem dX6_years_69 : decode cX6_years 69 = .ok (.getfield 35, 3) := dk_180 0 35 (dk_at dksX6_years_3 0 rfl rfl)
theorem dX6_years_72 : decode cX6_years 72 = .ok (.sipush 133, 3) := dk_17 0 133 (dk_at dksX6_years_3 3 rfl rfl)
theorem dX6_years_75 : decode cX6_years 75 = .ok (.aload_n 0, 1) := dk_42 (dk_at dksX6_years_3 6 rfl rfl)
theorem dX6_years_76 : decode cX6_years 76 = .ok (.getfield 291, 3) := dk_180 1 35 (dk_at dksX6_years_3 7 rfl rfl)
theorem dX6_years_79 : decode cX6_years 79 = .ok (.iastore, 1) := dk_79 (dk_at dksX6_years_3 10 rfl rfl)
theorem dX6_years_80 : decode cX6_years 80 = .ok (.iconst 0, 1) := dk_3 (dk_at dksX6_years_3 11 rfl rfl)
theorem dX6_years_81 : decode cX6_years 81 = .ok (.istore_n 2, 1) := dk_61 (dk_at dksX6_years_3 12 rfl rfl)
theorem dX6_years_82 : decode cX6_years 82 = .ok (.iload_n 2, 1) := dk_28 (dk_at dksX6_years_3 13 rfl rfl)
theorem dX6_years_83 : decode cX6_years 83 = .ok (.bipush 9, 2) := dk_16 9 (dk_at dksX6_years_3 14 rfl rfl)
theorem dX6_years_85 : decode cX6_years 85 = .ok (.aload_n 0, 1) := dk_42 (dk_at dksX6_years_3 16 rfl rfl)
theorem dX6_years_86 : decode cX6_years 86 = .ok (.getfield 291, 3) := dk_180 1 35 (dk_at dksX6_years_3 17 rfl rfl)
theorem dX6_years_89 : decode cX6_years 89 = .ok (.imul, 1) := dk_104 (dk_at dksX6_years_3 20 rfl rfl)
theorem dX6_years_90 : decode cX6_years 90 = .ok (.if_icmp .ge 29, 3) := dk_162 0 29 (dk_at dksX6_years_3 21 rfl rfl)
theorem dX6_years_93 : decode cX6_years 93 = .ok (.aload_n 0, 1) := dk_42 (dk_at dksX6_years_4 0 rfl rfl)
theorem dX6_years_94 : decode cX6_years 94 = .ok (.getfield 35, 3) := dk_180 0 35 (dk_at dksX6_years_4 1 rfl rfl)
theorem dX6_years_97 : decode cX6_years 97 = .ok (.sipush 134, 3) := dk_17 0 134 (dk_at dksX6_years_4 4 rfl rfl)
theorem dX6_years_100 : decode cX6_years 100 = .ok (.iload_n 2, 1) := dk_28 (dk_at dksX6_years_4 7 rfl rfl)
theorem dX6_years_101 : decode cX6_years 101 = .ok (.iadd, 1) := dk_96 (dk_at dksX6_years_4 8 rfl rfl)
theorem dX6_years_102 : decode cX6_years 102 = .ok (.aload_n 0, 1) := dk_42 (dk_at dksX6_years_4 9 rfl rfl)
theorem dX6_years_103 : decode cX6_years 103 = .ok (.getfield 35, 3) := dk_180 0 35 (dk_at dksX6_years_4 10 rfl rfl)
theorem dX6_years_106 : decode cX6_years 106 = .ok (.sipush 1774, 3) := dk_17 6 238 (dk_at dksX6_years_4 13 rfl rfl)
theorem dX6_years_109 : decode cX6_years 109 = .ok (.iload_n 2, 1) := dk_28 (dk_at dksX6_years_4 16 rfl rfl)
theorem dX6_years_110 : decode cX6_years 110 = .ok (.iadd, 1) := dk_96 (dk_at dksX6_years_4 17 rfl rfl)
theorem dX6_years_111 : decode cX6_years 111 = .ok (.iaload, 1) := dk_46 (dk_at dksX6_years_4 18 rfl rfl)
theorem dX6_years_112 : decode cX6_years 112 = .ok (.iastore, 1) := dk_79 (dk_at dksX6_years_4 19 rfl rfl)
theorem dX6_years_113 : decode cX6_years 113 = .ok (.iinc 2 1, 3) := dk_132 2 1 (dk_at dksX6_years_4 20 rfl rfl)
theorem dX6_years_116 : decode cX6_years 116 = .ok (.goto (-34), 3) := dk_167 255 222 (dk_at dksX6_years_5 0 rfl rfl)
theorem dX6_years_119 : decode cX6_years 119 = .ok (.aload_n 0, 1) := dk_42 (dk_at dksX6_years_5 3 rfl rfl)
theorem dX6_years_120 : decode cX6_years 120 = .ok (.getfield 291, 3) := dk_180 1 35 (dk_at dksX6_years_5 4 rfl rfl)
theorem dX6_years_123 : decode cX6_years 123 = .ok (.ireturn, 1) := dk_172 (dk_at dksX6_years_5 7 rfl rfl)
abbrev cX6_readStep : ByteArray := prog_16_method_64_code
def yX6_readStep : MethodName := ⟨RX6, "readStep", "(I)V"⟩
def dkwX6_readStep_8 : List UInt8 := [182, 1, 20, 182, 0, 254, 42, 180, 0, 35, 21, 4, 16, 8, 96, 42, 180, 1, 35, 79, 177]
abbrev dktX6_readStep_8 : List UInt8 := dkwX6_readStep_8 ++ []
def dkwX6_readStep_7 : List UInt8 := [182, 1, 41, 167, 255, 231, 29, 153, 0, 21, 42, 42, 182, 0, 210, 182, 0, 254, 42, 42, 16, 59]
abbrev dktX6_readStep_7 : List UInt8 := dkwX6_readStep_7 ++ dktX6_readStep_8
def dkwX6_readStep_6 : List UInt8 := [29, 153, 0, 27, 42, 180, 0, 216, 154, 0, 20, 42, 182, 0, 210, 154, 0, 13, 42, 27, 4, 96]
abbrev dktX6_readStep_6 : List UInt8 := dkwX6_readStep_6 ++ dktX6_readStep_7
def dkwX6_readStep_5 : List UInt8 := [42, 180, 0, 35, 21, 4, 28, 79, 42, 21, 4, 182, 1, 38, 42, 42, 16, 59, 182, 1, 20, 182, 0, 254]
abbrev dktX6_readStep_5 : List UInt8 := dkwX6_readStep_5 ++ dktX6_readStep_6
def dkwX6_readStep_4 : List UInt8 := [16, 9, 42, 180, 1, 35, 104, 96, 54, 4, 42, 89, 180, 1, 35, 4, 96, 181, 1, 35, 42, 182, 0, 226]
abbrev dktX6_readStep_4 : List UInt8 := dkwX6_readStep_4 ++ dktX6_readStep_5
def dkwX6_readStep_3 : List UInt8 := [160, 0, 13, 42, 16, 7, 42, 180, 0, 126, 182, 0, 222, 42, 180, 0, 216, 158, 0, 4, 177, 17, 6, 238]
abbrev dktX6_readStep_3 : List UInt8 := dkwX6_readStep_3 ++ dktX6_readStep_4
def dkwX6_readStep_2 : List UInt8 := [16, 6, 42, 180, 0, 126, 182, 0, 222, 42, 180, 0, 216, 154, 0, 22, 29, 153, 0, 18, 27, 6]
abbrev dktX6_readStep_2 : List UInt8 := dkwX6_readStep_2 ++ dktX6_readStep_3
def dkwX6_readStep_1 : List UInt8 := [156, 0, 7, 42, 182, 0, 229, 42, 180, 0, 216, 154, 0, 22, 42, 180, 1, 35, 16, 30, 160, 0, 13, 42]
abbrev dktX6_readStep_1 : List UInt8 := dkwX6_readStep_1 ++ dktX6_readStep_2
def dkwX6_readStep_0 : List UInt8 := [42, 182, 0, 204, 61, 28, 16, 6, 159, 0, 9, 28, 16, 7, 160, 0, 7, 4, 167, 0, 4, 3, 62, 28]
abbrev dktX6_readStep_0 : List UInt8 := dkwX6_readStep_0 ++ dktX6_readStep_1
theorem dksX6_readStep_0 : cX6_readStep.data.toList.drop 0 = dktX6_readStep_0 := by decide +kernel
theorem dksX6_readStep_1 : cX6_readStep.data.toList.drop 24 = dktX6_readStep_1 := dk_seg dksX6_readStep_0 24 rfl rfl
theorem dksX6_readStep_2 : cX6_readStep.data.toList.drop 48 = dktX6_readStep_2 := dk_seg dksX6_readStep_1 24 rfl rfl
theorem dksX6_readStep_3 : cX6_readStep.data.toList.drop 70 = dktX6_readStep_3 := dk_seg dksX6_readStep_2 22 rfl rfl
theorem dksX6_readStep_4 : cX6_readStep.data.toList.drop 94 = dktX6_readStep_4 := dk_seg dksX6_readStep_3 24 rfl rfl
theorem dksX6_readStep_5 : cX6_readStep.data.toList.drop 118 = dktX6_readStep_5 := dk_seg dksX6_readStep_4 24 rfl rfl
theorem dksX6_readStep_6 : cX6_readStep.data.toList.drop 142 = dktX6_readStep_6 := dk_seg dksX6_readStep_5 24 rfl rfl
theorem dksX6_readStep_7 : cX6_readStep.data.toList.drop 164 = dktX6_readStep_7 := dk_seg dksX6_readStep_6 22 rfl rfl
theorem dksX6_readStep_8 : cX6_readStep.data.toList.drop 186 = dktX6_readStep_8 := dk_seg dksX6_readStep_7 22 rfl rfl
theorem dX6_readStep_0 : decode cX6_readStep 0 = .ok (.aload_n 0, 1) := dk_42 (dk_at dksX6_readStep_0 0 rfl rfl)
theorem dX6_readStep_1 : decode cX6_readStep 1 = .ok (.invokevirtual 204, 3) := dk_182 0 204 (dk_at dksX6_readStep_0 1 rfl rfl)
theorem dX6_readStep_4 : decode cX6_readStep 4 = .ok (.istore_n 2, 1) := dk_61 (dk_at dksX6_readStep_0 4 rfl rfl)
theorem dX6_readStep_5 : decode cX6_readStep 5 = .ok (.iload_n 2, 1) := dk_28 (dk_at dksX6_readStep_0 5 rfl rfl)
theorem dX6_readStep_6 : decode cX6_readStep 6 = .ok (.bipush 6, 2) := dk_16 6 (dk_at dksX6_readStep_0 6 rfl rfl)
theorem dX6_readStep_8 : decode cX6_readStep 8 = .ok (.if_icmp .eq 9, 3) := dk_159 0 9 (dk_at dksX6_readStep_0 8 rfl rfl)
theorem dX6_readStep_11 : decode cX6_readStep 11 = .ok (.iload_n 2, 1) := dk_28 (dk_at dksX6_readStep_0 11 rfl rfl)
theorem dX6_readStep_12 : decode cX6_readStep 12 = .ok (.bipush 7, 2) := dk_16 7 (dk_at dksX6_readStep_0 12 rfl rfl)
theorem dX6_readStep_14 : decode cX6_readStep 14 = .ok (.if_icmp .ne 7, 3) := dk_160 0 7 (dk_at dksX6_readStep_0 14 rfl rfl)
theorem dX6_readStep_17 : decode cX6_readStep 17 = .ok (.iconst 1, 1) := dk_4 (dk_at dksX6_readStep_0 17 rfl rfl)
theorem dX6_readStep_18 : decode cX6_readStep 18 = .ok (.goto 4, 3) := dk_167 0 4 (dk_at dksX6_readStep_0 18 rfl rfl)
theorem dX6_readStep_21 : decode cX6_readStep 21 = .ok (.iconst 0, 1) := dk_3 (dk_at dksX6_readStep_0 21 rfl rfl)
theorem dX6_readStep_22 : decode cX6_readStep 22 = .ok (.istore_n 3, 1) := dk_62 (dk_at dksX6_readStep_0 22 rfl rfl)
theorem dX6_readStep_23 : decode cX6_readStep 23 = .ok (.iload_n 2, 1) := dk_28 (dk_at dksX6_readStep_0 23 rfl rfl)
theorem dX6_readStep_24 : decode cX6_readStep 24 = .ok (.ifCond .ge 7, 3) := dk_156 0 7 (dk_at dksX6_readStep_1 0 rfl rfl)
theorem dX6_readStep_27 : decode cX6_readStep 27 = .ok (.aload_n 0, 1) := dk_42 (dk_at dksX6_readStep_1 3 rfl rfl)
theorem dX6_readStep_28 : decode cX6_readStep 28 = .ok (.invokevirtual 229, 3) := dk_182 0 229 (dk_at dksX6_readStep_1 4 rfl rfl)
theorem dX6_readStep_31 : decode cX6_readStep 31 = .ok (.aload_n 0, 1) := dk_42 (dk_at dksX6_readStep_1 7 rfl rfl)
theorem dX6_readStep_32 : decode cX6_readStep 32 = .ok (.getfield 216, 3) := dk_180 0 216 (dk_at dksX6_readStep_1 8 rfl rfl)
theorem dX6_readStep_35 : decode cX6_readStep 35 = .ok (.ifCond .ne 22, 3) := dk_154 0 22 (dk_at dksX6_readStep_1 11 rfl rfl)
theorem dX6_readStep_38 : decode cX6_readStep 38 = .ok (.aload_n 0, 1) := dk_42 (dk_at dksX6_readStep_1 14 rfl rfl)
theorem dX6_readStep_39 : decode cX6_readStep 39 = .ok (.getfield 291, 3) := dk_180 1 35 (dk_at dksX6_readStep_1 15 rfl rfl)
theorem dX6_readStep_42 : decode cX6_readStep 42 = .ok (.bipush 30, 2) := dk_16 30 (dk_at dksX6_readStep_1 18 rfl rfl)
theorem dX6_readStep_44 : decode cX6_readStep 44 = .ok (.if_icmp .ne 13, 3) := dk_160 0 13 (dk_at dksX6_readStep_1 20 rfl rfl)
theorem dX6_readStep_47 : decode cX6_readStep 47 = .ok (.aload_n 0, 1) := dk_42 (dk_at dksX6_readStep_1 23 rfl rfl)
theorem dX6_readStep_48 : decode cX6_readStep 48 = .ok (.bipush 6, 2) := dk_16 6 (dk_at dksX6_readStep_2 0 rfl rfl)
theorem dX6_readStep_50 : decode cX6_readStep 50 = .ok (.aload_n 0, 1) := dk_42 (dk_at dksX6_readStep_2 2 rfl rfl)
theorem dX6_readStep_51 : decode cX6_readStep 51 = .ok (.getfield 126, 3) := dk_180 0 126 (dk_at dksX6_readStep_2 3 rfl rfl)
theorem dX6_readStep_54 : decode cX6_readStep 54 = .ok (.invokevirtual 222, 3) := dk_182 0 222 (dk_at dksX6_readStep_2 6 rfl rfl)
theorem dX6_readStep_57 : decode cX6_readStep 57 = .ok (.aload_n 0, 1) := dk_42 (dk_at dksX6_readStep_2 9 rfl rfl)
theorem dX6_readStep_58 : decode cX6_readStep 58 = .ok (.getfield 216, 3) := dk_180 0 216 (dk_at dksX6_readStep_2 10 rfl rfl)
theorem dX6_readStep_61 : decode cX6_readStep 61 = .ok (.ifCond .ne 22, 3) := dk_154 0 22 (dk_at dksX6_readStep_2 13 rfl rfl)
theorem dX6_readStep_64 : decode cX6_readStep 64 = .ok (.iload_n 3, 1) := dk_29 (dk_at dksX6_readStep_2 16 rfl rfl)
theorem dX6_readStep_65 : decode cX6_readStep 65 = .ok (.ifCond .eq 18, 3) := dk_153 0 18 (dk_at dksX6_readStep_2 17 rfl rfl)
theorem dX6_readStep_68 : decode cX6_readStep 68 = .ok (.iload_n 1, 1) := dk_27 (dk_at dksX6_readStep_2 20 rfl rfl)
theorem dX6_readStep_69 : decode cX6_readStep 69 = .ok (.iconst 3, 1) := dk_6 (dk_at dksX6_readStep_2 21 rfl rfl)
theorem dX6_readStep_70 : decode cX6_readStep 70 = .ok (.if_icmp .ne 13, 3) := dk_160 0 13 (dk_at dksX6_readStep_3 0 rfl rfl)
theorem dX6_readStep_73 : decode cX6_readStep 73 = .ok (.aload_n 0, 1) := dk_42 (dk_at dksX6_readStep_3 3 rfl rfl)
theorem dX6_readStep_74 : decode cX6_readStep 74 = .ok (.bipush 7, 2) := dk_16 7 (dk_at dksX6_readStep_3 4 rfl rfl)
theorem dX6_readStep_76 : decode cX6_readStep 76 = .ok (.aload_n 0, 1) := dk_42 (dk_at dksX6_readStep_3 6 rfl rfl)
theorem dX6_readStep_77 : decode cX6_readStep 77 = .ok (.getfield 126, 3) := dk_180 0 126 (dk_at dksX6_readStep_3 7 rfl rfl)
theorem dX6_readStep_80 : decode cX6_readStep 80 = .ok (.invokevirtual 222, 3) := dk_182 0 222 (dk_at dksX6_readStep_3 10 rfl rfl)
theorem dX6_readStep_83 : decode cX6_readStep 83 = .ok (.aload_n 0, 1) := dk_42 (dk_at dksX6_readStep_3 13 rfl rfl)
theorem dX6_readStep_84 : decode cX6_readStep 84 = .ok (.getfield 216, 3) := dk_180 0 216 (dk_at dksX6_readStep_3 14 rfl rfl)
theorem dX6_readStep_87 : decode cX6_readStep 87 = .ok (.ifCond .le 4, 3) := dk_158 0 4 (dk_at dksX6_readStep_3 17 rfl rfl)
theorem dX6_readStep_90 : decode cX6_readStep 90 = .ok (.return_, 1) := dk_177 (dk_at dksX6_readStep_3 20 rfl rfl)
theorem dX6_readStep_91 : decode cX6_readStep 91 = .ok (.sipush 1774, 3) := dk_17 6 238 (dk_at dksX6_readStep_3 21 rfl rfl)
theorem dX6_readStep_94 : decode cX6_readStep 94 = .ok (.bipush 9, 2) := dk_16 9 (dk_at dksX6_readStep_4 0 rfl rfl)
theorem dX6_readStep_96 : decode cX6_readStep 96 = .ok (.aload_n 0, 1) := dk_42 (dk_at dksX6_readStep_4 2 rfl rfl)
theorem dX6_readStep_97 : decode cX6_readStep 97 = .ok (.getfield 291, 3) := dk_180 1 35 (dk_at dksX6_readStep_4 3 rfl rfl)
theorem dX6_readStep_100 : decode cX6_readStep 100 = .ok (.imul, 1) := dk_104 (dk_at dksX6_readStep_4 6 rfl rfl)
theorem dX6_readStep_101 : decode cX6_readStep 101 = .ok (.iadd, 1) := dk_96 (dk_at dksX6_readStep_4 7 rfl rfl)
theorem dX6_readStep_102 : decode cX6_readStep 102 = .ok (.istore 4, 2) := dk_54 4 (dk_at dksX6_readStep_4 8 rfl rfl)
theorem dX6_readStep_104 : decode cX6_readStep 104 = .ok (.aload_n 0, 1) := dk_42 (dk_at dksX6_readStep_4 10 rfl rfl)
theorem dX6_readStep_105 : decode cX6_readStep 105 = .ok (.dup, 1) := dk_89 (dk_at dksX6_readStep_4 11 rfl rfl)
theorem dX6_readStep_106 : decode cX6_readStep 106 = .ok (.getfield 291, 3) := dk_180 1 35 (dk_at dksX6_readStep_4 12 rfl rfl)
theorem dX6_readStep_109 : decode cX6_readStep 109 = .ok (.iconst 1, 1) := dk_4 (dk_at dksX6_readStep_4 15 rfl rfl)
theorem dX6_readStep_110 : decode cX6_readStep 110 = .ok (.iadd, 1) := dk_96 (dk_at dksX6_readStep_4 16 rfl rfl)
theorem dX6_readStep_111 : decode cX6_readStep 111 = .ok (.putfield 291, 3) := dk_181 1 35 (dk_at dksX6_readStep_4 17 rfl rfl)
theorem dX6_readStep_114 : decode cX6_readStep 114 = .ok (.aload_n 0, 1) := dk_42 (dk_at dksX6_readStep_4 20 rfl rfl)
theorem dX6_readStep_115 : decode cX6_readStep 115 = .ok (.invokevirtual 226, 3) := dk_182 0 226 (dk_at dksX6_readStep_4 21 rfl rfl)
theorem dX6_readStep_118 : decode cX6_readStep 118 = .ok (.aload_n 0, 1) := dk_42 (dk_at dksX6_readStep_5 0 rfl rfl)
theorem dX6_readStep_119 : decode cX6_readStep 119 = .ok (.getfield 35, 3) := dk_180 0 35 (dk_at dksX6_readStep_5 1 rfl rfl)
theorem dX6_readStep_122 : decode cX6_readStep 122 = .ok (.iload 4, 2) := dk_21 4 (dk_at dksX6_readStep_5 4 rfl rfl)
theorem dX6_readStep_124 : decode cX6_readStep 124 = .ok (.iload_n 2, 1) := dk_28 (dk_at dksX6_readStep_5 6 rfl rfl)
theorem dX6_readStep_125 : decode cX6_readStep 125 = .ok (.iastore, 1) := dk_79 (dk_at dksX6_readStep_5 7 rfl rfl)
theorem dX6_readStep_126 : decode cX6_readStep 126 = .ok (.aload_n 0, 1) := dk_42 (dk_at dksX6_readStep_5 8 rfl rfl)
theorem dX6_readStep_127 : decode cX6_readStep 127 = .ok (.iload 4, 2) := dk_21 4 (dk_at dksX6_readStep_5 9 rfl rfl)
theorem dX6_readStep_129 : decode cX6_readStep 129 = .ok (.invokevirtual 294, 3) := dk_182 1 38 (dk_at dksX6_readStep_5 11 rfl rfl)
theorem dX6_readStep_132 : decode cX6_readStep 132 = .ok (.aload_n 0, 1) := dk_42 (dk_at dksX6_readStep_5 14 rfl rfl)
theorem dX6_readStep_133 : decode cX6_readStep 133 = .ok (.aload_n 0, 1) := dk_42 (dk_at dksX6_readStep_5 15 rfl rfl)
theorem dX6_readStep_134 : decode cX6_readStep 134 = .ok (.bipush 59, 2) := dk_16 59 (dk_at dksX6_readStep_5 16 rfl rfl)
theorem dX6_readStep_136 : decode cX6_readStep 136 = .ok (.invokevirtual 276, 3) := dk_182 1 20 (dk_at dksX6_readStep_5 18 rfl rfl)
theorem dX6_readStep_139 : decode cX6_readStep 139 = .ok (.invokevirtual 254, 3) := dk_182 0 254 (dk_at dksX6_readStep_5 21 rfl rfl)
theorem dX6_readStep_142 : decode cX6_readStep 142 = .ok (.iload_n 3, 1) := dk_29 (dk_at dksX6_readStep_6 0 rfl rfl)
theorem dX6_readStep_143 : decode cX6_readStep 143 = .ok (.ifCond .eq 27, 3) := dk_153 0 27 (dk_at dksX6_readStep_6 1 rfl rfl)
theorem dX6_readStep_146 : decode cX6_readStep 146 = .ok (.aload_n 0, 1) := dk_42 (dk_at dksX6_readStep_6 4 rfl rfl)
theorem dX6_readStep_147 : decode cX6_readStep 147 = .ok (.getfield 216, 3) := dk_180 0 216 (dk_at dksX6_readStep_6 5 rfl rfl)
theorem dX6_readStep_150 : decode cX6_readStep 150 = .ok (.ifCond .ne 20, 3) := dk_154 0 20 (dk_at dksX6_readStep_6 8 rfl rfl)
theorem dX6_readStep_153 : decode cX6_readStep 153 = .ok (.aload_n 0, 1) := dk_42 (dk_at dksX6_readStep_6 11 rfl rfl)
theorem dX6_readStep_154 : decode cX6_readStep 154 = .ok (.invokevirtual 210, 3) := dk_182 0 210 (dk_at dksX6_readStep_6 12 rfl rfl)
theorem dX6_readStep_157 : decode cX6_readStep 157 = .ok (.ifCond .ne 13, 3) := dk_154 0 13 (dk_at dksX6_readStep_6 15 rfl rfl)
theorem dX6_readStep_160 : decode cX6_readStep 160 = .ok (.aload_n 0, 1) := dk_42 (dk_at dksX6_readStep_6 18 rfl rfl)
theorem dX6_readStep_161 : decode cX6_readStep 161 = .ok (.iload_n 1, 1) := dk_27 (dk_at dksX6_readStep_6 19 rfl rfl)
theorem dX6_readStep_162 : decode cX6_readStep 162 = .ok (.iconst 1, 1) := dk_4 (dk_at dksX6_readStep_6 20 rfl rfl)
theorem dX6_readStep_163 : decode cX6_readStep 163 = .ok (.iadd, 1) := dk_96 (dk_at dksX6_readStep_6 21 rfl rfl)
theorem dX6_readStep_164 : decode cX6_readStep 164 = .ok (.invokevirtual 297, 3) := dk_182 1 41 (dk_at dksX6_readStep_7 0 rfl rfl)
theorem dX6_readStep_167 : decode cX6_readStep 167 = .ok (.goto (-25), 3) := dk_167 255 231 (dk_at dksX6_readStep_7 3 rfl rfl)
theorem dX6_readStep_170 : decode cX6_readStep 170 = .ok (.iload_n 3, 1) := dk_29 (dk_at dksX6_readStep_7 6 rfl rfl)
theorem dX6_readStep_171 : decode cX6_readStep 171 = .ok (.ifCond .eq 21, 3) := dk_153 0 21 (dk_at dksX6_readStep_7 7 rfl rfl)
theorem dX6_readStep_174 : decode cX6_readStep 174 = .ok (.aload_n 0, 1) := dk_42 (dk_at dksX6_readStep_7 10 rfl rfl)
theorem dX6_readStep_175 : decode cX6_readStep 175 = .ok (.aload_n 0, 1) := dk_42 (dk_at dksX6_readStep_7 11 rfl rfl)
theorem dX6_readStep_176 : decode cX6_readStep 176 = .ok (.invokevirtual 210, 3) := dk_182 0 210 (dk_at dksX6_readStep_7 12 rfl rfl)
theorem dX6_readStep_179 : decode cX6_readStep 179 = .ok (.invokevirtual 254, 3) := dk_182 0 254 (dk_at dksX6_readStep_7 15 rfl rfl)
theorem dX6_readStep_182 : decode cX6_readStep 182 = .ok (.aload_n 0, 1) := dk_42 (dk_at dksX6_readStep_7 18 rfl rfl)
theorem dX6_readStep_183 : decode cX6_readStep 183 = .ok (.aload_n 0, 1) := dk_42 (dk_at dksX6_readStep_7 19 rfl rfl)
theorem dX6_readStep_184 : decode cX6_readStep 184 = .ok (.bipush 59, 2) := dk_16 59 (dk_at dksX6_readStep_7 20 rfl rfl)
theorem dX6_readStep_186 : decode cX6_readStep 186 = .ok (.invokevirtual 276, 3) := dk_182 1 20 (dk_at dksX6_readStep_8 0 rfl rfl)
theorem dX6_readStep_189 : decode cX6_readStep 189 = .ok (.invokevirtual 254, 3) := dk_182 0 254 (dk_at dksX6_readStep_8 3 rfl rfl)
theorem dX6_readStep_192 : decode cX6_readStep 192 = .ok (.aload_n 0, 1) := dk_42 (dk_at dksX6_readStep_8 6 rfl rfl)
theorem dX6_readStep_193 : decode cX6_readStep 193 = .ok (.getfield 35, 3) := dk_180 0 35 (dk_at dksX6_readStep_8 7 rfl rfl)
theorem dX6_readStep_196 : decode cX6_readStep 196 = .ok (.iload 4, 2) := dk_21 4 (dk_at dksX6_readStep_8 10 rfl rfl)
theorem dX6_readStep_198 : decode cX6_readStep 198 = .ok (.bipush 8, 2) := dk_16 8 (dk_at dksX6_readStep_8 12 rfl rfl)
theorem dX6_readStep_200 : decode cX6_readStep 200 = .ok (.iadd, 1) := dk_96 (dk_at dksX6_readStep_8 14 rfl rfl)
theorem dX6_readStep_201 : decode cX6_readStep 201 = .ok (.aload_n 0, 1) := dk_42 (dk_at dksX6_readStep_8 15 rfl rfl)
theorem dX6_readStep_202 : decode cX6_readStep 202 = .ok (.getfield 291, 3) := dk_180 1 35 (dk_at dksX6_readStep_8 16 rfl rfl)
theorem dX6_readStep_205 : decode cX6_readStep 205 = .ok (.iastore, 1) := dk_79 (dk_at dksX6_readStep_8 19 rfl rfl)
theorem dX6_readStep_206 : decode cX6_readStep 206 = .ok (.return_, 1) := dk_177 (dk_at dksX6_readStep_8 20 rfl rfl)
abbrev cX6_readRest : ByteArray := prog_16_method_63_code
def yX6_readRest : MethodName := ⟨RX6, "readRest", "(I)V"⟩
def dkwX6_readRest_3 : List UInt8 := [182, 1, 29, 79, 177]
abbrev dktX6_readRest_3 : List UInt8 := dkwX6_readRest_3 ++ []
def dkwX6_readRest_2 : List UInt8 := [167, 0, 27, 28, 5, 159, 0, 22, 28, 16, 6, 162, 0, 16, 42, 180, 0, 35, 27, 4, 96, 42, 3]
abbrev dktX6_readRest_2 : List UInt8 := dkwX6_readRest_2 ++ dktX6_readRest_3
def dkwX6_readRest_1 : List UInt8 := [153, 0, 9, 28, 16, 7, 160, 0, 21, 42, 180, 0, 35, 27, 4, 96, 42, 4, 16, 99, 182, 1, 5, 79]
abbrev dktX6_readRest_1 : List UInt8 := dkwX6_readRest_1 ++ dktX6_readRest_2
def dkwX6_readRest_0 : List UInt8 := [42, 180, 0, 35, 27, 46, 61, 28, 16, 6, 160, 0, 11, 42, 27, 182, 1, 32, 167, 0, 55, 28]
abbrev dktX6_readRest_0 : List UInt8 := dkwX6_readRest_0 ++ dktX6_readRest_1
theorem dksX6_readRest_0 : cX6_readRest.data.toList.drop 0 = dktX6_readRest_0 := by decide +kernel
theorem dksX6_readRest_1 : cX6_readRest.data.toList.drop 22 = dktX6_readRest_1 := dk_seg dksX6_readRest_0 22 rfl rfl
theorem dksX6_readRest_2 : cX6_readRest.data.toList.drop 46 = dktX6_readRest_2 := dk_seg dksX6_readRest_1 24 rfl rfl
theorem dksX6_readRest_3 : cX6_readRest.data.toList.drop 69 = dktX6_readRest_3 := dk_seg dksX6_readRest_2 23 rfl rfl
theorem dX6_readRest_0 : decode cX6_readRest 0 = .ok (.aload_n 0, 1) := dk_42 (dk_at dksX6_readRest_0 0 rfl rfl)
theorem dX6_readRest_1 : decode cX6_readRest 1 = .ok (.getfield 35, 3) := dk_180 0 35 (dk_at dksX6_readRest_0 1 rfl rfl)
theorem dX6_readRest_4 : decode cX6_readRest 4 = .ok (.iload_n 1, 1) := dk_27 (dk_at dksX6_readRest_0 4 rfl rfl)
theorem dX6_readRest_5 : decode cX6_readRest 5 = .ok (.iaload, 1) := dk_46 (dk_at dksX6_readRest_0 5 rfl rfl)
theorem dX6_readRest_6 : decode cX6_readRest 6 = .ok (.istore_n 2, 1) := dk_61 (dk_at dksX6_readRest_0 6 rfl rfl)
theorem dX6_readRest_7 : decode cX6_readRest 7 = .ok (.iload_n 2, 1) := dk_28 (dk_at dksX6_readRest_0 7 rfl rfl)
theorem dX6_readRest_8 : decode cX6_readRest 8 = .ok (.bipush 6, 2) := dk_16 6 (dk_at dksX6_readRest_0 8 rfl rfl)
theorem dX6_readRest_10 : decode cX6_readRest 10 = .ok (.if_icmp .ne 11, 3) := dk_160 0 11 (dk_at dksX6_readRest_0 10 rfl rfl)
theorem dX6_readRest_13 : decode cX6_readRest 13 = .ok (.aload_n 0, 1) := dk_42 (dk_at dksX6_readRest_0 13 rfl rfl)
theorem dX6_readRest_14 : decode cX6_readRest 14 = .ok (.iload_n 1, 1) := dk_27 (dk_at dksX6_readRest_0 14 rfl rfl)
theorem dX6_readRest_15 : decode cX6_readRest 15 = .ok (.invokevirtual 288, 3) := dk_182 1 32 (dk_at dksX6_readRest_0 15 rfl rfl)
theorem dX6_readRest_18 : decode cX6_readRest 18 = .ok (.goto 55, 3) := dk_167 0 55 (dk_at dksX6_readRest_0 18 rfl rfl)
theorem dX6_readRest_21 : decode cX6_readRest 21 = .ok (.iload_n 2, 1) := dk_28 (dk_at dksX6_readRest_0 21 rfl rfl)
theorem dX6_readRest_22 : decode cX6_readRest 22 = .ok (.ifCond .eq 9, 3) := dk_153 0 9 (dk_at dksX6_readRest_1 0 rfl rfl)
theorem dX6_readRest_25 : decode cX6_readRest 25 = .ok (.iload_n 2, 1) := dk_28 (dk_at dksX6_readRest_1 3 rfl rfl)
theorem dX6_readRest_26 : decode cX6_readRest 26 = .ok (.bipush 7, 2) := dk_16 7 (dk_at dksX6_readRest_1 4 rfl rfl)
theorem dX6_readRest_28 : decode cX6_readRest 28 = .ok (.if_icmp .ne 21, 3) := dk_160 0 21 (dk_at dksX6_readRest_1 6 rfl rfl)
theorem dX6_readRest_31 : decode cX6_readRest 31 = .ok (.aload_n 0, 1) := dk_42 (dk_at dksX6_readRest_1 9 rfl rfl)
theorem dX6_readRest_32 : decode cX6_readRest 32 = .ok (.getfield 35, 3) := dk_180 0 35 (dk_at dksX6_readRest_1 10 rfl rfl)
theorem dX6_readRest_35 : decode cX6_readRest 35 = .ok (.iload_n 1, 1) := dk_27 (dk_at dksX6_readRest_1 13 rfl rfl)
theorem dX6_readRest_36 : decode cX6_readRest 36 = .ok (.iconst 1, 1) := dk_4 (dk_at dksX6_readRest_1 14 rfl rfl)
theorem dX6_readRest_37 : decode cX6_readRest 37 = .ok (.iadd, 1) := dk_96 (dk_at dksX6_readRest_1 15 rfl rfl)
theorem dX6_readRest_38 : decode cX6_readRest 38 = .ok (.aload_n 0, 1) := dk_42 (dk_at dksX6_readRest_1 16 rfl rfl)
theorem dX6_readRest_39 : decode cX6_readRest 39 = .ok (.iconst 1, 1) := dk_4 (dk_at dksX6_readRest_1 17 rfl rfl)
theorem dX6_readRest_40 : decode cX6_readRest 40 = .ok (.bipush 99, 2) := dk_16 99 (dk_at dksX6_readRest_1 18 rfl rfl)
theorem dX6_readRest_42 : decode cX6_readRest 42 = .ok (.invokevirtual 261, 3) := dk_182 1 5 (dk_at dksX6_readRest_1 20 rfl rfl)
theorem dX6_readRest_45 : decode cX6_readRest 45 = .ok (.iastore, 1) := dk_79 (dk_at dksX6_readRest_1 23 rfl rfl)
theorem dX6_readRest_46 : decode cX6_readRest 46 = .ok (.goto 27, 3) := dk_167 0 27 (dk_at dksX6_readRest_2 0 rfl rfl)
theorem dX6_readRest_49 : decode cX6_readRest 49 = .ok (.iload_n 2, 1) := dk_28 (dk_at dksX6_readRest_2 3 rfl rfl)
theorem dX6_readRest_50 : decode cX6_readRest 50 = .ok (.iconst 2, 1) := dk_5 (dk_at dksX6_readRest_2 4 rfl rfl)
theorem dX6_readRest_51 : decode cX6_readRest 51 = .ok (.if_icmp .eq 22, 3) := dk_159 0 22 (dk_at dksX6_readRest_2 5 rfl rfl)
theorem dX6_readRest_54 : decode cX6_readRest 54 = .ok (.iload_n 2, 1) := dk_28 (dk_at dksX6_readRest_2 8 rfl rfl)
theorem dX6_readRest_55 : decode cX6_readRest 55 = .ok (.bipush 6, 2) := dk_16 6 (dk_at dksX6_readRest_2 9 rfl rfl)
theorem dX6_readRest_57 : decode cX6_readRest 57 = .ok (.if_icmp .ge 16, 3) := dk_162 0 16 (dk_at dksX6_readRest_2 11 rfl rfl)
theorem dX6_readRest_60 : decode cX6_readRest 60 = .ok (.aload_n 0, 1) := dk_42 (dk_at dksX6_readRest_2 14 rfl rfl)
theorem dX6_readRest_61 : decode cX6_readRest 61 = .ok (.getfield 35, 3) := dk_180 0 35 (dk_at dksX6_readRest_2 15 rfl rfl)
theorem dX6_readRest_64 : decode cX6_readRest 64 = .ok (.iload_n 1, 1) := dk_27 (dk_at dksX6_readRest_2 18 rfl rfl)
theorem dX6_readRest_65 : decode cX6_readRest 65 = .ok (.iconst 1, 1) := dk_4 (dk_at dksX6_readRest_2 19 rfl rfl)
theorem dX6_readRest_66 : decode cX6_readRest 66 = .ok (.iadd, 1) := dk_96 (dk_at dksX6_readRest_2 20 rfl rfl)
theorem dX6_readRest_67 : decode cX6_readRest 67 = .ok (.aload_n 0, 1) := dk_42 (dk_at dksX6_readRest_2 21 rfl rfl)
theorem dX6_readRest_68 : decode cX6_readRest 68 = .ok (.iconst 0, 1) := dk_3 (dk_at dksX6_readRest_2 22 rfl rfl)
theorem dX6_readRest_69 : decode cX6_readRest 69 = .ok (.invokevirtual 285, 3) := dk_182 1 29 (dk_at dksX6_readRest_3 0 rfl rfl)
theorem dX6_readRest_72 : decode cX6_readRest 72 = .ok (.iastore, 1) := dk_79 (dk_at dksX6_readRest_3 3 rfl rfl)
theorem dX6_readRest_73 : decode cX6_readRest 73 = .ok (.return_, 1) := dk_177 (dk_at dksX6_readRest_3 4 rfl rfl)
abbrev cX6_readTest : ByteArray := prog_16_method_62_code
def yX6_readTest : MethodName := ⟨RX6, "readTest", "(I)V"⟩
def dkwX6_readTest_6 : List UInt8 := [182, 1, 5, 79, 177]
abbrev dktX6_readTest_6 : List UInt8 := dkwX6_readTest_6 ++ []
def dkwX6_readTest_5 : List UInt8 := [182, 0, 254, 42, 180, 0, 35, 27, 5, 96, 42, 3, 28, 154, 0, 8, 16, 8, 167, 0, 5, 16, 24]
abbrev dktX6_readTest_5 : List UInt8 := dkwX6_readTest_5 ++ dktX6_readTest_6
def dkwX6_readTest_4 : List UInt8 := [16, 62, 182, 1, 20, 154, 0, 12, 42, 16, 61, 182, 1, 20, 153, 0, 7, 4, 167, 0, 4, 3]
abbrev dktX6_readTest_4 : List UInt8 := dkwX6_readTest_4 ++ dktX6_readTest_5
def dkwX6_readTest_3 : List UInt8 := [6, 160, 0, 10, 42, 180, 0, 151, 167, 0, 4, 3, 79, 42, 42, 16, 60, 182, 1, 20, 154, 0, 21, 42]
abbrev dktX6_readTest_3 : List UInt8 := dkwX6_readTest_3 ++ dktX6_readTest_4
def dkwX6_readTest_2 : List UInt8 := [180, 0, 216, 157, 0, 8, 28, 5, 160, 0, 4, 177, 42, 180, 0, 35, 27, 16, 7, 96, 42, 180, 0, 132]
abbrev dktX6_readTest_2 : List UInt8 := dkwX6_readTest_2 ++ dktX6_readTest_3
def dkwX6_readTest_1 : List UInt8 := [16, 6, 96, 28, 79, 28, 5, 160, 0, 16, 42, 180, 0, 35, 27, 4, 96, 42, 3, 182, 1, 29, 79, 42]
abbrev dktX6_readTest_1 : List UInt8 := dkwX6_readTest_1 ++ dktX6_readTest_2
def dkwX6_readTest_0 : List UInt8 := [42, 182, 0, 207, 61, 42, 28, 155, 0, 7, 4, 167, 0, 4, 3, 182, 0, 254, 42, 180, 0, 35, 27]
abbrev dktX6_readTest_0 : List UInt8 := dkwX6_readTest_0 ++ dktX6_readTest_1
theorem dksX6_readTest_0 : cX6_readTest.data.toList.drop 0 = dktX6_readTest_0 := by decide +kernel
theorem dksX6_readTest_1 : cX6_readTest.data.toList.drop 23 = dktX6_readTest_1 := dk_seg dksX6_readTest_0 23 rfl rfl
theorem dksX6_readTest_2 : cX6_readTest.data.toList.drop 47 = dktX6_readTest_2 := dk_seg dksX6_readTest_1 24 rfl rfl
theorem dksX6_readTest_3 : cX6_readTest.data.toList.drop 71 = dktX6_readTest_3 := dk_seg dksX6_readTest_2 24 rfl rfl
theorem dksX6_readTest_4 : cX6_readTest.data.toList.drop 95 = dktX6_readTest_4 := dk_seg dksX6_readTest_3 24 rfl rfl
theorem dksX6_readTest_5 : cX6_readTest.data.toList.drop 117 = dktX6_readTest_5 := dk_seg dksX6_readTest_4 22 rfl rfl
theorem dksX6_readTest_6 : cX6_readTest.data.toList.drop 140 = dktX6_readTest_6 := dk_seg dksX6_readTest_5 23 rfl rfl
theorem dX6_readTest_0 : decode cX6_readTest 0 = .ok (.aload_n 0, 1) := dk_42 (dk_at dksX6_readTest_0 0 rfl rfl)
theorem dX6_readTest_1 : decode cX6_readTest 1 = .ok (.invokevirtual 207, 3) := dk_182 0 207 (dk_at dksX6_readTest_0 1 rfl rfl)
theorem dX6_readTest_4 : decode cX6_readTest 4 = .ok (.istore_n 2, 1) := dk_61 (dk_at dksX6_readTest_0 4 rfl rfl)
theorem dX6_readTest_5 : decode cX6_readTest 5 = .ok (.aload_n 0, 1) := dk_42 (dk_at dksX6_readTest_0 5 rfl rfl)
theorem dX6_readTest_6 : decode cX6_readTest 6 = .ok (.iload_n 2, 1) := dk_28 (dk_at dksX6_readTest_0 6 rfl rfl)
theorem dX6_readTest_7 : decode cX6_readTest 7 = .ok (.ifCond .lt 7, 3) := dk_155 0 7 (dk_at dksX6_readTest_0 7 rfl rfl)
theorem dX6_readTest_10 : decode cX6_readTest 10 = .ok (.iconst 1, 1) := dk_4 (dk_at dksX6_readTest_0 10 rfl rfl)
theorem dX6_readTest_11 : decode cX6_readTest 11 = .ok (.goto 4, 3) := dk_167 0 4 (dk_at dksX6_readTest_0 11 rfl rfl)
theorem dX6_readTest_14 : decode cX6_readTest 14 = .ok (.iconst 0, 1) := dk_3 (dk_at dksX6_readTest_0 14 rfl rfl)
theorem dX6_readTest_15 : decode cX6_readTest 15 = .ok (.invokevirtual 254, 3) := dk_182 0 254 (dk_at dksX6_readTest_0 15 rfl rfl)
theorem dX6_readTest_18 : decode cX6_readTest 18 = .ok (.aload_n 0, 1) := dk_42 (dk_at dksX6_readTest_0 18 rfl rfl)
theorem dX6_readTest_19 : decode cX6_readTest 19 = .ok (.getfield 35, 3) := dk_180 0 35 (dk_at dksX6_readTest_0 19 rfl rfl)
theorem dX6_readTest_22 : decode cX6_readTest 22 = .ok (.iload_n 1, 1) := dk_27 (dk_at dksX6_readTest_0 22 rfl rfl)
theorem dX6_readTest_23 : decode cX6_readTest 23 = .ok (.bipush 6, 2) := dk_16 6 (dk_at dksX6_readTest_1 0 rfl rfl)
theorem dX6_readTest_25 : decode cX6_readTest 25 = .ok (.iadd, 1) := dk_96 (dk_at dksX6_readTest_1 2 rfl rfl)
theorem dX6_readTest_26 : decode cX6_readTest 26 = .ok (.iload_n 2, 1) := dk_28 (dk_at dksX6_readTest_1 3 rfl rfl)
theorem dX6_readTest_27 : decode cX6_readTest 27 = .ok (.iastore, 1) := dk_79 (dk_at dksX6_readTest_1 4 rfl rfl)
theorem dX6_readTest_28 : decode cX6_readTest 28 = .ok (.iload_n 2, 1) := dk_28 (dk_at dksX6_readTest_1 5 rfl rfl)
theorem dX6_readTest_29 : decode cX6_readTest 29 = .ok (.iconst 2, 1) := dk_5 (dk_at dksX6_readTest_1 6 rfl rfl)
theorem dX6_readTest_30 : decode cX6_readTest 30 = .ok (.if_icmp .ne 16, 3) := dk_160 0 16 (dk_at dksX6_readTest_1 7 rfl rfl)
theorem dX6_readTest_33 : decode cX6_readTest 33 = .ok (.aload_n 0, 1) := dk_42 (dk_at dksX6_readTest_1 10 rfl rfl)
theorem dX6_readTest_34 : decode cX6_readTest 34 = .ok (.getfield 35, 3) := dk_180 0 35 (dk_at dksX6_readTest_1 11 rfl rfl)
theorem dX6_readTest_37 : decode cX6_readTest 37 = .ok (.iload_n 1, 1) := dk_27 (dk_at dksX6_readTest_1 14 rfl rfl)
theorem dX6_readTest_38 : decode cX6_readTest 38 = .ok (.iconst 1, 1) := dk_4 (dk_at dksX6_readTest_1 15 rfl rfl)
theorem dX6_readTest_39 : decode cX6_readTest 39 = .ok (.iadd, 1) := dk_96 (dk_at dksX6_readTest_1 16 rfl rfl)
theorem dX6_readTest_40 : decode cX6_readTest 40 = .ok (.aload_n 0, 1) := dk_42 (dk_at dksX6_readTest_1 17 rfl rfl)
theorem dX6_readTest_41 : decode cX6_readTest 41 = .ok (.iconst 0, 1) := dk_3 (dk_at dksX6_readTest_1 18 rfl rfl)
theorem dX6_readTest_42 : decode cX6_readTest 42 = .ok (.invokevirtual 285, 3) := dk_182 1 29 (dk_at dksX6_readTest_1 19 rfl rfl)
theorem dX6_readTest_45 : decode cX6_readTest 45 = .ok (.iastore, 1) := dk_79 (dk_at dksX6_readTest_1 22 rfl rfl)
theorem dX6_readTest_46 : decode cX6_readTest 46 = .ok (.aload_n 0, 1) := dk_42 (dk_at dksX6_readTest_1 23 rfl rfl)
theorem dX6_readTest_47 : decode cX6_readTest 47 = .ok (.getfield 216, 3) := dk_180 0 216 (dk_at dksX6_readTest_2 0 rfl rfl)
theorem dX6_readTest_50 : decode cX6_readTest 50 = .ok (.ifCond .gt 8, 3) := dk_157 0 8 (dk_at dksX6_readTest_2 3 rfl rfl)
theorem dX6_readTest_53 : decode cX6_readTest 53 = .ok (.iload_n 2, 1) := dk_28 (dk_at dksX6_readTest_2 6 rfl rfl)
theorem dX6_readTest_54 : decode cX6_readTest 54 = .ok (.iconst 2, 1) := dk_5 (dk_at dksX6_readTest_2 7 rfl rfl)
theorem dX6_readTest_55 : decode cX6_readTest 55 = .ok (.if_icmp .ne 4, 3) := dk_160 0 4 (dk_at dksX6_readTest_2 8 rfl rfl)
theorem dX6_readTest_58 : decode cX6_readTest 58 = .ok (.return_, 1) := dk_177 (dk_at dksX6_readTest_2 11 rfl rfl)
theorem dX6_readTest_59 : decode cX6_readTest 59 = .ok (.aload_n 0, 1) := dk_42 (dk_at dksX6_readTest_2 12 rfl rfl)
theorem dX6_readTest_60 : decode cX6_readTest 60 = .ok (.getfield 35, 3) := dk_180 0 35 (dk_at dksX6_readTest_2 13 rfl rfl)
theorem dX6_readTest_63 : decode cX6_readTest 63 = .ok (.iload_n 1, 1) := dk_27 (dk_at dksX6_readTest_2 16 rfl rfl)
theorem dX6_readTest_64 : decode cX6_readTest 64 = .ok (.bipush 7, 2) := dk_16 7 (dk_at dksX6_readTest_2 17 rfl rfl)
theorem dX6_readTest_66 : decode cX6_readTest 66 = .ok (.iadd, 1) := dk_96 (dk_at dksX6_readTest_2 19 rfl rfl)
theorem dX6_readTest_67 : decode cX6_readTest 67 = .ok (.aload_n 0, 1) := dk_42 (dk_at dksX6_readTest_2 20 rfl rfl)
theorem dX6_readTest_68 : decode cX6_readTest 68 = .ok (.getfield 132, 3) := dk_180 0 132 (dk_at dksX6_readTest_2 21 rfl rfl)
theorem dX6_readTest_71 : decode cX6_readTest 71 = .ok (.iconst 3, 1) := dk_6 (dk_at dksX6_readTest_3 0 rfl rfl)
theorem dX6_readTest_72 : decode cX6_readTest 72 = .ok (.if_icmp .ne 10, 3) := dk_160 0 10 (dk_at dksX6_readTest_3 1 rfl rfl)
theorem dX6_readTest_75 : decode cX6_readTest 75 = .ok (.aload_n 0, 1) := dk_42 (dk_at dksX6_readTest_3 4 rfl rfl)
theorem dX6_readTest_76 : decode cX6_readTest 76 = .ok (.getfield 151, 3) := dk_180 0 151 (dk_at dksX6_readTest_3 5 rfl rfl)
theorem dX6_readTest_79 : decode cX6_readTest 79 = .ok (.goto 4, 3) := dk_167 0 4 (dk_at dksX6_readTest_3 8 rfl rfl)
theorem dX6_readTest_82 : decode cX6_readTest 82 = .ok (.iconst 0, 1) := dk_3 (dk_at dksX6_readTest_3 11 rfl rfl)
theorem dX6_readTest_83 : decode cX6_readTest 83 = .ok (.iastore, 1) := dk_79 (dk_at dksX6_readTest_3 12 rfl rfl)
theorem dX6_readTest_84 : decode cX6_readTest 84 = .ok (.aload_n 0, 1) := dk_42 (dk_at dksX6_readTest_3 13 rfl rfl)
theorem dX6_readTest_85 : decode cX6_readTest 85 = .ok (.aload_n 0, 1) := dk_42 (dk_at dksX6_readTest_3 14 rfl rfl)
theorem dX6_readTest_86 : decode cX6_readTest 86 = .ok (.bipush 60, 2) := dk_16 60 (dk_at dksX6_readTest_3 15 rfl rfl)
theorem dX6_readTest_88 : decode cX6_readTest 88 = .ok (.invokevirtual 276, 3) := dk_182 1 20 (dk_at dksX6_readTest_3 17 rfl rfl)
theorem dX6_readTest_91 : decode cX6_readTest 91 = .ok (.ifCond .ne 21, 3) := dk_154 0 21 (dk_at dksX6_readTest_3 20 rfl rfl)
theorem dX6_readTest_94 : decode cX6_readTest 94 = .ok (.aload_n 0, 1) := dk_42 (dk_at dksX6_readTest_3 23 rfl rfl)
theorem dX6_readTest_95 : decode cX6_readTest 95 = .ok (.bipush 62, 2) := dk_16 62 (dk_at dksX6_readTest_4 0 rfl rfl)
theorem dX6_readTest_97 : decode cX6_readTest 97 = .ok (.invokevirtual 276, 3) := dk_182 1 20 (dk_at dksX6_readTest_4 2 rfl rfl)
theorem dX6_readTest_100 : decode cX6_readTest 100 = .ok (.ifCond .ne 12, 3) := dk_154 0 12 (dk_at dksX6_readTest_4 5 rfl rfl)
theorem dX6_readTest_103 : decode cX6_readTest 103 = .ok (.aload_n 0, 1) := dk_42 (dk_at dksX6_readTest_4 8 rfl rfl)
theorem dX6_readTest_104 : decode cX6_readTest 104 = .ok (.bipush 61, 2) := dk_16 61 (dk_at dksX6_readTest_4 9 rfl rfl)
theorem dX6_readTest_106 : decode cX6_readTest 106 = .ok (.invokevirtual 276, 3) := dk_182 1 20 (dk_at dksX6_readTest_4 11 rfl rfl)
theorem dX6_readTest_109 : decode cX6_readTest 109 = .ok (.ifCond .eq 7, 3) := dk_153 0 7 (dk_at dksX6_readTest_4 14 rfl rfl)
theorem dX6_readTest_112 : decode cX6_readTest 112 = .ok (.iconst 1, 1) := dk_4 (dk_at dksX6_readTest_4 17 rfl rfl)
theorem dX6_readTest_113 : decode cX6_readTest 113 = .ok (.goto 4, 3) := dk_167 0 4 (dk_at dksX6_readTest_4 18 rfl rfl)
theorem dX6_readTest_116 : decode cX6_readTest 116 = .ok (.iconst 0, 1) := dk_3 (dk_at dksX6_readTest_4 21 rfl rfl)
theorem dX6_readTest_117 : decode cX6_readTest 117 = .ok (.invokevirtual 254, 3) := dk_182 0 254 (dk_at dksX6_readTest_5 0 rfl rfl)
theorem dX6_readTest_120 : decode cX6_readTest 120 = .ok (.aload_n 0, 1) := dk_42 (dk_at dksX6_readTest_5 3 rfl rfl)
theorem dX6_readTest_121 : decode cX6_readTest 121 = .ok (.getfield 35, 3) := dk_180 0 35 (dk_at dksX6_readTest_5 4 rfl rfl)
theorem dX6_readTest_124 : decode cX6_readTest 124 = .ok (.iload_n 1, 1) := dk_27 (dk_at dksX6_readTest_5 7 rfl rfl)
theorem dX6_readTest_125 : decode cX6_readTest 125 = .ok (.iconst 2, 1) := dk_5 (dk_at dksX6_readTest_5 8 rfl rfl)
theorem dX6_readTest_126 : decode cX6_readTest 126 = .ok (.iadd, 1) := dk_96 (dk_at dksX6_readTest_5 9 rfl rfl)
theorem dX6_readTest_127 : decode cX6_readTest 127 = .ok (.aload_n 0, 1) := dk_42 (dk_at dksX6_readTest_5 10 rfl rfl)
theorem dX6_readTest_128 : decode cX6_readTest 128 = .ok (.iconst 0, 1) := dk_3 (dk_at dksX6_readTest_5 11 rfl rfl)
theorem dX6_readTest_129 : decode cX6_readTest 129 = .ok (.iload_n 2, 1) := dk_28 (dk_at dksX6_readTest_5 12 rfl rfl)
theorem dX6_readTest_130 : decode cX6_readTest 130 = .ok (.ifCond .ne 8, 3) := dk_154 0 8 (dk_at dksX6_readTest_5 13 rfl rfl)
theorem dX6_readTest_133 : decode cX6_readTest 133 = .ok (.bipush 8, 2) := dk_16 8 (dk_at dksX6_readTest_5 16 rfl rfl)
theorem dX6_readTest_135 : decode cX6_readTest 135 = .ok (.goto 5, 3) := dk_167 0 5 (dk_at dksX6_readTest_5 18 rfl rfl)
theorem dX6_readTest_138 : decode cX6_readTest 138 = .ok (.bipush 24, 2) := dk_16 24 (dk_at dksX6_readTest_5 21 rfl rfl)
theorem dX6_readTest_140 : decode cX6_readTest 140 = .ok (.invokevirtual 261, 3) := dk_182 1 5 (dk_at dksX6_readTest_6 0 rfl rfl)
theorem dX6_readTest_143 : decode cX6_readTest 143 = .ok (.iastore, 1) := dk_79 (dk_at dksX6_readTest_6 3 rfl rfl)
theorem dX6_readTest_144 : decode cX6_readTest 144 = .ok (.return_, 1) := dk_177 (dk_at dksX6_readTest_6 4 rfl rfl)
abbrev cX6_readTold : ByteArray := prog_16_method_57_code
def yX6_readTold : MethodName := ⟨RX6, "readTold", "(I)I"⟩
def dkwX6_readTold_0 : List UInt8 := [42, 27, 182, 0, 251, 61, 42, 4, 182, 0, 254, 28, 172]
abbrev dktX6_readTold_0 : List UInt8 := dkwX6_readTold_0 ++ []
theorem dksX6_readTold_0 : cX6_readTold.data.toList.drop 0 = dktX6_readTold_0 := by decide +kernel
theorem dX6_readTold_0 : decode cX6_readTold 0 = .ok (.aload_n 0, 1) := dk_42 (dk_at dksX6_readTold_0 0 rfl rfl)
theorem dX6_readTold_1 : decode cX6_readTold 1 = .ok (.iload_n 1, 1) := dk_27 (dk_at dksX6_readTold_0 1 rfl rfl)
theorem dX6_readTold_2 : decode cX6_readTold 2 = .ok (.invokevirtual 251, 3) := dk_182 0 251 (dk_at dksX6_readTold_0 2 rfl rfl)
theorem dX6_readTold_5 : decode cX6_readTold 5 = .ok (.istore_n 2, 1) := dk_61 (dk_at dksX6_readTold_0 5 rfl rfl)
theorem dX6_readTold_6 : decode cX6_readTold 6 = .ok (.aload_n 0, 1) := dk_42 (dk_at dksX6_readTold_0 6 rfl rfl)
theorem dX6_readTold_7 : decode cX6_readTold 7 = .ok (.iconst 1, 1) := dk_4 (dk_at dksX6_readTold_0 7 rfl rfl)
theorem dX6_readTold_8 : decode cX6_readTold 8 = .ok (.invokevirtual 254, 3) := dk_182 0 254 (dk_at dksX6_readTold_0 8 rfl rfl)
theorem dX6_readTold_11 : decode cX6_readTold 11 = .ok (.iload_n 2, 1) := dk_28 (dk_at dksX6_readTold_0 11 rfl rfl)
theorem dX6_readTold_12 : decode cX6_readTold 12 = .ok (.ireturn, 1) := dk_172 (dk_at dksX6_readTold_0 12 rfl rfl)
abbrev cX6_many : ByteArray := prog_16_method_71_code
def yX6_many : MethodName := ⟨RX6, "many", "(I)I"⟩
def dkwX6_many_1 : List UInt8 := [180, 0, 35, 27, 46, 167, 0, 8, 42, 8, 182, 1, 52, 172]
abbrev dktX6_many_1 : List UInt8 := dkwX6_many_1 ++ []
def dkwX6_many_0 : List UInt8 := [42, 3, 181, 0, 77, 42, 3, 181, 0, 80, 27, 133, 9, 20, 1, 50, 184, 0, 112, 153, 0, 12, 42]
abbrev dktX6_many_0 : List UInt8 := dkwX6_many_0 ++ dktX6_many_1
theorem dksX6_many_0 : cX6_many.data.toList.drop 0 = dktX6_many_0 := by decide +kernel
theorem dksX6_many_1 : cX6_many.data.toList.drop 23 = dktX6_many_1 := dk_seg dksX6_many_0 23 rfl rfl
theorem dX6_many_0 : decode cX6_many 0 = .ok (.aload_n 0, 1) := dk_42 (dk_at dksX6_many_0 0 rfl rfl)
theorem dX6_many_1 : decode cX6_many 1 = .ok (.iconst 0, 1) := dk_3 (dk_at dksX6_many_0 1 rfl rfl)
theorem dX6_many_2 : decode cX6_many 2 = .ok (.putfield 77, 3) := dk_181 0 77 (dk_at dksX6_many_0 2 rfl rfl)
theorem dX6_many_5 : decode cX6_many 5 = .ok (.aload_n 0, 1) := dk_42 (dk_at dksX6_many_0 5 rfl rfl)
theorem dX6_many_6 : decode cX6_many 6 = .ok (.iconst 0, 1) := dk_3 (dk_at dksX6_many_0 6 rfl rfl)
theorem dX6_many_7 : decode cX6_many 7 = .ok (.putfield 80, 3) := dk_181 0 80 (dk_at dksX6_many_0 7 rfl rfl)
theorem dX6_many_10 : decode cX6_many 10 = .ok (.iload_n 1, 1) := dk_27 (dk_at dksX6_many_0 10 rfl rfl)
theorem dX6_many_11 : decode cX6_many 11 = .ok (.i2l, 1) := dk_133 (dk_at dksX6_many_0 11 rfl rfl)
theorem dX6_many_12 : decode cX6_many 12 = .ok (.lconst 0, 1) := dk_9 (dk_at dksX6_many_0 12 rfl rfl)
theorem dX6_many_13 : decode cX6_many 13 = .ok (.ldc2_w 306, 3) := dk_20 1 50 (dk_at dksX6_many_0 13 rfl rfl)
theorem dX6_many_16 : decode cX6_many 16 = .ok (.invokestatic 112, 3) := dk_184 0 112 (dk_at dksX6_many_0 16 rfl rfl)
theorem dX6_many_19 : decode cX6_many 19 = .ok (.ifCond .eq 12, 3) := dk_153 0 12 (dk_at dksX6_many_0 19 rfl rfl)
theorem dX6_many_22 : decode cX6_many 22 = .ok (.aload_n 0, 1) := dk_42 (dk_at dksX6_many_0 22 rfl rfl)
theorem dX6_many_23 : decode cX6_many 23 = .ok (.getfield 35, 3) := dk_180 0 35 (dk_at dksX6_many_1 0 rfl rfl)
theorem dX6_many_26 : decode cX6_many 26 = .ok (.iload_n 1, 1) := dk_27 (dk_at dksX6_many_1 3 rfl rfl)
theorem dX6_many_27 : decode cX6_many 27 = .ok (.iaload, 1) := dk_46 (dk_at dksX6_many_1 4 rfl rfl)
theorem dX6_many_28 : decode cX6_many 28 = .ok (.goto 8, 3) := dk_167 0 8 (dk_at dksX6_many_1 5 rfl rfl)
theorem dX6_many_31 : decode cX6_many 31 = .ok (.aload_n 0, 1) := dk_42 (dk_at dksX6_many_1 8 rfl rfl)
theorem dX6_many_32 : decode cX6_many 32 = .ok (.iconst 5, 1) := dk_8 (dk_at dksX6_many_1 9 rfl rfl)
theorem dX6_many_33 : decode cX6_many 33 = .ok (.invokevirtual 308, 3) := dk_182 1 52 (dk_at dksX6_many_1 10 rfl rfl)
theorem dX6_many_36 : decode cX6_many 36 = .ok (.ireturn, 1) := dk_172 (dk_at dksX6_many_1 13 rfl rfl)
abbrev cX6_refuse : ByteArray := prog_16_method_6_code
def yX6_refuse : MethodName := ⟨RX6, "refuse", "(I)I"⟩
def dkwX6_refuse_0 : List UInt8 := [42, 27, 181, 0, 80, 2, 172]
abbrev dktX6_refuse_0 : List UInt8 := dkwX6_refuse_0 ++ []
theorem dksX6_refuse_0 : cX6_refuse.data.toList.drop 0 = dktX6_refuse_0 := by decide +kernel
theorem dX6_refuse_0 : decode cX6_refuse 0 = .ok (.aload_n 0, 1) := dk_42 (dk_at dksX6_refuse_0 0 rfl rfl)
theorem dX6_refuse_1 : decode cX6_refuse 1 = .ok (.iload_n 1, 1) := dk_27 (dk_at dksX6_refuse_0 1 rfl rfl)
theorem dX6_refuse_2 : decode cX6_refuse 2 = .ok (.putfield 80, 3) := dk_181 0 80 (dk_at dksX6_refuse_0 2 rfl rfl)
theorem dX6_refuse_5 : decode cX6_refuse 5 = .ok (.iconst (-1), 1) := dk_2 (dk_at dksX6_refuse_0 5 rfl rfl)
theorem dX6_refuse_6 : decode cX6_refuse 6 = .ok (.ireturn, 1) := dk_172 (dk_at dksX6_refuse_0 6 rfl rfl)
abbrev cX6_lead : ByteArray := prog_16_method_72_code
def yX6_lead : MethodName := ⟨RX6, "lead", "(II)I"⟩
def dkwX6_lead_3 : List UInt8 := [180, 0, 35, 16, 8, 16, 8, 28, 104, 96, 27, 96, 46, 172]
abbrev dktX6_lead_3 : List UInt8 := dkwX6_lead_3 ++ []
def dkwX6_lead_2 : List UInt8 := [42, 27, 182, 1, 58, 167, 0, 31, 28, 16, 7, 160, 0, 11, 42, 27, 182, 1, 61, 167, 0, 17, 42]
abbrev dktX6_lead_2 : List UInt8 := dkwX6_lead_2 ++ dktX6_lead_3
def dkwX6_lead_1 : List UInt8 := [28, 133, 9, 20, 1, 50, 184, 0, 112, 154, 0, 9, 42, 8, 182, 1, 52, 172, 28, 16, 6, 160, 0, 11]
abbrev dktX6_lead_1 : List UInt8 := dkwX6_lead_1 ++ dktX6_lead_2
def dkwX6_lead_0 : List UInt8 := [42, 3, 181, 0, 77, 42, 3, 181, 0, 80, 42, 27, 182, 1, 55, 154, 0, 9, 42, 5, 182, 1, 52, 172]
abbrev dktX6_lead_0 : List UInt8 := dkwX6_lead_0 ++ dktX6_lead_1
theorem dksX6_lead_0 : cX6_lead.data.toList.drop 0 = dktX6_lead_0 := by decide +kernel
theorem dksX6_lead_1 : cX6_lead.data.toList.drop 24 = dktX6_lead_1 := dk_seg dksX6_lead_0 24 rfl rfl
theorem dksX6_lead_2 : cX6_lead.data.toList.drop 48 = dktX6_lead_2 := dk_seg dksX6_lead_1 24 rfl rfl
theorem dksX6_lead_3 : cX6_lead.data.toList.drop 71 = dktX6_lead_3 := dk_seg dksX6_lead_2 23 rfl rfl
theorem dX6_lead_0 : decode cX6_lead 0 = .ok (.aload_n 0, 1) := dk_42 (dk_at dksX6_lead_0 0 rfl rfl)
theorem dX6_lead_1 : decode cX6_lead 1 = .ok (.iconst 0, 1) := dk_3 (dk_at dksX6_lead_0 1 rfl rfl)
theorem dX6_lead_2 : decode cX6_lead 2 = .ok (.putfield 77, 3) := dk_181 0 77 (dk_at dksX6_lead_0 2 rfl rfl)
theorem dX6_lead_5 : decode cX6_lead 5 = .ok (.aload_n 0, 1) := dk_42 (dk_at dksX6_lead_0 5 rfl rfl)
theorem dX6_lead_6 : decode cX6_lead 6 = .ok (.iconst 0, 1) := dk_3 (dk_at dksX6_lead_0 6 rfl rfl)
theorem dX6_lead_7 : decode cX6_lead 7 = .ok (.putfield 80, 3) := dk_181 0 80 (dk_at dksX6_lead_0 7 rfl rfl)
theorem dX6_lead_10 : decode cX6_lead 10 = .ok (.aload_n 0, 1) := dk_42 (dk_at dksX6_lead_0 10 rfl rfl)
theorem dX6_lead_11 : decode cX6_lead 11 = .ok (.iload_n 1, 1) := dk_27 (dk_at dksX6_lead_0 11 rfl rfl)
theorem dX6_lead_12 : decode cX6_lead 12 = .ok (.invokevirtual 311, 3) := dk_182 1 55 (dk_at dksX6_lead_0 12 rfl rfl)
theorem dX6_lead_15 : decode cX6_lead 15 = .ok (.ifCond .ne 9, 3) := dk_154 0 9 (dk_at dksX6_lead_0 15 rfl rfl)
theorem dX6_lead_18 : decode cX6_lead 18 = .ok (.aload_n 0, 1) := dk_42 (dk_at dksX6_lead_0 18 rfl rfl)
theorem dX6_lead_19 : decode cX6_lead 19 = .ok (.iconst 2, 1) := dk_5 (dk_at dksX6_lead_0 19 rfl rfl)
theorem dX6_lead_20 : decode cX6_lead 20 = .ok (.invokevirtual 308, 3) := dk_182 1 52 (dk_at dksX6_lead_0 20 rfl rfl)
theorem dX6_lead_23 : decode cX6_lead 23 = .ok (.ireturn, 1) := dk_172 (dk_at dksX6_lead_0 23 rfl rfl)
theorem dX6_lead_24 : decode cX6_lead 24 = .ok (.iload_n 2, 1) := dk_28 (dk_at dksX6_lead_1 0 rfl rfl)
theorem dX6_lead_25 : decode cX6_lead 25 = .ok (.i2l, 1) := dk_133 (dk_at dksX6_lead_1 1 rfl rfl)
theorem dX6_lead_26 : decode cX6_lead 26 = .ok (.lconst 0, 1) := dk_9 (dk_at dksX6_lead_1 2 rfl rfl)
theorem dX6_lead_27 : decode cX6_lead 27 = .ok (.ldc2_w 306, 3) := dk_20 1 50 (dk_at dksX6_lead_1 3 rfl rfl)
theorem dX6_lead_30 : decode cX6_lead 30 = .ok (.invokestatic 112, 3) := dk_184 0 112 (dk_at dksX6_lead_1 6 rfl rfl)
theorem dX6_lead_33 : decode cX6_lead 33 = .ok (.ifCond .ne 9, 3) := dk_154 0 9 (dk_at dksX6_lead_1 9 rfl rfl)
theorem dX6_lead_36 : decode cX6_lead 36 = .ok (.aload_n 0, 1) := dk_42 (dk_at dksX6_lead_1 12 rfl rfl)
theorem dX6_lead_37 : decode cX6_lead 37 = .ok (.iconst 5, 1) := dk_8 (dk_at dksX6_lead_1 13 rfl rfl)
theorem dX6_lead_38 : decode cX6_lead 38 = .ok (.invokevirtual 308, 3) := dk_182 1 52 (dk_at dksX6_lead_1 14 rfl rfl)
theorem dX6_lead_41 : decode cX6_lead 41 = .ok (.ireturn, 1) := dk_172 (dk_at dksX6_lead_1 17 rfl rfl)
theorem dX6_lead_42 : decode cX6_lead 42 = .ok (.iload_n 2, 1) := dk_28 (dk_at dksX6_lead_1 18 rfl rfl)
theorem dX6_lead_43 : decode cX6_lead 43 = .ok (.bipush 6, 2) := dk_16 6 (dk_at dksX6_lead_1 19 rfl rfl)
theorem dX6_lead_45 : decode cX6_lead 45 = .ok (.if_icmp .ne 11, 3) := dk_160 0 11 (dk_at dksX6_lead_1 21 rfl rfl)
theorem dX6_lead_48 : decode cX6_lead 48 = .ok (.aload_n 0, 1) := dk_42 (dk_at dksX6_lead_2 0 rfl rfl)
theorem dX6_lead_49 : decode cX6_lead 49 = .ok (.iload_n 1, 1) := dk_27 (dk_at dksX6_lead_2 1 rfl rfl)
theorem dX6_lead_50 : decode cX6_lead 50 = .ok (.invokevirtual 314, 3) := dk_182 1 58 (dk_at dksX6_lead_2 2 rfl rfl)
theorem dX6_lead_53 : decode cX6_lead 53 = .ok (.goto 31, 3) := dk_167 0 31 (dk_at dksX6_lead_2 5 rfl rfl)
theorem dX6_lead_56 : decode cX6_lead 56 = .ok (.iload_n 2, 1) := dk_28 (dk_at dksX6_lead_2 8 rfl rfl)
theorem dX6_lead_57 : decode cX6_lead 57 = .ok (.bipush 7, 2) := dk_16 7 (dk_at dksX6_lead_2 9 rfl rfl)
theorem dX6_lead_59 : decode cX6_lead 59 = .ok (.if_icmp .ne 11, 3) := dk_160 0 11 (dk_at dksX6_lead_2 11 rfl rfl)
theorem dX6_lead_62 : decode cX6_lead 62 = .ok (.aload_n 0, 1) := dk_42 (dk_at dksX6_lead_2 14 rfl rfl)
theorem dX6_lead_63 : decode cX6_lead 63 = .ok (.iload_n 1, 1) := dk_27 (dk_at dksX6_lead_2 15 rfl rfl)
theorem dX6_lead_64 : decode cX6_lead 64 = .ok (.invokevirtual 317, 3) := dk_182 1 61 (dk_at dksX6_lead_2 16 rfl rfl)
theorem dX6_lead_67 : decode cX6_lead 67 = .ok (.goto 17, 3) := dk_167 0 17 (dk_at dksX6_lead_2 19 rfl rfl)
theorem dX6_lead_70 : decode cX6_lead 70 = .ok (.aload_n 0, 1) := dk_42 (dk_at dksX6_lead_2 22 rfl rfl)
theorem dX6_lead_71 : decode cX6_lead 71 = .ok (.getfield 35, 3) := dk_180 0 35 (dk_at dksX6_lead_3 0 rfl rfl)
theorem dX6_lead_74 : decode cX6_lead 74 = .ok (.bipush 8, 2) := dk_16 8 (dk_at dksX6_lead_3 3 rfl rfl)
theorem dX6_lead_76 : decode cX6_lead 76 = .ok (.bipush 8, 2) := dk_16 8 (dk_at dksX6_lead_3 5 rfl rfl)
theorem dX6_lead_78 : decode cX6_lead 78 = .ok (.iload_n 2, 1) := dk_28 (dk_at dksX6_lead_3 7 rfl rfl)
theorem dX6_lead_79 : decode cX6_lead 79 = .ok (.imul, 1) := dk_104 (dk_at dksX6_lead_3 8 rfl rfl)
theorem dX6_lead_80 : decode cX6_lead 80 = .ok (.iadd, 1) := dk_96 (dk_at dksX6_lead_3 9 rfl rfl)
theorem dX6_lead_81 : decode cX6_lead 81 = .ok (.iload_n 1, 1) := dk_27 (dk_at dksX6_lead_3 10 rfl rfl)
theorem dX6_lead_82 : decode cX6_lead 82 = .ok (.iadd, 1) := dk_96 (dk_at dksX6_lead_3 11 rfl rfl)
theorem dX6_lead_83 : decode cX6_lead 83 = .ok (.iaload, 1) := dk_46 (dk_at dksX6_lead_3 12 rfl rfl)
theorem dX6_lead_84 : decode cX6_lead 84 = .ok (.ireturn, 1) := dk_172 (dk_at dksX6_lead_3 13 rfl rfl)
abbrev cX6_isLeadAt : ByteArray := prog_16_method_66_code
def yX6_isLeadAt : MethodName := ⟨RX6, "isLeadAt", "(I)Z"⟩
def dkwX6_isLeadAt_0 : List UInt8 := [27, 133, 9, 42, 180, 0, 35, 3, 46, 4, 100, 133, 184, 0, 112, 172]
abbrev dktX6_isLeadAt_0 : List UInt8 := dkwX6_isLeadAt_0 ++ []
theorem dksX6_isLeadAt_0 : cX6_isLeadAt.data.toList.drop 0 = dktX6_isLeadAt_0 := by decide +kernel
theorem dX6_isLeadAt_0 : decode cX6_isLeadAt 0 = .ok (.iload_n 1, 1) := dk_27 (dk_at dksX6_isLeadAt_0 0 rfl rfl)
theorem dX6_isLeadAt_1 : decode cX6_isLeadAt 1 = .ok (.i2l, 1) := dk_133 (dk_at dksX6_isLeadAt_0 1 rfl rfl)
theorem dX6_isLeadAt_2 : decode cX6_isLeadAt 2 = .ok (.lconst 0, 1) := dk_9 (dk_at dksX6_isLeadAt_0 2 rfl rfl)
theorem dX6_isLeadAt_3 : decode cX6_isLeadAt 3 = .ok (.aload_n 0, 1) := dk_42 (dk_at dksX6_isLeadAt_0 3 rfl rfl)
theorem dX6_isLeadAt_4 : decode cX6_isLeadAt 4 = .ok (.getfield 35, 3) := dk_180 0 35 (dk_at dksX6_isLeadAt_0 4 rfl rfl)
theorem dX6_isLeadAt_7 : decode cX6_isLeadAt 7 = .ok (.iconst 0, 1) := dk_3 (dk_at dksX6_isLeadAt_0 7 rfl rfl)
theorem dX6_isLeadAt_8 : decode cX6_isLeadAt 8 = .ok (.iaload, 1) := dk_46 (dk_at dksX6_isLeadAt_0 8 rfl rfl)
theorem dX6_isLeadAt_9 : decode cX6_isLeadAt 9 = .ok (.iconst 1, 1) := dk_4 (dk_at dksX6_isLeadAt_0 9 rfl rfl)
theorem dX6_isLeadAt_10 : decode cX6_isLeadAt 10 = .ok (.isub, 1) := dk_100 (dk_at dksX6_isLeadAt_0 10 rfl rfl)
theorem dX6_isLeadAt_11 : decode cX6_isLeadAt 11 = .ok (.i2l, 1) := dk_133 (dk_at dksX6_isLeadAt_0 11 rfl rfl)
theorem dX6_isLeadAt_12 : decode cX6_isLeadAt 12 = .ok (.invokestatic 112, 3) := dk_184 0 112 (dk_at dksX6_isLeadAt_0 12 rfl rfl)
theorem dX6_isLeadAt_15 : decode cX6_isLeadAt 15 = .ok (.ireturn, 1) := dk_172 (dk_at dksX6_isLeadAt_0 15 rfl rfl)
abbrev cX6_crossings : ByteArray := prog_16_method_69_code
def yX6_crossings : MethodName := ⟨RX6, "crossings", "(I)I"⟩
def dkwX6_crossings_1 : List UInt8 := [4, 167, 0, 4, 3, 96, 61, 132, 3, 1, 167, 255, 226, 28, 172]
abbrev dktX6_crossings_1 : List UInt8 := dkwX6_crossings_1 ++ []
def dkwX6_crossings_0 : List UInt8 := [3, 61, 3, 62, 29, 42, 180, 0, 35, 4, 46, 162, 0, 26, 28, 42, 29, 27, 182, 1, 44, 153, 0, 7]
abbrev dktX6_crossings_0 : List UInt8 := dkwX6_crossings_0 ++ dktX6_crossings_1
theorem dksX6_crossings_0 : cX6_crossings.data.toList.drop 0 = dktX6_crossings_0 := by decide +kernel
theorem dksX6_crossings_1 : cX6_crossings.data.toList.drop 24 = dktX6_crossings_1 := dk_seg dksX6_crossings_0 24 rfl rfl
theorem dX6_crossings_0 : decode cX6_crossings 0 = .ok (.iconst 0, 1) := dk_3 (dk_at dksX6_crossings_0 0 rfl rfl)
theorem dX6_crossings_1 : decode cX6_crossings 1 = .ok (.istore_n 2, 1) := dk_61 (dk_at dksX6_crossings_0 1 rfl rfl)
theorem dX6_crossings_2 : decode cX6_crossings 2 = .ok (.iconst 0, 1) := dk_3 (dk_at dksX6_crossings_0 2 rfl rfl)
theorem dX6_crossings_3 : decode cX6_crossings 3 = .ok (.istore_n 3, 1) := dk_62 (dk_at dksX6_crossings_0 3 rfl rfl)
theorem dX6_crossings_4 : decode cX6_crossings 4 = .ok (.iload_n 3, 1) := dk_29 (dk_at dksX6_crossings_0 4 rfl rfl)
theorem dX6_crossings_5 : decode cX6_crossings 5 = .ok (.aload_n 0, 1) := dk_42 (dk_at dksX6_crossings_0 5 rfl rfl)
theorem dX6_crossings_6 : decode cX6_crossings 6 = .ok (.getfield 35, 3) := dk_180 0 35 (dk_at dksX6_crossings_0 6 rfl rfl)
theorem dX6_crossings_9 : decode cX6_crossings 9 = .ok (.iconst 1, 1) := dk_4 (dk_at dksX6_crossings_0 9 rfl rfl)
theorem dX6_crossings_10 : decode cX6_crossings 10 = .ok (.iaload, 1) := dk_46 (dk_at dksX6_crossings_0 10 rfl rfl)
theorem dX6_crossings_11 : decode cX6_crossings 11 = .ok (.if_icmp .ge 26, 3) := dk_162 0 26 (dk_at dksX6_crossings_0 11 rfl rfl)
theorem dX6_crossings_14 : decode cX6_crossings 14 = .ok (.iload_n 2, 1) := dk_28 (dk_at dksX6_crossings_0 14 rfl rfl)
theorem dX6_crossings_15 : decode cX6_crossings 15 = .ok (.aload_n 0, 1) := dk_42 (dk_at dksX6_crossings_0 15 rfl rfl)
theorem dX6_crossings_16 : decode cX6_crossings 16 = .ok (.iload_n 3, 1) := dk_29 (dk_at dksX6_crossings_0 16 rfl rfl)
theorem dX6_crossings_17 : decode cX6_crossings 17 = .ok (.iload_n 1, 1) := dk_27 (dk_at dksX6_crossings_0 17 rfl rfl)
theorem dX6_crossings_18 : decode cX6_crossings 18 = .ok (.invokevirtual 300, 3) := dk_182 1 44 (dk_at dksX6_crossings_0 18 rfl rfl)
theorem dX6_crossings_21 : decode cX6_crossings 21 = .ok (.ifCond .eq 7, 3) := dk_153 0 7 (dk_at dksX6_crossings_0 21 rfl rfl)
theorem dX6_crossings_24 : decode cX6_crossings 24 = .ok (.iconst 1, 1) := dk_4 (dk_at dksX6_crossings_1 0 rfl rfl)
theorem dX6_crossings_25 : decode cX6_crossings 25 = .ok (.goto 4, 3) := dk_167 0 4 (dk_at dksX6_crossings_1 1 rfl rfl)
theorem dX6_crossings_28 : decode cX6_crossings 28 = .ok (.iconst 0, 1) := dk_3 (dk_at dksX6_crossings_1 4 rfl rfl)
theorem dX6_crossings_29 : decode cX6_crossings 29 = .ok (.iadd, 1) := dk_96 (dk_at dksX6_crossings_1 5 rfl rfl)
theorem dX6_crossings_30 : decode cX6_crossings 30 = .ok (.istore_n 2, 1) := dk_61 (dk_at dksX6_crossings_1 6 rfl rfl)
theorem dX6_crossings_31 : decode cX6_crossings 31 = .ok (.iinc 3 1, 3) := dk_132 3 1 (dk_at dksX6_crossings_1 7 rfl rfl)
theorem dX6_crossings_34 : decode cX6_crossings 34 = .ok (.goto (-30), 3) := dk_167 255 226 (dk_at dksX6_crossings_1 10 rfl rfl)
theorem dX6_crossings_37 : decode cX6_crossings 37 = .ok (.iload_n 2, 1) := dk_28 (dk_at dksX6_crossings_1 13 rfl rfl)
theorem dX6_crossings_38 : decode cX6_crossings 38 = .ok (.ireturn, 1) := dk_172 (dk_at dksX6_crossings_1 14 rfl rfl)
abbrev cX6_isOf : ByteArray := prog_16_method_68_code
def yX6_isOf : MethodName := ⟨RX6, "isOf", "(II)Z"⟩
def dkwX6_isOf_1 : List UInt8 := [160, 0, 7, 4, 167, 0, 4, 3, 172]
abbrev dktX6_isOf_1 : List UInt8 := dkwX6_isOf_1 ++ []
def dkwX6_isOf_0 : List UInt8 := [42, 180, 0, 35, 16, 60, 27, 96, 46, 28, 159, 0, 16, 42, 180, 0, 35, 16, 84, 27, 96, 46, 28]
abbrev dktX6_isOf_0 : List UInt8 := dkwX6_isOf_0 ++ dktX6_isOf_1
theorem dksX6_isOf_0 : cX6_isOf.data.toList.drop 0 = dktX6_isOf_0 := by decide +kernel
theorem dksX6_isOf_1 : cX6_isOf.data.toList.drop 23 = dktX6_isOf_1 := dk_seg dksX6_isOf_0 23 rfl rfl
theorem dX6_isOf_0 : decode cX6_isOf 0 = .ok (.aload_n 0, 1) := dk_42 (dk_at dksX6_isOf_0 0 rfl rfl)
theorem dX6_isOf_1 : decode cX6_isOf 1 = .ok (.getfield 35, 3) := dk_180 0 35 (dk_at dksX6_isOf_0 1 rfl rfl)
theorem dX6_isOf_4 : decode cX6_isOf 4 = .ok (.bipush 60, 2) := dk_16 60 (dk_at dksX6_isOf_0 4 rfl rfl)
theorem dX6_isOf_6 : decode cX6_isOf 6 = .ok (.iload_n 1, 1) := dk_27 (dk_at dksX6_isOf_0 6 rfl rfl)
theorem dX6_isOf_7 : decode cX6_isOf 7 = .ok (.iadd, 1) := dk_96 (dk_at dksX6_isOf_0 7 rfl rfl)
theorem dX6_isOf_8 : decode cX6_isOf 8 = .ok (.iaload, 1) := dk_46 (dk_at dksX6_isOf_0 8 rfl rfl)
theorem dX6_isOf_9 : decode cX6_isOf 9 = .ok (.iload_n 2, 1) := dk_28 (dk_at dksX6_isOf_0 9 rfl rfl)
theorem dX6_isOf_10 : decode cX6_isOf 10 = .ok (.if_icmp .eq 16, 3) := dk_159 0 16 (dk_at dksX6_isOf_0 10 rfl rfl)
theorem dX6_isOf_13 : decode cX6_isOf 13 = .ok (.aload_n 0, 1) := dk_42 (dk_at dksX6_isOf_0 13 rfl rfl)
theorem dX6_isOf_14 : decode cX6_isOf 14 = .ok (.getfield 35, 3) := dk_180 0 35 (dk_at dksX6_isOf_0 14 rfl rfl)
theorem dX6_isOf_17 : decode cX6_isOf 17 = .ok (.bipush 84, 2) := dk_16 84 (dk_at dksX6_isOf_0 17 rfl rfl)
theorem dX6_isOf_19 : decode cX6_isOf 19 = .ok (.iload_n 1, 1) := dk_27 (dk_at dksX6_isOf_0 19 rfl rfl)
theorem dX6_isOf_20 : decode cX6_isOf 20 = .ok (.iadd, 1) := dk_96 (dk_at dksX6_isOf_0 20 rfl rfl)
theorem dX6_isOf_21 : decode cX6_isOf 21 = .ok (.iaload, 1) := dk_46 (dk_at dksX6_isOf_0 21 rfl rfl)
theorem dX6_isOf_22 : decode cX6_isOf 22 = .ok (.iload_n 2, 1) := dk_28 (dk_at dksX6_isOf_0 22 rfl rfl)
theorem dX6_isOf_23 : decode cX6_isOf 23 = .ok (.if_icmp .ne 7, 3) := dk_160 0 7 (dk_at dksX6_isOf_1 0 rfl rfl)
theorem dX6_isOf_26 : decode cX6_isOf 26 = .ok (.iconst 1, 1) := dk_4 (dk_at dksX6_isOf_1 3 rfl rfl)
theorem dX6_isOf_27 : decode cX6_isOf 27 = .ok (.goto 4, 3) := dk_167 0 4 (dk_at dksX6_isOf_1 4 rfl rfl)
theorem dX6_isOf_30 : decode cX6_isOf 30 = .ok (.iconst 0, 1) := dk_3 (dk_at dksX6_isOf_1 7 rfl rfl)
theorem dX6_isOf_31 : decode cX6_isOf 31 = .ok (.ireturn, 1) := dk_172 (dk_at dksX6_isOf_1 8 rfl rfl)
abbrev cX6_riskOf : ByteArray := prog_16_method_70_code
def yX6_riskOf : MethodName := ⟨RX6, "riskOf", "(I)I"⟩
def dkwX6_riskOf_1 : List UInt8 := [184, 1, 47, 184, 0, 248, 172]
abbrev dktX6_riskOf_1 : List UInt8 := dkwX6_riskOf_1 ++ []
def dkwX6_riskOf_0 : List UInt8 := [3, 16, 15, 42, 180, 0, 35, 16, 8, 27, 96, 46, 5, 108, 42, 180, 0, 35, 16, 16, 27, 96, 46, 100]
abbrev dktX6_riskOf_0 : List UInt8 := dkwX6_riskOf_0 ++ dktX6_riskOf_1
theorem dksX6_riskOf_0 : cX6_riskOf.data.toList.drop 0 = dktX6_riskOf_0 := by decide +kernel
theorem dksX6_riskOf_1 : cX6_riskOf.data.toList.drop 24 = dktX6_riskOf_1 := dk_seg dksX6_riskOf_0 24 rfl rfl
theorem dX6_riskOf_0 : decode cX6_riskOf 0 = .ok (.iconst 0, 1) := dk_3 (dk_at dksX6_riskOf_0 0 rfl rfl)
theorem dX6_riskOf_1 : decode cX6_riskOf 1 = .ok (.bipush 15, 2) := dk_16 15 (dk_at dksX6_riskOf_0 1 rfl rfl)
theorem dX6_riskOf_3 : decode cX6_riskOf 3 = .ok (.aload_n 0, 1) := dk_42 (dk_at dksX6_riskOf_0 3 rfl rfl)
theorem dX6_riskOf_4 : decode cX6_riskOf 4 = .ok (.getfield 35, 3) := dk_180 0 35 (dk_at dksX6_riskOf_0 4 rfl rfl)
theorem dX6_riskOf_7 : decode cX6_riskOf 7 = .ok (.bipush 8, 2) := dk_16 8 (dk_at dksX6_riskOf_0 7 rfl rfl)
theorem dX6_riskOf_9 : decode cX6_riskOf 9 = .ok (.iload_n 1, 1) := dk_27 (dk_at dksX6_riskOf_0 9 rfl rfl)
theorem dX6_riskOf_10 : decode cX6_riskOf 10 = .ok (.iadd, 1) := dk_96 (dk_at dksX6_riskOf_0 10 rfl rfl)
theorem dX6_riskOf_11 : decode cX6_riskOf 11 = .ok (.iaload, 1) := dk_46 (dk_at dksX6_riskOf_0 11 rfl rfl)
theorem dX6_riskOf_12 : decode cX6_riskOf 12 = .ok (.iconst 2, 1) := dk_5 (dk_at dksX6_riskOf_0 12 rfl rfl)
theorem dX6_riskOf_13 : decode cX6_riskOf 13 = .ok (.idiv, 1) := dk_108 (dk_at dksX6_riskOf_0 13 rfl rfl)
theorem dX6_riskOf_14 : decode cX6_riskOf 14 = .ok (.aload_n 0, 1) := dk_42 (dk_at dksX6_riskOf_0 14 rfl rfl)
theorem dX6_riskOf_15 : decode cX6_riskOf 15 = .ok (.getfield 35, 3) := dk_180 0 35 (dk_at dksX6_riskOf_0 15 rfl rfl)
theorem dX6_riskOf_18 : decode cX6_riskOf 18 = .ok (.bipush 16, 2) := dk_16 16 (dk_at dksX6_riskOf_0 18 rfl rfl)
theorem dX6_riskOf_20 : decode cX6_riskOf 20 = .ok (.iload_n 1, 1) := dk_27 (dk_at dksX6_riskOf_0 20 rfl rfl)
theorem dX6_riskOf_21 : decode cX6_riskOf 21 = .ok (.iadd, 1) := dk_96 (dk_at dksX6_riskOf_0 21 rfl rfl)
theorem dX6_riskOf_22 : decode cX6_riskOf 22 = .ok (.iaload, 1) := dk_46 (dk_at dksX6_riskOf_0 22 rfl rfl)
theorem dX6_riskOf_23 : decode cX6_riskOf 23 = .ok (.isub, 1) := dk_100 (dk_at dksX6_riskOf_0 23 rfl rfl)
theorem dX6_riskOf_24 : decode cX6_riskOf 24 = .ok (.invokestatic 303, 3) := dk_184 1 47 (dk_at dksX6_riskOf_1 0 rfl rfl)
theorem dX6_riskOf_27 : decode cX6_riskOf 27 = .ok (.invokestatic 248, 3) := dk_184 0 248 (dk_at dksX6_riskOf_1 3 rfl rfl)
theorem dX6_riskOf_30 : decode cX6_riskOf 30 = .ok (.ireturn, 1) := dk_172 (dk_at dksX6_riskOf_1 6 rfl rfl)
abbrev cX6_crossing : ByteArray := prog_16_method_73_code
def yX6_crossing : MethodName := ⟨RX6, "crossing", "(II)I"⟩
def dkwX6_crossing_2 : List UInt8 := [180, 0, 35, 16, 60, 16, 24, 28, 104, 96, 27, 96, 46, 167, 0, 9, 42, 16, 8, 182, 1, 52, 172]
abbrev dktX6_crossing_2 : List UInt8 := dkwX6_crossing_2 ++ []
def dkwX6_crossing_1 : List UInt8 := [182, 1, 52, 172, 27, 133, 9, 42, 180, 0, 35, 4, 46, 4, 100, 133, 184, 0, 112, 153, 0, 20, 42]
abbrev dktX6_crossing_1 : List UInt8 := dkwX6_crossing_1 ++ dktX6_crossing_2
def dkwX6_crossing_0 : List UInt8 := [42, 3, 181, 0, 77, 42, 3, 181, 0, 80, 28, 133, 9, 20, 1, 64, 184, 0, 112, 154, 0, 9, 42, 8]
abbrev dktX6_crossing_0 : List UInt8 := dkwX6_crossing_0 ++ dktX6_crossing_1
theorem dksX6_crossing_0 : cX6_crossing.data.toList.drop 0 = dktX6_crossing_0 := by decide +kernel
theorem dksX6_crossing_1 : cX6_crossing.data.toList.drop 24 = dktX6_crossing_1 := dk_seg dksX6_crossing_0 24 rfl rfl
theorem dksX6_crossing_2 : cX6_crossing.data.toList.drop 47 = dktX6_crossing_2 := dk_seg dksX6_crossing_1 23 rfl rfl
theorem dX6_crossing_0 : decode cX6_crossing 0 = .ok (.aload_n 0, 1) := dk_42 (dk_at dksX6_crossing_0 0 rfl rfl)
theorem dX6_crossing_1 : decode cX6_crossing 1 = .ok (.iconst 0, 1) := dk_3 (dk_at dksX6_crossing_0 1 rfl rfl)
theorem dX6_crossing_2 : decode cX6_crossing 2 = .ok (.putfield 77, 3) := dk_181 0 77 (dk_at dksX6_crossing_0 2 rfl rfl)
theorem dX6_crossing_5 : decode cX6_crossing 5 = .ok (.aload_n 0, 1) := dk_42 (dk_at dksX6_crossing_0 5 rfl rfl)
theorem dX6_crossing_6 : decode cX6_crossing 6 = .ok (.iconst 0, 1) := dk_3 (dk_at dksX6_crossing_0 6 rfl rfl)
theorem dX6_crossing_7 : decode cX6_crossing 7 = .ok (.putfield 80, 3) := dk_181 0 80 (dk_at dksX6_crossing_0 7 rfl rfl)
theorem dX6_crossing_10 : decode cX6_crossing 10 = .ok (.iload_n 2, 1) := dk_28 (dk_at dksX6_crossing_0 10 rfl rfl)
theorem dX6_crossing_11 : decode cX6_crossing 11 = .ok (.i2l, 1) := dk_133 (dk_at dksX6_crossing_0 11 rfl rfl)
theorem dX6_crossing_12 : decode cX6_crossing 12 = .ok (.lconst 0, 1) := dk_9 (dk_at dksX6_crossing_0 12 rfl rfl)
theorem dX6_crossing_13 : decode cX6_crossing 13 = .ok (.ldc2_w 320, 3) := dk_20 1 64 (dk_at dksX6_crossing_0 13 rfl rfl)
theorem dX6_crossing_16 : decode cX6_crossing 16 = .ok (.invokestatic 112, 3) := dk_184 0 112 (dk_at dksX6_crossing_0 16 rfl rfl)
theorem dX6_crossing_19 : decode cX6_crossing 19 = .ok (.ifCond .ne 9, 3) := dk_154 0 9 (dk_at dksX6_crossing_0 19 rfl rfl)
theorem dX6_crossing_22 : decode cX6_crossing 22 = .ok (.aload_n 0, 1) := dk_42 (dk_at dksX6_crossing_0 22 rfl rfl)
theorem dX6_crossing_23 : decode cX6_crossing 23 = .ok (.iconst 5, 1) := dk_8 (dk_at dksX6_crossing_0 23 rfl rfl)
theorem dX6_crossing_24 : decode cX6_crossing 24 = .ok (.invokevirtual 308, 3) := dk_182 1 52 (dk_at dksX6_crossing_1 0 rfl rfl)
theorem dX6_crossing_27 : decode cX6_crossing 27 = .ok (.ireturn, 1) := dk_172 (dk_at dksX6_crossing_1 3 rfl rfl)
theorem dX6_crossing_28 : decode cX6_crossing 28 = .ok (.iload_n 1, 1) := dk_27 (dk_at dksX6_crossing_1 4 rfl rfl)
theorem dX6_crossing_29 : decode cX6_crossing 29 = .ok (.i2l, 1) := dk_133 (dk_at dksX6_crossing_1 5 rfl rfl)
theorem dX6_crossing_30 : decode cX6_crossing 30 = .ok (.lconst 0, 1) := dk_9 (dk_at dksX6_crossing_1 6 rfl rfl)
theorem dX6_crossing_31 : decode cX6_crossing 31 = .ok (.aload_n 0, 1) := dk_42 (dk_at dksX6_crossing_1 7 rfl rfl)
theorem dX6_crossing_32 : decode cX6_crossing 32 = .ok (.getfield 35, 3) := dk_180 0 35 (dk_at dksX6_crossing_1 8 rfl rfl)
theorem dX6_crossing_35 : decode cX6_crossing 35 = .ok (.iconst 1, 1) := dk_4 (dk_at dksX6_crossing_1 11 rfl rfl)
theorem dX6_crossing_36 : decode cX6_crossing 36 = .ok (.iaload, 1) := dk_46 (dk_at dksX6_crossing_1 12 rfl rfl)
theorem dX6_crossing_37 : decode cX6_crossing 37 = .ok (.iconst 1, 1) := dk_4 (dk_at dksX6_crossing_1 13 rfl rfl)
theorem dX6_crossing_38 : decode cX6_crossing 38 = .ok (.isub, 1) := dk_100 (dk_at dksX6_crossing_1 14 rfl rfl)
theorem dX6_crossing_39 : decode cX6_crossing 39 = .ok (.i2l, 1) := dk_133 (dk_at dksX6_crossing_1 15 rfl rfl)
theorem dX6_crossing_40 : decode cX6_crossing 40 = .ok (.invokestatic 112, 3) := dk_184 0 112 (dk_at dksX6_crossing_1 16 rfl rfl)
theorem dX6_crossing_43 : decode cX6_crossing 43 = .ok (.ifCond .eq 20, 3) := dk_153 0 20 (dk_at dksX6_crossing_1 19 rfl rfl)
theorem dX6_crossing_46 : decode cX6_crossing 46 = .ok (.aload_n 0, 1) := dk_42 (dk_at dksX6_crossing_1 22 rfl rfl)
theorem dX6_crossing_47 : decode cX6_crossing 47 = .ok (.getfield 35, 3) := dk_180 0 35 (dk_at dksX6_crossing_2 0 rfl rfl)
theorem dX6_crossing_50 : decode cX6_crossing 50 = .ok (.bipush 60, 2) := dk_16 60 (dk_at dksX6_crossing_2 3 rfl rfl)
theorem dX6_crossing_52 : decode cX6_crossing 52 = .ok (.bipush 24, 2) := dk_16 24 (dk_at dksX6_crossing_2 5 rfl rfl)
theorem dX6_crossing_54 : decode cX6_crossing 54 = .ok (.iload_n 2, 1) := dk_28 (dk_at dksX6_crossing_2 7 rfl rfl)
theorem dX6_crossing_55 : decode cX6_crossing 55 = .ok (.imul, 1) := dk_104 (dk_at dksX6_crossing_2 8 rfl rfl)
theorem dX6_crossing_56 : decode cX6_crossing 56 = .ok (.iadd, 1) := dk_96 (dk_at dksX6_crossing_2 9 rfl rfl)
theorem dX6_crossing_57 : decode cX6_crossing 57 = .ok (.iload_n 1, 1) := dk_27 (dk_at dksX6_crossing_2 10 rfl rfl)
theorem dX6_crossing_58 : decode cX6_crossing 58 = .ok (.iadd, 1) := dk_96 (dk_at dksX6_crossing_2 11 rfl rfl)
theorem dX6_crossing_59 : decode cX6_crossing 59 = .ok (.iaload, 1) := dk_46 (dk_at dksX6_crossing_2 12 rfl rfl)
theorem dX6_crossing_60 : decode cX6_crossing 60 = .ok (.goto 9, 3) := dk_167 0 9 (dk_at dksX6_crossing_2 13 rfl rfl)
theorem dX6_crossing_63 : decode cX6_crossing 63 = .ok (.aload_n 0, 1) := dk_42 (dk_at dksX6_crossing_2 16 rfl rfl)
theorem dX6_crossing_64 : decode cX6_crossing 64 = .ok (.bipush 8, 2) := dk_16 8 (dk_at dksX6_crossing_2 17 rfl rfl)
theorem dX6_crossing_66 : decode cX6_crossing 66 = .ok (.invokevirtual 308, 3) := dk_182 1 52 (dk_at dksX6_crossing_2 19 rfl rfl)
theorem dX6_crossing_69 : decode cX6_crossing 69 = .ok (.ireturn, 1) := dk_172 (dk_at dksX6_crossing_2 22 rfl rfl)
abbrev cX6_along : ByteArray := prog_16_method_74_code
def yX6_along : MethodName := ⟨RX6, "along", "(II)I"⟩
def dkwX6_along_3 : List UInt8 := [167, 255, 215, 42, 16, 8, 182, 1, 52, 172]
abbrev dktX6_along_3 : List UInt8 := dkwX6_along_3 ++ []
def dkwX6_along_2 : List UInt8 := [182, 1, 44, 154, 0, 6, 167, 0, 13, 29, 154, 0, 6, 21, 4, 172, 132, 3, 255, 132, 4, 1]
abbrev dktX6_along_2 : List UInt8 := dkwX6_along_2 ++ dktX6_along_3
def dkwX6_along_1 : List UInt8 := [28, 62, 3, 54, 4, 21, 4, 42, 180, 0, 35, 4, 46, 162, 0, 36, 28, 155, 0, 32, 42, 21, 4, 27]
abbrev dktX6_along_1 : List UInt8 := dkwX6_along_1 ++ dktX6_along_2
def dkwX6_along_0 : List UInt8 := [42, 3, 181, 0, 77, 42, 3, 181, 0, 80, 42, 27, 182, 1, 55, 154, 0, 9, 42, 5, 182, 1, 52, 172]
abbrev dktX6_along_0 : List UInt8 := dkwX6_along_0 ++ dktX6_along_1
theorem dksX6_along_0 : cX6_along.data.toList.drop 0 = dktX6_along_0 := by decide +kernel
theorem dksX6_along_1 : cX6_along.data.toList.drop 24 = dktX6_along_1 := dk_seg dksX6_along_0 24 rfl rfl
theorem dksX6_along_2 : cX6_along.data.toList.drop 48 = dktX6_along_2 := dk_seg dksX6_along_1 24 rfl rfl
theorem dksX6_along_3 : cX6_along.data.toList.drop 70 = dktX6_along_3 := dk_seg dksX6_along_2 22 rfl rfl
theorem dX6_along_0 : decode cX6_along 0 = .ok (.aload_n 0, 1) := dk_42 (dk_at dksX6_along_0 0 rfl rfl)
theorem dX6_along_1 : decode cX6_along 1 = .ok (.iconst 0, 1) := dk_3 (dk_at dksX6_along_0 1 rfl rfl)
theorem dX6_along_2 : decode cX6_along 2 = .ok (.putfield 77, 3) := dk_181 0 77 (dk_at dksX6_along_0 2 rfl rfl)
theorem dX6_along_5 : decode cX6_along 5 = .ok (.aload_n 0, 1) := dk_42 (dk_at dksX6_along_0 5 rfl rfl)
theorem dX6_along_6 : decode cX6_along 6 = .ok (.iconst 0, 1) := dk_3 (dk_at dksX6_along_0 6 rfl rfl)
theorem dX6_along_7 : decode cX6_along 7 = .ok (.putfield 80, 3) := dk_181 0 80 (dk_at dksX6_along_0 7 rfl rfl)
theorem dX6_along_10 : decode cX6_along 10 = .ok (.aload_n 0, 1) := dk_42 (dk_at dksX6_along_0 10 rfl rfl)
theorem dX6_along_11 : decode cX6_along 11 = .ok (.iload_n 1, 1) := dk_27 (dk_at dksX6_along_0 11 rfl rfl)
theorem dX6_along_12 : decode cX6_along 12 = .ok (.invokevirtual 311, 3) := dk_182 1 55 (dk_at dksX6_along_0 12 rfl rfl)
theorem dX6_along_15 : decode cX6_along 15 = .ok (.ifCond .ne 9, 3) := dk_154 0 9 (dk_at dksX6_along_0 15 rfl rfl)
theorem dX6_along_18 : decode cX6_along 18 = .ok (.aload_n 0, 1) := dk_42 (dk_at dksX6_along_0 18 rfl rfl)
theorem dX6_along_19 : decode cX6_along 19 = .ok (.iconst 2, 1) := dk_5 (dk_at dksX6_along_0 19 rfl rfl)
theorem dX6_along_20 : decode cX6_along 20 = .ok (.invokevirtual 308, 3) := dk_182 1 52 (dk_at dksX6_along_0 20 rfl rfl)
theorem dX6_along_23 : decode cX6_along 23 = .ok (.ireturn, 1) := dk_172 (dk_at dksX6_along_0 23 rfl rfl)
theorem dX6_along_24 : decode cX6_along 24 = .ok (.iload_n 2, 1) := dk_28 (dk_at dksX6_along_1 0 rfl rfl)
theorem dX6_along_25 : decode cX6_along 25 = .ok (.istore_n 3, 1) := dk_62 (dk_at dksX6_along_1 1 rfl rfl)
theorem dX6_along_26 : decode cX6_along 26 = .ok (.iconst 0, 1) := dk_3 (dk_at dksX6_along_1 2 rfl rfl)
theorem dX6_along_27 : decode cX6_along 27 = .ok (.istore 4, 2) := dk_54 4 (dk_at dksX6_along_1 3 rfl rfl)
theorem dX6_along_29 : decode cX6_along 29 = .ok (.iload 4, 2) := dk_21 4 (dk_at dksX6_along_1 5 rfl rfl)
theorem dX6_along_31 : decode cX6_along 31 = .ok (.aload_n 0, 1) := dk_42 (dk_at dksX6_along_1 7 rfl rfl)
theorem dX6_along_32 : decode cX6_along 32 = .ok (.getfield 35, 3) := dk_180 0 35 (dk_at dksX6_along_1 8 rfl rfl)
theorem dX6_along_35 : decode cX6_along 35 = .ok (.iconst 1, 1) := dk_4 (dk_at dksX6_along_1 11 rfl rfl)
theorem dX6_along_36 : decode cX6_along 36 = .ok (.iaload, 1) := dk_46 (dk_at dksX6_along_1 12 rfl rfl)
theorem dX6_along_37 : decode cX6_along 37 = .ok (.if_icmp .ge 36, 3) := dk_162 0 36 (dk_at dksX6_along_1 13 rfl rfl)
theorem dX6_along_40 : decode cX6_along 40 = .ok (.iload_n 2, 1) := dk_28 (dk_at dksX6_along_1 16 rfl rfl)
theorem dX6_along_41 : decode cX6_along 41 = .ok (.ifCond .lt 32, 3) := dk_155 0 32 (dk_at dksX6_along_1 17 rfl rfl)
theorem dX6_along_44 : decode cX6_along 44 = .ok (.aload_n 0, 1) := dk_42 (dk_at dksX6_along_1 20 rfl rfl)
theorem dX6_along_45 : decode cX6_along 45 = .ok (.iload 4, 2) := dk_21 4 (dk_at dksX6_along_1 21 rfl rfl)
theorem dX6_along_47 : decode cX6_along 47 = .ok (.iload_n 1, 1) := dk_27 (dk_at dksX6_along_1 23 rfl rfl)
theorem dX6_along_48 : decode cX6_along 48 = .ok (.invokevirtual 300, 3) := dk_182 1 44 (dk_at dksX6_along_2 0 rfl rfl)
theorem dX6_along_51 : decode cX6_along 51 = .ok (.ifCond .ne 6, 3) := dk_154 0 6 (dk_at dksX6_along_2 3 rfl rfl)
theorem dX6_along_54 : decode cX6_along 54 = .ok (.goto 13, 3) := dk_167 0 13 (dk_at dksX6_along_2 6 rfl rfl)
theorem dX6_along_57 : decode cX6_along 57 = .ok (.iload_n 3, 1) := dk_29 (dk_at dksX6_along_2 9 rfl rfl)
theorem dX6_along_58 : decode cX6_along 58 = .ok (.ifCond .ne 6, 3) := dk_154 0 6 (dk_at dksX6_along_2 10 rfl rfl)
theorem dX6_along_61 : decode cX6_along 61 = .ok (.iload 4, 2) := dk_21 4 (dk_at dksX6_along_2 13 rfl rfl)
theorem dX6_along_63 : decode cX6_along 63 = .ok (.ireturn, 1) := dk_172 (dk_at dksX6_along_2 15 rfl rfl)
theorem dX6_along_64 : decode cX6_along 64 = .ok (.iinc 3 (-1), 3) := dk_132 3 255 (dk_at dksX6_along_2 16 rfl rfl)
theorem dX6_along_67 : decode cX6_along 67 = .ok (.iinc 4 1, 3) := dk_132 4 1 (dk_at dksX6_along_2 19 rfl rfl)
theorem dX6_along_70 : decode cX6_along 70 = .ok (.goto (-41), 3) := dk_167 255 215 (dk_at dksX6_along_3 0 rfl rfl)
theorem dX6_along_73 : decode cX6_along 73 = .ok (.aload_n 0, 1) := dk_42 (dk_at dksX6_along_3 3 rfl rfl)
theorem dX6_along_74 : decode cX6_along 74 = .ok (.bipush 8, 2) := dk_16 8 (dk_at dksX6_along_3 4 rfl rfl)
theorem dX6_along_76 : decode cX6_along 76 = .ok (.invokevirtual 308, 3) := dk_182 1 52 (dk_at dksX6_along_3 6 rfl rfl)
theorem dX6_along_79 : decode cX6_along 79 = .ok (.ireturn, 1) := dk_172 (dk_at dksX6_along_3 9 rfl rfl)
abbrev cX6_look : ByteArray := prog_16_method_75_code
def yX6_look : MethodName := ⟨RX6, "look", "(I)I"⟩
def dkwX6_look_1 : List UInt8 := [184, 0, 112, 153, 0, 15, 42, 180, 0, 35, 16, 56, 27, 96, 46, 167, 0, 8, 42, 5, 182, 1, 52, 172]
abbrev dktX6_look_1 : List UInt8 := dkwX6_look_1 ++ []
def dkwX6_look_0 : List UInt8 := [42, 3, 181, 0, 77, 42, 3, 181, 0, 80, 27, 133, 9, 42, 180, 0, 35, 5, 46, 4, 100, 133]
abbrev dktX6_look_0 : List UInt8 := dkwX6_look_0 ++ dktX6_look_1
theorem dksX6_look_0 : cX6_look.data.toList.drop 0 = dktX6_look_0 := by decide +kernel
theorem dksX6_look_1 : cX6_look.data.toList.drop 22 = dktX6_look_1 := dk_seg dksX6_look_0 22 rfl rfl
theorem dX6_look_0 : decode cX6_look 0 = .ok (.aload_n 0, 1) := dk_42 (dk_at dksX6_look_0 0 rfl rfl)
theorem dX6_look_1 : decode cX6_look 1 = .ok (.iconst 0, 1) := dk_3 (dk_at dksX6_look_0 1 rfl rfl)
theorem dX6_look_2 : decode cX6_look 2 = .ok (.putfield 77, 3) := dk_181 0 77 (dk_at dksX6_look_0 2 rfl rfl)
theorem dX6_look_5 : decode cX6_look 5 = .ok (.aload_n 0, 1) := dk_42 (dk_at dksX6_look_0 5 rfl rfl)
theorem dX6_look_6 : decode cX6_look 6 = .ok (.iconst 0, 1) := dk_3 (dk_at dksX6_look_0 6 rfl rfl)
theorem dX6_look_7 : decode cX6_look 7 = .ok (.putfield 80, 3) := dk_181 0 80 (dk_at dksX6_look_0 7 rfl rfl)
theorem dX6_look_10 : decode cX6_look 10 = .ok (.iload_n 1, 1) := dk_27 (dk_at dksX6_look_0 10 rfl rfl)
theorem dX6_look_11 : decode cX6_look 11 = .ok (.i2l, 1) := dk_133 (dk_at dksX6_look_0 11 rfl rfl)
theorem dX6_look_12 : decode cX6_look 12 = .ok (.lconst 0, 1) := dk_9 (dk_at dksX6_look_0 12 rfl rfl)
theorem dX6_look_13 : decode cX6_look 13 = .ok (.aload_n 0, 1) := dk_42 (dk_at dksX6_look_0 13 rfl rfl)
theorem dX6_look_14 : decode cX6_look 14 = .ok (.getfield 35, 3) := dk_180 0 35 (dk_at dksX6_look_0 14 rfl rfl)
theorem dX6_look_17 : decode cX6_look 17 = .ok (.iconst 2, 1) := dk_5 (dk_at dksX6_look_0 17 rfl rfl)
theorem dX6_look_18 : decode cX6_look 18 = .ok (.iaload, 1) := dk_46 (dk_at dksX6_look_0 18 rfl rfl)
theorem dX6_look_19 : decode cX6_look 19 = .ok (.iconst 1, 1) := dk_4 (dk_at dksX6_look_0 19 rfl rfl)
theorem dX6_look_20 : decode cX6_look 20 = .ok (.isub, 1) := dk_100 (dk_at dksX6_look_0 20 rfl rfl)
theorem dX6_look_21 : decode cX6_look 21 = .ok (.i2l, 1) := dk_133 (dk_at dksX6_look_0 21 rfl rfl)
theorem dX6_look_22 : decode cX6_look 22 = .ok (.invokestatic 112, 3) := dk_184 0 112 (dk_at dksX6_look_1 0 rfl rfl)
theorem dX6_look_25 : decode cX6_look 25 = .ok (.ifCond .eq 15, 3) := dk_153 0 15 (dk_at dksX6_look_1 3 rfl rfl)
theorem dX6_look_28 : decode cX6_look 28 = .ok (.aload_n 0, 1) := dk_42 (dk_at dksX6_look_1 6 rfl rfl)
theorem dX6_look_29 : decode cX6_look 29 = .ok (.getfield 35, 3) := dk_180 0 35 (dk_at dksX6_look_1 7 rfl rfl)
theorem dX6_look_32 : decode cX6_look 32 = .ok (.bipush 56, 2) := dk_16 56 (dk_at dksX6_look_1 10 rfl rfl)
theorem dX6_look_34 : decode cX6_look 34 = .ok (.iload_n 1, 1) := dk_27 (dk_at dksX6_look_1 12 rfl rfl)
theorem dX6_look_35 : decode cX6_look 35 = .ok (.iadd, 1) := dk_96 (dk_at dksX6_look_1 13 rfl rfl)
theorem dX6_look_36 : decode cX6_look 36 = .ok (.iaload, 1) := dk_46 (dk_at dksX6_look_1 14 rfl rfl)
theorem dX6_look_37 : decode cX6_look 37 = .ok (.goto 8, 3) := dk_167 0 8 (dk_at dksX6_look_1 15 rfl rfl)
theorem dX6_look_40 : decode cX6_look 40 = .ok (.aload_n 0, 1) := dk_42 (dk_at dksX6_look_1 18 rfl rfl)
theorem dX6_look_41 : decode cX6_look 41 = .ok (.iconst 2, 1) := dk_5 (dk_at dksX6_look_1 19 rfl rfl)
theorem dX6_look_42 : decode cX6_look 42 = .ok (.invokevirtual 308, 3) := dk_182 1 52 (dk_at dksX6_look_1 20 rfl rfl)
theorem dX6_look_45 : decode cX6_look 45 = .ok (.ireturn, 1) := dk_172 (dk_at dksX6_look_1 23 rfl rfl)
abbrev cX6_between : ByteArray := prog_16_method_76_code
def yX6_between : MethodName := ⟨RX6, "between", "(II)I"⟩
def dkwX6_between_4 : List UInt8 := [172]
abbrev dktX6_between_4 : List UInt8 := dkwX6_between_4 ++ []
def dkwX6_between_3 : List UInt8 := [42, 21, 4, 28, 182, 1, 44, 153, 0, 7, 4, 167, 0, 4, 3, 96, 62, 132, 4, 1, 167, 255, 214, 29]
abbrev dktX6_between_3 : List UInt8 := dkwX6_between_3 ++ dktX6_between_4
def dkwX6_between_2 : List UInt8 := [54, 4, 21, 4, 42, 180, 0, 35, 4, 46, 162, 0, 37, 29, 42, 21, 4, 27, 182, 1, 44, 153, 0, 17]
abbrev dktX6_between_2 : List UInt8 := dkwX6_between_2 ++ dktX6_between_3
def dkwX6_between_1 : List UInt8 := [154, 0, 9, 42, 5, 182, 1, 52, 172, 27, 28, 160, 0, 9, 42, 8, 182, 1, 52, 172, 3, 62, 3]
abbrev dktX6_between_1 : List UInt8 := dkwX6_between_1 ++ dktX6_between_2
def dkwX6_between_0 : List UInt8 := [42, 3, 181, 0, 77, 42, 3, 181, 0, 80, 42, 27, 182, 1, 55, 153, 0, 11, 42, 28, 182, 1, 55]
abbrev dktX6_between_0 : List UInt8 := dkwX6_between_0 ++ dktX6_between_1
theorem dksX6_between_0 : cX6_between.data.toList.drop 0 = dktX6_between_0 := by decide +kernel
theorem dksX6_between_1 : cX6_between.data.toList.drop 23 = dktX6_between_1 := dk_seg dksX6_between_0 23 rfl rfl
theorem dksX6_between_2 : cX6_between.data.toList.drop 46 = dktX6_between_2 := dk_seg dksX6_between_1 23 rfl rfl
theorem dksX6_between_3 : cX6_between.data.toList.drop 70 = dktX6_between_3 := dk_seg dksX6_between_2 24 rfl rfl
theorem dksX6_between_4 : cX6_between.data.toList.drop 94 = dktX6_between_4 := dk_seg dksX6_between_3 24 rfl rfl
theorem dX6_between_0 : decode cX6_between 0 = .ok (.aload_n 0, 1) := dk_42 (dk_at dksX6_between_0 0 rfl rfl)
theorem dX6_between_1 : decode cX6_between 1 = .ok (.iconst 0, 1) := dk_3 (dk_at dksX6_between_0 1 rfl rfl)
theorem dX6_between_2 : decode cX6_between 2 = .ok (.putfield 77, 3) := dk_181 0 77 (dk_at dksX6_between_0 2 rfl rfl)
theorem dX6_between_5 : decode cX6_between 5 = .ok (.aload_n 0, 1) := dk_42 (dk_at dksX6_between_0 5 rfl rfl)
theorem dX6_between_6 : decode cX6_between 6 = .ok (.iconst 0, 1) := dk_3 (dk_at dksX6_between_0 6 rfl rfl)
theorem dX6_between_7 : decode cX6_between 7 = .ok (.putfield 80, 3) := dk_181 0 80 (dk_at dksX6_between_0 7 rfl rfl)
theorem dX6_between_10 : decode cX6_between 10 = .ok (.aload_n 0, 1) := dk_42 (dk_at dksX6_between_0 10 rfl rfl)
theorem dX6_between_11 : decode cX6_between 11 = .ok (.iload_n 1, 1) := dk_27 (dk_at dksX6_between_0 11 rfl rfl)
theorem dX6_between_12 : decode cX6_between 12 = .ok (.invokevirtual 311, 3) := dk_182 1 55 (dk_at dksX6_between_0 12 rfl rfl)
theorem dX6_between_15 : decode cX6_between 15 = .ok (.ifCond .eq 11, 3) := dk_153 0 11 (dk_at dksX6_between_0 15 rfl rfl)
theorem dX6_between_18 : decode cX6_between 18 = .ok (.aload_n 0, 1) := dk_42 (dk_at dksX6_between_0 18 rfl rfl)
theorem dX6_between_19 : decode cX6_between 19 = .ok (.iload_n 2, 1) := dk_28 (dk_at dksX6_between_0 19 rfl rfl)
theorem dX6_between_20 : decode cX6_between 20 = .ok (.invokevirtual 311, 3) := dk_182 1 55 (dk_at dksX6_between_0 20 rfl rfl)
theorem dX6_between_23 : decode cX6_between 23 = .ok (.ifCond .ne 9, 3) := dk_154 0 9 (dk_at dksX6_between_1 0 rfl rfl)
theorem dX6_between_26 : decode cX6_between 26 = .ok (.aload_n 0, 1) := dk_42 (dk_at dksX6_between_1 3 rfl rfl)
theorem dX6_between_27 : decode cX6_between 27 = .ok (.iconst 2, 1) := dk_5 (dk_at dksX6_between_1 4 rfl rfl)
theorem dX6_between_28 : decode cX6_between 28 = .ok (.invokevirtual 308, 3) := dk_182 1 52 (dk_at dksX6_between_1 5 rfl rfl)
theorem dX6_between_31 : decode cX6_between 31 = .ok (.ireturn, 1) := dk_172 (dk_at dksX6_between_1 8 rfl rfl)
theorem dX6_between_32 : decode cX6_between 32 = .ok (.iload_n 1, 1) := dk_27 (dk_at dksX6_between_1 9 rfl rfl)
theorem dX6_between_33 : decode cX6_between 33 = .ok (.iload_n 2, 1) := dk_28 (dk_at dksX6_between_1 10 rfl rfl)
theorem dX6_between_34 : decode cX6_between 34 = .ok (.if_icmp .ne 9, 3) := dk_160 0 9 (dk_at dksX6_between_1 11 rfl rfl)
theorem dX6_between_37 : decode cX6_between 37 = .ok (.aload_n 0, 1) := dk_42 (dk_at dksX6_between_1 14 rfl rfl)
theorem dX6_between_38 : decode cX6_between 38 = .ok (.iconst 5, 1) := dk_8 (dk_at dksX6_between_1 15 rfl rfl)
theorem dX6_between_39 : decode cX6_between 39 = .ok (.invokevirtual 308, 3) := dk_182 1 52 (dk_at dksX6_between_1 16 rfl rfl)
theorem dX6_between_42 : decode cX6_between 42 = .ok (.ireturn, 1) := dk_172 (dk_at dksX6_between_1 19 rfl rfl)
theorem dX6_between_43 : decode cX6_between 43 = .ok (.iconst 0, 1) := dk_3 (dk_at dksX6_between_1 20 rfl rfl)
theorem dX6_between_44 : decode cX6_between 44 = .ok (.istore_n 3, 1) := dk_62 (dk_at dksX6_between_1 21 rfl rfl)
theorem dX6_between_45 : decode cX6_between 45 = .ok (.iconst 0, 1) := dk_3 (dk_at dksX6_between_1 22 rfl rfl)
theorem dX6_between_46 : decode cX6_between 46 = .ok (.istore 4, 2) := dk_54 4 (dk_at dksX6_between_2 0 rfl rfl)
theorem dX6_between_48 : decode cX6_between 48 = .ok (.iload 4, 2) := dk_21 4 (dk_at dksX6_between_2 2 rfl rfl)
theorem dX6_between_50 : decode cX6_between 50 = .ok (.aload_n 0, 1) := dk_42 (dk_at dksX6_between_2 4 rfl rfl)
theorem dX6_between_51 : decode cX6_between 51 = .ok (.getfield 35, 3) := dk_180 0 35 (dk_at dksX6_between_2 5 rfl rfl)
theorem dX6_between_54 : decode cX6_between 54 = .ok (.iconst 1, 1) := dk_4 (dk_at dksX6_between_2 8 rfl rfl)
theorem dX6_between_55 : decode cX6_between 55 = .ok (.iaload, 1) := dk_46 (dk_at dksX6_between_2 9 rfl rfl)
theorem dX6_between_56 : decode cX6_between 56 = .ok (.if_icmp .ge 37, 3) := dk_162 0 37 (dk_at dksX6_between_2 10 rfl rfl)
theorem dX6_between_59 : decode cX6_between 59 = .ok (.iload_n 3, 1) := dk_29 (dk_at dksX6_between_2 13 rfl rfl)
theorem dX6_between_60 : decode cX6_between 60 = .ok (.aload_n 0, 1) := dk_42 (dk_at dksX6_between_2 14 rfl rfl)
theorem dX6_between_61 : decode cX6_between 61 = .ok (.iload 4, 2) := dk_21 4 (dk_at dksX6_between_2 15 rfl rfl)
theorem dX6_between_63 : decode cX6_between 63 = .ok (.iload_n 1, 1) := dk_27 (dk_at dksX6_between_2 17 rfl rfl)
theorem dX6_between_64 : decode cX6_between 64 = .ok (.invokevirtual 300, 3) := dk_182 1 44 (dk_at dksX6_between_2 18 rfl rfl)
theorem dX6_between_67 : decode cX6_between 67 = .ok (.ifCond .eq 17, 3) := dk_153 0 17 (dk_at dksX6_between_2 21 rfl rfl)
theorem dX6_between_70 : decode cX6_between 70 = .ok (.aload_n 0, 1) := dk_42 (dk_at dksX6_between_3 0 rfl rfl)
theorem dX6_between_71 : decode cX6_between 71 = .ok (.iload 4, 2) := dk_21 4 (dk_at dksX6_between_3 1 rfl rfl)
theorem dX6_between_73 : decode cX6_between 73 = .ok (.iload_n 2, 1) := dk_28 (dk_at dksX6_between_3 3 rfl rfl)
theorem dX6_between_74 : decode cX6_between 74 = .ok (.invokevirtual 300, 3) := dk_182 1 44 (dk_at dksX6_between_3 4 rfl rfl)
theorem dX6_between_77 : decode cX6_between 77 = .ok (.ifCond .eq 7, 3) := dk_153 0 7 (dk_at dksX6_between_3 7 rfl rfl)
theorem dX6_between_80 : decode cX6_between 80 = .ok (.iconst 1, 1) := dk_4 (dk_at dksX6_between_3 10 rfl rfl)
theorem dX6_between_81 : decode cX6_between 81 = .ok (.goto 4, 3) := dk_167 0 4 (dk_at dksX6_between_3 11 rfl rfl)
theorem dX6_between_84 : decode cX6_between 84 = .ok (.iconst 0, 1) := dk_3 (dk_at dksX6_between_3 14 rfl rfl)
theorem dX6_between_85 : decode cX6_between 85 = .ok (.iadd, 1) := dk_96 (dk_at dksX6_between_3 15 rfl rfl)
theorem dX6_between_86 : decode cX6_between 86 = .ok (.istore_n 3, 1) := dk_62 (dk_at dksX6_between_3 16 rfl rfl)
theorem dX6_between_87 : decode cX6_between 87 = .ok (.iinc 4 1, 3) := dk_132 4 1 (dk_at dksX6_between_3 17 rfl rfl)
theorem dX6_between_90 : decode cX6_between 90 = .ok (.goto (-42), 3) := dk_167 255 214 (dk_at dksX6_between_3 20 rfl rfl)
theorem dX6_between_93 : decode cX6_between 93 = .ok (.iload_n 3, 1) := dk_29 (dk_at dksX6_between_3 23 rfl rfl)
theorem dX6_between_94 : decode cX6_between 94 = .ok (.ireturn, 1) := dk_172 (dk_at dksX6_between_4 0 rfl rfl)
abbrev cX6_copyStates : ByteArray := prog_16_method_77_code
def yX6_copyStates : MethodName := ⟨RX6, "copyStates", "(I)I"⟩
def dkwX6_copyStates_4 : List UInt8 := [132, 2, 1, 167, 255, 222, 42, 180, 0, 35, 4, 46, 172]
abbrev dktX6_copyStates_4 : List UInt8 := dkwX6_copyStates_4 ++ []
def dkwX6_copyStates_3 : List UInt8 := [162, 0, 30, 42, 180, 0, 20, 16, 60, 27, 104, 28, 96, 42, 180, 0, 35, 16, 108, 28, 96, 46, 133, 80]
abbrev dktX6_copyStates_3 : List UInt8 := dkwX6_copyStates_3 ++ dktX6_copyStates_4
def dkwX6_copyStates_2 : List UInt8 := [180, 0, 35, 4, 46, 162, 0, 9, 42, 7, 182, 1, 52, 172, 3, 61, 28, 42, 180, 0, 35, 4, 46]
abbrev dktX6_copyStates_2 : List UInt8 := dkwX6_copyStates_2 ++ dktX6_copyStates_3
def dkwX6_copyStates_1 : List UInt8 := [42, 180, 0, 17, 27, 46, 156, 0, 9, 42, 6, 182, 1, 52, 172, 42, 180, 0, 17, 27, 46, 42]
abbrev dktX6_copyStates_1 : List UInt8 := dkwX6_copyStates_1 ++ dktX6_copyStates_2
def dkwX6_copyStates_0 : List UInt8 := [42, 3, 181, 0, 77, 42, 3, 181, 0, 80, 42, 27, 182, 1, 66, 154, 0, 9, 42, 4, 182, 1, 52, 172]
abbrev dktX6_copyStates_0 : List UInt8 := dkwX6_copyStates_0 ++ dktX6_copyStates_1
theorem dksX6_copyStates_0 : cX6_copyStates.data.toList.drop 0 = dktX6_copyStates_0 := by decide +kernel
theorem dksX6_copyStates_1 : cX6_copyStates.data.toList.drop 24 = dktX6_copyStates_1 := dk_seg dksX6_copyStates_0 24 rfl rfl
theorem dksX6_copyStates_2 : cX6_copyStates.data.toList.drop 46 = dktX6_copyStates_2 := dk_seg dksX6_copyStates_1 22 rfl rfl
theorem dksX6_copyStates_3 : cX6_copyStates.data.toList.drop 69 = dktX6_copyStates_3 := dk_seg dksX6_copyStates_2 23 rfl rfl
theorem dksX6_copyStates_4 : cX6_copyStates.data.toList.drop 93 = dktX6_copyStates_4 := dk_seg dksX6_copyStates_3 24 rfl rfl
theorem dX6_copyStates_0 : decode cX6_copyStates 0 = .ok (.aload_n 0, 1) := dk_42 (dk_at dksX6_copyStates_0 0 rfl rfl)
theorem dX6_copyStates_1 : decode cX6_copyStates 1 = .ok (.iconst 0, 1) := dk_3 (dk_at dksX6_copyStates_0 1 rfl rfl)
theorem dX6_copyStates_2 : decode cX6_copyStates 2 = .ok (.putfield 77, 3) := dk_181 0 77 (dk_at dksX6_copyStates_0 2 rfl rfl)
theorem dX6_copyStates_5 : decode cX6_copyStates 5 = .ok (.aload_n 0, 1) := dk_42 (dk_at dksX6_copyStates_0 5 rfl rfl)
theorem dX6_copyStates_6 : decode cX6_copyStates 6 = .ok (.iconst 0, 1) := dk_3 (dk_at dksX6_copyStates_0 6 rfl rfl)
theorem dX6_copyStates_7 : decode cX6_copyStates 7 = .ok (.putfield 80, 3) := dk_181 0 80 (dk_at dksX6_copyStates_0 7 rfl rfl)
theorem dX6_copyStates_10 : decode cX6_copyStates 10 = .ok (.aload_n 0, 1) := dk_42 (dk_at dksX6_copyStates_0 10 rfl rfl)
theorem dX6_copyStates_11 : decode cX6_copyStates 11 = .ok (.iload_n 1, 1) := dk_27 (dk_at dksX6_copyStates_0 11 rfl rfl)
theorem dX6_copyStates_12 : decode cX6_copyStates 12 = .ok (.invokevirtual 322, 3) := dk_182 1 66 (dk_at dksX6_copyStates_0 12 rfl rfl)
theorem dX6_copyStates_15 : decode cX6_copyStates 15 = .ok (.ifCond .ne 9, 3) := dk_154 0 9 (dk_at dksX6_copyStates_0 15 rfl rfl)
theorem dX6_copyStates_18 : decode cX6_copyStates 18 = .ok (.aload_n 0, 1) := dk_42 (dk_at dksX6_copyStates_0 18 rfl rfl)
theorem dX6_copyStates_19 : decode cX6_copyStates 19 = .ok (.iconst 1, 1) := dk_4 (dk_at dksX6_copyStates_0 19 rfl rfl)
theorem dX6_copyStates_20 : decode cX6_copyStates 20 = .ok (.invokevirtual 308, 3) := dk_182 1 52 (dk_at dksX6_copyStates_0 20 rfl rfl)
theorem dX6_copyStates_23 : decode cX6_copyStates 23 = .ok (.ireturn, 1) := dk_172 (dk_at dksX6_copyStates_0 23 rfl rfl)
theorem dX6_copyStates_24 : decode cX6_copyStates 24 = .ok (.aload_n 0, 1) := dk_42 (dk_at dksX6_copyStates_1 0 rfl rfl)
theorem dX6_copyStates_25 : decode cX6_copyStates 25 = .ok (.getfield 17, 3) := dk_180 0 17 (dk_at dksX6_copyStates_1 1 rfl rfl)
theorem dX6_copyStates_28 : decode cX6_copyStates 28 = .ok (.iload_n 1, 1) := dk_27 (dk_at dksX6_copyStates_1 4 rfl rfl)
theorem dX6_copyStates_29 : decode cX6_copyStates 29 = .ok (.iaload, 1) := dk_46 (dk_at dksX6_copyStates_1 5 rfl rfl)
theorem dX6_copyStates_30 : decode cX6_copyStates 30 = .ok (.ifCond .ge 9, 3) := dk_156 0 9 (dk_at dksX6_copyStates_1 6 rfl rfl)
theorem dX6_copyStates_33 : decode cX6_copyStates 33 = .ok (.aload_n 0, 1) := dk_42 (dk_at dksX6_copyStates_1 9 rfl rfl)
theorem dX6_copyStates_34 : decode cX6_copyStates 34 = .ok (.iconst 3, 1) := dk_6 (dk_at dksX6_copyStates_1 10 rfl rfl)
theorem dX6_copyStates_35 : decode cX6_copyStates 35 = .ok (.invokevirtual 308, 3) := dk_182 1 52 (dk_at dksX6_copyStates_1 11 rfl rfl)
theorem dX6_copyStates_38 : decode cX6_copyStates 38 = .ok (.ireturn, 1) := dk_172 (dk_at dksX6_copyStates_1 14 rfl rfl)
theorem dX6_copyStates_39 : decode cX6_copyStates 39 = .ok (.aload_n 0, 1) := dk_42 (dk_at dksX6_copyStates_1 15 rfl rfl)
theorem dX6_copyStates_40 : decode cX6_copyStates 40 = .ok (.getfield 17, 3) := dk_180 0 17 (dk_at dksX6_copyStates_1 16 rfl rfl)
theorem dX6_copyStates_43 : decode cX6_copyStates 43 = .ok (.iload_n 1, 1) := dk_27 (dk_at dksX6_copyStates_1 19 rfl rfl)
theorem dX6_copyStates_44 : decode cX6_copyStates 44 = .ok (.iaload, 1) := dk_46 (dk_at dksX6_copyStates_1 20 rfl rfl)
theorem dX6_copyStates_45 : decode cX6_copyStates 45 = .ok (.aload_n 0, 1) := dk_42 (dk_at dksX6_copyStates_1 21 rfl rfl)
theorem dX6_copyStates_46 : decode cX6_copyStates 46 = .ok (.getfield 35, 3) := dk_180 0 35 (dk_at dksX6_copyStates_2 0 rfl rfl)
theorem dX6_copyStates_49 : decode cX6_copyStates 49 = .ok (.iconst 1, 1) := dk_4 (dk_at dksX6_copyStates_2 3 rfl rfl)
theorem dX6_copyStates_50 : decode cX6_copyStates 50 = .ok (.iaload, 1) := dk_46 (dk_at dksX6_copyStates_2 4 rfl rfl)
theorem dX6_copyStates_51 : decode cX6_copyStates 51 = .ok (.if_icmp .ge 9, 3) := dk_162 0 9 (dk_at dksX6_copyStates_2 5 rfl rfl)
theorem dX6_copyStates_54 : decode cX6_copyStates 54 = .ok (.aload_n 0, 1) := dk_42 (dk_at dksX6_copyStates_2 8 rfl rfl)
theorem dX6_copyStates_55 : decode cX6_copyStates 55 = .ok (.iconst 4, 1) := dk_7 (dk_at dksX6_copyStates_2 9 rfl rfl)
theorem dX6_copyStates_56 : decode cX6_copyStates 56 = .ok (.invokevirtual 308, 3) := dk_182 1 52 (dk_at dksX6_copyStates_2 10 rfl rfl)
theorem dX6_copyStates_59 : decode cX6_copyStates 59 = .ok (.ireturn, 1) := dk_172 (dk_at dksX6_copyStates_2 13 rfl rfl)
theorem dX6_copyStates_60 : decode cX6_copyStates 60 = .ok (.iconst 0, 1) := dk_3 (dk_at dksX6_copyStates_2 14 rfl rfl)
theorem dX6_copyStates_61 : decode cX6_copyStates 61 = .ok (.istore_n 2, 1) := dk_61 (dk_at dksX6_copyStates_2 15 rfl rfl)
theorem dX6_copyStates_62 : decode cX6_copyStates 62 = .ok (.iload_n 2, 1) := dk_28 (dk_at dksX6_copyStates_2 16 rfl rfl)
theorem dX6_copyStates_63 : decode cX6_copyStates 63 = .ok (.aload_n 0, 1) := dk_42 (dk_at dksX6_copyStates_2 17 rfl rfl)
theorem dX6_copyStates_64 : decode cX6_copyStates 64 = .ok (.getfield 35, 3) := dk_180 0 35 (dk_at dksX6_copyStates_2 18 rfl rfl)
theorem dX6_copyStates_67 : decode cX6_copyStates 67 = .ok (.iconst 1, 1) := dk_4 (dk_at dksX6_copyStates_2 21 rfl rfl)
theorem dX6_copyStates_68 : decode cX6_copyStates 68 = .ok (.iaload, 1) := dk_46 (dk_at dksX6_copyStates_2 22 rfl rfl)
theorem dX6_copyStates_69 : decode cX6_copyStates 69 = .ok (.if_icmp .ge 30, 3) := dk_162 0 30 (dk_at dksX6_copyStates_3 0 rfl rfl)
theorem dX6_copyStates_72 : decode cX6_copyStates 72 = .ok (.aload_n 0, 1) := dk_42 (dk_at dksX6_copyStates_3 3 rfl rfl)
theorem dX6_copyStates_73 : decode cX6_copyStates 73 = .ok (.getfield 20, 3) := dk_180 0 20 (dk_at dksX6_copyStates_3 4 rfl rfl)
theorem dX6_copyStates_76 : decode cX6_copyStates 76 = .ok (.bipush 60, 2) := dk_16 60 (dk_at dksX6_copyStates_3 7 rfl rfl)
theorem dX6_copyStates_78 : decode cX6_copyStates 78 = .ok (.iload_n 1, 1) := dk_27 (dk_at dksX6_copyStates_3 9 rfl rfl)
theorem dX6_copyStates_79 : decode cX6_copyStates 79 = .ok (.imul, 1) := dk_104 (dk_at dksX6_copyStates_3 10 rfl rfl)
theorem dX6_copyStates_80 : decode cX6_copyStates 80 = .ok (.iload_n 2, 1) := dk_28 (dk_at dksX6_copyStates_3 11 rfl rfl)
theorem dX6_copyStates_81 : decode cX6_copyStates 81 = .ok (.iadd, 1) := dk_96 (dk_at dksX6_copyStates_3 12 rfl rfl)
theorem dX6_copyStates_82 : decode cX6_copyStates 82 = .ok (.aload_n 0, 1) := dk_42 (dk_at dksX6_copyStates_3 13 rfl rfl)
theorem dX6_copyStates_83 : decode cX6_copyStates 83 = .ok (.getfield 35, 3) := dk_180 0 35 (dk_at dksX6_copyStates_3 14 rfl rfl)
theorem dX6_copyStates_86 : decode cX6_copyStates 86 = .ok (.bipush 108, 2) := dk_16 108 (dk_at dksX6_copyStates_3 17 rfl rfl)
theorem dX6_copyStates_88 : decode cX6_copyStates 88 = .ok (.iload_n 2, 1) := dk_28 (dk_at dksX6_copyStates_3 19 rfl rfl)
theorem dX6_copyStates_89 : decode cX6_copyStates 89 = .ok (.iadd, 1) := dk_96 (dk_at dksX6_copyStates_3 20 rfl rfl)
theorem dX6_copyStates_90 : decode cX6_copyStates 90 = .ok (.iaload, 1) := dk_46 (dk_at dksX6_copyStates_3 21 rfl rfl)
theorem dX6_copyStates_91 : decode cX6_copyStates 91 = .ok (.i2l, 1) := dk_133 (dk_at dksX6_copyStates_3 22 rfl rfl)
theorem dX6_copyStates_92 : decode cX6_copyStates 92 = .ok (.lastore, 1) := dk_80 (dk_at dksX6_copyStates_3 23 rfl rfl)
theorem dX6_copyStates_93 : decode cX6_copyStates 93 = .ok (.iinc 2 1, 3) := dk_132 2 1 (dk_at dksX6_copyStates_4 0 rfl rfl)
theorem dX6_copyStates_96 : decode cX6_copyStates 96 = .ok (.goto (-34), 3) := dk_167 255 222 (dk_at dksX6_copyStates_4 3 rfl rfl)
theorem dX6_copyStates_99 : decode cX6_copyStates 99 = .ok (.aload_n 0, 1) := dk_42 (dk_at dksX6_copyStates_4 6 rfl rfl)
theorem dX6_copyStates_100 : decode cX6_copyStates 100 = .ok (.getfield 35, 3) := dk_180 0 35 (dk_at dksX6_copyStates_4 7 rfl rfl)
theorem dX6_copyStates_103 : decode cX6_copyStates 103 = .ok (.iconst 1, 1) := dk_4 (dk_at dksX6_copyStates_4 10 rfl rfl)
theorem dX6_copyStates_104 : decode cX6_copyStates 104 = .ok (.iaload, 1) := dk_46 (dk_at dksX6_copyStates_4 11 rfl rfl)
theorem dX6_copyStates_105 : decode cX6_copyStates 105 = .ok (.ireturn, 1) := dk_172 (dk_at dksX6_copyStates_4 12 rfl rfl)
abbrev cX6_isTray : ByteArray := prog_16_method_17_code
def yX6_isTray : MethodName := ⟨RX6, "isTray", "(I)Z"⟩
def dkwX6_isTray_0 : List UInt8 := [27, 133, 9, 20, 0, 110, 184, 0, 112, 172]
abbrev dktX6_isTray_0 : List UInt8 := dkwX6_isTray_0 ++ []
theorem dksX6_isTray_0 : cX6_isTray.data.toList.drop 0 = dktX6_isTray_0 := by decide +kernel
theorem dX6_isTray_0 : decode cX6_isTray 0 = .ok (.iload_n 1, 1) := dk_27 (dk_at dksX6_isTray_0 0 rfl rfl)
theorem dX6_isTray_1 : decode cX6_isTray 1 = .ok (.i2l, 1) := dk_133 (dk_at dksX6_isTray_0 1 rfl rfl)
theorem dX6_isTray_2 : decode cX6_isTray 2 = .ok (.lconst 0, 1) := dk_9 (dk_at dksX6_isTray_0 2 rfl rfl)
theorem dX6_isTray_3 : decode cX6_isTray 3 = .ok (.ldc2_w 110, 3) := dk_20 0 110 (dk_at dksX6_isTray_0 3 rfl rfl)
theorem dX6_isTray_6 : decode cX6_isTray 6 = .ok (.invokestatic 112, 3) := dk_184 0 112 (dk_at dksX6_isTray_0 6 rfl rfl)
theorem dX6_isTray_9 : decode cX6_isTray 9 = .ok (.ireturn, 1) := dk_172 (dk_at dksX6_isTray_0 9 rfl rfl)
abbrev cX6_follow : ByteArray := prog_16_method_84_code
def yX6_follow : MethodName := ⟨RX6, "follow", "(II)I"⟩
def dkwX6_follow_3 : List UInt8 := [167, 0, 9, 42, 27, 28, 182, 1, 84, 172]
abbrev dktX6_follow_3 : List UInt8 := dkwX6_follow_3 ++ []
def dkwX6_follow_2 : List UInt8 := [42, 16, 9, 182, 1, 52, 172, 42, 27, 28, 182, 1, 75, 156, 0, 12, 42, 16, 8, 182, 1, 52]
abbrev dktX6_follow_2 : List UInt8 := dkwX6_follow_2 ++ dktX6_follow_3
def dkwX6_follow_1 : List UInt8 := [28, 133, 9, 10, 184, 0, 112, 154, 0, 9, 42, 8, 182, 1, 52, 172, 42, 27, 182, 1, 81, 154, 0, 10]
abbrev dktX6_follow_1 : List UInt8 := dkwX6_follow_1 ++ dktX6_follow_2
def dkwX6_follow_0 : List UInt8 := [42, 3, 181, 0, 77, 42, 3, 181, 0, 80, 42, 27, 182, 1, 55, 154, 0, 9, 42, 5, 182, 1, 52, 172]
abbrev dktX6_follow_0 : List UInt8 := dkwX6_follow_0 ++ dktX6_follow_1
theorem dksX6_follow_0 : cX6_follow.data.toList.drop 0 = dktX6_follow_0 := by decide +kernel
theorem dksX6_follow_1 : cX6_follow.data.toList.drop 24 = dktX6_follow_1 := dk_seg dksX6_follow_0 24 rfl rfl
theorem dksX6_follow_2 : cX6_follow.data.toList.drop 48 = dktX6_follow_2 := dk_seg dksX6_follow_1 24 rfl rfl
theorem dksX6_follow_3 : cX6_follow.data.toList.drop 70 = dktX6_follow_3 := dk_seg dksX6_follow_2 22 rfl rfl
theorem dX6_follow_0 : decode cX6_follow 0 = .ok (.aload_n 0, 1) := dk_42 (dk_at dksX6_follow_0 0 rfl rfl)
theorem dX6_follow_1 : decode cX6_follow 1 = .ok (.iconst 0, 1) := dk_3 (dk_at dksX6_follow_0 1 rfl rfl)
theorem dX6_follow_2 : decode cX6_follow 2 = .ok (.putfield 77, 3) := dk_181 0 77 (dk_at dksX6_follow_0 2 rfl rfl)
theorem dX6_follow_5 : decode cX6_follow 5 = .ok (.aload_n 0, 1) := dk_42 (dk_at dksX6_follow_0 5 rfl rfl)
theorem dX6_follow_6 : decode cX6_follow 6 = .ok (.iconst 0, 1) := dk_3 (dk_at dksX6_follow_0 6 rfl rfl)
theorem dX6_follow_7 : decode cX6_follow 7 = .ok (.putfield 80, 3) := dk_181 0 80 (dk_at dksX6_follow_0 7 rfl rfl)
theorem dX6_follow_10 : decode cX6_follow 10 = .ok (.aload_n 0, 1) := dk_42 (dk_at dksX6_follow_0 10 rfl rfl)
theorem dX6_follow_11 : decode cX6_follow 11 = .ok (.iload_n 1, 1) := dk_27 (dk_at dksX6_follow_0 11 rfl rfl)
theorem dX6_follow_12 : decode cX6_follow 12 = .ok (.invokevirtual 311, 3) := dk_182 1 55 (dk_at dksX6_follow_0 12 rfl rfl)
theorem dX6_follow_15 : decode cX6_follow 15 = .ok (.ifCond .ne 9, 3) := dk_154 0 9 (dk_at dksX6_follow_0 15 rfl rfl)
theorem dX6_follow_18 : decode cX6_follow 18 = .ok (.aload_n 0, 1) := dk_42 (dk_at dksX6_follow_0 18 rfl rfl)
theorem dX6_follow_19 : decode cX6_follow 19 = .ok (.iconst 2, 1) := dk_5 (dk_at dksX6_follow_0 19 rfl rfl)
theorem dX6_follow_20 : decode cX6_follow 20 = .ok (.invokevirtual 308, 3) := dk_182 1 52 (dk_at dksX6_follow_0 20 rfl rfl)
theorem dX6_follow_23 : decode cX6_follow 23 = .ok (.ireturn, 1) := dk_172 (dk_at dksX6_follow_0 23 rfl rfl)
theorem dX6_follow_24 : decode cX6_follow 24 = .ok (.iload_n 2, 1) := dk_28 (dk_at dksX6_follow_1 0 rfl rfl)
theorem dX6_follow_25 : decode cX6_follow 25 = .ok (.i2l, 1) := dk_133 (dk_at dksX6_follow_1 1 rfl rfl)
theorem dX6_follow_26 : decode cX6_follow 26 = .ok (.lconst 0, 1) := dk_9 (dk_at dksX6_follow_1 2 rfl rfl)
theorem dX6_follow_27 : decode cX6_follow 27 = .ok (.lconst 1, 1) := dk_10 (dk_at dksX6_follow_1 3 rfl rfl)
theorem dX6_follow_28 : decode cX6_follow 28 = .ok (.invokestatic 112, 3) := dk_184 0 112 (dk_at dksX6_follow_1 4 rfl rfl)
theorem dX6_follow_31 : decode cX6_follow 31 = .ok (.ifCond .ne 9, 3) := dk_154 0 9 (dk_at dksX6_follow_1 7 rfl rfl)
theorem dX6_follow_34 : decode cX6_follow 34 = .ok (.aload_n 0, 1) := dk_42 (dk_at dksX6_follow_1 10 rfl rfl)
theorem dX6_follow_35 : decode cX6_follow 35 = .ok (.iconst 5, 1) := dk_8 (dk_at dksX6_follow_1 11 rfl rfl)
theorem dX6_follow_36 : decode cX6_follow 36 = .ok (.invokevirtual 308, 3) := dk_182 1 52 (dk_at dksX6_follow_1 12 rfl rfl)
theorem dX6_follow_39 : decode cX6_follow 39 = .ok (.ireturn, 1) := dk_172 (dk_at dksX6_follow_1 15 rfl rfl)
theorem dX6_follow_40 : decode cX6_follow 40 = .ok (.aload_n 0, 1) := dk_42 (dk_at dksX6_follow_1 16 rfl rfl)
theorem dX6_follow_41 : decode cX6_follow 41 = .ok (.iload_n 1, 1) := dk_27 (dk_at dksX6_follow_1 17 rfl rfl)
theorem dX6_follow_42 : decode cX6_follow 42 = .ok (.invokevirtual 337, 3) := dk_182 1 81 (dk_at dksX6_follow_1 18 rfl rfl)
theorem dX6_follow_45 : decode cX6_follow 45 = .ok (.ifCond .ne 10, 3) := dk_154 0 10 (dk_at dksX6_follow_1 21 rfl rfl)
theorem dX6_follow_48 : decode cX6_follow 48 = .ok (.aload_n 0, 1) := dk_42 (dk_at dksX6_follow_2 0 rfl rfl)
theorem dX6_follow_49 : decode cX6_follow 49 = .ok (.bipush 9, 2) := dk_16 9 (dk_at dksX6_follow_2 1 rfl rfl)
theorem dX6_follow_51 : decode cX6_follow 51 = .ok (.invokevirtual 308, 3) := dk_182 1 52 (dk_at dksX6_follow_2 3 rfl rfl)
theorem dX6_follow_54 : decode cX6_follow 54 = .ok (.ireturn, 1) := dk_172 (dk_at dksX6_follow_2 6 rfl rfl)
theorem dX6_follow_55 : decode cX6_follow 55 = .ok (.aload_n 0, 1) := dk_42 (dk_at dksX6_follow_2 7 rfl rfl)
theorem dX6_follow_56 : decode cX6_follow 56 = .ok (.iload_n 1, 1) := dk_27 (dk_at dksX6_follow_2 8 rfl rfl)
theorem dX6_follow_57 : decode cX6_follow 57 = .ok (.iload_n 2, 1) := dk_28 (dk_at dksX6_follow_2 9 rfl rfl)
theorem dX6_follow_58 : decode cX6_follow 58 = .ok (.invokevirtual 331, 3) := dk_182 1 75 (dk_at dksX6_follow_2 10 rfl rfl)
theorem dX6_follow_61 : decode cX6_follow 61 = .ok (.ifCond .ge 12, 3) := dk_156 0 12 (dk_at dksX6_follow_2 13 rfl rfl)
theorem dX6_follow_64 : decode cX6_follow 64 = .ok (.aload_n 0, 1) := dk_42 (dk_at dksX6_follow_2 16 rfl rfl)
theorem dX6_follow_65 : decode cX6_follow 65 = .ok (.bipush 8, 2) := dk_16 8 (dk_at dksX6_follow_2 17 rfl rfl)
theorem dX6_follow_67 : decode cX6_follow 67 = .ok (.invokevirtual 308, 3) := dk_182 1 52 (dk_at dksX6_follow_2 19 rfl rfl)
theorem dX6_follow_70 : decode cX6_follow 70 = .ok (.goto 9, 3) := dk_167 0 9 (dk_at dksX6_follow_3 0 rfl rfl)
theorem dX6_follow_73 : decode cX6_follow 73 = .ok (.aload_n 0, 1) := dk_42 (dk_at dksX6_follow_3 3 rfl rfl)
theorem dX6_follow_74 : decode cX6_follow 74 = .ok (.iload_n 1, 1) := dk_27 (dk_at dksX6_follow_3 4 rfl rfl)
theorem dX6_follow_75 : decode cX6_follow 75 = .ok (.iload_n 2, 1) := dk_28 (dk_at dksX6_follow_3 5 rfl rfl)
theorem dX6_follow_76 : decode cX6_follow 76 = .ok (.invokevirtual 340, 3) := dk_182 1 84 (dk_at dksX6_follow_3 6 rfl rfl)
theorem dX6_follow_79 : decode cX6_follow 79 = .ok (.ireturn, 1) := dk_172 (dk_at dksX6_follow_3 9 rfl rfl)
abbrev cX6_isInside : ByteArray := prog_16_method_67_code
def yX6_isInside : MethodName := ⟨RX6, "isInside", "(I)Z"⟩
def dkwX6_isInside_0 : List UInt8 := [42, 180, 0, 35, 6, 46, 27, 184, 0, 116, 172]
abbrev dktX6_isInside_0 : List UInt8 := dkwX6_isInside_0 ++ []
theorem dksX6_isInside_0 : cX6_isInside.data.toList.drop 0 = dktX6_isInside_0 := by decide +kernel
theorem dX6_isInside_0 : decode cX6_isInside 0 = .ok (.aload_n 0, 1) := dk_42 (dk_at dksX6_isInside_0 0 rfl rfl)
theorem dX6_isInside_1 : decode cX6_isInside 1 = .ok (.getfield 35, 3) := dk_180 0 35 (dk_at dksX6_isInside_0 1 rfl rfl)
theorem dX6_isInside_4 : decode cX6_isInside 4 = .ok (.iconst 3, 1) := dk_6 (dk_at dksX6_isInside_0 4 rfl rfl)
theorem dX6_isInside_5 : decode cX6_isInside 5 = .ok (.iaload, 1) := dk_46 (dk_at dksX6_isInside_0 5 rfl rfl)
theorem dX6_isInside_6 : decode cX6_isInside 6 = .ok (.iload_n 1, 1) := dk_27 (dk_at dksX6_isInside_0 6 rfl rfl)
theorem dX6_isInside_7 : decode cX6_isInside 7 = .ok (.invokestatic 116, 3) := dk_184 0 116 (dk_at dksX6_isInside_0 7 rfl rfl)
theorem dX6_isInside_10 : decode cX6_isInside 10 = .ok (.ireturn, 1) := dk_172 (dk_at dksX6_isInside_0 10 rfl rfl)
abbrev cX6_nearest : ByteArray := prog_16_method_82_code
def yX6_nearest : MethodName := ⟨RX6, "nearest", "(II)I"⟩
def dkwX6_nearest_1 : List UInt8 := [153, 0, 15, 29, 155, 0, 8, 28, 4, 160, 0, 6, 21, 4, 62, 132, 4, 1, 167, 255, 220, 29, 172]
abbrev dktX6_nearest_1 : List UInt8 := dkwX6_nearest_1 ++ []
def dkwX6_nearest_0 : List UInt8 := [2, 62, 3, 54, 4, 21, 4, 42, 180, 0, 35, 4, 46, 162, 0, 31, 42, 21, 4, 27, 182, 1, 44]
abbrev dktX6_nearest_0 : List UInt8 := dkwX6_nearest_0 ++ dktX6_nearest_1
theorem dksX6_nearest_0 : cX6_nearest.data.toList.drop 0 = dktX6_nearest_0 := by decide +kernel
theorem dksX6_nearest_1 : cX6_nearest.data.toList.drop 23 = dktX6_nearest_1 := dk_seg dksX6_nearest_0 23 rfl rfl
theorem dX6_nearest_0 : decode cX6_nearest 0 = .ok (.iconst (-1), 1) := dk_2 (dk_at dksX6_nearest_0 0 rfl rfl)
theorem dX6_nearest_1 : decode cX6_nearest 1 = .ok (.istore_n 3, 1) := dk_62 (dk_at dksX6_nearest_0 1 rfl rfl)
theorem dX6_nearest_2 : decode cX6_nearest 2 = .ok (.iconst 0, 1) := dk_3 (dk_at dksX6_nearest_0 2 rfl rfl)
theorem dX6_nearest_3 : decode cX6_nearest 3 = .ok (.istore 4, 2) := dk_54 4 (dk_at dksX6_nearest_0 3 rfl rfl)
theorem dX6_nearest_5 : decode cX6_nearest 5 = .ok (.iload 4, 2) := dk_21 4 (dk_at dksX6_nearest_0 5 rfl rfl)
theorem dX6_nearest_7 : decode cX6_nearest 7 = .ok (.aload_n 0, 1) := dk_42 (dk_at dksX6_nearest_0 7 rfl rfl)
theorem dX6_nearest_8 : decode cX6_nearest 8 = .ok (.getfield 35, 3) := dk_180 0 35 (dk_at dksX6_nearest_0 8 rfl rfl)
theorem dX6_nearest_11 : decode cX6_nearest 11 = .ok (.iconst 1, 1) := dk_4 (dk_at dksX6_nearest_0 11 rfl rfl)
theorem dX6_nearest_12 : decode cX6_nearest 12 = .ok (.iaload, 1) := dk_46 (dk_at dksX6_nearest_0 12 rfl rfl)
theorem dX6_nearest_13 : decode cX6_nearest 13 = .ok (.if_icmp .ge 31, 3) := dk_162 0 31 (dk_at dksX6_nearest_0 13 rfl rfl)
theorem dX6_nearest_16 : decode cX6_nearest 16 = .ok (.aload_n 0, 1) := dk_42 (dk_at dksX6_nearest_0 16 rfl rfl)
theorem dX6_nearest_17 : decode cX6_nearest 17 = .ok (.iload 4, 2) := dk_21 4 (dk_at dksX6_nearest_0 17 rfl rfl)
theorem dX6_nearest_19 : decode cX6_nearest 19 = .ok (.iload_n 1, 1) := dk_27 (dk_at dksX6_nearest_0 19 rfl rfl)
theorem dX6_nearest_20 : decode cX6_nearest 20 = .ok (.invokevirtual 300, 3) := dk_182 1 44 (dk_at dksX6_nearest_0 20 rfl rfl)
theorem dX6_nearest_23 : decode cX6_nearest 23 = .ok (.ifCond .eq 15, 3) := dk_153 0 15 (dk_at dksX6_nearest_1 0 rfl rfl)
theorem dX6_nearest_26 : decode cX6_nearest 26 = .ok (.iload_n 3, 1) := dk_29 (dk_at dksX6_nearest_1 3 rfl rfl)
theorem dX6_nearest_27 : decode cX6_nearest 27 = .ok (.ifCond .lt 8, 3) := dk_155 0 8 (dk_at dksX6_nearest_1 4 rfl rfl)
theorem dX6_nearest_30 : decode cX6_nearest 30 = .ok (.iload_n 2, 1) := dk_28 (dk_at dksX6_nearest_1 7 rfl rfl)
theorem dX6_nearest_31 : decode cX6_nearest 31 = .ok (.iconst 1, 1) := dk_4 (dk_at dksX6_nearest_1 8 rfl rfl)
theorem dX6_nearest_32 : decode cX6_nearest 32 = .ok (.if_icmp .ne 6, 3) := dk_160 0 6 (dk_at dksX6_nearest_1 9 rfl rfl)
theorem dX6_nearest_35 : decode cX6_nearest 35 = .ok (.iload 4, 2) := dk_21 4 (dk_at dksX6_nearest_1 12 rfl rfl)
theorem dX6_nearest_37 : decode cX6_nearest 37 = .ok (.istore_n 3, 1) := dk_62 (dk_at dksX6_nearest_1 14 rfl rfl)
theorem dX6_nearest_38 : decode cX6_nearest 38 = .ok (.iinc 4 1, 3) := dk_132 4 1 (dk_at dksX6_nearest_1 15 rfl rfl)
theorem dX6_nearest_41 : decode cX6_nearest 41 = .ok (.goto (-36), 3) := dk_167 255 220 (dk_at dksX6_nearest_1 18 rfl rfl)
theorem dX6_nearest_44 : decode cX6_nearest 44 = .ok (.iload_n 3, 1) := dk_29 (dk_at dksX6_nearest_1 21 rfl rfl)
theorem dX6_nearest_45 : decode cX6_nearest 45 = .ok (.ireturn, 1) := dk_172 (dk_at dksX6_nearest_1 22 rfl rfl)
abbrev cX6_followsOne : ByteArray := prog_16_method_83_code
def yX6_followsOne : MethodName := ⟨RX6, "followsOne", "(II)I"⟩
def dkwX6_followsOne_1 : List UInt8 := [96, 79, 42, 29, 182, 1, 69, 21, 4, 172]
abbrev dktX6_followsOne_1 : List UInt8 := dkwX6_followsOne_1 ++ []
def dkwX6_followsOne_0 : List UInt8 := [42, 27, 28, 182, 1, 75, 62, 42, 29, 27, 182, 1, 78, 54, 4, 42, 180, 0, 35, 8, 92, 46, 21, 4]
abbrev dktX6_followsOne_0 : List UInt8 := dkwX6_followsOne_0 ++ dktX6_followsOne_1
theorem dksX6_followsOne_0 : cX6_followsOne.data.toList.drop 0 = dktX6_followsOne_0 := by decide +kernel
theorem dksX6_followsOne_1 : cX6_followsOne.data.toList.drop 24 = dktX6_followsOne_1 := dk_seg dksX6_followsOne_0 24 rfl rfl
theorem dX6_followsOne_0 : decode cX6_followsOne 0 = .ok (.aload_n 0, 1) := dk_42 (dk_at dksX6_followsOne_0 0 rfl rfl)
theorem dX6_followsOne_1 : decode cX6_followsOne 1 = .ok (.iload_n 1, 1) := dk_27 (dk_at dksX6_followsOne_0 1 rfl rfl)
theorem dX6_followsOne_2 : decode cX6_followsOne 2 = .ok (.iload_n 2, 1) := dk_28 (dk_at dksX6_followsOne_0 2 rfl rfl)
theorem dX6_followsOne_3 : decode cX6_followsOne 3 = .ok (.invokevirtual 331, 3) := dk_182 1 75 (dk_at dksX6_followsOne_0 3 rfl rfl)
theorem dX6_followsOne_6 : decode cX6_followsOne 6 = .ok (.istore_n 3, 1) := dk_62 (dk_at dksX6_followsOne_0 6 rfl rfl)
theorem dX6_followsOne_7 : decode cX6_followsOne 7 = .ok (.aload_n 0, 1) := dk_42 (dk_at dksX6_followsOne_0 7 rfl rfl)
theorem dX6_followsOne_8 : decode cX6_followsOne 8 = .ok (.iload_n 3, 1) := dk_29 (dk_at dksX6_followsOne_0 8 rfl rfl)
theorem dX6_followsOne_9 : decode cX6_followsOne 9 = .ok (.iload_n 1, 1) := dk_27 (dk_at dksX6_followsOne_0 9 rfl rfl)
theorem dX6_followsOne_10 : decode cX6_followsOne 10 = .ok (.invokevirtual 334, 3) := dk_182 1 78 (dk_at dksX6_followsOne_0 10 rfl rfl)
theorem dX6_followsOne_13 : decode cX6_followsOne 13 = .ok (.istore 4, 2) := dk_54 4 (dk_at dksX6_followsOne_0 13 rfl rfl)
theorem dX6_followsOne_15 : decode cX6_followsOne 15 = .ok (.aload_n 0, 1) := dk_42 (dk_at dksX6_followsOne_0 15 rfl rfl)
theorem dX6_followsOne_16 : decode cX6_followsOne 16 = .ok (.getfield 35, 3) := dk_180 0 35 (dk_at dksX6_followsOne_0 16 rfl rfl)
theorem dX6_followsOne_19 : decode cX6_followsOne 19 = .ok (.iconst 5, 1) := dk_8 (dk_at dksX6_followsOne_0 19 rfl rfl)
theorem dX6_followsOne_20 : decode cX6_followsOne 20 = .ok (.dup2, 1) := dk_92 (dk_at dksX6_followsOne_0 20 rfl rfl)
theorem dX6_followsOne_21 : decode cX6_followsOne 21 = .ok (.iaload, 1) := dk_46 (dk_at dksX6_followsOne_0 21 rfl rfl)
theorem dX6_followsOne_22 : decode cX6_followsOne 22 = .ok (.iload 4, 2) := dk_21 4 (dk_at dksX6_followsOne_0 22 rfl rfl)
theorem dX6_followsOne_24 : decode cX6_followsOne 24 = .ok (.iadd, 1) := dk_96 (dk_at dksX6_followsOne_1 0 rfl rfl)
theorem dX6_followsOne_25 : decode cX6_followsOne 25 = .ok (.iastore, 1) := dk_79 (dk_at dksX6_followsOne_1 1 rfl rfl)
theorem dX6_followsOne_26 : decode cX6_followsOne 26 = .ok (.aload_n 0, 1) := dk_42 (dk_at dksX6_followsOne_1 2 rfl rfl)
theorem dX6_followsOne_27 : decode cX6_followsOne 27 = .ok (.iload_n 3, 1) := dk_29 (dk_at dksX6_followsOne_1 3 rfl rfl)
theorem dX6_followsOne_28 : decode cX6_followsOne 28 = .ok (.invokevirtual 325, 3) := dk_182 1 69 (dk_at dksX6_followsOne_1 4 rfl rfl)
theorem dX6_followsOne_31 : decode cX6_followsOne 31 = .ok (.iload 4, 2) := dk_21 4 (dk_at dksX6_followsOne_1 7 rfl rfl)
theorem dX6_followsOne_33 : decode cX6_followsOne 33 = .ok (.ireturn, 1) := dk_172 (dk_at dksX6_followsOne_1 9 rfl rfl)
abbrev cX6_costOf : ByteArray := prog_16_method_81_code
def yX6_costOf : MethodName := ⟨RX6, "costOf", "(II)I"⟩
def dkwX6_costOf_2 : List UInt8 := [16, 60, 27, 96, 46, 96, 46, 96, 172]
abbrev dktX6_costOf_2 : List UInt8 := dkwX6_costOf_2 ++ []
def dkwX6_costOf_1 : List UInt8 := [27, 96, 46, 28, 160, 0, 15, 42, 180, 0, 35, 16, 84, 27, 96, 46, 167, 0, 12, 42, 180, 0, 35]
abbrev dktX6_costOf_1 : List UInt8 := dkwX6_costOf_1 ++ dktX6_costOf_2
def dkwX6_costOf_0 : List UInt8 := [42, 180, 0, 35, 16, 108, 27, 96, 46, 184, 1, 72, 42, 180, 0, 35, 16, 16, 42, 180, 0, 35, 16, 60]
abbrev dktX6_costOf_0 : List UInt8 := dkwX6_costOf_0 ++ dktX6_costOf_1
theorem dksX6_costOf_0 : cX6_costOf.data.toList.drop 0 = dktX6_costOf_0 := by decide +kernel
theorem dksX6_costOf_1 : cX6_costOf.data.toList.drop 24 = dktX6_costOf_1 := dk_seg dksX6_costOf_0 24 rfl rfl
theorem dksX6_costOf_2 : cX6_costOf.data.toList.drop 47 = dktX6_costOf_2 := dk_seg dksX6_costOf_1 23 rfl rfl
theorem dX6_costOf_0 : decode cX6_costOf 0 = .ok (.aload_n 0, 1) := dk_42 (dk_at dksX6_costOf_0 0 rfl rfl)
theorem dX6_costOf_1 : decode cX6_costOf 1 = .ok (.getfield 35, 3) := dk_180 0 35 (dk_at dksX6_costOf_0 1 rfl rfl)
theorem dX6_costOf_4 : decode cX6_costOf 4 = .ok (.bipush 108, 2) := dk_16 108 (dk_at dksX6_costOf_0 4 rfl rfl)
theorem dX6_costOf_6 : decode cX6_costOf 6 = .ok (.iload_n 1, 1) := dk_27 (dk_at dksX6_costOf_0 6 rfl rfl)
theorem dX6_costOf_7 : decode cX6_costOf 7 = .ok (.iadd, 1) := dk_96 (dk_at dksX6_costOf_0 7 rfl rfl)
theorem dX6_costOf_8 : decode cX6_costOf 8 = .ok (.iaload, 1) := dk_46 (dk_at dksX6_costOf_0 8 rfl rfl)
theorem dX6_costOf_9 : decode cX6_costOf 9 = .ok (.invokestatic 328, 3) := dk_184 1 72 (dk_at dksX6_costOf_0 9 rfl rfl)
theorem dX6_costOf_12 : decode cX6_costOf 12 = .ok (.aload_n 0, 1) := dk_42 (dk_at dksX6_costOf_0 12 rfl rfl)
theorem dX6_costOf_13 : decode cX6_costOf 13 = .ok (.getfield 35, 3) := dk_180 0 35 (dk_at dksX6_costOf_0 13 rfl rfl)
theorem dX6_costOf_16 : decode cX6_costOf 16 = .ok (.bipush 16, 2) := dk_16 16 (dk_at dksX6_costOf_0 16 rfl rfl)
theorem dX6_costOf_18 : decode cX6_costOf 18 = .ok (.aload_n 0, 1) := dk_42 (dk_at dksX6_costOf_0 18 rfl rfl)
theorem dX6_costOf_19 : decode cX6_costOf 19 = .ok (.getfield 35, 3) := dk_180 0 35 (dk_at dksX6_costOf_0 19 rfl rfl)
theorem dX6_costOf_22 : decode cX6_costOf 22 = .ok (.bipush 60, 2) := dk_16 60 (dk_at dksX6_costOf_0 22 rfl rfl)
theorem dX6_costOf_24 : decode cX6_costOf 24 = .ok (.iload_n 1, 1) := dk_27 (dk_at dksX6_costOf_1 0 rfl rfl)
theorem dX6_costOf_25 : decode cX6_costOf 25 = .ok (.iadd, 1) := dk_96 (dk_at dksX6_costOf_1 1 rfl rfl)
theorem dX6_costOf_26 : decode cX6_costOf 26 = .ok (.iaload, 1) := dk_46 (dk_at dksX6_costOf_1 2 rfl rfl)
theorem dX6_costOf_27 : decode cX6_costOf 27 = .ok (.iload_n 2, 1) := dk_28 (dk_at dksX6_costOf_1 3 rfl rfl)
theorem dX6_costOf_28 : decode cX6_costOf 28 = .ok (.if_icmp .ne 15, 3) := dk_160 0 15 (dk_at dksX6_costOf_1 4 rfl rfl)
theorem dX6_costOf_31 : decode cX6_costOf 31 = .ok (.aload_n 0, 1) := dk_42 (dk_at dksX6_costOf_1 7 rfl rfl)
theorem dX6_costOf_32 : decode cX6_costOf 32 = .ok (.getfield 35, 3) := dk_180 0 35 (dk_at dksX6_costOf_1 8 rfl rfl)
theorem dX6_costOf_35 : decode cX6_costOf 35 = .ok (.bipush 84, 2) := dk_16 84 (dk_at dksX6_costOf_1 11 rfl rfl)
theorem dX6_costOf_37 : decode cX6_costOf 37 = .ok (.iload_n 1, 1) := dk_27 (dk_at dksX6_costOf_1 13 rfl rfl)
theorem dX6_costOf_38 : decode cX6_costOf 38 = .ok (.iadd, 1) := dk_96 (dk_at dksX6_costOf_1 14 rfl rfl)
theorem dX6_costOf_39 : decode cX6_costOf 39 = .ok (.iaload, 1) := dk_46 (dk_at dksX6_costOf_1 15 rfl rfl)
theorem dX6_costOf_40 : decode cX6_costOf 40 = .ok (.goto 12, 3) := dk_167 0 12 (dk_at dksX6_costOf_1 16 rfl rfl)
theorem dX6_costOf_43 : decode cX6_costOf 43 = .ok (.aload_n 0, 1) := dk_42 (dk_at dksX6_costOf_1 19 rfl rfl)
theorem dX6_costOf_44 : decode cX6_costOf 44 = .ok (.getfield 35, 3) := dk_180 0 35 (dk_at dksX6_costOf_1 20 rfl rfl)
theorem dX6_costOf_47 : decode cX6_costOf 47 = .ok (.bipush 60, 2) := dk_16 60 (dk_at dksX6_costOf_2 0 rfl rfl)
theorem dX6_costOf_49 : decode cX6_costOf 49 = .ok (.iload_n 1, 1) := dk_27 (dk_at dksX6_costOf_2 2 rfl rfl)
theorem dX6_costOf_50 : decode cX6_costOf 50 = .ok (.iadd, 1) := dk_96 (dk_at dksX6_costOf_2 3 rfl rfl)
theorem dX6_costOf_51 : decode cX6_costOf 51 = .ok (.iaload, 1) := dk_46 (dk_at dksX6_costOf_2 4 rfl rfl)
theorem dX6_costOf_52 : decode cX6_costOf 52 = .ok (.iadd, 1) := dk_96 (dk_at dksX6_costOf_2 5 rfl rfl)
theorem dX6_costOf_53 : decode cX6_costOf 53 = .ok (.iaload, 1) := dk_46 (dk_at dksX6_costOf_2 6 rfl rfl)
theorem dX6_costOf_54 : decode cX6_costOf 54 = .ok (.iadd, 1) := dk_96 (dk_at dksX6_costOf_2 7 rfl rfl)
theorem dX6_costOf_55 : decode cX6_costOf 55 = .ok (.ireturn, 1) := dk_172 (dk_at dksX6_costOf_2 8 rfl rfl)
abbrev cX6_secondsOf : ByteArray := prog_16_method_80_code
def yX6_secondsOf : MethodName := ⟨RX6, "secondsOf", "(I)I"⟩
def dkwX6_secondsOf_1 : List UInt8 := [167, 0, 5, 16, 15, 172]
abbrev dktX6_secondsOf_1 : List UInt8 := dkwX6_secondsOf_1 ++ []
def dkwX6_secondsOf_0 : List UInt8 := [26, 154, 0, 7, 4, 167, 0, 24, 26, 4, 160, 0, 7, 6, 167, 0, 15, 26, 5, 160, 0, 8, 16, 6]
abbrev dktX6_secondsOf_0 : List UInt8 := dkwX6_secondsOf_0 ++ dktX6_secondsOf_1
theorem dksX6_secondsOf_0 : cX6_secondsOf.data.toList.drop 0 = dktX6_secondsOf_0 := by decide +kernel
theorem dksX6_secondsOf_1 : cX6_secondsOf.data.toList.drop 24 = dktX6_secondsOf_1 := dk_seg dksX6_secondsOf_0 24 rfl rfl
theorem dX6_secondsOf_0 : decode cX6_secondsOf 0 = .ok (.iload_n 0, 1) := dk_26 (dk_at dksX6_secondsOf_0 0 rfl rfl)
theorem dX6_secondsOf_1 : decode cX6_secondsOf 1 = .ok (.ifCond .ne 7, 3) := dk_154 0 7 (dk_at dksX6_secondsOf_0 1 rfl rfl)
theorem dX6_secondsOf_4 : decode cX6_secondsOf 4 = .ok (.iconst 1, 1) := dk_4 (dk_at dksX6_secondsOf_0 4 rfl rfl)
theorem dX6_secondsOf_5 : decode cX6_secondsOf 5 = .ok (.goto 24, 3) := dk_167 0 24 (dk_at dksX6_secondsOf_0 5 rfl rfl)
theorem dX6_secondsOf_8 : decode cX6_secondsOf 8 = .ok (.iload_n 0, 1) := dk_26 (dk_at dksX6_secondsOf_0 8 rfl rfl)
theorem dX6_secondsOf_9 : decode cX6_secondsOf 9 = .ok (.iconst 1, 1) := dk_4 (dk_at dksX6_secondsOf_0 9 rfl rfl)
theorem dX6_secondsOf_10 : decode cX6_secondsOf 10 = .ok (.if_icmp .ne 7, 3) := dk_160 0 7 (dk_at dksX6_secondsOf_0 10 rfl rfl)
theorem dX6_secondsOf_13 : decode cX6_secondsOf 13 = .ok (.iconst 3, 1) := dk_6 (dk_at dksX6_secondsOf_0 13 rfl rfl)
theorem dX6_secondsOf_14 : decode cX6_secondsOf 14 = .ok (.goto 15, 3) := dk_167 0 15 (dk_at dksX6_secondsOf_0 14 rfl rfl)
theorem dX6_secondsOf_17 : decode cX6_secondsOf 17 = .ok (.iload_n 0, 1) := dk_26 (dk_at dksX6_secondsOf_0 17 rfl rfl)
theorem dX6_secondsOf_18 : decode cX6_secondsOf 18 = .ok (.iconst 2, 1) := dk_5 (dk_at dksX6_secondsOf_0 18 rfl rfl)
theorem dX6_secondsOf_19 : decode cX6_secondsOf 19 = .ok (.if_icmp .ne 8, 3) := dk_160 0 8 (dk_at dksX6_secondsOf_0 19 rfl rfl)
theorem dX6_secondsOf_22 : decode cX6_secondsOf 22 = .ok (.bipush 6, 2) := dk_16 6 (dk_at dksX6_secondsOf_0 22 rfl rfl)
theorem dX6_secondsOf_24 : decode cX6_secondsOf 24 = .ok (.goto 5, 3) := dk_167 0 5 (dk_at dksX6_secondsOf_1 0 rfl rfl)
theorem dX6_secondsOf_27 : decode cX6_secondsOf 27 = .ok (.bipush 15, 2) := dk_16 15 (dk_at dksX6_secondsOf_1 3 rfl rfl)
theorem dX6_secondsOf_29 : decode cX6_secondsOf 29 = .ok (.ireturn, 1) := dk_172 (dk_at dksX6_secondsOf_1 5 rfl rfl)
abbrev cX6_drops : ByteArray := prog_16_method_78_code
def yX6_drops : MethodName := ⟨RX6, "drops", "(I)V"⟩
def dkwX6_drops_3 : List UInt8 := [4, 96, 46, 79, 132, 2, 1, 167, 255, 181, 42, 180, 0, 35, 4, 92, 46, 4, 100, 79, 177]
abbrev dktX6_drops_3 : List UInt8 := dkwX6_drops_3 ++ []
def dkwX6_drops_2 : List UInt8 := [16, 84, 28, 96, 4, 96, 46, 79, 42, 180, 0, 35, 16, 108, 28, 96, 42, 180, 0, 35, 16, 108, 28, 96]
abbrev dktX6_drops_2 : List UInt8 := dkwX6_drops_2 ++ dktX6_drops_3
def dkwX6_drops_1 : List UInt8 := [180, 0, 35, 16, 60, 28, 96, 4, 96, 46, 79, 42, 180, 0, 35, 16, 84, 28, 96, 42, 180, 0, 35]
abbrev dktX6_drops_1 : List UInt8 := dkwX6_drops_1 ++ dktX6_drops_2
def dkwX6_drops_0 : List UInt8 := [27, 61, 28, 42, 180, 0, 35, 4, 46, 4, 100, 162, 0, 69, 42, 180, 0, 35, 16, 60, 28, 96, 42]
abbrev dktX6_drops_0 : List UInt8 := dkwX6_drops_0 ++ dktX6_drops_1
theorem dksX6_drops_0 : cX6_drops.data.toList.drop 0 = dktX6_drops_0 := by decide +kernel
theorem dksX6_drops_1 : cX6_drops.data.toList.drop 23 = dktX6_drops_1 := dk_seg dksX6_drops_0 23 rfl rfl
theorem dksX6_drops_2 : cX6_drops.data.toList.drop 46 = dktX6_drops_2 := dk_seg dksX6_drops_1 23 rfl rfl
theorem dksX6_drops_3 : cX6_drops.data.toList.drop 70 = dktX6_drops_3 := dk_seg dksX6_drops_2 24 rfl rfl
theorem dX6_drops_0 : decode cX6_drops 0 = .ok (.iload_n 1, 1) := dk_27 (dk_at dksX6_drops_0 0 rfl rfl)
theorem dX6_drops_1 : decode cX6_drops 1 = .ok (.istore_n 2, 1) := dk_61 (dk_at dksX6_drops_0 1 rfl rfl)
theorem dX6_drops_2 : decode cX6_drops 2 = .ok (.iload_n 2, 1) := dk_28 (dk_at dksX6_drops_0 2 rfl rfl)
theorem dX6_drops_3 : decode cX6_drops 3 = .ok (.aload_n 0, 1) := dk_42 (dk_at dksX6_drops_0 3 rfl rfl)
theorem dX6_drops_4 : decode cX6_drops 4 = .ok (.getfield 35, 3) := dk_180 0 35 (dk_at dksX6_drops_0 4 rfl rfl)
theorem dX6_drops_7 : decode cX6_drops 7 = .ok (.iconst 1, 1) := dk_4 (dk_at dksX6_drops_0 7 rfl rfl)
theorem dX6_drops_8 : decode cX6_drops 8 = .ok (.iaload, 1) := dk_46 (dk_at dksX6_drops_0 8 rfl rfl)
theorem dX6_drops_9 : decode cX6_drops 9 = .ok (.iconst 1, 1) := dk_4 (dk_at dksX6_drops_0 9 rfl rfl)
theorem dX6_drops_10 : decode cX6_drops 10 = .ok (.isub, 1) := dk_100 (dk_at dksX6_drops_0 10 rfl rfl)
theorem dX6_drops_11 : decode cX6_drops 11 = .ok (.if_icmp .ge 69, 3) := dk_162 0 69 (dk_at dksX6_drops_0 11 rfl rfl)
theorem dX6_drops_14 : decode cX6_drops 14 = .ok (.aload_n 0, 1) := dk_42 (dk_at dksX6_drops_0 14 rfl rfl)
theorem dX6_drops_15 : decode cX6_drops 15 = .ok (.getfield 35, 3) := dk_180 0 35 (dk_at dksX6_drops_0 15 rfl rfl)
theorem dX6_drops_18 : decode cX6_drops 18 = .ok (.bipush 60, 2) := dk_16 60 (dk_at dksX6_drops_0 18 rfl rfl)
theorem dX6_drops_20 : decode cX6_drops 20 = .ok (.iload_n 2, 1) := dk_28 (dk_at dksX6_drops_0 20 rfl rfl)
theorem dX6_drops_21 : decode cX6_drops 21 = .ok (.iadd, 1) := dk_96 (dk_at dksX6_drops_0 21 rfl rfl)
theorem dX6_drops_22 : decode cX6_drops 22 = .ok (.aload_n 0, 1) := dk_42 (dk_at dksX6_drops_0 22 rfl rfl)
theorem dX6_drops_23 : decode cX6_drops 23 = .ok (.getfield 35, 3) := dk_180 0 35 (dk_at dksX6_drops_1 0 rfl rfl)
theorem dX6_drops_26 : decode cX6_drops 26 = .ok (.bipush 60, 2) := dk_16 60 (dk_at dksX6_drops_1 3 rfl rfl)
theorem dX6_drops_28 : decode cX6_drops 28 = .ok (.iload_n 2, 1) := dk_28 (dk_at dksX6_drops_1 5 rfl rfl)
theorem dX6_drops_29 : decode cX6_drops 29 = .ok (.iadd, 1) := dk_96 (dk_at dksX6_drops_1 6 rfl rfl)
theorem dX6_drops_30 : decode cX6_drops 30 = .ok (.iconst 1, 1) := dk_4 (dk_at dksX6_drops_1 7 rfl rfl)
theorem dX6_drops_31 : decode cX6_drops 31 = .ok (.iadd, 1) := dk_96 (dk_at dksX6_drops_1 8 rfl rfl)
theorem dX6_drops_32 : decode cX6_drops 32 = .ok (.iaload, 1) := dk_46 (dk_at dksX6_drops_1 9 rfl rfl)
theorem dX6_drops_33 : decode cX6_drops 33 = .ok (.iastore, 1) := dk_79 (dk_at dksX6_drops_1 10 rfl rfl)
theorem dX6_drops_34 : decode cX6_drops 34 = .ok (.aload_n 0, 1) := dk_42 (dk_at dksX6_drops_1 11 rfl rfl)
theorem dX6_drops_35 : decode cX6_drops 35 = .ok (.getfield 35, 3) := dk_180 0 35 (dk_at dksX6_drops_1 12 rfl rfl)
theorem dX6_drops_38 : decode cX6_drops 38 = .ok (.bipush 84, 2) := dk_16 84 (dk_at dksX6_drops_1 15 rfl rfl)
theorem dX6_drops_40 : decode cX6_drops 40 = .ok (.iload_n 2, 1) := dk_28 (dk_at dksX6_drops_1 17 rfl rfl)
theorem dX6_drops_41 : decode cX6_drops 41 = .ok (.iadd, 1) := dk_96 (dk_at dksX6_drops_1 18 rfl rfl)
theorem dX6_drops_42 : decode cX6_drops 42 = .ok (.aload_n 0, 1) := dk_42 (dk_at dksX6_drops_1 19 rfl rfl)
theorem dX6_drops_43 : decode cX6_drops 43 = .ok (.getfield 35, 3) := dk_180 0 35 (dk_at dksX6_drops_1 20 rfl rfl)
theorem dX6_drops_46 : decode cX6_drops 46 = .ok (.bipush 84, 2) := dk_16 84 (dk_at dksX6_drops_2 0 rfl rfl)
theorem dX6_drops_48 : decode cX6_drops 48 = .ok (.iload_n 2, 1) := dk_28 (dk_at dksX6_drops_2 2 rfl rfl)
theorem dX6_drops_49 : decode cX6_drops 49 = .ok (.iadd, 1) := dk_96 (dk_at dksX6_drops_2 3 rfl rfl)
theorem dX6_drops_50 : decode cX6_drops 50 = .ok (.iconst 1, 1) := dk_4 (dk_at dksX6_drops_2 4 rfl rfl)
theorem dX6_drops_51 : decode cX6_drops 51 = .ok (.iadd, 1) := dk_96 (dk_at dksX6_drops_2 5 rfl rfl)
theorem dX6_drops_52 : decode cX6_drops 52 = .ok (.iaload, 1) := dk_46 (dk_at dksX6_drops_2 6 rfl rfl)
theorem dX6_drops_53 : decode cX6_drops 53 = .ok (.iastore, 1) := dk_79 (dk_at dksX6_drops_2 7 rfl rfl)
theorem dX6_drops_54 : decode cX6_drops 54 = .ok (.aload_n 0, 1) := dk_42 (dk_at dksX6_drops_2 8 rfl rfl)
theorem dX6_drops_55 : decode cX6_drops 55 = .ok (.getfield 35, 3) := dk_180 0 35 (dk_at dksX6_drops_2 9 rfl rfl)
theorem dX6_drops_58 : decode cX6_drops 58 = .ok (.bipush 108, 2) := dk_16 108 (dk_at dksX6_drops_2 12 rfl rfl)
theorem dX6_drops_60 : decode cX6_drops 60 = .ok (.iload_n 2, 1) := dk_28 (dk_at dksX6_drops_2 14 rfl rfl)
theorem dX6_drops_61 : decode cX6_drops 61 = .ok (.iadd, 1) := dk_96 (dk_at dksX6_drops_2 15 rfl rfl)
theorem dX6_drops_62 : decode cX6_drops 62 = .ok (.aload_n 0, 1) := dk_42 (dk_at dksX6_drops_2 16 rfl rfl)
theorem dX6_drops_63 : decode cX6_drops 63 = .ok (.getfield 35, 3) := dk_180 0 35 (dk_at dksX6_drops_2 17 rfl rfl)
theorem dX6_drops_66 : decode cX6_drops 66 = .ok (.bipush 108, 2) := dk_16 108 (dk_at dksX6_drops_2 20 rfl rfl)
theorem dX6_drops_68 : decode cX6_drops 68 = .ok (.iload_n 2, 1) := dk_28 (dk_at dksX6_drops_2 22 rfl rfl)
theorem dX6_drops_69 : decode cX6_drops 69 = .ok (.iadd, 1) := dk_96 (dk_at dksX6_drops_2 23 rfl rfl)
theorem dX6_drops_70 : decode cX6_drops 70 = .ok (.iconst 1, 1) := dk_4 (dk_at dksX6_drops_3 0 rfl rfl)
theorem dX6_drops_71 : decode cX6_drops 71 = .ok (.iadd, 1) := dk_96 (dk_at dksX6_drops_3 1 rfl rfl)
theorem dX6_drops_72 : decode cX6_drops 72 = .ok (.iaload, 1) := dk_46 (dk_at dksX6_drops_3 2 rfl rfl)
theorem dX6_drops_73 : decode cX6_drops 73 = .ok (.iastore, 1) := dk_79 (dk_at dksX6_drops_3 3 rfl rfl)
theorem dX6_drops_74 : decode cX6_drops 74 = .ok (.iinc 2 1, 3) := dk_132 2 1 (dk_at dksX6_drops_3 4 rfl rfl)
theorem dX6_drops_77 : decode cX6_drops 77 = .ok (.goto (-75), 3) := dk_167 255 181 (dk_at dksX6_drops_3 7 rfl rfl)
theorem dX6_drops_80 : decode cX6_drops 80 = .ok (.aload_n 0, 1) := dk_42 (dk_at dksX6_drops_3 10 rfl rfl)
theorem dX6_drops_81 : decode cX6_drops 81 = .ok (.getfield 35, 3) := dk_180 0 35 (dk_at dksX6_drops_3 11 rfl rfl)
theorem dX6_drops_84 : decode cX6_drops 84 = .ok (.iconst 1, 1) := dk_4 (dk_at dksX6_drops_3 14 rfl rfl)
theorem dX6_drops_85 : decode cX6_drops 85 = .ok (.dup2, 1) := dk_92 (dk_at dksX6_drops_3 15 rfl rfl)
theorem dX6_drops_86 : decode cX6_drops 86 = .ok (.iaload, 1) := dk_46 (dk_at dksX6_drops_3 16 rfl rfl)
theorem dX6_drops_87 : decode cX6_drops 87 = .ok (.iconst 1, 1) := dk_4 (dk_at dksX6_drops_3 17 rfl rfl)
theorem dX6_drops_88 : decode cX6_drops 88 = .ok (.isub, 1) := dk_100 (dk_at dksX6_drops_3 18 rfl rfl)
theorem dX6_drops_89 : decode cX6_drops 89 = .ok (.iastore, 1) := dk_79 (dk_at dksX6_drops_3 19 rfl rfl)
theorem dX6_drops_90 : decode cX6_drops 90 = .ok (.return_, 1) := dk_177 (dk_at dksX6_drops_3 20 rfl rfl)
abbrev cX6_loosen : ByteArray := prog_16_method_86_code
def yX6_loosen : MethodName := ⟨RX6, "loosen", "()I"⟩
def dkwX6_loosen_0 : List UInt8 := [42, 3, 181, 0, 77, 42, 3, 181, 0, 80, 42, 182, 1, 87, 172]
abbrev dktX6_loosen_0 : List UInt8 := dkwX6_loosen_0 ++ []
theorem dksX6_loosen_0 : cX6_loosen.data.toList.drop 0 = dktX6_loosen_0 := by decide +kernel
theorem dX6_loosen_0 : decode cX6_loosen 0 = .ok (.aload_n 0, 1) := dk_42 (dk_at dksX6_loosen_0 0 rfl rfl)
theorem dX6_loosen_1 : decode cX6_loosen 1 = .ok (.iconst 0, 1) := dk_3 (dk_at dksX6_loosen_0 1 rfl rfl)
theorem dX6_loosen_2 : decode cX6_loosen 2 = .ok (.putfield 77, 3) := dk_181 0 77 (dk_at dksX6_loosen_0 2 rfl rfl)
theorem dX6_loosen_5 : decode cX6_loosen 5 = .ok (.aload_n 0, 1) := dk_42 (dk_at dksX6_loosen_0 5 rfl rfl)
theorem dX6_loosen_6 : decode cX6_loosen 6 = .ok (.iconst 0, 1) := dk_3 (dk_at dksX6_loosen_0 6 rfl rfl)
theorem dX6_loosen_7 : decode cX6_loosen 7 = .ok (.putfield 80, 3) := dk_181 0 80 (dk_at dksX6_loosen_0 7 rfl rfl)
theorem dX6_loosen_10 : decode cX6_loosen 10 = .ok (.aload_n 0, 1) := dk_42 (dk_at dksX6_loosen_0 10 rfl rfl)
theorem dX6_loosen_11 : decode cX6_loosen 11 = .ok (.invokevirtual 343, 3) := dk_182 1 87 (dk_at dksX6_loosen_0 11 rfl rfl)
theorem dX6_loosen_14 : decode cX6_loosen 14 = .ok (.ireturn, 1) := dk_172 (dk_at dksX6_loosen_0 14 rfl rfl)
abbrev cX6_loosensOnce : ByteArray := prog_16_method_85_code
def yX6_loosensOnce : MethodName := ⟨RX6, "loosensOnce", "()I"⟩
def dkwX6_loosensOnce_3 : List UInt8 := [79, 132, 2, 255, 167, 255, 203, 27, 172]
abbrev dktX6_loosensOnce_3 : List UInt8 := dkwX6_loosensOnce_3 ++ []
def dkwX6_loosensOnce_2 : List UInt8 := [180, 0, 35, 16, 108, 28, 96, 46, 6, 162, 0, 16, 42, 180, 0, 35, 16, 108, 28, 96, 92, 46, 4, 100]
abbrev dktX6_loosensOnce_2 : List UInt8 := dkwX6_loosensOnce_2 ++ dktX6_loosensOnce_3
def dkwX6_loosensOnce_1 : List UInt8 := [155, 0, 55, 42, 180, 0, 35, 16, 108, 28, 96, 46, 154, 0, 11, 42, 28, 182, 1, 69, 167, 0, 29, 42]
abbrev dktX6_loosensOnce_1 : List UInt8 := dkwX6_loosensOnce_1 ++ dktX6_loosensOnce_2
def dkwX6_loosensOnce_0 : List UInt8 := [42, 180, 0, 35, 4, 46, 60, 42, 180, 0, 35, 8, 92, 46, 27, 96, 79, 27, 4, 100, 61, 28]
abbrev dktX6_loosensOnce_0 : List UInt8 := dkwX6_loosensOnce_0 ++ dktX6_loosensOnce_1
theorem dksX6_loosensOnce_0 : cX6_loosensOnce.data.toList.drop 0 = dktX6_loosensOnce_0 := by decide +kernel
theorem dksX6_loosensOnce_1 : cX6_loosensOnce.data.toList.drop 22 = dktX6_loosensOnce_1 := dk_seg dksX6_loosensOnce_0 22 rfl rfl
theorem dksX6_loosensOnce_2 : cX6_loosensOnce.data.toList.drop 46 = dktX6_loosensOnce_2 := dk_seg dksX6_loosensOnce_1 24 rfl rfl
theorem dksX6_loosensOnce_3 : cX6_loosensOnce.data.toList.drop 70 = dktX6_loosensOnce_3 := dk_seg dksX6_loosensOnce_2 24 rfl rfl
theorem dX6_loosensOnce_0 : decode cX6_loosensOnce 0 = .ok (.aload_n 0, 1) := dk_42 (dk_at dksX6_loosensOnce_0 0 rfl rfl)
theorem dX6_loosensOnce_1 : decode cX6_loosensOnce 1 = .ok (.getfield 35, 3) := dk_180 0 35 (dk_at dksX6_loosensOnce_0 1 rfl rfl)
theorem dX6_loosensOnce_4 : decode cX6_loosensOnce 4 = .ok (.iconst 1, 1) := dk_4 (dk_at dksX6_loosensOnce_0 4 rfl rfl)
theorem dX6_loosensOnce_5 : decode cX6_loosensOnce 5 = .ok (.iaload, 1) := dk_46 (dk_at dksX6_loosensOnce_0 5 rfl rfl)
theorem dX6_loosensOnce_6 : decode cX6_loosensOnce 6 = .ok (.istore_n 1, 1) := dk_60 (dk_at dksX6_loosensOnce_0 6 rfl rfl)
theorem dX6_loosensOnce_7 : decode cX6_loosensOnce 7 = .ok (.aload_n 0, 1) := dk_42 (dk_at dksX6_loosensOnce_0 7 rfl rfl)
theorem dX6_loosensOnce_8 : decode cX6_loosensOnce 8 = .ok (.getfield 35, 3) := dk_180 0 35 (dk_at dksX6_loosensOnce_0 8 rfl rfl)
theorem dX6_loosensOnce_11 : decode cX6_loosensOnce 11 = .ok (.iconst 5, 1) := dk_8 (dk_at dksX6_loosensOnce_0 11 rfl rfl)
theorem dX6_loosensOnce_12 : decode cX6_loosensOnce 12 = .ok (.dup2, 1) := dk_92 (dk_at dksX6_loosensOnce_0 12 rfl rfl)
theorem dX6_loosensOnce_13 : decode cX6_loosensOnce 13 = .ok (.iaload, 1) := dk_46 (dk_at dksX6_loosensOnce_0 13 rfl rfl)
theorem dX6_loosensOnce_14 : decode cX6_loosensOnce 14 = .ok (.iload_n 1, 1) := dk_27 (dk_at dksX6_loosensOnce_0 14 rfl rfl)
theorem dX6_loosensOnce_15 : decode cX6_loosensOnce 15 = .ok (.iadd, 1) := dk_96 (dk_at dksX6_loosensOnce_0 15 rfl rfl)
theorem dX6_loosensOnce_16 : decode cX6_loosensOnce 16 = .ok (.iastore, 1) := dk_79 (dk_at dksX6_loosensOnce_0 16 rfl rfl)
theorem dX6_loosensOnce_17 : decode cX6_loosensOnce 17 = .ok (.iload_n 1, 1) := dk_27 (dk_at dksX6_loosensOnce_0 17 rfl rfl)
theorem dX6_loosensOnce_18 : decode cX6_loosensOnce 18 = .ok (.iconst 1, 1) := dk_4 (dk_at dksX6_loosensOnce_0 18 rfl rfl)
theorem dX6_loosensOnce_19 : decode cX6_loosensOnce 19 = .ok (.isub, 1) := dk_100 (dk_at dksX6_loosensOnce_0 19 rfl rfl)
theorem dX6_loosensOnce_20 : decode cX6_loosensOnce 20 = .ok (.istore_n 2, 1) := dk_61 (dk_at dksX6_loosensOnce_0 20 rfl rfl)
theorem dX6_loosensOnce_21 : decode cX6_loosensOnce 21 = .ok (.iload_n 2, 1) := dk_28 (dk_at dksX6_loosensOnce_0 21 rfl rfl)
theorem dX6_loosensOnce_22 : decode cX6_loosensOnce 22 = .ok (.ifCond .lt 55, 3) := dk_155 0 55 (dk_at dksX6_loosensOnce_1 0 rfl rfl)
theorem dX6_loosensOnce_25 : decode cX6_loosensOnce 25 = .ok (.aload_n 0, 1) := dk_42 (dk_at dksX6_loosensOnce_1 3 rfl rfl)
theorem dX6_loosensOnce_26 : decode cX6_loosensOnce 26 = .ok (.getfield 35, 3) := dk_180 0 35 (dk_at dksX6_loosensOnce_1 4 rfl rfl)
theorem dX6_loosensOnce_29 : decode cX6_loosensOnce 29 = .ok (.bipush 108, 2) := dk_16 108 (dk_at dksX6_loosensOnce_1 7 rfl rfl)
theorem dX6_loosensOnce_31 : decode cX6_loosensOnce 31 = .ok (.iload_n 2, 1) := dk_28 (dk_at dksX6_loosensOnce_1 9 rfl rfl)
theorem dX6_loosensOnce_32 : decode cX6_loosensOnce 32 = .ok (.iadd, 1) := dk_96 (dk_at dksX6_loosensOnce_1 10 rfl rfl)
theorem dX6_loosensOnce_33 : decode cX6_loosensOnce 33 = .ok (.iaload, 1) := dk_46 (dk_at dksX6_loosensOnce_1 11 rfl rfl)
theorem dX6_loosensOnce_34 : decode cX6_loosensOnce 34 = .ok (.ifCond .ne 11, 3) := dk_154 0 11 (dk_at dksX6_loosensOnce_1 12 rfl rfl)
theorem dX6_loosensOnce_37 : decode cX6_loosensOnce 37 = .ok (.aload_n 0, 1) := dk_42 (dk_at dksX6_loosensOnce_1 15 rfl rfl)
theorem dX6_loosensOnce_38 : decode cX6_loosensOnce 38 = .ok (.iload_n 2, 1) := dk_28 (dk_at dksX6_loosensOnce_1 16 rfl rfl)
theorem dX6_loosensOnce_39 : decode cX6_loosensOnce 39 = .ok (.invokevirtual 325, 3) := dk_182 1 69 (dk_at dksX6_loosensOnce_1 17 rfl rfl)
theorem dX6_loosensOnce_42 : decode cX6_loosensOnce 42 = .ok (.goto 29, 3) := dk_167 0 29 (dk_at dksX6_loosensOnce_1 20 rfl rfl)
theorem dX6_loosensOnce_45 : decode cX6_loosensOnce 45 = .ok (.aload_n 0, 1) := dk_42 (dk_at dksX6_loosensOnce_1 23 rfl rfl)
theorem dX6_loosensOnce_46 : decode cX6_loosensOnce 46 = .ok (.getfield 35, 3) := dk_180 0 35 (dk_at dksX6_loosensOnce_2 0 rfl rfl)
theorem dX6_loosensOnce_49 : decode cX6_loosensOnce 49 = .ok (.bipush 108, 2) := dk_16 108 (dk_at dksX6_loosensOnce_2 3 rfl rfl)
theorem dX6_loosensOnce_51 : decode cX6_loosensOnce 51 = .ok (.iload_n 2, 1) := dk_28 (dk_at dksX6_loosensOnce_2 5 rfl rfl)
theorem dX6_loosensOnce_52 : decode cX6_loosensOnce 52 = .ok (.iadd, 1) := dk_96 (dk_at dksX6_loosensOnce_2 6 rfl rfl)
theorem dX6_loosensOnce_53 : decode cX6_loosensOnce 53 = .ok (.iaload, 1) := dk_46 (dk_at dksX6_loosensOnce_2 7 rfl rfl)
theorem dX6_loosensOnce_54 : decode cX6_loosensOnce 54 = .ok (.iconst 3, 1) := dk_6 (dk_at dksX6_loosensOnce_2 8 rfl rfl)
theorem dX6_loosensOnce_55 : decode cX6_loosensOnce 55 = .ok (.if_icmp .ge 16, 3) := dk_162 0 16 (dk_at dksX6_loosensOnce_2 9 rfl rfl)
theorem dX6_loosensOnce_58 : decode cX6_loosensOnce 58 = .ok (.aload_n 0, 1) := dk_42 (dk_at dksX6_loosensOnce_2 12 rfl rfl)
theorem dX6_loosensOnce_59 : decode cX6_loosensOnce 59 = .ok (.getfield 35, 3) := dk_180 0 35 (dk_at dksX6_loosensOnce_2 13 rfl rfl)
theorem dX6_loosensOnce_62 : decode cX6_loosensOnce 62 = .ok (.bipush 108, 2) := dk_16 108 (dk_at dksX6_loosensOnce_2 16 rfl rfl)
theorem dX6_loosensOnce_64 : decode cX6_loosensOnce 64 = .ok (.iload_n 2, 1) := dk_28 (dk_at dksX6_loosensOnce_2 18 rfl rfl)
theorem dX6_loosensOnce_65 : decode cX6_loosensOnce 65 = .ok (.iadd, 1) := dk_96 (dk_at dksX6_loosensOnce_2 19 rfl rfl)
theorem dX6_loosensOnce_66 : decode cX6_loosensOnce 66 = .ok (.dup2, 1) := dk_92 (dk_at dksX6_loosensOnce_2 20 rfl rfl)
theorem dX6_loosensOnce_67 : decode cX6_loosensOnce 67 = .ok (.iaload, 1) := dk_46 (dk_at dksX6_loosensOnce_2 21 rfl rfl)
theorem dX6_loosensOnce_68 : decode cX6_loosensOnce 68 = .ok (.iconst 1, 1) := dk_4 (dk_at dksX6_loosensOnce_2 22 rfl rfl)
theorem dX6_loosensOnce_69 : decode cX6_loosensOnce 69 = .ok (.isub, 1) := dk_100 (dk_at dksX6_loosensOnce_2 23 rfl rfl)
theorem dX6_loosensOnce_70 : decode cX6_loosensOnce 70 = .ok (.iastore, 1) := dk_79 (dk_at dksX6_loosensOnce_3 0 rfl rfl)
theorem dX6_loosensOnce_71 : decode cX6_loosensOnce 71 = .ok (.iinc 2 (-1), 3) := dk_132 2 255 (dk_at dksX6_loosensOnce_3 1 rfl rfl)
theorem dX6_loosensOnce_74 : decode cX6_loosensOnce 74 = .ok (.goto (-53), 3) := dk_167 255 203 (dk_at dksX6_loosensOnce_3 4 rfl rfl)
theorem dX6_loosensOnce_77 : decode cX6_loosensOnce 77 = .ok (.iload_n 1, 1) := dk_27 (dk_at dksX6_loosensOnce_3 7 rfl rfl)
theorem dX6_loosensOnce_78 : decode cX6_loosensOnce 78 = .ok (.ireturn, 1) := dk_172 (dk_at dksX6_loosensOnce_3 8 rfl rfl)
abbrev cX6_pull : ByteArray := prog_16_method_89_code
def yX6_pull : MethodName := ⟨RX6, "pull", "(I)I"⟩
def dkwX6_pull_2 : List UInt8 := [42, 27, 182, 1, 99, 28, 172]
abbrev dktX6_pull_2 : List UInt8 := dkwX6_pull_2 ++ []
def dkwX6_pull_1 : List UInt8 := [42, 27, 182, 1, 81, 154, 0, 10, 42, 16, 9, 182, 1, 52, 172, 42, 27, 182, 1, 90, 184, 1, 93, 61]
abbrev dktX6_pull_1 : List UInt8 := dkwX6_pull_1 ++ dktX6_pull_2
def dkwX6_pull_0 : List UInt8 := [42, 3, 181, 0, 77, 42, 3, 181, 0, 80, 42, 27, 182, 1, 55, 154, 0, 9, 42, 5, 182, 1, 52, 172]
abbrev dktX6_pull_0 : List UInt8 := dkwX6_pull_0 ++ dktX6_pull_1
theorem dksX6_pull_0 : cX6_pull.data.toList.drop 0 = dktX6_pull_0 := by decide +kernel
theorem dksX6_pull_1 : cX6_pull.data.toList.drop 24 = dktX6_pull_1 := dk_seg dksX6_pull_0 24 rfl rfl
theorem dksX6_pull_2 : cX6_pull.data.toList.drop 48 = dktX6_pull_2 := dk_seg dksX6_pull_1 24 rfl rfl
theorem dX6_pull_0 : decode cX6_pull 0 = .ok (.aload_n 0, 1) := dk_42 (dk_at dksX6_pull_0 0 rfl rfl)
theorem dX6_pull_1 : decode cX6_pull 1 = .ok (.iconst 0, 1) := dk_3 (dk_at dksX6_pull_0 1 rfl rfl)
theorem dX6_pull_2 : decode cX6_pull 2 = .ok (.putfield 77, 3) := dk_181 0 77 (dk_at dksX6_pull_0 2 rfl rfl)
theorem dX6_pull_5 : decode cX6_pull 5 = .ok (.aload_n 0, 1) := dk_42 (dk_at dksX6_pull_0 5 rfl rfl)
theorem dX6_pull_6 : decode cX6_pull 6 = .ok (.iconst 0, 1) := dk_3 (dk_at dksX6_pull_0 6 rfl rfl)
theorem dX6_pull_7 : decode cX6_pull 7 = .ok (.putfield 80, 3) := dk_181 0 80 (dk_at dksX6_pull_0 7 rfl rfl)
theorem dX6_pull_10 : decode cX6_pull 10 = .ok (.aload_n 0, 1) := dk_42 (dk_at dksX6_pull_0 10 rfl rfl)
theorem dX6_pull_11 : decode cX6_pull 11 = .ok (.iload_n 1, 1) := dk_27 (dk_at dksX6_pull_0 11 rfl rfl)
theorem dX6_pull_12 : decode cX6_pull 12 = .ok (.invokevirtual 311, 3) := dk_182 1 55 (dk_at dksX6_pull_0 12 rfl rfl)
theorem dX6_pull_15 : decode cX6_pull 15 = .ok (.ifCond .ne 9, 3) := dk_154 0 9 (dk_at dksX6_pull_0 15 rfl rfl)
theorem dX6_pull_18 : decode cX6_pull 18 = .ok (.aload_n 0, 1) := dk_42 (dk_at dksX6_pull_0 18 rfl rfl)
theorem dX6_pull_19 : decode cX6_pull 19 = .ok (.iconst 2, 1) := dk_5 (dk_at dksX6_pull_0 19 rfl rfl)
theorem dX6_pull_20 : decode cX6_pull 20 = .ok (.invokevirtual 308, 3) := dk_182 1 52 (dk_at dksX6_pull_0 20 rfl rfl)
theorem dX6_pull_23 : decode cX6_pull 23 = .ok (.ireturn, 1) := dk_172 (dk_at dksX6_pull_0 23 rfl rfl)
theorem dX6_pull_24 : decode cX6_pull 24 = .ok (.aload_n 0, 1) := dk_42 (dk_at dksX6_pull_1 0 rfl rfl)
theorem dX6_pull_25 : decode cX6_pull 25 = .ok (.iload_n 1, 1) := dk_27 (dk_at dksX6_pull_1 1 rfl rfl)
theorem dX6_pull_26 : decode cX6_pull 26 = .ok (.invokevirtual 337, 3) := dk_182 1 81 (dk_at dksX6_pull_1 2 rfl rfl)
theorem dX6_pull_29 : decode cX6_pull 29 = .ok (.ifCond .ne 10, 3) := dk_154 0 10 (dk_at dksX6_pull_1 5 rfl rfl)
theorem dX6_pull_32 : decode cX6_pull 32 = .ok (.aload_n 0, 1) := dk_42 (dk_at dksX6_pull_1 8 rfl rfl)
theorem dX6_pull_33 : decode cX6_pull 33 = .ok (.bipush 9, 2) := dk_16 9 (dk_at dksX6_pull_1 9 rfl rfl)
theorem dX6_pull_35 : decode cX6_pull 35 = .ok (.invokevirtual 308, 3) := dk_182 1 52 (dk_at dksX6_pull_1 11 rfl rfl)
theorem dX6_pull_38 : decode cX6_pull 38 = .ok (.ireturn, 1) := dk_172 (dk_at dksX6_pull_1 14 rfl rfl)
theorem dX6_pull_39 : decode cX6_pull 39 = .ok (.aload_n 0, 1) := dk_42 (dk_at dksX6_pull_1 15 rfl rfl)
theorem dX6_pull_40 : decode cX6_pull 40 = .ok (.iload_n 1, 1) := dk_27 (dk_at dksX6_pull_1 16 rfl rfl)
theorem dX6_pull_41 : decode cX6_pull 41 = .ok (.invokevirtual 346, 3) := dk_182 1 90 (dk_at dksX6_pull_1 17 rfl rfl)
theorem dX6_pull_44 : decode cX6_pull 44 = .ok (.invokestatic 349, 3) := dk_184 1 93 (dk_at dksX6_pull_1 20 rfl rfl)
theorem dX6_pull_47 : decode cX6_pull 47 = .ok (.istore_n 2, 1) := dk_61 (dk_at dksX6_pull_1 23 rfl rfl)
theorem dX6_pull_48 : decode cX6_pull 48 = .ok (.aload_n 0, 1) := dk_42 (dk_at dksX6_pull_2 0 rfl rfl)
theorem dX6_pull_49 : decode cX6_pull 49 = .ok (.iload_n 1, 1) := dk_27 (dk_at dksX6_pull_2 1 rfl rfl)
theorem dX6_pull_50 : decode cX6_pull 50 = .ok (.invokevirtual 355, 3) := dk_182 1 99 (dk_at dksX6_pull_2 2 rfl rfl)
theorem dX6_pull_53 : decode cX6_pull 53 = .ok (.iload_n 2, 1) := dk_28 (dk_at dksX6_pull_2 5 rfl rfl)
theorem dX6_pull_54 : decode cX6_pull 54 = .ok (.ireturn, 1) := dk_172 (dk_at dksX6_pull_2 6 rfl rfl)
abbrev cX6_lumpOf : ByteArray := prog_16_method_87_code
def yX6_lumpOf : MethodName := ⟨RX6, "lumpOf", "(I)I"⟩
def dkwX6_lumpOf_4 : List UInt8 := [21, 4, 96, 46, 120, 128, 128, 62, 132, 4, 1, 167, 255, 167, 167, 255, 154, 28, 172]
abbrev dktX6_lumpOf_4 : List UInt8 := dkwX6_lumpOf_4 ++ []
def dkwX6_lumpOf_3 : List UInt8 := [153, 0, 31, 29, 4, 42, 180, 0, 35, 16, 60, 21, 4, 96, 46, 120, 4, 42, 180, 0, 35, 16, 84]
abbrev dktX6_lumpOf_3 : List UInt8 := dkwX6_lumpOf_3 ++ dktX6_lumpOf_4
def dkwX6_lumpOf_2 : List UInt8 := [21, 4, 96, 46, 184, 0, 116, 154, 0, 20, 28, 42, 180, 0, 35, 16, 84, 21, 4, 96, 46, 184, 0, 116]
abbrev dktX6_lumpOf_2 : List UInt8 := dkwX6_lumpOf_2 ++ dktX6_lumpOf_3
def dkwX6_lumpOf_1 : List UInt8 := [162, 0, 84, 42, 180, 0, 35, 16, 108, 21, 4, 96, 46, 153, 0, 65, 28, 42, 180, 0, 35, 16, 60]
abbrev dktX6_lumpOf_1 : List UInt8 := dkwX6_lumpOf_1 ++ dktX6_lumpOf_2
def dkwX6_lumpOf_0 : List UInt8 := [3, 61, 4, 27, 120, 62, 28, 29, 159, 0, 103, 29, 61, 3, 54, 4, 21, 4, 42, 180, 0, 35, 4, 46]
abbrev dktX6_lumpOf_0 : List UInt8 := dkwX6_lumpOf_0 ++ dktX6_lumpOf_1
theorem dksX6_lumpOf_0 : cX6_lumpOf.data.toList.drop 0 = dktX6_lumpOf_0 := by decide +kernel
theorem dksX6_lumpOf_1 : cX6_lumpOf.data.toList.drop 24 = dktX6_lumpOf_1 := dk_seg dksX6_lumpOf_0 24 rfl rfl
theorem dksX6_lumpOf_2 : cX6_lumpOf.data.toList.drop 47 = dktX6_lumpOf_2 := dk_seg dksX6_lumpOf_1 23 rfl rfl
theorem dksX6_lumpOf_3 : cX6_lumpOf.data.toList.drop 71 = dktX6_lumpOf_3 := dk_seg dksX6_lumpOf_2 24 rfl rfl
theorem dksX6_lumpOf_4 : cX6_lumpOf.data.toList.drop 94 = dktX6_lumpOf_4 := dk_seg dksX6_lumpOf_3 23 rfl rfl
theorem dX6_lumpOf_0 : decode cX6_lumpOf 0 = .ok (.iconst 0, 1) := dk_3 (dk_at dksX6_lumpOf_0 0 rfl rfl)
theorem dX6_lumpOf_1 : decode cX6_lumpOf 1 = .ok (.istore_n 2, 1) := dk_61 (dk_at dksX6_lumpOf_0 1 rfl rfl)
theorem dX6_lumpOf_2 : decode cX6_lumpOf 2 = .ok (.iconst 1, 1) := dk_4 (dk_at dksX6_lumpOf_0 2 rfl rfl)
theorem dX6_lumpOf_3 : decode cX6_lumpOf 3 = .ok (.iload_n 1, 1) := dk_27 (dk_at dksX6_lumpOf_0 3 rfl rfl)
theorem dX6_lumpOf_4 : decode cX6_lumpOf 4 = .ok (.ishl, 1) := dk_120 (dk_at dksX6_lumpOf_0 4 rfl rfl)
theorem dX6_lumpOf_5 : decode cX6_lumpOf 5 = .ok (.istore_n 3, 1) := dk_62 (dk_at dksX6_lumpOf_0 5 rfl rfl)
theorem dX6_lumpOf_6 : decode cX6_lumpOf 6 = .ok (.iload_n 2, 1) := dk_28 (dk_at dksX6_lumpOf_0 6 rfl rfl)
theorem dX6_lumpOf_7 : decode cX6_lumpOf 7 = .ok (.iload_n 3, 1) := dk_29 (dk_at dksX6_lumpOf_0 7 rfl rfl)
theorem dX6_lumpOf_8 : decode cX6_lumpOf 8 = .ok (.if_icmp .eq 103, 3) := dk_159 0 103 (dk_at dksX6_lumpOf_0 8 rfl rfl)
theorem dX6_lumpOf_11 : decode cX6_lumpOf 11 = .ok (.iload_n 3, 1) := dk_29 (dk_at dksX6_lumpOf_0 11 rfl rfl)
theorem dX6_lumpOf_12 : decode cX6_lumpOf 12 = .ok (.istore_n 2, 1) := dk_61 (dk_at dksX6_lumpOf_0 12 rfl rfl)
theorem dX6_lumpOf_13 : decode cX6_lumpOf 13 = .ok (.iconst 0, 1) := dk_3 (dk_at dksX6_lumpOf_0 13 rfl rfl)
theorem dX6_lumpOf_14 : decode cX6_lumpOf 14 = .ok (.istore 4, 2) := dk_54 4 (dk_at dksX6_lumpOf_0 14 rfl rfl)
theorem dX6_lumpOf_16 : decode cX6_lumpOf 16 = .ok (.iload 4, 2) := dk_21 4 (dk_at dksX6_lumpOf_0 16 rfl rfl)
theorem dX6_lumpOf_18 : decode cX6_lumpOf 18 = .ok (.aload_n 0, 1) := dk_42 (dk_at dksX6_lumpOf_0 18 rfl rfl)
theorem dX6_lumpOf_19 : decode cX6_lumpOf 19 = .ok (.getfield 35, 3) := dk_180 0 35 (dk_at dksX6_lumpOf_0 19 rfl rfl)
theorem dX6_lumpOf_22 : decode cX6_lumpOf 22 = .ok (.iconst 1, 1) := dk_4 (dk_at dksX6_lumpOf_0 22 rfl rfl)
theorem dX6_lumpOf_23 : decode cX6_lumpOf 23 = .ok (.iaload, 1) := dk_46 (dk_at dksX6_lumpOf_0 23 rfl rfl)
theorem dX6_lumpOf_24 : decode cX6_lumpOf 24 = .ok (.if_icmp .ge 84, 3) := dk_162 0 84 (dk_at dksX6_lumpOf_1 0 rfl rfl)
theorem dX6_lumpOf_27 : decode cX6_lumpOf 27 = .ok (.aload_n 0, 1) := dk_42 (dk_at dksX6_lumpOf_1 3 rfl rfl)
theorem dX6_lumpOf_28 : decode cX6_lumpOf 28 = .ok (.getfield 35, 3) := dk_180 0 35 (dk_at dksX6_lumpOf_1 4 rfl rfl)
theorem dX6_lumpOf_31 : decode cX6_lumpOf 31 = .ok (.bipush 108, 2) := dk_16 108 (dk_at dksX6_lumpOf_1 7 rfl rfl)
theorem dX6_lumpOf_33 : decode cX6_lumpOf 33 = .ok (.iload 4, 2) := dk_21 4 (dk_at dksX6_lumpOf_1 9 rfl rfl)
theorem dX6_lumpOf_35 : decode cX6_lumpOf 35 = .ok (.iadd, 1) := dk_96 (dk_at dksX6_lumpOf_1 11 rfl rfl)
theorem dX6_lumpOf_36 : decode cX6_lumpOf 36 = .ok (.iaload, 1) := dk_46 (dk_at dksX6_lumpOf_1 12 rfl rfl)
theorem dX6_lumpOf_37 : decode cX6_lumpOf 37 = .ok (.ifCond .eq 65, 3) := dk_153 0 65 (dk_at dksX6_lumpOf_1 13 rfl rfl)
theorem dX6_lumpOf_40 : decode cX6_lumpOf 40 = .ok (.iload_n 2, 1) := dk_28 (dk_at dksX6_lumpOf_1 16 rfl rfl)
theorem dX6_lumpOf_41 : decode cX6_lumpOf 41 = .ok (.aload_n 0, 1) := dk_42 (dk_at dksX6_lumpOf_1 17 rfl rfl)
theorem dX6_lumpOf_42 : decode cX6_lumpOf 42 = .ok (.getfield 35, 3) := dk_180 0 35 (dk_at dksX6_lumpOf_1 18 rfl rfl)
theorem dX6_lumpOf_45 : decode cX6_lumpOf 45 = .ok (.bipush 60, 2) := dk_16 60 (dk_at dksX6_lumpOf_1 21 rfl rfl)
theorem dX6_lumpOf_47 : decode cX6_lumpOf 47 = .ok (.iload 4, 2) := dk_21 4 (dk_at dksX6_lumpOf_2 0 rfl rfl)
theorem dX6_lumpOf_49 : decode cX6_lumpOf 49 = .ok (.iadd, 1) := dk_96 (dk_at dksX6_lumpOf_2 2 rfl rfl)
theorem dX6_lumpOf_50 : decode cX6_lumpOf 50 = .ok (.iaload, 1) := dk_46 (dk_at dksX6_lumpOf_2 3 rfl rfl)
theorem dX6_lumpOf_51 : decode cX6_lumpOf 51 = .ok (.invokestatic 116, 3) := dk_184 0 116 (dk_at dksX6_lumpOf_2 4 rfl rfl)
theorem dX6_lumpOf_54 : decode cX6_lumpOf 54 = .ok (.ifCond .ne 20, 3) := dk_154 0 20 (dk_at dksX6_lumpOf_2 7 rfl rfl)
theorem dX6_lumpOf_57 : decode cX6_lumpOf 57 = .ok (.iload_n 2, 1) := dk_28 (dk_at dksX6_lumpOf_2 10 rfl rfl)
theorem dX6_lumpOf_58 : decode cX6_lumpOf 58 = .ok (.aload_n 0, 1) := dk_42 (dk_at dksX6_lumpOf_2 11 rfl rfl)
theorem dX6_lumpOf_59 : decode cX6_lumpOf 59 = .ok (.getfield 35, 3) := dk_180 0 35 (dk_at dksX6_lumpOf_2 12 rfl rfl)
theorem dX6_lumpOf_62 : decode cX6_lumpOf 62 = .ok (.bipush 84, 2) := dk_16 84 (dk_at dksX6_lumpOf_2 15 rfl rfl)
theorem dX6_lumpOf_64 : decode cX6_lumpOf 64 = .ok (.iload 4, 2) := dk_21 4 (dk_at dksX6_lumpOf_2 17 rfl rfl)
theorem dX6_lumpOf_66 : decode cX6_lumpOf 66 = .ok (.iadd, 1) := dk_96 (dk_at dksX6_lumpOf_2 19 rfl rfl)
theorem dX6_lumpOf_67 : decode cX6_lumpOf 67 = .ok (.iaload, 1) := dk_46 (dk_at dksX6_lumpOf_2 20 rfl rfl)
theorem dX6_lumpOf_68 : decode cX6_lumpOf 68 = .ok (.invokestatic 116, 3) := dk_184 0 116 (dk_at dksX6_lumpOf_2 21 rfl rfl)
theorem dX6_lumpOf_71 : decode cX6_lumpOf 71 = .ok (.ifCond .eq 31, 3) := dk_153 0 31 (dk_at dksX6_lumpOf_3 0 rfl rfl)
theorem dX6_lumpOf_74 : decode cX6_lumpOf 74 = .ok (.iload_n 3, 1) := dk_29 (dk_at dksX6_lumpOf_3 3 rfl rfl)
theorem dX6_lumpOf_75 : decode cX6_lumpOf 75 = .ok (.iconst 1, 1) := dk_4 (dk_at dksX6_lumpOf_3 4 rfl rfl)
theorem dX6_lumpOf_76 : decode cX6_lumpOf 76 = .ok (.aload_n 0, 1) := dk_42 (dk_at dksX6_lumpOf_3 5 rfl rfl)
theorem dX6_lumpOf_77 : decode cX6_lumpOf 77 = .ok (.getfield 35, 3) := dk_180 0 35 (dk_at dksX6_lumpOf_3 6 rfl rfl)
theorem dX6_lumpOf_80 : decode cX6_lumpOf 80 = .ok (.bipush 60, 2) := dk_16 60 (dk_at dksX6_lumpOf_3 9 rfl rfl)
theorem dX6_lumpOf_82 : decode cX6_lumpOf 82 = .ok (.iload 4, 2) := dk_21 4 (dk_at dksX6_lumpOf_3 11 rfl rfl)
theorem dX6_lumpOf_84 : decode cX6_lumpOf 84 = .ok (.iadd, 1) := dk_96 (dk_at dksX6_lumpOf_3 13 rfl rfl)
theorem dX6_lumpOf_85 : decode cX6_lumpOf 85 = .ok (.iaload, 1) := dk_46 (dk_at dksX6_lumpOf_3 14 rfl rfl)
theorem dX6_lumpOf_86 : decode cX6_lumpOf 86 = .ok (.ishl, 1) := dk_120 (dk_at dksX6_lumpOf_3 15 rfl rfl)
theorem dX6_lumpOf_87 : decode cX6_lumpOf 87 = .ok (.iconst 1, 1) := dk_4 (dk_at dksX6_lumpOf_3 16 rfl rfl)
theorem dX6_lumpOf_88 : decode cX6_lumpOf 88 = .ok (.aload_n 0, 1) := dk_42 (dk_at dksX6_lumpOf_3 17 rfl rfl)
theorem dX6_lumpOf_89 : decode cX6_lumpOf 89 = .ok (.getfield 35, 3) := dk_180 0 35 (dk_at dksX6_lumpOf_3 18 rfl rfl)
theorem dX6_lumpOf_92 : decode cX6_lumpOf 92 = .ok (.bipush 84, 2) := dk_16 84 (dk_at dksX6_lumpOf_3 21 rfl rfl)
theorem dX6_lumpOf_94 : decode cX6_lumpOf 94 = .ok (.iload 4, 2) := dk_21 4 (dk_at dksX6_lumpOf_4 0 rfl rfl)
theorem dX6_lumpOf_96 : decode cX6_lumpOf 96 = .ok (.iadd, 1) := dk_96 (dk_at dksX6_lumpOf_4 2 rfl rfl)
theorem dX6_lumpOf_97 : decode cX6_lumpOf 97 = .ok (.iaload, 1) := dk_46 (dk_at dksX6_lumpOf_4 3 rfl rfl)
theorem dX6_lumpOf_98 : decode cX6_lumpOf 98 = .ok (.ishl, 1) := dk_120 (dk_at dksX6_lumpOf_4 4 rfl rfl)
theorem dX6_lumpOf_99 : decode cX6_lumpOf 99 = .ok (.ior, 1) := dk_128 (dk_at dksX6_lumpOf_4 5 rfl rfl)
theorem dX6_lumpOf_100 : decode cX6_lumpOf 100 = .ok (.ior, 1) := dk_128 (dk_at dksX6_lumpOf_4 6 rfl rfl)
theorem dX6_lumpOf_101 : decode cX6_lumpOf 101 = .ok (.istore_n 3, 1) := dk_62 (dk_at dksX6_lumpOf_4 7 rfl rfl)
theorem dX6_lumpOf_102 : decode cX6_lumpOf 102 = .ok (.iinc 4 1, 3) := dk_132 4 1 (dk_at dksX6_lumpOf_4 8 rfl rfl)
theorem dX6_lumpOf_105 : decode cX6_lumpOf 105 = .ok (.goto (-89), 3) := dk_167 255 167 (dk_at dksX6_lumpOf_4 11 rfl rfl)
theorem dX6_lumpOf_108 : decode cX6_lumpOf 108 = .ok (.goto (-102), 3) := dk_167 255 154 (dk_at dksX6_lumpOf_4 14 rfl rfl)
theorem dX6_lumpOf_111 : decode cX6_lumpOf 111 = .ok (.iload_n 2, 1) := dk_28 (dk_at dksX6_lumpOf_4 17 rfl rfl)
theorem dX6_lumpOf_112 : decode cX6_lumpOf 112 = .ok (.ireturn, 1) := dk_172 (dk_at dksX6_lumpOf_4 18 rfl rfl)
abbrev cX6_sizeOf : ByteArray := prog_16_method_19_code
def yX6_sizeOf : MethodName := ⟨RX6, "sizeOf", "(I)I"⟩
def dkwX6_sizeOf_1 : List UInt8 := [96, 60, 132, 2, 1, 167, 255, 231, 27, 172]
abbrev dktX6_sizeOf_1 : List UInt8 := dkwX6_sizeOf_1 ++ []
def dkwX6_sizeOf_0 : List UInt8 := [3, 60, 3, 61, 28, 16, 8, 162, 0, 25, 27, 26, 28, 184, 0, 116, 153, 0, 7, 4, 167, 0, 4, 3]
abbrev dktX6_sizeOf_0 : List UInt8 := dkwX6_sizeOf_0 ++ dktX6_sizeOf_1
theorem dksX6_sizeOf_0 : cX6_sizeOf.data.toList.drop 0 = dktX6_sizeOf_0 := by decide +kernel
theorem dksX6_sizeOf_1 : cX6_sizeOf.data.toList.drop 24 = dktX6_sizeOf_1 := dk_seg dksX6_sizeOf_0 24 rfl rfl
theorem dX6_sizeOf_0 : decode cX6_sizeOf 0 = .ok (.iconst 0, 1) := dk_3 (dk_at dksX6_sizeOf_0 0 rfl rfl)
theorem dX6_sizeOf_1 : decode cX6_sizeOf 1 = .ok (.istore_n 1, 1) := dk_60 (dk_at dksX6_sizeOf_0 1 rfl rfl)
theorem dX6_sizeOf_2 : decode cX6_sizeOf 2 = .ok (.iconst 0, 1) := dk_3 (dk_at dksX6_sizeOf_0 2 rfl rfl)
theorem dX6_sizeOf_3 : decode cX6_sizeOf 3 = .ok (.istore_n 2, 1) := dk_61 (dk_at dksX6_sizeOf_0 3 rfl rfl)
theorem dX6_sizeOf_4 : decode cX6_sizeOf 4 = .ok (.iload_n 2, 1) := dk_28 (dk_at dksX6_sizeOf_0 4 rfl rfl)
theorem dX6_sizeOf_5 : decode cX6_sizeOf 5 = .ok (.bipush 8, 2) := dk_16 8 (dk_at dksX6_sizeOf_0 5 rfl rfl)
theorem dX6_sizeOf_7 : decode cX6_sizeOf 7 = .ok (.if_icmp .ge 25, 3) := dk_162 0 25 (dk_at dksX6_sizeOf_0 7 rfl rfl)
theorem dX6_sizeOf_10 : decode cX6_sizeOf 10 = .ok (.iload_n 1, 1) := dk_27 (dk_at dksX6_sizeOf_0 10 rfl rfl)
theorem dX6_sizeOf_11 : decode cX6_sizeOf 11 = .ok (.iload_n 0, 1) := dk_26 (dk_at dksX6_sizeOf_0 11 rfl rfl)
theorem dX6_sizeOf_12 : decode cX6_sizeOf 12 = .ok (.iload_n 2, 1) := dk_28 (dk_at dksX6_sizeOf_0 12 rfl rfl)
theorem dX6_sizeOf_13 : decode cX6_sizeOf 13 = .ok (.invokestatic 116, 3) := dk_184 0 116 (dk_at dksX6_sizeOf_0 13 rfl rfl)
theorem dX6_sizeOf_16 : decode cX6_sizeOf 16 = .ok (.ifCond .eq 7, 3) := dk_153 0 7 (dk_at dksX6_sizeOf_0 16 rfl rfl)
theorem dX6_sizeOf_19 : decode cX6_sizeOf 19 = .ok (.iconst 1, 1) := dk_4 (dk_at dksX6_sizeOf_0 19 rfl rfl)
theorem dX6_sizeOf_20 : decode cX6_sizeOf 20 = .ok (.goto 4, 3) := dk_167 0 4 (dk_at dksX6_sizeOf_0 20 rfl rfl)
theorem dX6_sizeOf_23 : decode cX6_sizeOf 23 = .ok (.iconst 0, 1) := dk_3 (dk_at dksX6_sizeOf_0 23 rfl rfl)
theorem dX6_sizeOf_24 : decode cX6_sizeOf 24 = .ok (.iadd, 1) := dk_96 (dk_at dksX6_sizeOf_1 0 rfl rfl)
theorem dX6_sizeOf_25 : decode cX6_sizeOf 25 = .ok (.istore_n 1, 1) := dk_60 (dk_at dksX6_sizeOf_1 1 rfl rfl)
theorem dX6_sizeOf_26 : decode cX6_sizeOf 26 = .ok (.iinc 2 1, 3) := dk_132 2 1 (dk_at dksX6_sizeOf_1 2 rfl rfl)
theorem dX6_sizeOf_29 : decode cX6_sizeOf 29 = .ok (.goto (-25), 3) := dk_167 255 231 (dk_at dksX6_sizeOf_1 5 rfl rfl)
theorem dX6_sizeOf_32 : decode cX6_sizeOf 32 = .ok (.iload_n 1, 1) := dk_27 (dk_at dksX6_sizeOf_1 8 rfl rfl)
theorem dX6_sizeOf_33 : decode cX6_sizeOf 33 = .ok (.ireturn, 1) := dk_172 (dk_at dksX6_sizeOf_1 9 rfl rfl)
abbrev cX6_pulls : ByteArray := prog_16_method_88_code
def yX6_pulls : MethodName := ⟨RX6, "pulls", "(I)V"⟩
def dkwX6_pulls_4 : List UInt8 := [184, 1, 47, 79, 132, 2, 255, 167, 255, 193, 177]
abbrev dktX6_pulls_4 : List UInt8 := dkwX6_pulls_4 ++ []
def dkwX6_pulls_3 : List UInt8 := [167, 0, 27, 42, 180, 0, 35, 16, 108, 28, 96, 6, 42, 180, 0, 35, 16, 108, 28, 96, 46, 4, 96]
abbrev dktX6_pulls_3 : List UInt8 := dkwX6_pulls_3 ++ dktX6_pulls_4
def dkwX6_pulls_2 : List UInt8 := [154, 0, 6, 167, 0, 47, 42, 180, 0, 35, 16, 108, 28, 96, 46, 154, 0, 11, 42, 28, 182, 1, 69]
abbrev dktX6_pulls_2 : List UInt8 := dkwX6_pulls_2 ++ dktX6_pulls_3
def dkwX6_pulls_1 : List UInt8 := [182, 1, 96, 87, 177, 42, 180, 0, 35, 4, 46, 4, 100, 61, 28, 155, 0, 65, 42, 28, 27, 182, 1, 44]
abbrev dktX6_pulls_1 : List UInt8 := dkwX6_pulls_1 ++ dktX6_pulls_2
def dkwX6_pulls_0 : List UInt8 := [42, 180, 0, 35, 8, 92, 46, 5, 96, 79, 42, 27, 182, 1, 90, 184, 1, 93, 4, 160, 0, 10, 42, 27]
abbrev dktX6_pulls_0 : List UInt8 := dkwX6_pulls_0 ++ dktX6_pulls_1
theorem dksX6_pulls_0 : cX6_pulls.data.toList.drop 0 = dktX6_pulls_0 := by decide +kernel
theorem dksX6_pulls_1 : cX6_pulls.data.toList.drop 24 = dktX6_pulls_1 := dk_seg dksX6_pulls_0 24 rfl rfl
theorem dksX6_pulls_2 : cX6_pulls.data.toList.drop 48 = dktX6_pulls_2 := dk_seg dksX6_pulls_1 24 rfl rfl
theorem dksX6_pulls_3 : cX6_pulls.data.toList.drop 71 = dktX6_pulls_3 := dk_seg dksX6_pulls_2 23 rfl rfl
theorem dksX6_pulls_4 : cX6_pulls.data.toList.drop 94 = dktX6_pulls_4 := dk_seg dksX6_pulls_3 23 rfl rfl
theorem dX6_pulls_0 : decode cX6_pulls 0 = .ok (.aload_n 0, 1) := dk_42 (dk_at dksX6_pulls_0 0 rfl rfl)
theorem dX6_pulls_1 : decode cX6_pulls 1 = .ok (.getfield 35, 3) := dk_180 0 35 (dk_at dksX6_pulls_0 1 rfl rfl)
theorem dX6_pulls_4 : decode cX6_pulls 4 = .ok (.iconst 5, 1) := dk_8 (dk_at dksX6_pulls_0 4 rfl rfl)
theorem dX6_pulls_5 : decode cX6_pulls 5 = .ok (.dup2, 1) := dk_92 (dk_at dksX6_pulls_0 5 rfl rfl)
theorem dX6_pulls_6 : decode cX6_pulls 6 = .ok (.iaload, 1) := dk_46 (dk_at dksX6_pulls_0 6 rfl rfl)
theorem dX6_pulls_7 : decode cX6_pulls 7 = .ok (.iconst 2, 1) := dk_5 (dk_at dksX6_pulls_0 7 rfl rfl)
theorem dX6_pulls_8 : decode cX6_pulls 8 = .ok (.iadd, 1) := dk_96 (dk_at dksX6_pulls_0 8 rfl rfl)
theorem dX6_pulls_9 : decode cX6_pulls 9 = .ok (.iastore, 1) := dk_79 (dk_at dksX6_pulls_0 9 rfl rfl)
theorem dX6_pulls_10 : decode cX6_pulls 10 = .ok (.aload_n 0, 1) := dk_42 (dk_at dksX6_pulls_0 10 rfl rfl)
theorem dX6_pulls_11 : decode cX6_pulls 11 = .ok (.iload_n 1, 1) := dk_27 (dk_at dksX6_pulls_0 11 rfl rfl)
theorem dX6_pulls_12 : decode cX6_pulls 12 = .ok (.invokevirtual 346, 3) := dk_182 1 90 (dk_at dksX6_pulls_0 12 rfl rfl)
theorem dX6_pulls_15 : decode cX6_pulls 15 = .ok (.invokestatic 349, 3) := dk_184 1 93 (dk_at dksX6_pulls_0 15 rfl rfl)
theorem dX6_pulls_18 : decode cX6_pulls 18 = .ok (.iconst 1, 1) := dk_4 (dk_at dksX6_pulls_0 18 rfl rfl)
theorem dX6_pulls_19 : decode cX6_pulls 19 = .ok (.if_icmp .ne 10, 3) := dk_160 0 10 (dk_at dksX6_pulls_0 19 rfl rfl)
theorem dX6_pulls_22 : decode cX6_pulls 22 = .ok (.aload_n 0, 1) := dk_42 (dk_at dksX6_pulls_0 22 rfl rfl)
theorem dX6_pulls_23 : decode cX6_pulls 23 = .ok (.iload_n 1, 1) := dk_27 (dk_at dksX6_pulls_0 23 rfl rfl)
theorem dX6_pulls_24 : decode cX6_pulls 24 = .ok (.invokevirtual 352, 3) := dk_182 1 96 (dk_at dksX6_pulls_1 0 rfl rfl)
theorem dX6_pulls_27 : decode cX6_pulls 27 = .ok (.pop, 1) := dk_87 (dk_at dksX6_pulls_1 3 rfl rfl)
theorem dX6_pulls_28 : decode cX6_pulls 28 = .ok (.return_, 1) := dk_177 (dk_at dksX6_pulls_1 4 rfl rfl)
theorem dX6_pulls_29 : decode cX6_pulls 29 = .ok (.aload_n 0, 1) := dk_42 (dk_at dksX6_pulls_1 5 rfl rfl)
theorem dX6_pulls_30 : decode cX6_pulls 30 = .ok (.getfield 35, 3) := dk_180 0 35 (dk_at dksX6_pulls_1 6 rfl rfl)
theorem dX6_pulls_33 : decode cX6_pulls 33 = .ok (.iconst 1, 1) := dk_4 (dk_at dksX6_pulls_1 9 rfl rfl)
theorem dX6_pulls_34 : decode cX6_pulls 34 = .ok (.iaload, 1) := dk_46 (dk_at dksX6_pulls_1 10 rfl rfl)
theorem dX6_pulls_35 : decode cX6_pulls 35 = .ok (.iconst 1, 1) := dk_4 (dk_at dksX6_pulls_1 11 rfl rfl)
theorem dX6_pulls_36 : decode cX6_pulls 36 = .ok (.isub, 1) := dk_100 (dk_at dksX6_pulls_1 12 rfl rfl)
theorem dX6_pulls_37 : decode cX6_pulls 37 = .ok (.istore_n 2, 1) := dk_61 (dk_at dksX6_pulls_1 13 rfl rfl)
theorem dX6_pulls_38 : decode cX6_pulls 38 = .ok (.iload_n 2, 1) := dk_28 (dk_at dksX6_pulls_1 14 rfl rfl)
theorem dX6_pulls_39 : decode cX6_pulls 39 = .ok (.ifCond .lt 65, 3) := dk_155 0 65 (dk_at dksX6_pulls_1 15 rfl rfl)
theorem dX6_pulls_42 : decode cX6_pulls 42 = .ok (.aload_n 0, 1) := dk_42 (dk_at dksX6_pulls_1 18 rfl rfl)
theorem dX6_pulls_43 : decode cX6_pulls 43 = .ok (.iload_n 2, 1) := dk_28 (dk_at dksX6_pulls_1 19 rfl rfl)
theorem dX6_pulls_44 : decode cX6_pulls 44 = .ok (.iload_n 1, 1) := dk_27 (dk_at dksX6_pulls_1 20 rfl rfl)
theorem dX6_pulls_45 : decode cX6_pulls 45 = .ok (.invokevirtual 300, 3) := dk_182 1 44 (dk_at dksX6_pulls_1 21 rfl rfl)
theorem dX6_pulls_48 : decode cX6_pulls 48 = .ok (.ifCond .ne 6, 3) := dk_154 0 6 (dk_at dksX6_pulls_2 0 rfl rfl)
theorem dX6_pulls_51 : decode cX6_pulls 51 = .ok (.goto 47, 3) := dk_167 0 47 (dk_at dksX6_pulls_2 3 rfl rfl)
theorem dX6_pulls_54 : decode cX6_pulls 54 = .ok (.aload_n 0, 1) := dk_42 (dk_at dksX6_pulls_2 6 rfl rfl)
theorem dX6_pulls_55 : decode cX6_pulls 55 = .ok (.getfield 35, 3) := dk_180 0 35 (dk_at dksX6_pulls_2 7 rfl rfl)
theorem dX6_pulls_58 : decode cX6_pulls 58 = .ok (.bipush 108, 2) := dk_16 108 (dk_at dksX6_pulls_2 10 rfl rfl)
theorem dX6_pulls_60 : decode cX6_pulls 60 = .ok (.iload_n 2, 1) := dk_28 (dk_at dksX6_pulls_2 12 rfl rfl)
theorem dX6_pulls_61 : decode cX6_pulls 61 = .ok (.iadd, 1) := dk_96 (dk_at dksX6_pulls_2 13 rfl rfl)
theorem dX6_pulls_62 : decode cX6_pulls 62 = .ok (.iaload, 1) := dk_46 (dk_at dksX6_pulls_2 14 rfl rfl)
theorem dX6_pulls_63 : decode cX6_pulls 63 = .ok (.ifCond .ne 11, 3) := dk_154 0 11 (dk_at dksX6_pulls_2 15 rfl rfl)
theorem dX6_pulls_66 : decode cX6_pulls 66 = .ok (.aload_n 0, 1) := dk_42 (dk_at dksX6_pulls_2 18 rfl rfl)
theorem dX6_pulls_67 : decode cX6_pulls 67 = .ok (.iload_n 2, 1) := dk_28 (dk_at dksX6_pulls_2 19 rfl rfl)
theorem dX6_pulls_68 : decode cX6_pulls 68 = .ok (.invokevirtual 325, 3) := dk_182 1 69 (dk_at dksX6_pulls_2 20 rfl rfl)
theorem dX6_pulls_71 : decode cX6_pulls 71 = .ok (.goto 27, 3) := dk_167 0 27 (dk_at dksX6_pulls_3 0 rfl rfl)
theorem dX6_pulls_74 : decode cX6_pulls 74 = .ok (.aload_n 0, 1) := dk_42 (dk_at dksX6_pulls_3 3 rfl rfl)
theorem dX6_pulls_75 : decode cX6_pulls 75 = .ok (.getfield 35, 3) := dk_180 0 35 (dk_at dksX6_pulls_3 4 rfl rfl)
theorem dX6_pulls_78 : decode cX6_pulls 78 = .ok (.bipush 108, 2) := dk_16 108 (dk_at dksX6_pulls_3 7 rfl rfl)
theorem dX6_pulls_80 : decode cX6_pulls 80 = .ok (.iload_n 2, 1) := dk_28 (dk_at dksX6_pulls_3 9 rfl rfl)
theorem dX6_pulls_81 : decode cX6_pulls 81 = .ok (.iadd, 1) := dk_96 (dk_at dksX6_pulls_3 10 rfl rfl)
theorem dX6_pulls_82 : decode cX6_pulls 82 = .ok (.iconst 3, 1) := dk_6 (dk_at dksX6_pulls_3 11 rfl rfl)
theorem dX6_pulls_83 : decode cX6_pulls 83 = .ok (.aload_n 0, 1) := dk_42 (dk_at dksX6_pulls_3 12 rfl rfl)
theorem dX6_pulls_84 : decode cX6_pulls 84 = .ok (.getfield 35, 3) := dk_180 0 35 (dk_at dksX6_pulls_3 13 rfl rfl)
theorem dX6_pulls_87 : decode cX6_pulls 87 = .ok (.bipush 108, 2) := dk_16 108 (dk_at dksX6_pulls_3 16 rfl rfl)
theorem dX6_pulls_89 : decode cX6_pulls 89 = .ok (.iload_n 2, 1) := dk_28 (dk_at dksX6_pulls_3 18 rfl rfl)
theorem dX6_pulls_90 : decode cX6_pulls 90 = .ok (.iadd, 1) := dk_96 (dk_at dksX6_pulls_3 19 rfl rfl)
theorem dX6_pulls_91 : decode cX6_pulls 91 = .ok (.iaload, 1) := dk_46 (dk_at dksX6_pulls_3 20 rfl rfl)
theorem dX6_pulls_92 : decode cX6_pulls 92 = .ok (.iconst 1, 1) := dk_4 (dk_at dksX6_pulls_3 21 rfl rfl)
theorem dX6_pulls_93 : decode cX6_pulls 93 = .ok (.iadd, 1) := dk_96 (dk_at dksX6_pulls_3 22 rfl rfl)
theorem dX6_pulls_94 : decode cX6_pulls 94 = .ok (.invokestatic 303, 3) := dk_184 1 47 (dk_at dksX6_pulls_4 0 rfl rfl)
theorem dX6_pulls_97 : decode cX6_pulls 97 = .ok (.iastore, 1) := dk_79 (dk_at dksX6_pulls_4 3 rfl rfl)
theorem dX6_pulls_98 : decode cX6_pulls 98 = .ok (.iinc 2 (-1), 3) := dk_132 2 255 (dk_at dksX6_pulls_4 4 rfl rfl)
theorem dX6_pulls_101 : decode cX6_pulls 101 = .ok (.goto (-63), 3) := dk_167 255 193 (dk_at dksX6_pulls_4 7 rfl rfl)
theorem dX6_pulls_104 : decode cX6_pulls 104 = .ok (.return_, 1) := dk_177 (dk_at dksX6_pulls_4 10 rfl rfl)
abbrev cX6_dropsAll : ByteArray := prog_16_method_79_code
def yX6_dropsAll : MethodName := ⟨RX6, "dropsAll", "(I)I"⟩
def dkwX6_dropsAll_1 : List UInt8 := [167, 0, 11, 42, 29, 182, 1, 69, 132, 2, 1, 132, 3, 255, 167, 255, 229, 28, 172]
abbrev dktX6_dropsAll_1 : List UInt8 := dkwX6_dropsAll_1 ++ []
def dkwX6_dropsAll_0 : List UInt8 := [3, 61, 42, 180, 0, 35, 4, 46, 4, 100, 62, 29, 155, 0, 29, 42, 29, 27, 182, 1, 44, 154, 0, 6]
abbrev dktX6_dropsAll_0 : List UInt8 := dkwX6_dropsAll_0 ++ dktX6_dropsAll_1
theorem dksX6_dropsAll_0 : cX6_dropsAll.data.toList.drop 0 = dktX6_dropsAll_0 := by decide +kernel
theorem dksX6_dropsAll_1 : cX6_dropsAll.data.toList.drop 24 = dktX6_dropsAll_1 := dk_seg dksX6_dropsAll_0 24 rfl rfl
theorem dX6_dropsAll_0 : decode cX6_dropsAll 0 = .ok (.iconst 0, 1) := dk_3 (dk_at dksX6_dropsAll_0 0 rfl rfl)
theorem dX6_dropsAll_1 : decode cX6_dropsAll 1 = .ok (.istore_n 2, 1) := dk_61 (dk_at dksX6_dropsAll_0 1 rfl rfl)
theorem dX6_dropsAll_2 : decode cX6_dropsAll 2 = .ok (.aload_n 0, 1) := dk_42 (dk_at dksX6_dropsAll_0 2 rfl rfl)
theorem dX6_dropsAll_3 : decode cX6_dropsAll 3 = .ok (.getfield 35, 3) := dk_180 0 35 (dk_at dksX6_dropsAll_0 3 rfl rfl)
theorem dX6_dropsAll_6 : decode cX6_dropsAll 6 = .ok (.iconst 1, 1) := dk_4 (dk_at dksX6_dropsAll_0 6 rfl rfl)
theorem dX6_dropsAll_7 : decode cX6_dropsAll 7 = .ok (.iaload, 1) := dk_46 (dk_at dksX6_dropsAll_0 7 rfl rfl)
theorem dX6_dropsAll_8 : decode cX6_dropsAll 8 = .ok (.iconst 1, 1) := dk_4 (dk_at dksX6_dropsAll_0 8 rfl rfl)
theorem dX6_dropsAll_9 : decode cX6_dropsAll 9 = .ok (.isub, 1) := dk_100 (dk_at dksX6_dropsAll_0 9 rfl rfl)
theorem dX6_dropsAll_10 : decode cX6_dropsAll 10 = .ok (.istore_n 3, 1) := dk_62 (dk_at dksX6_dropsAll_0 10 rfl rfl)
theorem dX6_dropsAll_11 : decode cX6_dropsAll 11 = .ok (.iload_n 3, 1) := dk_29 (dk_at dksX6_dropsAll_0 11 rfl rfl)
theorem dX6_dropsAll_12 : decode cX6_dropsAll 12 = .ok (.ifCond .lt 29, 3) := dk_155 0 29 (dk_at dksX6_dropsAll_0 12 rfl rfl)
theorem dX6_dropsAll_15 : decode cX6_dropsAll 15 = .ok (.aload_n 0, 1) := dk_42 (dk_at dksX6_dropsAll_0 15 rfl rfl)
theorem dX6_dropsAll_16 : decode cX6_dropsAll 16 = .ok (.iload_n 3, 1) := dk_29 (dk_at dksX6_dropsAll_0 16 rfl rfl)
theorem dX6_dropsAll_17 : decode cX6_dropsAll 17 = .ok (.iload_n 1, 1) := dk_27 (dk_at dksX6_dropsAll_0 17 rfl rfl)
theorem dX6_dropsAll_18 : decode cX6_dropsAll 18 = .ok (.invokevirtual 300, 3) := dk_182 1 44 (dk_at dksX6_dropsAll_0 18 rfl rfl)
theorem dX6_dropsAll_21 : decode cX6_dropsAll 21 = .ok (.ifCond .ne 6, 3) := dk_154 0 6 (dk_at dksX6_dropsAll_0 21 rfl rfl)
theorem dX6_dropsAll_24 : decode cX6_dropsAll 24 = .ok (.goto 11, 3) := dk_167 0 11 (dk_at dksX6_dropsAll_1 0 rfl rfl)
theorem dX6_dropsAll_27 : decode cX6_dropsAll 27 = .ok (.aload_n 0, 1) := dk_42 (dk_at dksX6_dropsAll_1 3 rfl rfl)
theorem dX6_dropsAll_28 : decode cX6_dropsAll 28 = .ok (.iload_n 3, 1) := dk_29 (dk_at dksX6_dropsAll_1 4 rfl rfl)
theorem dX6_dropsAll_29 : decode cX6_dropsAll 29 = .ok (.invokevirtual 325, 3) := dk_182 1 69 (dk_at dksX6_dropsAll_1 5 rfl rfl)
theorem dX6_dropsAll_32 : decode cX6_dropsAll 32 = .ok (.iinc 2 1, 3) := dk_132 2 1 (dk_at dksX6_dropsAll_1 8 rfl rfl)
theorem dX6_dropsAll_35 : decode cX6_dropsAll 35 = .ok (.iinc 3 (-1), 3) := dk_132 3 255 (dk_at dksX6_dropsAll_1 11 rfl rfl)
theorem dX6_dropsAll_38 : decode cX6_dropsAll 38 = .ok (.goto (-27), 3) := dk_167 255 229 (dk_at dksX6_dropsAll_1 14 rfl rfl)
theorem dX6_dropsAll_41 : decode cX6_dropsAll 41 = .ok (.iload_n 2, 1) := dk_28 (dk_at dksX6_dropsAll_1 17 rfl rfl)
theorem dX6_dropsAll_42 : decode cX6_dropsAll 42 = .ok (.ireturn, 1) := dk_172 (dk_at dksX6_dropsAll_1 18 rfl rfl)
abbrev cX6_cut_2 : ByteArray := prog_16_method_91_code
def yX6_cut_2 : MethodName := ⟨RX6, "cut", "(I)I"⟩
def dkwX6_cut_2_1 : List UInt8 := [42, 27, 182, 1, 81, 153, 0, 11, 42, 27, 182, 1, 102, 167, 0, 9, 42, 16, 9, 182, 1, 52, 172]
abbrev dktX6_cut_2_1 : List UInt8 := dkwX6_cut_2_1 ++ []
def dkwX6_cut_2_0 : List UInt8 := [42, 3, 181, 0, 77, 42, 3, 181, 0, 80, 42, 27, 182, 1, 55, 154, 0, 9, 42, 5, 182, 1, 52, 172]
abbrev dktX6_cut_2_0 : List UInt8 := dkwX6_cut_2_0 ++ dktX6_cut_2_1
theorem dksX6_cut_2_0 : cX6_cut_2.data.toList.drop 0 = dktX6_cut_2_0 := by decide +kernel
theorem dksX6_cut_2_1 : cX6_cut_2.data.toList.drop 24 = dktX6_cut_2_1 := dk_seg dksX6_cut_2_0 24 rfl rfl
theorem dX6_cut_2_0 : decode cX6_cut_2 0 = .ok (.aload_n 0, 1) := dk_42 (dk_at dksX6_cut_2_0 0 rfl rfl)
theorem dX6_cut_2_1 : decode cX6_cut_2 1 = .ok (.iconst 0, 1) := dk_3 (dk_at dksX6_cut_2_0 1 rfl rfl)
theorem dX6_cut_2_2 : decode cX6_cut_2 2 = .ok (.putfield 77, 3) := dk_181 0 77 (dk_at dksX6_cut_2_0 2 rfl rfl)
theorem dX6_cut_2_5 : decode cX6_cut_2 5 = .ok (.aload_n 0, 1) := dk_42 (dk_at dksX6_cut_2_0 5 rfl rfl)
theorem dX6_cut_2_6 : decode cX6_cut_2 6 = .ok (.iconst 0, 1) := dk_3 (dk_at dksX6_cut_2_0 6 rfl rfl)
theorem dX6_cut_2_7 : decode cX6_cut_2 7 = .ok (.putfield 80, 3) := dk_181 0 80 (dk_at dksX6_cut_2_0 7 rfl rfl)
theorem dX6_cut_2_10 : decode cX6_cut_2 10 = .ok (.aload_n 0, 1) := dk_42 (dk_at dksX6_cut_2_0 10 rfl rfl)
theorem dX6_cut_2_11 : decode cX6_cut_2 11 = .ok (.iload_n 1, 1) := dk_27 (dk_at dksX6_cut_2_0 11 rfl rfl)
theorem dX6_cut_2_12 : decode cX6_cut_2 12 = .ok (.invokevirtual 311, 3) := dk_182 1 55 (dk_at dksX6_cut_2_0 12 rfl rfl)
theorem dX6_cut_2_15 : decode cX6_cut_2 15 = .ok (.ifCond .ne 9, 3) := dk_154 0 9 (dk_at dksX6_cut_2_0 15 rfl rfl)
theorem dX6_cut_2_18 : decode cX6_cut_2 18 = .ok (.aload_n 0, 1) := dk_42 (dk_at dksX6_cut_2_0 18 rfl rfl)
theorem dX6_cut_2_19 : decode cX6_cut_2 19 = .ok (.iconst 2, 1) := dk_5 (dk_at dksX6_cut_2_0 19 rfl rfl)
theorem dX6_cut_2_20 : decode cX6_cut_2 20 = .ok (.invokevirtual 308, 3) := dk_182 1 52 (dk_at dksX6_cut_2_0 20 rfl rfl)
theorem dX6_cut_2_23 : decode cX6_cut_2 23 = .ok (.ireturn, 1) := dk_172 (dk_at dksX6_cut_2_0 23 rfl rfl)
theorem dX6_cut_2_24 : decode cX6_cut_2 24 = .ok (.aload_n 0, 1) := dk_42 (dk_at dksX6_cut_2_1 0 rfl rfl)
theorem dX6_cut_2_25 : decode cX6_cut_2 25 = .ok (.iload_n 1, 1) := dk_27 (dk_at dksX6_cut_2_1 1 rfl rfl)
theorem dX6_cut_2_26 : decode cX6_cut_2 26 = .ok (.invokevirtual 337, 3) := dk_182 1 81 (dk_at dksX6_cut_2_1 2 rfl rfl)
theorem dX6_cut_2_29 : decode cX6_cut_2 29 = .ok (.ifCond .eq 11, 3) := dk_153 0 11 (dk_at dksX6_cut_2_1 5 rfl rfl)
theorem dX6_cut_2_32 : decode cX6_cut_2 32 = .ok (.aload_n 0, 1) := dk_42 (dk_at dksX6_cut_2_1 8 rfl rfl)
theorem dX6_cut_2_33 : decode cX6_cut_2 33 = .ok (.iload_n 1, 1) := dk_27 (dk_at dksX6_cut_2_1 9 rfl rfl)
theorem dX6_cut_2_34 : decode cX6_cut_2 34 = .ok (.invokevirtual 358, 3) := dk_182 1 102 (dk_at dksX6_cut_2_1 10 rfl rfl)
theorem dX6_cut_2_37 : decode cX6_cut_2 37 = .ok (.goto 9, 3) := dk_167 0 9 (dk_at dksX6_cut_2_1 13 rfl rfl)
theorem dX6_cut_2_40 : decode cX6_cut_2 40 = .ok (.aload_n 0, 1) := dk_42 (dk_at dksX6_cut_2_1 16 rfl rfl)
theorem dX6_cut_2_41 : decode cX6_cut_2 41 = .ok (.bipush 9, 2) := dk_16 9 (dk_at dksX6_cut_2_1 17 rfl rfl)
theorem dX6_cut_2_43 : decode cX6_cut_2 43 = .ok (.invokevirtual 308, 3) := dk_182 1 52 (dk_at dksX6_cut_2_1 19 rfl rfl)
theorem dX6_cut_2_46 : decode cX6_cut_2 46 = .ok (.ireturn, 1) := dk_172 (dk_at dksX6_cut_2_1 22 rfl rfl)
abbrev cX6_cuts : ByteArray := prog_16_method_90_code
def yX6_cuts : MethodName := ⟨RX6, "cuts", "(I)I"⟩
def dkwX6_cuts_2 : List UInt8 := [27, 182, 1, 96, 172]
abbrev dktX6_cuts_2 : List UInt8 := dkwX6_cuts_2 ++ []
def dkwX6_cuts_1 : List UInt8 := [92, 46, 4, 27, 120, 2, 130, 126, 79, 42, 180, 0, 35, 7, 92, 46, 4, 27, 120, 2, 130, 126, 79, 42]
abbrev dktX6_cuts_1 : List UInt8 := dkwX6_cuts_1 ++ dktX6_cuts_2
def dkwX6_cuts_0 : List UInt8 := [42, 180, 0, 35, 16, 6, 92, 46, 42, 180, 0, 35, 16, 40, 27, 96, 46, 96, 79, 42, 180, 0, 35, 6]
abbrev dktX6_cuts_0 : List UInt8 := dkwX6_cuts_0 ++ dktX6_cuts_1
theorem dksX6_cuts_0 : cX6_cuts.data.toList.drop 0 = dktX6_cuts_0 := by decide +kernel
theorem dksX6_cuts_1 : cX6_cuts.data.toList.drop 24 = dktX6_cuts_1 := dk_seg dksX6_cuts_0 24 rfl rfl
theorem dksX6_cuts_2 : cX6_cuts.data.toList.drop 48 = dktX6_cuts_2 := dk_seg dksX6_cuts_1 24 rfl rfl
theorem dX6_cuts_0 : decode cX6_cuts 0 = .ok (.aload_n 0, 1) := dk_42 (dk_at dksX6_cuts_0 0 rfl rfl)
theorem dX6_cuts_1 : decode cX6_cuts 1 = .ok (.getfield 35, 3) := dk_180 0 35 (dk_at dksX6_cuts_0 1 rfl rfl)
theorem dX6_cuts_4 : decode cX6_cuts 4 = .ok (.bipush 6, 2) := dk_16 6 (dk_at dksX6_cuts_0 4 rfl rfl)
theorem dX6_cuts_6 : decode cX6_cuts 6 = .ok (.dup2, 1) := dk_92 (dk_at dksX6_cuts_0 6 rfl rfl)
theorem dX6_cuts_7 : decode cX6_cuts 7 = .ok (.iaload, 1) := dk_46 (dk_at dksX6_cuts_0 7 rfl rfl)
theorem dX6_cuts_8 : decode cX6_cuts 8 = .ok (.aload_n 0, 1) := dk_42 (dk_at dksX6_cuts_0 8 rfl rfl)
theorem dX6_cuts_9 : decode cX6_cuts 9 = .ok (.getfield 35, 3) := dk_180 0 35 (dk_at dksX6_cuts_0 9 rfl rfl)
theorem dX6_cuts_12 : decode cX6_cuts 12 = .ok (.bipush 40, 2) := dk_16 40 (dk_at dksX6_cuts_0 12 rfl rfl)
theorem dX6_cuts_14 : decode cX6_cuts 14 = .ok (.iload_n 1, 1) := dk_27 (dk_at dksX6_cuts_0 14 rfl rfl)
theorem dX6_cuts_15 : decode cX6_cuts 15 = .ok (.iadd, 1) := dk_96 (dk_at dksX6_cuts_0 15 rfl rfl)
theorem dX6_cuts_16 : decode cX6_cuts 16 = .ok (.iaload, 1) := dk_46 (dk_at dksX6_cuts_0 16 rfl rfl)
theorem dX6_cuts_17 : decode cX6_cuts 17 = .ok (.iadd, 1) := dk_96 (dk_at dksX6_cuts_0 17 rfl rfl)
theorem dX6_cuts_18 : decode cX6_cuts 18 = .ok (.iastore, 1) := dk_79 (dk_at dksX6_cuts_0 18 rfl rfl)
theorem dX6_cuts_19 : decode cX6_cuts 19 = .ok (.aload_n 0, 1) := dk_42 (dk_at dksX6_cuts_0 19 rfl rfl)
theorem dX6_cuts_20 : decode cX6_cuts 20 = .ok (.getfield 35, 3) := dk_180 0 35 (dk_at dksX6_cuts_0 20 rfl rfl)
theorem dX6_cuts_23 : decode cX6_cuts 23 = .ok (.iconst 3, 1) := dk_6 (dk_at dksX6_cuts_0 23 rfl rfl)
theorem dX6_cuts_24 : decode cX6_cuts 24 = .ok (.dup2, 1) := dk_92 (dk_at dksX6_cuts_1 0 rfl rfl)
theorem dX6_cuts_25 : decode cX6_cuts 25 = .ok (.iaload, 1) := dk_46 (dk_at dksX6_cuts_1 1 rfl rfl)
theorem dX6_cuts_26 : decode cX6_cuts 26 = .ok (.iconst 1, 1) := dk_4 (dk_at dksX6_cuts_1 2 rfl rfl)
theorem dX6_cuts_27 : decode cX6_cuts 27 = .ok (.iload_n 1, 1) := dk_27 (dk_at dksX6_cuts_1 3 rfl rfl)
theorem dX6_cuts_28 : decode cX6_cuts 28 = .ok (.ishl, 1) := dk_120 (dk_at dksX6_cuts_1 4 rfl rfl)
theorem dX6_cuts_29 : decode cX6_cuts 29 = .ok (.iconst (-1), 1) := dk_2 (dk_at dksX6_cuts_1 5 rfl rfl)
theorem dX6_cuts_30 : decode cX6_cuts 30 = .ok (.ixor, 1) := dk_130 (dk_at dksX6_cuts_1 6 rfl rfl)
theorem dX6_cuts_31 : decode cX6_cuts 31 = .ok (.iand, 1) := dk_126 (dk_at dksX6_cuts_1 7 rfl rfl)
theorem dX6_cuts_32 : decode cX6_cuts 32 = .ok (.iastore, 1) := dk_79 (dk_at dksX6_cuts_1 8 rfl rfl)
theorem dX6_cuts_33 : decode cX6_cuts 33 = .ok (.aload_n 0, 1) := dk_42 (dk_at dksX6_cuts_1 9 rfl rfl)
theorem dX6_cuts_34 : decode cX6_cuts 34 = .ok (.getfield 35, 3) := dk_180 0 35 (dk_at dksX6_cuts_1 10 rfl rfl)
theorem dX6_cuts_37 : decode cX6_cuts 37 = .ok (.iconst 4, 1) := dk_7 (dk_at dksX6_cuts_1 13 rfl rfl)
theorem dX6_cuts_38 : decode cX6_cuts 38 = .ok (.dup2, 1) := dk_92 (dk_at dksX6_cuts_1 14 rfl rfl)
theorem dX6_cuts_39 : decode cX6_cuts 39 = .ok (.iaload, 1) := dk_46 (dk_at dksX6_cuts_1 15 rfl rfl)
theorem dX6_cuts_40 : decode cX6_cuts 40 = .ok (.iconst 1, 1) := dk_4 (dk_at dksX6_cuts_1 16 rfl rfl)
theorem dX6_cuts_41 : decode cX6_cuts 41 = .ok (.iload_n 1, 1) := dk_27 (dk_at dksX6_cuts_1 17 rfl rfl)
theorem dX6_cuts_42 : decode cX6_cuts 42 = .ok (.ishl, 1) := dk_120 (dk_at dksX6_cuts_1 18 rfl rfl)
theorem dX6_cuts_43 : decode cX6_cuts 43 = .ok (.iconst (-1), 1) := dk_2 (dk_at dksX6_cuts_1 19 rfl rfl)
theorem dX6_cuts_44 : decode cX6_cuts 44 = .ok (.ixor, 1) := dk_130 (dk_at dksX6_cuts_1 20 rfl rfl)
theorem dX6_cuts_45 : decode cX6_cuts 45 = .ok (.iand, 1) := dk_126 (dk_at dksX6_cuts_1 21 rfl rfl)
theorem dX6_cuts_46 : decode cX6_cuts 46 = .ok (.iastore, 1) := dk_79 (dk_at dksX6_cuts_1 22 rfl rfl)
theorem dX6_cuts_47 : decode cX6_cuts 47 = .ok (.aload_n 0, 1) := dk_42 (dk_at dksX6_cuts_1 23 rfl rfl)
theorem dX6_cuts_48 : decode cX6_cuts 48 = .ok (.iload_n 1, 1) := dk_27 (dk_at dksX6_cuts_2 0 rfl rfl)
theorem dX6_cuts_49 : decode cX6_cuts 49 = .ok (.invokevirtual 352, 3) := dk_182 1 96 (dk_at dksX6_cuts_2 1 rfl rfl)
theorem dX6_cuts_52 : decode cX6_cuts 52 = .ok (.ireturn, 1) := dk_172 (dk_at dksX6_cuts_2 4 rfl rfl)
abbrev cX6_clip : ByteArray := prog_16_method_93_code
def yX6_clip : MethodName := ⟨RX6, "clip", "(I)Z"⟩
def dkwX6_clip_1 : List UInt8 := [42, 27, 182, 1, 105, 154, 0, 12, 42, 16, 9, 182, 0, 92, 153, 0, 7, 4, 167, 0, 4, 3, 172]
abbrev dktX6_clip_1 : List UInt8 := dkwX6_clip_1 ++ []
def dkwX6_clip_0 : List UInt8 := [42, 3, 181, 0, 77, 42, 3, 181, 0, 80, 42, 27, 182, 1, 55, 154, 0, 9, 42, 5, 182, 0, 92, 172]
abbrev dktX6_clip_0 : List UInt8 := dkwX6_clip_0 ++ dktX6_clip_1
theorem dksX6_clip_0 : cX6_clip.data.toList.drop 0 = dktX6_clip_0 := by decide +kernel
theorem dksX6_clip_1 : cX6_clip.data.toList.drop 24 = dktX6_clip_1 := dk_seg dksX6_clip_0 24 rfl rfl
theorem dX6_clip_0 : decode cX6_clip 0 = .ok (.aload_n 0, 1) := dk_42 (dk_at dksX6_clip_0 0 rfl rfl)
theorem dX6_clip_1 : decode cX6_clip 1 = .ok (.iconst 0, 1) := dk_3 (dk_at dksX6_clip_0 1 rfl rfl)
theorem dX6_clip_2 : decode cX6_clip 2 = .ok (.putfield 77, 3) := dk_181 0 77 (dk_at dksX6_clip_0 2 rfl rfl)
theorem dX6_clip_5 : decode cX6_clip 5 = .ok (.aload_n 0, 1) := dk_42 (dk_at dksX6_clip_0 5 rfl rfl)
theorem dX6_clip_6 : decode cX6_clip 6 = .ok (.iconst 0, 1) := dk_3 (dk_at dksX6_clip_0 6 rfl rfl)
theorem dX6_clip_7 : decode cX6_clip 7 = .ok (.putfield 80, 3) := dk_181 0 80 (dk_at dksX6_clip_0 7 rfl rfl)
theorem dX6_clip_10 : decode cX6_clip 10 = .ok (.aload_n 0, 1) := dk_42 (dk_at dksX6_clip_0 10 rfl rfl)
theorem dX6_clip_11 : decode cX6_clip 11 = .ok (.iload_n 1, 1) := dk_27 (dk_at dksX6_clip_0 11 rfl rfl)
theorem dX6_clip_12 : decode cX6_clip 12 = .ok (.invokevirtual 311, 3) := dk_182 1 55 (dk_at dksX6_clip_0 12 rfl rfl)
theorem dX6_clip_15 : decode cX6_clip 15 = .ok (.ifCond .ne 9, 3) := dk_154 0 9 (dk_at dksX6_clip_0 15 rfl rfl)
theorem dX6_clip_18 : decode cX6_clip 18 = .ok (.aload_n 0, 1) := dk_42 (dk_at dksX6_clip_0 18 rfl rfl)
theorem dX6_clip_19 : decode cX6_clip 19 = .ok (.iconst 2, 1) := dk_5 (dk_at dksX6_clip_0 19 rfl rfl)
theorem dX6_clip_20 : decode cX6_clip 20 = .ok (.invokevirtual 92, 3) := dk_182 0 92 (dk_at dksX6_clip_0 20 rfl rfl)
theorem dX6_clip_23 : decode cX6_clip 23 = .ok (.ireturn, 1) := dk_172 (dk_at dksX6_clip_0 23 rfl rfl)
theorem dX6_clip_24 : decode cX6_clip 24 = .ok (.aload_n 0, 1) := dk_42 (dk_at dksX6_clip_1 0 rfl rfl)
theorem dX6_clip_25 : decode cX6_clip 25 = .ok (.iload_n 1, 1) := dk_27 (dk_at dksX6_clip_1 1 rfl rfl)
theorem dX6_clip_26 : decode cX6_clip 26 = .ok (.invokevirtual 361, 3) := dk_182 1 105 (dk_at dksX6_clip_1 2 rfl rfl)
theorem dX6_clip_29 : decode cX6_clip 29 = .ok (.ifCond .ne 12, 3) := dk_154 0 12 (dk_at dksX6_clip_1 5 rfl rfl)
theorem dX6_clip_32 : decode cX6_clip 32 = .ok (.aload_n 0, 1) := dk_42 (dk_at dksX6_clip_1 8 rfl rfl)
theorem dX6_clip_33 : decode cX6_clip 33 = .ok (.bipush 9, 2) := dk_16 9 (dk_at dksX6_clip_1 9 rfl rfl)
theorem dX6_clip_35 : decode cX6_clip 35 = .ok (.invokevirtual 92, 3) := dk_182 0 92 (dk_at dksX6_clip_1 11 rfl rfl)
theorem dX6_clip_38 : decode cX6_clip 38 = .ok (.ifCond .eq 7, 3) := dk_153 0 7 (dk_at dksX6_clip_1 14 rfl rfl)
theorem dX6_clip_41 : decode cX6_clip 41 = .ok (.iconst 1, 1) := dk_4 (dk_at dksX6_clip_1 17 rfl rfl)
theorem dX6_clip_42 : decode cX6_clip 42 = .ok (.goto 4, 3) := dk_167 0 4 (dk_at dksX6_clip_1 18 rfl rfl)
theorem dX6_clip_45 : decode cX6_clip 45 = .ok (.iconst 0, 1) := dk_3 (dk_at dksX6_clip_1 21 rfl rfl)
theorem dX6_clip_46 : decode cX6_clip 46 = .ok (.ireturn, 1) := dk_172 (dk_at dksX6_clip_1 22 rfl rfl)
abbrev cX6_clips2 : ByteArray := prog_16_method_92_code
def yX6_clips2 : MethodName := ⟨RX6, "clips2", "(I)Z"⟩
def dkwX6_clips2_2 : List UInt8 := [8, 92, 46, 16, 12, 96, 79, 4, 172]
abbrev dktX6_clips2_2 : List UInt8 := dkwX6_clips2_2 ++ []
def dkwX6_clips2_1 : List UInt8 := [182, 1, 58, 158, 0, 5, 3, 172, 42, 180, 0, 35, 7, 92, 46, 4, 27, 120, 128, 79, 42, 180, 0, 35]
abbrev dktX6_clips2_1 : List UInt8 := dkwX6_clips2_1 ++ dktX6_clips2_2
def dkwX6_clips2_0 : List UInt8 := [42, 27, 182, 1, 81, 153, 0, 24, 42, 180, 0, 35, 7, 46, 27, 184, 0, 116, 154, 0, 11, 42, 27]
abbrev dktX6_clips2_0 : List UInt8 := dkwX6_clips2_0 ++ dktX6_clips2_1
theorem dksX6_clips2_0 : cX6_clips2.data.toList.drop 0 = dktX6_clips2_0 := by decide +kernel
theorem dksX6_clips2_1 : cX6_clips2.data.toList.drop 23 = dktX6_clips2_1 := dk_seg dksX6_clips2_0 23 rfl rfl
theorem dksX6_clips2_2 : cX6_clips2.data.toList.drop 47 = dktX6_clips2_2 := dk_seg dksX6_clips2_1 24 rfl rfl
theorem dX6_clips2_0 : decode cX6_clips2 0 = .ok (.aload_n 0, 1) := dk_42 (dk_at dksX6_clips2_0 0 rfl rfl)
theorem dX6_clips2_1 : decode cX6_clips2 1 = .ok (.iload_n 1, 1) := dk_27 (dk_at dksX6_clips2_0 1 rfl rfl)
theorem dX6_clips2_2 : decode cX6_clips2 2 = .ok (.invokevirtual 337, 3) := dk_182 1 81 (dk_at dksX6_clips2_0 2 rfl rfl)
theorem dX6_clips2_5 : decode cX6_clips2 5 = .ok (.ifCond .eq 24, 3) := dk_153 0 24 (dk_at dksX6_clips2_0 5 rfl rfl)
theorem dX6_clips2_8 : decode cX6_clips2 8 = .ok (.aload_n 0, 1) := dk_42 (dk_at dksX6_clips2_0 8 rfl rfl)
theorem dX6_clips2_9 : decode cX6_clips2 9 = .ok (.getfield 35, 3) := dk_180 0 35 (dk_at dksX6_clips2_0 9 rfl rfl)
theorem dX6_clips2_12 : decode cX6_clips2 12 = .ok (.iconst 4, 1) := dk_7 (dk_at dksX6_clips2_0 12 rfl rfl)
theorem dX6_clips2_13 : decode cX6_clips2 13 = .ok (.iaload, 1) := dk_46 (dk_at dksX6_clips2_0 13 rfl rfl)
theorem dX6_clips2_14 : decode cX6_clips2 14 = .ok (.iload_n 1, 1) := dk_27 (dk_at dksX6_clips2_0 14 rfl rfl)
theorem dX6_clips2_15 : decode cX6_clips2 15 = .ok (.invokestatic 116, 3) := dk_184 0 116 (dk_at dksX6_clips2_0 15 rfl rfl)
theorem dX6_clips2_18 : decode cX6_clips2 18 = .ok (.ifCond .ne 11, 3) := dk_154 0 11 (dk_at dksX6_clips2_0 18 rfl rfl)
theorem dX6_clips2_21 : decode cX6_clips2 21 = .ok (.aload_n 0, 1) := dk_42 (dk_at dksX6_clips2_0 21 rfl rfl)
theorem dX6_clips2_22 : decode cX6_clips2 22 = .ok (.iload_n 1, 1) := dk_27 (dk_at dksX6_clips2_0 22 rfl rfl)
theorem dX6_clips2_23 : decode cX6_clips2 23 = .ok (.invokevirtual 314, 3) := dk_182 1 58 (dk_at dksX6_clips2_1 0 rfl rfl)
theorem dX6_clips2_26 : decode cX6_clips2 26 = .ok (.ifCond .le 5, 3) := dk_158 0 5 (dk_at dksX6_clips2_1 3 rfl rfl)
theorem dX6_clips2_29 : decode cX6_clips2 29 = .ok (.iconst 0, 1) := dk_3 (dk_at dksX6_clips2_1 6 rfl rfl)
theorem dX6_clips2_30 : decode cX6_clips2 30 = .ok (.ireturn, 1) := dk_172 (dk_at dksX6_clips2_1 7 rfl rfl)
theorem dX6_clips2_31 : decode cX6_clips2 31 = .ok (.aload_n 0, 1) := dk_42 (dk_at dksX6_clips2_1 8 rfl rfl)
theorem dX6_clips2_32 : decode cX6_clips2 32 = .ok (.getfield 35, 3) := dk_180 0 35 (dk_at dksX6_clips2_1 9 rfl rfl)
theorem dX6_clips2_35 : decode cX6_clips2 35 = .ok (.iconst 4, 1) := dk_7 (dk_at dksX6_clips2_1 12 rfl rfl)
theorem dX6_clips2_36 : decode cX6_clips2 36 = .ok (.dup2, 1) := dk_92 (dk_at dksX6_clips2_1 13 rfl rfl)
theorem dX6_clips2_37 : decode cX6_clips2 37 = .ok (.iaload, 1) := dk_46 (dk_at dksX6_clips2_1 14 rfl rfl)
theorem dX6_clips2_38 : decode cX6_clips2 38 = .ok (.iconst 1, 1) := dk_4 (dk_at dksX6_clips2_1 15 rfl rfl)
theorem dX6_clips2_39 : decode cX6_clips2 39 = .ok (.iload_n 1, 1) := dk_27 (dk_at dksX6_clips2_1 16 rfl rfl)
theorem dX6_clips2_40 : decode cX6_clips2 40 = .ok (.ishl, 1) := dk_120 (dk_at dksX6_clips2_1 17 rfl rfl)
theorem dX6_clips2_41 : decode cX6_clips2 41 = .ok (.ior, 1) := dk_128 (dk_at dksX6_clips2_1 18 rfl rfl)
theorem dX6_clips2_42 : decode cX6_clips2 42 = .ok (.iastore, 1) := dk_79 (dk_at dksX6_clips2_1 19 rfl rfl)
theorem dX6_clips2_43 : decode cX6_clips2 43 = .ok (.aload_n 0, 1) := dk_42 (dk_at dksX6_clips2_1 20 rfl rfl)
theorem dX6_clips2_44 : decode cX6_clips2 44 = .ok (.getfield 35, 3) := dk_180 0 35 (dk_at dksX6_clips2_1 21 rfl rfl)
theorem dX6_clips2_47 : decode cX6_clips2 47 = .ok (.iconst 5, 1) := dk_8 (dk_at dksX6_clips2_2 0 rfl rfl)
theorem dX6_clips2_48 : decode cX6_clips2 48 = .ok (.dup2, 1) := dk_92 (dk_at dksX6_clips2_2 1 rfl rfl)
theorem dX6_clips2_49 : decode cX6_clips2 49 = .ok (.iaload, 1) := dk_46 (dk_at dksX6_clips2_2 2 rfl rfl)
theorem dX6_clips2_50 : decode cX6_clips2 50 = .ok (.bipush 12, 2) := dk_16 12 (dk_at dksX6_clips2_2 3 rfl rfl)
theorem dX6_clips2_52 : decode cX6_clips2 52 = .ok (.iadd, 1) := dk_96 (dk_at dksX6_clips2_2 5 rfl rfl)
theorem dX6_clips2_53 : decode cX6_clips2 53 = .ok (.iastore, 1) := dk_79 (dk_at dksX6_clips2_2 6 rfl rfl)
theorem dX6_clips2_54 : decode cX6_clips2 54 = .ok (.iconst 1, 1) := dk_4 (dk_at dksX6_clips2_2 7 rfl rfl)
theorem dX6_clips2_55 : decode cX6_clips2 55 = .ok (.ireturn, 1) := dk_172 (dk_at dksX6_clips2_2 8 rfl rfl)
abbrev cX6_unclip : ByteArray := prog_16_method_94_code
def yX6_unclip : MethodName := ⟨RX6, "unclip", "(I)Z"⟩
def dkwX6_unclip_2 : List UInt8 := [182, 0, 92, 172, 42, 180, 0, 35, 7, 92, 46, 4, 27, 120, 2, 130, 126, 79, 4, 172]
abbrev dktX6_unclip_2 : List UInt8 := dkwX6_unclip_2 ++ []
def dkwX6_unclip_1 : List UInt8 := [42, 27, 182, 1, 81, 153, 0, 16, 42, 180, 0, 35, 7, 46, 27, 184, 0, 116, 154, 0, 10, 42, 16, 9]
abbrev dktX6_unclip_1 : List UInt8 := dkwX6_unclip_1 ++ dktX6_unclip_2
def dkwX6_unclip_0 : List UInt8 := [42, 3, 181, 0, 77, 42, 3, 181, 0, 80, 42, 27, 182, 1, 55, 154, 0, 9, 42, 5, 182, 0, 92, 172]
abbrev dktX6_unclip_0 : List UInt8 := dkwX6_unclip_0 ++ dktX6_unclip_1
theorem dksX6_unclip_0 : cX6_unclip.data.toList.drop 0 = dktX6_unclip_0 := by decide +kernel
theorem dksX6_unclip_1 : cX6_unclip.data.toList.drop 24 = dktX6_unclip_1 := dk_seg dksX6_unclip_0 24 rfl rfl
theorem dksX6_unclip_2 : cX6_unclip.data.toList.drop 48 = dktX6_unclip_2 := dk_seg dksX6_unclip_1 24 rfl rfl
theorem dX6_unclip_0 : decode cX6_unclip 0 = .ok (.aload_n 0, 1) := dk_42 (dk_at dksX6_unclip_0 0 rfl rfl)
theorem dX6_unclip_1 : decode cX6_unclip 1 = .ok (.iconst 0, 1) := dk_3 (dk_at dksX6_unclip_0 1 rfl rfl)
theorem dX6_unclip_2 : decode cX6_unclip 2 = .ok (.putfield 77, 3) := dk_181 0 77 (dk_at dksX6_unclip_0 2 rfl rfl)
theorem dX6_unclip_5 : decode cX6_unclip 5 = .ok (.aload_n 0, 1) := dk_42 (dk_at dksX6_unclip_0 5 rfl rfl)
theorem dX6_unclip_6 : decode cX6_unclip 6 = .ok (.iconst 0, 1) := dk_3 (dk_at dksX6_unclip_0 6 rfl rfl)
theorem dX6_unclip_7 : decode cX6_unclip 7 = .ok (.putfield 80, 3) := dk_181 0 80 (dk_at dksX6_unclip_0 7 rfl rfl)
theorem dX6_unclip_10 : decode cX6_unclip 10 = .ok (.aload_n 0, 1) := dk_42 (dk_at dksX6_unclip_0 10 rfl rfl)
theorem dX6_unclip_11 : decode cX6_unclip 11 = .ok (.iload_n 1, 1) := dk_27 (dk_at dksX6_unclip_0 11 rfl rfl)
theorem dX6_unclip_12 : decode cX6_unclip 12 = .ok (.invokevirtual 311, 3) := dk_182 1 55 (dk_at dksX6_unclip_0 12 rfl rfl)
theorem dX6_unclip_15 : decode cX6_unclip 15 = .ok (.ifCond .ne 9, 3) := dk_154 0 9 (dk_at dksX6_unclip_0 15 rfl rfl)
theorem dX6_unclip_18 : decode cX6_unclip 18 = .ok (.aload_n 0, 1) := dk_42 (dk_at dksX6_unclip_0 18 rfl rfl)
theorem dX6_unclip_19 : decode cX6_unclip 19 = .ok (.iconst 2, 1) := dk_5 (dk_at dksX6_unclip_0 19 rfl rfl)
theorem dX6_unclip_20 : decode cX6_unclip 20 = .ok (.invokevirtual 92, 3) := dk_182 0 92 (dk_at dksX6_unclip_0 20 rfl rfl)
theorem dX6_unclip_23 : decode cX6_unclip 23 = .ok (.ireturn, 1) := dk_172 (dk_at dksX6_unclip_0 23 rfl rfl)
theorem dX6_unclip_24 : decode cX6_unclip 24 = .ok (.aload_n 0, 1) := dk_42 (dk_at dksX6_unclip_1 0 rfl rfl)
theorem dX6_unclip_25 : decode cX6_unclip 25 = .ok (.iload_n 1, 1) := dk_27 (dk_at dksX6_unclip_1 1 rfl rfl)
theorem dX6_unclip_26 : decode cX6_unclip 26 = .ok (.invokevirtual 337, 3) := dk_182 1 81 (dk_at dksX6_unclip_1 2 rfl rfl)
theorem dX6_unclip_29 : decode cX6_unclip 29 = .ok (.ifCond .eq 16, 3) := dk_153 0 16 (dk_at dksX6_unclip_1 5 rfl rfl)
theorem dX6_unclip_32 : decode cX6_unclip 32 = .ok (.aload_n 0, 1) := dk_42 (dk_at dksX6_unclip_1 8 rfl rfl)
theorem dX6_unclip_33 : decode cX6_unclip 33 = .ok (.getfield 35, 3) := dk_180 0 35 (dk_at dksX6_unclip_1 9 rfl rfl)
theorem dX6_unclip_36 : decode cX6_unclip 36 = .ok (.iconst 4, 1) := dk_7 (dk_at dksX6_unclip_1 12 rfl rfl)
theorem dX6_unclip_37 : decode cX6_unclip 37 = .ok (.iaload, 1) := dk_46 (dk_at dksX6_unclip_1 13 rfl rfl)
theorem dX6_unclip_38 : decode cX6_unclip 38 = .ok (.iload_n 1, 1) := dk_27 (dk_at dksX6_unclip_1 14 rfl rfl)
theorem dX6_unclip_39 : decode cX6_unclip 39 = .ok (.invokestatic 116, 3) := dk_184 0 116 (dk_at dksX6_unclip_1 15 rfl rfl)
theorem dX6_unclip_42 : decode cX6_unclip 42 = .ok (.ifCond .ne 10, 3) := dk_154 0 10 (dk_at dksX6_unclip_1 18 rfl rfl)
theorem dX6_unclip_45 : decode cX6_unclip 45 = .ok (.aload_n 0, 1) := dk_42 (dk_at dksX6_unclip_1 21 rfl rfl)
theorem dX6_unclip_46 : decode cX6_unclip 46 = .ok (.bipush 9, 2) := dk_16 9 (dk_at dksX6_unclip_1 22 rfl rfl)
theorem dX6_unclip_48 : decode cX6_unclip 48 = .ok (.invokevirtual 92, 3) := dk_182 0 92 (dk_at dksX6_unclip_2 0 rfl rfl)
theorem dX6_unclip_51 : decode cX6_unclip 51 = .ok (.ireturn, 1) := dk_172 (dk_at dksX6_unclip_2 3 rfl rfl)
theorem dX6_unclip_52 : decode cX6_unclip 52 = .ok (.aload_n 0, 1) := dk_42 (dk_at dksX6_unclip_2 4 rfl rfl)
theorem dX6_unclip_53 : decode cX6_unclip 53 = .ok (.getfield 35, 3) := dk_180 0 35 (dk_at dksX6_unclip_2 5 rfl rfl)
theorem dX6_unclip_56 : decode cX6_unclip 56 = .ok (.iconst 4, 1) := dk_7 (dk_at dksX6_unclip_2 8 rfl rfl)
theorem dX6_unclip_57 : decode cX6_unclip 57 = .ok (.dup2, 1) := dk_92 (dk_at dksX6_unclip_2 9 rfl rfl)
theorem dX6_unclip_58 : decode cX6_unclip 58 = .ok (.iaload, 1) := dk_46 (dk_at dksX6_unclip_2 10 rfl rfl)
theorem dX6_unclip_59 : decode cX6_unclip 59 = .ok (.iconst 1, 1) := dk_4 (dk_at dksX6_unclip_2 11 rfl rfl)
theorem dX6_unclip_60 : decode cX6_unclip 60 = .ok (.iload_n 1, 1) := dk_27 (dk_at dksX6_unclip_2 12 rfl rfl)
theorem dX6_unclip_61 : decode cX6_unclip 61 = .ok (.ishl, 1) := dk_120 (dk_at dksX6_unclip_2 13 rfl rfl)
theorem dX6_unclip_62 : decode cX6_unclip 62 = .ok (.iconst (-1), 1) := dk_2 (dk_at dksX6_unclip_2 14 rfl rfl)
theorem dX6_unclip_63 : decode cX6_unclip 63 = .ok (.ixor, 1) := dk_130 (dk_at dksX6_unclip_2 15 rfl rfl)
theorem dX6_unclip_64 : decode cX6_unclip 64 = .ok (.iand, 1) := dk_126 (dk_at dksX6_unclip_2 16 rfl rfl)
theorem dX6_unclip_65 : decode cX6_unclip 65 = .ok (.iastore, 1) := dk_79 (dk_at dksX6_unclip_2 17 rfl rfl)
theorem dX6_unclip_66 : decode cX6_unclip 66 = .ok (.iconst 1, 1) := dk_4 (dk_at dksX6_unclip_2 18 rfl rfl)
theorem dX6_unclip_67 : decode cX6_unclip 67 = .ok (.ireturn, 1) := dk_172 (dk_at dksX6_unclip_2 19 rfl rfl)
abbrev cX6_cross : ByteArray := prog_16_method_97_code
def yX6_cross : MethodName := ⟨RX6, "cross", "(III)I"⟩
def dkwX6_cross_4 : List UInt8 := [154, 0, 10, 42, 16, 9, 182, 1, 52, 172, 42, 27, 28, 29, 182, 1, 111, 42, 180, 0, 35, 4, 46, 172]
abbrev dktX6_cross_4 : List UInt8 := dkwX6_cross_4 ++ []
def dkwX6_cross_3 : List UInt8 := [182, 1, 52, 172, 42, 182, 1, 108, 27, 184, 0, 116, 153, 0, 14, 42, 182, 1, 108, 28, 184, 0, 116]
abbrev dktX6_cross_3 : List UInt8 := dkwX6_cross_3 ++ dktX6_cross_4
def dkwX6_cross_2 : List UInt8 := [154, 0, 9, 42, 8, 182, 1, 52, 172, 42, 180, 0, 35, 4, 46, 16, 24, 160, 0, 10, 42, 16, 7]
abbrev dktX6_cross_2 : List UInt8 := dkwX6_cross_2 ++ dktX6_cross_3
def dkwX6_cross_1 : List UInt8 := [154, 0, 9, 42, 5, 182, 1, 52, 172, 27, 28, 159, 0, 15, 29, 133, 9, 20, 0, 110, 184, 0, 112]
abbrev dktX6_cross_1 : List UInt8 := dkwX6_cross_1 ++ dktX6_cross_2
def dkwX6_cross_0 : List UInt8 := [42, 3, 181, 0, 77, 42, 3, 181, 0, 80, 42, 27, 182, 1, 55, 153, 0, 11, 42, 28, 182, 1, 55]
abbrev dktX6_cross_0 : List UInt8 := dkwX6_cross_0 ++ dktX6_cross_1
theorem dksX6_cross_0 : cX6_cross.data.toList.drop 0 = dktX6_cross_0 := by decide +kernel
theorem dksX6_cross_1 : cX6_cross.data.toList.drop 23 = dktX6_cross_1 := dk_seg dksX6_cross_0 23 rfl rfl
theorem dksX6_cross_2 : cX6_cross.data.toList.drop 46 = dktX6_cross_2 := dk_seg dksX6_cross_1 23 rfl rfl
theorem dksX6_cross_3 : cX6_cross.data.toList.drop 69 = dktX6_cross_3 := dk_seg dksX6_cross_2 23 rfl rfl
theorem dksX6_cross_4 : cX6_cross.data.toList.drop 92 = dktX6_cross_4 := dk_seg dksX6_cross_3 23 rfl rfl
theorem dX6_cross_0 : decode cX6_cross 0 = .ok (.aload_n 0, 1) := dk_42 (dk_at dksX6_cross_0 0 rfl rfl)
theorem dX6_cross_1 : decode cX6_cross 1 = .ok (.iconst 0, 1) := dk_3 (dk_at dksX6_cross_0 1 rfl rfl)
theorem dX6_cross_2 : decode cX6_cross 2 = .ok (.putfield 77, 3) := dk_181 0 77 (dk_at dksX6_cross_0 2 rfl rfl)
theorem dX6_cross_5 : decode cX6_cross 5 = .ok (.aload_n 0, 1) := dk_42 (dk_at dksX6_cross_0 5 rfl rfl)
theorem dX6_cross_6 : decode cX6_cross 6 = .ok (.iconst 0, 1) := dk_3 (dk_at dksX6_cross_0 6 rfl rfl)
theorem dX6_cross_7 : decode cX6_cross 7 = .ok (.putfield 80, 3) := dk_181 0 80 (dk_at dksX6_cross_0 7 rfl rfl)
theorem dX6_cross_10 : decode cX6_cross 10 = .ok (.aload_n 0, 1) := dk_42 (dk_at dksX6_cross_0 10 rfl rfl)
theorem dX6_cross_11 : decode cX6_cross 11 = .ok (.iload_n 1, 1) := dk_27 (dk_at dksX6_cross_0 11 rfl rfl)
theorem dX6_cross_12 : decode cX6_cross 12 = .ok (.invokevirtual 311, 3) := dk_182 1 55 (dk_at dksX6_cross_0 12 rfl rfl)
theorem dX6_cross_15 : decode cX6_cross 15 = .ok (.ifCond .eq 11, 3) := dk_153 0 11 (dk_at dksX6_cross_0 15 rfl rfl)
theorem dX6_cross_18 : decode cX6_cross 18 = .ok (.aload_n 0, 1) := dk_42 (dk_at dksX6_cross_0 18 rfl rfl)
theorem dX6_cross_19 : decode cX6_cross 19 = .ok (.iload_n 2, 1) := dk_28 (dk_at dksX6_cross_0 19 rfl rfl)
theorem dX6_cross_20 : decode cX6_cross 20 = .ok (.invokevirtual 311, 3) := dk_182 1 55 (dk_at dksX6_cross_0 20 rfl rfl)
theorem dX6_cross_23 : decode cX6_cross 23 = .ok (.ifCond .ne 9, 3) := dk_154 0 9 (dk_at dksX6_cross_1 0 rfl rfl)
theorem dX6_cross_26 : decode cX6_cross 26 = .ok (.aload_n 0, 1) := dk_42 (dk_at dksX6_cross_1 3 rfl rfl)
theorem dX6_cross_27 : decode cX6_cross 27 = .ok (.iconst 2, 1) := dk_5 (dk_at dksX6_cross_1 4 rfl rfl)
theorem dX6_cross_28 : decode cX6_cross 28 = .ok (.invokevirtual 308, 3) := dk_182 1 52 (dk_at dksX6_cross_1 5 rfl rfl)
theorem dX6_cross_31 : decode cX6_cross 31 = .ok (.ireturn, 1) := dk_172 (dk_at dksX6_cross_1 8 rfl rfl)
theorem dX6_cross_32 : decode cX6_cross 32 = .ok (.iload_n 1, 1) := dk_27 (dk_at dksX6_cross_1 9 rfl rfl)
theorem dX6_cross_33 : decode cX6_cross 33 = .ok (.iload_n 2, 1) := dk_28 (dk_at dksX6_cross_1 10 rfl rfl)
theorem dX6_cross_34 : decode cX6_cross 34 = .ok (.if_icmp .eq 15, 3) := dk_159 0 15 (dk_at dksX6_cross_1 11 rfl rfl)
theorem dX6_cross_37 : decode cX6_cross 37 = .ok (.iload_n 3, 1) := dk_29 (dk_at dksX6_cross_1 14 rfl rfl)
theorem dX6_cross_38 : decode cX6_cross 38 = .ok (.i2l, 1) := dk_133 (dk_at dksX6_cross_1 15 rfl rfl)
theorem dX6_cross_39 : decode cX6_cross 39 = .ok (.lconst 0, 1) := dk_9 (dk_at dksX6_cross_1 16 rfl rfl)
theorem dX6_cross_40 : decode cX6_cross 40 = .ok (.ldc2_w 110, 3) := dk_20 0 110 (dk_at dksX6_cross_1 17 rfl rfl)
theorem dX6_cross_43 : decode cX6_cross 43 = .ok (.invokestatic 112, 3) := dk_184 0 112 (dk_at dksX6_cross_1 20 rfl rfl)
theorem dX6_cross_46 : decode cX6_cross 46 = .ok (.ifCond .ne 9, 3) := dk_154 0 9 (dk_at dksX6_cross_2 0 rfl rfl)
theorem dX6_cross_49 : decode cX6_cross 49 = .ok (.aload_n 0, 1) := dk_42 (dk_at dksX6_cross_2 3 rfl rfl)
theorem dX6_cross_50 : decode cX6_cross 50 = .ok (.iconst 5, 1) := dk_8 (dk_at dksX6_cross_2 4 rfl rfl)
theorem dX6_cross_51 : decode cX6_cross 51 = .ok (.invokevirtual 308, 3) := dk_182 1 52 (dk_at dksX6_cross_2 5 rfl rfl)
theorem dX6_cross_54 : decode cX6_cross 54 = .ok (.ireturn, 1) := dk_172 (dk_at dksX6_cross_2 8 rfl rfl)
theorem dX6_cross_55 : decode cX6_cross 55 = .ok (.aload_n 0, 1) := dk_42 (dk_at dksX6_cross_2 9 rfl rfl)
theorem dX6_cross_56 : decode cX6_cross 56 = .ok (.getfield 35, 3) := dk_180 0 35 (dk_at dksX6_cross_2 10 rfl rfl)
theorem dX6_cross_59 : decode cX6_cross 59 = .ok (.iconst 1, 1) := dk_4 (dk_at dksX6_cross_2 13 rfl rfl)
theorem dX6_cross_60 : decode cX6_cross 60 = .ok (.iaload, 1) := dk_46 (dk_at dksX6_cross_2 14 rfl rfl)
theorem dX6_cross_61 : decode cX6_cross 61 = .ok (.bipush 24, 2) := dk_16 24 (dk_at dksX6_cross_2 15 rfl rfl)
theorem dX6_cross_63 : decode cX6_cross 63 = .ok (.if_icmp .ne 10, 3) := dk_160 0 10 (dk_at dksX6_cross_2 17 rfl rfl)
theorem dX6_cross_66 : decode cX6_cross 66 = .ok (.aload_n 0, 1) := dk_42 (dk_at dksX6_cross_2 20 rfl rfl)
theorem dX6_cross_67 : decode cX6_cross 67 = .ok (.bipush 7, 2) := dk_16 7 (dk_at dksX6_cross_2 21 rfl rfl)
theorem dX6_cross_69 : decode cX6_cross 69 = .ok (.invokevirtual 308, 3) := dk_182 1 52 (dk_at dksX6_cross_3 0 rfl rfl)
theorem dX6_cross_72 : decode cX6_cross 72 = .ok (.ireturn, 1) := dk_172 (dk_at dksX6_cross_3 3 rfl rfl)
theorem dX6_cross_73 : decode cX6_cross 73 = .ok (.aload_n 0, 1) := dk_42 (dk_at dksX6_cross_3 4 rfl rfl)
theorem dX6_cross_74 : decode cX6_cross 74 = .ok (.invokevirtual 364, 3) := dk_182 1 108 (dk_at dksX6_cross_3 5 rfl rfl)
theorem dX6_cross_77 : decode cX6_cross 77 = .ok (.iload_n 1, 1) := dk_27 (dk_at dksX6_cross_3 8 rfl rfl)
theorem dX6_cross_78 : decode cX6_cross 78 = .ok (.invokestatic 116, 3) := dk_184 0 116 (dk_at dksX6_cross_3 9 rfl rfl)
theorem dX6_cross_81 : decode cX6_cross 81 = .ok (.ifCond .eq 14, 3) := dk_153 0 14 (dk_at dksX6_cross_3 12 rfl rfl)
theorem dX6_cross_84 : decode cX6_cross 84 = .ok (.aload_n 0, 1) := dk_42 (dk_at dksX6_cross_3 15 rfl rfl)
theorem dX6_cross_85 : decode cX6_cross 85 = .ok (.invokevirtual 364, 3) := dk_182 1 108 (dk_at dksX6_cross_3 16 rfl rfl)
theorem dX6_cross_88 : decode cX6_cross 88 = .ok (.iload_n 2, 1) := dk_28 (dk_at dksX6_cross_3 19 rfl rfl)
theorem dX6_cross_89 : decode cX6_cross 89 = .ok (.invokestatic 116, 3) := dk_184 0 116 (dk_at dksX6_cross_3 20 rfl rfl)
theorem dX6_cross_92 : decode cX6_cross 92 = .ok (.ifCond .ne 10, 3) := dk_154 0 10 (dk_at dksX6_cross_4 0 rfl rfl)
theorem dX6_cross_95 : decode cX6_cross 95 = .ok (.aload_n 0, 1) := dk_42 (dk_at dksX6_cross_4 3 rfl rfl)
theorem dX6_cross_96 : decode cX6_cross 96 = .ok (.bipush 9, 2) := dk_16 9 (dk_at dksX6_cross_4 4 rfl rfl)
theorem dX6_cross_98 : decode cX6_cross 98 = .ok (.invokevirtual 308, 3) := dk_182 1 52 (dk_at dksX6_cross_4 6 rfl rfl)
theorem dX6_cross_101 : decode cX6_cross 101 = .ok (.ireturn, 1) := dk_172 (dk_at dksX6_cross_4 9 rfl rfl)
theorem dX6_cross_102 : decode cX6_cross 102 = .ok (.aload_n 0, 1) := dk_42 (dk_at dksX6_cross_4 10 rfl rfl)
theorem dX6_cross_103 : decode cX6_cross 103 = .ok (.iload_n 1, 1) := dk_27 (dk_at dksX6_cross_4 11 rfl rfl)
theorem dX6_cross_104 : decode cX6_cross 104 = .ok (.iload_n 2, 1) := dk_28 (dk_at dksX6_cross_4 12 rfl rfl)
theorem dX6_cross_105 : decode cX6_cross 105 = .ok (.iload_n 3, 1) := dk_29 (dk_at dksX6_cross_4 13 rfl rfl)
theorem dX6_cross_106 : decode cX6_cross 106 = .ok (.invokevirtual 367, 3) := dk_182 1 111 (dk_at dksX6_cross_4 14 rfl rfl)
theorem dX6_cross_109 : decode cX6_cross 109 = .ok (.aload_n 0, 1) := dk_42 (dk_at dksX6_cross_4 17 rfl rfl)
theorem dX6_cross_110 : decode cX6_cross 110 = .ok (.getfield 35, 3) := dk_180 0 35 (dk_at dksX6_cross_4 18 rfl rfl)
theorem dX6_cross_113 : decode cX6_cross 113 = .ok (.iconst 1, 1) := dk_4 (dk_at dksX6_cross_4 21 rfl rfl)
theorem dX6_cross_114 : decode cX6_cross 114 = .ok (.iaload, 1) := dk_46 (dk_at dksX6_cross_4 22 rfl rfl)
theorem dX6_cross_115 : decode cX6_cross 115 = .ok (.ireturn, 1) := dk_172 (dk_at dksX6_cross_4 23 rfl rfl)
abbrev cX6_crossable : ByteArray := prog_16_method_95_code
def yX6_crossable : MethodName := ⟨RX6, "crossable", "()I"⟩
def dkwX6_crossable_0 : List UInt8 := [42, 180, 0, 35, 6, 46, 42, 180, 0, 35, 7, 46, 2, 130, 126, 172]
abbrev dktX6_crossable_0 : List UInt8 := dkwX6_crossable_0 ++ []
theorem dksX6_crossable_0 : cX6_crossable.data.toList.drop 0 = dktX6_crossable_0 := by decide +kernel
theorem dX6_crossable_0 : decode cX6_crossable 0 = .ok (.aload_n 0, 1) := dk_42 (dk_at dksX6_crossable_0 0 rfl rfl)
theorem dX6_crossable_1 : decode cX6_crossable 1 = .ok (.getfield 35, 3) := dk_180 0 35 (dk_at dksX6_crossable_0 1 rfl rfl)
theorem dX6_crossable_4 : decode cX6_crossable 4 = .ok (.iconst 3, 1) := dk_6 (dk_at dksX6_crossable_0 4 rfl rfl)
theorem dX6_crossable_5 : decode cX6_crossable 5 = .ok (.iaload, 1) := dk_46 (dk_at dksX6_crossable_0 5 rfl rfl)
theorem dX6_crossable_6 : decode cX6_crossable 6 = .ok (.aload_n 0, 1) := dk_42 (dk_at dksX6_crossable_0 6 rfl rfl)
theorem dX6_crossable_7 : decode cX6_crossable 7 = .ok (.getfield 35, 3) := dk_180 0 35 (dk_at dksX6_crossable_0 7 rfl rfl)
theorem dX6_crossable_10 : decode cX6_crossable 10 = .ok (.iconst 4, 1) := dk_7 (dk_at dksX6_crossable_0 10 rfl rfl)
theorem dX6_crossable_11 : decode cX6_crossable 11 = .ok (.iaload, 1) := dk_46 (dk_at dksX6_crossable_0 11 rfl rfl)
theorem dX6_crossable_12 : decode cX6_crossable 12 = .ok (.iconst (-1), 1) := dk_2 (dk_at dksX6_crossable_0 12 rfl rfl)
theorem dX6_crossable_13 : decode cX6_crossable 13 = .ok (.ixor, 1) := dk_130 (dk_at dksX6_crossable_0 13 rfl rfl)
theorem dX6_crossable_14 : decode cX6_crossable 14 = .ok (.iand, 1) := dk_126 (dk_at dksX6_crossable_0 14 rfl rfl)
theorem dX6_crossable_15 : decode cX6_crossable 15 = .ok (.ireturn, 1) := dk_172 (dk_at dksX6_crossable_0 15 rfl rfl)
abbrev cX6_crosses : ByteArray := prog_16_method_96_code
def yX6_crosses : MethodName := ⟨RX6, "crosses", "(III)V"⟩
def dkwX6_crosses_2 : List UInt8 := [46, 4, 96, 79, 177]
abbrev dktX6_crosses_2 : List UInt8 := dkwX6_crosses_2 ++ []
def dkwX6_crosses_1 : List UInt8 := [16, 84, 21, 4, 96, 28, 79, 42, 180, 0, 35, 16, 108, 21, 4, 96, 29, 79, 42, 180, 0, 35, 4, 92]
abbrev dktX6_crosses_1 : List UInt8 := dkwX6_crosses_1 ++ dktX6_crosses_2
def dkwX6_crosses_0 : List UInt8 := [42, 180, 0, 35, 4, 46, 54, 4, 42, 180, 0, 35, 16, 60, 21, 4, 96, 27, 79, 42, 180, 0, 35]
abbrev dktX6_crosses_0 : List UInt8 := dkwX6_crosses_0 ++ dktX6_crosses_1
theorem dksX6_crosses_0 : cX6_crosses.data.toList.drop 0 = dktX6_crosses_0 := by decide +kernel
theorem dksX6_crosses_1 : cX6_crosses.data.toList.drop 23 = dktX6_crosses_1 := dk_seg dksX6_crosses_0 23 rfl rfl
theorem dksX6_crosses_2 : cX6_crosses.data.toList.drop 47 = dktX6_crosses_2 := dk_seg dksX6_crosses_1 24 rfl rfl
theorem dX6_crosses_0 : decode cX6_crosses 0 = .ok (.aload_n 0, 1) := dk_42 (dk_at dksX6_crosses_0 0 rfl rfl)
theorem dX6_crosses_1 : decode cX6_crosses 1 = .ok (.getfield 35, 3) := dk_180 0 35 (dk_at dksX6_crosses_0 1 rfl rfl)
theorem dX6_crosses_4 : decode cX6_crosses 4 = .ok (.iconst 1, 1) := dk_4 (dk_at dksX6_crosses_0 4 rfl rfl)
theorem dX6_crosses_5 : decode cX6_crosses 5 = .ok (.iaload, 1) := dk_46 (dk_at dksX6_crosses_0 5 rfl rfl)
theorem dX6_crosses_6 : decode cX6_crosses 6 = .ok (.istore 4, 2) := dk_54 4 (dk_at dksX6_crosses_0 6 rfl rfl)
theorem dX6_crosses_8 : decode cX6_crosses 8 = .ok (.aload_n 0, 1) := dk_42 (dk_at dksX6_crosses_0 8 rfl rfl)
theorem dX6_crosses_9 : decode cX6_crosses 9 = .ok (.getfield 35, 3) := dk_180 0 35 (dk_at dksX6_crosses_0 9 rfl rfl)
theorem dX6_crosses_12 : decode cX6_crosses 12 = .ok (.bipush 60, 2) := dk_16 60 (dk_at dksX6_crosses_0 12 rfl rfl)
theorem dX6_crosses_14 : decode cX6_crosses 14 = .ok (.iload 4, 2) := dk_21 4 (dk_at dksX6_crosses_0 14 rfl rfl)
theorem dX6_crosses_16 : decode cX6_crosses 16 = .ok (.iadd, 1) := dk_96 (dk_at dksX6_crosses_0 16 rfl rfl)
theorem dX6_crosses_17 : decode cX6_crosses 17 = .ok (.iload_n 1, 1) := dk_27 (dk_at dksX6_crosses_0 17 rfl rfl)
theorem dX6_crosses_18 : decode cX6_crosses 18 = .ok (.iastore, 1) := dk_79 (dk_at dksX6_crosses_0 18 rfl rfl)
theorem dX6_crosses_19 : decode cX6_crosses 19 = .ok (.aload_n 0, 1) := dk_42 (dk_at dksX6_crosses_0 19 rfl rfl)
theorem dX6_crosses_20 : decode cX6_crosses 20 = .ok (.getfield 35, 3) := dk_180 0 35 (dk_at dksX6_crosses_0 20 rfl rfl)
theorem dX6_crosses_23 : decode cX6_crosses 23 = .ok (.bipush 84, 2) := dk_16 84 (dk_at dksX6_crosses_1 0 rfl rfl)
theorem dX6_crosses_25 : decode cX6_crosses 25 = .ok (.iload 4, 2) := dk_21 4 (dk_at dksX6_crosses_1 2 rfl rfl)
theorem dX6_crosses_27 : decode cX6_crosses 27 = .ok (.iadd, 1) := dk_96 (dk_at dksX6_crosses_1 4 rfl rfl)
theorem dX6_crosses_28 : decode cX6_crosses 28 = .ok (.iload_n 2, 1) := dk_28 (dk_at dksX6_crosses_1 5 rfl rfl)
theorem dX6_crosses_29 : decode cX6_crosses 29 = .ok (.iastore, 1) := dk_79 (dk_at dksX6_crosses_1 6 rfl rfl)
theorem dX6_crosses_30 : decode cX6_crosses 30 = .ok (.aload_n 0, 1) := dk_42 (dk_at dksX6_crosses_1 7 rfl rfl)
theorem dX6_crosses_31 : decode cX6_crosses 31 = .ok (.getfield 35, 3) := dk_180 0 35 (dk_at dksX6_crosses_1 8 rfl rfl)
theorem dX6_crosses_34 : decode cX6_crosses 34 = .ok (.bipush 108, 2) := dk_16 108 (dk_at dksX6_crosses_1 11 rfl rfl)
theorem dX6_crosses_36 : decode cX6_crosses 36 = .ok (.iload 4, 2) := dk_21 4 (dk_at dksX6_crosses_1 13 rfl rfl)
theorem dX6_crosses_38 : decode cX6_crosses 38 = .ok (.iadd, 1) := dk_96 (dk_at dksX6_crosses_1 15 rfl rfl)
theorem dX6_crosses_39 : decode cX6_crosses 39 = .ok (.iload_n 3, 1) := dk_29 (dk_at dksX6_crosses_1 16 rfl rfl)
theorem dX6_crosses_40 : decode cX6_crosses 40 = .ok (.iastore, 1) := dk_79 (dk_at dksX6_crosses_1 17 rfl rfl)
theorem dX6_crosses_41 : decode cX6_crosses 41 = .ok (.aload_n 0, 1) := dk_42 (dk_at dksX6_crosses_1 18 rfl rfl)
theorem dX6_crosses_42 : decode cX6_crosses 42 = .ok (.getfield 35, 3) := dk_180 0 35 (dk_at dksX6_crosses_1 19 rfl rfl)
theorem dX6_crosses_45 : decode cX6_crosses 45 = .ok (.iconst 1, 1) := dk_4 (dk_at dksX6_crosses_1 22 rfl rfl)
theorem dX6_crosses_46 : decode cX6_crosses 46 = .ok (.dup2, 1) := dk_92 (dk_at dksX6_crosses_1 23 rfl rfl)
theorem dX6_crosses_47 : decode cX6_crosses 47 = .ok (.iaload, 1) := dk_46 (dk_at dksX6_crosses_2 0 rfl rfl)
theorem dX6_crosses_48 : decode cX6_crosses 48 = .ok (.iconst 1, 1) := dk_4 (dk_at dksX6_crosses_2 1 rfl rfl)
theorem dX6_crosses_49 : decode cX6_crosses 49 = .ok (.iadd, 1) := dk_96 (dk_at dksX6_crosses_2 2 rfl rfl)
theorem dX6_crosses_50 : decode cX6_crosses 50 = .ok (.iastore, 1) := dk_79 (dk_at dksX6_crosses_2 3 rfl rfl)
theorem dX6_crosses_51 : decode cX6_crosses 51 = .ok (.return_, 1) := dk_177 (dk_at dksX6_crosses_2 4 rfl rfl)
abbrev cX6_open : ByteArray := prog_16_method_100_code
def yX6_open : MethodName := ⟨RX6, "open", "(I)I"⟩
def dkwX6_open_1 : List UInt8 := [182, 1, 52, 172, 42, 27, 181, 1, 115, 42, 182, 1, 124, 172]
abbrev dktX6_open_1 : List UInt8 := dkwX6_open_1 ++ []
def dkwX6_open_0 : List UInt8 := [42, 3, 181, 0, 77, 42, 3, 181, 0, 80, 27, 133, 9, 20, 1, 122, 184, 0, 112, 154, 0, 9, 42, 8]
abbrev dktX6_open_0 : List UInt8 := dkwX6_open_0 ++ dktX6_open_1
theorem dksX6_open_0 : cX6_open.data.toList.drop 0 = dktX6_open_0 := by decide +kernel
theorem dksX6_open_1 : cX6_open.data.toList.drop 24 = dktX6_open_1 := dk_seg dksX6_open_0 24 rfl rfl
theorem dX6_open_0 : decode cX6_open 0 = .ok (.aload_n 0, 1) := dk_42 (dk_at dksX6_open_0 0 rfl rfl)
theorem dX6_open_1 : decode cX6_open 1 = .ok (.iconst 0, 1) := dk_3 (dk_at dksX6_open_0 1 rfl rfl)
theorem dX6_open_2 : decode cX6_open 2 = .ok (.putfield 77, 3) := dk_181 0 77 (dk_at dksX6_open_0 2 rfl rfl)
theorem dX6_open_5 : decode cX6_open 5 = .ok (.aload_n 0, 1) := dk_42 (dk_at dksX6_open_0 5 rfl rfl)
theorem dX6_open_6 : decode cX6_open 6 = .ok (.iconst 0, 1) := dk_3 (dk_at dksX6_open_0 6 rfl rfl)
theorem dX6_open_7 : decode cX6_open 7 = .ok (.putfield 80, 3) := dk_181 0 80 (dk_at dksX6_open_0 7 rfl rfl)
theorem dX6_open_10 : decode cX6_open 10 = .ok (.iload_n 1, 1) := dk_27 (dk_at dksX6_open_0 10 rfl rfl)
theorem dX6_open_11 : decode cX6_open 11 = .ok (.i2l, 1) := dk_133 (dk_at dksX6_open_0 11 rfl rfl)
theorem dX6_open_12 : decode cX6_open 12 = .ok (.lconst 0, 1) := dk_9 (dk_at dksX6_open_0 12 rfl rfl)
theorem dX6_open_13 : decode cX6_open 13 = .ok (.ldc2_w 378, 3) := dk_20 1 122 (dk_at dksX6_open_0 13 rfl rfl)
theorem dX6_open_16 : decode cX6_open 16 = .ok (.invokestatic 112, 3) := dk_184 0 112 (dk_at dksX6_open_0 16 rfl rfl)
theorem dX6_open_19 : decode cX6_open 19 = .ok (.ifCond .ne 9, 3) := dk_154 0 9 (dk_at dksX6_open_0 19 rfl rfl)
theorem dX6_open_22 : decode cX6_open 22 = .ok (.aload_n 0, 1) := dk_42 (dk_at dksX6_open_0 22 rfl rfl)
theorem dX6_open_23 : decode cX6_open 23 = .ok (.iconst 5, 1) := dk_8 (dk_at dksX6_open_0 23 rfl rfl)
theorem dX6_open_24 : decode cX6_open 24 = .ok (.invokevirtual 308, 3) := dk_182 1 52 (dk_at dksX6_open_1 0 rfl rfl)
theorem dX6_open_27 : decode cX6_open 27 = .ok (.ireturn, 1) := dk_172 (dk_at dksX6_open_1 3 rfl rfl)
theorem dX6_open_28 : decode cX6_open 28 = .ok (.aload_n 0, 1) := dk_42 (dk_at dksX6_open_1 4 rfl rfl)
theorem dX6_open_29 : decode cX6_open 29 = .ok (.iload_n 1, 1) := dk_27 (dk_at dksX6_open_1 5 rfl rfl)
theorem dX6_open_30 : decode cX6_open 30 = .ok (.putfield 371, 3) := dk_181 1 115 (dk_at dksX6_open_1 6 rfl rfl)
theorem dX6_open_33 : decode cX6_open 33 = .ok (.aload_n 0, 1) := dk_42 (dk_at dksX6_open_1 9 rfl rfl)
theorem dX6_open_34 : decode cX6_open 34 = .ok (.invokevirtual 380, 3) := dk_182 1 124 (dk_at dksX6_open_1 10 rfl rfl)
theorem dX6_open_37 : decode cX6_open 37 = .ok (.ireturn, 1) := dk_172 (dk_at dksX6_open_1 13 rfl rfl)
abbrev cX6_opens : ByteArray := prog_16_method_99_code
def yX6_opens : MethodName := ⟨RX6, "opens", "()I"⟩
def dkwX6_opens_8 : List UInt8 := [4, 167, 0, 4, 3, 182, 1, 111, 132, 1, 1, 132, 2, 1, 167, 255, 71, 27, 172]
abbrev dktX6_opens_8 : List UInt8 := dkwX6_opens_8 ++ []
def dkwX6_opens_7 : List UInt8 := [21, 5, 21, 6, 16, 9, 42, 180, 0, 35, 16, 16, 21, 5, 96, 46, 5, 96, 184, 1, 47, 162, 0, 7]
abbrev dktX6_opens_7 : List UInt8 := dkwX6_opens_7 ++ dktX6_opens_8
def dkwX6_opens_6 : List UInt8 := [180, 0, 35, 16, 24, 28, 96, 46, 42, 180, 0, 35, 16, 32, 28, 96, 46, 184, 1, 47, 54, 6, 42, 28]
abbrev dktX6_opens_6 : List UInt8 := dkwX6_opens_6 ++ dktX6_opens_7
def dkwX6_opens_5 : List UInt8 := [100, 54, 4, 132, 5, 1, 167, 255, 220, 42, 180, 0, 35, 4, 46, 16, 24, 160, 0, 6, 167, 0, 63, 42]
abbrev dktX6_opens_5 : List UInt8 := dkwX6_opens_5 ++ dktX6_opens_6
def dkwX6_opens_4 : List UInt8 := [153, 0, 8, 21, 4, 158, 0, 28, 21, 4, 29, 21, 5, 184, 0, 116, 153, 0, 7, 4, 167, 0, 4, 3]
abbrev dktX6_opens_4 : List UInt8 := dkwX6_opens_4 ++ dktX6_opens_5
def dkwX6_opens_3 : List UInt8 := [167, 0, 129, 42, 29, 184, 1, 93, 182, 1, 119, 54, 4, 3, 54, 5, 29, 21, 5, 184, 0, 116]
abbrev dktX6_opens_3 : List UInt8 := dkwX6_opens_3 ++ dktX6_opens_4
def dkwX6_opens_2 : List UInt8 := [182, 1, 61, 161, 0, 6, 167, 0, 147, 42, 182, 1, 108, 4, 28, 120, 2, 130, 126, 62, 29, 154, 0, 6]
abbrev dktX6_opens_2 : List UInt8 := dkwX6_opens_2 ++ dktX6_opens_3
def dkwX6_opens_1 : List UInt8 := [162, 0, 181, 42, 182, 1, 108, 28, 184, 0, 116, 153, 0, 164, 42, 16, 16, 182, 1, 119, 42, 28]
abbrev dktX6_opens_1 : List UInt8 := dkwX6_opens_1 ++ dktX6_opens_2
def dkwX6_opens_0 : List UInt8 := [42, 180, 0, 35, 16, 7, 92, 46, 4, 96, 79, 3, 60, 3, 61, 28, 42, 180, 0, 35, 3, 46]
abbrev dktX6_opens_0 : List UInt8 := dkwX6_opens_0 ++ dktX6_opens_1
theorem dksX6_opens_0 : cX6_opens.data.toList.drop 0 = dktX6_opens_0 := by decide +kernel
theorem dksX6_opens_1 : cX6_opens.data.toList.drop 22 = dktX6_opens_1 := dk_seg dksX6_opens_0 22 rfl rfl
theorem dksX6_opens_2 : cX6_opens.data.toList.drop 44 = dktX6_opens_2 := dk_seg dksX6_opens_1 22 rfl rfl
theorem dksX6_opens_3 : cX6_opens.data.toList.drop 68 = dktX6_opens_3 := dk_seg dksX6_opens_2 24 rfl rfl
theorem dksX6_opens_4 : cX6_opens.data.toList.drop 90 = dktX6_opens_4 := dk_seg dksX6_opens_3 22 rfl rfl
theorem dksX6_opens_5 : cX6_opens.data.toList.drop 114 = dktX6_opens_5 := dk_seg dksX6_opens_4 24 rfl rfl
theorem dksX6_opens_6 : cX6_opens.data.toList.drop 138 = dktX6_opens_6 := dk_seg dksX6_opens_5 24 rfl rfl
theorem dksX6_opens_7 : cX6_opens.data.toList.drop 162 = dktX6_opens_7 := dk_seg dksX6_opens_6 24 rfl rfl
theorem dksX6_opens_8 : cX6_opens.data.toList.drop 186 = dktX6_opens_8 := dk_seg dksX6_opens_7 24 rfl rfl
theorem dX6_opens_0 : decode cX6_opens 0 = .ok (.aload_n 0, 1) := dk_42 (dk_at dksX6_opens_0 0 rfl rfl)
theorem dX6_opens_1 : decode cX6_opens 1 = .ok (.getfield 35, 3) := dk_180 0 35 (dk_at dksX6_opens_0 1 rfl rfl)
theorem dX6_opens_4 : decode cX6_opens 4 = .ok (.bipush 7, 2) := dk_16 7 (dk_at dksX6_opens_0 4 rfl rfl)
theorem dX6_opens_6 : decode cX6_opens 6 = .ok (.dup2, 1) := dk_92 (dk_at dksX6_opens_0 6 rfl rfl)
theorem dX6_opens_7 : decode cX6_opens 7 = .ok (.iaload, 1) := dk_46 (dk_at dksX6_opens_0 7 rfl rfl)
theorem dX6_opens_8 : decode cX6_opens 8 = .ok (.iconst 1, 1) := dk_4 (dk_at dksX6_opens_0 8 rfl rfl)
theorem dX6_opens_9 : decode cX6_opens 9 = .ok (.iadd, 1) := dk_96 (dk_at dksX6_opens_0 9 rfl rfl)
theorem dX6_opens_10 : decode cX6_opens 10 = .ok (.iastore, 1) := dk_79 (dk_at dksX6_opens_0 10 rfl rfl)
theorem dX6_opens_11 : decode cX6_opens 11 = .ok (.iconst 0, 1) := dk_3 (dk_at dksX6_opens_0 11 rfl rfl)
theorem dX6_opens_12 : decode cX6_opens 12 = .ok (.istore_n 1, 1) := dk_60 (dk_at dksX6_opens_0 12 rfl rfl)
theorem dX6_opens_13 : decode cX6_opens 13 = .ok (.iconst 0, 1) := dk_3 (dk_at dksX6_opens_0 13 rfl rfl)
theorem dX6_opens_14 : decode cX6_opens 14 = .ok (.istore_n 2, 1) := dk_61 (dk_at dksX6_opens_0 14 rfl rfl)
theorem dX6_opens_15 : decode cX6_opens 15 = .ok (.iload_n 2, 1) := dk_28 (dk_at dksX6_opens_0 15 rfl rfl)
theorem dX6_opens_16 : decode cX6_opens 16 = .ok (.aload_n 0, 1) := dk_42 (dk_at dksX6_opens_0 16 rfl rfl)
theorem dX6_opens_17 : decode cX6_opens 17 = .ok (.getfield 35, 3) := dk_180 0 35 (dk_at dksX6_opens_0 17 rfl rfl)
theorem dX6_opens_20 : decode cX6_opens 20 = .ok (.iconst 0, 1) := dk_3 (dk_at dksX6_opens_0 20 rfl rfl)
theorem dX6_opens_21 : decode cX6_opens 21 = .ok (.iaload, 1) := dk_46 (dk_at dksX6_opens_0 21 rfl rfl)
theorem dX6_opens_22 : decode cX6_opens 22 = .ok (.if_icmp .ge 181, 3) := dk_162 0 181 (dk_at dksX6_opens_1 0 rfl rfl)
theorem dX6_opens_25 : decode cX6_opens 25 = .ok (.aload_n 0, 1) := dk_42 (dk_at dksX6_opens_1 3 rfl rfl)
theorem dX6_opens_26 : decode cX6_opens 26 = .ok (.invokevirtual 364, 3) := dk_182 1 108 (dk_at dksX6_opens_1 4 rfl rfl)
theorem dX6_opens_29 : decode cX6_opens 29 = .ok (.iload_n 2, 1) := dk_28 (dk_at dksX6_opens_1 7 rfl rfl)
theorem dX6_opens_30 : decode cX6_opens 30 = .ok (.invokestatic 116, 3) := dk_184 0 116 (dk_at dksX6_opens_1 8 rfl rfl)
theorem dX6_opens_33 : decode cX6_opens 33 = .ok (.ifCond .eq 164, 3) := dk_153 0 164 (dk_at dksX6_opens_1 11 rfl rfl)
theorem dX6_opens_36 : decode cX6_opens 36 = .ok (.aload_n 0, 1) := dk_42 (dk_at dksX6_opens_1 14 rfl rfl)
theorem dX6_opens_37 : decode cX6_opens 37 = .ok (.bipush 16, 2) := dk_16 16 (dk_at dksX6_opens_1 15 rfl rfl)
theorem dX6_opens_39 : decode cX6_opens 39 = .ok (.invokevirtual 375, 3) := dk_182 1 119 (dk_at dksX6_opens_1 17 rfl rfl)
theorem dX6_opens_42 : decode cX6_opens 42 = .ok (.aload_n 0, 1) := dk_42 (dk_at dksX6_opens_1 20 rfl rfl)
theorem dX6_opens_43 : decode cX6_opens 43 = .ok (.iload_n 2, 1) := dk_28 (dk_at dksX6_opens_1 21 rfl rfl)
theorem dX6_opens_44 : decode cX6_opens 44 = .ok (.invokevirtual 317, 3) := dk_182 1 61 (dk_at dksX6_opens_2 0 rfl rfl)
theorem dX6_opens_47 : decode cX6_opens 47 = .ok (.if_icmp .lt 6, 3) := dk_161 0 6 (dk_at dksX6_opens_2 3 rfl rfl)
theorem dX6_opens_50 : decode cX6_opens 50 = .ok (.goto 147, 3) := dk_167 0 147 (dk_at dksX6_opens_2 6 rfl rfl)
theorem dX6_opens_53 : decode cX6_opens 53 = .ok (.aload_n 0, 1) := dk_42 (dk_at dksX6_opens_2 9 rfl rfl)
theorem dX6_opens_54 : decode cX6_opens 54 = .ok (.invokevirtual 364, 3) := dk_182 1 108 (dk_at dksX6_opens_2 10 rfl rfl)
theorem dX6_opens_57 : decode cX6_opens 57 = .ok (.iconst 1, 1) := dk_4 (dk_at dksX6_opens_2 13 rfl rfl)
theorem dX6_opens_58 : decode cX6_opens 58 = .ok (.iload_n 2, 1) := dk_28 (dk_at dksX6_opens_2 14 rfl rfl)
theorem dX6_opens_59 : decode cX6_opens 59 = .ok (.ishl, 1) := dk_120 (dk_at dksX6_opens_2 15 rfl rfl)
theorem dX6_opens_60 : decode cX6_opens 60 = .ok (.iconst (-1), 1) := dk_2 (dk_at dksX6_opens_2 16 rfl rfl)
theorem dX6_opens_61 : decode cX6_opens 61 = .ok (.ixor, 1) := dk_130 (dk_at dksX6_opens_2 17 rfl rfl)
theorem dX6_opens_62 : decode cX6_opens 62 = .ok (.iand, 1) := dk_126 (dk_at dksX6_opens_2 18 rfl rfl)
theorem dX6_opens_63 : decode cX6_opens 63 = .ok (.istore_n 3, 1) := dk_62 (dk_at dksX6_opens_2 19 rfl rfl)
theorem dX6_opens_64 : decode cX6_opens 64 = .ok (.iload_n 3, 1) := dk_29 (dk_at dksX6_opens_2 20 rfl rfl)
theorem dX6_opens_65 : decode cX6_opens 65 = .ok (.ifCond .ne 6, 3) := dk_154 0 6 (dk_at dksX6_opens_2 21 rfl rfl)
theorem dX6_opens_68 : decode cX6_opens 68 = .ok (.goto 129, 3) := dk_167 0 129 (dk_at dksX6_opens_3 0 rfl rfl)
theorem dX6_opens_71 : decode cX6_opens 71 = .ok (.aload_n 0, 1) := dk_42 (dk_at dksX6_opens_3 3 rfl rfl)
theorem dX6_opens_72 : decode cX6_opens 72 = .ok (.iload_n 3, 1) := dk_29 (dk_at dksX6_opens_3 4 rfl rfl)
theorem dX6_opens_73 : decode cX6_opens 73 = .ok (.invokestatic 349, 3) := dk_184 1 93 (dk_at dksX6_opens_3 5 rfl rfl)
theorem dX6_opens_76 : decode cX6_opens 76 = .ok (.invokevirtual 375, 3) := dk_182 1 119 (dk_at dksX6_opens_3 8 rfl rfl)
theorem dX6_opens_79 : decode cX6_opens 79 = .ok (.istore 4, 2) := dk_54 4 (dk_at dksX6_opens_3 11 rfl rfl)
theorem dX6_opens_81 : decode cX6_opens 81 = .ok (.iconst 0, 1) := dk_3 (dk_at dksX6_opens_3 13 rfl rfl)
theorem dX6_opens_82 : decode cX6_opens 82 = .ok (.istore 5, 2) := dk_54 5 (dk_at dksX6_opens_3 14 rfl rfl)
theorem dX6_opens_84 : decode cX6_opens 84 = .ok (.iload_n 3, 1) := dk_29 (dk_at dksX6_opens_3 16 rfl rfl)
theorem dX6_opens_85 : decode cX6_opens 85 = .ok (.iload 5, 2) := dk_21 5 (dk_at dksX6_opens_3 17 rfl rfl)
theorem dX6_opens_87 : decode cX6_opens 87 = .ok (.invokestatic 116, 3) := dk_184 0 116 (dk_at dksX6_opens_3 19 rfl rfl)
theorem dX6_opens_90 : decode cX6_opens 90 = .ok (.ifCond .eq 8, 3) := dk_153 0 8 (dk_at dksX6_opens_4 0 rfl rfl)
theorem dX6_opens_93 : decode cX6_opens 93 = .ok (.iload 4, 2) := dk_21 4 (dk_at dksX6_opens_4 3 rfl rfl)
theorem dX6_opens_95 : decode cX6_opens 95 = .ok (.ifCond .le 28, 3) := dk_158 0 28 (dk_at dksX6_opens_4 5 rfl rfl)
theorem dX6_opens_98 : decode cX6_opens 98 = .ok (.iload 4, 2) := dk_21 4 (dk_at dksX6_opens_4 8 rfl rfl)
theorem dX6_opens_100 : decode cX6_opens 100 = .ok (.iload_n 3, 1) := dk_29 (dk_at dksX6_opens_4 10 rfl rfl)
theorem dX6_opens_101 : decode cX6_opens 101 = .ok (.iload 5, 2) := dk_21 5 (dk_at dksX6_opens_4 11 rfl rfl)
theorem dX6_opens_103 : decode cX6_opens 103 = .ok (.invokestatic 116, 3) := dk_184 0 116 (dk_at dksX6_opens_4 13 rfl rfl)
theorem dX6_opens_106 : decode cX6_opens 106 = .ok (.ifCond .eq 7, 3) := dk_153 0 7 (dk_at dksX6_opens_4 16 rfl rfl)
theorem dX6_opens_109 : decode cX6_opens 109 = .ok (.iconst 1, 1) := dk_4 (dk_at dksX6_opens_4 19 rfl rfl)
theorem dX6_opens_110 : decode cX6_opens 110 = .ok (.goto 4, 3) := dk_167 0 4 (dk_at dksX6_opens_4 20 rfl rfl)
theorem dX6_opens_113 : decode cX6_opens 113 = .ok (.iconst 0, 1) := dk_3 (dk_at dksX6_opens_4 23 rfl rfl)
theorem dX6_opens_114 : decode cX6_opens 114 = .ok (.isub, 1) := dk_100 (dk_at dksX6_opens_5 0 rfl rfl)
theorem dX6_opens_115 : decode cX6_opens 115 = .ok (.istore 4, 2) := dk_54 4 (dk_at dksX6_opens_5 1 rfl rfl)
theorem dX6_opens_117 : decode cX6_opens 117 = .ok (.iinc 5 1, 3) := dk_132 5 1 (dk_at dksX6_opens_5 3 rfl rfl)
theorem dX6_opens_120 : decode cX6_opens 120 = .ok (.goto (-36), 3) := dk_167 255 220 (dk_at dksX6_opens_5 6 rfl rfl)
theorem dX6_opens_123 : decode cX6_opens 123 = .ok (.aload_n 0, 1) := dk_42 (dk_at dksX6_opens_5 9 rfl rfl)
theorem dX6_opens_124 : decode cX6_opens 124 = .ok (.getfield 35, 3) := dk_180 0 35 (dk_at dksX6_opens_5 10 rfl rfl)
theorem dX6_opens_127 : decode cX6_opens 127 = .ok (.iconst 1, 1) := dk_4 (dk_at dksX6_opens_5 13 rfl rfl)
theorem dX6_opens_128 : decode cX6_opens 128 = .ok (.iaload, 1) := dk_46 (dk_at dksX6_opens_5 14 rfl rfl)
theorem dX6_opens_129 : decode cX6_opens 129 = .ok (.bipush 24, 2) := dk_16 24 (dk_at dksX6_opens_5 15 rfl rfl)
theorem dX6_opens_131 : decode cX6_opens 131 = .ok (.if_icmp .ne 6, 3) := dk_160 0 6 (dk_at dksX6_opens_5 17 rfl rfl)
theorem dX6_opens_134 : decode cX6_opens 134 = .ok (.goto 63, 3) := dk_167 0 63 (dk_at dksX6_opens_5 20 rfl rfl)
theorem dX6_opens_137 : decode cX6_opens 137 = .ok (.aload_n 0, 1) := dk_42 (dk_at dksX6_opens_5 23 rfl rfl)
theorem dX6_opens_138 : decode cX6_opens 138 = .ok (.getfield 35, 3) := dk_180 0 35 (dk_at dksX6_opens_6 0 rfl rfl)
theorem dX6_opens_141 : decode cX6_opens 141 = .ok (.bipush 24, 2) := dk_16 24 (dk_at dksX6_opens_6 3 rfl rfl)
theorem dX6_opens_143 : decode cX6_opens 143 = .ok (.iload_n 2, 1) := dk_28 (dk_at dksX6_opens_6 5 rfl rfl)
theorem dX6_opens_144 : decode cX6_opens 144 = .ok (.iadd, 1) := dk_96 (dk_at dksX6_opens_6 6 rfl rfl)
theorem dX6_opens_145 : decode cX6_opens 145 = .ok (.iaload, 1) := dk_46 (dk_at dksX6_opens_6 7 rfl rfl)
theorem dX6_opens_146 : decode cX6_opens 146 = .ok (.aload_n 0, 1) := dk_42 (dk_at dksX6_opens_6 8 rfl rfl)
theorem dX6_opens_147 : decode cX6_opens 147 = .ok (.getfield 35, 3) := dk_180 0 35 (dk_at dksX6_opens_6 9 rfl rfl)
theorem dX6_opens_150 : decode cX6_opens 150 = .ok (.bipush 32, 2) := dk_16 32 (dk_at dksX6_opens_6 12 rfl rfl)
theorem dX6_opens_152 : decode cX6_opens 152 = .ok (.iload_n 2, 1) := dk_28 (dk_at dksX6_opens_6 14 rfl rfl)
theorem dX6_opens_153 : decode cX6_opens 153 = .ok (.iadd, 1) := dk_96 (dk_at dksX6_opens_6 15 rfl rfl)
theorem dX6_opens_154 : decode cX6_opens 154 = .ok (.iaload, 1) := dk_46 (dk_at dksX6_opens_6 16 rfl rfl)
theorem dX6_opens_155 : decode cX6_opens 155 = .ok (.invokestatic 303, 3) := dk_184 1 47 (dk_at dksX6_opens_6 17 rfl rfl)
theorem dX6_opens_158 : decode cX6_opens 158 = .ok (.istore 6, 2) := dk_54 6 (dk_at dksX6_opens_6 20 rfl rfl)
theorem dX6_opens_160 : decode cX6_opens 160 = .ok (.aload_n 0, 1) := dk_42 (dk_at dksX6_opens_6 22 rfl rfl)
theorem dX6_opens_161 : decode cX6_opens 161 = .ok (.iload_n 2, 1) := dk_28 (dk_at dksX6_opens_6 23 rfl rfl)
theorem dX6_opens_162 : decode cX6_opens 162 = .ok (.iload 5, 2) := dk_21 5 (dk_at dksX6_opens_7 0 rfl rfl)
theorem dX6_opens_164 : decode cX6_opens 164 = .ok (.iload 6, 2) := dk_21 6 (dk_at dksX6_opens_7 2 rfl rfl)
theorem dX6_opens_166 : decode cX6_opens 166 = .ok (.bipush 9, 2) := dk_16 9 (dk_at dksX6_opens_7 4 rfl rfl)
theorem dX6_opens_168 : decode cX6_opens 168 = .ok (.aload_n 0, 1) := dk_42 (dk_at dksX6_opens_7 6 rfl rfl)
theorem dX6_opens_169 : decode cX6_opens 169 = .ok (.getfield 35, 3) := dk_180 0 35 (dk_at dksX6_opens_7 7 rfl rfl)
theorem dX6_opens_172 : decode cX6_opens 172 = .ok (.bipush 16, 2) := dk_16 16 (dk_at dksX6_opens_7 10 rfl rfl)
theorem dX6_opens_174 : decode cX6_opens 174 = .ok (.iload 5, 2) := dk_21 5 (dk_at dksX6_opens_7 12 rfl rfl)
theorem dX6_opens_176 : decode cX6_opens 176 = .ok (.iadd, 1) := dk_96 (dk_at dksX6_opens_7 14 rfl rfl)
theorem dX6_opens_177 : decode cX6_opens 177 = .ok (.iaload, 1) := dk_46 (dk_at dksX6_opens_7 15 rfl rfl)
theorem dX6_opens_178 : decode cX6_opens 178 = .ok (.iconst 2, 1) := dk_5 (dk_at dksX6_opens_7 16 rfl rfl)
theorem dX6_opens_179 : decode cX6_opens 179 = .ok (.iadd, 1) := dk_96 (dk_at dksX6_opens_7 17 rfl rfl)
theorem dX6_opens_180 : decode cX6_opens 180 = .ok (.invokestatic 303, 3) := dk_184 1 47 (dk_at dksX6_opens_7 18 rfl rfl)
theorem dX6_opens_183 : decode cX6_opens 183 = .ok (.if_icmp .ge 7, 3) := dk_162 0 7 (dk_at dksX6_opens_7 21 rfl rfl)
theorem dX6_opens_186 : decode cX6_opens 186 = .ok (.iconst 1, 1) := dk_4 (dk_at dksX6_opens_8 0 rfl rfl)
theorem dX6_opens_187 : decode cX6_opens 187 = .ok (.goto 4, 3) := dk_167 0 4 (dk_at dksX6_opens_8 1 rfl rfl)
theorem dX6_opens_190 : decode cX6_opens 190 = .ok (.iconst 0, 1) := dk_3 (dk_at dksX6_opens_8 4 rfl rfl)
theorem dX6_opens_191 : decode cX6_opens 191 = .ok (.invokevirtual 367, 3) := dk_182 1 111 (dk_at dksX6_opens_8 5 rfl rfl)
theorem dX6_opens_194 : decode cX6_opens 194 = .ok (.iinc 1 1, 3) := dk_132 1 1 (dk_at dksX6_opens_8 8 rfl rfl)
theorem dX6_opens_197 : decode cX6_opens 197 = .ok (.iinc 2 1, 3) := dk_132 2 1 (dk_at dksX6_opens_8 11 rfl rfl)
theorem dX6_opens_200 : decode cX6_opens 200 = .ok (.goto (-185), 3) := dk_167 255 71 (dk_at dksX6_opens_8 14 rfl rfl)
theorem dX6_opens_203 : decode cX6_opens 203 = .ok (.iload_n 1, 1) := dk_27 (dk_at dksX6_opens_8 17 rfl rfl)
theorem dX6_opens_204 : decode cX6_opens 204 = .ok (.ireturn, 1) := dk_172 (dk_at dksX6_opens_8 18 rfl rfl)
abbrev cX6_draw : ByteArray := prog_16_method_98_code
def yX6_draw : MethodName := ⟨RX6, "draw", "(I)I"⟩
def dkwX6_draw_1 : List UInt8 := [16, 8, 108, 27, 112, 172]
abbrev dktX6_draw_1 : List UInt8 := dkwX6_draw_1 ++ []
def dkwX6_draw_0 : List UInt8 := [42, 42, 180, 1, 115, 17, 11, 81, 104, 17, 41, 33, 96, 19, 1, 118, 112, 181, 1, 115, 42, 180, 1, 115]
abbrev dktX6_draw_0 : List UInt8 := dkwX6_draw_0 ++ dktX6_draw_1
theorem dksX6_draw_0 : cX6_draw.data.toList.drop 0 = dktX6_draw_0 := by decide +kernel
theorem dksX6_draw_1 : cX6_draw.data.toList.drop 24 = dktX6_draw_1 := dk_seg dksX6_draw_0 24 rfl rfl
theorem dX6_draw_0 : decode cX6_draw 0 = .ok (.aload_n 0, 1) := dk_42 (dk_at dksX6_draw_0 0 rfl rfl)
theorem dX6_draw_1 : decode cX6_draw 1 = .ok (.aload_n 0, 1) := dk_42 (dk_at dksX6_draw_0 1 rfl rfl)
theorem dX6_draw_2 : decode cX6_draw 2 = .ok (.getfield 371, 3) := dk_180 1 115 (dk_at dksX6_draw_0 2 rfl rfl)
theorem dX6_draw_5 : decode cX6_draw 5 = .ok (.sipush 2897, 3) := dk_17 11 81 (dk_at dksX6_draw_0 5 rfl rfl)
theorem dX6_draw_8 : decode cX6_draw 8 = .ok (.imul, 1) := dk_104 (dk_at dksX6_draw_0 8 rfl rfl)
theorem dX6_draw_9 : decode cX6_draw 9 = .ok (.sipush 10529, 3) := dk_17 41 33 (dk_at dksX6_draw_0 9 rfl rfl)
theorem dX6_draw_12 : decode cX6_draw 12 = .ok (.iadd, 1) := dk_96 (dk_at dksX6_draw_0 12 rfl rfl)
theorem dX6_draw_13 : decode cX6_draw 13 = .ok (.ldc_w 374, 3) := dk_19 1 118 (dk_at dksX6_draw_0 13 rfl rfl)
theorem dX6_draw_16 : decode cX6_draw 16 = .ok (.irem, 1) := dk_112 (dk_at dksX6_draw_0 16 rfl rfl)
theorem dX6_draw_17 : decode cX6_draw 17 = .ok (.putfield 371, 3) := dk_181 1 115 (dk_at dksX6_draw_0 17 rfl rfl)
theorem dX6_draw_20 : decode cX6_draw 20 = .ok (.aload_n 0, 1) := dk_42 (dk_at dksX6_draw_0 20 rfl rfl)
theorem dX6_draw_21 : decode cX6_draw 21 = .ok (.getfield 371, 3) := dk_180 1 115 (dk_at dksX6_draw_0 21 rfl rfl)
theorem dX6_draw_24 : decode cX6_draw 24 = .ok (.bipush 8, 2) := dk_16 8 (dk_at dksX6_draw_1 0 rfl rfl)
theorem dX6_draw_26 : decode cX6_draw 26 = .ok (.idiv, 1) := dk_108 (dk_at dksX6_draw_1 2 rfl rfl)
theorem dX6_draw_27 : decode cX6_draw 27 = .ok (.iload_n 1, 1) := dk_27 (dk_at dksX6_draw_1 3 rfl rfl)
theorem dX6_draw_28 : decode cX6_draw 28 = .ok (.irem, 1) := dk_112 (dk_at dksX6_draw_1 4 rfl rfl)
theorem dX6_draw_29 : decode cX6_draw 29 = .ok (.ireturn, 1) := dk_172 (dk_at dksX6_draw_1 5 rfl rfl)
abbrev cX6_lump : ByteArray := prog_16_method_101_code
def yX6_lump : MethodName := ⟨RX6, "lump", "(I)I"⟩
def dkwX6_lump_1 : List UInt8 := [42, 27, 182, 1, 81, 153, 0, 11, 42, 27, 182, 1, 90, 167, 0, 9, 42, 16, 9, 182, 1, 52, 172]
abbrev dktX6_lump_1 : List UInt8 := dkwX6_lump_1 ++ []
def dkwX6_lump_0 : List UInt8 := [42, 3, 181, 0, 77, 42, 3, 181, 0, 80, 42, 27, 182, 1, 55, 154, 0, 9, 42, 5, 182, 1, 52, 172]
abbrev dktX6_lump_0 : List UInt8 := dkwX6_lump_0 ++ dktX6_lump_1
theorem dksX6_lump_0 : cX6_lump.data.toList.drop 0 = dktX6_lump_0 := by decide +kernel
theorem dksX6_lump_1 : cX6_lump.data.toList.drop 24 = dktX6_lump_1 := dk_seg dksX6_lump_0 24 rfl rfl
theorem dX6_lump_0 : decode cX6_lump 0 = .ok (.aload_n 0, 1) := dk_42 (dk_at dksX6_lump_0 0 rfl rfl)
theorem dX6_lump_1 : decode cX6_lump 1 = .ok (.iconst 0, 1) := dk_3 (dk_at dksX6_lump_0 1 rfl rfl)
theorem dX6_lump_2 : decode cX6_lump 2 = .ok (.putfield 77, 3) := dk_181 0 77 (dk_at dksX6_lump_0 2 rfl rfl)
theorem dX6_lump_5 : decode cX6_lump 5 = .ok (.aload_n 0, 1) := dk_42 (dk_at dksX6_lump_0 5 rfl rfl)
theorem dX6_lump_6 : decode cX6_lump 6 = .ok (.iconst 0, 1) := dk_3 (dk_at dksX6_lump_0 6 rfl rfl)
theorem dX6_lump_7 : decode cX6_lump 7 = .ok (.putfield 80, 3) := dk_181 0 80 (dk_at dksX6_lump_0 7 rfl rfl)
theorem dX6_lump_10 : decode cX6_lump 10 = .ok (.aload_n 0, 1) := dk_42 (dk_at dksX6_lump_0 10 rfl rfl)
theorem dX6_lump_11 : decode cX6_lump 11 = .ok (.iload_n 1, 1) := dk_27 (dk_at dksX6_lump_0 11 rfl rfl)
theorem dX6_lump_12 : decode cX6_lump 12 = .ok (.invokevirtual 311, 3) := dk_182 1 55 (dk_at dksX6_lump_0 12 rfl rfl)
theorem dX6_lump_15 : decode cX6_lump 15 = .ok (.ifCond .ne 9, 3) := dk_154 0 9 (dk_at dksX6_lump_0 15 rfl rfl)
theorem dX6_lump_18 : decode cX6_lump 18 = .ok (.aload_n 0, 1) := dk_42 (dk_at dksX6_lump_0 18 rfl rfl)
theorem dX6_lump_19 : decode cX6_lump 19 = .ok (.iconst 2, 1) := dk_5 (dk_at dksX6_lump_0 19 rfl rfl)
theorem dX6_lump_20 : decode cX6_lump 20 = .ok (.invokevirtual 308, 3) := dk_182 1 52 (dk_at dksX6_lump_0 20 rfl rfl)
theorem dX6_lump_23 : decode cX6_lump 23 = .ok (.ireturn, 1) := dk_172 (dk_at dksX6_lump_0 23 rfl rfl)
theorem dX6_lump_24 : decode cX6_lump 24 = .ok (.aload_n 0, 1) := dk_42 (dk_at dksX6_lump_1 0 rfl rfl)
theorem dX6_lump_25 : decode cX6_lump 25 = .ok (.iload_n 1, 1) := dk_27 (dk_at dksX6_lump_1 1 rfl rfl)
theorem dX6_lump_26 : decode cX6_lump 26 = .ok (.invokevirtual 337, 3) := dk_182 1 81 (dk_at dksX6_lump_1 2 rfl rfl)
theorem dX6_lump_29 : decode cX6_lump 29 = .ok (.ifCond .eq 11, 3) := dk_153 0 11 (dk_at dksX6_lump_1 5 rfl rfl)
theorem dX6_lump_32 : decode cX6_lump 32 = .ok (.aload_n 0, 1) := dk_42 (dk_at dksX6_lump_1 8 rfl rfl)
theorem dX6_lump_33 : decode cX6_lump 33 = .ok (.iload_n 1, 1) := dk_27 (dk_at dksX6_lump_1 9 rfl rfl)
theorem dX6_lump_34 : decode cX6_lump 34 = .ok (.invokevirtual 346, 3) := dk_182 1 90 (dk_at dksX6_lump_1 10 rfl rfl)
theorem dX6_lump_37 : decode cX6_lump 37 = .ok (.goto 9, 3) := dk_167 0 9 (dk_at dksX6_lump_1 13 rfl rfl)
theorem dX6_lump_40 : decode cX6_lump 40 = .ok (.aload_n 0, 1) := dk_42 (dk_at dksX6_lump_1 16 rfl rfl)
theorem dX6_lump_41 : decode cX6_lump 41 = .ok (.bipush 9, 2) := dk_16 9 (dk_at dksX6_lump_1 17 rfl rfl)
theorem dX6_lump_43 : decode cX6_lump 43 = .ok (.invokevirtual 308, 3) := dk_182 1 52 (dk_at dksX6_lump_1 19 rfl rfl)
theorem dX6_lump_46 : decode cX6_lump 46 = .ok (.ireturn, 1) := dk_172 (dk_at dksX6_lump_1 22 rfl rfl)
abbrev cX6_lumps : ByteArray := prog_16_method_103_code
def yX6_lumps : MethodName := ⟨RX6, "lumps", "(I)I"⟩
def dkwX6_lumps_4 : List UInt8 := [184, 1, 93, 4, 164, 0, 7, 4, 167, 0, 4, 3, 96, 61, 132, 4, 1, 167, 255, 191, 28, 172]
abbrev dktX6_lumps_4 : List UInt8 := dkwX6_lumps_4 ++ []
def dkwX6_lumps_3 : List UInt8 := [153, 0, 6, 167, 0, 33, 29, 42, 21, 4, 182, 1, 90, 128, 62, 28, 42, 21, 4, 182, 1, 90]
abbrev dktX6_lumps_3 : List UInt8 := dkwX6_lumps_3 ++ dktX6_lumps_4
def dkwX6_lumps_2 : List UInt8 := [42, 180, 0, 35, 3, 46, 162, 0, 60, 42, 21, 4, 182, 1, 81, 153, 0, 45, 29, 21, 4, 184, 0, 116]
abbrev dktX6_lumps_2 : List UInt8 := dkwX6_lumps_2 ++ dktX6_lumps_3
def dkwX6_lumps_1 : List UInt8 := [182, 1, 52, 172, 27, 4, 160, 0, 9, 42, 2, 182, 1, 127, 172, 3, 61, 3, 62, 3, 54, 4, 21, 4]
abbrev dktX6_lumps_1 : List UInt8 := dkwX6_lumps_1 ++ dktX6_lumps_2
def dkwX6_lumps_0 : List UInt8 := [42, 3, 181, 0, 77, 42, 3, 181, 0, 80, 27, 133, 9, 10, 184, 0, 112, 154, 0, 9, 42, 8]
abbrev dktX6_lumps_0 : List UInt8 := dkwX6_lumps_0 ++ dktX6_lumps_1
theorem dksX6_lumps_0 : cX6_lumps.data.toList.drop 0 = dktX6_lumps_0 := by decide +kernel
theorem dksX6_lumps_1 : cX6_lumps.data.toList.drop 22 = dktX6_lumps_1 := dk_seg dksX6_lumps_0 22 rfl rfl
theorem dksX6_lumps_2 : cX6_lumps.data.toList.drop 46 = dktX6_lumps_2 := dk_seg dksX6_lumps_1 24 rfl rfl
theorem dksX6_lumps_3 : cX6_lumps.data.toList.drop 70 = dktX6_lumps_3 := dk_seg dksX6_lumps_2 24 rfl rfl
theorem dksX6_lumps_4 : cX6_lumps.data.toList.drop 92 = dktX6_lumps_4 := dk_seg dksX6_lumps_3 22 rfl rfl
theorem dX6_lumps_0 : decode cX6_lumps 0 = .ok (.aload_n 0, 1) := dk_42 (dk_at dksX6_lumps_0 0 rfl rfl)
theorem dX6_lumps_1 : decode cX6_lumps 1 = .ok (.iconst 0, 1) := dk_3 (dk_at dksX6_lumps_0 1 rfl rfl)
theorem dX6_lumps_2 : decode cX6_lumps 2 = .ok (.putfield 77, 3) := dk_181 0 77 (dk_at dksX6_lumps_0 2 rfl rfl)
theorem dX6_lumps_5 : decode cX6_lumps 5 = .ok (.aload_n 0, 1) := dk_42 (dk_at dksX6_lumps_0 5 rfl rfl)
theorem dX6_lumps_6 : decode cX6_lumps 6 = .ok (.iconst 0, 1) := dk_3 (dk_at dksX6_lumps_0 6 rfl rfl)
theorem dX6_lumps_7 : decode cX6_lumps 7 = .ok (.putfield 80, 3) := dk_181 0 80 (dk_at dksX6_lumps_0 7 rfl rfl)
theorem dX6_lumps_10 : decode cX6_lumps 10 = .ok (.iload_n 1, 1) := dk_27 (dk_at dksX6_lumps_0 10 rfl rfl)
theorem dX6_lumps_11 : decode cX6_lumps 11 = .ok (.i2l, 1) := dk_133 (dk_at dksX6_lumps_0 11 rfl rfl)
theorem dX6_lumps_12 : decode cX6_lumps 12 = .ok (.lconst 0, 1) := dk_9 (dk_at dksX6_lumps_0 12 rfl rfl)
theorem dX6_lumps_13 : decode cX6_lumps 13 = .ok (.lconst 1, 1) := dk_10 (dk_at dksX6_lumps_0 13 rfl rfl)
theorem dX6_lumps_14 : decode cX6_lumps 14 = .ok (.invokestatic 112, 3) := dk_184 0 112 (dk_at dksX6_lumps_0 14 rfl rfl)
theorem dX6_lumps_17 : decode cX6_lumps 17 = .ok (.ifCond .ne 9, 3) := dk_154 0 9 (dk_at dksX6_lumps_0 17 rfl rfl)
theorem dX6_lumps_20 : decode cX6_lumps 20 = .ok (.aload_n 0, 1) := dk_42 (dk_at dksX6_lumps_0 20 rfl rfl)
theorem dX6_lumps_21 : decode cX6_lumps 21 = .ok (.iconst 5, 1) := dk_8 (dk_at dksX6_lumps_0 21 rfl rfl)
theorem dX6_lumps_22 : decode cX6_lumps 22 = .ok (.invokevirtual 308, 3) := dk_182 1 52 (dk_at dksX6_lumps_1 0 rfl rfl)
theorem dX6_lumps_25 : decode cX6_lumps 25 = .ok (.ireturn, 1) := dk_172 (dk_at dksX6_lumps_1 3 rfl rfl)
theorem dX6_lumps_26 : decode cX6_lumps 26 = .ok (.iload_n 1, 1) := dk_27 (dk_at dksX6_lumps_1 4 rfl rfl)
theorem dX6_lumps_27 : decode cX6_lumps 27 = .ok (.iconst 1, 1) := dk_4 (dk_at dksX6_lumps_1 5 rfl rfl)
theorem dX6_lumps_28 : decode cX6_lumps 28 = .ok (.if_icmp .ne 9, 3) := dk_160 0 9 (dk_at dksX6_lumps_1 6 rfl rfl)
theorem dX6_lumps_31 : decode cX6_lumps 31 = .ok (.aload_n 0, 1) := dk_42 (dk_at dksX6_lumps_1 9 rfl rfl)
theorem dX6_lumps_32 : decode cX6_lumps 32 = .ok (.iconst (-1), 1) := dk_2 (dk_at dksX6_lumps_1 10 rfl rfl)
theorem dX6_lumps_33 : decode cX6_lumps 33 = .ok (.invokevirtual 383, 3) := dk_182 1 127 (dk_at dksX6_lumps_1 11 rfl rfl)
theorem dX6_lumps_36 : decode cX6_lumps 36 = .ok (.ireturn, 1) := dk_172 (dk_at dksX6_lumps_1 14 rfl rfl)
theorem dX6_lumps_37 : decode cX6_lumps 37 = .ok (.iconst 0, 1) := dk_3 (dk_at dksX6_lumps_1 15 rfl rfl)
theorem dX6_lumps_38 : decode cX6_lumps 38 = .ok (.istore_n 2, 1) := dk_61 (dk_at dksX6_lumps_1 16 rfl rfl)
theorem dX6_lumps_39 : decode cX6_lumps 39 = .ok (.iconst 0, 1) := dk_3 (dk_at dksX6_lumps_1 17 rfl rfl)
theorem dX6_lumps_40 : decode cX6_lumps 40 = .ok (.istore_n 3, 1) := dk_62 (dk_at dksX6_lumps_1 18 rfl rfl)
theorem dX6_lumps_41 : decode cX6_lumps 41 = .ok (.iconst 0, 1) := dk_3 (dk_at dksX6_lumps_1 19 rfl rfl)
theorem dX6_lumps_42 : decode cX6_lumps 42 = .ok (.istore 4, 2) := dk_54 4 (dk_at dksX6_lumps_1 20 rfl rfl)
theorem dX6_lumps_44 : decode cX6_lumps 44 = .ok (.iload 4, 2) := dk_21 4 (dk_at dksX6_lumps_1 22 rfl rfl)
theorem dX6_lumps_46 : decode cX6_lumps 46 = .ok (.aload_n 0, 1) := dk_42 (dk_at dksX6_lumps_2 0 rfl rfl)
theorem dX6_lumps_47 : decode cX6_lumps 47 = .ok (.getfield 35, 3) := dk_180 0 35 (dk_at dksX6_lumps_2 1 rfl rfl)
theorem dX6_lumps_50 : decode cX6_lumps 50 = .ok (.iconst 0, 1) := dk_3 (dk_at dksX6_lumps_2 4 rfl rfl)
theorem dX6_lumps_51 : decode cX6_lumps 51 = .ok (.iaload, 1) := dk_46 (dk_at dksX6_lumps_2 5 rfl rfl)
theorem dX6_lumps_52 : decode cX6_lumps 52 = .ok (.if_icmp .ge 60, 3) := dk_162 0 60 (dk_at dksX6_lumps_2 6 rfl rfl)
theorem dX6_lumps_55 : decode cX6_lumps 55 = .ok (.aload_n 0, 1) := dk_42 (dk_at dksX6_lumps_2 9 rfl rfl)
theorem dX6_lumps_56 : decode cX6_lumps 56 = .ok (.iload 4, 2) := dk_21 4 (dk_at dksX6_lumps_2 10 rfl rfl)
theorem dX6_lumps_58 : decode cX6_lumps 58 = .ok (.invokevirtual 337, 3) := dk_182 1 81 (dk_at dksX6_lumps_2 12 rfl rfl)
theorem dX6_lumps_61 : decode cX6_lumps 61 = .ok (.ifCond .eq 45, 3) := dk_153 0 45 (dk_at dksX6_lumps_2 15 rfl rfl)
theorem dX6_lumps_64 : decode cX6_lumps 64 = .ok (.iload_n 3, 1) := dk_29 (dk_at dksX6_lumps_2 18 rfl rfl)
theorem dX6_lumps_65 : decode cX6_lumps 65 = .ok (.iload 4, 2) := dk_21 4 (dk_at dksX6_lumps_2 19 rfl rfl)
theorem dX6_lumps_67 : decode cX6_lumps 67 = .ok (.invokestatic 116, 3) := dk_184 0 116 (dk_at dksX6_lumps_2 21 rfl rfl)
theorem dX6_lumps_70 : decode cX6_lumps 70 = .ok (.ifCond .eq 6, 3) := dk_153 0 6 (dk_at dksX6_lumps_3 0 rfl rfl)
theorem dX6_lumps_73 : decode cX6_lumps 73 = .ok (.goto 33, 3) := dk_167 0 33 (dk_at dksX6_lumps_3 3 rfl rfl)
theorem dX6_lumps_76 : decode cX6_lumps 76 = .ok (.iload_n 3, 1) := dk_29 (dk_at dksX6_lumps_3 6 rfl rfl)
theorem dX6_lumps_77 : decode cX6_lumps 77 = .ok (.aload_n 0, 1) := dk_42 (dk_at dksX6_lumps_3 7 rfl rfl)
theorem dX6_lumps_78 : decode cX6_lumps 78 = .ok (.iload 4, 2) := dk_21 4 (dk_at dksX6_lumps_3 8 rfl rfl)
theorem dX6_lumps_80 : decode cX6_lumps 80 = .ok (.invokevirtual 346, 3) := dk_182 1 90 (dk_at dksX6_lumps_3 10 rfl rfl)
theorem dX6_lumps_83 : decode cX6_lumps 83 = .ok (.ior, 1) := dk_128 (dk_at dksX6_lumps_3 13 rfl rfl)
theorem dX6_lumps_84 : decode cX6_lumps 84 = .ok (.istore_n 3, 1) := dk_62 (dk_at dksX6_lumps_3 14 rfl rfl)
theorem dX6_lumps_85 : decode cX6_lumps 85 = .ok (.iload_n 2, 1) := dk_28 (dk_at dksX6_lumps_3 15 rfl rfl)
theorem dX6_lumps_86 : decode cX6_lumps 86 = .ok (.aload_n 0, 1) := dk_42 (dk_at dksX6_lumps_3 16 rfl rfl)
theorem dX6_lumps_87 : decode cX6_lumps 87 = .ok (.iload 4, 2) := dk_21 4 (dk_at dksX6_lumps_3 17 rfl rfl)
theorem dX6_lumps_89 : decode cX6_lumps 89 = .ok (.invokevirtual 346, 3) := dk_182 1 90 (dk_at dksX6_lumps_3 19 rfl rfl)
theorem dX6_lumps_92 : decode cX6_lumps 92 = .ok (.invokestatic 349, 3) := dk_184 1 93 (dk_at dksX6_lumps_4 0 rfl rfl)
theorem dX6_lumps_95 : decode cX6_lumps 95 = .ok (.iconst 1, 1) := dk_4 (dk_at dksX6_lumps_4 3 rfl rfl)
theorem dX6_lumps_96 : decode cX6_lumps 96 = .ok (.if_icmp .le 7, 3) := dk_164 0 7 (dk_at dksX6_lumps_4 4 rfl rfl)
theorem dX6_lumps_99 : decode cX6_lumps 99 = .ok (.iconst 1, 1) := dk_4 (dk_at dksX6_lumps_4 7 rfl rfl)
theorem dX6_lumps_100 : decode cX6_lumps 100 = .ok (.goto 4, 3) := dk_167 0 4 (dk_at dksX6_lumps_4 8 rfl rfl)
theorem dX6_lumps_103 : decode cX6_lumps 103 = .ok (.iconst 0, 1) := dk_3 (dk_at dksX6_lumps_4 11 rfl rfl)
theorem dX6_lumps_104 : decode cX6_lumps 104 = .ok (.iadd, 1) := dk_96 (dk_at dksX6_lumps_4 12 rfl rfl)
theorem dX6_lumps_105 : decode cX6_lumps 105 = .ok (.istore_n 2, 1) := dk_61 (dk_at dksX6_lumps_4 13 rfl rfl)
theorem dX6_lumps_106 : decode cX6_lumps 106 = .ok (.iinc 4 1, 3) := dk_132 4 1 (dk_at dksX6_lumps_4 14 rfl rfl)
theorem dX6_lumps_109 : decode cX6_lumps 109 = .ok (.goto (-65), 3) := dk_167 255 191 (dk_at dksX6_lumps_4 17 rfl rfl)
theorem dX6_lumps_112 : decode cX6_lumps 112 = .ok (.iload_n 2, 1) := dk_28 (dk_at dksX6_lumps_4 20 rfl rfl)
theorem dX6_lumps_113 : decode cX6_lumps 113 = .ok (.ireturn, 1) := dk_172 (dk_at dksX6_lumps_4 21 rfl rfl)
abbrev cX6_largest : ByteArray := prog_16_method_102_code
def yX6_largest : MethodName := ⟨RX6, "largest", "(I)I"⟩
def dkwX6_largest_1 : List UInt8 := [159, 0, 16, 28, 42, 29, 182, 1, 90, 184, 1, 93, 184, 0, 248, 61, 132, 3, 1, 167, 255, 217, 28, 172]
abbrev dktX6_largest_1 : List UInt8 := dkwX6_largest_1 ++ []
def dkwX6_largest_0 : List UInt8 := [3, 61, 3, 62, 29, 42, 180, 0, 35, 3, 46, 162, 0, 35, 42, 29, 182, 1, 81, 153, 0, 21, 29, 27]
abbrev dktX6_largest_0 : List UInt8 := dkwX6_largest_0 ++ dktX6_largest_1
theorem dksX6_largest_0 : cX6_largest.data.toList.drop 0 = dktX6_largest_0 := by decide +kernel
theorem dksX6_largest_1 : cX6_largest.data.toList.drop 24 = dktX6_largest_1 := dk_seg dksX6_largest_0 24 rfl rfl
theorem dX6_largest_0 : decode cX6_largest 0 = .ok (.iconst 0, 1) := dk_3 (dk_at dksX6_largest_0 0 rfl rfl)
theorem dX6_largest_1 : decode cX6_largest 1 = .ok (.istore_n 2, 1) := dk_61 (dk_at dksX6_largest_0 1 rfl rfl)
theorem dX6_largest_2 : decode cX6_largest 2 = .ok (.iconst 0, 1) := dk_3 (dk_at dksX6_largest_0 2 rfl rfl)
theorem dX6_largest_3 : decode cX6_largest 3 = .ok (.istore_n 3, 1) := dk_62 (dk_at dksX6_largest_0 3 rfl rfl)
theorem dX6_largest_4 : decode cX6_largest 4 = .ok (.iload_n 3, 1) := dk_29 (dk_at dksX6_largest_0 4 rfl rfl)
theorem dX6_largest_5 : decode cX6_largest 5 = .ok (.aload_n 0, 1) := dk_42 (dk_at dksX6_largest_0 5 rfl rfl)
theorem dX6_largest_6 : decode cX6_largest 6 = .ok (.getfield 35, 3) := dk_180 0 35 (dk_at dksX6_largest_0 6 rfl rfl)
theorem dX6_largest_9 : decode cX6_largest 9 = .ok (.iconst 0, 1) := dk_3 (dk_at dksX6_largest_0 9 rfl rfl)
theorem dX6_largest_10 : decode cX6_largest 10 = .ok (.iaload, 1) := dk_46 (dk_at dksX6_largest_0 10 rfl rfl)
theorem dX6_largest_11 : decode cX6_largest 11 = .ok (.if_icmp .ge 35, 3) := dk_162 0 35 (dk_at dksX6_largest_0 11 rfl rfl)
theorem dX6_largest_14 : decode cX6_largest 14 = .ok (.aload_n 0, 1) := dk_42 (dk_at dksX6_largest_0 14 rfl rfl)
theorem dX6_largest_15 : decode cX6_largest 15 = .ok (.iload_n 3, 1) := dk_29 (dk_at dksX6_largest_0 15 rfl rfl)
theorem dX6_largest_16 : decode cX6_largest 16 = .ok (.invokevirtual 337, 3) := dk_182 1 81 (dk_at dksX6_largest_0 16 rfl rfl)
theorem dX6_largest_19 : decode cX6_largest 19 = .ok (.ifCond .eq 21, 3) := dk_153 0 21 (dk_at dksX6_largest_0 19 rfl rfl)
theorem dX6_largest_22 : decode cX6_largest 22 = .ok (.iload_n 3, 1) := dk_29 (dk_at dksX6_largest_0 22 rfl rfl)
theorem dX6_largest_23 : decode cX6_largest 23 = .ok (.iload_n 1, 1) := dk_27 (dk_at dksX6_largest_0 23 rfl rfl)
theorem dX6_largest_24 : decode cX6_largest 24 = .ok (.if_icmp .eq 16, 3) := dk_159 0 16 (dk_at dksX6_largest_1 0 rfl rfl)
theorem dX6_largest_27 : decode cX6_largest 27 = .ok (.iload_n 2, 1) := dk_28 (dk_at dksX6_largest_1 3 rfl rfl)
theorem dX6_largest_28 : decode cX6_largest 28 = .ok (.aload_n 0, 1) := dk_42 (dk_at dksX6_largest_1 4 rfl rfl)
theorem dX6_largest_29 : decode cX6_largest 29 = .ok (.iload_n 3, 1) := dk_29 (dk_at dksX6_largest_1 5 rfl rfl)
theorem dX6_largest_30 : decode cX6_largest 30 = .ok (.invokevirtual 346, 3) := dk_182 1 90 (dk_at dksX6_largest_1 6 rfl rfl)
theorem dX6_largest_33 : decode cX6_largest 33 = .ok (.invokestatic 349, 3) := dk_184 1 93 (dk_at dksX6_largest_1 9 rfl rfl)
theorem dX6_largest_36 : decode cX6_largest 36 = .ok (.invokestatic 248, 3) := dk_184 0 248 (dk_at dksX6_largest_1 12 rfl rfl)
theorem dX6_largest_39 : decode cX6_largest 39 = .ok (.istore_n 2, 1) := dk_61 (dk_at dksX6_largest_1 15 rfl rfl)
theorem dX6_largest_40 : decode cX6_largest 40 = .ok (.iinc 3 1, 3) := dk_132 3 1 (dk_at dksX6_largest_1 16 rfl rfl)
theorem dX6_largest_43 : decode cX6_largest 43 = .ok (.goto (-39), 3) := dk_167 255 217 (dk_at dksX6_largest_1 19 rfl rfl)
theorem dX6_largest_46 : decode cX6_largest 46 = .ok (.iload_n 2, 1) := dk_28 (dk_at dksX6_largest_1 22 rfl rfl)
theorem dX6_largest_47 : decode cX6_largest 47 = .ok (.ireturn, 1) := dk_172 (dk_at dksX6_largest_1 23 rfl rfl)
abbrev cX6_comes : ByteArray := prog_16_method_104_code
def yX6_comes : MethodName := ⟨RX6, "comes", "(I)I"⟩
def dkwX6_comes_2 : List UInt8 := [160, 0, 7, 4, 167, 0, 4, 3, 172]
abbrev dktX6_comes_2 : List UInt8 := dkwX6_comes_2 ++ []
def dkwX6_comes_1 : List UInt8 := [42, 27, 182, 1, 81, 154, 0, 10, 42, 16, 9, 182, 1, 52, 172, 42, 27, 182, 1, 90, 184, 1, 93, 4]
abbrev dktX6_comes_1 : List UInt8 := dkwX6_comes_1 ++ dktX6_comes_2
def dkwX6_comes_0 : List UInt8 := [42, 3, 181, 0, 77, 42, 3, 181, 0, 80, 42, 27, 182, 1, 55, 154, 0, 9, 42, 5, 182, 1, 52, 172]
abbrev dktX6_comes_0 : List UInt8 := dkwX6_comes_0 ++ dktX6_comes_1
theorem dksX6_comes_0 : cX6_comes.data.toList.drop 0 = dktX6_comes_0 := by decide +kernel
theorem dksX6_comes_1 : cX6_comes.data.toList.drop 24 = dktX6_comes_1 := dk_seg dksX6_comes_0 24 rfl rfl
theorem dksX6_comes_2 : cX6_comes.data.toList.drop 48 = dktX6_comes_2 := dk_seg dksX6_comes_1 24 rfl rfl
theorem dX6_comes_0 : decode cX6_comes 0 = .ok (.aload_n 0, 1) := dk_42 (dk_at dksX6_comes_0 0 rfl rfl)
theorem dX6_comes_1 : decode cX6_comes 1 = .ok (.iconst 0, 1) := dk_3 (dk_at dksX6_comes_0 1 rfl rfl)
theorem dX6_comes_2 : decode cX6_comes 2 = .ok (.putfield 77, 3) := dk_181 0 77 (dk_at dksX6_comes_0 2 rfl rfl)
theorem dX6_comes_5 : decode cX6_comes 5 = .ok (.aload_n 0, 1) := dk_42 (dk_at dksX6_comes_0 5 rfl rfl)
theorem dX6_comes_6 : decode cX6_comes 6 = .ok (.iconst 0, 1) := dk_3 (dk_at dksX6_comes_0 6 rfl rfl)
theorem dX6_comes_7 : decode cX6_comes 7 = .ok (.putfield 80, 3) := dk_181 0 80 (dk_at dksX6_comes_0 7 rfl rfl)
theorem dX6_comes_10 : decode cX6_comes 10 = .ok (.aload_n 0, 1) := dk_42 (dk_at dksX6_comes_0 10 rfl rfl)
theorem dX6_comes_11 : decode cX6_comes 11 = .ok (.iload_n 1, 1) := dk_27 (dk_at dksX6_comes_0 11 rfl rfl)
theorem dX6_comes_12 : decode cX6_comes 12 = .ok (.invokevirtual 311, 3) := dk_182 1 55 (dk_at dksX6_comes_0 12 rfl rfl)
theorem dX6_comes_15 : decode cX6_comes 15 = .ok (.ifCond .ne 9, 3) := dk_154 0 9 (dk_at dksX6_comes_0 15 rfl rfl)
theorem dX6_comes_18 : decode cX6_comes 18 = .ok (.aload_n 0, 1) := dk_42 (dk_at dksX6_comes_0 18 rfl rfl)
theorem dX6_comes_19 : decode cX6_comes 19 = .ok (.iconst 2, 1) := dk_5 (dk_at dksX6_comes_0 19 rfl rfl)
theorem dX6_comes_20 : decode cX6_comes 20 = .ok (.invokevirtual 308, 3) := dk_182 1 52 (dk_at dksX6_comes_0 20 rfl rfl)
theorem dX6_comes_23 : decode cX6_comes 23 = .ok (.ireturn, 1) := dk_172 (dk_at dksX6_comes_0 23 rfl rfl)
theorem dX6_comes_24 : decode cX6_comes 24 = .ok (.aload_n 0, 1) := dk_42 (dk_at dksX6_comes_1 0 rfl rfl)
theorem dX6_comes_25 : decode cX6_comes 25 = .ok (.iload_n 1, 1) := dk_27 (dk_at dksX6_comes_1 1 rfl rfl)
theorem dX6_comes_26 : decode cX6_comes 26 = .ok (.invokevirtual 337, 3) := dk_182 1 81 (dk_at dksX6_comes_1 2 rfl rfl)
theorem dX6_comes_29 : decode cX6_comes 29 = .ok (.ifCond .ne 10, 3) := dk_154 0 10 (dk_at dksX6_comes_1 5 rfl rfl)
theorem dX6_comes_32 : decode cX6_comes 32 = .ok (.aload_n 0, 1) := dk_42 (dk_at dksX6_comes_1 8 rfl rfl)
theorem dX6_comes_33 : decode cX6_comes 33 = .ok (.bipush 9, 2) := dk_16 9 (dk_at dksX6_comes_1 9 rfl rfl)
theorem dX6_comes_35 : decode cX6_comes 35 = .ok (.invokevirtual 308, 3) := dk_182 1 52 (dk_at dksX6_comes_1 11 rfl rfl)
theorem dX6_comes_38 : decode cX6_comes 38 = .ok (.ireturn, 1) := dk_172 (dk_at dksX6_comes_1 14 rfl rfl)
theorem dX6_comes_39 : decode cX6_comes 39 = .ok (.aload_n 0, 1) := dk_42 (dk_at dksX6_comes_1 15 rfl rfl)
theorem dX6_comes_40 : decode cX6_comes 40 = .ok (.iload_n 1, 1) := dk_27 (dk_at dksX6_comes_1 16 rfl rfl)
theorem dX6_comes_41 : decode cX6_comes 41 = .ok (.invokevirtual 346, 3) := dk_182 1 90 (dk_at dksX6_comes_1 17 rfl rfl)
theorem dX6_comes_44 : decode cX6_comes 44 = .ok (.invokestatic 349, 3) := dk_184 1 93 (dk_at dksX6_comes_1 20 rfl rfl)
theorem dX6_comes_47 : decode cX6_comes 47 = .ok (.iconst 1, 1) := dk_4 (dk_at dksX6_comes_1 23 rfl rfl)
theorem dX6_comes_48 : decode cX6_comes 48 = .ok (.if_icmp .ne 7, 3) := dk_160 0 7 (dk_at dksX6_comes_2 0 rfl rfl)
theorem dX6_comes_51 : decode cX6_comes 51 = .ok (.iconst 1, 1) := dk_4 (dk_at dksX6_comes_2 3 rfl rfl)
theorem dX6_comes_52 : decode cX6_comes 52 = .ok (.goto 4, 3) := dk_167 0 4 (dk_at dksX6_comes_2 4 rfl rfl)
theorem dX6_comes_55 : decode cX6_comes 55 = .ok (.iconst 0, 1) := dk_3 (dk_at dksX6_comes_2 7 rfl rfl)
theorem dX6_comes_56 : decode cX6_comes 56 = .ok (.ireturn, 1) := dk_172 (dk_at dksX6_comes_2 8 rfl rfl)
abbrev cX6_easy : ByteArray := prog_16_method_105_code
def yX6_easy : MethodName := ⟨RX6, "easy", "()I"⟩
def dkwX6_easy_2 : List UInt8 := [167, 0, 4, 3, 128, 60, 132, 2, 1, 167, 255, 213, 27, 172]
abbrev dktX6_easy_2 : List UInt8 := dkwX6_easy_2 ++ []
def dkwX6_easy_1 : List UInt8 := [27, 42, 28, 182, 1, 81, 153, 0, 21, 42, 28, 182, 1, 90, 184, 1, 93, 4, 160, 0, 9, 4, 28, 120]
abbrev dktX6_easy_1 : List UInt8 := dkwX6_easy_1 ++ dktX6_easy_2
def dkwX6_easy_0 : List UInt8 := [42, 3, 181, 0, 77, 42, 3, 181, 0, 80, 3, 60, 3, 61, 28, 42, 180, 0, 35, 3, 46, 162, 0, 39]
abbrev dktX6_easy_0 : List UInt8 := dkwX6_easy_0 ++ dktX6_easy_1
theorem dksX6_easy_0 : cX6_easy.data.toList.drop 0 = dktX6_easy_0 := by decide +kernel
theorem dksX6_easy_1 : cX6_easy.data.toList.drop 24 = dktX6_easy_1 := dk_seg dksX6_easy_0 24 rfl rfl
theorem dksX6_easy_2 : cX6_easy.data.toList.drop 48 = dktX6_easy_2 := dk_seg dksX6_easy_1 24 rfl rfl
theorem dX6_easy_0 : decode cX6_easy 0 = .ok (.aload_n 0, 1) := dk_42 (dk_at dksX6_easy_0 0 rfl rfl)
theorem dX6_easy_1 : decode cX6_easy 1 = .ok (.iconst 0, 1) := dk_3 (dk_at dksX6_easy_0 1 rfl rfl)
theorem dX6_easy_2 : decode cX6_easy 2 = .ok (.putfield 77, 3) := dk_181 0 77 (dk_at dksX6_easy_0 2 rfl rfl)
theorem dX6_easy_5 : decode cX6_easy 5 = .ok (.aload_n 0, 1) := dk_42 (dk_at dksX6_easy_0 5 rfl rfl)
theorem dX6_easy_6 : decode cX6_easy 6 = .ok (.iconst 0, 1) := dk_3 (dk_at dksX6_easy_0 6 rfl rfl)
theorem dX6_easy_7 : decode cX6_easy 7 = .ok (.putfield 80, 3) := dk_181 0 80 (dk_at dksX6_easy_0 7 rfl rfl)
theorem dX6_easy_10 : decode cX6_easy 10 = .ok (.iconst 0, 1) := dk_3 (dk_at dksX6_easy_0 10 rfl rfl)
theorem dX6_easy_11 : decode cX6_easy 11 = .ok (.istore_n 1, 1) := dk_60 (dk_at dksX6_easy_0 11 rfl rfl)
theorem dX6_easy_12 : decode cX6_easy 12 = .ok (.iconst 0, 1) := dk_3 (dk_at dksX6_easy_0 12 rfl rfl)
theorem dX6_easy_13 : decode cX6_easy 13 = .ok (.istore_n 2, 1) := dk_61 (dk_at dksX6_easy_0 13 rfl rfl)
theorem dX6_easy_14 : decode cX6_easy 14 = .ok (.iload_n 2, 1) := dk_28 (dk_at dksX6_easy_0 14 rfl rfl)
theorem dX6_easy_15 : decode cX6_easy 15 = .ok (.aload_n 0, 1) := dk_42 (dk_at dksX6_easy_0 15 rfl rfl)
theorem dX6_easy_16 : decode cX6_easy 16 = .ok (.getfield 35, 3) := dk_180 0 35 (dk_at dksX6_easy_0 16 rfl rfl)
theorem dX6_easy_19 : decode cX6_easy 19 = .ok (.iconst 0, 1) := dk_3 (dk_at dksX6_easy_0 19 rfl rfl)
theorem dX6_easy_20 : decode cX6_easy 20 = .ok (.iaload, 1) := dk_46 (dk_at dksX6_easy_0 20 rfl rfl)
theorem dX6_easy_21 : decode cX6_easy 21 = .ok (.if_icmp .ge 39, 3) := dk_162 0 39 (dk_at dksX6_easy_0 21 rfl rfl)
theorem dX6_easy_24 : decode cX6_easy 24 = .ok (.iload_n 1, 1) := dk_27 (dk_at dksX6_easy_1 0 rfl rfl)
theorem dX6_easy_25 : decode cX6_easy 25 = .ok (.aload_n 0, 1) := dk_42 (dk_at dksX6_easy_1 1 rfl rfl)
theorem dX6_easy_26 : decode cX6_easy 26 = .ok (.iload_n 2, 1) := dk_28 (dk_at dksX6_easy_1 2 rfl rfl)
theorem dX6_easy_27 : decode cX6_easy 27 = .ok (.invokevirtual 337, 3) := dk_182 1 81 (dk_at dksX6_easy_1 3 rfl rfl)
theorem dX6_easy_30 : decode cX6_easy 30 = .ok (.ifCond .eq 21, 3) := dk_153 0 21 (dk_at dksX6_easy_1 6 rfl rfl)
theorem dX6_easy_33 : decode cX6_easy 33 = .ok (.aload_n 0, 1) := dk_42 (dk_at dksX6_easy_1 9 rfl rfl)
theorem dX6_easy_34 : decode cX6_easy 34 = .ok (.iload_n 2, 1) := dk_28 (dk_at dksX6_easy_1 10 rfl rfl)
theorem dX6_easy_35 : decode cX6_easy 35 = .ok (.invokevirtual 346, 3) := dk_182 1 90 (dk_at dksX6_easy_1 11 rfl rfl)
theorem dX6_easy_38 : decode cX6_easy 38 = .ok (.invokestatic 349, 3) := dk_184 1 93 (dk_at dksX6_easy_1 14 rfl rfl)
theorem dX6_easy_41 : decode cX6_easy 41 = .ok (.iconst 1, 1) := dk_4 (dk_at dksX6_easy_1 17 rfl rfl)
theorem dX6_easy_42 : decode cX6_easy 42 = .ok (.if_icmp .ne 9, 3) := dk_160 0 9 (dk_at dksX6_easy_1 18 rfl rfl)
theorem dX6_easy_45 : decode cX6_easy 45 = .ok (.iconst 1, 1) := dk_4 (dk_at dksX6_easy_1 21 rfl rfl)
theorem dX6_easy_46 : decode cX6_easy 46 = .ok (.iload_n 2, 1) := dk_28 (dk_at dksX6_easy_1 22 rfl rfl)
theorem dX6_easy_47 : decode cX6_easy 47 = .ok (.ishl, 1) := dk_120 (dk_at dksX6_easy_1 23 rfl rfl)
theorem dX6_easy_48 : decode cX6_easy 48 = .ok (.goto 4, 3) := dk_167 0 4 (dk_at dksX6_easy_2 0 rfl rfl)
theorem dX6_easy_51 : decode cX6_easy 51 = .ok (.iconst 0, 1) := dk_3 (dk_at dksX6_easy_2 3 rfl rfl)
theorem dX6_easy_52 : decode cX6_easy 52 = .ok (.ior, 1) := dk_128 (dk_at dksX6_easy_2 4 rfl rfl)
theorem dX6_easy_53 : decode cX6_easy 53 = .ok (.istore_n 1, 1) := dk_60 (dk_at dksX6_easy_2 5 rfl rfl)
theorem dX6_easy_54 : decode cX6_easy 54 = .ok (.iinc 2 1, 3) := dk_132 2 1 (dk_at dksX6_easy_2 6 rfl rfl)
theorem dX6_easy_57 : decode cX6_easy 57 = .ok (.goto (-43), 3) := dk_167 255 213 (dk_at dksX6_easy_2 9 rfl rfl)
theorem dX6_easy_60 : decode cX6_easy 60 = .ok (.iload_n 1, 1) := dk_27 (dk_at dksX6_easy_2 12 rfl rfl)
theorem dX6_easy_61 : decode cX6_easy 61 = .ok (.ireturn, 1) := dk_172 (dk_at dksX6_easy_2 13 rfl rfl)
abbrev cX6_free : ByteArray := prog_16_method_107_code
def yX6_free : MethodName := ⟨RX6, "free", "(I)I"⟩
def dkwX6_free_1 : List UInt8 := [42, 27, 182, 1, 130, 153, 0, 7, 4, 167, 0, 4, 3, 172]
abbrev dktX6_free_1 : List UInt8 := dkwX6_free_1 ++ []
def dkwX6_free_0 : List UInt8 := [42, 3, 181, 0, 77, 42, 3, 181, 0, 80, 42, 27, 182, 1, 55, 154, 0, 9, 42, 5, 182, 1, 52, 172]
abbrev dktX6_free_0 : List UInt8 := dkwX6_free_0 ++ dktX6_free_1
theorem dksX6_free_0 : cX6_free.data.toList.drop 0 = dktX6_free_0 := by decide +kernel
theorem dksX6_free_1 : cX6_free.data.toList.drop 24 = dktX6_free_1 := dk_seg dksX6_free_0 24 rfl rfl
theorem dX6_free_0 : decode cX6_free 0 = .ok (.aload_n 0, 1) := dk_42 (dk_at dksX6_free_0 0 rfl rfl)
theorem dX6_free_1 : decode cX6_free 1 = .ok (.iconst 0, 1) := dk_3 (dk_at dksX6_free_0 1 rfl rfl)
theorem dX6_free_2 : decode cX6_free 2 = .ok (.putfield 77, 3) := dk_181 0 77 (dk_at dksX6_free_0 2 rfl rfl)
theorem dX6_free_5 : decode cX6_free 5 = .ok (.aload_n 0, 1) := dk_42 (dk_at dksX6_free_0 5 rfl rfl)
theorem dX6_free_6 : decode cX6_free 6 = .ok (.iconst 0, 1) := dk_3 (dk_at dksX6_free_0 6 rfl rfl)
theorem dX6_free_7 : decode cX6_free 7 = .ok (.putfield 80, 3) := dk_181 0 80 (dk_at dksX6_free_0 7 rfl rfl)
theorem dX6_free_10 : decode cX6_free 10 = .ok (.aload_n 0, 1) := dk_42 (dk_at dksX6_free_0 10 rfl rfl)
theorem dX6_free_11 : decode cX6_free 11 = .ok (.iload_n 1, 1) := dk_27 (dk_at dksX6_free_0 11 rfl rfl)
theorem dX6_free_12 : decode cX6_free 12 = .ok (.invokevirtual 311, 3) := dk_182 1 55 (dk_at dksX6_free_0 12 rfl rfl)
theorem dX6_free_15 : decode cX6_free 15 = .ok (.ifCond .ne 9, 3) := dk_154 0 9 (dk_at dksX6_free_0 15 rfl rfl)
theorem dX6_free_18 : decode cX6_free 18 = .ok (.aload_n 0, 1) := dk_42 (dk_at dksX6_free_0 18 rfl rfl)
theorem dX6_free_19 : decode cX6_free 19 = .ok (.iconst 2, 1) := dk_5 (dk_at dksX6_free_0 19 rfl rfl)
theorem dX6_free_20 : decode cX6_free 20 = .ok (.invokevirtual 308, 3) := dk_182 1 52 (dk_at dksX6_free_0 20 rfl rfl)
theorem dX6_free_23 : decode cX6_free 23 = .ok (.ireturn, 1) := dk_172 (dk_at dksX6_free_0 23 rfl rfl)
theorem dX6_free_24 : decode cX6_free 24 = .ok (.aload_n 0, 1) := dk_42 (dk_at dksX6_free_1 0 rfl rfl)
theorem dX6_free_25 : decode cX6_free 25 = .ok (.iload_n 1, 1) := dk_27 (dk_at dksX6_free_1 1 rfl rfl)
theorem dX6_free_26 : decode cX6_free 26 = .ok (.invokevirtual 386, 3) := dk_182 1 130 (dk_at dksX6_free_1 2 rfl rfl)
theorem dX6_free_29 : decode cX6_free 29 = .ok (.ifCond .eq 7, 3) := dk_153 0 7 (dk_at dksX6_free_1 5 rfl rfl)
theorem dX6_free_32 : decode cX6_free 32 = .ok (.iconst 1, 1) := dk_4 (dk_at dksX6_free_1 8 rfl rfl)
theorem dX6_free_33 : decode cX6_free 33 = .ok (.goto 4, 3) := dk_167 0 4 (dk_at dksX6_free_1 9 rfl rfl)
theorem dX6_free_36 : decode cX6_free 36 = .ok (.iconst 0, 1) := dk_3 (dk_at dksX6_free_1 12 rfl rfl)
theorem dX6_free_37 : decode cX6_free 37 = .ok (.ireturn, 1) := dk_172 (dk_at dksX6_free_1 13 rfl rfl)
abbrev cX6_isFree : ByteArray := prog_16_method_106_code
def yX6_isFree : MethodName := ⟨RX6, "isFree", "(I)Z"⟩
def dkwX6_isFree_0 : List UInt8 := [42, 27, 182, 1, 81, 153, 0, 15, 42, 27, 182, 1, 58, 154, 0, 7, 4, 167, 0, 4, 3, 172]
abbrev dktX6_isFree_0 : List UInt8 := dkwX6_isFree_0 ++ []
theorem dksX6_isFree_0 : cX6_isFree.data.toList.drop 0 = dktX6_isFree_0 := by decide +kernel
theorem dX6_isFree_0 : decode cX6_isFree 0 = .ok (.aload_n 0, 1) := dk_42 (dk_at dksX6_isFree_0 0 rfl rfl)
theorem dX6_isFree_1 : decode cX6_isFree 1 = .ok (.iload_n 1, 1) := dk_27 (dk_at dksX6_isFree_0 1 rfl rfl)
theorem dX6_isFree_2 : decode cX6_isFree 2 = .ok (.invokevirtual 337, 3) := dk_182 1 81 (dk_at dksX6_isFree_0 2 rfl rfl)
theorem dX6_isFree_5 : decode cX6_isFree 5 = .ok (.ifCond .eq 15, 3) := dk_153 0 15 (dk_at dksX6_isFree_0 5 rfl rfl)
theorem dX6_isFree_8 : decode cX6_isFree 8 = .ok (.aload_n 0, 1) := dk_42 (dk_at dksX6_isFree_0 8 rfl rfl)
theorem dX6_isFree_9 : decode cX6_isFree 9 = .ok (.iload_n 1, 1) := dk_27 (dk_at dksX6_isFree_0 9 rfl rfl)
theorem dX6_isFree_10 : decode cX6_isFree 10 = .ok (.invokevirtual 314, 3) := dk_182 1 58 (dk_at dksX6_isFree_0 10 rfl rfl)
theorem dX6_isFree_13 : decode cX6_isFree 13 = .ok (.ifCond .ne 7, 3) := dk_154 0 7 (dk_at dksX6_isFree_0 13 rfl rfl)
theorem dX6_isFree_16 : decode cX6_isFree 16 = .ok (.iconst 1, 1) := dk_4 (dk_at dksX6_isFree_0 16 rfl rfl)
theorem dX6_isFree_17 : decode cX6_isFree 17 = .ok (.goto 4, 3) := dk_167 0 4 (dk_at dksX6_isFree_0 17 rfl rfl)
theorem dX6_isFree_20 : decode cX6_isFree 20 = .ok (.iconst 0, 1) := dk_3 (dk_at dksX6_isFree_0 20 rfl rfl)
theorem dX6_isFree_21 : decode cX6_isFree 21 = .ok (.ireturn, 1) := dk_172 (dk_at dksX6_isFree_0 21 rfl rfl)
abbrev cX6_inState : ByteArray := prog_16_method_109_code
def yX6_inState : MethodName := ⟨RX6, "inState", "(I)I"⟩
def dkwX6_inState_1 : List UInt8 := [182, 1, 133, 167, 0, 8, 42, 8, 182, 1, 52, 172]
abbrev dktX6_inState_1 : List UInt8 := dkwX6_inState_1 ++ []
def dkwX6_inState_0 : List UInt8 := [42, 3, 181, 0, 77, 42, 3, 181, 0, 80, 27, 133, 9, 20, 0, 110, 184, 0, 112, 153, 0, 11, 42, 27]
abbrev dktX6_inState_0 : List UInt8 := dkwX6_inState_0 ++ dktX6_inState_1
theorem dksX6_inState_0 : cX6_inState.data.toList.drop 0 = dktX6_inState_0 := by decide +kernel
theorem dksX6_inState_1 : cX6_inState.data.toList.drop 24 = dktX6_inState_1 := dk_seg dksX6_inState_0 24 rfl rfl
theorem dX6_inState_0 : decode cX6_inState 0 = .ok (.aload_n 0, 1) := dk_42 (dk_at dksX6_inState_0 0 rfl rfl)
theorem dX6_inState_1 : decode cX6_inState 1 = .ok (.iconst 0, 1) := dk_3 (dk_at dksX6_inState_0 1 rfl rfl)
theorem dX6_inState_2 : decode cX6_inState 2 = .ok (.putfield 77, 3) := dk_181 0 77 (dk_at dksX6_inState_0 2 rfl rfl)
theorem dX6_inState_5 : decode cX6_inState 5 = .ok (.aload_n 0, 1) := dk_42 (dk_at dksX6_inState_0 5 rfl rfl)
theorem dX6_inState_6 : decode cX6_inState 6 = .ok (.iconst 0, 1) := dk_3 (dk_at dksX6_inState_0 6 rfl rfl)
theorem dX6_inState_7 : decode cX6_inState 7 = .ok (.putfield 80, 3) := dk_181 0 80 (dk_at dksX6_inState_0 7 rfl rfl)
theorem dX6_inState_10 : decode cX6_inState 10 = .ok (.iload_n 1, 1) := dk_27 (dk_at dksX6_inState_0 10 rfl rfl)
theorem dX6_inState_11 : decode cX6_inState 11 = .ok (.i2l, 1) := dk_133 (dk_at dksX6_inState_0 11 rfl rfl)
theorem dX6_inState_12 : decode cX6_inState 12 = .ok (.lconst 0, 1) := dk_9 (dk_at dksX6_inState_0 12 rfl rfl)
theorem dX6_inState_13 : decode cX6_inState 13 = .ok (.ldc2_w 110, 3) := dk_20 0 110 (dk_at dksX6_inState_0 13 rfl rfl)
theorem dX6_inState_16 : decode cX6_inState 16 = .ok (.invokestatic 112, 3) := dk_184 0 112 (dk_at dksX6_inState_0 16 rfl rfl)
theorem dX6_inState_19 : decode cX6_inState 19 = .ok (.ifCond .eq 11, 3) := dk_153 0 11 (dk_at dksX6_inState_0 19 rfl rfl)
theorem dX6_inState_22 : decode cX6_inState 22 = .ok (.aload_n 0, 1) := dk_42 (dk_at dksX6_inState_0 22 rfl rfl)
theorem dX6_inState_23 : decode cX6_inState 23 = .ok (.iload_n 1, 1) := dk_27 (dk_at dksX6_inState_0 23 rfl rfl)
theorem dX6_inState_24 : decode cX6_inState 24 = .ok (.invokevirtual 389, 3) := dk_182 1 133 (dk_at dksX6_inState_1 0 rfl rfl)
theorem dX6_inState_27 : decode cX6_inState 27 = .ok (.goto 8, 3) := dk_167 0 8 (dk_at dksX6_inState_1 3 rfl rfl)
theorem dX6_inState_30 : decode cX6_inState 30 = .ok (.aload_n 0, 1) := dk_42 (dk_at dksX6_inState_1 6 rfl rfl)
theorem dX6_inState_31 : decode cX6_inState 31 = .ok (.iconst 5, 1) := dk_8 (dk_at dksX6_inState_1 7 rfl rfl)
theorem dX6_inState_32 : decode cX6_inState 32 = .ok (.invokevirtual 308, 3) := dk_182 1 52 (dk_at dksX6_inState_1 8 rfl rfl)
theorem dX6_inState_35 : decode cX6_inState 35 = .ok (.ireturn, 1) := dk_172 (dk_at dksX6_inState_1 11 rfl rfl)
abbrev cX6_stateMany : ByteArray := prog_16_method_108_code
def yX6_stateMany : MethodName := ⟨RX6, "stateMany", "(I)I"⟩
def dkwX6_stateMany_1 : List UInt8 := [27, 160, 0, 7, 4, 167, 0, 4, 3, 96, 61, 132, 3, 1, 167, 255, 222, 28, 172]
abbrev dktX6_stateMany_1 : List UInt8 := dkwX6_stateMany_1 ++ []
def dkwX6_stateMany_0 : List UInt8 := [3, 61, 3, 62, 29, 42, 180, 0, 35, 4, 46, 162, 0, 30, 28, 42, 180, 0, 35, 16, 108, 29, 96, 46]
abbrev dktX6_stateMany_0 : List UInt8 := dkwX6_stateMany_0 ++ dktX6_stateMany_1
theorem dksX6_stateMany_0 : cX6_stateMany.data.toList.drop 0 = dktX6_stateMany_0 := by decide +kernel
theorem dksX6_stateMany_1 : cX6_stateMany.data.toList.drop 24 = dktX6_stateMany_1 := dk_seg dksX6_stateMany_0 24 rfl rfl
theorem dX6_stateMany_0 : decode cX6_stateMany 0 = .ok (.iconst 0, 1) := dk_3 (dk_at dksX6_stateMany_0 0 rfl rfl)
theorem dX6_stateMany_1 : decode cX6_stateMany 1 = .ok (.istore_n 2, 1) := dk_61 (dk_at dksX6_stateMany_0 1 rfl rfl)
theorem dX6_stateMany_2 : decode cX6_stateMany 2 = .ok (.iconst 0, 1) := dk_3 (dk_at dksX6_stateMany_0 2 rfl rfl)
theorem dX6_stateMany_3 : decode cX6_stateMany 3 = .ok (.istore_n 3, 1) := dk_62 (dk_at dksX6_stateMany_0 3 rfl rfl)
theorem dX6_stateMany_4 : decode cX6_stateMany 4 = .ok (.iload_n 3, 1) := dk_29 (dk_at dksX6_stateMany_0 4 rfl rfl)
theorem dX6_stateMany_5 : decode cX6_stateMany 5 = .ok (.aload_n 0, 1) := dk_42 (dk_at dksX6_stateMany_0 5 rfl rfl)
theorem dX6_stateMany_6 : decode cX6_stateMany 6 = .ok (.getfield 35, 3) := dk_180 0 35 (dk_at dksX6_stateMany_0 6 rfl rfl)
theorem dX6_stateMany_9 : decode cX6_stateMany 9 = .ok (.iconst 1, 1) := dk_4 (dk_at dksX6_stateMany_0 9 rfl rfl)
theorem dX6_stateMany_10 : decode cX6_stateMany 10 = .ok (.iaload, 1) := dk_46 (dk_at dksX6_stateMany_0 10 rfl rfl)
theorem dX6_stateMany_11 : decode cX6_stateMany 11 = .ok (.if_icmp .ge 30, 3) := dk_162 0 30 (dk_at dksX6_stateMany_0 11 rfl rfl)
theorem dX6_stateMany_14 : decode cX6_stateMany 14 = .ok (.iload_n 2, 1) := dk_28 (dk_at dksX6_stateMany_0 14 rfl rfl)
theorem dX6_stateMany_15 : decode cX6_stateMany 15 = .ok (.aload_n 0, 1) := dk_42 (dk_at dksX6_stateMany_0 15 rfl rfl)
theorem dX6_stateMany_16 : decode cX6_stateMany 16 = .ok (.getfield 35, 3) := dk_180 0 35 (dk_at dksX6_stateMany_0 16 rfl rfl)
theorem dX6_stateMany_19 : decode cX6_stateMany 19 = .ok (.bipush 108, 2) := dk_16 108 (dk_at dksX6_stateMany_0 19 rfl rfl)
theorem dX6_stateMany_21 : decode cX6_stateMany 21 = .ok (.iload_n 3, 1) := dk_29 (dk_at dksX6_stateMany_0 21 rfl rfl)
theorem dX6_stateMany_22 : decode cX6_stateMany 22 = .ok (.iadd, 1) := dk_96 (dk_at dksX6_stateMany_0 22 rfl rfl)
theorem dX6_stateMany_23 : decode cX6_stateMany 23 = .ok (.iaload, 1) := dk_46 (dk_at dksX6_stateMany_0 23 rfl rfl)
theorem dX6_stateMany_24 : decode cX6_stateMany 24 = .ok (.iload_n 1, 1) := dk_27 (dk_at dksX6_stateMany_1 0 rfl rfl)
theorem dX6_stateMany_25 : decode cX6_stateMany 25 = .ok (.if_icmp .ne 7, 3) := dk_160 0 7 (dk_at dksX6_stateMany_1 1 rfl rfl)
theorem dX6_stateMany_28 : decode cX6_stateMany 28 = .ok (.iconst 1, 1) := dk_4 (dk_at dksX6_stateMany_1 4 rfl rfl)
theorem dX6_stateMany_29 : decode cX6_stateMany 29 = .ok (.goto 4, 3) := dk_167 0 4 (dk_at dksX6_stateMany_1 5 rfl rfl)
theorem dX6_stateMany_32 : decode cX6_stateMany 32 = .ok (.iconst 0, 1) := dk_3 (dk_at dksX6_stateMany_1 8 rfl rfl)
theorem dX6_stateMany_33 : decode cX6_stateMany 33 = .ok (.iadd, 1) := dk_96 (dk_at dksX6_stateMany_1 9 rfl rfl)
theorem dX6_stateMany_34 : decode cX6_stateMany 34 = .ok (.istore_n 2, 1) := dk_61 (dk_at dksX6_stateMany_1 10 rfl rfl)
theorem dX6_stateMany_35 : decode cX6_stateMany 35 = .ok (.iinc 3 1, 3) := dk_132 3 1 (dk_at dksX6_stateMany_1 11 rfl rfl)
theorem dX6_stateMany_38 : decode cX6_stateMany 38 = .ok (.goto (-34), 3) := dk_167 255 222 (dk_at dksX6_stateMany_1 14 rfl rfl)
theorem dX6_stateMany_41 : decode cX6_stateMany 41 = .ok (.iload_n 2, 1) := dk_28 (dk_at dksX6_stateMany_1 17 rfl rfl)
theorem dX6_stateMany_42 : decode cX6_stateMany 42 = .ok (.ireturn, 1) := dk_172 (dk_at dksX6_stateMany_1 18 rfl rfl)
abbrev cX6_worse : ByteArray := prog_16_method_112_code
def yX6_worse : MethodName := ⟨RX6, "worse", "(II)I"⟩
def dkwX6_worse_3 : List UInt8 := [182, 1, 99, 42, 28, 182, 1, 133, 54, 4, 42, 182, 1, 139, 21, 4, 29, 100, 172]
abbrev dktX6_worse_3 : List UInt8 := dkwX6_worse_3 ++ []
def dkwX6_worse_2 : List UInt8 := [154, 0, 10, 42, 16, 9, 182, 1, 52, 172, 42, 28, 182, 1, 133, 62, 42, 182, 1, 136, 42, 27]
abbrev dktX6_worse_2 : List UInt8 := dkwX6_worse_2 ++ dktX6_worse_3
def dkwX6_worse_1 : List UInt8 := [28, 133, 9, 20, 0, 110, 184, 0, 112, 154, 0, 9, 42, 8, 182, 1, 52, 172, 42, 27, 182, 1, 81]
abbrev dktX6_worse_1 : List UInt8 := dkwX6_worse_1 ++ dktX6_worse_2
def dkwX6_worse_0 : List UInt8 := [42, 3, 181, 0, 77, 42, 3, 181, 0, 80, 42, 27, 182, 1, 55, 154, 0, 9, 42, 5, 182, 1, 52, 172]
abbrev dktX6_worse_0 : List UInt8 := dkwX6_worse_0 ++ dktX6_worse_1
theorem dksX6_worse_0 : cX6_worse.data.toList.drop 0 = dktX6_worse_0 := by decide +kernel
theorem dksX6_worse_1 : cX6_worse.data.toList.drop 24 = dktX6_worse_1 := dk_seg dksX6_worse_0 24 rfl rfl
theorem dksX6_worse_2 : cX6_worse.data.toList.drop 47 = dktX6_worse_2 := dk_seg dksX6_worse_1 23 rfl rfl
theorem dksX6_worse_3 : cX6_worse.data.toList.drop 69 = dktX6_worse_3 := dk_seg dksX6_worse_2 22 rfl rfl
theorem dX6_worse_0 : decode cX6_worse 0 = .ok (.aload_n 0, 1) := dk_42 (dk_at dksX6_worse_0 0 rfl rfl)
theorem dX6_worse_1 : decode cX6_worse 1 = .ok (.iconst 0, 1) := dk_3 (dk_at dksX6_worse_0 1 rfl rfl)
theorem dX6_worse_2 : decode cX6_worse 2 = .ok (.putfield 77, 3) := dk_181 0 77 (dk_at dksX6_worse_0 2 rfl rfl)
theorem dX6_worse_5 : decode cX6_worse 5 = .ok (.aload_n 0, 1) := dk_42 (dk_at dksX6_worse_0 5 rfl rfl)
theorem dX6_worse_6 : decode cX6_worse 6 = .ok (.iconst 0, 1) := dk_3 (dk_at dksX6_worse_0 6 rfl rfl)
theorem dX6_worse_7 : decode cX6_worse 7 = .ok (.putfield 80, 3) := dk_181 0 80 (dk_at dksX6_worse_0 7 rfl rfl)
theorem dX6_worse_10 : decode cX6_worse 10 = .ok (.aload_n 0, 1) := dk_42 (dk_at dksX6_worse_0 10 rfl rfl)
theorem dX6_worse_11 : decode cX6_worse 11 = .ok (.iload_n 1, 1) := dk_27 (dk_at dksX6_worse_0 11 rfl rfl)
theorem dX6_worse_12 : decode cX6_worse 12 = .ok (.invokevirtual 311, 3) := dk_182 1 55 (dk_at dksX6_worse_0 12 rfl rfl)
theorem dX6_worse_15 : decode cX6_worse 15 = .ok (.ifCond .ne 9, 3) := dk_154 0 9 (dk_at dksX6_worse_0 15 rfl rfl)
theorem dX6_worse_18 : decode cX6_worse 18 = .ok (.aload_n 0, 1) := dk_42 (dk_at dksX6_worse_0 18 rfl rfl)
theorem dX6_worse_19 : decode cX6_worse 19 = .ok (.iconst 2, 1) := dk_5 (dk_at dksX6_worse_0 19 rfl rfl)
theorem dX6_worse_20 : decode cX6_worse 20 = .ok (.invokevirtual 308, 3) := dk_182 1 52 (dk_at dksX6_worse_0 20 rfl rfl)
theorem dX6_worse_23 : decode cX6_worse 23 = .ok (.ireturn, 1) := dk_172 (dk_at dksX6_worse_0 23 rfl rfl)
theorem dX6_worse_24 : decode cX6_worse 24 = .ok (.iload_n 2, 1) := dk_28 (dk_at dksX6_worse_1 0 rfl rfl)
theorem dX6_worse_25 : decode cX6_worse 25 = .ok (.i2l, 1) := dk_133 (dk_at dksX6_worse_1 1 rfl rfl)
theorem dX6_worse_26 : decode cX6_worse 26 = .ok (.lconst 0, 1) := dk_9 (dk_at dksX6_worse_1 2 rfl rfl)
theorem dX6_worse_27 : decode cX6_worse 27 = .ok (.ldc2_w 110, 3) := dk_20 0 110 (dk_at dksX6_worse_1 3 rfl rfl)
theorem dX6_worse_30 : decode cX6_worse 30 = .ok (.invokestatic 112, 3) := dk_184 0 112 (dk_at dksX6_worse_1 6 rfl rfl)
theorem dX6_worse_33 : decode cX6_worse 33 = .ok (.ifCond .ne 9, 3) := dk_154 0 9 (dk_at dksX6_worse_1 9 rfl rfl)
theorem dX6_worse_36 : decode cX6_worse 36 = .ok (.aload_n 0, 1) := dk_42 (dk_at dksX6_worse_1 12 rfl rfl)
theorem dX6_worse_37 : decode cX6_worse 37 = .ok (.iconst 5, 1) := dk_8 (dk_at dksX6_worse_1 13 rfl rfl)
theorem dX6_worse_38 : decode cX6_worse 38 = .ok (.invokevirtual 308, 3) := dk_182 1 52 (dk_at dksX6_worse_1 14 rfl rfl)
theorem dX6_worse_41 : decode cX6_worse 41 = .ok (.ireturn, 1) := dk_172 (dk_at dksX6_worse_1 17 rfl rfl)
theorem dX6_worse_42 : decode cX6_worse 42 = .ok (.aload_n 0, 1) := dk_42 (dk_at dksX6_worse_1 18 rfl rfl)
theorem dX6_worse_43 : decode cX6_worse 43 = .ok (.iload_n 1, 1) := dk_27 (dk_at dksX6_worse_1 19 rfl rfl)
theorem dX6_worse_44 : decode cX6_worse 44 = .ok (.invokevirtual 337, 3) := dk_182 1 81 (dk_at dksX6_worse_1 20 rfl rfl)
theorem dX6_worse_47 : decode cX6_worse 47 = .ok (.ifCond .ne 10, 3) := dk_154 0 10 (dk_at dksX6_worse_2 0 rfl rfl)
theorem dX6_worse_50 : decode cX6_worse 50 = .ok (.aload_n 0, 1) := dk_42 (dk_at dksX6_worse_2 3 rfl rfl)
theorem dX6_worse_51 : decode cX6_worse 51 = .ok (.bipush 9, 2) := dk_16 9 (dk_at dksX6_worse_2 4 rfl rfl)
theorem dX6_worse_53 : decode cX6_worse 53 = .ok (.invokevirtual 308, 3) := dk_182 1 52 (dk_at dksX6_worse_2 6 rfl rfl)
theorem dX6_worse_56 : decode cX6_worse 56 = .ok (.ireturn, 1) := dk_172 (dk_at dksX6_worse_2 9 rfl rfl)
theorem dX6_worse_57 : decode cX6_worse 57 = .ok (.aload_n 0, 1) := dk_42 (dk_at dksX6_worse_2 10 rfl rfl)
theorem dX6_worse_58 : decode cX6_worse 58 = .ok (.iload_n 2, 1) := dk_28 (dk_at dksX6_worse_2 11 rfl rfl)
theorem dX6_worse_59 : decode cX6_worse 59 = .ok (.invokevirtual 389, 3) := dk_182 1 133 (dk_at dksX6_worse_2 12 rfl rfl)
theorem dX6_worse_62 : decode cX6_worse 62 = .ok (.istore_n 3, 1) := dk_62 (dk_at dksX6_worse_2 15 rfl rfl)
theorem dX6_worse_63 : decode cX6_worse 63 = .ok (.aload_n 0, 1) := dk_42 (dk_at dksX6_worse_2 16 rfl rfl)
theorem dX6_worse_64 : decode cX6_worse 64 = .ok (.invokevirtual 392, 3) := dk_182 1 136 (dk_at dksX6_worse_2 17 rfl rfl)
theorem dX6_worse_67 : decode cX6_worse 67 = .ok (.aload_n 0, 1) := dk_42 (dk_at dksX6_worse_2 20 rfl rfl)
theorem dX6_worse_68 : decode cX6_worse 68 = .ok (.iload_n 1, 1) := dk_27 (dk_at dksX6_worse_2 21 rfl rfl)
theorem dX6_worse_69 : decode cX6_worse 69 = .ok (.invokevirtual 355, 3) := dk_182 1 99 (dk_at dksX6_worse_3 0 rfl rfl)
theorem dX6_worse_72 : decode cX6_worse 72 = .ok (.aload_n 0, 1) := dk_42 (dk_at dksX6_worse_3 3 rfl rfl)
theorem dX6_worse_73 : decode cX6_worse 73 = .ok (.iload_n 2, 1) := dk_28 (dk_at dksX6_worse_3 4 rfl rfl)
theorem dX6_worse_74 : decode cX6_worse 74 = .ok (.invokevirtual 389, 3) := dk_182 1 133 (dk_at dksX6_worse_3 5 rfl rfl)
theorem dX6_worse_77 : decode cX6_worse 77 = .ok (.istore 4, 2) := dk_54 4 (dk_at dksX6_worse_3 8 rfl rfl)
theorem dX6_worse_79 : decode cX6_worse 79 = .ok (.aload_n 0, 1) := dk_42 (dk_at dksX6_worse_3 10 rfl rfl)
theorem dX6_worse_80 : decode cX6_worse 80 = .ok (.invokevirtual 395, 3) := dk_182 1 139 (dk_at dksX6_worse_3 11 rfl rfl)
theorem dX6_worse_83 : decode cX6_worse 83 = .ok (.iload 4, 2) := dk_21 4 (dk_at dksX6_worse_3 14 rfl rfl)
theorem dX6_worse_85 : decode cX6_worse 85 = .ok (.iload_n 3, 1) := dk_29 (dk_at dksX6_worse_3 16 rfl rfl)
theorem dX6_worse_86 : decode cX6_worse 86 = .ok (.isub, 1) := dk_100 (dk_at dksX6_worse_3 17 rfl rfl)
theorem dX6_worse_87 : decode cX6_worse 87 = .ok (.ireturn, 1) := dk_172 (dk_at dksX6_worse_3 18 rfl rfl)
abbrev cX6_keeps : ByteArray := prog_16_method_110_code
def yX6_keeps : MethodName := ⟨RX6, "keeps", "()V"⟩
def dkwX6_keeps_1 : List UInt8 := [167, 255, 234, 177]
abbrev dktX6_keeps_1 : List UInt8 := dkwX6_keeps_1 ++ []
def dkwX6_keeps_0 : List UInt8 := [3, 60, 27, 17, 0, 132, 162, 0, 21, 42, 180, 0, 38, 27, 42, 180, 0, 35, 27, 46, 79, 132, 1, 1]
abbrev dktX6_keeps_0 : List UInt8 := dkwX6_keeps_0 ++ dktX6_keeps_1
theorem dksX6_keeps_0 : cX6_keeps.data.toList.drop 0 = dktX6_keeps_0 := by decide +kernel
theorem dksX6_keeps_1 : cX6_keeps.data.toList.drop 24 = dktX6_keeps_1 := dk_seg dksX6_keeps_0 24 rfl rfl
theorem dX6_keeps_0 : decode cX6_keeps 0 = .ok (.iconst 0, 1) := dk_3 (dk_at dksX6_keeps_0 0 rfl rfl)
theorem dX6_keeps_1 : decode cX6_keeps 1 = .ok (.istore_n 1, 1) := dk_60 (dk_at dksX6_keeps_0 1 rfl rfl)
theorem dX6_keeps_2 : decode cX6_keeps 2 = .ok (.iload_n 1, 1) := dk_27 (dk_at dksX6_keeps_0 2 rfl rfl)
theorem dX6_keeps_3 : decode cX6_keeps 3 = .ok (.sipush 132, 3) := dk_17 0 132 (dk_at dksX6_keeps_0 3 rfl rfl)
theorem dX6_keeps_6 : decode cX6_keeps 6 = .ok (.if_icmp .ge 21, 3) := dk_162 0 21 (dk_at dksX6_keeps_0 6 rfl rfl)
theorem dX6_keeps_9 : decode cX6_keeps 9 = .ok (.aload_n 0, 1) := dk_42 (dk_at dksX6_keeps_0 9 rfl rfl)
theorem dX6_keeps_10 : decode cX6_keeps 10 = .ok (.getfield 38, 3) := dk_180 0 38 (dk_at dksX6_keeps_0 10 rfl rfl)
theorem dX6_keeps_13 : decode cX6_keeps 13 = .ok (.iload_n 1, 1) := dk_27 (dk_at dksX6_keeps_0 13 rfl rfl)
theorem dX6_keeps_14 : decode cX6_keeps 14 = .ok (.aload_n 0, 1) := dk_42 (dk_at dksX6_keeps_0 14 rfl rfl)
theorem dX6_keeps_15 : decode cX6_keeps 15 = .ok (.getfield 35, 3) := dk_180 0 35 (dk_at dksX6_keeps_0 15 rfl rfl)
theorem dX6_keeps_18 : decode cX6_keeps 18 = .ok (.iload_n 1, 1) := dk_27 (dk_at dksX6_keeps_0 18 rfl rfl)
theorem dX6_keeps_19 : decode cX6_keeps 19 = .ok (.iaload, 1) := dk_46 (dk_at dksX6_keeps_0 19 rfl rfl)
theorem dX6_keeps_20 : decode cX6_keeps 20 = .ok (.iastore, 1) := dk_79 (dk_at dksX6_keeps_0 20 rfl rfl)
theorem dX6_keeps_21 : decode cX6_keeps 21 = .ok (.iinc 1 1, 3) := dk_132 1 1 (dk_at dksX6_keeps_0 21 rfl rfl)
theorem dX6_keeps_24 : decode cX6_keeps 24 = .ok (.goto (-22), 3) := dk_167 255 234 (dk_at dksX6_keeps_1 0 rfl rfl)
theorem dX6_keeps_27 : decode cX6_keeps 27 = .ok (.return_, 1) := dk_177 (dk_at dksX6_keeps_1 3 rfl rfl)
abbrev cX6_gives : ByteArray := prog_16_method_111_code
def yX6_gives : MethodName := ⟨RX6, "gives", "()V"⟩
def dkwX6_gives_1 : List UInt8 := [167, 255, 234, 177]
abbrev dktX6_gives_1 : List UInt8 := dkwX6_gives_1 ++ []
def dkwX6_gives_0 : List UInt8 := [3, 60, 27, 17, 0, 132, 162, 0, 21, 42, 180, 0, 35, 27, 42, 180, 0, 38, 27, 46, 79, 132, 1, 1]
abbrev dktX6_gives_0 : List UInt8 := dkwX6_gives_0 ++ dktX6_gives_1
theorem dksX6_gives_0 : cX6_gives.data.toList.drop 0 = dktX6_gives_0 := by decide +kernel
theorem dksX6_gives_1 : cX6_gives.data.toList.drop 24 = dktX6_gives_1 := dk_seg dksX6_gives_0 24 rfl rfl
theorem dX6_gives_0 : decode cX6_gives 0 = .ok (.iconst 0, 1) := dk_3 (dk_at dksX6_gives_0 0 rfl rfl)
theorem dX6_gives_1 : decode cX6_gives 1 = .ok (.istore_n 1, 1) := dk_60 (dk_at dksX6_gives_0 1 rfl rfl)
theorem dX6_gives_2 : decode cX6_gives 2 = .ok (.iload_n 1, 1) := dk_27 (dk_at dksX6_gives_0 2 rfl rfl)
theorem dX6_gives_3 : decode cX6_gives 3 = .ok (.sipush 132, 3) := dk_17 0 132 (dk_at dksX6_gives_0 3 rfl rfl)
theorem dX6_gives_6 : decode cX6_gives 6 = .ok (.if_icmp .ge 21, 3) := dk_162 0 21 (dk_at dksX6_gives_0 6 rfl rfl)
theorem dX6_gives_9 : decode cX6_gives 9 = .ok (.aload_n 0, 1) := dk_42 (dk_at dksX6_gives_0 9 rfl rfl)
theorem dX6_gives_10 : decode cX6_gives 10 = .ok (.getfield 35, 3) := dk_180 0 35 (dk_at dksX6_gives_0 10 rfl rfl)
theorem dX6_gives_13 : decode cX6_gives 13 = .ok (.iload_n 1, 1) := dk_27 (dk_at dksX6_gives_0 13 rfl rfl)
theorem dX6_gives_14 : decode cX6_gives 14 = .ok (.aload_n 0, 1) := dk_42 (dk_at dksX6_gives_0 14 rfl rfl)
theorem dX6_gives_15 : decode cX6_gives 15 = .ok (.getfield 38, 3) := dk_180 0 38 (dk_at dksX6_gives_0 15 rfl rfl)
theorem dX6_gives_18 : decode cX6_gives 18 = .ok (.iload_n 1, 1) := dk_27 (dk_at dksX6_gives_0 18 rfl rfl)
theorem dX6_gives_19 : decode cX6_gives 19 = .ok (.iaload, 1) := dk_46 (dk_at dksX6_gives_0 19 rfl rfl)
theorem dX6_gives_20 : decode cX6_gives 20 = .ok (.iastore, 1) := dk_79 (dk_at dksX6_gives_0 20 rfl rfl)
theorem dX6_gives_21 : decode cX6_gives 21 = .ok (.iinc 1 1, 3) := dk_132 1 1 (dk_at dksX6_gives_0 21 rfl rfl)
theorem dX6_gives_24 : decode cX6_gives 24 = .ok (.goto (-22), 3) := dk_167 255 234 (dk_at dksX6_gives_1 0 rfl rfl)
theorem dX6_gives_27 : decode cX6_gives 27 = .ok (.return_, 1) := dk_177 (dk_at dksX6_gives_1 3 rfl rfl)
abbrev cX6_worst : ByteArray := prog_16_method_113_code
def yX6_worst : MethodName := ⟨RX6, "worst", "()I"⟩
def dkwX6_worst_3 : List UInt8 := [27, 172]
abbrev dktX6_worst_3 : List UInt8 := dkwX6_worst_3 ++ []
def dkwX6_worst_2 : List UInt8 := [164, 0, 5, 28, 60, 132, 2, 1, 167, 255, 216, 27, 156, 0, 12, 42, 16, 8, 182, 1, 52, 167, 0, 4]
abbrev dktX6_worst_2 : List UInt8 := dkwX6_worst_2 ++ dktX6_worst_3
def dkwX6_worst_1 : List UInt8 := [42, 28, 182, 1, 81, 153, 0, 22, 27, 155, 0, 16, 42, 28, 182, 1, 58, 42, 27, 182, 1, 58]
abbrev dktX6_worst_1 : List UInt8 := dkwX6_worst_1 ++ dktX6_worst_2
def dkwX6_worst_0 : List UInt8 := [42, 3, 181, 0, 77, 42, 3, 181, 0, 80, 2, 60, 3, 61, 28, 42, 180, 0, 35, 3, 46, 162, 0, 36]
abbrev dktX6_worst_0 : List UInt8 := dkwX6_worst_0 ++ dktX6_worst_1
theorem dksX6_worst_0 : cX6_worst.data.toList.drop 0 = dktX6_worst_0 := by decide +kernel
theorem dksX6_worst_1 : cX6_worst.data.toList.drop 24 = dktX6_worst_1 := dk_seg dksX6_worst_0 24 rfl rfl
theorem dksX6_worst_2 : cX6_worst.data.toList.drop 46 = dktX6_worst_2 := dk_seg dksX6_worst_1 22 rfl rfl
theorem dksX6_worst_3 : cX6_worst.data.toList.drop 70 = dktX6_worst_3 := dk_seg dksX6_worst_2 24 rfl rfl
theorem dX6_worst_0 : decode cX6_worst 0 = .ok (.aload_n 0, 1) := dk_42 (dk_at dksX6_worst_0 0 rfl rfl)
theorem dX6_worst_1 : decode cX6_worst 1 = .ok (.iconst 0, 1) := dk_3 (dk_at dksX6_worst_0 1 rfl rfl)
theorem dX6_worst_2 : decode cX6_worst 2 = .ok (.putfield 77, 3) := dk_181 0 77 (dk_at dksX6_worst_0 2 rfl rfl)
theorem dX6_worst_5 : decode cX6_worst 5 = .ok (.aload_n 0, 1) := dk_42 (dk_at dksX6_worst_0 5 rfl rfl)
theorem dX6_worst_6 : decode cX6_worst 6 = .ok (.iconst 0, 1) := dk_3 (dk_at dksX6_worst_0 6 rfl rfl)
theorem dX6_worst_7 : decode cX6_worst 7 = .ok (.putfield 80, 3) := dk_181 0 80 (dk_at dksX6_worst_0 7 rfl rfl)
theorem dX6_worst_10 : decode cX6_worst 10 = .ok (.iconst (-1), 1) := dk_2 (dk_at dksX6_worst_0 10 rfl rfl)
theorem dX6_worst_11 : decode cX6_worst 11 = .ok (.istore_n 1, 1) := dk_60 (dk_at dksX6_worst_0 11 rfl rfl)
theorem dX6_worst_12 : decode cX6_worst 12 = .ok (.iconst 0, 1) := dk_3 (dk_at dksX6_worst_0 12 rfl rfl)
theorem dX6_worst_13 : decode cX6_worst 13 = .ok (.istore_n 2, 1) := dk_61 (dk_at dksX6_worst_0 13 rfl rfl)
theorem dX6_worst_14 : decode cX6_worst 14 = .ok (.iload_n 2, 1) := dk_28 (dk_at dksX6_worst_0 14 rfl rfl)
theorem dX6_worst_15 : decode cX6_worst 15 = .ok (.aload_n 0, 1) := dk_42 (dk_at dksX6_worst_0 15 rfl rfl)
theorem dX6_worst_16 : decode cX6_worst 16 = .ok (.getfield 35, 3) := dk_180 0 35 (dk_at dksX6_worst_0 16 rfl rfl)
theorem dX6_worst_19 : decode cX6_worst 19 = .ok (.iconst 0, 1) := dk_3 (dk_at dksX6_worst_0 19 rfl rfl)
theorem dX6_worst_20 : decode cX6_worst 20 = .ok (.iaload, 1) := dk_46 (dk_at dksX6_worst_0 20 rfl rfl)
theorem dX6_worst_21 : decode cX6_worst 21 = .ok (.if_icmp .ge 36, 3) := dk_162 0 36 (dk_at dksX6_worst_0 21 rfl rfl)
theorem dX6_worst_24 : decode cX6_worst 24 = .ok (.aload_n 0, 1) := dk_42 (dk_at dksX6_worst_1 0 rfl rfl)
theorem dX6_worst_25 : decode cX6_worst 25 = .ok (.iload_n 2, 1) := dk_28 (dk_at dksX6_worst_1 1 rfl rfl)
theorem dX6_worst_26 : decode cX6_worst 26 = .ok (.invokevirtual 337, 3) := dk_182 1 81 (dk_at dksX6_worst_1 2 rfl rfl)
theorem dX6_worst_29 : decode cX6_worst 29 = .ok (.ifCond .eq 22, 3) := dk_153 0 22 (dk_at dksX6_worst_1 5 rfl rfl)
theorem dX6_worst_32 : decode cX6_worst 32 = .ok (.iload_n 1, 1) := dk_27 (dk_at dksX6_worst_1 8 rfl rfl)
theorem dX6_worst_33 : decode cX6_worst 33 = .ok (.ifCond .lt 16, 3) := dk_155 0 16 (dk_at dksX6_worst_1 9 rfl rfl)
theorem dX6_worst_36 : decode cX6_worst 36 = .ok (.aload_n 0, 1) := dk_42 (dk_at dksX6_worst_1 12 rfl rfl)
theorem dX6_worst_37 : decode cX6_worst 37 = .ok (.iload_n 2, 1) := dk_28 (dk_at dksX6_worst_1 13 rfl rfl)
theorem dX6_worst_38 : decode cX6_worst 38 = .ok (.invokevirtual 314, 3) := dk_182 1 58 (dk_at dksX6_worst_1 14 rfl rfl)
theorem dX6_worst_41 : decode cX6_worst 41 = .ok (.aload_n 0, 1) := dk_42 (dk_at dksX6_worst_1 17 rfl rfl)
theorem dX6_worst_42 : decode cX6_worst 42 = .ok (.iload_n 1, 1) := dk_27 (dk_at dksX6_worst_1 18 rfl rfl)
theorem dX6_worst_43 : decode cX6_worst 43 = .ok (.invokevirtual 314, 3) := dk_182 1 58 (dk_at dksX6_worst_1 19 rfl rfl)
theorem dX6_worst_46 : decode cX6_worst 46 = .ok (.if_icmp .le 5, 3) := dk_164 0 5 (dk_at dksX6_worst_2 0 rfl rfl)
theorem dX6_worst_49 : decode cX6_worst 49 = .ok (.iload_n 2, 1) := dk_28 (dk_at dksX6_worst_2 3 rfl rfl)
theorem dX6_worst_50 : decode cX6_worst 50 = .ok (.istore_n 1, 1) := dk_60 (dk_at dksX6_worst_2 4 rfl rfl)
theorem dX6_worst_51 : decode cX6_worst 51 = .ok (.iinc 2 1, 3) := dk_132 2 1 (dk_at dksX6_worst_2 5 rfl rfl)
theorem dX6_worst_54 : decode cX6_worst 54 = .ok (.goto (-40), 3) := dk_167 255 216 (dk_at dksX6_worst_2 8 rfl rfl)
theorem dX6_worst_57 : decode cX6_worst 57 = .ok (.iload_n 1, 1) := dk_27 (dk_at dksX6_worst_2 11 rfl rfl)
theorem dX6_worst_58 : decode cX6_worst 58 = .ok (.ifCond .ge 12, 3) := dk_156 0 12 (dk_at dksX6_worst_2 12 rfl rfl)
theorem dX6_worst_61 : decode cX6_worst 61 = .ok (.aload_n 0, 1) := dk_42 (dk_at dksX6_worst_2 15 rfl rfl)
theorem dX6_worst_62 : decode cX6_worst 62 = .ok (.bipush 8, 2) := dk_16 8 (dk_at dksX6_worst_2 16 rfl rfl)
theorem dX6_worst_64 : decode cX6_worst 64 = .ok (.invokevirtual 308, 3) := dk_182 1 52 (dk_at dksX6_worst_2 18 rfl rfl)
theorem dX6_worst_67 : decode cX6_worst 67 = .ok (.goto 4, 3) := dk_167 0 4 (dk_at dksX6_worst_2 21 rfl rfl)
theorem dX6_worst_70 : decode cX6_worst 70 = .ok (.iload_n 1, 1) := dk_27 (dk_at dksX6_worst_3 0 rfl rfl)
theorem dX6_worst_71 : decode cX6_worst 71 = .ok (.ireturn, 1) := dk_172 (dk_at dksX6_worst_3 1 rfl rfl)
abbrev cX6_key : ByteArray := prog_16_method_114_code
def yX6_key : MethodName := ⟨RX6, "key", "()I"⟩
def dkwX6_key_3 : List UInt8 := [61, 132, 3, 1, 167, 255, 197, 27, 156, 0, 12, 42, 16, 8, 182, 1, 52, 167, 0, 4, 27, 172]
abbrev dktX6_key_3 : List UInt8 := dkwX6_key_3 ++ []
def dkwX6_key_2 : List UInt8 := [42, 2, 182, 1, 127, 54, 4, 42, 182, 1, 139, 21, 4, 28, 161, 0, 6, 167, 0, 8, 29, 60, 21, 4]
abbrev dktX6_key_2 : List UInt8 := dkwX6_key_2 ++ dktX6_key_3
def dkwX6_key_1 : List UInt8 := [162, 0, 55, 42, 29, 182, 1, 81, 154, 0, 6, 167, 0, 38, 42, 182, 1, 136, 42, 29, 182, 1, 102, 87]
abbrev dktX6_key_1 : List UInt8 := dkwX6_key_1 ++ dktX6_key_2
def dkwX6_key_0 : List UInt8 := [42, 3, 181, 0, 77, 42, 3, 181, 0, 80, 2, 60, 16, 99, 61, 3, 62, 29, 42, 180, 0, 35, 3, 46]
abbrev dktX6_key_0 : List UInt8 := dkwX6_key_0 ++ dktX6_key_1
theorem dksX6_key_0 : cX6_key.data.toList.drop 0 = dktX6_key_0 := by decide +kernel
theorem dksX6_key_1 : cX6_key.data.toList.drop 24 = dktX6_key_1 := dk_seg dksX6_key_0 24 rfl rfl
theorem dksX6_key_2 : cX6_key.data.toList.drop 48 = dktX6_key_2 := dk_seg dksX6_key_1 24 rfl rfl
theorem dksX6_key_3 : cX6_key.data.toList.drop 72 = dktX6_key_3 := dk_seg dksX6_key_2 24 rfl rfl
theorem dX6_key_0 : decode cX6_key 0 = .ok (.aload_n 0, 1) := dk_42 (dk_at dksX6_key_0 0 rfl rfl)
theorem dX6_key_1 : decode cX6_key 1 = .ok (.iconst 0, 1) := dk_3 (dk_at dksX6_key_0 1 rfl rfl)
theorem dX6_key_2 : decode cX6_key 2 = .ok (.putfield 77, 3) := dk_181 0 77 (dk_at dksX6_key_0 2 rfl rfl)
theorem dX6_key_5 : decode cX6_key 5 = .ok (.aload_n 0, 1) := dk_42 (dk_at dksX6_key_0 5 rfl rfl)
theorem dX6_key_6 : decode cX6_key 6 = .ok (.iconst 0, 1) := dk_3 (dk_at dksX6_key_0 6 rfl rfl)
theorem dX6_key_7 : decode cX6_key 7 = .ok (.putfield 80, 3) := dk_181 0 80 (dk_at dksX6_key_0 7 rfl rfl)
theorem dX6_key_10 : decode cX6_key 10 = .ok (.iconst (-1), 1) := dk_2 (dk_at dksX6_key_0 10 rfl rfl)
theorem dX6_key_11 : decode cX6_key 11 = .ok (.istore_n 1, 1) := dk_60 (dk_at dksX6_key_0 11 rfl rfl)
theorem dX6_key_12 : decode cX6_key 12 = .ok (.bipush 99, 2) := dk_16 99 (dk_at dksX6_key_0 12 rfl rfl)
theorem dX6_key_14 : decode cX6_key 14 = .ok (.istore_n 2, 1) := dk_61 (dk_at dksX6_key_0 14 rfl rfl)
theorem dX6_key_15 : decode cX6_key 15 = .ok (.iconst 0, 1) := dk_3 (dk_at dksX6_key_0 15 rfl rfl)
theorem dX6_key_16 : decode cX6_key 16 = .ok (.istore_n 3, 1) := dk_62 (dk_at dksX6_key_0 16 rfl rfl)
theorem dX6_key_17 : decode cX6_key 17 = .ok (.iload_n 3, 1) := dk_29 (dk_at dksX6_key_0 17 rfl rfl)
theorem dX6_key_18 : decode cX6_key 18 = .ok (.aload_n 0, 1) := dk_42 (dk_at dksX6_key_0 18 rfl rfl)
theorem dX6_key_19 : decode cX6_key 19 = .ok (.getfield 35, 3) := dk_180 0 35 (dk_at dksX6_key_0 19 rfl rfl)
theorem dX6_key_22 : decode cX6_key 22 = .ok (.iconst 0, 1) := dk_3 (dk_at dksX6_key_0 22 rfl rfl)
theorem dX6_key_23 : decode cX6_key 23 = .ok (.iaload, 1) := dk_46 (dk_at dksX6_key_0 23 rfl rfl)
theorem dX6_key_24 : decode cX6_key 24 = .ok (.if_icmp .ge 55, 3) := dk_162 0 55 (dk_at dksX6_key_1 0 rfl rfl)
theorem dX6_key_27 : decode cX6_key 27 = .ok (.aload_n 0, 1) := dk_42 (dk_at dksX6_key_1 3 rfl rfl)
theorem dX6_key_28 : decode cX6_key 28 = .ok (.iload_n 3, 1) := dk_29 (dk_at dksX6_key_1 4 rfl rfl)
theorem dX6_key_29 : decode cX6_key 29 = .ok (.invokevirtual 337, 3) := dk_182 1 81 (dk_at dksX6_key_1 5 rfl rfl)
theorem dX6_key_32 : decode cX6_key 32 = .ok (.ifCond .ne 6, 3) := dk_154 0 6 (dk_at dksX6_key_1 8 rfl rfl)
theorem dX6_key_35 : decode cX6_key 35 = .ok (.goto 38, 3) := dk_167 0 38 (dk_at dksX6_key_1 11 rfl rfl)
theorem dX6_key_38 : decode cX6_key 38 = .ok (.aload_n 0, 1) := dk_42 (dk_at dksX6_key_1 14 rfl rfl)
theorem dX6_key_39 : decode cX6_key 39 = .ok (.invokevirtual 392, 3) := dk_182 1 136 (dk_at dksX6_key_1 15 rfl rfl)
theorem dX6_key_42 : decode cX6_key 42 = .ok (.aload_n 0, 1) := dk_42 (dk_at dksX6_key_1 18 rfl rfl)
theorem dX6_key_43 : decode cX6_key 43 = .ok (.iload_n 3, 1) := dk_29 (dk_at dksX6_key_1 19 rfl rfl)
theorem dX6_key_44 : decode cX6_key 44 = .ok (.invokevirtual 358, 3) := dk_182 1 102 (dk_at dksX6_key_1 20 rfl rfl)
theorem dX6_key_47 : decode cX6_key 47 = .ok (.pop, 1) := dk_87 (dk_at dksX6_key_1 23 rfl rfl)
theorem dX6_key_48 : decode cX6_key 48 = .ok (.aload_n 0, 1) := dk_42 (dk_at dksX6_key_2 0 rfl rfl)
theorem dX6_key_49 : decode cX6_key 49 = .ok (.iconst (-1), 1) := dk_2 (dk_at dksX6_key_2 1 rfl rfl)
theorem dX6_key_50 : decode cX6_key 50 = .ok (.invokevirtual 383, 3) := dk_182 1 127 (dk_at dksX6_key_2 2 rfl rfl)
theorem dX6_key_53 : decode cX6_key 53 = .ok (.istore 4, 2) := dk_54 4 (dk_at dksX6_key_2 5 rfl rfl)
theorem dX6_key_55 : decode cX6_key 55 = .ok (.aload_n 0, 1) := dk_42 (dk_at dksX6_key_2 7 rfl rfl)
theorem dX6_key_56 : decode cX6_key 56 = .ok (.invokevirtual 395, 3) := dk_182 1 139 (dk_at dksX6_key_2 8 rfl rfl)
theorem dX6_key_59 : decode cX6_key 59 = .ok (.iload 4, 2) := dk_21 4 (dk_at dksX6_key_2 11 rfl rfl)
theorem dX6_key_61 : decode cX6_key 61 = .ok (.iload_n 2, 1) := dk_28 (dk_at dksX6_key_2 13 rfl rfl)
theorem dX6_key_62 : decode cX6_key 62 = .ok (.if_icmp .lt 6, 3) := dk_161 0 6 (dk_at dksX6_key_2 14 rfl rfl)
theorem dX6_key_65 : decode cX6_key 65 = .ok (.goto 8, 3) := dk_167 0 8 (dk_at dksX6_key_2 17 rfl rfl)
theorem dX6_key_68 : decode cX6_key 68 = .ok (.iload_n 3, 1) := dk_29 (dk_at dksX6_key_2 20 rfl rfl)
theorem dX6_key_69 : decode cX6_key 69 = .ok (.istore_n 1, 1) := dk_60 (dk_at dksX6_key_2 21 rfl rfl)
theorem dX6_key_70 : decode cX6_key 70 = .ok (.iload 4, 2) := dk_21 4 (dk_at dksX6_key_2 22 rfl rfl)
theorem dX6_key_72 : decode cX6_key 72 = .ok (.istore_n 2, 1) := dk_61 (dk_at dksX6_key_3 0 rfl rfl)
theorem dX6_key_73 : decode cX6_key 73 = .ok (.iinc 3 1, 3) := dk_132 3 1 (dk_at dksX6_key_3 1 rfl rfl)
theorem dX6_key_76 : decode cX6_key 76 = .ok (.goto (-59), 3) := dk_167 255 197 (dk_at dksX6_key_3 4 rfl rfl)
theorem dX6_key_79 : decode cX6_key 79 = .ok (.iload_n 1, 1) := dk_27 (dk_at dksX6_key_3 7 rfl rfl)
theorem dX6_key_80 : decode cX6_key 80 = .ok (.ifCond .ge 12, 3) := dk_156 0 12 (dk_at dksX6_key_3 8 rfl rfl)
theorem dX6_key_83 : decode cX6_key 83 = .ok (.aload_n 0, 1) := dk_42 (dk_at dksX6_key_3 11 rfl rfl)
theorem dX6_key_84 : decode cX6_key 84 = .ok (.bipush 8, 2) := dk_16 8 (dk_at dksX6_key_3 12 rfl rfl)
theorem dX6_key_86 : decode cX6_key 86 = .ok (.invokevirtual 308, 3) := dk_182 1 52 (dk_at dksX6_key_3 14 rfl rfl)
theorem dX6_key_89 : decode cX6_key 89 = .ok (.goto 4, 3) := dk_167 0 4 (dk_at dksX6_key_3 17 rfl rfl)
theorem dX6_key_92 : decode cX6_key 92 = .ok (.iload_n 1, 1) := dk_27 (dk_at dksX6_key_3 20 rfl rfl)
theorem dX6_key_93 : decode cX6_key 93 = .ok (.ireturn, 1) := dk_172 (dk_at dksX6_key_3 21 rfl rfl)
abbrev cX6_alone : ByteArray := prog_16_method_118_code
def yX6_alone : MethodName := ⟨RX6, "alone", "(I)I"⟩
def dkwX6_alone_3 : List UInt8 := [181, 1, 160, 28, 172]
abbrev dktX6_alone_3 : List UInt8 := dkwX6_alone_3 ++ []
def dkwX6_alone_2 : List UInt8 := [7, 162, 0, 21, 42, 180, 0, 53, 29, 42, 180, 0, 50, 29, 46, 79, 132, 3, 1, 167, 255, 236, 42, 4]
abbrev dktX6_alone_2 : List UInt8 := dkwX6_alone_2 ++ dktX6_alone_3
def dkwX6_alone_1 : List UInt8 := [42, 27, 182, 1, 81, 154, 0, 10, 42, 16, 9, 182, 1, 52, 172, 42, 27, 182, 1, 157, 61, 3, 62, 29]
abbrev dktX6_alone_1 : List UInt8 := dkwX6_alone_1 ++ dktX6_alone_2
def dkwX6_alone_0 : List UInt8 := [42, 3, 181, 0, 77, 42, 3, 181, 0, 80, 42, 27, 182, 1, 55, 154, 0, 9, 42, 5, 182, 1, 52, 172]
abbrev dktX6_alone_0 : List UInt8 := dkwX6_alone_0 ++ dktX6_alone_1
theorem dksX6_alone_0 : cX6_alone.data.toList.drop 0 = dktX6_alone_0 := by decide +kernel
theorem dksX6_alone_1 : cX6_alone.data.toList.drop 24 = dktX6_alone_1 := dk_seg dksX6_alone_0 24 rfl rfl
theorem dksX6_alone_2 : cX6_alone.data.toList.drop 48 = dktX6_alone_2 := dk_seg dksX6_alone_1 24 rfl rfl
theorem dksX6_alone_3 : cX6_alone.data.toList.drop 72 = dktX6_alone_3 := dk_seg dksX6_alone_2 24 rfl rfl
theorem dX6_alone_0 : decode cX6_alone 0 = .ok (.aload_n 0, 1) := dk_42 (dk_at dksX6_alone_0 0 rfl rfl)
theorem dX6_alone_1 : decode cX6_alone 1 = .ok (.iconst 0, 1) := dk_3 (dk_at dksX6_alone_0 1 rfl rfl)
theorem dX6_alone_2 : decode cX6_alone 2 = .ok (.putfield 77, 3) := dk_181 0 77 (dk_at dksX6_alone_0 2 rfl rfl)
theorem dX6_alone_5 : decode cX6_alone 5 = .ok (.aload_n 0, 1) := dk_42 (dk_at dksX6_alone_0 5 rfl rfl)
theorem dX6_alone_6 : decode cX6_alone 6 = .ok (.iconst 0, 1) := dk_3 (dk_at dksX6_alone_0 6 rfl rfl)
theorem dX6_alone_7 : decode cX6_alone 7 = .ok (.putfield 80, 3) := dk_181 0 80 (dk_at dksX6_alone_0 7 rfl rfl)
theorem dX6_alone_10 : decode cX6_alone 10 = .ok (.aload_n 0, 1) := dk_42 (dk_at dksX6_alone_0 10 rfl rfl)
theorem dX6_alone_11 : decode cX6_alone 11 = .ok (.iload_n 1, 1) := dk_27 (dk_at dksX6_alone_0 11 rfl rfl)
theorem dX6_alone_12 : decode cX6_alone 12 = .ok (.invokevirtual 311, 3) := dk_182 1 55 (dk_at dksX6_alone_0 12 rfl rfl)
theorem dX6_alone_15 : decode cX6_alone 15 = .ok (.ifCond .ne 9, 3) := dk_154 0 9 (dk_at dksX6_alone_0 15 rfl rfl)
theorem dX6_alone_18 : decode cX6_alone 18 = .ok (.aload_n 0, 1) := dk_42 (dk_at dksX6_alone_0 18 rfl rfl)
theorem dX6_alone_19 : decode cX6_alone 19 = .ok (.iconst 2, 1) := dk_5 (dk_at dksX6_alone_0 19 rfl rfl)
theorem dX6_alone_20 : decode cX6_alone 20 = .ok (.invokevirtual 308, 3) := dk_182 1 52 (dk_at dksX6_alone_0 20 rfl rfl)
theorem dX6_alone_23 : decode cX6_alone 23 = .ok (.ireturn, 1) := dk_172 (dk_at dksX6_alone_0 23 rfl rfl)
theorem dX6_alone_24 : decode cX6_alone 24 = .ok (.aload_n 0, 1) := dk_42 (dk_at dksX6_alone_1 0 rfl rfl)
theorem dX6_alone_25 : decode cX6_alone 25 = .ok (.iload_n 1, 1) := dk_27 (dk_at dksX6_alone_1 1 rfl rfl)
theorem dX6_alone_26 : decode cX6_alone 26 = .ok (.invokevirtual 337, 3) := dk_182 1 81 (dk_at dksX6_alone_1 2 rfl rfl)
theorem dX6_alone_29 : decode cX6_alone 29 = .ok (.ifCond .ne 10, 3) := dk_154 0 10 (dk_at dksX6_alone_1 5 rfl rfl)
theorem dX6_alone_32 : decode cX6_alone 32 = .ok (.aload_n 0, 1) := dk_42 (dk_at dksX6_alone_1 8 rfl rfl)
theorem dX6_alone_33 : decode cX6_alone 33 = .ok (.bipush 9, 2) := dk_16 9 (dk_at dksX6_alone_1 9 rfl rfl)
theorem dX6_alone_35 : decode cX6_alone 35 = .ok (.invokevirtual 308, 3) := dk_182 1 52 (dk_at dksX6_alone_1 11 rfl rfl)
theorem dX6_alone_38 : decode cX6_alone 38 = .ok (.ireturn, 1) := dk_172 (dk_at dksX6_alone_1 14 rfl rfl)
theorem dX6_alone_39 : decode cX6_alone 39 = .ok (.aload_n 0, 1) := dk_42 (dk_at dksX6_alone_1 15 rfl rfl)
theorem dX6_alone_40 : decode cX6_alone 40 = .ok (.iload_n 1, 1) := dk_27 (dk_at dksX6_alone_1 16 rfl rfl)
theorem dX6_alone_41 : decode cX6_alone 41 = .ok (.invokevirtual 413, 3) := dk_182 1 157 (dk_at dksX6_alone_1 17 rfl rfl)
theorem dX6_alone_44 : decode cX6_alone 44 = .ok (.istore_n 2, 1) := dk_61 (dk_at dksX6_alone_1 20 rfl rfl)
theorem dX6_alone_45 : decode cX6_alone 45 = .ok (.iconst 0, 1) := dk_3 (dk_at dksX6_alone_1 21 rfl rfl)
theorem dX6_alone_46 : decode cX6_alone 46 = .ok (.istore_n 3, 1) := dk_62 (dk_at dksX6_alone_1 22 rfl rfl)
theorem dX6_alone_47 : decode cX6_alone 47 = .ok (.iload_n 3, 1) := dk_29 (dk_at dksX6_alone_1 23 rfl rfl)
theorem dX6_alone_48 : decode cX6_alone 48 = .ok (.iconst 4, 1) := dk_7 (dk_at dksX6_alone_2 0 rfl rfl)
theorem dX6_alone_49 : decode cX6_alone 49 = .ok (.if_icmp .ge 21, 3) := dk_162 0 21 (dk_at dksX6_alone_2 1 rfl rfl)
theorem dX6_alone_52 : decode cX6_alone 52 = .ok (.aload_n 0, 1) := dk_42 (dk_at dksX6_alone_2 4 rfl rfl)
theorem dX6_alone_53 : decode cX6_alone 53 = .ok (.getfield 53, 3) := dk_180 0 53 (dk_at dksX6_alone_2 5 rfl rfl)
theorem dX6_alone_56 : decode cX6_alone 56 = .ok (.iload_n 3, 1) := dk_29 (dk_at dksX6_alone_2 8 rfl rfl)
theorem dX6_alone_57 : decode cX6_alone 57 = .ok (.aload_n 0, 1) := dk_42 (dk_at dksX6_alone_2 9 rfl rfl)
theorem dX6_alone_58 : decode cX6_alone 58 = .ok (.getfield 50, 3) := dk_180 0 50 (dk_at dksX6_alone_2 10 rfl rfl)
theorem dX6_alone_61 : decode cX6_alone 61 = .ok (.iload_n 3, 1) := dk_29 (dk_at dksX6_alone_2 13 rfl rfl)
theorem dX6_alone_62 : decode cX6_alone 62 = .ok (.iaload, 1) := dk_46 (dk_at dksX6_alone_2 14 rfl rfl)
theorem dX6_alone_63 : decode cX6_alone 63 = .ok (.iastore, 1) := dk_79 (dk_at dksX6_alone_2 15 rfl rfl)
theorem dX6_alone_64 : decode cX6_alone 64 = .ok (.iinc 3 1, 3) := dk_132 3 1 (dk_at dksX6_alone_2 16 rfl rfl)
theorem dX6_alone_67 : decode cX6_alone 67 = .ok (.goto (-20), 3) := dk_167 255 236 (dk_at dksX6_alone_2 19 rfl rfl)
theorem dX6_alone_70 : decode cX6_alone 70 = .ok (.aload_n 0, 1) := dk_42 (dk_at dksX6_alone_2 22 rfl rfl)
theorem dX6_alone_71 : decode cX6_alone 71 = .ok (.iconst 1, 1) := dk_4 (dk_at dksX6_alone_2 23 rfl rfl)
theorem dX6_alone_72 : decode cX6_alone 72 = .ok (.putfield 416, 3) := dk_181 1 160 (dk_at dksX6_alone_3 0 rfl rfl)
theorem dX6_alone_75 : decode cX6_alone 75 = .ok (.iload_n 2, 1) := dk_28 (dk_at dksX6_alone_3 3 rfl rfl)
theorem dX6_alone_76 : decode cX6_alone 76 = .ok (.ireturn, 1) := dk_172 (dk_at dksX6_alone_3 4 rfl rfl)
abbrev cX6_aloneOf : ByteArray := prog_16_method_117_code
def yX6_aloneOf : MethodName := ⟨RX6, "aloneOf", "(I)I"⟩
def dkwX6_aloneOf_4 : List UInt8 := [5, 42, 180, 1, 145, 79, 42, 180, 0, 50, 6, 42, 180, 1, 148, 79, 132, 3, 1, 167, 255, 150, 28, 172]
abbrev dktX6_aloneOf_4 : List UInt8 := dkwX6_aloneOf_4 ++ []
def dkwX6_aloneOf_3 : List UInt8 := [21, 4, 61, 42, 180, 0, 50, 3, 29, 79, 42, 180, 0, 50, 4, 42, 180, 1, 142, 79, 42, 180, 0, 50]
abbrev dktX6_aloneOf_3 : List UInt8 := dkwX6_aloneOf_3 ++ dktX6_aloneOf_4
def dkwX6_aloneOf_2 : List UInt8 := [182, 1, 154, 96, 54, 4, 42, 182, 1, 139, 28, 155, 0, 12, 21, 4, 28, 161, 0, 6, 167, 0, 43]
abbrev dktX6_aloneOf_2 : List UInt8 := dkwX6_aloneOf_2 ++ dktX6_aloneOf_3
def dkwX6_aloneOf_1 : List UInt8 := [162, 0, 18, 21, 4, 42, 182, 1, 87, 96, 54, 4, 132, 5, 1, 167, 255, 238, 21, 4, 42, 27]
abbrev dktX6_aloneOf_1 : List UInt8 := dkwX6_aloneOf_1 ++ dktX6_aloneOf_2
def dkwX6_aloneOf_0 : List UInt8 := [2, 61, 3, 62, 29, 7, 162, 0, 107, 42, 182, 1, 136, 3, 54, 4, 3, 54, 5, 21, 5, 29]
abbrev dktX6_aloneOf_0 : List UInt8 := dkwX6_aloneOf_0 ++ dktX6_aloneOf_1
theorem dksX6_aloneOf_0 : cX6_aloneOf.data.toList.drop 0 = dktX6_aloneOf_0 := by decide +kernel
theorem dksX6_aloneOf_1 : cX6_aloneOf.data.toList.drop 22 = dktX6_aloneOf_1 := dk_seg dksX6_aloneOf_0 22 rfl rfl
theorem dksX6_aloneOf_2 : cX6_aloneOf.data.toList.drop 44 = dktX6_aloneOf_2 := dk_seg dksX6_aloneOf_1 22 rfl rfl
theorem dksX6_aloneOf_3 : cX6_aloneOf.data.toList.drop 67 = dktX6_aloneOf_3 := dk_seg dksX6_aloneOf_2 23 rfl rfl
theorem dksX6_aloneOf_4 : cX6_aloneOf.data.toList.drop 91 = dktX6_aloneOf_4 := dk_seg dksX6_aloneOf_3 24 rfl rfl
theorem dX6_aloneOf_0 : decode cX6_aloneOf 0 = .ok (.iconst (-1), 1) := dk_2 (dk_at dksX6_aloneOf_0 0 rfl rfl)
theorem dX6_aloneOf_1 : decode cX6_aloneOf 1 = .ok (.istore_n 2, 1) := dk_61 (dk_at dksX6_aloneOf_0 1 rfl rfl)
theorem dX6_aloneOf_2 : decode cX6_aloneOf 2 = .ok (.iconst 0, 1) := dk_3 (dk_at dksX6_aloneOf_0 2 rfl rfl)
theorem dX6_aloneOf_3 : decode cX6_aloneOf 3 = .ok (.istore_n 3, 1) := dk_62 (dk_at dksX6_aloneOf_0 3 rfl rfl)
theorem dX6_aloneOf_4 : decode cX6_aloneOf 4 = .ok (.iload_n 3, 1) := dk_29 (dk_at dksX6_aloneOf_0 4 rfl rfl)
theorem dX6_aloneOf_5 : decode cX6_aloneOf 5 = .ok (.iconst 4, 1) := dk_7 (dk_at dksX6_aloneOf_0 5 rfl rfl)
theorem dX6_aloneOf_6 : decode cX6_aloneOf 6 = .ok (.if_icmp .ge 107, 3) := dk_162 0 107 (dk_at dksX6_aloneOf_0 6 rfl rfl)
theorem dX6_aloneOf_9 : decode cX6_aloneOf 9 = .ok (.aload_n 0, 1) := dk_42 (dk_at dksX6_aloneOf_0 9 rfl rfl)
theorem dX6_aloneOf_10 : decode cX6_aloneOf 10 = .ok (.invokevirtual 392, 3) := dk_182 1 136 (dk_at dksX6_aloneOf_0 10 rfl rfl)
theorem dX6_aloneOf_13 : decode cX6_aloneOf 13 = .ok (.iconst 0, 1) := dk_3 (dk_at dksX6_aloneOf_0 13 rfl rfl)
theorem dX6_aloneOf_14 : decode cX6_aloneOf 14 = .ok (.istore 4, 2) := dk_54 4 (dk_at dksX6_aloneOf_0 14 rfl rfl)
theorem dX6_aloneOf_16 : decode cX6_aloneOf 16 = .ok (.iconst 0, 1) := dk_3 (dk_at dksX6_aloneOf_0 16 rfl rfl)
theorem dX6_aloneOf_17 : decode cX6_aloneOf 17 = .ok (.istore 5, 2) := dk_54 5 (dk_at dksX6_aloneOf_0 17 rfl rfl)
theorem dX6_aloneOf_19 : decode cX6_aloneOf 19 = .ok (.iload 5, 2) := dk_21 5 (dk_at dksX6_aloneOf_0 19 rfl rfl)
theorem dX6_aloneOf_21 : decode cX6_aloneOf 21 = .ok (.iload_n 3, 1) := dk_29 (dk_at dksX6_aloneOf_0 21 rfl rfl)
theorem dX6_aloneOf_22 : decode cX6_aloneOf 22 = .ok (.if_icmp .ge 18, 3) := dk_162 0 18 (dk_at dksX6_aloneOf_1 0 rfl rfl)
theorem dX6_aloneOf_25 : decode cX6_aloneOf 25 = .ok (.iload 4, 2) := dk_21 4 (dk_at dksX6_aloneOf_1 3 rfl rfl)
theorem dX6_aloneOf_27 : decode cX6_aloneOf 27 = .ok (.aload_n 0, 1) := dk_42 (dk_at dksX6_aloneOf_1 5 rfl rfl)
theorem dX6_aloneOf_28 : decode cX6_aloneOf 28 = .ok (.invokevirtual 343, 3) := dk_182 1 87 (dk_at dksX6_aloneOf_1 6 rfl rfl)
theorem dX6_aloneOf_31 : decode cX6_aloneOf 31 = .ok (.iadd, 1) := dk_96 (dk_at dksX6_aloneOf_1 9 rfl rfl)
theorem dX6_aloneOf_32 : decode cX6_aloneOf 32 = .ok (.istore 4, 2) := dk_54 4 (dk_at dksX6_aloneOf_1 10 rfl rfl)
theorem dX6_aloneOf_34 : decode cX6_aloneOf 34 = .ok (.iinc 5 1, 3) := dk_132 5 1 (dk_at dksX6_aloneOf_1 12 rfl rfl)
theorem dX6_aloneOf_37 : decode cX6_aloneOf 37 = .ok (.goto (-18), 3) := dk_167 255 238 (dk_at dksX6_aloneOf_1 15 rfl rfl)
theorem dX6_aloneOf_40 : decode cX6_aloneOf 40 = .ok (.iload 4, 2) := dk_21 4 (dk_at dksX6_aloneOf_1 18 rfl rfl)
theorem dX6_aloneOf_42 : decode cX6_aloneOf 42 = .ok (.aload_n 0, 1) := dk_42 (dk_at dksX6_aloneOf_1 20 rfl rfl)
theorem dX6_aloneOf_43 : decode cX6_aloneOf 43 = .ok (.iload_n 1, 1) := dk_27 (dk_at dksX6_aloneOf_1 21 rfl rfl)
theorem dX6_aloneOf_44 : decode cX6_aloneOf 44 = .ok (.invokevirtual 410, 3) := dk_182 1 154 (dk_at dksX6_aloneOf_2 0 rfl rfl)
theorem dX6_aloneOf_47 : decode cX6_aloneOf 47 = .ok (.iadd, 1) := dk_96 (dk_at dksX6_aloneOf_2 3 rfl rfl)
theorem dX6_aloneOf_48 : decode cX6_aloneOf 48 = .ok (.istore 4, 2) := dk_54 4 (dk_at dksX6_aloneOf_2 4 rfl rfl)
theorem dX6_aloneOf_50 : decode cX6_aloneOf 50 = .ok (.aload_n 0, 1) := dk_42 (dk_at dksX6_aloneOf_2 6 rfl rfl)
theorem dX6_aloneOf_51 : decode cX6_aloneOf 51 = .ok (.invokevirtual 395, 3) := dk_182 1 139 (dk_at dksX6_aloneOf_2 7 rfl rfl)
theorem dX6_aloneOf_54 : decode cX6_aloneOf 54 = .ok (.iload_n 2, 1) := dk_28 (dk_at dksX6_aloneOf_2 10 rfl rfl)
theorem dX6_aloneOf_55 : decode cX6_aloneOf 55 = .ok (.ifCond .lt 12, 3) := dk_155 0 12 (dk_at dksX6_aloneOf_2 11 rfl rfl)
theorem dX6_aloneOf_58 : decode cX6_aloneOf 58 = .ok (.iload 4, 2) := dk_21 4 (dk_at dksX6_aloneOf_2 14 rfl rfl)
theorem dX6_aloneOf_60 : decode cX6_aloneOf 60 = .ok (.iload_n 2, 1) := dk_28 (dk_at dksX6_aloneOf_2 16 rfl rfl)
theorem dX6_aloneOf_61 : decode cX6_aloneOf 61 = .ok (.if_icmp .lt 6, 3) := dk_161 0 6 (dk_at dksX6_aloneOf_2 17 rfl rfl)
theorem dX6_aloneOf_64 : decode cX6_aloneOf 64 = .ok (.goto 43, 3) := dk_167 0 43 (dk_at dksX6_aloneOf_2 20 rfl rfl)
theorem dX6_aloneOf_67 : decode cX6_aloneOf 67 = .ok (.iload 4, 2) := dk_21 4 (dk_at dksX6_aloneOf_3 0 rfl rfl)
theorem dX6_aloneOf_69 : decode cX6_aloneOf 69 = .ok (.istore_n 2, 1) := dk_61 (dk_at dksX6_aloneOf_3 2 rfl rfl)
theorem dX6_aloneOf_70 : decode cX6_aloneOf 70 = .ok (.aload_n 0, 1) := dk_42 (dk_at dksX6_aloneOf_3 3 rfl rfl)
theorem dX6_aloneOf_71 : decode cX6_aloneOf 71 = .ok (.getfield 50, 3) := dk_180 0 50 (dk_at dksX6_aloneOf_3 4 rfl rfl)
theorem dX6_aloneOf_74 : decode cX6_aloneOf 74 = .ok (.iconst 0, 1) := dk_3 (dk_at dksX6_aloneOf_3 7 rfl rfl)
theorem dX6_aloneOf_75 : decode cX6_aloneOf 75 = .ok (.iload_n 3, 1) := dk_29 (dk_at dksX6_aloneOf_3 8 rfl rfl)
theorem dX6_aloneOf_76 : decode cX6_aloneOf 76 = .ok (.iastore, 1) := dk_79 (dk_at dksX6_aloneOf_3 9 rfl rfl)
theorem dX6_aloneOf_77 : decode cX6_aloneOf 77 = .ok (.aload_n 0, 1) := dk_42 (dk_at dksX6_aloneOf_3 10 rfl rfl)
theorem dX6_aloneOf_78 : decode cX6_aloneOf 78 = .ok (.getfield 50, 3) := dk_180 0 50 (dk_at dksX6_aloneOf_3 11 rfl rfl)
theorem dX6_aloneOf_81 : decode cX6_aloneOf 81 = .ok (.iconst 1, 1) := dk_4 (dk_at dksX6_aloneOf_3 14 rfl rfl)
theorem dX6_aloneOf_82 : decode cX6_aloneOf 82 = .ok (.aload_n 0, 1) := dk_42 (dk_at dksX6_aloneOf_3 15 rfl rfl)
theorem dX6_aloneOf_83 : decode cX6_aloneOf 83 = .ok (.getfield 398, 3) := dk_180 1 142 (dk_at dksX6_aloneOf_3 16 rfl rfl)
theorem dX6_aloneOf_86 : decode cX6_aloneOf 86 = .ok (.iastore, 1) := dk_79 (dk_at dksX6_aloneOf_3 19 rfl rfl)
theorem dX6_aloneOf_87 : decode cX6_aloneOf 87 = .ok (.aload_n 0, 1) := dk_42 (dk_at dksX6_aloneOf_3 20 rfl rfl)
theorem dX6_aloneOf_88 : decode cX6_aloneOf 88 = .ok (.getfield 50, 3) := dk_180 0 50 (dk_at dksX6_aloneOf_3 21 rfl rfl)
theorem dX6_aloneOf_91 : decode cX6_aloneOf 91 = .ok (.iconst 2, 1) := dk_5 (dk_at dksX6_aloneOf_4 0 rfl rfl)
theorem dX6_aloneOf_92 : decode cX6_aloneOf 92 = .ok (.aload_n 0, 1) := dk_42 (dk_at dksX6_aloneOf_4 1 rfl rfl)
theorem dX6_aloneOf_93 : decode cX6_aloneOf 93 = .ok (.getfield 401, 3) := dk_180 1 145 (dk_at dksX6_aloneOf_4 2 rfl rfl)
theorem dX6_aloneOf_96 : decode cX6_aloneOf 96 = .ok (.iastore, 1) := dk_79 (dk_at dksX6_aloneOf_4 5 rfl rfl)
theorem dX6_aloneOf_97 : decode cX6_aloneOf 97 = .ok (.aload_n 0, 1) := dk_42 (dk_at dksX6_aloneOf_4 6 rfl rfl)
theorem dX6_aloneOf_98 : decode cX6_aloneOf 98 = .ok (.getfield 50, 3) := dk_180 0 50 (dk_at dksX6_aloneOf_4 7 rfl rfl)
theorem dX6_aloneOf_101 : decode cX6_aloneOf 101 = .ok (.iconst 3, 1) := dk_6 (dk_at dksX6_aloneOf_4 10 rfl rfl)
theorem dX6_aloneOf_102 : decode cX6_aloneOf 102 = .ok (.aload_n 0, 1) := dk_42 (dk_at dksX6_aloneOf_4 11 rfl rfl)
theorem dX6_aloneOf_103 : decode cX6_aloneOf 103 = .ok (.getfield 404, 3) := dk_180 1 148 (dk_at dksX6_aloneOf_4 12 rfl rfl)
theorem dX6_aloneOf_106 : decode cX6_aloneOf 106 = .ok (.iastore, 1) := dk_79 (dk_at dksX6_aloneOf_4 15 rfl rfl)
theorem dX6_aloneOf_107 : decode cX6_aloneOf 107 = .ok (.iinc 3 1, 3) := dk_132 3 1 (dk_at dksX6_aloneOf_4 16 rfl rfl)
theorem dX6_aloneOf_110 : decode cX6_aloneOf 110 = .ok (.goto (-106), 3) := dk_167 255 150 (dk_at dksX6_aloneOf_4 19 rfl rfl)
theorem dX6_aloneOf_113 : decode cX6_aloneOf 113 = .ok (.iload_n 2, 1) := dk_28 (dk_at dksX6_aloneOf_4 22 rfl rfl)
theorem dX6_aloneOf_114 : decode cX6_aloneOf 114 = .ok (.ireturn, 1) := dk_172 (dk_at dksX6_aloneOf_4 23 rfl rfl)
abbrev cX6_frees : ByteArray := prog_16_method_116_code
def yX6_frees : MethodName := ⟨RX6, "frees", "(I)I"⟩
def dkwX6_frees_12 : List UInt8 := [181, 1, 148, 132, 7, 1, 167, 255, 103, 132, 4, 1, 167, 255, 54, 29, 172]
abbrev dktX6_frees_12 : List UInt8 := dkwX6_frees_12 ++ []
def dkwX6_frees_11 : List UInt8 := [181, 1, 142, 42, 21, 7, 181, 1, 145, 42, 21, 4, 21, 7, 96, 28, 162, 0, 7, 4, 167, 0, 4, 3]
abbrev dktX6_frees_11 : List UInt8 := dkwX6_frees_11 ++ dktX6_frees_12
def dkwX6_frees_10 : List UInt8 := [153, 0, 49, 29, 155, 0, 12, 21, 9, 29, 161, 0, 6, 167, 0, 36, 21, 9, 62, 42, 21, 4]
abbrev dktX6_frees_10 : List UInt8 := dkwX6_frees_10 ++ dktX6_frees_11
def dkwX6_frees_9 : List UInt8 := [21, 5, 21, 6, 96, 21, 4, 21, 7, 96, 28, 162, 0, 7, 5, 167, 0, 4, 3, 96, 54, 9, 21, 8]
abbrev dktX6_frees_9 : List UInt8 := dkwX6_frees_9 ++ dktX6_frees_10
def dkwX6_frees_8 : List UInt8 := [180, 0, 47, 21, 9, 46, 4, 160, 0, 7, 4, 167, 0, 4, 3, 54, 8, 132, 9, 1, 167, 255, 221]
abbrev dktX6_frees_8 : List UInt8 := dkwX6_frees_8 ++ dktX6_frees_9
def dkwX6_frees_7 : List UInt8 := [54, 6, 4, 54, 8, 21, 4, 54, 9, 21, 9, 28, 21, 7, 100, 162, 0, 32, 21, 8, 153, 0, 18, 42]
abbrev dktX6_frees_7 : List UInt8 := dkwX6_frees_7 ++ dktX6_frees_8
def dkwX6_frees_6 : List UInt8 := [163, 0, 150, 21, 6, 21, 7, 154, 0, 7, 3, 167, 0, 12, 42, 180, 0, 44, 28, 21, 7, 100, 46, 96]
abbrev dktX6_frees_6 : List UInt8 := dkwX6_frees_6 ++ dktX6_frees_7
def dkwX6_frees_5 : List UInt8 := [46, 96, 54, 5, 132, 6, 1, 167, 255, 234, 3, 54, 6, 3, 54, 7, 21, 7, 28, 21, 4, 100]
abbrev dktX6_frees_5 : List UInt8 := dkwX6_frees_5 ++ dktX6_frees_6
def dkwX6_frees_4 : List UInt8 := [163, 0, 202, 3, 54, 5, 3, 54, 6, 21, 6, 21, 4, 162, 0, 21, 21, 5, 42, 180, 0, 44, 21, 6]
abbrev dktX6_frees_4 : List UInt8 := dkwX6_frees_4 ++ dktX6_frees_5
def dkwX6_frees_3 : List UInt8 := [154, 0, 7, 4, 167, 0, 4, 3, 79, 132, 3, 1, 167, 255, 203, 2, 62, 3, 54, 4, 21, 4, 28]
abbrev dktX6_frees_3 : List UInt8 := dkwX6_frees_3 ++ dktX6_frees_4
def dkwX6_frees_2 : List UInt8 := [27, 182, 1, 78, 79, 42, 180, 0, 47, 29, 42, 180, 0, 35, 16, 108, 42, 27, 29, 182, 1, 151, 96, 46]
abbrev dktX6_frees_2 : List UInt8 := dkwX6_frees_2 ++ dktX6_frees_3
def dkwX6_frees_1 : List UInt8 := [154, 0, 5, 3, 172, 3, 62, 29, 28, 162, 0, 54, 42, 180, 0, 44, 29, 42, 42, 27, 29, 182, 1, 151]
abbrev dktX6_frees_1 : List UInt8 := dkwX6_frees_1 ++ dktX6_frees_2
def dkwX6_frees_0 : List UInt8 := [42, 27, 182, 1, 58, 61, 42, 3, 181, 1, 142, 42, 3, 181, 1, 145, 42, 3, 181, 1, 148, 28]
abbrev dktX6_frees_0 : List UInt8 := dkwX6_frees_0 ++ dktX6_frees_1
theorem dksX6_frees_0 : cX6_frees.data.toList.drop 0 = dktX6_frees_0 := by decide +kernel
theorem dksX6_frees_1 : cX6_frees.data.toList.drop 22 = dktX6_frees_1 := dk_seg dksX6_frees_0 22 rfl rfl
theorem dksX6_frees_2 : cX6_frees.data.toList.drop 46 = dktX6_frees_2 := dk_seg dksX6_frees_1 24 rfl rfl
theorem dksX6_frees_3 : cX6_frees.data.toList.drop 70 = dktX6_frees_3 := dk_seg dksX6_frees_2 24 rfl rfl
theorem dksX6_frees_4 : cX6_frees.data.toList.drop 93 = dktX6_frees_4 := dk_seg dksX6_frees_3 23 rfl rfl
theorem dksX6_frees_5 : cX6_frees.data.toList.drop 117 = dktX6_frees_5 := dk_seg dksX6_frees_4 24 rfl rfl
theorem dksX6_frees_6 : cX6_frees.data.toList.drop 139 = dktX6_frees_6 := dk_seg dksX6_frees_5 22 rfl rfl
theorem dksX6_frees_7 : cX6_frees.data.toList.drop 163 = dktX6_frees_7 := dk_seg dksX6_frees_6 24 rfl rfl
theorem dksX6_frees_8 : cX6_frees.data.toList.drop 187 = dktX6_frees_8 := dk_seg dksX6_frees_7 24 rfl rfl
theorem dksX6_frees_9 : cX6_frees.data.toList.drop 210 = dktX6_frees_9 := dk_seg dksX6_frees_8 23 rfl rfl
theorem dksX6_frees_10 : cX6_frees.data.toList.drop 234 = dktX6_frees_10 := dk_seg dksX6_frees_9 24 rfl rfl
theorem dksX6_frees_11 : cX6_frees.data.toList.drop 256 = dktX6_frees_11 := dk_seg dksX6_frees_10 22 rfl rfl
theorem dksX6_frees_12 : cX6_frees.data.toList.drop 280 = dktX6_frees_12 := dk_seg dksX6_frees_11 24 rfl rfl
theorem dX6_frees_0 : decode cX6_frees 0 = .ok (.aload_n 0, 1) := dk_42 (dk_at dksX6_frees_0 0 rfl rfl)
theorem dX6_frees_1 : decode cX6_frees 1 = .ok (.iload_n 1, 1) := dk_27 (dk_at dksX6_frees_0 1 rfl rfl)
theorem dX6_frees_2 : decode cX6_frees 2 = .ok (.invokevirtual 314, 3) := dk_182 1 58 (dk_at dksX6_frees_0 2 rfl rfl)
theorem dX6_frees_5 : decode cX6_frees 5 = .ok (.istore_n 2, 1) := dk_61 (dk_at dksX6_frees_0 5 rfl rfl)
theorem dX6_frees_6 : decode cX6_frees 6 = .ok (.aload_n 0, 1) := dk_42 (dk_at dksX6_frees_0 6 rfl rfl)
theorem dX6_frees_7 : decode cX6_frees 7 = .ok (.iconst 0, 1) := dk_3 (dk_at dksX6_frees_0 7 rfl rfl)
theorem dX6_frees_8 : decode cX6_frees 8 = .ok (.putfield 398, 3) := dk_181 1 142 (dk_at dksX6_frees_0 8 rfl rfl)
theorem dX6_frees_11 : decode cX6_frees 11 = .ok (.aload_n 0, 1) := dk_42 (dk_at dksX6_frees_0 11 rfl rfl)
theorem dX6_frees_12 : decode cX6_frees 12 = .ok (.iconst 0, 1) := dk_3 (dk_at dksX6_frees_0 12 rfl rfl)
theorem dX6_frees_13 : decode cX6_frees 13 = .ok (.putfield 401, 3) := dk_181 1 145 (dk_at dksX6_frees_0 13 rfl rfl)
theorem dX6_frees_16 : decode cX6_frees 16 = .ok (.aload_n 0, 1) := dk_42 (dk_at dksX6_frees_0 16 rfl rfl)
theorem dX6_frees_17 : decode cX6_frees 17 = .ok (.iconst 0, 1) := dk_3 (dk_at dksX6_frees_0 17 rfl rfl)
theorem dX6_frees_18 : decode cX6_frees 18 = .ok (.putfield 404, 3) := dk_181 1 148 (dk_at dksX6_frees_0 18 rfl rfl)
theorem dX6_frees_21 : decode cX6_frees 21 = .ok (.iload_n 2, 1) := dk_28 (dk_at dksX6_frees_0 21 rfl rfl)
theorem dX6_frees_22 : decode cX6_frees 22 = .ok (.ifCond .ne 5, 3) := dk_154 0 5 (dk_at dksX6_frees_1 0 rfl rfl)
theorem dX6_frees_25 : decode cX6_frees 25 = .ok (.iconst 0, 1) := dk_3 (dk_at dksX6_frees_1 3 rfl rfl)
theorem dX6_frees_26 : decode cX6_frees 26 = .ok (.ireturn, 1) := dk_172 (dk_at dksX6_frees_1 4 rfl rfl)
theorem dX6_frees_27 : decode cX6_frees 27 = .ok (.iconst 0, 1) := dk_3 (dk_at dksX6_frees_1 5 rfl rfl)
theorem dX6_frees_28 : decode cX6_frees 28 = .ok (.istore_n 3, 1) := dk_62 (dk_at dksX6_frees_1 6 rfl rfl)
theorem dX6_frees_29 : decode cX6_frees 29 = .ok (.iload_n 3, 1) := dk_29 (dk_at dksX6_frees_1 7 rfl rfl)
theorem dX6_frees_30 : decode cX6_frees 30 = .ok (.iload_n 2, 1) := dk_28 (dk_at dksX6_frees_1 8 rfl rfl)
theorem dX6_frees_31 : decode cX6_frees 31 = .ok (.if_icmp .ge 54, 3) := dk_162 0 54 (dk_at dksX6_frees_1 9 rfl rfl)
theorem dX6_frees_34 : decode cX6_frees 34 = .ok (.aload_n 0, 1) := dk_42 (dk_at dksX6_frees_1 12 rfl rfl)
theorem dX6_frees_35 : decode cX6_frees 35 = .ok (.getfield 44, 3) := dk_180 0 44 (dk_at dksX6_frees_1 13 rfl rfl)
theorem dX6_frees_38 : decode cX6_frees 38 = .ok (.iload_n 3, 1) := dk_29 (dk_at dksX6_frees_1 16 rfl rfl)
theorem dX6_frees_39 : decode cX6_frees 39 = .ok (.aload_n 0, 1) := dk_42 (dk_at dksX6_frees_1 17 rfl rfl)
theorem dX6_frees_40 : decode cX6_frees 40 = .ok (.aload_n 0, 1) := dk_42 (dk_at dksX6_frees_1 18 rfl rfl)
theorem dX6_frees_41 : decode cX6_frees 41 = .ok (.iload_n 1, 1) := dk_27 (dk_at dksX6_frees_1 19 rfl rfl)
theorem dX6_frees_42 : decode cX6_frees 42 = .ok (.iload_n 3, 1) := dk_29 (dk_at dksX6_frees_1 20 rfl rfl)
theorem dX6_frees_43 : decode cX6_frees 43 = .ok (.invokevirtual 407, 3) := dk_182 1 151 (dk_at dksX6_frees_1 21 rfl rfl)
theorem dX6_frees_46 : decode cX6_frees 46 = .ok (.iload_n 1, 1) := dk_27 (dk_at dksX6_frees_2 0 rfl rfl)
theorem dX6_frees_47 : decode cX6_frees 47 = .ok (.invokevirtual 334, 3) := dk_182 1 78 (dk_at dksX6_frees_2 1 rfl rfl)
theorem dX6_frees_50 : decode cX6_frees 50 = .ok (.iastore, 1) := dk_79 (dk_at dksX6_frees_2 4 rfl rfl)
theorem dX6_frees_51 : decode cX6_frees 51 = .ok (.aload_n 0, 1) := dk_42 (dk_at dksX6_frees_2 5 rfl rfl)
theorem dX6_frees_52 : decode cX6_frees 52 = .ok (.getfield 47, 3) := dk_180 0 47 (dk_at dksX6_frees_2 6 rfl rfl)
theorem dX6_frees_55 : decode cX6_frees 55 = .ok (.iload_n 3, 1) := dk_29 (dk_at dksX6_frees_2 9 rfl rfl)
theorem dX6_frees_56 : decode cX6_frees 56 = .ok (.aload_n 0, 1) := dk_42 (dk_at dksX6_frees_2 10 rfl rfl)
theorem dX6_frees_57 : decode cX6_frees 57 = .ok (.getfield 35, 3) := dk_180 0 35 (dk_at dksX6_frees_2 11 rfl rfl)
theorem dX6_frees_60 : decode cX6_frees 60 = .ok (.bipush 108, 2) := dk_16 108 (dk_at dksX6_frees_2 14 rfl rfl)
theorem dX6_frees_62 : decode cX6_frees 62 = .ok (.aload_n 0, 1) := dk_42 (dk_at dksX6_frees_2 16 rfl rfl)
theorem dX6_frees_63 : decode cX6_frees 63 = .ok (.iload_n 1, 1) := dk_27 (dk_at dksX6_frees_2 17 rfl rfl)
theorem dX6_frees_64 : decode cX6_frees 64 = .ok (.iload_n 3, 1) := dk_29 (dk_at dksX6_frees_2 18 rfl rfl)
theorem dX6_frees_65 : decode cX6_frees 65 = .ok (.invokevirtual 407, 3) := dk_182 1 151 (dk_at dksX6_frees_2 19 rfl rfl)
theorem dX6_frees_68 : decode cX6_frees 68 = .ok (.iadd, 1) := dk_96 (dk_at dksX6_frees_2 22 rfl rfl)
theorem dX6_frees_69 : decode cX6_frees 69 = .ok (.iaload, 1) := dk_46 (dk_at dksX6_frees_2 23 rfl rfl)
theorem dX6_frees_70 : decode cX6_frees 70 = .ok (.ifCond .ne 7, 3) := dk_154 0 7 (dk_at dksX6_frees_3 0 rfl rfl)
theorem dX6_frees_73 : decode cX6_frees 73 = .ok (.iconst 1, 1) := dk_4 (dk_at dksX6_frees_3 3 rfl rfl)
theorem dX6_frees_74 : decode cX6_frees 74 = .ok (.goto 4, 3) := dk_167 0 4 (dk_at dksX6_frees_3 4 rfl rfl)
theorem dX6_frees_77 : decode cX6_frees 77 = .ok (.iconst 0, 1) := dk_3 (dk_at dksX6_frees_3 7 rfl rfl)
theorem dX6_frees_78 : decode cX6_frees 78 = .ok (.iastore, 1) := dk_79 (dk_at dksX6_frees_3 8 rfl rfl)
theorem dX6_frees_79 : decode cX6_frees 79 = .ok (.iinc 3 1, 3) := dk_132 3 1 (dk_at dksX6_frees_3 9 rfl rfl)
theorem dX6_frees_82 : decode cX6_frees 82 = .ok (.goto (-53), 3) := dk_167 255 203 (dk_at dksX6_frees_3 12 rfl rfl)
theorem dX6_frees_85 : decode cX6_frees 85 = .ok (.iconst (-1), 1) := dk_2 (dk_at dksX6_frees_3 15 rfl rfl)
theorem dX6_frees_86 : decode cX6_frees 86 = .ok (.istore_n 3, 1) := dk_62 (dk_at dksX6_frees_3 16 rfl rfl)
theorem dX6_frees_87 : decode cX6_frees 87 = .ok (.iconst 0, 1) := dk_3 (dk_at dksX6_frees_3 17 rfl rfl)
theorem dX6_frees_88 : decode cX6_frees 88 = .ok (.istore 4, 2) := dk_54 4 (dk_at dksX6_frees_3 18 rfl rfl)
theorem dX6_frees_90 : decode cX6_frees 90 = .ok (.iload 4, 2) := dk_21 4 (dk_at dksX6_frees_3 20 rfl rfl)
theorem dX6_frees_92 : decode cX6_frees 92 = .ok (.iload_n 2, 1) := dk_28 (dk_at dksX6_frees_3 22 rfl rfl)
theorem dX6_frees_93 : decode cX6_frees 93 = .ok (.if_icmp .gt 202, 3) := dk_163 0 202 (dk_at dksX6_frees_4 0 rfl rfl)
theorem dX6_frees_96 : decode cX6_frees 96 = .ok (.iconst 0, 1) := dk_3 (dk_at dksX6_frees_4 3 rfl rfl)
theorem dX6_frees_97 : decode cX6_frees 97 = .ok (.istore 5, 2) := dk_54 5 (dk_at dksX6_frees_4 4 rfl rfl)
theorem dX6_frees_99 : decode cX6_frees 99 = .ok (.iconst 0, 1) := dk_3 (dk_at dksX6_frees_4 6 rfl rfl)
theorem dX6_frees_100 : decode cX6_frees 100 = .ok (.istore 6, 2) := dk_54 6 (dk_at dksX6_frees_4 7 rfl rfl)
theorem dX6_frees_102 : decode cX6_frees 102 = .ok (.iload 6, 2) := dk_21 6 (dk_at dksX6_frees_4 9 rfl rfl)
theorem dX6_frees_104 : decode cX6_frees 104 = .ok (.iload 4, 2) := dk_21 4 (dk_at dksX6_frees_4 11 rfl rfl)
theorem dX6_frees_106 : decode cX6_frees 106 = .ok (.if_icmp .ge 21, 3) := dk_162 0 21 (dk_at dksX6_frees_4 13 rfl rfl)
theorem dX6_frees_109 : decode cX6_frees 109 = .ok (.iload 5, 2) := dk_21 5 (dk_at dksX6_frees_4 16 rfl rfl)
theorem dX6_frees_111 : decode cX6_frees 111 = .ok (.aload_n 0, 1) := dk_42 (dk_at dksX6_frees_4 18 rfl rfl)
theorem dX6_frees_112 : decode cX6_frees 112 = .ok (.getfield 44, 3) := dk_180 0 44 (dk_at dksX6_frees_4 19 rfl rfl)
theorem dX6_frees_115 : decode cX6_frees 115 = .ok (.iload 6, 2) := dk_21 6 (dk_at dksX6_frees_4 22 rfl rfl)
theorem dX6_frees_117 : decode cX6_frees 117 = .ok (.iaload, 1) := dk_46 (dk_at dksX6_frees_5 0 rfl rfl)
theorem dX6_frees_118 : decode cX6_frees 118 = .ok (.iadd, 1) := dk_96 (dk_at dksX6_frees_5 1 rfl rfl)
theorem dX6_frees_119 : decode cX6_frees 119 = .ok (.istore 5, 2) := dk_54 5 (dk_at dksX6_frees_5 2 rfl rfl)
theorem dX6_frees_121 : decode cX6_frees 121 = .ok (.iinc 6 1, 3) := dk_132 6 1 (dk_at dksX6_frees_5 4 rfl rfl)
theorem dX6_frees_124 : decode cX6_frees 124 = .ok (.goto (-22), 3) := dk_167 255 234 (dk_at dksX6_frees_5 7 rfl rfl)
theorem dX6_frees_127 : decode cX6_frees 127 = .ok (.iconst 0, 1) := dk_3 (dk_at dksX6_frees_5 10 rfl rfl)
theorem dX6_frees_128 : decode cX6_frees 128 = .ok (.istore 6, 2) := dk_54 6 (dk_at dksX6_frees_5 11 rfl rfl)
theorem dX6_frees_130 : decode cX6_frees 130 = .ok (.iconst 0, 1) := dk_3 (dk_at dksX6_frees_5 13 rfl rfl)
theorem dX6_frees_131 : decode cX6_frees 131 = .ok (.istore 7, 2) := dk_54 7 (dk_at dksX6_frees_5 14 rfl rfl)
theorem dX6_frees_133 : decode cX6_frees 133 = .ok (.iload 7, 2) := dk_21 7 (dk_at dksX6_frees_5 16 rfl rfl)
theorem dX6_frees_135 : decode cX6_frees 135 = .ok (.iload_n 2, 1) := dk_28 (dk_at dksX6_frees_5 18 rfl rfl)
theorem dX6_frees_136 : decode cX6_frees 136 = .ok (.iload 4, 2) := dk_21 4 (dk_at dksX6_frees_5 19 rfl rfl)
theorem dX6_frees_138 : decode cX6_frees 138 = .ok (.isub, 1) := dk_100 (dk_at dksX6_frees_5 21 rfl rfl)
theorem dX6_frees_139 : decode cX6_frees 139 = .ok (.if_icmp .gt 150, 3) := dk_163 0 150 (dk_at dksX6_frees_6 0 rfl rfl)
theorem dX6_frees_142 : decode cX6_frees 142 = .ok (.iload 6, 2) := dk_21 6 (dk_at dksX6_frees_6 3 rfl rfl)
theorem dX6_frees_144 : decode cX6_frees 144 = .ok (.iload 7, 2) := dk_21 7 (dk_at dksX6_frees_6 5 rfl rfl)
theorem dX6_frees_146 : decode cX6_frees 146 = .ok (.ifCond .ne 7, 3) := dk_154 0 7 (dk_at dksX6_frees_6 7 rfl rfl)
theorem dX6_frees_149 : decode cX6_frees 149 = .ok (.iconst 0, 1) := dk_3 (dk_at dksX6_frees_6 10 rfl rfl)
theorem dX6_frees_150 : decode cX6_frees 150 = .ok (.goto 12, 3) := dk_167 0 12 (dk_at dksX6_frees_6 11 rfl rfl)
theorem dX6_frees_153 : decode cX6_frees 153 = .ok (.aload_n 0, 1) := dk_42 (dk_at dksX6_frees_6 14 rfl rfl)
theorem dX6_frees_154 : decode cX6_frees 154 = .ok (.getfield 44, 3) := dk_180 0 44 (dk_at dksX6_frees_6 15 rfl rfl)
theorem dX6_frees_157 : decode cX6_frees 157 = .ok (.iload_n 2, 1) := dk_28 (dk_at dksX6_frees_6 18 rfl rfl)
theorem dX6_frees_158 : decode cX6_frees 158 = .ok (.iload 7, 2) := dk_21 7 (dk_at dksX6_frees_6 19 rfl rfl)
theorem dX6_frees_160 : decode cX6_frees 160 = .ok (.isub, 1) := dk_100 (dk_at dksX6_frees_6 21 rfl rfl)
theorem dX6_frees_161 : decode cX6_frees 161 = .ok (.iaload, 1) := dk_46 (dk_at dksX6_frees_6 22 rfl rfl)
theorem dX6_frees_162 : decode cX6_frees 162 = .ok (.iadd, 1) := dk_96 (dk_at dksX6_frees_6 23 rfl rfl)
theorem dX6_frees_163 : decode cX6_frees 163 = .ok (.istore 6, 2) := dk_54 6 (dk_at dksX6_frees_7 0 rfl rfl)
theorem dX6_frees_165 : decode cX6_frees 165 = .ok (.iconst 1, 1) := dk_4 (dk_at dksX6_frees_7 2 rfl rfl)
theorem dX6_frees_166 : decode cX6_frees 166 = .ok (.istore 8, 2) := dk_54 8 (dk_at dksX6_frees_7 3 rfl rfl)
theorem dX6_frees_168 : decode cX6_frees 168 = .ok (.iload 4, 2) := dk_21 4 (dk_at dksX6_frees_7 5 rfl rfl)
theorem dX6_frees_170 : decode cX6_frees 170 = .ok (.istore 9, 2) := dk_54 9 (dk_at dksX6_frees_7 7 rfl rfl)
theorem dX6_frees_172 : decode cX6_frees 172 = .ok (.iload 9, 2) := dk_21 9 (dk_at dksX6_frees_7 9 rfl rfl)
theorem dX6_frees_174 : decode cX6_frees 174 = .ok (.iload_n 2, 1) := dk_28 (dk_at dksX6_frees_7 11 rfl rfl)
theorem dX6_frees_175 : decode cX6_frees 175 = .ok (.iload 7, 2) := dk_21 7 (dk_at dksX6_frees_7 12 rfl rfl)
theorem dX6_frees_177 : decode cX6_frees 177 = .ok (.isub, 1) := dk_100 (dk_at dksX6_frees_7 14 rfl rfl)
theorem dX6_frees_178 : decode cX6_frees 178 = .ok (.if_icmp .ge 32, 3) := dk_162 0 32 (dk_at dksX6_frees_7 15 rfl rfl)
theorem dX6_frees_181 : decode cX6_frees 181 = .ok (.iload 8, 2) := dk_21 8 (dk_at dksX6_frees_7 18 rfl rfl)
theorem dX6_frees_183 : decode cX6_frees 183 = .ok (.ifCond .eq 18, 3) := dk_153 0 18 (dk_at dksX6_frees_7 20 rfl rfl)
theorem dX6_frees_186 : decode cX6_frees 186 = .ok (.aload_n 0, 1) := dk_42 (dk_at dksX6_frees_7 23 rfl rfl)
theorem dX6_frees_187 : decode cX6_frees 187 = .ok (.getfield 47, 3) := dk_180 0 47 (dk_at dksX6_frees_8 0 rfl rfl)
theorem dX6_frees_190 : decode cX6_frees 190 = .ok (.iload 9, 2) := dk_21 9 (dk_at dksX6_frees_8 3 rfl rfl)
theorem dX6_frees_192 : decode cX6_frees 192 = .ok (.iaload, 1) := dk_46 (dk_at dksX6_frees_8 5 rfl rfl)
theorem dX6_frees_193 : decode cX6_frees 193 = .ok (.iconst 1, 1) := dk_4 (dk_at dksX6_frees_8 6 rfl rfl)
theorem dX6_frees_194 : decode cX6_frees 194 = .ok (.if_icmp .ne 7, 3) := dk_160 0 7 (dk_at dksX6_frees_8 7 rfl rfl)
theorem dX6_frees_197 : decode cX6_frees 197 = .ok (.iconst 1, 1) := dk_4 (dk_at dksX6_frees_8 10 rfl rfl)
theorem dX6_frees_198 : decode cX6_frees 198 = .ok (.goto 4, 3) := dk_167 0 4 (dk_at dksX6_frees_8 11 rfl rfl)
theorem dX6_frees_201 : decode cX6_frees 201 = .ok (.iconst 0, 1) := dk_3 (dk_at dksX6_frees_8 14 rfl rfl)
theorem dX6_frees_202 : decode cX6_frees 202 = .ok (.istore 8, 2) := dk_54 8 (dk_at dksX6_frees_8 15 rfl rfl)
theorem dX6_frees_204 : decode cX6_frees 204 = .ok (.iinc 9 1, 3) := dk_132 9 1 (dk_at dksX6_frees_8 17 rfl rfl)
theorem dX6_frees_207 : decode cX6_frees 207 = .ok (.goto (-35), 3) := dk_167 255 221 (dk_at dksX6_frees_8 20 rfl rfl)
theorem dX6_frees_210 : decode cX6_frees 210 = .ok (.iload 5, 2) := dk_21 5 (dk_at dksX6_frees_9 0 rfl rfl)
theorem dX6_frees_212 : decode cX6_frees 212 = .ok (.iload 6, 2) := dk_21 6 (dk_at dksX6_frees_9 2 rfl rfl)
theorem dX6_frees_214 : decode cX6_frees 214 = .ok (.iadd, 1) := dk_96 (dk_at dksX6_frees_9 4 rfl rfl)
theorem dX6_frees_215 : decode cX6_frees 215 = .ok (.iload 4, 2) := dk_21 4 (dk_at dksX6_frees_9 5 rfl rfl)
theorem dX6_frees_217 : decode cX6_frees 217 = .ok (.iload 7, 2) := dk_21 7 (dk_at dksX6_frees_9 7 rfl rfl)
theorem dX6_frees_219 : decode cX6_frees 219 = .ok (.iadd, 1) := dk_96 (dk_at dksX6_frees_9 9 rfl rfl)
theorem dX6_frees_220 : decode cX6_frees 220 = .ok (.iload_n 2, 1) := dk_28 (dk_at dksX6_frees_9 10 rfl rfl)
theorem dX6_frees_221 : decode cX6_frees 221 = .ok (.if_icmp .ge 7, 3) := dk_162 0 7 (dk_at dksX6_frees_9 11 rfl rfl)
theorem dX6_frees_224 : decode cX6_frees 224 = .ok (.iconst 2, 1) := dk_5 (dk_at dksX6_frees_9 14 rfl rfl)
theorem dX6_frees_225 : decode cX6_frees 225 = .ok (.goto 4, 3) := dk_167 0 4 (dk_at dksX6_frees_9 15 rfl rfl)
theorem dX6_frees_228 : decode cX6_frees 228 = .ok (.iconst 0, 1) := dk_3 (dk_at dksX6_frees_9 18 rfl rfl)
theorem dX6_frees_229 : decode cX6_frees 229 = .ok (.iadd, 1) := dk_96 (dk_at dksX6_frees_9 19 rfl rfl)
theorem dX6_frees_230 : decode cX6_frees 230 = .ok (.istore 9, 2) := dk_54 9 (dk_at dksX6_frees_9 20 rfl rfl)
theorem dX6_frees_232 : decode cX6_frees 232 = .ok (.iload 8, 2) := dk_21 8 (dk_at dksX6_frees_9 22 rfl rfl)
theorem dX6_frees_234 : decode cX6_frees 234 = .ok (.ifCond .eq 49, 3) := dk_153 0 49 (dk_at dksX6_frees_10 0 rfl rfl)
theorem dX6_frees_237 : decode cX6_frees 237 = .ok (.iload_n 3, 1) := dk_29 (dk_at dksX6_frees_10 3 rfl rfl)
theorem dX6_frees_238 : decode cX6_frees 238 = .ok (.ifCond .lt 12, 3) := dk_155 0 12 (dk_at dksX6_frees_10 4 rfl rfl)
theorem dX6_frees_241 : decode cX6_frees 241 = .ok (.iload 9, 2) := dk_21 9 (dk_at dksX6_frees_10 7 rfl rfl)
theorem dX6_frees_243 : decode cX6_frees 243 = .ok (.iload_n 3, 1) := dk_29 (dk_at dksX6_frees_10 9 rfl rfl)
theorem dX6_frees_244 : decode cX6_frees 244 = .ok (.if_icmp .lt 6, 3) := dk_161 0 6 (dk_at dksX6_frees_10 10 rfl rfl)
theorem dX6_frees_247 : decode cX6_frees 247 = .ok (.goto 36, 3) := dk_167 0 36 (dk_at dksX6_frees_10 13 rfl rfl)
theorem dX6_frees_250 : decode cX6_frees 250 = .ok (.iload 9, 2) := dk_21 9 (dk_at dksX6_frees_10 16 rfl rfl)
theorem dX6_frees_252 : decode cX6_frees 252 = .ok (.istore_n 3, 1) := dk_62 (dk_at dksX6_frees_10 18 rfl rfl)
theorem dX6_frees_253 : decode cX6_frees 253 = .ok (.aload_n 0, 1) := dk_42 (dk_at dksX6_frees_10 19 rfl rfl)
theorem dX6_frees_254 : decode cX6_frees 254 = .ok (.iload 4, 2) := dk_21 4 (dk_at dksX6_frees_10 20 rfl rfl)
theorem dX6_frees_256 : decode cX6_frees 256 = .ok (.putfield 398, 3) := dk_181 1 142 (dk_at dksX6_frees_11 0 rfl rfl)
theorem dX6_frees_259 : decode cX6_frees 259 = .ok (.aload_n 0, 1) := dk_42 (dk_at dksX6_frees_11 3 rfl rfl)
theorem dX6_frees_260 : decode cX6_frees 260 = .ok (.iload 7, 2) := dk_21 7 (dk_at dksX6_frees_11 4 rfl rfl)
theorem dX6_frees_262 : decode cX6_frees 262 = .ok (.putfield 401, 3) := dk_181 1 145 (dk_at dksX6_frees_11 6 rfl rfl)
theorem dX6_frees_265 : decode cX6_frees 265 = .ok (.aload_n 0, 1) := dk_42 (dk_at dksX6_frees_11 9 rfl rfl)
theorem dX6_frees_266 : decode cX6_frees 266 = .ok (.iload 4, 2) := dk_21 4 (dk_at dksX6_frees_11 10 rfl rfl)
theorem dX6_frees_268 : decode cX6_frees 268 = .ok (.iload 7, 2) := dk_21 7 (dk_at dksX6_frees_11 12 rfl rfl)
theorem dX6_frees_270 : decode cX6_frees 270 = .ok (.iadd, 1) := dk_96 (dk_at dksX6_frees_11 14 rfl rfl)
theorem dX6_frees_271 : decode cX6_frees 271 = .ok (.iload_n 2, 1) := dk_28 (dk_at dksX6_frees_11 15 rfl rfl)
theorem dX6_frees_272 : decode cX6_frees 272 = .ok (.if_icmp .ge 7, 3) := dk_162 0 7 (dk_at dksX6_frees_11 16 rfl rfl)
theorem dX6_frees_275 : decode cX6_frees 275 = .ok (.iconst 1, 1) := dk_4 (dk_at dksX6_frees_11 19 rfl rfl)
theorem dX6_frees_276 : decode cX6_frees 276 = .ok (.goto 4, 3) := dk_167 0 4 (dk_at dksX6_frees_11 20 rfl rfl)
theorem dX6_frees_279 : decode cX6_frees 279 = .ok (.iconst 0, 1) := dk_3 (dk_at dksX6_frees_11 23 rfl rfl)
theorem dX6_frees_280 : decode cX6_frees 280 = .ok (.putfield 404, 3) := dk_181 1 148 (dk_at dksX6_frees_12 0 rfl rfl)
theorem dX6_frees_283 : decode cX6_frees 283 = .ok (.iinc 7 1, 3) := dk_132 7 1 (dk_at dksX6_frees_12 3 rfl rfl)
theorem dX6_frees_286 : decode cX6_frees 286 = .ok (.goto (-153), 3) := dk_167 255 103 (dk_at dksX6_frees_12 6 rfl rfl)
theorem dX6_frees_289 : decode cX6_frees 289 = .ok (.iinc 4 1, 3) := dk_132 4 1 (dk_at dksX6_frees_12 9 rfl rfl)
theorem dX6_frees_292 : decode cX6_frees 292 = .ok (.goto (-202), 3) := dk_167 255 54 (dk_at dksX6_frees_12 12 rfl rfl)
theorem dX6_frees_295 : decode cX6_frees 295 = .ok (.iload_n 3, 1) := dk_29 (dk_at dksX6_frees_12 15 rfl rfl)
theorem dX6_frees_296 : decode cX6_frees 296 = .ok (.ireturn, 1) := dk_172 (dk_at dksX6_frees_12 16 rfl rfl)
abbrev cX6_alongOf : ByteArray := prog_16_method_115_code
def yX6_alongOf : MethodName := ⟨RX6, "alongOf", "(II)I"⟩
def dkwX6_alongOf_1 : List UInt8 := [182, 1, 44, 153, 0, 7, 4, 167, 0, 4, 3, 100, 62, 132, 4, 1, 167, 255, 221, 21, 4, 172]
abbrev dktX6_alongOf_1 : List UInt8 := dkwX6_alongOf_1 ++ []
def dkwX6_alongOf_0 : List UInt8 := [28, 62, 3, 54, 4, 42, 21, 4, 27, 182, 1, 44, 153, 0, 7, 29, 158, 0, 27, 29, 42, 21, 4, 27]
abbrev dktX6_alongOf_0 : List UInt8 := dkwX6_alongOf_0 ++ dktX6_alongOf_1
theorem dksX6_alongOf_0 : cX6_alongOf.data.toList.drop 0 = dktX6_alongOf_0 := by decide +kernel
theorem dksX6_alongOf_1 : cX6_alongOf.data.toList.drop 24 = dktX6_alongOf_1 := dk_seg dksX6_alongOf_0 24 rfl rfl
theorem dX6_alongOf_0 : decode cX6_alongOf 0 = .ok (.iload_n 2, 1) := dk_28 (dk_at dksX6_alongOf_0 0 rfl rfl)
theorem dX6_alongOf_1 : decode cX6_alongOf 1 = .ok (.istore_n 3, 1) := dk_62 (dk_at dksX6_alongOf_0 1 rfl rfl)
theorem dX6_alongOf_2 : decode cX6_alongOf 2 = .ok (.iconst 0, 1) := dk_3 (dk_at dksX6_alongOf_0 2 rfl rfl)
theorem dX6_alongOf_3 : decode cX6_alongOf 3 = .ok (.istore 4, 2) := dk_54 4 (dk_at dksX6_alongOf_0 3 rfl rfl)
theorem dX6_alongOf_5 : decode cX6_alongOf 5 = .ok (.aload_n 0, 1) := dk_42 (dk_at dksX6_alongOf_0 5 rfl rfl)
theorem dX6_alongOf_6 : decode cX6_alongOf 6 = .ok (.iload 4, 2) := dk_21 4 (dk_at dksX6_alongOf_0 6 rfl rfl)
theorem dX6_alongOf_8 : decode cX6_alongOf 8 = .ok (.iload_n 1, 1) := dk_27 (dk_at dksX6_alongOf_0 8 rfl rfl)
theorem dX6_alongOf_9 : decode cX6_alongOf 9 = .ok (.invokevirtual 300, 3) := dk_182 1 44 (dk_at dksX6_alongOf_0 9 rfl rfl)
theorem dX6_alongOf_12 : decode cX6_alongOf 12 = .ok (.ifCond .eq 7, 3) := dk_153 0 7 (dk_at dksX6_alongOf_0 12 rfl rfl)
theorem dX6_alongOf_15 : decode cX6_alongOf 15 = .ok (.iload_n 3, 1) := dk_29 (dk_at dksX6_alongOf_0 15 rfl rfl)
theorem dX6_alongOf_16 : decode cX6_alongOf 16 = .ok (.ifCond .le 27, 3) := dk_158 0 27 (dk_at dksX6_alongOf_0 16 rfl rfl)
theorem dX6_alongOf_19 : decode cX6_alongOf 19 = .ok (.iload_n 3, 1) := dk_29 (dk_at dksX6_alongOf_0 19 rfl rfl)
theorem dX6_alongOf_20 : decode cX6_alongOf 20 = .ok (.aload_n 0, 1) := dk_42 (dk_at dksX6_alongOf_0 20 rfl rfl)
theorem dX6_alongOf_21 : decode cX6_alongOf 21 = .ok (.iload 4, 2) := dk_21 4 (dk_at dksX6_alongOf_0 21 rfl rfl)
theorem dX6_alongOf_23 : decode cX6_alongOf 23 = .ok (.iload_n 1, 1) := dk_27 (dk_at dksX6_alongOf_0 23 rfl rfl)
theorem dX6_alongOf_24 : decode cX6_alongOf 24 = .ok (.invokevirtual 300, 3) := dk_182 1 44 (dk_at dksX6_alongOf_1 0 rfl rfl)
theorem dX6_alongOf_27 : decode cX6_alongOf 27 = .ok (.ifCond .eq 7, 3) := dk_153 0 7 (dk_at dksX6_alongOf_1 3 rfl rfl)
theorem dX6_alongOf_30 : decode cX6_alongOf 30 = .ok (.iconst 1, 1) := dk_4 (dk_at dksX6_alongOf_1 6 rfl rfl)
theorem dX6_alongOf_31 : decode cX6_alongOf 31 = .ok (.goto 4, 3) := dk_167 0 4 (dk_at dksX6_alongOf_1 7 rfl rfl)
theorem dX6_alongOf_34 : decode cX6_alongOf 34 = .ok (.iconst 0, 1) := dk_3 (dk_at dksX6_alongOf_1 10 rfl rfl)
theorem dX6_alongOf_35 : decode cX6_alongOf 35 = .ok (.isub, 1) := dk_100 (dk_at dksX6_alongOf_1 11 rfl rfl)
theorem dX6_alongOf_36 : decode cX6_alongOf 36 = .ok (.istore_n 3, 1) := dk_62 (dk_at dksX6_alongOf_1 12 rfl rfl)
theorem dX6_alongOf_37 : decode cX6_alongOf 37 = .ok (.iinc 4 1, 3) := dk_132 4 1 (dk_at dksX6_alongOf_1 13 rfl rfl)
theorem dX6_alongOf_40 : decode cX6_alongOf 40 = .ok (.goto (-35), 3) := dk_167 255 221 (dk_at dksX6_alongOf_1 16 rfl rfl)
theorem dX6_alongOf_43 : decode cX6_alongOf 43 = .ok (.iload 4, 2) := dk_21 4 (dk_at dksX6_alongOf_1 19 rfl rfl)
theorem dX6_alongOf_45 : decode cX6_alongOf 45 = .ok (.ireturn, 1) := dk_172 (dk_at dksX6_alongOf_1 21 rfl rfl)
abbrev cX6_way : ByteArray := prog_16_method_119_code
def yX6_way : MethodName := ⟨RX6, "way", "(I)I"⟩
def dkwX6_way_2 : List UInt8 := [182, 1, 52, 172]
abbrev dktX6_way_2 : List UInt8 := dkwX6_way_2 ++ []
def dkwX6_way_1 : List UInt8 := [182, 1, 52, 172, 42, 180, 1, 160, 153, 0, 12, 42, 180, 0, 53, 27, 46, 167, 0, 9, 42, 16, 8]
abbrev dktX6_way_1 : List UInt8 := dkwX6_way_1 ++ dktX6_way_2
def dkwX6_way_0 : List UInt8 := [42, 3, 181, 0, 77, 42, 3, 181, 0, 80, 27, 133, 9, 20, 0, 110, 184, 0, 112, 154, 0, 9, 42, 8]
abbrev dktX6_way_0 : List UInt8 := dkwX6_way_0 ++ dktX6_way_1
theorem dksX6_way_0 : cX6_way.data.toList.drop 0 = dktX6_way_0 := by decide +kernel
theorem dksX6_way_1 : cX6_way.data.toList.drop 24 = dktX6_way_1 := dk_seg dksX6_way_0 24 rfl rfl
theorem dksX6_way_2 : cX6_way.data.toList.drop 47 = dktX6_way_2 := dk_seg dksX6_way_1 23 rfl rfl
theorem dX6_way_0 : decode cX6_way 0 = .ok (.aload_n 0, 1) := dk_42 (dk_at dksX6_way_0 0 rfl rfl)
theorem dX6_way_1 : decode cX6_way 1 = .ok (.iconst 0, 1) := dk_3 (dk_at dksX6_way_0 1 rfl rfl)
theorem dX6_way_2 : decode cX6_way 2 = .ok (.putfield 77, 3) := dk_181 0 77 (dk_at dksX6_way_0 2 rfl rfl)
theorem dX6_way_5 : decode cX6_way 5 = .ok (.aload_n 0, 1) := dk_42 (dk_at dksX6_way_0 5 rfl rfl)
theorem dX6_way_6 : decode cX6_way 6 = .ok (.iconst 0, 1) := dk_3 (dk_at dksX6_way_0 6 rfl rfl)
theorem dX6_way_7 : decode cX6_way 7 = .ok (.putfield 80, 3) := dk_181 0 80 (dk_at dksX6_way_0 7 rfl rfl)
theorem dX6_way_10 : decode cX6_way 10 = .ok (.iload_n 1, 1) := dk_27 (dk_at dksX6_way_0 10 rfl rfl)
theorem dX6_way_11 : decode cX6_way 11 = .ok (.i2l, 1) := dk_133 (dk_at dksX6_way_0 11 rfl rfl)
theorem dX6_way_12 : decode cX6_way 12 = .ok (.lconst 0, 1) := dk_9 (dk_at dksX6_way_0 12 rfl rfl)
theorem dX6_way_13 : decode cX6_way 13 = .ok (.ldc2_w 110, 3) := dk_20 0 110 (dk_at dksX6_way_0 13 rfl rfl)
theorem dX6_way_16 : decode cX6_way 16 = .ok (.invokestatic 112, 3) := dk_184 0 112 (dk_at dksX6_way_0 16 rfl rfl)
theorem dX6_way_19 : decode cX6_way 19 = .ok (.ifCond .ne 9, 3) := dk_154 0 9 (dk_at dksX6_way_0 19 rfl rfl)
theorem dX6_way_22 : decode cX6_way 22 = .ok (.aload_n 0, 1) := dk_42 (dk_at dksX6_way_0 22 rfl rfl)
theorem dX6_way_23 : decode cX6_way 23 = .ok (.iconst 5, 1) := dk_8 (dk_at dksX6_way_0 23 rfl rfl)
theorem dX6_way_24 : decode cX6_way 24 = .ok (.invokevirtual 308, 3) := dk_182 1 52 (dk_at dksX6_way_1 0 rfl rfl)
theorem dX6_way_27 : decode cX6_way 27 = .ok (.ireturn, 1) := dk_172 (dk_at dksX6_way_1 3 rfl rfl)
theorem dX6_way_28 : decode cX6_way 28 = .ok (.aload_n 0, 1) := dk_42 (dk_at dksX6_way_1 4 rfl rfl)
theorem dX6_way_29 : decode cX6_way 29 = .ok (.getfield 416, 3) := dk_180 1 160 (dk_at dksX6_way_1 5 rfl rfl)
theorem dX6_way_32 : decode cX6_way 32 = .ok (.ifCond .eq 12, 3) := dk_153 0 12 (dk_at dksX6_way_1 8 rfl rfl)
theorem dX6_way_35 : decode cX6_way 35 = .ok (.aload_n 0, 1) := dk_42 (dk_at dksX6_way_1 11 rfl rfl)
theorem dX6_way_36 : decode cX6_way 36 = .ok (.getfield 53, 3) := dk_180 0 53 (dk_at dksX6_way_1 12 rfl rfl)
theorem dX6_way_39 : decode cX6_way 39 = .ok (.iload_n 1, 1) := dk_27 (dk_at dksX6_way_1 15 rfl rfl)
theorem dX6_way_40 : decode cX6_way 40 = .ok (.iaload, 1) := dk_46 (dk_at dksX6_way_1 16 rfl rfl)
theorem dX6_way_41 : decode cX6_way 41 = .ok (.goto 9, 3) := dk_167 0 9 (dk_at dksX6_way_1 17 rfl rfl)
theorem dX6_way_44 : decode cX6_way 44 = .ok (.aload_n 0, 1) := dk_42 (dk_at dksX6_way_1 20 rfl rfl)
theorem dX6_way_45 : decode cX6_way 45 = .ok (.bipush 8, 2) := dk_16 8 (dk_at dksX6_way_1 21 rfl rfl)
theorem dX6_way_47 : decode cX6_way 47 = .ok (.invokevirtual 308, 3) := dk_182 1 52 (dk_at dksX6_way_2 0 rfl rfl)
theorem dX6_way_50 : decode cX6_way 50 = .ok (.ireturn, 1) := dk_172 (dk_at dksX6_way_2 3 rfl rfl)
abbrev cX6_follows : ByteArray := prog_16_method_120_code
def yX6_follows : MethodName := ⟨RX6, "follows", "(III)I"⟩
def dkwX6_follows_6 : List UInt8 := [54, 5, 132, 6, 1, 167, 255, 225, 21, 5, 172]
abbrev dktX6_follows_6 : List UInt8 := dkwX6_follows_6 ++ []
def dkwX6_follows_5 : List UInt8 := [162, 0, 31, 21, 5, 42, 42, 27, 21, 4, 4, 100, 21, 6, 100, 182, 1, 151, 27, 182, 1, 78, 96]
abbrev dktX6_follows_5 : List UInt8 := dkwX6_follows_5 ++ dktX6_follows_6
def dkwX6_follows_4 : List UInt8 := [182, 1, 151, 27, 182, 1, 78, 96, 54, 5, 132, 6, 1, 167, 255, 230, 3, 54, 6, 21, 6, 29]
abbrev dktX6_follows_4 : List UInt8 := dkwX6_follows_4 ++ dktX6_follows_5
def dkwX6_follows_3 : List UInt8 := [182, 1, 52, 172, 3, 54, 5, 3, 54, 6, 21, 6, 28, 162, 0, 26, 21, 5, 42, 42, 27, 21, 6]
abbrev dktX6_follows_3 : List UInt8 := dkwX6_follows_3 ++ dktX6_follows_4
def dkwX6_follows_2 : List UInt8 := [155, 0, 21, 29, 155, 0, 17, 28, 21, 4, 163, 0, 11, 29, 21, 4, 28, 100, 164, 0, 9, 42, 8]
abbrev dktX6_follows_2 : List UInt8 := dkwX6_follows_2 ++ dktX6_follows_3
def dkwX6_follows_1 : List UInt8 := [42, 27, 182, 1, 81, 154, 0, 10, 42, 16, 9, 182, 1, 52, 172, 42, 27, 182, 1, 58, 54, 4, 28]
abbrev dktX6_follows_1 : List UInt8 := dkwX6_follows_1 ++ dktX6_follows_2
def dkwX6_follows_0 : List UInt8 := [42, 3, 181, 0, 77, 42, 3, 181, 0, 80, 42, 27, 182, 1, 55, 154, 0, 9, 42, 5, 182, 1, 52, 172]
abbrev dktX6_follows_0 : List UInt8 := dkwX6_follows_0 ++ dktX6_follows_1
theorem dksX6_follows_0 : cX6_follows.data.toList.drop 0 = dktX6_follows_0 := by decide +kernel
theorem dksX6_follows_1 : cX6_follows.data.toList.drop 24 = dktX6_follows_1 := dk_seg dksX6_follows_0 24 rfl rfl
theorem dksX6_follows_2 : cX6_follows.data.toList.drop 47 = dktX6_follows_2 := dk_seg dksX6_follows_1 23 rfl rfl
theorem dksX6_follows_3 : cX6_follows.data.toList.drop 70 = dktX6_follows_3 := dk_seg dksX6_follows_2 23 rfl rfl
theorem dksX6_follows_4 : cX6_follows.data.toList.drop 93 = dktX6_follows_4 := dk_seg dksX6_follows_3 23 rfl rfl
theorem dksX6_follows_5 : cX6_follows.data.toList.drop 115 = dktX6_follows_5 := dk_seg dksX6_follows_4 22 rfl rfl
theorem dksX6_follows_6 : cX6_follows.data.toList.drop 138 = dktX6_follows_6 := dk_seg dksX6_follows_5 23 rfl rfl
theorem dX6_follows_0 : decode cX6_follows 0 = .ok (.aload_n 0, 1) := dk_42 (dk_at dksX6_follows_0 0 rfl rfl)
theorem dX6_follows_1 : decode cX6_follows 1 = .ok (.iconst 0, 1) := dk_3 (dk_at dksX6_follows_0 1 rfl rfl)
theorem dX6_follows_2 : decode cX6_follows 2 = .ok (.putfield 77, 3) := dk_181 0 77 (dk_at dksX6_follows_0 2 rfl rfl)
theorem dX6_follows_5 : decode cX6_follows 5 = .ok (.aload_n 0, 1) := dk_42 (dk_at dksX6_follows_0 5 rfl rfl)
theorem dX6_follows_6 : decode cX6_follows 6 = .ok (.iconst 0, 1) := dk_3 (dk_at dksX6_follows_0 6 rfl rfl)
theorem dX6_follows_7 : decode cX6_follows 7 = .ok (.putfield 80, 3) := dk_181 0 80 (dk_at dksX6_follows_0 7 rfl rfl)
theorem dX6_follows_10 : decode cX6_follows 10 = .ok (.aload_n 0, 1) := dk_42 (dk_at dksX6_follows_0 10 rfl rfl)
theorem dX6_follows_11 : decode cX6_follows 11 = .ok (.iload_n 1, 1) := dk_27 (dk_at dksX6_follows_0 11 rfl rfl)
theorem dX6_follows_12 : decode cX6_follows 12 = .ok (.invokevirtual 311, 3) := dk_182 1 55 (dk_at dksX6_follows_0 12 rfl rfl)
theorem dX6_follows_15 : decode cX6_follows 15 = .ok (.ifCond .ne 9, 3) := dk_154 0 9 (dk_at dksX6_follows_0 15 rfl rfl)
theorem dX6_follows_18 : decode cX6_follows 18 = .ok (.aload_n 0, 1) := dk_42 (dk_at dksX6_follows_0 18 rfl rfl)
theorem dX6_follows_19 : decode cX6_follows 19 = .ok (.iconst 2, 1) := dk_5 (dk_at dksX6_follows_0 19 rfl rfl)
theorem dX6_follows_20 : decode cX6_follows 20 = .ok (.invokevirtual 308, 3) := dk_182 1 52 (dk_at dksX6_follows_0 20 rfl rfl)
theorem dX6_follows_23 : decode cX6_follows 23 = .ok (.ireturn, 1) := dk_172 (dk_at dksX6_follows_0 23 rfl rfl)
theorem dX6_follows_24 : decode cX6_follows 24 = .ok (.aload_n 0, 1) := dk_42 (dk_at dksX6_follows_1 0 rfl rfl)
theorem dX6_follows_25 : decode cX6_follows 25 = .ok (.iload_n 1, 1) := dk_27 (dk_at dksX6_follows_1 1 rfl rfl)
theorem dX6_follows_26 : decode cX6_follows 26 = .ok (.invokevirtual 337, 3) := dk_182 1 81 (dk_at dksX6_follows_1 2 rfl rfl)
theorem dX6_follows_29 : decode cX6_follows 29 = .ok (.ifCond .ne 10, 3) := dk_154 0 10 (dk_at dksX6_follows_1 5 rfl rfl)
theorem dX6_follows_32 : decode cX6_follows 32 = .ok (.aload_n 0, 1) := dk_42 (dk_at dksX6_follows_1 8 rfl rfl)
theorem dX6_follows_33 : decode cX6_follows 33 = .ok (.bipush 9, 2) := dk_16 9 (dk_at dksX6_follows_1 9 rfl rfl)
theorem dX6_follows_35 : decode cX6_follows 35 = .ok (.invokevirtual 308, 3) := dk_182 1 52 (dk_at dksX6_follows_1 11 rfl rfl)
theorem dX6_follows_38 : decode cX6_follows 38 = .ok (.ireturn, 1) := dk_172 (dk_at dksX6_follows_1 14 rfl rfl)
theorem dX6_follows_39 : decode cX6_follows 39 = .ok (.aload_n 0, 1) := dk_42 (dk_at dksX6_follows_1 15 rfl rfl)
theorem dX6_follows_40 : decode cX6_follows 40 = .ok (.iload_n 1, 1) := dk_27 (dk_at dksX6_follows_1 16 rfl rfl)
theorem dX6_follows_41 : decode cX6_follows 41 = .ok (.invokevirtual 314, 3) := dk_182 1 58 (dk_at dksX6_follows_1 17 rfl rfl)
theorem dX6_follows_44 : decode cX6_follows 44 = .ok (.istore 4, 2) := dk_54 4 (dk_at dksX6_follows_1 20 rfl rfl)
theorem dX6_follows_46 : decode cX6_follows 46 = .ok (.iload_n 2, 1) := dk_28 (dk_at dksX6_follows_1 22 rfl rfl)
theorem dX6_follows_47 : decode cX6_follows 47 = .ok (.ifCond .lt 21, 3) := dk_155 0 21 (dk_at dksX6_follows_2 0 rfl rfl)
theorem dX6_follows_50 : decode cX6_follows 50 = .ok (.iload_n 3, 1) := dk_29 (dk_at dksX6_follows_2 3 rfl rfl)
theorem dX6_follows_51 : decode cX6_follows 51 = .ok (.ifCond .lt 17, 3) := dk_155 0 17 (dk_at dksX6_follows_2 4 rfl rfl)
theorem dX6_follows_54 : decode cX6_follows 54 = .ok (.iload_n 2, 1) := dk_28 (dk_at dksX6_follows_2 7 rfl rfl)
theorem dX6_follows_55 : decode cX6_follows 55 = .ok (.iload 4, 2) := dk_21 4 (dk_at dksX6_follows_2 8 rfl rfl)
theorem dX6_follows_57 : decode cX6_follows 57 = .ok (.if_icmp .gt 11, 3) := dk_163 0 11 (dk_at dksX6_follows_2 10 rfl rfl)
theorem dX6_follows_60 : decode cX6_follows 60 = .ok (.iload_n 3, 1) := dk_29 (dk_at dksX6_follows_2 13 rfl rfl)
theorem dX6_follows_61 : decode cX6_follows 61 = .ok (.iload 4, 2) := dk_21 4 (dk_at dksX6_follows_2 14 rfl rfl)
theorem dX6_follows_63 : decode cX6_follows 63 = .ok (.iload_n 2, 1) := dk_28 (dk_at dksX6_follows_2 16 rfl rfl)
theorem dX6_follows_64 : decode cX6_follows 64 = .ok (.isub, 1) := dk_100 (dk_at dksX6_follows_2 17 rfl rfl)
theorem dX6_follows_65 : decode cX6_follows 65 = .ok (.if_icmp .le 9, 3) := dk_164 0 9 (dk_at dksX6_follows_2 18 rfl rfl)
theorem dX6_follows_68 : decode cX6_follows 68 = .ok (.aload_n 0, 1) := dk_42 (dk_at dksX6_follows_2 21 rfl rfl)
theorem dX6_follows_69 : decode cX6_follows 69 = .ok (.iconst 5, 1) := dk_8 (dk_at dksX6_follows_2 22 rfl rfl)
theorem dX6_follows_70 : decode cX6_follows 70 = .ok (.invokevirtual 308, 3) := dk_182 1 52 (dk_at dksX6_follows_3 0 rfl rfl)
theorem dX6_follows_73 : decode cX6_follows 73 = .ok (.ireturn, 1) := dk_172 (dk_at dksX6_follows_3 3 rfl rfl)
theorem dX6_follows_74 : decode cX6_follows 74 = .ok (.iconst 0, 1) := dk_3 (dk_at dksX6_follows_3 4 rfl rfl)
theorem dX6_follows_75 : decode cX6_follows 75 = .ok (.istore 5, 2) := dk_54 5 (dk_at dksX6_follows_3 5 rfl rfl)
theorem dX6_follows_77 : decode cX6_follows 77 = .ok (.iconst 0, 1) := dk_3 (dk_at dksX6_follows_3 7 rfl rfl)
theorem dX6_follows_78 : decode cX6_follows 78 = .ok (.istore 6, 2) := dk_54 6 (dk_at dksX6_follows_3 8 rfl rfl)
theorem dX6_follows_80 : decode cX6_follows 80 = .ok (.iload 6, 2) := dk_21 6 (dk_at dksX6_follows_3 10 rfl rfl)
theorem dX6_follows_82 : decode cX6_follows 82 = .ok (.iload_n 2, 1) := dk_28 (dk_at dksX6_follows_3 12 rfl rfl)
theorem dX6_follows_83 : decode cX6_follows 83 = .ok (.if_icmp .ge 26, 3) := dk_162 0 26 (dk_at dksX6_follows_3 13 rfl rfl)
theorem dX6_follows_86 : decode cX6_follows 86 = .ok (.iload 5, 2) := dk_21 5 (dk_at dksX6_follows_3 16 rfl rfl)
theorem dX6_follows_88 : decode cX6_follows 88 = .ok (.aload_n 0, 1) := dk_42 (dk_at dksX6_follows_3 18 rfl rfl)
theorem dX6_follows_89 : decode cX6_follows 89 = .ok (.aload_n 0, 1) := dk_42 (dk_at dksX6_follows_3 19 rfl rfl)
theorem dX6_follows_90 : decode cX6_follows 90 = .ok (.iload_n 1, 1) := dk_27 (dk_at dksX6_follows_3 20 rfl rfl)
theorem dX6_follows_91 : decode cX6_follows 91 = .ok (.iload 6, 2) := dk_21 6 (dk_at dksX6_follows_3 21 rfl rfl)
theorem dX6_follows_93 : decode cX6_follows 93 = .ok (.invokevirtual 407, 3) := dk_182 1 151 (dk_at dksX6_follows_4 0 rfl rfl)
theorem dX6_follows_96 : decode cX6_follows 96 = .ok (.iload_n 1, 1) := dk_27 (dk_at dksX6_follows_4 3 rfl rfl)
theorem dX6_follows_97 : decode cX6_follows 97 = .ok (.invokevirtual 334, 3) := dk_182 1 78 (dk_at dksX6_follows_4 4 rfl rfl)
theorem dX6_follows_100 : decode cX6_follows 100 = .ok (.iadd, 1) := dk_96 (dk_at dksX6_follows_4 7 rfl rfl)
theorem dX6_follows_101 : decode cX6_follows 101 = .ok (.istore 5, 2) := dk_54 5 (dk_at dksX6_follows_4 8 rfl rfl)
theorem dX6_follows_103 : decode cX6_follows 103 = .ok (.iinc 6 1, 3) := dk_132 6 1 (dk_at dksX6_follows_4 10 rfl rfl)
theorem dX6_follows_106 : decode cX6_follows 106 = .ok (.goto (-26), 3) := dk_167 255 230 (dk_at dksX6_follows_4 13 rfl rfl)
theorem dX6_follows_109 : decode cX6_follows 109 = .ok (.iconst 0, 1) := dk_3 (dk_at dksX6_follows_4 16 rfl rfl)
theorem dX6_follows_110 : decode cX6_follows 110 = .ok (.istore 6, 2) := dk_54 6 (dk_at dksX6_follows_4 17 rfl rfl)
theorem dX6_follows_112 : decode cX6_follows 112 = .ok (.iload 6, 2) := dk_21 6 (dk_at dksX6_follows_4 19 rfl rfl)
theorem dX6_follows_114 : decode cX6_follows 114 = .ok (.iload_n 3, 1) := dk_29 (dk_at dksX6_follows_4 21 rfl rfl)
theorem dX6_follows_115 : decode cX6_follows 115 = .ok (.if_icmp .ge 31, 3) := dk_162 0 31 (dk_at dksX6_follows_5 0 rfl rfl)
theorem dX6_follows_118 : decode cX6_follows 118 = .ok (.iload 5, 2) := dk_21 5 (dk_at dksX6_follows_5 3 rfl rfl)
theorem dX6_follows_120 : decode cX6_follows 120 = .ok (.aload_n 0, 1) := dk_42 (dk_at dksX6_follows_5 5 rfl rfl)
theorem dX6_follows_121 : decode cX6_follows 121 = .ok (.aload_n 0, 1) := dk_42 (dk_at dksX6_follows_5 6 rfl rfl)
theorem dX6_follows_122 : decode cX6_follows 122 = .ok (.iload_n 1, 1) := dk_27 (dk_at dksX6_follows_5 7 rfl rfl)
theorem dX6_follows_123 : decode cX6_follows 123 = .ok (.iload 4, 2) := dk_21 4 (dk_at dksX6_follows_5 8 rfl rfl)
theorem dX6_follows_125 : decode cX6_follows 125 = .ok (.iconst 1, 1) := dk_4 (dk_at dksX6_follows_5 10 rfl rfl)
theorem dX6_follows_126 : decode cX6_follows 126 = .ok (.isub, 1) := dk_100 (dk_at dksX6_follows_5 11 rfl rfl)
theorem dX6_follows_127 : decode cX6_follows 127 = .ok (.iload 6, 2) := dk_21 6 (dk_at dksX6_follows_5 12 rfl rfl)
theorem dX6_follows_129 : decode cX6_follows 129 = .ok (.isub, 1) := dk_100 (dk_at dksX6_follows_5 14 rfl rfl)
theorem dX6_follows_130 : decode cX6_follows 130 = .ok (.invokevirtual 407, 3) := dk_182 1 151 (dk_at dksX6_follows_5 15 rfl rfl)
theorem dX6_follows_133 : decode cX6_follows 133 = .ok (.iload_n 1, 1) := dk_27 (dk_at dksX6_follows_5 18 rfl rfl)
theorem dX6_follows_134 : decode cX6_follows 134 = .ok (.invokevirtual 334, 3) := dk_182 1 78 (dk_at dksX6_follows_5 19 rfl rfl)
theorem dX6_follows_137 : decode cX6_follows 137 = .ok (.iadd, 1) := dk_96 (dk_at dksX6_follows_5 22 rfl rfl)
theorem dX6_follows_138 : decode cX6_follows 138 = .ok (.istore 5, 2) := dk_54 5 (dk_at dksX6_follows_6 0 rfl rfl)
theorem dX6_follows_140 : decode cX6_follows 140 = .ok (.iinc 6 1, 3) := dk_132 6 1 (dk_at dksX6_follows_6 2 rfl rfl)
theorem dX6_follows_143 : decode cX6_follows 143 = .ok (.goto (-31), 3) := dk_167 255 225 (dk_at dksX6_follows_6 5 rfl rfl)
theorem dX6_follows_146 : decode cX6_follows 146 = .ok (.iload 5, 2) := dk_21 5 (dk_at dksX6_follows_6 8 rfl rfl)
theorem dX6_follows_148 : decode cX6_follows 148 = .ok (.ireturn, 1) := dk_172 (dk_at dksX6_follows_6 10 rfl rfl)
abbrev cX6_all : ByteArray := prog_16_method_123_code
def yX6_all : MethodName := ⟨RX6, "all", "()I"⟩
def dkwX6_all_5 : List UInt8 := [167, 255, 230, 132, 2, 1, 167, 255, 145, 27, 172]
abbrev dktX6_all_5 : List UInt8 := dkwX6_all_5 ++ []
def dkwX6_all_4 : List UInt8 := [180, 0, 68, 162, 0, 23, 42, 180, 0, 62, 21, 4, 42, 180, 0, 59, 21, 4, 46, 79, 132, 4, 1]
abbrev dktX6_all_4 : List UInt8 := dkwX6_all_4 ++ dktX6_all_5
def dkwX6_all_3 : List UInt8 := [42, 28, 181, 1, 171, 42, 42, 180, 0, 35, 6, 46, 184, 1, 93, 181, 0, 68, 3, 54, 4, 21, 4, 42]
abbrev dktX6_all_3 : List UInt8 := dkwX6_all_3 ++ dktX6_all_4
def dkwX6_all_2 : List UInt8 := [42, 182, 1, 168, 96, 62, 42, 182, 1, 139, 27, 155, 0, 11, 29, 27, 161, 0, 6, 167, 0, 55, 29, 60]
abbrev dktX6_all_2 : List UInt8 := dkwX6_all_2 ++ dktX6_all_3
def dkwX6_all_1 : List UInt8 := [62, 3, 54, 4, 21, 4, 28, 162, 0, 16, 29, 42, 182, 1, 87, 96, 62, 132, 4, 1, 167, 255, 240, 29]
abbrev dktX6_all_1 : List UInt8 := dkwX6_all_1 ++ dktX6_all_2
def dkwX6_all_0 : List UInt8 := [42, 3, 181, 0, 77, 42, 3, 181, 0, 80, 2, 60, 3, 61, 28, 7, 162, 0, 112, 42, 182, 1, 136, 3]
abbrev dktX6_all_0 : List UInt8 := dkwX6_all_0 ++ dktX6_all_1
theorem dksX6_all_0 : cX6_all.data.toList.drop 0 = dktX6_all_0 := by decide +kernel
theorem dksX6_all_1 : cX6_all.data.toList.drop 24 = dktX6_all_1 := dk_seg dksX6_all_0 24 rfl rfl
theorem dksX6_all_2 : cX6_all.data.toList.drop 48 = dktX6_all_2 := dk_seg dksX6_all_1 24 rfl rfl
theorem dksX6_all_3 : cX6_all.data.toList.drop 72 = dktX6_all_3 := dk_seg dksX6_all_2 24 rfl rfl
theorem dksX6_all_4 : cX6_all.data.toList.drop 96 = dktX6_all_4 := dk_seg dksX6_all_3 24 rfl rfl
theorem dksX6_all_5 : cX6_all.data.toList.drop 119 = dktX6_all_5 := dk_seg dksX6_all_4 23 rfl rfl
theorem dX6_all_0 : decode cX6_all 0 = .ok (.aload_n 0, 1) := dk_42 (dk_at dksX6_all_0 0 rfl rfl)
theorem dX6_all_1 : decode cX6_all 1 = .ok (.iconst 0, 1) := dk_3 (dk_at dksX6_all_0 1 rfl rfl)
theorem dX6_all_2 : decode cX6_all 2 = .ok (.putfield 77, 3) := dk_181 0 77 (dk_at dksX6_all_0 2 rfl rfl)
theorem dX6_all_5 : decode cX6_all 5 = .ok (.aload_n 0, 1) := dk_42 (dk_at dksX6_all_0 5 rfl rfl)
theorem dX6_all_6 : decode cX6_all 6 = .ok (.iconst 0, 1) := dk_3 (dk_at dksX6_all_0 6 rfl rfl)
theorem dX6_all_7 : decode cX6_all 7 = .ok (.putfield 80, 3) := dk_181 0 80 (dk_at dksX6_all_0 7 rfl rfl)
theorem dX6_all_10 : decode cX6_all 10 = .ok (.iconst (-1), 1) := dk_2 (dk_at dksX6_all_0 10 rfl rfl)
theorem dX6_all_11 : decode cX6_all 11 = .ok (.istore_n 1, 1) := dk_60 (dk_at dksX6_all_0 11 rfl rfl)
theorem dX6_all_12 : decode cX6_all 12 = .ok (.iconst 0, 1) := dk_3 (dk_at dksX6_all_0 12 rfl rfl)
theorem dX6_all_13 : decode cX6_all 13 = .ok (.istore_n 2, 1) := dk_61 (dk_at dksX6_all_0 13 rfl rfl)
theorem dX6_all_14 : decode cX6_all 14 = .ok (.iload_n 2, 1) := dk_28 (dk_at dksX6_all_0 14 rfl rfl)
theorem dX6_all_15 : decode cX6_all 15 = .ok (.iconst 4, 1) := dk_7 (dk_at dksX6_all_0 15 rfl rfl)
theorem dX6_all_16 : decode cX6_all 16 = .ok (.if_icmp .ge 112, 3) := dk_162 0 112 (dk_at dksX6_all_0 16 rfl rfl)
theorem dX6_all_19 : decode cX6_all 19 = .ok (.aload_n 0, 1) := dk_42 (dk_at dksX6_all_0 19 rfl rfl)
theorem dX6_all_20 : decode cX6_all 20 = .ok (.invokevirtual 392, 3) := dk_182 1 136 (dk_at dksX6_all_0 20 rfl rfl)
theorem dX6_all_23 : decode cX6_all 23 = .ok (.iconst 0, 1) := dk_3 (dk_at dksX6_all_0 23 rfl rfl)
theorem dX6_all_24 : decode cX6_all 24 = .ok (.istore_n 3, 1) := dk_62 (dk_at dksX6_all_1 0 rfl rfl)
theorem dX6_all_25 : decode cX6_all 25 = .ok (.iconst 0, 1) := dk_3 (dk_at dksX6_all_1 1 rfl rfl)
theorem dX6_all_26 : decode cX6_all 26 = .ok (.istore 4, 2) := dk_54 4 (dk_at dksX6_all_1 2 rfl rfl)
theorem dX6_all_28 : decode cX6_all 28 = .ok (.iload 4, 2) := dk_21 4 (dk_at dksX6_all_1 4 rfl rfl)
theorem dX6_all_30 : decode cX6_all 30 = .ok (.iload_n 2, 1) := dk_28 (dk_at dksX6_all_1 6 rfl rfl)
theorem dX6_all_31 : decode cX6_all 31 = .ok (.if_icmp .ge 16, 3) := dk_162 0 16 (dk_at dksX6_all_1 7 rfl rfl)
theorem dX6_all_34 : decode cX6_all 34 = .ok (.iload_n 3, 1) := dk_29 (dk_at dksX6_all_1 10 rfl rfl)
theorem dX6_all_35 : decode cX6_all 35 = .ok (.aload_n 0, 1) := dk_42 (dk_at dksX6_all_1 11 rfl rfl)
theorem dX6_all_36 : decode cX6_all 36 = .ok (.invokevirtual 343, 3) := dk_182 1 87 (dk_at dksX6_all_1 12 rfl rfl)
theorem dX6_all_39 : decode cX6_all 39 = .ok (.iadd, 1) := dk_96 (dk_at dksX6_all_1 15 rfl rfl)
theorem dX6_all_40 : decode cX6_all 40 = .ok (.istore_n 3, 1) := dk_62 (dk_at dksX6_all_1 16 rfl rfl)
theorem dX6_all_41 : decode cX6_all 41 = .ok (.iinc 4 1, 3) := dk_132 4 1 (dk_at dksX6_all_1 17 rfl rfl)
theorem dX6_all_44 : decode cX6_all 44 = .ok (.goto (-16), 3) := dk_167 255 240 (dk_at dksX6_all_1 20 rfl rfl)
theorem dX6_all_47 : decode cX6_all 47 = .ok (.iload_n 3, 1) := dk_29 (dk_at dksX6_all_1 23 rfl rfl)
theorem dX6_all_48 : decode cX6_all 48 = .ok (.aload_n 0, 1) := dk_42 (dk_at dksX6_all_2 0 rfl rfl)
theorem dX6_all_49 : decode cX6_all 49 = .ok (.invokevirtual 424, 3) := dk_182 1 168 (dk_at dksX6_all_2 1 rfl rfl)
theorem dX6_all_52 : decode cX6_all 52 = .ok (.iadd, 1) := dk_96 (dk_at dksX6_all_2 4 rfl rfl)
theorem dX6_all_53 : decode cX6_all 53 = .ok (.istore_n 3, 1) := dk_62 (dk_at dksX6_all_2 5 rfl rfl)
theorem dX6_all_54 : decode cX6_all 54 = .ok (.aload_n 0, 1) := dk_42 (dk_at dksX6_all_2 6 rfl rfl)
theorem dX6_all_55 : decode cX6_all 55 = .ok (.invokevirtual 395, 3) := dk_182 1 139 (dk_at dksX6_all_2 7 rfl rfl)
theorem dX6_all_58 : decode cX6_all 58 = .ok (.iload_n 1, 1) := dk_27 (dk_at dksX6_all_2 10 rfl rfl)
theorem dX6_all_59 : decode cX6_all 59 = .ok (.ifCond .lt 11, 3) := dk_155 0 11 (dk_at dksX6_all_2 11 rfl rfl)
theorem dX6_all_62 : decode cX6_all 62 = .ok (.iload_n 3, 1) := dk_29 (dk_at dksX6_all_2 14 rfl rfl)
theorem dX6_all_63 : decode cX6_all 63 = .ok (.iload_n 1, 1) := dk_27 (dk_at dksX6_all_2 15 rfl rfl)
theorem dX6_all_64 : decode cX6_all 64 = .ok (.if_icmp .lt 6, 3) := dk_161 0 6 (dk_at dksX6_all_2 16 rfl rfl)
theorem dX6_all_67 : decode cX6_all 67 = .ok (.goto 55, 3) := dk_167 0 55 (dk_at dksX6_all_2 19 rfl rfl)
theorem dX6_all_70 : decode cX6_all 70 = .ok (.iload_n 3, 1) := dk_29 (dk_at dksX6_all_2 22 rfl rfl)
theorem dX6_all_71 : decode cX6_all 71 = .ok (.istore_n 1, 1) := dk_60 (dk_at dksX6_all_2 23 rfl rfl)
theorem dX6_all_72 : decode cX6_all 72 = .ok (.aload_n 0, 1) := dk_42 (dk_at dksX6_all_3 0 rfl rfl)
theorem dX6_all_73 : decode cX6_all 73 = .ok (.iload_n 2, 1) := dk_28 (dk_at dksX6_all_3 1 rfl rfl)
theorem dX6_all_74 : decode cX6_all 74 = .ok (.putfield 427, 3) := dk_181 1 171 (dk_at dksX6_all_3 2 rfl rfl)
theorem dX6_all_77 : decode cX6_all 77 = .ok (.aload_n 0, 1) := dk_42 (dk_at dksX6_all_3 5 rfl rfl)
theorem dX6_all_78 : decode cX6_all 78 = .ok (.aload_n 0, 1) := dk_42 (dk_at dksX6_all_3 6 rfl rfl)
theorem dX6_all_79 : decode cX6_all 79 = .ok (.getfield 35, 3) := dk_180 0 35 (dk_at dksX6_all_3 7 rfl rfl)
theorem dX6_all_82 : decode cX6_all 82 = .ok (.iconst 3, 1) := dk_6 (dk_at dksX6_all_3 10 rfl rfl)
theorem dX6_all_83 : decode cX6_all 83 = .ok (.iaload, 1) := dk_46 (dk_at dksX6_all_3 11 rfl rfl)
theorem dX6_all_84 : decode cX6_all 84 = .ok (.invokestatic 349, 3) := dk_184 1 93 (dk_at dksX6_all_3 12 rfl rfl)
theorem dX6_all_87 : decode cX6_all 87 = .ok (.putfield 68, 3) := dk_181 0 68 (dk_at dksX6_all_3 15 rfl rfl)
theorem dX6_all_90 : decode cX6_all 90 = .ok (.iconst 0, 1) := dk_3 (dk_at dksX6_all_3 18 rfl rfl)
theorem dX6_all_91 : decode cX6_all 91 = .ok (.istore 4, 2) := dk_54 4 (dk_at dksX6_all_3 19 rfl rfl)
theorem dX6_all_93 : decode cX6_all 93 = .ok (.iload 4, 2) := dk_21 4 (dk_at dksX6_all_3 21 rfl rfl)
theorem dX6_all_95 : decode cX6_all 95 = .ok (.aload_n 0, 1) := dk_42 (dk_at dksX6_all_3 23 rfl rfl)
theorem dX6_all_96 : decode cX6_all 96 = .ok (.getfield 68, 3) := dk_180 0 68 (dk_at dksX6_all_4 0 rfl rfl)
theorem dX6_all_99 : decode cX6_all 99 = .ok (.if_icmp .ge 23, 3) := dk_162 0 23 (dk_at dksX6_all_4 3 rfl rfl)
theorem dX6_all_102 : decode cX6_all 102 = .ok (.aload_n 0, 1) := dk_42 (dk_at dksX6_all_4 6 rfl rfl)
theorem dX6_all_103 : decode cX6_all 103 = .ok (.getfield 62, 3) := dk_180 0 62 (dk_at dksX6_all_4 7 rfl rfl)
theorem dX6_all_106 : decode cX6_all 106 = .ok (.iload 4, 2) := dk_21 4 (dk_at dksX6_all_4 10 rfl rfl)
theorem dX6_all_108 : decode cX6_all 108 = .ok (.aload_n 0, 1) := dk_42 (dk_at dksX6_all_4 12 rfl rfl)
theorem dX6_all_109 : decode cX6_all 109 = .ok (.getfield 59, 3) := dk_180 0 59 (dk_at dksX6_all_4 13 rfl rfl)
theorem dX6_all_112 : decode cX6_all 112 = .ok (.iload 4, 2) := dk_21 4 (dk_at dksX6_all_4 16 rfl rfl)
theorem dX6_all_114 : decode cX6_all 114 = .ok (.iaload, 1) := dk_46 (dk_at dksX6_all_4 18 rfl rfl)
theorem dX6_all_115 : decode cX6_all 115 = .ok (.iastore, 1) := dk_79 (dk_at dksX6_all_4 19 rfl rfl)
theorem dX6_all_116 : decode cX6_all 116 = .ok (.iinc 4 1, 3) := dk_132 4 1 (dk_at dksX6_all_4 20 rfl rfl)
theorem dX6_all_119 : decode cX6_all 119 = .ok (.goto (-26), 3) := dk_167 255 230 (dk_at dksX6_all_5 0 rfl rfl)
theorem dX6_all_122 : decode cX6_all 122 = .ok (.iinc 2 1, 3) := dk_132 2 1 (dk_at dksX6_all_5 3 rfl rfl)
theorem dX6_all_125 : decode cX6_all 125 = .ok (.goto (-111), 3) := dk_167 255 145 (dk_at dksX6_all_5 6 rfl rfl)
theorem dX6_all_128 : decode cX6_all 128 = .ok (.iload_n 1, 1) := dk_27 (dk_at dksX6_all_5 9 rfl rfl)
theorem dX6_all_129 : decode cX6_all 129 = .ok (.ireturn, 1) := dk_172 (dk_at dksX6_all_5 10 rfl rfl)
abbrev cX6_allOf : ByteArray := prog_16_method_122_code
def yX6_allOf : MethodName := ⟨RX6, "allOf", "()I"⟩
def dkwX6_allOf_8 : List UInt8 := [132, 3, 1, 28, 4, 21, 4, 120, 128, 61, 167, 255, 178, 42, 180, 0, 56, 3, 46, 172]
abbrev dktX6_allOf_8 : List UInt8 := dkwX6_allOf_8 ++ []
def dkwX6_allOf_7 : List UInt8 := [180, 0, 56, 28, 46, 159, 0, 9, 132, 4, 1, 167, 255, 207, 42, 180, 0, 59, 29, 21, 4, 79]
abbrev dktX6_allOf_7 : List UInt8 := dkwX6_allOf_7 ++ dktX6_allOf_8
def dkwX6_allOf_6 : List UInt8 := [154, 0, 31, 42, 21, 4, 28, 182, 1, 165, 42, 180, 0, 56, 28, 4, 21, 4, 120, 128, 46, 96, 42]
abbrev dktX6_allOf_6 : List UInt8 := dkwX6_allOf_6 ++ dktX6_allOf_7
def dkwX6_allOf_5 : List UInt8 := [28, 27, 159, 0, 79, 3, 54, 4, 27, 21, 4, 184, 0, 116, 153, 0, 40, 28, 21, 4, 184, 0, 116]
abbrev dktX6_allOf_5 : List UInt8 := dkwX6_allOf_5 ++ dktX6_allOf_6
def dkwX6_allOf_4 : List UInt8 := [120, 128, 46, 96, 184, 1, 47, 79, 132, 3, 1, 167, 255, 195, 132, 2, 255, 167, 255, 154, 3, 61, 3, 62]
abbrev dktX6_allOf_4 : List UInt8 := dkwX6_allOf_4 ++ dktX6_allOf_5
def dkwX6_allOf_3 : List UInt8 := [42, 180, 0, 56, 28, 42, 180, 0, 56, 28, 46, 42, 29, 28, 182, 1, 165, 42, 180, 0, 56, 28, 4, 29]
abbrev dktX6_allOf_3 : List UInt8 := dkwX6_allOf_3 ++ dktX6_allOf_4
def dkwX6_allOf_2 : List UInt8 := [180, 0, 35, 3, 46, 162, 0, 57, 27, 29, 184, 0, 116, 153, 0, 43, 28, 29, 184, 0, 116, 154, 0, 35]
abbrev dktX6_allOf_2 : List UInt8 := dkwX6_allOf_2 ++ dktX6_allOf_3
def dkwX6_allOf_1 : List UInt8 := [42, 180, 0, 56, 28, 28, 27, 160, 0, 7, 3, 167, 0, 6, 19, 1, 164, 79, 3, 62, 29, 42]
abbrev dktX6_allOf_1 : List UInt8 := dkwX6_allOf_1 ++ dktX6_allOf_2
def dkwX6_allOf_0 : List UInt8 := [42, 180, 0, 35, 6, 46, 60, 27, 61, 28, 155, 0, 104, 28, 27, 2, 130, 126, 153, 0, 6, 167, 0, 87]
abbrev dktX6_allOf_0 : List UInt8 := dkwX6_allOf_0 ++ dktX6_allOf_1
theorem dksX6_allOf_0 : cX6_allOf.data.toList.drop 0 = dktX6_allOf_0 := by decide +kernel
theorem dksX6_allOf_1 : cX6_allOf.data.toList.drop 24 = dktX6_allOf_1 := dk_seg dksX6_allOf_0 24 rfl rfl
theorem dksX6_allOf_2 : cX6_allOf.data.toList.drop 46 = dktX6_allOf_2 := dk_seg dksX6_allOf_1 22 rfl rfl
theorem dksX6_allOf_3 : cX6_allOf.data.toList.drop 70 = dktX6_allOf_3 := dk_seg dksX6_allOf_2 24 rfl rfl
theorem dksX6_allOf_4 : cX6_allOf.data.toList.drop 94 = dktX6_allOf_4 := dk_seg dksX6_allOf_3 24 rfl rfl
theorem dksX6_allOf_5 : cX6_allOf.data.toList.drop 118 = dktX6_allOf_5 := dk_seg dksX6_allOf_4 24 rfl rfl
theorem dksX6_allOf_6 : cX6_allOf.data.toList.drop 141 = dktX6_allOf_6 := dk_seg dksX6_allOf_5 23 rfl rfl
theorem dksX6_allOf_7 : cX6_allOf.data.toList.drop 164 = dktX6_allOf_7 := dk_seg dksX6_allOf_6 23 rfl rfl
theorem dksX6_allOf_8 : cX6_allOf.data.toList.drop 186 = dktX6_allOf_8 := dk_seg dksX6_allOf_7 22 rfl rfl
theorem dX6_allOf_0 : decode cX6_allOf 0 = .ok (.aload_n 0, 1) := dk_42 (dk_at dksX6_allOf_0 0 rfl rfl)
theorem dX6_allOf_1 : decode cX6_allOf 1 = .ok (.getfield 35, 3) := dk_180 0 35 (dk_at dksX6_allOf_0 1 rfl rfl)
theorem dX6_allOf_4 : decode cX6_allOf 4 = .ok (.iconst 3, 1) := dk_6 (dk_at dksX6_allOf_0 4 rfl rfl)
theorem dX6_allOf_5 : decode cX6_allOf 5 = .ok (.iaload, 1) := dk_46 (dk_at dksX6_allOf_0 5 rfl rfl)
theorem dX6_allOf_6 : decode cX6_allOf 6 = .ok (.istore_n 1, 1) := dk_60 (dk_at dksX6_allOf_0 6 rfl rfl)
theorem dX6_allOf_7 : decode cX6_allOf 7 = .ok (.iload_n 1, 1) := dk_27 (dk_at dksX6_allOf_0 7 rfl rfl)
theorem dX6_allOf_8 : decode cX6_allOf 8 = .ok (.istore_n 2, 1) := dk_61 (dk_at dksX6_allOf_0 8 rfl rfl)
theorem dX6_allOf_9 : decode cX6_allOf 9 = .ok (.iload_n 2, 1) := dk_28 (dk_at dksX6_allOf_0 9 rfl rfl)
theorem dX6_allOf_10 : decode cX6_allOf 10 = .ok (.ifCond .lt 104, 3) := dk_155 0 104 (dk_at dksX6_allOf_0 10 rfl rfl)
theorem dX6_allOf_13 : decode cX6_allOf 13 = .ok (.iload_n 2, 1) := dk_28 (dk_at dksX6_allOf_0 13 rfl rfl)
theorem dX6_allOf_14 : decode cX6_allOf 14 = .ok (.iload_n 1, 1) := dk_27 (dk_at dksX6_allOf_0 14 rfl rfl)
theorem dX6_allOf_15 : decode cX6_allOf 15 = .ok (.iconst (-1), 1) := dk_2 (dk_at dksX6_allOf_0 15 rfl rfl)
theorem dX6_allOf_16 : decode cX6_allOf 16 = .ok (.ixor, 1) := dk_130 (dk_at dksX6_allOf_0 16 rfl rfl)
theorem dX6_allOf_17 : decode cX6_allOf 17 = .ok (.iand, 1) := dk_126 (dk_at dksX6_allOf_0 17 rfl rfl)
theorem dX6_allOf_18 : decode cX6_allOf 18 = .ok (.ifCond .eq 6, 3) := dk_153 0 6 (dk_at dksX6_allOf_0 18 rfl rfl)
theorem dX6_allOf_21 : decode cX6_allOf 21 = .ok (.goto 87, 3) := dk_167 0 87 (dk_at dksX6_allOf_0 21 rfl rfl)
theorem dX6_allOf_24 : decode cX6_allOf 24 = .ok (.aload_n 0, 1) := dk_42 (dk_at dksX6_allOf_1 0 rfl rfl)
theorem dX6_allOf_25 : decode cX6_allOf 25 = .ok (.getfield 56, 3) := dk_180 0 56 (dk_at dksX6_allOf_1 1 rfl rfl)
theorem dX6_allOf_28 : decode cX6_allOf 28 = .ok (.iload_n 2, 1) := dk_28 (dk_at dksX6_allOf_1 4 rfl rfl)
theorem dX6_allOf_29 : decode cX6_allOf 29 = .ok (.iload_n 2, 1) := dk_28 (dk_at dksX6_allOf_1 5 rfl rfl)
theorem dX6_allOf_30 : decode cX6_allOf 30 = .ok (.iload_n 1, 1) := dk_27 (dk_at dksX6_allOf_1 6 rfl rfl)
theorem dX6_allOf_31 : decode cX6_allOf 31 = .ok (.if_icmp .ne 7, 3) := dk_160 0 7 (dk_at dksX6_allOf_1 7 rfl rfl)
theorem dX6_allOf_34 : decode cX6_allOf 34 = .ok (.iconst 0, 1) := dk_3 (dk_at dksX6_allOf_1 10 rfl rfl)
theorem dX6_allOf_35 : decode cX6_allOf 35 = .ok (.goto 6, 3) := dk_167 0 6 (dk_at dksX6_allOf_1 11 rfl rfl)
theorem dX6_allOf_38 : decode cX6_allOf 38 = .ok (.ldc_w 420, 3) := dk_19 1 164 (dk_at dksX6_allOf_1 14 rfl rfl)
theorem dX6_allOf_41 : decode cX6_allOf 41 = .ok (.iastore, 1) := dk_79 (dk_at dksX6_allOf_1 17 rfl rfl)
theorem dX6_allOf_42 : decode cX6_allOf 42 = .ok (.iconst 0, 1) := dk_3 (dk_at dksX6_allOf_1 18 rfl rfl)
theorem dX6_allOf_43 : decode cX6_allOf 43 = .ok (.istore_n 3, 1) := dk_62 (dk_at dksX6_allOf_1 19 rfl rfl)
theorem dX6_allOf_44 : decode cX6_allOf 44 = .ok (.iload_n 3, 1) := dk_29 (dk_at dksX6_allOf_1 20 rfl rfl)
theorem dX6_allOf_45 : decode cX6_allOf 45 = .ok (.aload_n 0, 1) := dk_42 (dk_at dksX6_allOf_1 21 rfl rfl)
theorem dX6_allOf_46 : decode cX6_allOf 46 = .ok (.getfield 35, 3) := dk_180 0 35 (dk_at dksX6_allOf_2 0 rfl rfl)
theorem dX6_allOf_49 : decode cX6_allOf 49 = .ok (.iconst 0, 1) := dk_3 (dk_at dksX6_allOf_2 3 rfl rfl)
theorem dX6_allOf_50 : decode cX6_allOf 50 = .ok (.iaload, 1) := dk_46 (dk_at dksX6_allOf_2 4 rfl rfl)
theorem dX6_allOf_51 : decode cX6_allOf 51 = .ok (.if_icmp .ge 57, 3) := dk_162 0 57 (dk_at dksX6_allOf_2 5 rfl rfl)
theorem dX6_allOf_54 : decode cX6_allOf 54 = .ok (.iload_n 1, 1) := dk_27 (dk_at dksX6_allOf_2 8 rfl rfl)
theorem dX6_allOf_55 : decode cX6_allOf 55 = .ok (.iload_n 3, 1) := dk_29 (dk_at dksX6_allOf_2 9 rfl rfl)
theorem dX6_allOf_56 : decode cX6_allOf 56 = .ok (.invokestatic 116, 3) := dk_184 0 116 (dk_at dksX6_allOf_2 10 rfl rfl)
theorem dX6_allOf_59 : decode cX6_allOf 59 = .ok (.ifCond .eq 43, 3) := dk_153 0 43 (dk_at dksX6_allOf_2 13 rfl rfl)
theorem dX6_allOf_62 : decode cX6_allOf 62 = .ok (.iload_n 2, 1) := dk_28 (dk_at dksX6_allOf_2 16 rfl rfl)
theorem dX6_allOf_63 : decode cX6_allOf 63 = .ok (.iload_n 3, 1) := dk_29 (dk_at dksX6_allOf_2 17 rfl rfl)
theorem dX6_allOf_64 : decode cX6_allOf 64 = .ok (.invokestatic 116, 3) := dk_184 0 116 (dk_at dksX6_allOf_2 18 rfl rfl)
theorem dX6_allOf_67 : decode cX6_allOf 67 = .ok (.ifCond .ne 35, 3) := dk_154 0 35 (dk_at dksX6_allOf_2 21 rfl rfl)
theorem dX6_allOf_70 : decode cX6_allOf 70 = .ok (.aload_n 0, 1) := dk_42 (dk_at dksX6_allOf_3 0 rfl rfl)
theorem dX6_allOf_71 : decode cX6_allOf 71 = .ok (.getfield 56, 3) := dk_180 0 56 (dk_at dksX6_allOf_3 1 rfl rfl)
theorem dX6_allOf_74 : decode cX6_allOf 74 = .ok (.iload_n 2, 1) := dk_28 (dk_at dksX6_allOf_3 4 rfl rfl)
theorem dX6_allOf_75 : decode cX6_allOf 75 = .ok (.aload_n 0, 1) := dk_42 (dk_at dksX6_allOf_3 5 rfl rfl)
theorem dX6_allOf_76 : decode cX6_allOf 76 = .ok (.getfield 56, 3) := dk_180 0 56 (dk_at dksX6_allOf_3 6 rfl rfl)
theorem dX6_allOf_79 : decode cX6_allOf 79 = .ok (.iload_n 2, 1) := dk_28 (dk_at dksX6_allOf_3 9 rfl rfl)
theorem dX6_allOf_80 : decode cX6_allOf 80 = .ok (.iaload, 1) := dk_46 (dk_at dksX6_allOf_3 10 rfl rfl)
theorem dX6_allOf_81 : decode cX6_allOf 81 = .ok (.aload_n 0, 1) := dk_42 (dk_at dksX6_allOf_3 11 rfl rfl)
theorem dX6_allOf_82 : decode cX6_allOf 82 = .ok (.iload_n 3, 1) := dk_29 (dk_at dksX6_allOf_3 12 rfl rfl)
theorem dX6_allOf_83 : decode cX6_allOf 83 = .ok (.iload_n 2, 1) := dk_28 (dk_at dksX6_allOf_3 13 rfl rfl)
theorem dX6_allOf_84 : decode cX6_allOf 84 = .ok (.invokevirtual 421, 3) := dk_182 1 165 (dk_at dksX6_allOf_3 14 rfl rfl)
theorem dX6_allOf_87 : decode cX6_allOf 87 = .ok (.aload_n 0, 1) := dk_42 (dk_at dksX6_allOf_3 17 rfl rfl)
theorem dX6_allOf_88 : decode cX6_allOf 88 = .ok (.getfield 56, 3) := dk_180 0 56 (dk_at dksX6_allOf_3 18 rfl rfl)
theorem dX6_allOf_91 : decode cX6_allOf 91 = .ok (.iload_n 2, 1) := dk_28 (dk_at dksX6_allOf_3 21 rfl rfl)
theorem dX6_allOf_92 : decode cX6_allOf 92 = .ok (.iconst 1, 1) := dk_4 (dk_at dksX6_allOf_3 22 rfl rfl)
theorem dX6_allOf_93 : decode cX6_allOf 93 = .ok (.iload_n 3, 1) := dk_29 (dk_at dksX6_allOf_3 23 rfl rfl)
theorem dX6_allOf_94 : decode cX6_allOf 94 = .ok (.ishl, 1) := dk_120 (dk_at dksX6_allOf_4 0 rfl rfl)
theorem dX6_allOf_95 : decode cX6_allOf 95 = .ok (.ior, 1) := dk_128 (dk_at dksX6_allOf_4 1 rfl rfl)
theorem dX6_allOf_96 : decode cX6_allOf 96 = .ok (.iaload, 1) := dk_46 (dk_at dksX6_allOf_4 2 rfl rfl)
theorem dX6_allOf_97 : decode cX6_allOf 97 = .ok (.iadd, 1) := dk_96 (dk_at dksX6_allOf_4 3 rfl rfl)
theorem dX6_allOf_98 : decode cX6_allOf 98 = .ok (.invokestatic 303, 3) := dk_184 1 47 (dk_at dksX6_allOf_4 4 rfl rfl)
theorem dX6_allOf_101 : decode cX6_allOf 101 = .ok (.iastore, 1) := dk_79 (dk_at dksX6_allOf_4 7 rfl rfl)
theorem dX6_allOf_102 : decode cX6_allOf 102 = .ok (.iinc 3 1, 3) := dk_132 3 1 (dk_at dksX6_allOf_4 8 rfl rfl)
theorem dX6_allOf_105 : decode cX6_allOf 105 = .ok (.goto (-61), 3) := dk_167 255 195 (dk_at dksX6_allOf_4 11 rfl rfl)
theorem dX6_allOf_108 : decode cX6_allOf 108 = .ok (.iinc 2 (-1), 3) := dk_132 2 255 (dk_at dksX6_allOf_4 14 rfl rfl)
theorem dX6_allOf_111 : decode cX6_allOf 111 = .ok (.goto (-102), 3) := dk_167 255 154 (dk_at dksX6_allOf_4 17 rfl rfl)
theorem dX6_allOf_114 : decode cX6_allOf 114 = .ok (.iconst 0, 1) := dk_3 (dk_at dksX6_allOf_4 20 rfl rfl)
theorem dX6_allOf_115 : decode cX6_allOf 115 = .ok (.istore_n 2, 1) := dk_61 (dk_at dksX6_allOf_4 21 rfl rfl)
theorem dX6_allOf_116 : decode cX6_allOf 116 = .ok (.iconst 0, 1) := dk_3 (dk_at dksX6_allOf_4 22 rfl rfl)
theorem dX6_allOf_117 : decode cX6_allOf 117 = .ok (.istore_n 3, 1) := dk_62 (dk_at dksX6_allOf_4 23 rfl rfl)
theorem dX6_allOf_118 : decode cX6_allOf 118 = .ok (.iload_n 2, 1) := dk_28 (dk_at dksX6_allOf_5 0 rfl rfl)
theorem dX6_allOf_119 : decode cX6_allOf 119 = .ok (.iload_n 1, 1) := dk_27 (dk_at dksX6_allOf_5 1 rfl rfl)
theorem dX6_allOf_120 : decode cX6_allOf 120 = .ok (.if_icmp .eq 79, 3) := dk_159 0 79 (dk_at dksX6_allOf_5 2 rfl rfl)
theorem dX6_allOf_123 : decode cX6_allOf 123 = .ok (.iconst 0, 1) := dk_3 (dk_at dksX6_allOf_5 5 rfl rfl)
theorem dX6_allOf_124 : decode cX6_allOf 124 = .ok (.istore 4, 2) := dk_54 4 (dk_at dksX6_allOf_5 6 rfl rfl)
theorem dX6_allOf_126 : decode cX6_allOf 126 = .ok (.iload_n 1, 1) := dk_27 (dk_at dksX6_allOf_5 8 rfl rfl)
theorem dX6_allOf_127 : decode cX6_allOf 127 = .ok (.iload 4, 2) := dk_21 4 (dk_at dksX6_allOf_5 9 rfl rfl)
theorem dX6_allOf_129 : decode cX6_allOf 129 = .ok (.invokestatic 116, 3) := dk_184 0 116 (dk_at dksX6_allOf_5 11 rfl rfl)
theorem dX6_allOf_132 : decode cX6_allOf 132 = .ok (.ifCond .eq 40, 3) := dk_153 0 40 (dk_at dksX6_allOf_5 14 rfl rfl)
theorem dX6_allOf_135 : decode cX6_allOf 135 = .ok (.iload_n 2, 1) := dk_28 (dk_at dksX6_allOf_5 17 rfl rfl)
theorem dX6_allOf_136 : decode cX6_allOf 136 = .ok (.iload 4, 2) := dk_21 4 (dk_at dksX6_allOf_5 18 rfl rfl)
theorem dX6_allOf_138 : decode cX6_allOf 138 = .ok (.invokestatic 116, 3) := dk_184 0 116 (dk_at dksX6_allOf_5 20 rfl rfl)
theorem dX6_allOf_141 : decode cX6_allOf 141 = .ok (.ifCond .ne 31, 3) := dk_154 0 31 (dk_at dksX6_allOf_6 0 rfl rfl)
theorem dX6_allOf_144 : decode cX6_allOf 144 = .ok (.aload_n 0, 1) := dk_42 (dk_at dksX6_allOf_6 3 rfl rfl)
theorem dX6_allOf_145 : decode cX6_allOf 145 = .ok (.iload 4, 2) := dk_21 4 (dk_at dksX6_allOf_6 4 rfl rfl)
theorem dX6_allOf_147 : decode cX6_allOf 147 = .ok (.iload_n 2, 1) := dk_28 (dk_at dksX6_allOf_6 6 rfl rfl)
theorem dX6_allOf_148 : decode cX6_allOf 148 = .ok (.invokevirtual 421, 3) := dk_182 1 165 (dk_at dksX6_allOf_6 7 rfl rfl)
theorem dX6_allOf_151 : decode cX6_allOf 151 = .ok (.aload_n 0, 1) := dk_42 (dk_at dksX6_allOf_6 10 rfl rfl)
theorem dX6_allOf_152 : decode cX6_allOf 152 = .ok (.getfield 56, 3) := dk_180 0 56 (dk_at dksX6_allOf_6 11 rfl rfl)
theorem dX6_allOf_155 : decode cX6_allOf 155 = .ok (.iload_n 2, 1) := dk_28 (dk_at dksX6_allOf_6 14 rfl rfl)
theorem dX6_allOf_156 : decode cX6_allOf 156 = .ok (.iconst 1, 1) := dk_4 (dk_at dksX6_allOf_6 15 rfl rfl)
theorem dX6_allOf_157 : decode cX6_allOf 157 = .ok (.iload 4, 2) := dk_21 4 (dk_at dksX6_allOf_6 16 rfl rfl)
theorem dX6_allOf_159 : decode cX6_allOf 159 = .ok (.ishl, 1) := dk_120 (dk_at dksX6_allOf_6 18 rfl rfl)
theorem dX6_allOf_160 : decode cX6_allOf 160 = .ok (.ior, 1) := dk_128 (dk_at dksX6_allOf_6 19 rfl rfl)
theorem dX6_allOf_161 : decode cX6_allOf 161 = .ok (.iaload, 1) := dk_46 (dk_at dksX6_allOf_6 20 rfl rfl)
theorem dX6_allOf_162 : decode cX6_allOf 162 = .ok (.iadd, 1) := dk_96 (dk_at dksX6_allOf_6 21 rfl rfl)
theorem dX6_allOf_163 : decode cX6_allOf 163 = .ok (.aload_n 0, 1) := dk_42 (dk_at dksX6_allOf_6 22 rfl rfl)
theorem dX6_allOf_164 : decode cX6_allOf 164 = .ok (.getfield 56, 3) := dk_180 0 56 (dk_at dksX6_allOf_7 0 rfl rfl)
theorem dX6_allOf_167 : decode cX6_allOf 167 = .ok (.iload_n 2, 1) := dk_28 (dk_at dksX6_allOf_7 3 rfl rfl)
theorem dX6_allOf_168 : decode cX6_allOf 168 = .ok (.iaload, 1) := dk_46 (dk_at dksX6_allOf_7 4 rfl rfl)
theorem dX6_allOf_169 : decode cX6_allOf 169 = .ok (.if_icmp .eq 9, 3) := dk_159 0 9 (dk_at dksX6_allOf_7 5 rfl rfl)
theorem dX6_allOf_172 : decode cX6_allOf 172 = .ok (.iinc 4 1, 3) := dk_132 4 1 (dk_at dksX6_allOf_7 8 rfl rfl)
theorem dX6_allOf_175 : decode cX6_allOf 175 = .ok (.goto (-49), 3) := dk_167 255 207 (dk_at dksX6_allOf_7 11 rfl rfl)
theorem dX6_allOf_178 : decode cX6_allOf 178 = .ok (.aload_n 0, 1) := dk_42 (dk_at dksX6_allOf_7 14 rfl rfl)
theorem dX6_allOf_179 : decode cX6_allOf 179 = .ok (.getfield 59, 3) := dk_180 0 59 (dk_at dksX6_allOf_7 15 rfl rfl)
theorem dX6_allOf_182 : decode cX6_allOf 182 = .ok (.iload_n 3, 1) := dk_29 (dk_at dksX6_allOf_7 18 rfl rfl)
theorem dX6_allOf_183 : decode cX6_allOf 183 = .ok (.iload 4, 2) := dk_21 4 (dk_at dksX6_allOf_7 19 rfl rfl)
theorem dX6_allOf_185 : decode cX6_allOf 185 = .ok (.iastore, 1) := dk_79 (dk_at dksX6_allOf_7 21 rfl rfl)
theorem dX6_allOf_186 : decode cX6_allOf 186 = .ok (.iinc 3 1, 3) := dk_132 3 1 (dk_at dksX6_allOf_8 0 rfl rfl)
theorem dX6_allOf_189 : decode cX6_allOf 189 = .ok (.iload_n 2, 1) := dk_28 (dk_at dksX6_allOf_8 3 rfl rfl)
theorem dX6_allOf_190 : decode cX6_allOf 190 = .ok (.iconst 1, 1) := dk_4 (dk_at dksX6_allOf_8 4 rfl rfl)
theorem dX6_allOf_191 : decode cX6_allOf 191 = .ok (.iload 4, 2) := dk_21 4 (dk_at dksX6_allOf_8 5 rfl rfl)
theorem dX6_allOf_193 : decode cX6_allOf 193 = .ok (.ishl, 1) := dk_120 (dk_at dksX6_allOf_8 7 rfl rfl)
theorem dX6_allOf_194 : decode cX6_allOf 194 = .ok (.ior, 1) := dk_128 (dk_at dksX6_allOf_8 8 rfl rfl)
theorem dX6_allOf_195 : decode cX6_allOf 195 = .ok (.istore_n 2, 1) := dk_61 (dk_at dksX6_allOf_8 9 rfl rfl)
theorem dX6_allOf_196 : decode cX6_allOf 196 = .ok (.goto (-78), 3) := dk_167 255 178 (dk_at dksX6_allOf_8 10 rfl rfl)
theorem dX6_allOf_199 : decode cX6_allOf 199 = .ok (.aload_n 0, 1) := dk_42 (dk_at dksX6_allOf_8 13 rfl rfl)
theorem dX6_allOf_200 : decode cX6_allOf 200 = .ok (.getfield 56, 3) := dk_180 0 56 (dk_at dksX6_allOf_8 14 rfl rfl)
theorem dX6_allOf_203 : decode cX6_allOf 203 = .ok (.iconst 0, 1) := dk_3 (dk_at dksX6_allOf_8 17 rfl rfl)
theorem dX6_allOf_204 : decode cX6_allOf 204 = .ok (.iaload, 1) := dk_46 (dk_at dksX6_allOf_8 18 rfl rfl)
theorem dX6_allOf_205 : decode cX6_allOf 205 = .ok (.ireturn, 1) := dk_172 (dk_at dksX6_allOf_8 19 rfl rfl)
abbrev cX6_costAfter : ByteArray := prog_16_method_121_code
def yX6_costAfter : MethodName := ⟨RX6, "costAfter", "(II)I"⟩
def dkwX6_costAfter_4 : List UInt8 := [167, 255, 231, 29, 172]
abbrev dktX6_costAfter_4 : List UInt8 := dkwX6_costAfter_4 ++ []
def dkwX6_costAfter_3 : List UInt8 := [17, 0, 132, 162, 0, 23, 42, 180, 0, 35, 21, 4, 42, 180, 0, 65, 21, 4, 46, 79, 132, 4, 1]
abbrev dktX6_costAfter_3 : List UInt8 := dkwX6_costAfter_3 ++ dktX6_costAfter_4
def dkwX6_costAfter_2 : List UInt8 := [29, 182, 1, 96, 87, 132, 3, 1, 167, 255, 229, 42, 27, 182, 1, 154, 62, 3, 54, 4, 21, 4]
abbrev dktX6_costAfter_2 : List UInt8 := dkwX6_costAfter_2 ++ dktX6_costAfter_3
def dkwX6_costAfter_1 : List UInt8 := [167, 255, 234, 3, 62, 29, 42, 180, 0, 35, 3, 46, 162, 0, 23, 28, 29, 184, 0, 116, 153, 0, 9, 42]
abbrev dktX6_costAfter_1 : List UInt8 := dkwX6_costAfter_1 ++ dktX6_costAfter_2
def dkwX6_costAfter_0 : List UInt8 := [3, 62, 29, 17, 0, 132, 162, 0, 21, 42, 180, 0, 65, 29, 42, 180, 0, 35, 29, 46, 79, 132, 3, 1]
abbrev dktX6_costAfter_0 : List UInt8 := dkwX6_costAfter_0 ++ dktX6_costAfter_1
theorem dksX6_costAfter_0 : cX6_costAfter.data.toList.drop 0 = dktX6_costAfter_0 := by decide +kernel
theorem dksX6_costAfter_1 : cX6_costAfter.data.toList.drop 24 = dktX6_costAfter_1 := dk_seg dksX6_costAfter_0 24 rfl rfl
theorem dksX6_costAfter_2 : cX6_costAfter.data.toList.drop 48 = dktX6_costAfter_2 := dk_seg dksX6_costAfter_1 24 rfl rfl
theorem dksX6_costAfter_3 : cX6_costAfter.data.toList.drop 70 = dktX6_costAfter_3 := dk_seg dksX6_costAfter_2 22 rfl rfl
theorem dksX6_costAfter_4 : cX6_costAfter.data.toList.drop 93 = dktX6_costAfter_4 := dk_seg dksX6_costAfter_3 23 rfl rfl
theorem dX6_costAfter_0 : decode cX6_costAfter 0 = .ok (.iconst 0, 1) := dk_3 (dk_at dksX6_costAfter_0 0 rfl rfl)
theorem dX6_costAfter_1 : decode cX6_costAfter 1 = .ok (.istore_n 3, 1) := dk_62 (dk_at dksX6_costAfter_0 1 rfl rfl)
theorem dX6_costAfter_2 : decode cX6_costAfter 2 = .ok (.iload_n 3, 1) := dk_29 (dk_at dksX6_costAfter_0 2 rfl rfl)
theorem dX6_costAfter_3 : decode cX6_costAfter 3 = .ok (.sipush 132, 3) := dk_17 0 132 (dk_at dksX6_costAfter_0 3 rfl rfl)
theorem dX6_costAfter_6 : decode cX6_costAfter 6 = .ok (.if_icmp .ge 21, 3) := dk_162 0 21 (dk_at dksX6_costAfter_0 6 rfl rfl)
theorem dX6_costAfter_9 : decode cX6_costAfter 9 = .ok (.aload_n 0, 1) := dk_42 (dk_at dksX6_costAfter_0 9 rfl rfl)
theorem dX6_costAfter_10 : decode cX6_costAfter 10 = .ok (.getfield 65, 3) := dk_180 0 65 (dk_at dksX6_costAfter_0 10 rfl rfl)
theorem dX6_costAfter_13 : decode cX6_costAfter 13 = .ok (.iload_n 3, 1) := dk_29 (dk_at dksX6_costAfter_0 13 rfl rfl)
theorem dX6_costAfter_14 : decode cX6_costAfter 14 = .ok (.aload_n 0, 1) := dk_42 (dk_at dksX6_costAfter_0 14 rfl rfl)
theorem dX6_costAfter_15 : decode cX6_costAfter 15 = .ok (.getfield 35, 3) := dk_180 0 35 (dk_at dksX6_costAfter_0 15 rfl rfl)
theorem dX6_costAfter_18 : decode cX6_costAfter 18 = .ok (.iload_n 3, 1) := dk_29 (dk_at dksX6_costAfter_0 18 rfl rfl)
theorem dX6_costAfter_19 : decode cX6_costAfter 19 = .ok (.iaload, 1) := dk_46 (dk_at dksX6_costAfter_0 19 rfl rfl)
theorem dX6_costAfter_20 : decode cX6_costAfter 20 = .ok (.iastore, 1) := dk_79 (dk_at dksX6_costAfter_0 20 rfl rfl)
theorem dX6_costAfter_21 : decode cX6_costAfter 21 = .ok (.iinc 3 1, 3) := dk_132 3 1 (dk_at dksX6_costAfter_0 21 rfl rfl)
theorem dX6_costAfter_24 : decode cX6_costAfter 24 = .ok (.goto (-22), 3) := dk_167 255 234 (dk_at dksX6_costAfter_1 0 rfl rfl)
theorem dX6_costAfter_27 : decode cX6_costAfter 27 = .ok (.iconst 0, 1) := dk_3 (dk_at dksX6_costAfter_1 3 rfl rfl)
theorem dX6_costAfter_28 : decode cX6_costAfter 28 = .ok (.istore_n 3, 1) := dk_62 (dk_at dksX6_costAfter_1 4 rfl rfl)
theorem dX6_costAfter_29 : decode cX6_costAfter 29 = .ok (.iload_n 3, 1) := dk_29 (dk_at dksX6_costAfter_1 5 rfl rfl)
theorem dX6_costAfter_30 : decode cX6_costAfter 30 = .ok (.aload_n 0, 1) := dk_42 (dk_at dksX6_costAfter_1 6 rfl rfl)
theorem dX6_costAfter_31 : decode cX6_costAfter 31 = .ok (.getfield 35, 3) := dk_180 0 35 (dk_at dksX6_costAfter_1 7 rfl rfl)
theorem dX6_costAfter_34 : decode cX6_costAfter 34 = .ok (.iconst 0, 1) := dk_3 (dk_at dksX6_costAfter_1 10 rfl rfl)
theorem dX6_costAfter_35 : decode cX6_costAfter 35 = .ok (.iaload, 1) := dk_46 (dk_at dksX6_costAfter_1 11 rfl rfl)
theorem dX6_costAfter_36 : decode cX6_costAfter 36 = .ok (.if_icmp .ge 23, 3) := dk_162 0 23 (dk_at dksX6_costAfter_1 12 rfl rfl)
theorem dX6_costAfter_39 : decode cX6_costAfter 39 = .ok (.iload_n 2, 1) := dk_28 (dk_at dksX6_costAfter_1 15 rfl rfl)
theorem dX6_costAfter_40 : decode cX6_costAfter 40 = .ok (.iload_n 3, 1) := dk_29 (dk_at dksX6_costAfter_1 16 rfl rfl)
theorem dX6_costAfter_41 : decode cX6_costAfter 41 = .ok (.invokestatic 116, 3) := dk_184 0 116 (dk_at dksX6_costAfter_1 17 rfl rfl)
theorem dX6_costAfter_44 : decode cX6_costAfter 44 = .ok (.ifCond .eq 9, 3) := dk_153 0 9 (dk_at dksX6_costAfter_1 20 rfl rfl)
theorem dX6_costAfter_47 : decode cX6_costAfter 47 = .ok (.aload_n 0, 1) := dk_42 (dk_at dksX6_costAfter_1 23 rfl rfl)
theorem dX6_costAfter_48 : decode cX6_costAfter 48 = .ok (.iload_n 3, 1) := dk_29 (dk_at dksX6_costAfter_2 0 rfl rfl)
theorem dX6_costAfter_49 : decode cX6_costAfter 49 = .ok (.invokevirtual 352, 3) := dk_182 1 96 (dk_at dksX6_costAfter_2 1 rfl rfl)
theorem dX6_costAfter_52 : decode cX6_costAfter 52 = .ok (.pop, 1) := dk_87 (dk_at dksX6_costAfter_2 4 rfl rfl)
theorem dX6_costAfter_53 : decode cX6_costAfter 53 = .ok (.iinc 3 1, 3) := dk_132 3 1 (dk_at dksX6_costAfter_2 5 rfl rfl)
theorem dX6_costAfter_56 : decode cX6_costAfter 56 = .ok (.goto (-27), 3) := dk_167 255 229 (dk_at dksX6_costAfter_2 8 rfl rfl)
theorem dX6_costAfter_59 : decode cX6_costAfter 59 = .ok (.aload_n 0, 1) := dk_42 (dk_at dksX6_costAfter_2 11 rfl rfl)
theorem dX6_costAfter_60 : decode cX6_costAfter 60 = .ok (.iload_n 1, 1) := dk_27 (dk_at dksX6_costAfter_2 12 rfl rfl)
theorem dX6_costAfter_61 : decode cX6_costAfter 61 = .ok (.invokevirtual 410, 3) := dk_182 1 154 (dk_at dksX6_costAfter_2 13 rfl rfl)
theorem dX6_costAfter_64 : decode cX6_costAfter 64 = .ok (.istore_n 3, 1) := dk_62 (dk_at dksX6_costAfter_2 16 rfl rfl)
theorem dX6_costAfter_65 : decode cX6_costAfter 65 = .ok (.iconst 0, 1) := dk_3 (dk_at dksX6_costAfter_2 17 rfl rfl)
theorem dX6_costAfter_66 : decode cX6_costAfter 66 = .ok (.istore 4, 2) := dk_54 4 (dk_at dksX6_costAfter_2 18 rfl rfl)
theorem dX6_costAfter_68 : decode cX6_costAfter 68 = .ok (.iload 4, 2) := dk_21 4 (dk_at dksX6_costAfter_2 20 rfl rfl)
theorem dX6_costAfter_70 : decode cX6_costAfter 70 = .ok (.sipush 132, 3) := dk_17 0 132 (dk_at dksX6_costAfter_3 0 rfl rfl)
theorem dX6_costAfter_73 : decode cX6_costAfter 73 = .ok (.if_icmp .ge 23, 3) := dk_162 0 23 (dk_at dksX6_costAfter_3 3 rfl rfl)
theorem dX6_costAfter_76 : decode cX6_costAfter 76 = .ok (.aload_n 0, 1) := dk_42 (dk_at dksX6_costAfter_3 6 rfl rfl)
theorem dX6_costAfter_77 : decode cX6_costAfter 77 = .ok (.getfield 35, 3) := dk_180 0 35 (dk_at dksX6_costAfter_3 7 rfl rfl)
theorem dX6_costAfter_80 : decode cX6_costAfter 80 = .ok (.iload 4, 2) := dk_21 4 (dk_at dksX6_costAfter_3 10 rfl rfl)
theorem dX6_costAfter_82 : decode cX6_costAfter 82 = .ok (.aload_n 0, 1) := dk_42 (dk_at dksX6_costAfter_3 12 rfl rfl)
theorem dX6_costAfter_83 : decode cX6_costAfter 83 = .ok (.getfield 65, 3) := dk_180 0 65 (dk_at dksX6_costAfter_3 13 rfl rfl)
theorem dX6_costAfter_86 : decode cX6_costAfter 86 = .ok (.iload 4, 2) := dk_21 4 (dk_at dksX6_costAfter_3 16 rfl rfl)
theorem dX6_costAfter_88 : decode cX6_costAfter 88 = .ok (.iaload, 1) := dk_46 (dk_at dksX6_costAfter_3 18 rfl rfl)
theorem dX6_costAfter_89 : decode cX6_costAfter 89 = .ok (.iastore, 1) := dk_79 (dk_at dksX6_costAfter_3 19 rfl rfl)
theorem dX6_costAfter_90 : decode cX6_costAfter 90 = .ok (.iinc 4 1, 3) := dk_132 4 1 (dk_at dksX6_costAfter_3 20 rfl rfl)
theorem dX6_costAfter_93 : decode cX6_costAfter 93 = .ok (.goto (-25), 3) := dk_167 255 231 (dk_at dksX6_costAfter_4 0 rfl rfl)
theorem dX6_costAfter_96 : decode cX6_costAfter 96 = .ok (.iload_n 3, 1) := dk_29 (dk_at dksX6_costAfter_4 3 rfl rfl)
theorem dX6_costAfter_97 : decode cX6_costAfter 97 = .ok (.ireturn, 1) := dk_172 (dk_at dksX6_costAfter_4 4 rfl rfl)
abbrev cX6_order : ByteArray := prog_16_method_124_code
def yX6_order : MethodName := ⟨RX6, "order", "(I)I"⟩
def dkwX6_order_1 : List UInt8 := [153, 0, 12, 42, 180, 0, 62, 27, 46, 167, 0, 9, 42, 16, 8, 182, 1, 52, 172]
abbrev dktX6_order_1 : List UInt8 := dkwX6_order_1 ++ []
def dkwX6_order_0 : List UInt8 := [42, 3, 181, 0, 77, 42, 3, 181, 0, 80, 27, 133, 9, 42, 180, 0, 68, 4, 100, 133, 184, 0, 112]
abbrev dktX6_order_0 : List UInt8 := dkwX6_order_0 ++ dktX6_order_1
theorem dksX6_order_0 : cX6_order.data.toList.drop 0 = dktX6_order_0 := by decide +kernel
theorem dksX6_order_1 : cX6_order.data.toList.drop 23 = dktX6_order_1 := dk_seg dksX6_order_0 23 rfl rfl
theorem dX6_order_0 : decode cX6_order 0 = .ok (.aload_n 0, 1) := dk_42 (dk_at dksX6_order_0 0 rfl rfl)
theorem dX6_order_1 : decode cX6_order 1 = .ok (.iconst 0, 1) := dk_3 (dk_at dksX6_order_0 1 rfl rfl)
theorem dX6_order_2 : decode cX6_order 2 = .ok (.putfield 77, 3) := dk_181 0 77 (dk_at dksX6_order_0 2 rfl rfl)
theorem dX6_order_5 : decode cX6_order 5 = .ok (.aload_n 0, 1) := dk_42 (dk_at dksX6_order_0 5 rfl rfl)
theorem dX6_order_6 : decode cX6_order 6 = .ok (.iconst 0, 1) := dk_3 (dk_at dksX6_order_0 6 rfl rfl)
theorem dX6_order_7 : decode cX6_order 7 = .ok (.putfield 80, 3) := dk_181 0 80 (dk_at dksX6_order_0 7 rfl rfl)
theorem dX6_order_10 : decode cX6_order 10 = .ok (.iload_n 1, 1) := dk_27 (dk_at dksX6_order_0 10 rfl rfl)
theorem dX6_order_11 : decode cX6_order 11 = .ok (.i2l, 1) := dk_133 (dk_at dksX6_order_0 11 rfl rfl)
theorem dX6_order_12 : decode cX6_order 12 = .ok (.lconst 0, 1) := dk_9 (dk_at dksX6_order_0 12 rfl rfl)
theorem dX6_order_13 : decode cX6_order 13 = .ok (.aload_n 0, 1) := dk_42 (dk_at dksX6_order_0 13 rfl rfl)
theorem dX6_order_14 : decode cX6_order 14 = .ok (.getfield 68, 3) := dk_180 0 68 (dk_at dksX6_order_0 14 rfl rfl)
theorem dX6_order_17 : decode cX6_order 17 = .ok (.iconst 1, 1) := dk_4 (dk_at dksX6_order_0 17 rfl rfl)
theorem dX6_order_18 : decode cX6_order 18 = .ok (.isub, 1) := dk_100 (dk_at dksX6_order_0 18 rfl rfl)
theorem dX6_order_19 : decode cX6_order 19 = .ok (.i2l, 1) := dk_133 (dk_at dksX6_order_0 19 rfl rfl)
theorem dX6_order_20 : decode cX6_order 20 = .ok (.invokestatic 112, 3) := dk_184 0 112 (dk_at dksX6_order_0 20 rfl rfl)
theorem dX6_order_23 : decode cX6_order 23 = .ok (.ifCond .eq 12, 3) := dk_153 0 12 (dk_at dksX6_order_1 0 rfl rfl)
theorem dX6_order_26 : decode cX6_order 26 = .ok (.aload_n 0, 1) := dk_42 (dk_at dksX6_order_1 3 rfl rfl)
theorem dX6_order_27 : decode cX6_order 27 = .ok (.getfield 62, 3) := dk_180 0 62 (dk_at dksX6_order_1 4 rfl rfl)
theorem dX6_order_30 : decode cX6_order 30 = .ok (.iload_n 1, 1) := dk_27 (dk_at dksX6_order_1 7 rfl rfl)
theorem dX6_order_31 : decode cX6_order 31 = .ok (.iaload, 1) := dk_46 (dk_at dksX6_order_1 8 rfl rfl)
theorem dX6_order_32 : decode cX6_order 32 = .ok (.goto 9, 3) := dk_167 0 9 (dk_at dksX6_order_1 9 rfl rfl)
theorem dX6_order_35 : decode cX6_order 35 = .ok (.aload_n 0, 1) := dk_42 (dk_at dksX6_order_1 12 rfl rfl)
theorem dX6_order_36 : decode cX6_order 36 = .ok (.bipush 8, 2) := dk_16 8 (dk_at dksX6_order_1 13 rfl rfl)
theorem dX6_order_38 : decode cX6_order 38 = .ok (.invokevirtual 308, 3) := dk_182 1 52 (dk_at dksX6_order_1 15 rfl rfl)
theorem dX6_order_41 : decode cX6_order 41 = .ok (.ireturn, 1) := dk_172 (dk_at dksX6_order_1 18 rfl rfl)
abbrev cX6_loosens : ByteArray := prog_16_method_125_code
def yX6_loosens : MethodName := ⟨RX6, "loosens", "()I"⟩
def dkwX6_loosens_1 : List UInt8 := [167, 0, 7, 42, 180, 1, 171, 172]
abbrev dktX6_loosens_1 : List UInt8 := dkwX6_loosens_1 ++ []
def dkwX6_loosens_0 : List UInt8 := [42, 3, 181, 0, 77, 42, 3, 181, 0, 80, 42, 180, 0, 68, 156, 0, 12, 42, 16, 8, 182, 1, 52]
abbrev dktX6_loosens_0 : List UInt8 := dkwX6_loosens_0 ++ dktX6_loosens_1
theorem dksX6_loosens_0 : cX6_loosens.data.toList.drop 0 = dktX6_loosens_0 := by decide +kernel
theorem dksX6_loosens_1 : cX6_loosens.data.toList.drop 23 = dktX6_loosens_1 := dk_seg dksX6_loosens_0 23 rfl rfl
theorem dX6_loosens_0 : decode cX6_loosens 0 = .ok (.aload_n 0, 1) := dk_42 (dk_at dksX6_loosens_0 0 rfl rfl)
theorem dX6_loosens_1 : decode cX6_loosens 1 = .ok (.iconst 0, 1) := dk_3 (dk_at dksX6_loosens_0 1 rfl rfl)
theorem dX6_loosens_2 : decode cX6_loosens 2 = .ok (.putfield 77, 3) := dk_181 0 77 (dk_at dksX6_loosens_0 2 rfl rfl)
theorem dX6_loosens_5 : decode cX6_loosens 5 = .ok (.aload_n 0, 1) := dk_42 (dk_at dksX6_loosens_0 5 rfl rfl)
theorem dX6_loosens_6 : decode cX6_loosens 6 = .ok (.iconst 0, 1) := dk_3 (dk_at dksX6_loosens_0 6 rfl rfl)
theorem dX6_loosens_7 : decode cX6_loosens 7 = .ok (.putfield 80, 3) := dk_181 0 80 (dk_at dksX6_loosens_0 7 rfl rfl)
theorem dX6_loosens_10 : decode cX6_loosens 10 = .ok (.aload_n 0, 1) := dk_42 (dk_at dksX6_loosens_0 10 rfl rfl)
theorem dX6_loosens_11 : decode cX6_loosens 11 = .ok (.getfield 68, 3) := dk_180 0 68 (dk_at dksX6_loosens_0 11 rfl rfl)
theorem dX6_loosens_14 : decode cX6_loosens 14 = .ok (.ifCond .ge 12, 3) := dk_156 0 12 (dk_at dksX6_loosens_0 14 rfl rfl)
theorem dX6_loosens_17 : decode cX6_loosens 17 = .ok (.aload_n 0, 1) := dk_42 (dk_at dksX6_loosens_0 17 rfl rfl)
theorem dX6_loosens_18 : decode cX6_loosens 18 = .ok (.bipush 8, 2) := dk_16 8 (dk_at dksX6_loosens_0 18 rfl rfl)
theorem dX6_loosens_20 : decode cX6_loosens 20 = .ok (.invokevirtual 308, 3) := dk_182 1 52 (dk_at dksX6_loosens_0 20 rfl rfl)
theorem dX6_loosens_23 : decode cX6_loosens 23 = .ok (.goto 7, 3) := dk_167 0 7 (dk_at dksX6_loosens_1 0 rfl rfl)
theorem dX6_loosens_26 : decode cX6_loosens 26 = .ok (.aload_n 0, 1) := dk_42 (dk_at dksX6_loosens_1 3 rfl rfl)
theorem dX6_loosens_27 : decode cX6_loosens 27 = .ok (.getfield 427, 3) := dk_180 1 171 (dk_at dksX6_loosens_1 4 rfl rfl)
theorem dX6_loosens_30 : decode cX6_loosens 30 = .ok (.ireturn, 1) := dk_172 (dk_at dksX6_loosens_1 7 rfl rfl)
abbrev cX6_soonest : ByteArray := prog_16_method_126_code
def yX6_soonest : MethodName := ⟨RX6, "soonest", "()I"⟩
def dkwX6_soonest_3 : List UInt8 := [156, 0, 12, 42, 16, 8, 182, 1, 52, 167, 0, 4, 27, 172]
abbrev dktX6_soonest_3 : List UInt8 := dkwX6_soonest_3 ++ []
def dkwX6_soonest_2 : List UInt8 := [155, 0, 12, 21, 4, 28, 161, 0, 6, 167, 0, 8, 29, 60, 21, 4, 61, 132, 3, 1, 167, 255, 207, 27]
abbrev dktX6_soonest_2 : List UInt8 := dkwX6_soonest_2 ++ dktX6_soonest_3
def dkwX6_soonest_1 : List UInt8 := [162, 0, 45, 42, 29, 182, 1, 81, 154, 0, 6, 167, 0, 28, 42, 29, 182, 1, 157, 54, 4, 27]
abbrev dktX6_soonest_1 : List UInt8 := dkwX6_soonest_1 ++ dktX6_soonest_2
def dkwX6_soonest_0 : List UInt8 := [42, 3, 181, 0, 77, 42, 3, 181, 0, 80, 2, 60, 3, 61, 3, 62, 29, 42, 180, 0, 35, 3, 46]
abbrev dktX6_soonest_0 : List UInt8 := dkwX6_soonest_0 ++ dktX6_soonest_1
theorem dksX6_soonest_0 : cX6_soonest.data.toList.drop 0 = dktX6_soonest_0 := by decide +kernel
theorem dksX6_soonest_1 : cX6_soonest.data.toList.drop 23 = dktX6_soonest_1 := dk_seg dksX6_soonest_0 23 rfl rfl
theorem dksX6_soonest_2 : cX6_soonest.data.toList.drop 45 = dktX6_soonest_2 := dk_seg dksX6_soonest_1 22 rfl rfl
theorem dksX6_soonest_3 : cX6_soonest.data.toList.drop 69 = dktX6_soonest_3 := dk_seg dksX6_soonest_2 24 rfl rfl
theorem dX6_soonest_0 : decode cX6_soonest 0 = .ok (.aload_n 0, 1) := dk_42 (dk_at dksX6_soonest_0 0 rfl rfl)
theorem dX6_soonest_1 : decode cX6_soonest 1 = .ok (.iconst 0, 1) := dk_3 (dk_at dksX6_soonest_0 1 rfl rfl)
theorem dX6_soonest_2 : decode cX6_soonest 2 = .ok (.putfield 77, 3) := dk_181 0 77 (dk_at dksX6_soonest_0 2 rfl rfl)
theorem dX6_soonest_5 : decode cX6_soonest 5 = .ok (.aload_n 0, 1) := dk_42 (dk_at dksX6_soonest_0 5 rfl rfl)
theorem dX6_soonest_6 : decode cX6_soonest 6 = .ok (.iconst 0, 1) := dk_3 (dk_at dksX6_soonest_0 6 rfl rfl)
theorem dX6_soonest_7 : decode cX6_soonest 7 = .ok (.putfield 80, 3) := dk_181 0 80 (dk_at dksX6_soonest_0 7 rfl rfl)
theorem dX6_soonest_10 : decode cX6_soonest 10 = .ok (.iconst (-1), 1) := dk_2 (dk_at dksX6_soonest_0 10 rfl rfl)
theorem dX6_soonest_11 : decode cX6_soonest 11 = .ok (.istore_n 1, 1) := dk_60 (dk_at dksX6_soonest_0 11 rfl rfl)
theorem dX6_soonest_12 : decode cX6_soonest 12 = .ok (.iconst 0, 1) := dk_3 (dk_at dksX6_soonest_0 12 rfl rfl)
theorem dX6_soonest_13 : decode cX6_soonest 13 = .ok (.istore_n 2, 1) := dk_61 (dk_at dksX6_soonest_0 13 rfl rfl)
theorem dX6_soonest_14 : decode cX6_soonest 14 = .ok (.iconst 0, 1) := dk_3 (dk_at dksX6_soonest_0 14 rfl rfl)
theorem dX6_soonest_15 : decode cX6_soonest 15 = .ok (.istore_n 3, 1) := dk_62 (dk_at dksX6_soonest_0 15 rfl rfl)
theorem dX6_soonest_16 : decode cX6_soonest 16 = .ok (.iload_n 3, 1) := dk_29 (dk_at dksX6_soonest_0 16 rfl rfl)
theorem dX6_soonest_17 : decode cX6_soonest 17 = .ok (.aload_n 0, 1) := dk_42 (dk_at dksX6_soonest_0 17 rfl rfl)
theorem dX6_soonest_18 : decode cX6_soonest 18 = .ok (.getfield 35, 3) := dk_180 0 35 (dk_at dksX6_soonest_0 18 rfl rfl)
theorem dX6_soonest_21 : decode cX6_soonest 21 = .ok (.iconst 0, 1) := dk_3 (dk_at dksX6_soonest_0 21 rfl rfl)
theorem dX6_soonest_22 : decode cX6_soonest 22 = .ok (.iaload, 1) := dk_46 (dk_at dksX6_soonest_0 22 rfl rfl)
theorem dX6_soonest_23 : decode cX6_soonest 23 = .ok (.if_icmp .ge 45, 3) := dk_162 0 45 (dk_at dksX6_soonest_1 0 rfl rfl)
theorem dX6_soonest_26 : decode cX6_soonest 26 = .ok (.aload_n 0, 1) := dk_42 (dk_at dksX6_soonest_1 3 rfl rfl)
theorem dX6_soonest_27 : decode cX6_soonest 27 = .ok (.iload_n 3, 1) := dk_29 (dk_at dksX6_soonest_1 4 rfl rfl)
theorem dX6_soonest_28 : decode cX6_soonest 28 = .ok (.invokevirtual 337, 3) := dk_182 1 81 (dk_at dksX6_soonest_1 5 rfl rfl)
theorem dX6_soonest_31 : decode cX6_soonest 31 = .ok (.ifCond .ne 6, 3) := dk_154 0 6 (dk_at dksX6_soonest_1 8 rfl rfl)
theorem dX6_soonest_34 : decode cX6_soonest 34 = .ok (.goto 28, 3) := dk_167 0 28 (dk_at dksX6_soonest_1 11 rfl rfl)
theorem dX6_soonest_37 : decode cX6_soonest 37 = .ok (.aload_n 0, 1) := dk_42 (dk_at dksX6_soonest_1 14 rfl rfl)
theorem dX6_soonest_38 : decode cX6_soonest 38 = .ok (.iload_n 3, 1) := dk_29 (dk_at dksX6_soonest_1 15 rfl rfl)
theorem dX6_soonest_39 : decode cX6_soonest 39 = .ok (.invokevirtual 413, 3) := dk_182 1 157 (dk_at dksX6_soonest_1 16 rfl rfl)
theorem dX6_soonest_42 : decode cX6_soonest 42 = .ok (.istore 4, 2) := dk_54 4 (dk_at dksX6_soonest_1 19 rfl rfl)
theorem dX6_soonest_44 : decode cX6_soonest 44 = .ok (.iload_n 1, 1) := dk_27 (dk_at dksX6_soonest_1 21 rfl rfl)
theorem dX6_soonest_45 : decode cX6_soonest 45 = .ok (.ifCond .lt 12, 3) := dk_155 0 12 (dk_at dksX6_soonest_2 0 rfl rfl)
theorem dX6_soonest_48 : decode cX6_soonest 48 = .ok (.iload 4, 2) := dk_21 4 (dk_at dksX6_soonest_2 3 rfl rfl)
theorem dX6_soonest_50 : decode cX6_soonest 50 = .ok (.iload_n 2, 1) := dk_28 (dk_at dksX6_soonest_2 5 rfl rfl)
theorem dX6_soonest_51 : decode cX6_soonest 51 = .ok (.if_icmp .lt 6, 3) := dk_161 0 6 (dk_at dksX6_soonest_2 6 rfl rfl)
theorem dX6_soonest_54 : decode cX6_soonest 54 = .ok (.goto 8, 3) := dk_167 0 8 (dk_at dksX6_soonest_2 9 rfl rfl)
theorem dX6_soonest_57 : decode cX6_soonest 57 = .ok (.iload_n 3, 1) := dk_29 (dk_at dksX6_soonest_2 12 rfl rfl)
theorem dX6_soonest_58 : decode cX6_soonest 58 = .ok (.istore_n 1, 1) := dk_60 (dk_at dksX6_soonest_2 13 rfl rfl)
theorem dX6_soonest_59 : decode cX6_soonest 59 = .ok (.iload 4, 2) := dk_21 4 (dk_at dksX6_soonest_2 14 rfl rfl)
theorem dX6_soonest_61 : decode cX6_soonest 61 = .ok (.istore_n 2, 1) := dk_61 (dk_at dksX6_soonest_2 16 rfl rfl)
theorem dX6_soonest_62 : decode cX6_soonest 62 = .ok (.iinc 3 1, 3) := dk_132 3 1 (dk_at dksX6_soonest_2 17 rfl rfl)
theorem dX6_soonest_65 : decode cX6_soonest 65 = .ok (.goto (-49), 3) := dk_167 255 207 (dk_at dksX6_soonest_2 20 rfl rfl)
theorem dX6_soonest_68 : decode cX6_soonest 68 = .ok (.iload_n 1, 1) := dk_27 (dk_at dksX6_soonest_2 23 rfl rfl)
theorem dX6_soonest_69 : decode cX6_soonest 69 = .ok (.ifCond .ge 12, 3) := dk_156 0 12 (dk_at dksX6_soonest_3 0 rfl rfl)
theorem dX6_soonest_72 : decode cX6_soonest 72 = .ok (.aload_n 0, 1) := dk_42 (dk_at dksX6_soonest_3 3 rfl rfl)
theorem dX6_soonest_73 : decode cX6_soonest 73 = .ok (.bipush 8, 2) := dk_16 8 (dk_at dksX6_soonest_3 4 rfl rfl)
theorem dX6_soonest_75 : decode cX6_soonest 75 = .ok (.invokevirtual 308, 3) := dk_182 1 52 (dk_at dksX6_soonest_3 6 rfl rfl)
theorem dX6_soonest_78 : decode cX6_soonest 78 = .ok (.goto 4, 3) := dk_167 0 4 (dk_at dksX6_soonest_3 9 rfl rfl)
theorem dX6_soonest_81 : decode cX6_soonest 81 = .ok (.iload_n 1, 1) := dk_27 (dk_at dksX6_soonest_3 12 rfl rfl)
theorem dX6_soonest_82 : decode cX6_soonest 82 = .ok (.ireturn, 1) := dk_172 (dk_at dksX6_soonest_3 13 rfl rfl)
abbrev cX6_fresh : ByteArray := prog_16_method_127_code
def yX6_fresh : MethodName := ⟨RX6, "fresh", "(II)Z"⟩
def dkwX6_fresh_3 : List UInt8 := [180, 0, 35, 16, 40, 27, 96, 46, 133, 105, 101, 20, 1, 176, 182, 1, 178, 172]
abbrev dktX6_fresh_3 : List UInt8 := dkwX6_fresh_3 ++ []
def dkwX6_fresh_2 : List UInt8 := [154, 0, 9, 42, 8, 182, 0, 92, 172, 42, 42, 27, 182, 1, 157, 133, 28, 133, 105, 20, 1, 176, 42]
abbrev dktX6_fresh_2 : List UInt8 := dkwX6_fresh_2 ++ dktX6_fresh_3
def dkwX6_fresh_1 : List UInt8 := [42, 27, 182, 1, 81, 154, 0, 10, 42, 16, 9, 182, 0, 92, 172, 28, 133, 9, 20, 1, 174, 184, 0, 112]
abbrev dktX6_fresh_1 : List UInt8 := dkwX6_fresh_1 ++ dktX6_fresh_2
def dkwX6_fresh_0 : List UInt8 := [42, 3, 181, 0, 77, 42, 3, 181, 0, 80, 42, 27, 182, 1, 55, 154, 0, 9, 42, 5, 182, 0, 92, 172]
abbrev dktX6_fresh_0 : List UInt8 := dkwX6_fresh_0 ++ dktX6_fresh_1
theorem dksX6_fresh_0 : cX6_fresh.data.toList.drop 0 = dktX6_fresh_0 := by decide +kernel
theorem dksX6_fresh_1 : cX6_fresh.data.toList.drop 24 = dktX6_fresh_1 := dk_seg dksX6_fresh_0 24 rfl rfl
theorem dksX6_fresh_2 : cX6_fresh.data.toList.drop 48 = dktX6_fresh_2 := dk_seg dksX6_fresh_1 24 rfl rfl
theorem dksX6_fresh_3 : cX6_fresh.data.toList.drop 71 = dktX6_fresh_3 := dk_seg dksX6_fresh_2 23 rfl rfl
theorem dX6_fresh_0 : decode cX6_fresh 0 = .ok (.aload_n 0, 1) := dk_42 (dk_at dksX6_fresh_0 0 rfl rfl)
theorem dX6_fresh_1 : decode cX6_fresh 1 = .ok (.iconst 0, 1) := dk_3 (dk_at dksX6_fresh_0 1 rfl rfl)
theorem dX6_fresh_2 : decode cX6_fresh 2 = .ok (.putfield 77, 3) := dk_181 0 77 (dk_at dksX6_fresh_0 2 rfl rfl)
theorem dX6_fresh_5 : decode cX6_fresh 5 = .ok (.aload_n 0, 1) := dk_42 (dk_at dksX6_fresh_0 5 rfl rfl)
theorem dX6_fresh_6 : decode cX6_fresh 6 = .ok (.iconst 0, 1) := dk_3 (dk_at dksX6_fresh_0 6 rfl rfl)
theorem dX6_fresh_7 : decode cX6_fresh 7 = .ok (.putfield 80, 3) := dk_181 0 80 (dk_at dksX6_fresh_0 7 rfl rfl)
theorem dX6_fresh_10 : decode cX6_fresh 10 = .ok (.aload_n 0, 1) := dk_42 (dk_at dksX6_fresh_0 10 rfl rfl)
theorem dX6_fresh_11 : decode cX6_fresh 11 = .ok (.iload_n 1, 1) := dk_27 (dk_at dksX6_fresh_0 11 rfl rfl)
theorem dX6_fresh_12 : decode cX6_fresh 12 = .ok (.invokevirtual 311, 3) := dk_182 1 55 (dk_at dksX6_fresh_0 12 rfl rfl)
theorem dX6_fresh_15 : decode cX6_fresh 15 = .ok (.ifCond .ne 9, 3) := dk_154 0 9 (dk_at dksX6_fresh_0 15 rfl rfl)
theorem dX6_fresh_18 : decode cX6_fresh 18 = .ok (.aload_n 0, 1) := dk_42 (dk_at dksX6_fresh_0 18 rfl rfl)
theorem dX6_fresh_19 : decode cX6_fresh 19 = .ok (.iconst 2, 1) := dk_5 (dk_at dksX6_fresh_0 19 rfl rfl)
theorem dX6_fresh_20 : decode cX6_fresh 20 = .ok (.invokevirtual 92, 3) := dk_182 0 92 (dk_at dksX6_fresh_0 20 rfl rfl)
theorem dX6_fresh_23 : decode cX6_fresh 23 = .ok (.ireturn, 1) := dk_172 (dk_at dksX6_fresh_0 23 rfl rfl)
theorem dX6_fresh_24 : decode cX6_fresh 24 = .ok (.aload_n 0, 1) := dk_42 (dk_at dksX6_fresh_1 0 rfl rfl)
theorem dX6_fresh_25 : decode cX6_fresh 25 = .ok (.iload_n 1, 1) := dk_27 (dk_at dksX6_fresh_1 1 rfl rfl)
theorem dX6_fresh_26 : decode cX6_fresh 26 = .ok (.invokevirtual 337, 3) := dk_182 1 81 (dk_at dksX6_fresh_1 2 rfl rfl)
theorem dX6_fresh_29 : decode cX6_fresh 29 = .ok (.ifCond .ne 10, 3) := dk_154 0 10 (dk_at dksX6_fresh_1 5 rfl rfl)
theorem dX6_fresh_32 : decode cX6_fresh 32 = .ok (.aload_n 0, 1) := dk_42 (dk_at dksX6_fresh_1 8 rfl rfl)
theorem dX6_fresh_33 : decode cX6_fresh 33 = .ok (.bipush 9, 2) := dk_16 9 (dk_at dksX6_fresh_1 9 rfl rfl)
theorem dX6_fresh_35 : decode cX6_fresh 35 = .ok (.invokevirtual 92, 3) := dk_182 0 92 (dk_at dksX6_fresh_1 11 rfl rfl)
theorem dX6_fresh_38 : decode cX6_fresh 38 = .ok (.ireturn, 1) := dk_172 (dk_at dksX6_fresh_1 14 rfl rfl)
theorem dX6_fresh_39 : decode cX6_fresh 39 = .ok (.iload_n 2, 1) := dk_28 (dk_at dksX6_fresh_1 15 rfl rfl)
theorem dX6_fresh_40 : decode cX6_fresh 40 = .ok (.i2l, 1) := dk_133 (dk_at dksX6_fresh_1 16 rfl rfl)
theorem dX6_fresh_41 : decode cX6_fresh 41 = .ok (.lconst 0, 1) := dk_9 (dk_at dksX6_fresh_1 17 rfl rfl)
theorem dX6_fresh_42 : decode cX6_fresh 42 = .ok (.ldc2_w 430, 3) := dk_20 1 174 (dk_at dksX6_fresh_1 18 rfl rfl)
theorem dX6_fresh_45 : decode cX6_fresh 45 = .ok (.invokestatic 112, 3) := dk_184 0 112 (dk_at dksX6_fresh_1 21 rfl rfl)
theorem dX6_fresh_48 : decode cX6_fresh 48 = .ok (.ifCond .ne 9, 3) := dk_154 0 9 (dk_at dksX6_fresh_2 0 rfl rfl)
theorem dX6_fresh_51 : decode cX6_fresh 51 = .ok (.aload_n 0, 1) := dk_42 (dk_at dksX6_fresh_2 3 rfl rfl)
theorem dX6_fresh_52 : decode cX6_fresh 52 = .ok (.iconst 5, 1) := dk_8 (dk_at dksX6_fresh_2 4 rfl rfl)
theorem dX6_fresh_53 : decode cX6_fresh 53 = .ok (.invokevirtual 92, 3) := dk_182 0 92 (dk_at dksX6_fresh_2 5 rfl rfl)
theorem dX6_fresh_56 : decode cX6_fresh 56 = .ok (.ireturn, 1) := dk_172 (dk_at dksX6_fresh_2 8 rfl rfl)
theorem dX6_fresh_57 : decode cX6_fresh 57 = .ok (.aload_n 0, 1) := dk_42 (dk_at dksX6_fresh_2 9 rfl rfl)
theorem dX6_fresh_58 : decode cX6_fresh 58 = .ok (.aload_n 0, 1) := dk_42 (dk_at dksX6_fresh_2 10 rfl rfl)
theorem dX6_fresh_59 : decode cX6_fresh 59 = .ok (.iload_n 1, 1) := dk_27 (dk_at dksX6_fresh_2 11 rfl rfl)
theorem dX6_fresh_60 : decode cX6_fresh 60 = .ok (.invokevirtual 413, 3) := dk_182 1 157 (dk_at dksX6_fresh_2 12 rfl rfl)
theorem dX6_fresh_63 : decode cX6_fresh 63 = .ok (.i2l, 1) := dk_133 (dk_at dksX6_fresh_2 15 rfl rfl)
theorem dX6_fresh_64 : decode cX6_fresh 64 = .ok (.iload_n 2, 1) := dk_28 (dk_at dksX6_fresh_2 16 rfl rfl)
theorem dX6_fresh_65 : decode cX6_fresh 65 = .ok (.i2l, 1) := dk_133 (dk_at dksX6_fresh_2 17 rfl rfl)
theorem dX6_fresh_66 : decode cX6_fresh 66 = .ok (.lmul, 1) := dk_105 (dk_at dksX6_fresh_2 18 rfl rfl)
theorem dX6_fresh_67 : decode cX6_fresh 67 = .ok (.ldc2_w 432, 3) := dk_20 1 176 (dk_at dksX6_fresh_2 19 rfl rfl)
theorem dX6_fresh_70 : decode cX6_fresh 70 = .ok (.aload_n 0, 1) := dk_42 (dk_at dksX6_fresh_2 22 rfl rfl)
theorem dX6_fresh_71 : decode cX6_fresh 71 = .ok (.getfield 35, 3) := dk_180 0 35 (dk_at dksX6_fresh_3 0 rfl rfl)
theorem dX6_fresh_74 : decode cX6_fresh 74 = .ok (.bipush 40, 2) := dk_16 40 (dk_at dksX6_fresh_3 3 rfl rfl)
theorem dX6_fresh_76 : decode cX6_fresh 76 = .ok (.iload_n 1, 1) := dk_27 (dk_at dksX6_fresh_3 5 rfl rfl)
theorem dX6_fresh_77 : decode cX6_fresh 77 = .ok (.iadd, 1) := dk_96 (dk_at dksX6_fresh_3 6 rfl rfl)
theorem dX6_fresh_78 : decode cX6_fresh 78 = .ok (.iaload, 1) := dk_46 (dk_at dksX6_fresh_3 7 rfl rfl)
theorem dX6_fresh_79 : decode cX6_fresh 79 = .ok (.i2l, 1) := dk_133 (dk_at dksX6_fresh_3 8 rfl rfl)
theorem dX6_fresh_80 : decode cX6_fresh 80 = .ok (.lmul, 1) := dk_105 (dk_at dksX6_fresh_3 9 rfl rfl)
theorem dX6_fresh_81 : decode cX6_fresh 81 = .ok (.lsub, 1) := dk_101 (dk_at dksX6_fresh_3 10 rfl rfl)
theorem dX6_fresh_82 : decode cX6_fresh 82 = .ok (.ldc2_w 432, 3) := dk_20 1 176 (dk_at dksX6_fresh_3 11 rfl rfl)
theorem dX6_fresh_85 : decode cX6_fresh 85 = .ok (.invokevirtual 434, 3) := dk_182 1 178 (dk_at dksX6_fresh_3 14 rfl rfl)
theorem dX6_fresh_88 : decode cX6_fresh 88 = .ok (.ireturn, 1) := dk_172 (dk_at dksX6_fresh_3 17 rfl rfl)
abbrev cX6_fraction : ByteArray := prog_16_method_9_code
def yX6_fraction : MethodName := ⟨RX6, "fraction", "(JJ)Z"⟩
def dkwX6_fraction_2 : List UInt8 := [181, 0, 7, 4, 172]
abbrev dktX6_fraction_2 : List UInt8 := dkwX6_fraction_2 ++ []
def dkwX6_fraction_1 : List UInt8 := [22, 7, 55, 5, 22, 9, 55, 7, 167, 255, 234, 42, 31, 22, 5, 109, 181, 0, 83, 42, 33, 22, 5, 109]
abbrev dktX6_fraction_1 : List UInt8 := dkwX6_fraction_1 ++ dktX6_fraction_2
def dkwX6_fraction_0 : List UInt8 := [31, 184, 0, 86, 55, 5, 33, 55, 7, 22, 7, 9, 148, 153, 0, 21, 22, 5, 22, 7, 113, 55, 9]
abbrev dktX6_fraction_0 : List UInt8 := dkwX6_fraction_0 ++ dktX6_fraction_1
theorem dksX6_fraction_0 : cX6_fraction.data.toList.drop 0 = dktX6_fraction_0 := by decide +kernel
theorem dksX6_fraction_1 : cX6_fraction.data.toList.drop 23 = dktX6_fraction_1 := dk_seg dksX6_fraction_0 23 rfl rfl
theorem dksX6_fraction_2 : cX6_fraction.data.toList.drop 47 = dktX6_fraction_2 := dk_seg dksX6_fraction_1 24 rfl rfl
theorem dX6_fraction_0 : decode cX6_fraction 0 = .ok (.lload_n 1, 1) := dk_31 (dk_at dksX6_fraction_0 0 rfl rfl)
theorem dX6_fraction_1 : decode cX6_fraction 1 = .ok (.invokestatic 86, 3) := dk_184 0 86 (dk_at dksX6_fraction_0 1 rfl rfl)
theorem dX6_fraction_4 : decode cX6_fraction 4 = .ok (.lstore 5, 2) := dk_55 5 (dk_at dksX6_fraction_0 4 rfl rfl)
theorem dX6_fraction_6 : decode cX6_fraction 6 = .ok (.lload_n 3, 1) := dk_33 (dk_at dksX6_fraction_0 6 rfl rfl)
theorem dX6_fraction_7 : decode cX6_fraction 7 = .ok (.lstore 7, 2) := dk_55 7 (dk_at dksX6_fraction_0 7 rfl rfl)
theorem dX6_fraction_9 : decode cX6_fraction 9 = .ok (.lload 7, 2) := dk_22 7 (dk_at dksX6_fraction_0 9 rfl rfl)
theorem dX6_fraction_11 : decode cX6_fraction 11 = .ok (.lconst 0, 1) := dk_9 (dk_at dksX6_fraction_0 11 rfl rfl)
theorem dX6_fraction_12 : decode cX6_fraction 12 = .ok (.lcmp, 1) := dk_148 (dk_at dksX6_fraction_0 12 rfl rfl)
theorem dX6_fraction_13 : decode cX6_fraction 13 = .ok (.ifCond .eq 21, 3) := dk_153 0 21 (dk_at dksX6_fraction_0 13 rfl rfl)
theorem dX6_fraction_16 : decode cX6_fraction 16 = .ok (.lload 5, 2) := dk_22 5 (dk_at dksX6_fraction_0 16 rfl rfl)
theorem dX6_fraction_18 : decode cX6_fraction 18 = .ok (.lload 7, 2) := dk_22 7 (dk_at dksX6_fraction_0 18 rfl rfl)
theorem dX6_fraction_20 : decode cX6_fraction 20 = .ok (.lrem, 1) := dk_113 (dk_at dksX6_fraction_0 20 rfl rfl)
theorem dX6_fraction_21 : decode cX6_fraction 21 = .ok (.lstore 9, 2) := dk_55 9 (dk_at dksX6_fraction_0 21 rfl rfl)
theorem dX6_fraction_23 : decode cX6_fraction 23 = .ok (.lload 7, 2) := dk_22 7 (dk_at dksX6_fraction_1 0 rfl rfl)
theorem dX6_fraction_25 : decode cX6_fraction 25 = .ok (.lstore 5, 2) := dk_55 5 (dk_at dksX6_fraction_1 2 rfl rfl)
theorem dX6_fraction_27 : decode cX6_fraction 27 = .ok (.lload 9, 2) := dk_22 9 (dk_at dksX6_fraction_1 4 rfl rfl)
theorem dX6_fraction_29 : decode cX6_fraction 29 = .ok (.lstore 7, 2) := dk_55 7 (dk_at dksX6_fraction_1 6 rfl rfl)
theorem dX6_fraction_31 : decode cX6_fraction 31 = .ok (.goto (-22), 3) := dk_167 255 234 (dk_at dksX6_fraction_1 8 rfl rfl)
theorem dX6_fraction_34 : decode cX6_fraction 34 = .ok (.aload_n 0, 1) := dk_42 (dk_at dksX6_fraction_1 11 rfl rfl)
theorem dX6_fraction_35 : decode cX6_fraction 35 = .ok (.lload_n 1, 1) := dk_31 (dk_at dksX6_fraction_1 12 rfl rfl)
theorem dX6_fraction_36 : decode cX6_fraction 36 = .ok (.lload 5, 2) := dk_22 5 (dk_at dksX6_fraction_1 13 rfl rfl)
theorem dX6_fraction_38 : decode cX6_fraction 38 = .ok (.ldiv, 1) := dk_109 (dk_at dksX6_fraction_1 15 rfl rfl)
theorem dX6_fraction_39 : decode cX6_fraction 39 = .ok (.putfield 83, 3) := dk_181 0 83 (dk_at dksX6_fraction_1 16 rfl rfl)
theorem dX6_fraction_42 : decode cX6_fraction 42 = .ok (.aload_n 0, 1) := dk_42 (dk_at dksX6_fraction_1 19 rfl rfl)
theorem dX6_fraction_43 : decode cX6_fraction 43 = .ok (.lload_n 3, 1) := dk_33 (dk_at dksX6_fraction_1 20 rfl rfl)
theorem dX6_fraction_44 : decode cX6_fraction 44 = .ok (.lload 5, 2) := dk_22 5 (dk_at dksX6_fraction_1 21 rfl rfl)
theorem dX6_fraction_46 : decode cX6_fraction 46 = .ok (.ldiv, 1) := dk_109 (dk_at dksX6_fraction_1 23 rfl rfl)
theorem dX6_fraction_47 : decode cX6_fraction 47 = .ok (.putfield 7, 3) := dk_181 0 7 (dk_at dksX6_fraction_2 0 rfl rfl)
theorem dX6_fraction_50 : decode cX6_fraction 50 = .ok (.iconst 1, 1) := dk_4 (dk_at dksX6_fraction_2 3 rfl rfl)
theorem dX6_fraction_51 : decode cX6_fraction 51 = .ok (.ireturn, 1) := dk_172 (dk_at dksX6_fraction_2 4 rfl rfl)
abbrev cX6_grows : ByteArray := prog_16_method_129_code
def yX6_grows : MethodName := ⟨RX6, "grows", "()Z"⟩
def dkwX6_grows_0 : List UInt8 := [42, 3, 181, 0, 77, 42, 3, 181, 0, 80, 42, 42, 182, 1, 182, 133, 20, 1, 185, 182, 1, 178, 172]
abbrev dktX6_grows_0 : List UInt8 := dkwX6_grows_0 ++ []
theorem dksX6_grows_0 : cX6_grows.data.toList.drop 0 = dktX6_grows_0 := by decide +kernel
theorem dX6_grows_0 : decode cX6_grows 0 = .ok (.aload_n 0, 1) := dk_42 (dk_at dksX6_grows_0 0 rfl rfl)
theorem dX6_grows_1 : decode cX6_grows 1 = .ok (.iconst 0, 1) := dk_3 (dk_at dksX6_grows_0 1 rfl rfl)
theorem dX6_grows_2 : decode cX6_grows 2 = .ok (.putfield 77, 3) := dk_181 0 77 (dk_at dksX6_grows_0 2 rfl rfl)
theorem dX6_grows_5 : decode cX6_grows 5 = .ok (.aload_n 0, 1) := dk_42 (dk_at dksX6_grows_0 5 rfl rfl)
theorem dX6_grows_6 : decode cX6_grows 6 = .ok (.iconst 0, 1) := dk_3 (dk_at dksX6_grows_0 6 rfl rfl)
theorem dX6_grows_7 : decode cX6_grows 7 = .ok (.putfield 80, 3) := dk_181 0 80 (dk_at dksX6_grows_0 7 rfl rfl)
theorem dX6_grows_10 : decode cX6_grows 10 = .ok (.aload_n 0, 1) := dk_42 (dk_at dksX6_grows_0 10 rfl rfl)
theorem dX6_grows_11 : decode cX6_grows 11 = .ok (.aload_n 0, 1) := dk_42 (dk_at dksX6_grows_0 11 rfl rfl)
theorem dX6_grows_12 : decode cX6_grows 12 = .ok (.invokevirtual 438, 3) := dk_182 1 182 (dk_at dksX6_grows_0 12 rfl rfl)
theorem dX6_grows_15 : decode cX6_grows 15 = .ok (.i2l, 1) := dk_133 (dk_at dksX6_grows_0 15 rfl rfl)
theorem dX6_grows_16 : decode cX6_grows 16 = .ok (.ldc2_w 441, 3) := dk_20 1 185 (dk_at dksX6_grows_0 16 rfl rfl)
theorem dX6_grows_19 : decode cX6_grows 19 = .ok (.invokevirtual 434, 3) := dk_182 1 178 (dk_at dksX6_grows_0 19 rfl rfl)
theorem dX6_grows_22 : decode cX6_grows 22 = .ok (.ireturn, 1) := dk_172 (dk_at dksX6_grows_0 22 rfl rfl)
abbrev cX6_growth : ByteArray := prog_16_method_128_code
def yX6_growth : MethodName := ⟨RX6, "growth", "()I"⟩
def dkwX6_growth_2 : List UInt8 := [96, 60, 132, 2, 1, 167, 255, 220, 27, 172]
abbrev dktX6_growth_2 : List UInt8 := dkwX6_growth_2 ++ []
def dkwX6_growth_1 : List UInt8 := [162, 0, 32, 27, 42, 182, 1, 108, 28, 184, 0, 116, 153, 0, 11, 42, 28, 182, 1, 61, 167, 0, 4, 3]
abbrev dktX6_growth_1 : List UInt8 := dkwX6_growth_1 ++ dktX6_growth_2
def dkwX6_growth_0 : List UInt8 := [42, 182, 1, 108, 184, 1, 93, 5, 162, 0, 5, 3, 172, 3, 60, 3, 61, 28, 42, 180, 0, 35, 3, 46]
abbrev dktX6_growth_0 : List UInt8 := dkwX6_growth_0 ++ dktX6_growth_1
theorem dksX6_growth_0 : cX6_growth.data.toList.drop 0 = dktX6_growth_0 := by decide +kernel
theorem dksX6_growth_1 : cX6_growth.data.toList.drop 24 = dktX6_growth_1 := dk_seg dksX6_growth_0 24 rfl rfl
theorem dksX6_growth_2 : cX6_growth.data.toList.drop 48 = dktX6_growth_2 := dk_seg dksX6_growth_1 24 rfl rfl
theorem dX6_growth_0 : decode cX6_growth 0 = .ok (.aload_n 0, 1) := dk_42 (dk_at dksX6_growth_0 0 rfl rfl)
theorem dX6_growth_1 : decode cX6_growth 1 = .ok (.invokevirtual 364, 3) := dk_182 1 108 (dk_at dksX6_growth_0 1 rfl rfl)
theorem dX6_growth_4 : decode cX6_growth 4 = .ok (.invokestatic 349, 3) := dk_184 1 93 (dk_at dksX6_growth_0 4 rfl rfl)
theorem dX6_growth_7 : decode cX6_growth 7 = .ok (.iconst 2, 1) := dk_5 (dk_at dksX6_growth_0 7 rfl rfl)
theorem dX6_growth_8 : decode cX6_growth 8 = .ok (.if_icmp .ge 5, 3) := dk_162 0 5 (dk_at dksX6_growth_0 8 rfl rfl)
theorem dX6_growth_11 : decode cX6_growth 11 = .ok (.iconst 0, 1) := dk_3 (dk_at dksX6_growth_0 11 rfl rfl)
theorem dX6_growth_12 : decode cX6_growth 12 = .ok (.ireturn, 1) := dk_172 (dk_at dksX6_growth_0 12 rfl rfl)
theorem dX6_growth_13 : decode cX6_growth 13 = .ok (.iconst 0, 1) := dk_3 (dk_at dksX6_growth_0 13 rfl rfl)
theorem dX6_growth_14 : decode cX6_growth 14 = .ok (.istore_n 1, 1) := dk_60 (dk_at dksX6_growth_0 14 rfl rfl)
theorem dX6_growth_15 : decode cX6_growth 15 = .ok (.iconst 0, 1) := dk_3 (dk_at dksX6_growth_0 15 rfl rfl)
theorem dX6_growth_16 : decode cX6_growth 16 = .ok (.istore_n 2, 1) := dk_61 (dk_at dksX6_growth_0 16 rfl rfl)
theorem dX6_growth_17 : decode cX6_growth 17 = .ok (.iload_n 2, 1) := dk_28 (dk_at dksX6_growth_0 17 rfl rfl)
theorem dX6_growth_18 : decode cX6_growth 18 = .ok (.aload_n 0, 1) := dk_42 (dk_at dksX6_growth_0 18 rfl rfl)
theorem dX6_growth_19 : decode cX6_growth 19 = .ok (.getfield 35, 3) := dk_180 0 35 (dk_at dksX6_growth_0 19 rfl rfl)
theorem dX6_growth_22 : decode cX6_growth 22 = .ok (.iconst 0, 1) := dk_3 (dk_at dksX6_growth_0 22 rfl rfl)
theorem dX6_growth_23 : decode cX6_growth 23 = .ok (.iaload, 1) := dk_46 (dk_at dksX6_growth_0 23 rfl rfl)
theorem dX6_growth_24 : decode cX6_growth 24 = .ok (.if_icmp .ge 32, 3) := dk_162 0 32 (dk_at dksX6_growth_1 0 rfl rfl)
theorem dX6_growth_27 : decode cX6_growth 27 = .ok (.iload_n 1, 1) := dk_27 (dk_at dksX6_growth_1 3 rfl rfl)
theorem dX6_growth_28 : decode cX6_growth 28 = .ok (.aload_n 0, 1) := dk_42 (dk_at dksX6_growth_1 4 rfl rfl)
theorem dX6_growth_29 : decode cX6_growth 29 = .ok (.invokevirtual 364, 3) := dk_182 1 108 (dk_at dksX6_growth_1 5 rfl rfl)
theorem dX6_growth_32 : decode cX6_growth 32 = .ok (.iload_n 2, 1) := dk_28 (dk_at dksX6_growth_1 8 rfl rfl)
theorem dX6_growth_33 : decode cX6_growth 33 = .ok (.invokestatic 116, 3) := dk_184 0 116 (dk_at dksX6_growth_1 9 rfl rfl)
theorem dX6_growth_36 : decode cX6_growth 36 = .ok (.ifCond .eq 11, 3) := dk_153 0 11 (dk_at dksX6_growth_1 12 rfl rfl)
theorem dX6_growth_39 : decode cX6_growth 39 = .ok (.aload_n 0, 1) := dk_42 (dk_at dksX6_growth_1 15 rfl rfl)
theorem dX6_growth_40 : decode cX6_growth 40 = .ok (.iload_n 2, 1) := dk_28 (dk_at dksX6_growth_1 16 rfl rfl)
theorem dX6_growth_41 : decode cX6_growth 41 = .ok (.invokevirtual 317, 3) := dk_182 1 61 (dk_at dksX6_growth_1 17 rfl rfl)
theorem dX6_growth_44 : decode cX6_growth 44 = .ok (.goto 4, 3) := dk_167 0 4 (dk_at dksX6_growth_1 20 rfl rfl)
theorem dX6_growth_47 : decode cX6_growth 47 = .ok (.iconst 0, 1) := dk_3 (dk_at dksX6_growth_1 23 rfl rfl)
theorem dX6_growth_48 : decode cX6_growth 48 = .ok (.iadd, 1) := dk_96 (dk_at dksX6_growth_2 0 rfl rfl)
theorem dX6_growth_49 : decode cX6_growth 49 = .ok (.istore_n 1, 1) := dk_60 (dk_at dksX6_growth_2 1 rfl rfl)
theorem dX6_growth_50 : decode cX6_growth 50 = .ok (.iinc 2 1, 3) := dk_132 2 1 (dk_at dksX6_growth_2 2 rfl rfl)
theorem dX6_growth_53 : decode cX6_growth 53 = .ok (.goto (-36), 3) := dk_167 255 220 (dk_at dksX6_growth_2 5 rfl rfl)
theorem dX6_growth_56 : decode cX6_growth 56 = .ok (.iload_n 1, 1) := dk_27 (dk_at dksX6_growth_2 8 rfl rfl)
theorem dX6_growth_57 : decode cX6_growth 57 = .ok (.ireturn, 1) := dk_172 (dk_at dksX6_growth_2 9 rfl rfl)
abbrev cX6_clips : ByteArray := prog_16_method_130_code
def yX6_clips : MethodName := ⟨RX6, "clips", "()I"⟩
def dkwX6_clips_2 : List UInt8 := [167, 255, 222, 42, 16, 8, 182, 1, 52, 172]
abbrev dktX6_clips_2 : List UInt8 := dkwX6_clips_2 ++ []
def dkwX6_clips_1 : List UInt8 := [104, 8, 104, 17, 0, 192, 42, 182, 1, 108, 184, 1, 93, 104, 164, 0, 5, 27, 172, 132, 1, 1]
abbrev dktX6_clips_1 : List UInt8 := dkwX6_clips_1 ++ dktX6_clips_2
def dkwX6_clips_0 : List UInt8 := [42, 3, 181, 0, 77, 42, 3, 181, 0, 80, 4, 60, 27, 17, 3, 232, 162, 0, 33, 27, 42, 182, 1, 182]
abbrev dktX6_clips_0 : List UInt8 := dkwX6_clips_0 ++ dktX6_clips_1
theorem dksX6_clips_0 : cX6_clips.data.toList.drop 0 = dktX6_clips_0 := by decide +kernel
theorem dksX6_clips_1 : cX6_clips.data.toList.drop 24 = dktX6_clips_1 := dk_seg dksX6_clips_0 24 rfl rfl
theorem dksX6_clips_2 : cX6_clips.data.toList.drop 46 = dktX6_clips_2 := dk_seg dksX6_clips_1 22 rfl rfl
theorem dX6_clips_0 : decode cX6_clips 0 = .ok (.aload_n 0, 1) := dk_42 (dk_at dksX6_clips_0 0 rfl rfl)
theorem dX6_clips_1 : decode cX6_clips 1 = .ok (.iconst 0, 1) := dk_3 (dk_at dksX6_clips_0 1 rfl rfl)
theorem dX6_clips_2 : decode cX6_clips 2 = .ok (.putfield 77, 3) := dk_181 0 77 (dk_at dksX6_clips_0 2 rfl rfl)
theorem dX6_clips_5 : decode cX6_clips 5 = .ok (.aload_n 0, 1) := dk_42 (dk_at dksX6_clips_0 5 rfl rfl)
theorem dX6_clips_6 : decode cX6_clips 6 = .ok (.iconst 0, 1) := dk_3 (dk_at dksX6_clips_0 6 rfl rfl)
theorem dX6_clips_7 : decode cX6_clips 7 = .ok (.putfield 80, 3) := dk_181 0 80 (dk_at dksX6_clips_0 7 rfl rfl)
theorem dX6_clips_10 : decode cX6_clips 10 = .ok (.iconst 1, 1) := dk_4 (dk_at dksX6_clips_0 10 rfl rfl)
theorem dX6_clips_11 : decode cX6_clips 11 = .ok (.istore_n 1, 1) := dk_60 (dk_at dksX6_clips_0 11 rfl rfl)
theorem dX6_clips_12 : decode cX6_clips 12 = .ok (.iload_n 1, 1) := dk_27 (dk_at dksX6_clips_0 12 rfl rfl)
theorem dX6_clips_13 : decode cX6_clips 13 = .ok (.sipush 1000, 3) := dk_17 3 232 (dk_at dksX6_clips_0 13 rfl rfl)
theorem dX6_clips_16 : decode cX6_clips 16 = .ok (.if_icmp .ge 33, 3) := dk_162 0 33 (dk_at dksX6_clips_0 16 rfl rfl)
theorem dX6_clips_19 : decode cX6_clips 19 = .ok (.iload_n 1, 1) := dk_27 (dk_at dksX6_clips_0 19 rfl rfl)
theorem dX6_clips_20 : decode cX6_clips 20 = .ok (.aload_n 0, 1) := dk_42 (dk_at dksX6_clips_0 20 rfl rfl)
theorem dX6_clips_21 : decode cX6_clips 21 = .ok (.invokevirtual 438, 3) := dk_182 1 182 (dk_at dksX6_clips_0 21 rfl rfl)
theorem dX6_clips_24 : decode cX6_clips 24 = .ok (.imul, 1) := dk_104 (dk_at dksX6_clips_1 0 rfl rfl)
theorem dX6_clips_25 : decode cX6_clips 25 = .ok (.iconst 5, 1) := dk_8 (dk_at dksX6_clips_1 1 rfl rfl)
theorem dX6_clips_26 : decode cX6_clips 26 = .ok (.imul, 1) := dk_104 (dk_at dksX6_clips_1 2 rfl rfl)
theorem dX6_clips_27 : decode cX6_clips 27 = .ok (.sipush 192, 3) := dk_17 0 192 (dk_at dksX6_clips_1 3 rfl rfl)
theorem dX6_clips_30 : decode cX6_clips 30 = .ok (.aload_n 0, 1) := dk_42 (dk_at dksX6_clips_1 6 rfl rfl)
theorem dX6_clips_31 : decode cX6_clips 31 = .ok (.invokevirtual 364, 3) := dk_182 1 108 (dk_at dksX6_clips_1 7 rfl rfl)
theorem dX6_clips_34 : decode cX6_clips 34 = .ok (.invokestatic 349, 3) := dk_184 1 93 (dk_at dksX6_clips_1 10 rfl rfl)
theorem dX6_clips_37 : decode cX6_clips 37 = .ok (.imul, 1) := dk_104 (dk_at dksX6_clips_1 13 rfl rfl)
theorem dX6_clips_38 : decode cX6_clips 38 = .ok (.if_icmp .le 5, 3) := dk_164 0 5 (dk_at dksX6_clips_1 14 rfl rfl)
theorem dX6_clips_41 : decode cX6_clips 41 = .ok (.iload_n 1, 1) := dk_27 (dk_at dksX6_clips_1 17 rfl rfl)
theorem dX6_clips_42 : decode cX6_clips 42 = .ok (.ireturn, 1) := dk_172 (dk_at dksX6_clips_1 18 rfl rfl)
theorem dX6_clips_43 : decode cX6_clips 43 = .ok (.iinc 1 1, 3) := dk_132 1 1 (dk_at dksX6_clips_1 19 rfl rfl)
theorem dX6_clips_46 : decode cX6_clips 46 = .ok (.goto (-34), 3) := dk_167 255 222 (dk_at dksX6_clips_2 0 rfl rfl)
theorem dX6_clips_49 : decode cX6_clips 49 = .ok (.aload_n 0, 1) := dk_42 (dk_at dksX6_clips_2 3 rfl rfl)
theorem dX6_clips_50 : decode cX6_clips 50 = .ok (.bipush 8, 2) := dk_16 8 (dk_at dksX6_clips_2 4 rfl rfl)
theorem dX6_clips_52 : decode cX6_clips 52 = .ok (.invokevirtual 308, 3) := dk_182 1 52 (dk_at dksX6_clips_2 6 rfl rfl)
theorem dX6_clips_55 : decode cX6_clips 55 = .ok (.ireturn, 1) := dk_172 (dk_at dksX6_clips_2 9 rfl rfl)
abbrev cX6_tries : ByteArray := prog_16_method_132_code
def yX6_tries : MethodName := ⟨RX6, "tries", "(I)Z"⟩
def dkwX6_tries_6 : List UInt8 := [154, 0, 12, 42, 16, 9, 182, 0, 92, 167, 0, 12, 42, 21, 4, 133, 29, 133, 182, 1, 178, 172]
abbrev dktX6_tries_6 : List UInt8 := dkwX6_tries_6 ++ []
def dkwX6_tries_5 : List UInt8 := [21, 5, 96, 46, 4, 42, 28, 21, 5, 182, 1, 187, 96, 104, 96, 54, 4, 132, 5, 1, 167, 255, 192, 29]
abbrev dktX6_tries_5 : List UInt8 := dkwX6_tries_5 ++ dktX6_tries_6
def dkwX6_tries_4 : List UInt8 := [167, 0, 41, 29, 42, 180, 0, 35, 16, 48, 21, 5, 96, 46, 96, 62, 21, 4, 42, 180, 0, 35, 16, 48]
abbrev dktX6_tries_4 : List UInt8 := dkwX6_tries_4 ++ dktX6_tries_5
def dkwX6_tries_3 : List UInt8 := [54, 5, 21, 5, 42, 180, 0, 35, 3, 46, 162, 0, 59, 28, 21, 5, 184, 0, 116, 154, 0, 6]
abbrev dktX6_tries_3 : List UInt8 := dkwX6_tries_3 ++ dktX6_tries_4
def dkwX6_tries_2 : List UInt8 := [180, 0, 35, 6, 46, 126, 61, 28, 154, 0, 10, 42, 16, 8, 182, 0, 92, 172, 3, 62, 3, 54, 4, 3]
abbrev dktX6_tries_2 : List UInt8 := dkwX6_tries_2 ++ dktX6_tries_3
def dkwX6_tries_1 : List UInt8 := [184, 0, 112, 154, 0, 9, 42, 5, 182, 0, 92, 172, 42, 180, 0, 35, 16, 56, 27, 96, 46, 42]
abbrev dktX6_tries_1 : List UInt8 := dkwX6_tries_1 ++ dktX6_tries_2
def dkwX6_tries_0 : List UInt8 := [42, 3, 181, 0, 77, 42, 3, 181, 0, 80, 27, 133, 9, 42, 180, 0, 35, 5, 46, 4, 100, 133]
abbrev dktX6_tries_0 : List UInt8 := dkwX6_tries_0 ++ dktX6_tries_1
theorem dksX6_tries_0 : cX6_tries.data.toList.drop 0 = dktX6_tries_0 := by decide +kernel
theorem dksX6_tries_1 : cX6_tries.data.toList.drop 22 = dktX6_tries_1 := dk_seg dksX6_tries_0 22 rfl rfl
theorem dksX6_tries_2 : cX6_tries.data.toList.drop 44 = dktX6_tries_2 := dk_seg dksX6_tries_1 22 rfl rfl
theorem dksX6_tries_3 : cX6_tries.data.toList.drop 68 = dktX6_tries_3 := dk_seg dksX6_tries_2 24 rfl rfl
theorem dksX6_tries_4 : cX6_tries.data.toList.drop 90 = dktX6_tries_4 := dk_seg dksX6_tries_3 22 rfl rfl
theorem dksX6_tries_5 : cX6_tries.data.toList.drop 114 = dktX6_tries_5 := dk_seg dksX6_tries_4 24 rfl rfl
theorem dksX6_tries_6 : cX6_tries.data.toList.drop 138 = dktX6_tries_6 := dk_seg dksX6_tries_5 24 rfl rfl
theorem dX6_tries_0 : decode cX6_tries 0 = .ok (.aload_n 0, 1) := dk_42 (dk_at dksX6_tries_0 0 rfl rfl)
theorem dX6_tries_1 : decode cX6_tries 1 = .ok (.iconst 0, 1) := dk_3 (dk_at dksX6_tries_0 1 rfl rfl)
theorem dX6_tries_2 : decode cX6_tries 2 = .ok (.putfield 77, 3) := dk_181 0 77 (dk_at dksX6_tries_0 2 rfl rfl)
theorem dX6_tries_5 : decode cX6_tries 5 = .ok (.aload_n 0, 1) := dk_42 (dk_at dksX6_tries_0 5 rfl rfl)
theorem dX6_tries_6 : decode cX6_tries 6 = .ok (.iconst 0, 1) := dk_3 (dk_at dksX6_tries_0 6 rfl rfl)
theorem dX6_tries_7 : decode cX6_tries 7 = .ok (.putfield 80, 3) := dk_181 0 80 (dk_at dksX6_tries_0 7 rfl rfl)
theorem dX6_tries_10 : decode cX6_tries 10 = .ok (.iload_n 1, 1) := dk_27 (dk_at dksX6_tries_0 10 rfl rfl)
theorem dX6_tries_11 : decode cX6_tries 11 = .ok (.i2l, 1) := dk_133 (dk_at dksX6_tries_0 11 rfl rfl)
theorem dX6_tries_12 : decode cX6_tries 12 = .ok (.lconst 0, 1) := dk_9 (dk_at dksX6_tries_0 12 rfl rfl)
theorem dX6_tries_13 : decode cX6_tries 13 = .ok (.aload_n 0, 1) := dk_42 (dk_at dksX6_tries_0 13 rfl rfl)
theorem dX6_tries_14 : decode cX6_tries 14 = .ok (.getfield 35, 3) := dk_180 0 35 (dk_at dksX6_tries_0 14 rfl rfl)
theorem dX6_tries_17 : decode cX6_tries 17 = .ok (.iconst 2, 1) := dk_5 (dk_at dksX6_tries_0 17 rfl rfl)
theorem dX6_tries_18 : decode cX6_tries 18 = .ok (.iaload, 1) := dk_46 (dk_at dksX6_tries_0 18 rfl rfl)
theorem dX6_tries_19 : decode cX6_tries 19 = .ok (.iconst 1, 1) := dk_4 (dk_at dksX6_tries_0 19 rfl rfl)
theorem dX6_tries_20 : decode cX6_tries 20 = .ok (.isub, 1) := dk_100 (dk_at dksX6_tries_0 20 rfl rfl)
theorem dX6_tries_21 : decode cX6_tries 21 = .ok (.i2l, 1) := dk_133 (dk_at dksX6_tries_0 21 rfl rfl)
theorem dX6_tries_22 : decode cX6_tries 22 = .ok (.invokestatic 112, 3) := dk_184 0 112 (dk_at dksX6_tries_1 0 rfl rfl)
theorem dX6_tries_25 : decode cX6_tries 25 = .ok (.ifCond .ne 9, 3) := dk_154 0 9 (dk_at dksX6_tries_1 3 rfl rfl)
theorem dX6_tries_28 : decode cX6_tries 28 = .ok (.aload_n 0, 1) := dk_42 (dk_at dksX6_tries_1 6 rfl rfl)
theorem dX6_tries_29 : decode cX6_tries 29 = .ok (.iconst 2, 1) := dk_5 (dk_at dksX6_tries_1 7 rfl rfl)
theorem dX6_tries_30 : decode cX6_tries 30 = .ok (.invokevirtual 92, 3) := dk_182 0 92 (dk_at dksX6_tries_1 8 rfl rfl)
theorem dX6_tries_33 : decode cX6_tries 33 = .ok (.ireturn, 1) := dk_172 (dk_at dksX6_tries_1 11 rfl rfl)
theorem dX6_tries_34 : decode cX6_tries 34 = .ok (.aload_n 0, 1) := dk_42 (dk_at dksX6_tries_1 12 rfl rfl)
theorem dX6_tries_35 : decode cX6_tries 35 = .ok (.getfield 35, 3) := dk_180 0 35 (dk_at dksX6_tries_1 13 rfl rfl)
theorem dX6_tries_38 : decode cX6_tries 38 = .ok (.bipush 56, 2) := dk_16 56 (dk_at dksX6_tries_1 16 rfl rfl)
theorem dX6_tries_40 : decode cX6_tries 40 = .ok (.iload_n 1, 1) := dk_27 (dk_at dksX6_tries_1 18 rfl rfl)
theorem dX6_tries_41 : decode cX6_tries 41 = .ok (.iadd, 1) := dk_96 (dk_at dksX6_tries_1 19 rfl rfl)
theorem dX6_tries_42 : decode cX6_tries 42 = .ok (.iaload, 1) := dk_46 (dk_at dksX6_tries_1 20 rfl rfl)
theorem dX6_tries_43 : decode cX6_tries 43 = .ok (.aload_n 0, 1) := dk_42 (dk_at dksX6_tries_1 21 rfl rfl)
theorem dX6_tries_44 : decode cX6_tries 44 = .ok (.getfield 35, 3) := dk_180 0 35 (dk_at dksX6_tries_2 0 rfl rfl)
theorem dX6_tries_47 : decode cX6_tries 47 = .ok (.iconst 3, 1) := dk_6 (dk_at dksX6_tries_2 3 rfl rfl)
theorem dX6_tries_48 : decode cX6_tries 48 = .ok (.iaload, 1) := dk_46 (dk_at dksX6_tries_2 4 rfl rfl)
theorem dX6_tries_49 : decode cX6_tries 49 = .ok (.iand, 1) := dk_126 (dk_at dksX6_tries_2 5 rfl rfl)
theorem dX6_tries_50 : decode cX6_tries 50 = .ok (.istore_n 2, 1) := dk_61 (dk_at dksX6_tries_2 6 rfl rfl)
theorem dX6_tries_51 : decode cX6_tries 51 = .ok (.iload_n 2, 1) := dk_28 (dk_at dksX6_tries_2 7 rfl rfl)
theorem dX6_tries_52 : decode cX6_tries 52 = .ok (.ifCond .ne 10, 3) := dk_154 0 10 (dk_at dksX6_tries_2 8 rfl rfl)
theorem dX6_tries_55 : decode cX6_tries 55 = .ok (.aload_n 0, 1) := dk_42 (dk_at dksX6_tries_2 11 rfl rfl)
theorem dX6_tries_56 : decode cX6_tries 56 = .ok (.bipush 8, 2) := dk_16 8 (dk_at dksX6_tries_2 12 rfl rfl)
theorem dX6_tries_58 : decode cX6_tries 58 = .ok (.invokevirtual 92, 3) := dk_182 0 92 (dk_at dksX6_tries_2 14 rfl rfl)
theorem dX6_tries_61 : decode cX6_tries 61 = .ok (.ireturn, 1) := dk_172 (dk_at dksX6_tries_2 17 rfl rfl)
theorem dX6_tries_62 : decode cX6_tries 62 = .ok (.iconst 0, 1) := dk_3 (dk_at dksX6_tries_2 18 rfl rfl)
theorem dX6_tries_63 : decode cX6_tries 63 = .ok (.istore_n 3, 1) := dk_62 (dk_at dksX6_tries_2 19 rfl rfl)
theorem dX6_tries_64 : decode cX6_tries 64 = .ok (.iconst 0, 1) := dk_3 (dk_at dksX6_tries_2 20 rfl rfl)
theorem dX6_tries_65 : decode cX6_tries 65 = .ok (.istore 4, 2) := dk_54 4 (dk_at dksX6_tries_2 21 rfl rfl)
theorem dX6_tries_67 : decode cX6_tries 67 = .ok (.iconst 0, 1) := dk_3 (dk_at dksX6_tries_2 23 rfl rfl)
theorem dX6_tries_68 : decode cX6_tries 68 = .ok (.istore 5, 2) := dk_54 5 (dk_at dksX6_tries_3 0 rfl rfl)
theorem dX6_tries_70 : decode cX6_tries 70 = .ok (.iload 5, 2) := dk_21 5 (dk_at dksX6_tries_3 2 rfl rfl)
theorem dX6_tries_72 : decode cX6_tries 72 = .ok (.aload_n 0, 1) := dk_42 (dk_at dksX6_tries_3 4 rfl rfl)
theorem dX6_tries_73 : decode cX6_tries 73 = .ok (.getfield 35, 3) := dk_180 0 35 (dk_at dksX6_tries_3 5 rfl rfl)
theorem dX6_tries_76 : decode cX6_tries 76 = .ok (.iconst 0, 1) := dk_3 (dk_at dksX6_tries_3 8 rfl rfl)
theorem dX6_tries_77 : decode cX6_tries 77 = .ok (.iaload, 1) := dk_46 (dk_at dksX6_tries_3 9 rfl rfl)
theorem dX6_tries_78 : decode cX6_tries 78 = .ok (.if_icmp .ge 59, 3) := dk_162 0 59 (dk_at dksX6_tries_3 10 rfl rfl)
theorem dX6_tries_81 : decode cX6_tries 81 = .ok (.iload_n 2, 1) := dk_28 (dk_at dksX6_tries_3 13 rfl rfl)
theorem dX6_tries_82 : decode cX6_tries 82 = .ok (.iload 5, 2) := dk_21 5 (dk_at dksX6_tries_3 14 rfl rfl)
theorem dX6_tries_84 : decode cX6_tries 84 = .ok (.invokestatic 116, 3) := dk_184 0 116 (dk_at dksX6_tries_3 16 rfl rfl)
theorem dX6_tries_87 : decode cX6_tries 87 = .ok (.ifCond .ne 6, 3) := dk_154 0 6 (dk_at dksX6_tries_3 19 rfl rfl)
theorem dX6_tries_90 : decode cX6_tries 90 = .ok (.goto 41, 3) := dk_167 0 41 (dk_at dksX6_tries_4 0 rfl rfl)
theorem dX6_tries_93 : decode cX6_tries 93 = .ok (.iload_n 3, 1) := dk_29 (dk_at dksX6_tries_4 3 rfl rfl)
theorem dX6_tries_94 : decode cX6_tries 94 = .ok (.aload_n 0, 1) := dk_42 (dk_at dksX6_tries_4 4 rfl rfl)
theorem dX6_tries_95 : decode cX6_tries 95 = .ok (.getfield 35, 3) := dk_180 0 35 (dk_at dksX6_tries_4 5 rfl rfl)
theorem dX6_tries_98 : decode cX6_tries 98 = .ok (.bipush 48, 2) := dk_16 48 (dk_at dksX6_tries_4 8 rfl rfl)
theorem dX6_tries_100 : decode cX6_tries 100 = .ok (.iload 5, 2) := dk_21 5 (dk_at dksX6_tries_4 10 rfl rfl)
theorem dX6_tries_102 : decode cX6_tries 102 = .ok (.iadd, 1) := dk_96 (dk_at dksX6_tries_4 12 rfl rfl)
theorem dX6_tries_103 : decode cX6_tries 103 = .ok (.iaload, 1) := dk_46 (dk_at dksX6_tries_4 13 rfl rfl)
theorem dX6_tries_104 : decode cX6_tries 104 = .ok (.iadd, 1) := dk_96 (dk_at dksX6_tries_4 14 rfl rfl)
theorem dX6_tries_105 : decode cX6_tries 105 = .ok (.istore_n 3, 1) := dk_62 (dk_at dksX6_tries_4 15 rfl rfl)
theorem dX6_tries_106 : decode cX6_tries 106 = .ok (.iload 4, 2) := dk_21 4 (dk_at dksX6_tries_4 16 rfl rfl)
theorem dX6_tries_108 : decode cX6_tries 108 = .ok (.aload_n 0, 1) := dk_42 (dk_at dksX6_tries_4 18 rfl rfl)
theorem dX6_tries_109 : decode cX6_tries 109 = .ok (.getfield 35, 3) := dk_180 0 35 (dk_at dksX6_tries_4 19 rfl rfl)
theorem dX6_tries_112 : decode cX6_tries 112 = .ok (.bipush 48, 2) := dk_16 48 (dk_at dksX6_tries_4 22 rfl rfl)
theorem dX6_tries_114 : decode cX6_tries 114 = .ok (.iload 5, 2) := dk_21 5 (dk_at dksX6_tries_5 0 rfl rfl)
theorem dX6_tries_116 : decode cX6_tries 116 = .ok (.iadd, 1) := dk_96 (dk_at dksX6_tries_5 2 rfl rfl)
theorem dX6_tries_117 : decode cX6_tries 117 = .ok (.iaload, 1) := dk_46 (dk_at dksX6_tries_5 3 rfl rfl)
theorem dX6_tries_118 : decode cX6_tries 118 = .ok (.iconst 1, 1) := dk_4 (dk_at dksX6_tries_5 4 rfl rfl)
theorem dX6_tries_119 : decode cX6_tries 119 = .ok (.aload_n 0, 1) := dk_42 (dk_at dksX6_tries_5 5 rfl rfl)
theorem dX6_tries_120 : decode cX6_tries 120 = .ok (.iload_n 2, 1) := dk_28 (dk_at dksX6_tries_5 6 rfl rfl)
theorem dX6_tries_121 : decode cX6_tries 121 = .ok (.iload 5, 2) := dk_21 5 (dk_at dksX6_tries_5 7 rfl rfl)
theorem dX6_tries_123 : decode cX6_tries 123 = .ok (.invokevirtual 443, 3) := dk_182 1 187 (dk_at dksX6_tries_5 9 rfl rfl)
theorem dX6_tries_126 : decode cX6_tries 126 = .ok (.iadd, 1) := dk_96 (dk_at dksX6_tries_5 12 rfl rfl)
theorem dX6_tries_127 : decode cX6_tries 127 = .ok (.imul, 1) := dk_104 (dk_at dksX6_tries_5 13 rfl rfl)
theorem dX6_tries_128 : decode cX6_tries 128 = .ok (.iadd, 1) := dk_96 (dk_at dksX6_tries_5 14 rfl rfl)
theorem dX6_tries_129 : decode cX6_tries 129 = .ok (.istore 4, 2) := dk_54 4 (dk_at dksX6_tries_5 15 rfl rfl)
theorem dX6_tries_131 : decode cX6_tries 131 = .ok (.iinc 5 1, 3) := dk_132 5 1 (dk_at dksX6_tries_5 17 rfl rfl)
theorem dX6_tries_134 : decode cX6_tries 134 = .ok (.goto (-64), 3) := dk_167 255 192 (dk_at dksX6_tries_5 20 rfl rfl)
theorem dX6_tries_137 : decode cX6_tries 137 = .ok (.iload_n 3, 1) := dk_29 (dk_at dksX6_tries_5 23 rfl rfl)
theorem dX6_tries_138 : decode cX6_tries 138 = .ok (.ifCond .ne 12, 3) := dk_154 0 12 (dk_at dksX6_tries_6 0 rfl rfl)
theorem dX6_tries_141 : decode cX6_tries 141 = .ok (.aload_n 0, 1) := dk_42 (dk_at dksX6_tries_6 3 rfl rfl)
theorem dX6_tries_142 : decode cX6_tries 142 = .ok (.bipush 9, 2) := dk_16 9 (dk_at dksX6_tries_6 4 rfl rfl)
theorem dX6_tries_144 : decode cX6_tries 144 = .ok (.invokevirtual 92, 3) := dk_182 0 92 (dk_at dksX6_tries_6 6 rfl rfl)
theorem dX6_tries_147 : decode cX6_tries 147 = .ok (.goto 12, 3) := dk_167 0 12 (dk_at dksX6_tries_6 9 rfl rfl)
theorem dX6_tries_150 : decode cX6_tries 150 = .ok (.aload_n 0, 1) := dk_42 (dk_at dksX6_tries_6 12 rfl rfl)
theorem dX6_tries_151 : decode cX6_tries 151 = .ok (.iload 4, 2) := dk_21 4 (dk_at dksX6_tries_6 13 rfl rfl)
theorem dX6_tries_153 : decode cX6_tries 153 = .ok (.i2l, 1) := dk_133 (dk_at dksX6_tries_6 15 rfl rfl)
theorem dX6_tries_154 : decode cX6_tries 154 = .ok (.iload_n 3, 1) := dk_29 (dk_at dksX6_tries_6 16 rfl rfl)
theorem dX6_tries_155 : decode cX6_tries 155 = .ok (.i2l, 1) := dk_133 (dk_at dksX6_tries_6 17 rfl rfl)
theorem dX6_tries_156 : decode cX6_tries 156 = .ok (.invokevirtual 434, 3) := dk_182 1 178 (dk_at dksX6_tries_6 18 rfl rfl)
theorem dX6_tries_159 : decode cX6_tries 159 = .ok (.ireturn, 1) := dk_172 (dk_at dksX6_tries_6 21 rfl rfl)
abbrev cX6_aheadOf : ByteArray := prog_16_method_131_code
def yX6_aheadOf : MethodName := ⟨RX6, "aheadOf", "(II)I"⟩
def dkwX6_aheadOf_3 : List UInt8 := [160, 0, 13, 21, 4, 28, 162, 0, 7, 4, 167, 0, 4, 3, 96, 62, 132, 4, 1, 167, 255, 175, 29, 172]
abbrev dktX6_aheadOf_3 : List UInt8 := dkwX6_aheadOf_3 ++ []
def dkwX6_aheadOf_2 : List UInt8 := [163, 0, 31, 42, 180, 0, 35, 16, 48, 21, 4, 96, 46, 42, 180, 0, 35, 16, 48, 28, 96, 46]
abbrev dktX6_aheadOf_2 : List UInt8 := dkwX6_aheadOf_2 ++ dktX6_aheadOf_3
def dkwX6_aheadOf_1 : List UInt8 := [153, 0, 57, 42, 180, 0, 35, 16, 48, 21, 4, 96, 46, 42, 180, 0, 35, 16, 48, 28, 96, 46]
abbrev dktX6_aheadOf_1 : List UInt8 := dkwX6_aheadOf_1 ++ dktX6_aheadOf_2
def dkwX6_aheadOf_0 : List UInt8 := [3, 62, 3, 54, 4, 21, 4, 42, 180, 0, 35, 3, 46, 162, 0, 76, 29, 27, 21, 4, 184, 0, 116]
abbrev dktX6_aheadOf_0 : List UInt8 := dkwX6_aheadOf_0 ++ dktX6_aheadOf_1
theorem dksX6_aheadOf_0 : cX6_aheadOf.data.toList.drop 0 = dktX6_aheadOf_0 := by decide +kernel
theorem dksX6_aheadOf_1 : cX6_aheadOf.data.toList.drop 23 = dktX6_aheadOf_1 := dk_seg dksX6_aheadOf_0 23 rfl rfl
theorem dksX6_aheadOf_2 : cX6_aheadOf.data.toList.drop 45 = dktX6_aheadOf_2 := dk_seg dksX6_aheadOf_1 22 rfl rfl
theorem dksX6_aheadOf_3 : cX6_aheadOf.data.toList.drop 67 = dktX6_aheadOf_3 := dk_seg dksX6_aheadOf_2 22 rfl rfl
theorem dX6_aheadOf_0 : decode cX6_aheadOf 0 = .ok (.iconst 0, 1) := dk_3 (dk_at dksX6_aheadOf_0 0 rfl rfl)
theorem dX6_aheadOf_1 : decode cX6_aheadOf 1 = .ok (.istore_n 3, 1) := dk_62 (dk_at dksX6_aheadOf_0 1 rfl rfl)
theorem dX6_aheadOf_2 : decode cX6_aheadOf 2 = .ok (.iconst 0, 1) := dk_3 (dk_at dksX6_aheadOf_0 2 rfl rfl)
theorem dX6_aheadOf_3 : decode cX6_aheadOf 3 = .ok (.istore 4, 2) := dk_54 4 (dk_at dksX6_aheadOf_0 3 rfl rfl)
theorem dX6_aheadOf_5 : decode cX6_aheadOf 5 = .ok (.iload 4, 2) := dk_21 4 (dk_at dksX6_aheadOf_0 5 rfl rfl)
theorem dX6_aheadOf_7 : decode cX6_aheadOf 7 = .ok (.aload_n 0, 1) := dk_42 (dk_at dksX6_aheadOf_0 7 rfl rfl)
theorem dX6_aheadOf_8 : decode cX6_aheadOf 8 = .ok (.getfield 35, 3) := dk_180 0 35 (dk_at dksX6_aheadOf_0 8 rfl rfl)
theorem dX6_aheadOf_11 : decode cX6_aheadOf 11 = .ok (.iconst 0, 1) := dk_3 (dk_at dksX6_aheadOf_0 11 rfl rfl)
theorem dX6_aheadOf_12 : decode cX6_aheadOf 12 = .ok (.iaload, 1) := dk_46 (dk_at dksX6_aheadOf_0 12 rfl rfl)
theorem dX6_aheadOf_13 : decode cX6_aheadOf 13 = .ok (.if_icmp .ge 76, 3) := dk_162 0 76 (dk_at dksX6_aheadOf_0 13 rfl rfl)
theorem dX6_aheadOf_16 : decode cX6_aheadOf 16 = .ok (.iload_n 3, 1) := dk_29 (dk_at dksX6_aheadOf_0 16 rfl rfl)
theorem dX6_aheadOf_17 : decode cX6_aheadOf 17 = .ok (.iload_n 1, 1) := dk_27 (dk_at dksX6_aheadOf_0 17 rfl rfl)
theorem dX6_aheadOf_18 : decode cX6_aheadOf 18 = .ok (.iload 4, 2) := dk_21 4 (dk_at dksX6_aheadOf_0 18 rfl rfl)
theorem dX6_aheadOf_20 : decode cX6_aheadOf 20 = .ok (.invokestatic 116, 3) := dk_184 0 116 (dk_at dksX6_aheadOf_0 20 rfl rfl)
theorem dX6_aheadOf_23 : decode cX6_aheadOf 23 = .ok (.ifCond .eq 57, 3) := dk_153 0 57 (dk_at dksX6_aheadOf_1 0 rfl rfl)
theorem dX6_aheadOf_26 : decode cX6_aheadOf 26 = .ok (.aload_n 0, 1) := dk_42 (dk_at dksX6_aheadOf_1 3 rfl rfl)
theorem dX6_aheadOf_27 : decode cX6_aheadOf 27 = .ok (.getfield 35, 3) := dk_180 0 35 (dk_at dksX6_aheadOf_1 4 rfl rfl)
theorem dX6_aheadOf_30 : decode cX6_aheadOf 30 = .ok (.bipush 48, 2) := dk_16 48 (dk_at dksX6_aheadOf_1 7 rfl rfl)
theorem dX6_aheadOf_32 : decode cX6_aheadOf 32 = .ok (.iload 4, 2) := dk_21 4 (dk_at dksX6_aheadOf_1 9 rfl rfl)
theorem dX6_aheadOf_34 : decode cX6_aheadOf 34 = .ok (.iadd, 1) := dk_96 (dk_at dksX6_aheadOf_1 11 rfl rfl)
theorem dX6_aheadOf_35 : decode cX6_aheadOf 35 = .ok (.iaload, 1) := dk_46 (dk_at dksX6_aheadOf_1 12 rfl rfl)
theorem dX6_aheadOf_36 : decode cX6_aheadOf 36 = .ok (.aload_n 0, 1) := dk_42 (dk_at dksX6_aheadOf_1 13 rfl rfl)
theorem dX6_aheadOf_37 : decode cX6_aheadOf 37 = .ok (.getfield 35, 3) := dk_180 0 35 (dk_at dksX6_aheadOf_1 14 rfl rfl)
theorem dX6_aheadOf_40 : decode cX6_aheadOf 40 = .ok (.bipush 48, 2) := dk_16 48 (dk_at dksX6_aheadOf_1 17 rfl rfl)
theorem dX6_aheadOf_42 : decode cX6_aheadOf 42 = .ok (.iload_n 2, 1) := dk_28 (dk_at dksX6_aheadOf_1 19 rfl rfl)
theorem dX6_aheadOf_43 : decode cX6_aheadOf 43 = .ok (.iadd, 1) := dk_96 (dk_at dksX6_aheadOf_1 20 rfl rfl)
theorem dX6_aheadOf_44 : decode cX6_aheadOf 44 = .ok (.iaload, 1) := dk_46 (dk_at dksX6_aheadOf_1 21 rfl rfl)
theorem dX6_aheadOf_45 : decode cX6_aheadOf 45 = .ok (.if_icmp .gt 31, 3) := dk_163 0 31 (dk_at dksX6_aheadOf_2 0 rfl rfl)
theorem dX6_aheadOf_48 : decode cX6_aheadOf 48 = .ok (.aload_n 0, 1) := dk_42 (dk_at dksX6_aheadOf_2 3 rfl rfl)
theorem dX6_aheadOf_49 : decode cX6_aheadOf 49 = .ok (.getfield 35, 3) := dk_180 0 35 (dk_at dksX6_aheadOf_2 4 rfl rfl)
theorem dX6_aheadOf_52 : decode cX6_aheadOf 52 = .ok (.bipush 48, 2) := dk_16 48 (dk_at dksX6_aheadOf_2 7 rfl rfl)
theorem dX6_aheadOf_54 : decode cX6_aheadOf 54 = .ok (.iload 4, 2) := dk_21 4 (dk_at dksX6_aheadOf_2 9 rfl rfl)
theorem dX6_aheadOf_56 : decode cX6_aheadOf 56 = .ok (.iadd, 1) := dk_96 (dk_at dksX6_aheadOf_2 11 rfl rfl)
theorem dX6_aheadOf_57 : decode cX6_aheadOf 57 = .ok (.iaload, 1) := dk_46 (dk_at dksX6_aheadOf_2 12 rfl rfl)
theorem dX6_aheadOf_58 : decode cX6_aheadOf 58 = .ok (.aload_n 0, 1) := dk_42 (dk_at dksX6_aheadOf_2 13 rfl rfl)
theorem dX6_aheadOf_59 : decode cX6_aheadOf 59 = .ok (.getfield 35, 3) := dk_180 0 35 (dk_at dksX6_aheadOf_2 14 rfl rfl)
theorem dX6_aheadOf_62 : decode cX6_aheadOf 62 = .ok (.bipush 48, 2) := dk_16 48 (dk_at dksX6_aheadOf_2 17 rfl rfl)
theorem dX6_aheadOf_64 : decode cX6_aheadOf 64 = .ok (.iload_n 2, 1) := dk_28 (dk_at dksX6_aheadOf_2 19 rfl rfl)
theorem dX6_aheadOf_65 : decode cX6_aheadOf 65 = .ok (.iadd, 1) := dk_96 (dk_at dksX6_aheadOf_2 20 rfl rfl)
theorem dX6_aheadOf_66 : decode cX6_aheadOf 66 = .ok (.iaload, 1) := dk_46 (dk_at dksX6_aheadOf_2 21 rfl rfl)
theorem dX6_aheadOf_67 : decode cX6_aheadOf 67 = .ok (.if_icmp .ne 13, 3) := dk_160 0 13 (dk_at dksX6_aheadOf_3 0 rfl rfl)
theorem dX6_aheadOf_70 : decode cX6_aheadOf 70 = .ok (.iload 4, 2) := dk_21 4 (dk_at dksX6_aheadOf_3 3 rfl rfl)
theorem dX6_aheadOf_72 : decode cX6_aheadOf 72 = .ok (.iload_n 2, 1) := dk_28 (dk_at dksX6_aheadOf_3 5 rfl rfl)
theorem dX6_aheadOf_73 : decode cX6_aheadOf 73 = .ok (.if_icmp .ge 7, 3) := dk_162 0 7 (dk_at dksX6_aheadOf_3 6 rfl rfl)
theorem dX6_aheadOf_76 : decode cX6_aheadOf 76 = .ok (.iconst 1, 1) := dk_4 (dk_at dksX6_aheadOf_3 9 rfl rfl)
theorem dX6_aheadOf_77 : decode cX6_aheadOf 77 = .ok (.goto 4, 3) := dk_167 0 4 (dk_at dksX6_aheadOf_3 10 rfl rfl)
theorem dX6_aheadOf_80 : decode cX6_aheadOf 80 = .ok (.iconst 0, 1) := dk_3 (dk_at dksX6_aheadOf_3 13 rfl rfl)
theorem dX6_aheadOf_81 : decode cX6_aheadOf 81 = .ok (.iadd, 1) := dk_96 (dk_at dksX6_aheadOf_3 14 rfl rfl)
theorem dX6_aheadOf_82 : decode cX6_aheadOf 82 = .ok (.istore_n 3, 1) := dk_62 (dk_at dksX6_aheadOf_3 15 rfl rfl)
theorem dX6_aheadOf_83 : decode cX6_aheadOf 83 = .ok (.iinc 4 1, 3) := dk_132 4 1 (dk_at dksX6_aheadOf_3 16 rfl rfl)
theorem dX6_aheadOf_86 : decode cX6_aheadOf 86 = .ok (.goto (-81), 3) := dk_167 255 175 (dk_at dksX6_aheadOf_3 19 rfl rfl)
theorem dX6_aheadOf_89 : decode cX6_aheadOf 89 = .ok (.iload_n 3, 1) := dk_29 (dk_at dksX6_aheadOf_3 22 rfl rfl)
theorem dX6_aheadOf_90 : decode cX6_aheadOf 90 = .ok (.ireturn, 1) := dk_172 (dk_at dksX6_aheadOf_3 23 rfl rfl)
abbrev cX6_nextTry : ByteArray := prog_16_method_133_code
def yX6_nextTry : MethodName := ⟨RX6, "nextTry", "(II)I"⟩
def dkwX6_nextTry_4 : List UInt8 := [167, 255, 219, 42, 16, 8, 182, 1, 52, 172]
abbrev dktX6_nextTry_4 : List UInt8 := dkwX6_nextTry_4 ++ []
def dkwX6_nextTry_3 : List UInt8 := [184, 0, 116, 153, 0, 17, 42, 29, 21, 4, 182, 1, 187, 28, 160, 0, 6, 21, 4, 172, 132, 4, 1]
abbrev dktX6_nextTry_3 : List UInt8 := dkwX6_nextTry_3 ++ dktX6_nextTry_4
def dkwX6_nextTry_2 : List UInt8 := [180, 0, 35, 6, 46, 126, 62, 3, 54, 4, 21, 4, 42, 180, 0, 35, 3, 46, 162, 0, 32, 29, 21, 4]
abbrev dktX6_nextTry_2 : List UInt8 := dkwX6_nextTry_2 ++ dktX6_nextTry_3
def dkwX6_nextTry_1 : List UInt8 := [184, 0, 112, 154, 0, 9, 42, 5, 182, 1, 52, 172, 42, 180, 0, 35, 16, 56, 27, 96, 46, 42]
abbrev dktX6_nextTry_1 : List UInt8 := dkwX6_nextTry_1 ++ dktX6_nextTry_2
def dkwX6_nextTry_0 : List UInt8 := [42, 3, 181, 0, 77, 42, 3, 181, 0, 80, 27, 133, 9, 42, 180, 0, 35, 5, 46, 4, 100, 133]
abbrev dktX6_nextTry_0 : List UInt8 := dkwX6_nextTry_0 ++ dktX6_nextTry_1
theorem dksX6_nextTry_0 : cX6_nextTry.data.toList.drop 0 = dktX6_nextTry_0 := by decide +kernel
theorem dksX6_nextTry_1 : cX6_nextTry.data.toList.drop 22 = dktX6_nextTry_1 := dk_seg dksX6_nextTry_0 22 rfl rfl
theorem dksX6_nextTry_2 : cX6_nextTry.data.toList.drop 44 = dktX6_nextTry_2 := dk_seg dksX6_nextTry_1 22 rfl rfl
theorem dksX6_nextTry_3 : cX6_nextTry.data.toList.drop 68 = dktX6_nextTry_3 := dk_seg dksX6_nextTry_2 24 rfl rfl
theorem dksX6_nextTry_4 : cX6_nextTry.data.toList.drop 91 = dktX6_nextTry_4 := dk_seg dksX6_nextTry_3 23 rfl rfl
theorem dX6_nextTry_0 : decode cX6_nextTry 0 = .ok (.aload_n 0, 1) := dk_42 (dk_at dksX6_nextTry_0 0 rfl rfl)
theorem dX6_nextTry_1 : decode cX6_nextTry 1 = .ok (.iconst 0, 1) := dk_3 (dk_at dksX6_nextTry_0 1 rfl rfl)
theorem dX6_nextTry_2 : decode cX6_nextTry 2 = .ok (.putfield 77, 3) := dk_181 0 77 (dk_at dksX6_nextTry_0 2 rfl rfl)
theorem dX6_nextTry_5 : decode cX6_nextTry 5 = .ok (.aload_n 0, 1) := dk_42 (dk_at dksX6_nextTry_0 5 rfl rfl)
theorem dX6_nextTry_6 : decode cX6_nextTry 6 = .ok (.iconst 0, 1) := dk_3 (dk_at dksX6_nextTry_0 6 rfl rfl)
theorem dX6_nextTry_7 : decode cX6_nextTry 7 = .ok (.putfield 80, 3) := dk_181 0 80 (dk_at dksX6_nextTry_0 7 rfl rfl)
theorem dX6_nextTry_10 : decode cX6_nextTry 10 = .ok (.iload_n 1, 1) := dk_27 (dk_at dksX6_nextTry_0 10 rfl rfl)
theorem dX6_nextTry_11 : decode cX6_nextTry 11 = .ok (.i2l, 1) := dk_133 (dk_at dksX6_nextTry_0 11 rfl rfl)
theorem dX6_nextTry_12 : decode cX6_nextTry 12 = .ok (.lconst 0, 1) := dk_9 (dk_at dksX6_nextTry_0 12 rfl rfl)
theorem dX6_nextTry_13 : decode cX6_nextTry 13 = .ok (.aload_n 0, 1) := dk_42 (dk_at dksX6_nextTry_0 13 rfl rfl)
theorem dX6_nextTry_14 : decode cX6_nextTry 14 = .ok (.getfield 35, 3) := dk_180 0 35 (dk_at dksX6_nextTry_0 14 rfl rfl)
theorem dX6_nextTry_17 : decode cX6_nextTry 17 = .ok (.iconst 2, 1) := dk_5 (dk_at dksX6_nextTry_0 17 rfl rfl)
theorem dX6_nextTry_18 : decode cX6_nextTry 18 = .ok (.iaload, 1) := dk_46 (dk_at dksX6_nextTry_0 18 rfl rfl)
theorem dX6_nextTry_19 : decode cX6_nextTry 19 = .ok (.iconst 1, 1) := dk_4 (dk_at dksX6_nextTry_0 19 rfl rfl)
theorem dX6_nextTry_20 : decode cX6_nextTry 20 = .ok (.isub, 1) := dk_100 (dk_at dksX6_nextTry_0 20 rfl rfl)
theorem dX6_nextTry_21 : decode cX6_nextTry 21 = .ok (.i2l, 1) := dk_133 (dk_at dksX6_nextTry_0 21 rfl rfl)
theorem dX6_nextTry_22 : decode cX6_nextTry 22 = .ok (.invokestatic 112, 3) := dk_184 0 112 (dk_at dksX6_nextTry_1 0 rfl rfl)
theorem dX6_nextTry_25 : decode cX6_nextTry 25 = .ok (.ifCond .ne 9, 3) := dk_154 0 9 (dk_at dksX6_nextTry_1 3 rfl rfl)
theorem dX6_nextTry_28 : decode cX6_nextTry 28 = .ok (.aload_n 0, 1) := dk_42 (dk_at dksX6_nextTry_1 6 rfl rfl)
theorem dX6_nextTry_29 : decode cX6_nextTry 29 = .ok (.iconst 2, 1) := dk_5 (dk_at dksX6_nextTry_1 7 rfl rfl)
theorem dX6_nextTry_30 : decode cX6_nextTry 30 = .ok (.invokevirtual 308, 3) := dk_182 1 52 (dk_at dksX6_nextTry_1 8 rfl rfl)
theorem dX6_nextTry_33 : decode cX6_nextTry 33 = .ok (.ireturn, 1) := dk_172 (dk_at dksX6_nextTry_1 11 rfl rfl)
theorem dX6_nextTry_34 : decode cX6_nextTry 34 = .ok (.aload_n 0, 1) := dk_42 (dk_at dksX6_nextTry_1 12 rfl rfl)
theorem dX6_nextTry_35 : decode cX6_nextTry 35 = .ok (.getfield 35, 3) := dk_180 0 35 (dk_at dksX6_nextTry_1 13 rfl rfl)
theorem dX6_nextTry_38 : decode cX6_nextTry 38 = .ok (.bipush 56, 2) := dk_16 56 (dk_at dksX6_nextTry_1 16 rfl rfl)
theorem dX6_nextTry_40 : decode cX6_nextTry 40 = .ok (.iload_n 1, 1) := dk_27 (dk_at dksX6_nextTry_1 18 rfl rfl)
theorem dX6_nextTry_41 : decode cX6_nextTry 41 = .ok (.iadd, 1) := dk_96 (dk_at dksX6_nextTry_1 19 rfl rfl)
theorem dX6_nextTry_42 : decode cX6_nextTry 42 = .ok (.iaload, 1) := dk_46 (dk_at dksX6_nextTry_1 20 rfl rfl)
theorem dX6_nextTry_43 : decode cX6_nextTry 43 = .ok (.aload_n 0, 1) := dk_42 (dk_at dksX6_nextTry_1 21 rfl rfl)
theorem dX6_nextTry_44 : decode cX6_nextTry 44 = .ok (.getfield 35, 3) := dk_180 0 35 (dk_at dksX6_nextTry_2 0 rfl rfl)
theorem dX6_nextTry_47 : decode cX6_nextTry 47 = .ok (.iconst 3, 1) := dk_6 (dk_at dksX6_nextTry_2 3 rfl rfl)
theorem dX6_nextTry_48 : decode cX6_nextTry 48 = .ok (.iaload, 1) := dk_46 (dk_at dksX6_nextTry_2 4 rfl rfl)
theorem dX6_nextTry_49 : decode cX6_nextTry 49 = .ok (.iand, 1) := dk_126 (dk_at dksX6_nextTry_2 5 rfl rfl)
theorem dX6_nextTry_50 : decode cX6_nextTry 50 = .ok (.istore_n 3, 1) := dk_62 (dk_at dksX6_nextTry_2 6 rfl rfl)
theorem dX6_nextTry_51 : decode cX6_nextTry 51 = .ok (.iconst 0, 1) := dk_3 (dk_at dksX6_nextTry_2 7 rfl rfl)
theorem dX6_nextTry_52 : decode cX6_nextTry 52 = .ok (.istore 4, 2) := dk_54 4 (dk_at dksX6_nextTry_2 8 rfl rfl)
theorem dX6_nextTry_54 : decode cX6_nextTry 54 = .ok (.iload 4, 2) := dk_21 4 (dk_at dksX6_nextTry_2 10 rfl rfl)
theorem dX6_nextTry_56 : decode cX6_nextTry 56 = .ok (.aload_n 0, 1) := dk_42 (dk_at dksX6_nextTry_2 12 rfl rfl)
theorem dX6_nextTry_57 : decode cX6_nextTry 57 = .ok (.getfield 35, 3) := dk_180 0 35 (dk_at dksX6_nextTry_2 13 rfl rfl)
theorem dX6_nextTry_60 : decode cX6_nextTry 60 = .ok (.iconst 0, 1) := dk_3 (dk_at dksX6_nextTry_2 16 rfl rfl)
theorem dX6_nextTry_61 : decode cX6_nextTry 61 = .ok (.iaload, 1) := dk_46 (dk_at dksX6_nextTry_2 17 rfl rfl)
theorem dX6_nextTry_62 : decode cX6_nextTry 62 = .ok (.if_icmp .ge 32, 3) := dk_162 0 32 (dk_at dksX6_nextTry_2 18 rfl rfl)
theorem dX6_nextTry_65 : decode cX6_nextTry 65 = .ok (.iload_n 3, 1) := dk_29 (dk_at dksX6_nextTry_2 21 rfl rfl)
theorem dX6_nextTry_66 : decode cX6_nextTry 66 = .ok (.iload 4, 2) := dk_21 4 (dk_at dksX6_nextTry_2 22 rfl rfl)
theorem dX6_nextTry_68 : decode cX6_nextTry 68 = .ok (.invokestatic 116, 3) := dk_184 0 116 (dk_at dksX6_nextTry_3 0 rfl rfl)
theorem dX6_nextTry_71 : decode cX6_nextTry 71 = .ok (.ifCond .eq 17, 3) := dk_153 0 17 (dk_at dksX6_nextTry_3 3 rfl rfl)
theorem dX6_nextTry_74 : decode cX6_nextTry 74 = .ok (.aload_n 0, 1) := dk_42 (dk_at dksX6_nextTry_3 6 rfl rfl)
theorem dX6_nextTry_75 : decode cX6_nextTry 75 = .ok (.iload_n 3, 1) := dk_29 (dk_at dksX6_nextTry_3 7 rfl rfl)
theorem dX6_nextTry_76 : decode cX6_nextTry 76 = .ok (.iload 4, 2) := dk_21 4 (dk_at dksX6_nextTry_3 8 rfl rfl)
theorem dX6_nextTry_78 : decode cX6_nextTry 78 = .ok (.invokevirtual 443, 3) := dk_182 1 187 (dk_at dksX6_nextTry_3 10 rfl rfl)
theorem dX6_nextTry_81 : decode cX6_nextTry 81 = .ok (.iload_n 2, 1) := dk_28 (dk_at dksX6_nextTry_3 13 rfl rfl)
theorem dX6_nextTry_82 : decode cX6_nextTry 82 = .ok (.if_icmp .ne 6, 3) := dk_160 0 6 (dk_at dksX6_nextTry_3 14 rfl rfl)
theorem dX6_nextTry_85 : decode cX6_nextTry 85 = .ok (.iload 4, 2) := dk_21 4 (dk_at dksX6_nextTry_3 17 rfl rfl)
theorem dX6_nextTry_87 : decode cX6_nextTry 87 = .ok (.ireturn, 1) := dk_172 (dk_at dksX6_nextTry_3 19 rfl rfl)
theorem dX6_nextTry_88 : decode cX6_nextTry 88 = .ok (.iinc 4 1, 3) := dk_132 4 1 (dk_at dksX6_nextTry_3 20 rfl rfl)
theorem dX6_nextTry_91 : decode cX6_nextTry 91 = .ok (.goto (-37), 3) := dk_167 255 219 (dk_at dksX6_nextTry_4 0 rfl rfl)
theorem dX6_nextTry_94 : decode cX6_nextTry 94 = .ok (.aload_n 0, 1) := dk_42 (dk_at dksX6_nextTry_4 3 rfl rfl)
theorem dX6_nextTry_95 : decode cX6_nextTry 95 = .ok (.bipush 8, 2) := dk_16 8 (dk_at dksX6_nextTry_4 4 rfl rfl)
theorem dX6_nextTry_97 : decode cX6_nextTry 97 = .ok (.invokevirtual 308, 3) := dk_182 1 52 (dk_at dksX6_nextTry_4 6 rfl rfl)
theorem dX6_nextTry_100 : decode cX6_nextTry 100 = .ok (.ireturn, 1) := dk_172 (dk_at dksX6_nextTry_4 9 rfl rfl)
abbrev cX6_boxes : ByteArray := prog_16_method_135_code
def yX6_boxes : MethodName := ⟨RX6, "boxes", "(I)I"⟩
def dkwX6_boxes_7 : List UInt8 := [126, 54, 4, 167, 255, 205, 132, 3, 1, 167, 255, 164, 42, 180, 0, 56, 28, 46, 172]
abbrev dktX6_boxes_7 : List UInt8 := dkwX6_boxes_7 ++ []
def dkwX6_boxes_6 : List UInt8 := [29, 46, 4, 42, 180, 0, 56, 29, 21, 4, 2, 130, 126, 46, 96, 184, 1, 47, 79, 21, 4, 4, 100, 29]
abbrev dktX6_boxes_6 : List UInt8 := dkwX6_boxes_6 ++ dktX6_boxes_7
def dkwX6_boxes_5 : List UInt8 := [21, 4, 158, 0, 52, 42, 21, 4, 182, 1, 192, 27, 163, 0, 31, 42, 180, 0, 56, 29, 42, 180, 0, 56]
abbrev dktX6_boxes_5 : List UInt8 := dkwX6_boxes_5 ++ dktX6_boxes_6
def dkwX6_boxes_4 : List UInt8 := [154, 0, 7, 3, 167, 0, 5, 16, 99, 79, 29, 28, 2, 130, 126, 153, 0, 6, 167, 0, 60, 29, 54, 4]
abbrev dktX6_boxes_4 : List UInt8 := dkwX6_boxes_4 ++ dktX6_boxes_5
def dkwX6_boxes_3 : List UInt8 := [182, 1, 52, 172, 132, 3, 1, 167, 255, 215, 3, 62, 29, 28, 163, 0, 93, 42, 180, 0, 56, 29, 29]
abbrev dktX6_boxes_3 : List UInt8 := dkwX6_boxes_3 ++ dktX6_boxes_4
def dkwX6_boxes_2 : List UInt8 := [29, 184, 0, 116, 153, 0, 23, 42, 180, 0, 35, 16, 8, 29, 96, 46, 27, 164, 0, 10, 42, 16, 9]
abbrev dktX6_boxes_2 : List UInt8 := dkwX6_boxes_2 ++ dktX6_boxes_3
def dkwX6_boxes_1 : List UInt8 := [182, 1, 52, 172, 42, 180, 0, 35, 6, 46, 61, 3, 62, 29, 42, 180, 0, 35, 3, 46, 162, 0, 37, 28]
abbrev dktX6_boxes_1 : List UInt8 := dkwX6_boxes_1 ++ dktX6_boxes_2
def dkwX6_boxes_0 : List UInt8 := [42, 3, 181, 0, 77, 42, 3, 181, 0, 80, 27, 133, 10, 20, 1, 190, 184, 0, 112, 154, 0, 9, 42, 8]
abbrev dktX6_boxes_0 : List UInt8 := dkwX6_boxes_0 ++ dktX6_boxes_1
theorem dksX6_boxes_0 : cX6_boxes.data.toList.drop 0 = dktX6_boxes_0 := by decide +kernel
theorem dksX6_boxes_1 : cX6_boxes.data.toList.drop 24 = dktX6_boxes_1 := dk_seg dksX6_boxes_0 24 rfl rfl
theorem dksX6_boxes_2 : cX6_boxes.data.toList.drop 48 = dktX6_boxes_2 := dk_seg dksX6_boxes_1 24 rfl rfl
theorem dksX6_boxes_3 : cX6_boxes.data.toList.drop 71 = dktX6_boxes_3 := dk_seg dksX6_boxes_2 23 rfl rfl
theorem dksX6_boxes_4 : cX6_boxes.data.toList.drop 94 = dktX6_boxes_4 := dk_seg dksX6_boxes_3 23 rfl rfl
theorem dksX6_boxes_5 : cX6_boxes.data.toList.drop 118 = dktX6_boxes_5 := dk_seg dksX6_boxes_4 24 rfl rfl
theorem dksX6_boxes_6 : cX6_boxes.data.toList.drop 142 = dktX6_boxes_6 := dk_seg dksX6_boxes_5 24 rfl rfl
theorem dksX6_boxes_7 : cX6_boxes.data.toList.drop 166 = dktX6_boxes_7 := dk_seg dksX6_boxes_6 24 rfl rfl
theorem dX6_boxes_0 : decode cX6_boxes 0 = .ok (.aload_n 0, 1) := dk_42 (dk_at dksX6_boxes_0 0 rfl rfl)
theorem dX6_boxes_1 : decode cX6_boxes 1 = .ok (.iconst 0, 1) := dk_3 (dk_at dksX6_boxes_0 1 rfl rfl)
theorem dX6_boxes_2 : decode cX6_boxes 2 = .ok (.putfield 77, 3) := dk_181 0 77 (dk_at dksX6_boxes_0 2 rfl rfl)
theorem dX6_boxes_5 : decode cX6_boxes 5 = .ok (.aload_n 0, 1) := dk_42 (dk_at dksX6_boxes_0 5 rfl rfl)
theorem dX6_boxes_6 : decode cX6_boxes 6 = .ok (.iconst 0, 1) := dk_3 (dk_at dksX6_boxes_0 6 rfl rfl)
theorem dX6_boxes_7 : decode cX6_boxes 7 = .ok (.putfield 80, 3) := dk_181 0 80 (dk_at dksX6_boxes_0 7 rfl rfl)
theorem dX6_boxes_10 : decode cX6_boxes 10 = .ok (.iload_n 1, 1) := dk_27 (dk_at dksX6_boxes_0 10 rfl rfl)
theorem dX6_boxes_11 : decode cX6_boxes 11 = .ok (.i2l, 1) := dk_133 (dk_at dksX6_boxes_0 11 rfl rfl)
theorem dX6_boxes_12 : decode cX6_boxes 12 = .ok (.lconst 1, 1) := dk_10 (dk_at dksX6_boxes_0 12 rfl rfl)
theorem dX6_boxes_13 : decode cX6_boxes 13 = .ok (.ldc2_w 446, 3) := dk_20 1 190 (dk_at dksX6_boxes_0 13 rfl rfl)
theorem dX6_boxes_16 : decode cX6_boxes 16 = .ok (.invokestatic 112, 3) := dk_184 0 112 (dk_at dksX6_boxes_0 16 rfl rfl)
theorem dX6_boxes_19 : decode cX6_boxes 19 = .ok (.ifCond .ne 9, 3) := dk_154 0 9 (dk_at dksX6_boxes_0 19 rfl rfl)
theorem dX6_boxes_22 : decode cX6_boxes 22 = .ok (.aload_n 0, 1) := dk_42 (dk_at dksX6_boxes_0 22 rfl rfl)
theorem dX6_boxes_23 : decode cX6_boxes 23 = .ok (.iconst 5, 1) := dk_8 (dk_at dksX6_boxes_0 23 rfl rfl)
theorem dX6_boxes_24 : decode cX6_boxes 24 = .ok (.invokevirtual 308, 3) := dk_182 1 52 (dk_at dksX6_boxes_1 0 rfl rfl)
theorem dX6_boxes_27 : decode cX6_boxes 27 = .ok (.ireturn, 1) := dk_172 (dk_at dksX6_boxes_1 3 rfl rfl)
theorem dX6_boxes_28 : decode cX6_boxes 28 = .ok (.aload_n 0, 1) := dk_42 (dk_at dksX6_boxes_1 4 rfl rfl)
theorem dX6_boxes_29 : decode cX6_boxes 29 = .ok (.getfield 35, 3) := dk_180 0 35 (dk_at dksX6_boxes_1 5 rfl rfl)
theorem dX6_boxes_32 : decode cX6_boxes 32 = .ok (.iconst 3, 1) := dk_6 (dk_at dksX6_boxes_1 8 rfl rfl)
theorem dX6_boxes_33 : decode cX6_boxes 33 = .ok (.iaload, 1) := dk_46 (dk_at dksX6_boxes_1 9 rfl rfl)
theorem dX6_boxes_34 : decode cX6_boxes 34 = .ok (.istore_n 2, 1) := dk_61 (dk_at dksX6_boxes_1 10 rfl rfl)
theorem dX6_boxes_35 : decode cX6_boxes 35 = .ok (.iconst 0, 1) := dk_3 (dk_at dksX6_boxes_1 11 rfl rfl)
theorem dX6_boxes_36 : decode cX6_boxes 36 = .ok (.istore_n 3, 1) := dk_62 (dk_at dksX6_boxes_1 12 rfl rfl)
theorem dX6_boxes_37 : decode cX6_boxes 37 = .ok (.iload_n 3, 1) := dk_29 (dk_at dksX6_boxes_1 13 rfl rfl)
theorem dX6_boxes_38 : decode cX6_boxes 38 = .ok (.aload_n 0, 1) := dk_42 (dk_at dksX6_boxes_1 14 rfl rfl)
theorem dX6_boxes_39 : decode cX6_boxes 39 = .ok (.getfield 35, 3) := dk_180 0 35 (dk_at dksX6_boxes_1 15 rfl rfl)
theorem dX6_boxes_42 : decode cX6_boxes 42 = .ok (.iconst 0, 1) := dk_3 (dk_at dksX6_boxes_1 18 rfl rfl)
theorem dX6_boxes_43 : decode cX6_boxes 43 = .ok (.iaload, 1) := dk_46 (dk_at dksX6_boxes_1 19 rfl rfl)
theorem dX6_boxes_44 : decode cX6_boxes 44 = .ok (.if_icmp .ge 37, 3) := dk_162 0 37 (dk_at dksX6_boxes_1 20 rfl rfl)
theorem dX6_boxes_47 : decode cX6_boxes 47 = .ok (.iload_n 2, 1) := dk_28 (dk_at dksX6_boxes_1 23 rfl rfl)
theorem dX6_boxes_48 : decode cX6_boxes 48 = .ok (.iload_n 3, 1) := dk_29 (dk_at dksX6_boxes_2 0 rfl rfl)
theorem dX6_boxes_49 : decode cX6_boxes 49 = .ok (.invokestatic 116, 3) := dk_184 0 116 (dk_at dksX6_boxes_2 1 rfl rfl)
theorem dX6_boxes_52 : decode cX6_boxes 52 = .ok (.ifCond .eq 23, 3) := dk_153 0 23 (dk_at dksX6_boxes_2 4 rfl rfl)
theorem dX6_boxes_55 : decode cX6_boxes 55 = .ok (.aload_n 0, 1) := dk_42 (dk_at dksX6_boxes_2 7 rfl rfl)
theorem dX6_boxes_56 : decode cX6_boxes 56 = .ok (.getfield 35, 3) := dk_180 0 35 (dk_at dksX6_boxes_2 8 rfl rfl)
theorem dX6_boxes_59 : decode cX6_boxes 59 = .ok (.bipush 8, 2) := dk_16 8 (dk_at dksX6_boxes_2 11 rfl rfl)
theorem dX6_boxes_61 : decode cX6_boxes 61 = .ok (.iload_n 3, 1) := dk_29 (dk_at dksX6_boxes_2 13 rfl rfl)
theorem dX6_boxes_62 : decode cX6_boxes 62 = .ok (.iadd, 1) := dk_96 (dk_at dksX6_boxes_2 14 rfl rfl)
theorem dX6_boxes_63 : decode cX6_boxes 63 = .ok (.iaload, 1) := dk_46 (dk_at dksX6_boxes_2 15 rfl rfl)
theorem dX6_boxes_64 : decode cX6_boxes 64 = .ok (.iload_n 1, 1) := dk_27 (dk_at dksX6_boxes_2 16 rfl rfl)
theorem dX6_boxes_65 : decode cX6_boxes 65 = .ok (.if_icmp .le 10, 3) := dk_164 0 10 (dk_at dksX6_boxes_2 17 rfl rfl)
theorem dX6_boxes_68 : decode cX6_boxes 68 = .ok (.aload_n 0, 1) := dk_42 (dk_at dksX6_boxes_2 20 rfl rfl)
theorem dX6_boxes_69 : decode cX6_boxes 69 = .ok (.bipush 9, 2) := dk_16 9 (dk_at dksX6_boxes_2 21 rfl rfl)
theorem dX6_boxes_71 : decode cX6_boxes 71 = .ok (.invokevirtual 308, 3) := dk_182 1 52 (dk_at dksX6_boxes_3 0 rfl rfl)
theorem dX6_boxes_74 : decode cX6_boxes 74 = .ok (.ireturn, 1) := dk_172 (dk_at dksX6_boxes_3 3 rfl rfl)
theorem dX6_boxes_75 : decode cX6_boxes 75 = .ok (.iinc 3 1, 3) := dk_132 3 1 (dk_at dksX6_boxes_3 4 rfl rfl)
theorem dX6_boxes_78 : decode cX6_boxes 78 = .ok (.goto (-41), 3) := dk_167 255 215 (dk_at dksX6_boxes_3 7 rfl rfl)
theorem dX6_boxes_81 : decode cX6_boxes 81 = .ok (.iconst 0, 1) := dk_3 (dk_at dksX6_boxes_3 10 rfl rfl)
theorem dX6_boxes_82 : decode cX6_boxes 82 = .ok (.istore_n 3, 1) := dk_62 (dk_at dksX6_boxes_3 11 rfl rfl)
theorem dX6_boxes_83 : decode cX6_boxes 83 = .ok (.iload_n 3, 1) := dk_29 (dk_at dksX6_boxes_3 12 rfl rfl)
theorem dX6_boxes_84 : decode cX6_boxes 84 = .ok (.iload_n 2, 1) := dk_28 (dk_at dksX6_boxes_3 13 rfl rfl)
theorem dX6_boxes_85 : decode cX6_boxes 85 = .ok (.if_icmp .gt 93, 3) := dk_163 0 93 (dk_at dksX6_boxes_3 14 rfl rfl)
theorem dX6_boxes_88 : decode cX6_boxes 88 = .ok (.aload_n 0, 1) := dk_42 (dk_at dksX6_boxes_3 17 rfl rfl)
theorem dX6_boxes_89 : decode cX6_boxes 89 = .ok (.getfield 56, 3) := dk_180 0 56 (dk_at dksX6_boxes_3 18 rfl rfl)
theorem dX6_boxes_92 : decode cX6_boxes 92 = .ok (.iload_n 3, 1) := dk_29 (dk_at dksX6_boxes_3 21 rfl rfl)
theorem dX6_boxes_93 : decode cX6_boxes 93 = .ok (.iload_n 3, 1) := dk_29 (dk_at dksX6_boxes_3 22 rfl rfl)
theorem dX6_boxes_94 : decode cX6_boxes 94 = .ok (.ifCond .ne 7, 3) := dk_154 0 7 (dk_at dksX6_boxes_4 0 rfl rfl)
theorem dX6_boxes_97 : decode cX6_boxes 97 = .ok (.iconst 0, 1) := dk_3 (dk_at dksX6_boxes_4 3 rfl rfl)
theorem dX6_boxes_98 : decode cX6_boxes 98 = .ok (.goto 5, 3) := dk_167 0 5 (dk_at dksX6_boxes_4 4 rfl rfl)
theorem dX6_boxes_101 : decode cX6_boxes 101 = .ok (.bipush 99, 2) := dk_16 99 (dk_at dksX6_boxes_4 7 rfl rfl)
theorem dX6_boxes_103 : decode cX6_boxes 103 = .ok (.iastore, 1) := dk_79 (dk_at dksX6_boxes_4 9 rfl rfl)
theorem dX6_boxes_104 : decode cX6_boxes 104 = .ok (.iload_n 3, 1) := dk_29 (dk_at dksX6_boxes_4 10 rfl rfl)
theorem dX6_boxes_105 : decode cX6_boxes 105 = .ok (.iload_n 2, 1) := dk_28 (dk_at dksX6_boxes_4 11 rfl rfl)
theorem dX6_boxes_106 : decode cX6_boxes 106 = .ok (.iconst (-1), 1) := dk_2 (dk_at dksX6_boxes_4 12 rfl rfl)
theorem dX6_boxes_107 : decode cX6_boxes 107 = .ok (.ixor, 1) := dk_130 (dk_at dksX6_boxes_4 13 rfl rfl)
theorem dX6_boxes_108 : decode cX6_boxes 108 = .ok (.iand, 1) := dk_126 (dk_at dksX6_boxes_4 14 rfl rfl)
theorem dX6_boxes_109 : decode cX6_boxes 109 = .ok (.ifCond .eq 6, 3) := dk_153 0 6 (dk_at dksX6_boxes_4 15 rfl rfl)
theorem dX6_boxes_112 : decode cX6_boxes 112 = .ok (.goto 60, 3) := dk_167 0 60 (dk_at dksX6_boxes_4 18 rfl rfl)
theorem dX6_boxes_115 : decode cX6_boxes 115 = .ok (.iload_n 3, 1) := dk_29 (dk_at dksX6_boxes_4 21 rfl rfl)
theorem dX6_boxes_116 : decode cX6_boxes 116 = .ok (.istore 4, 2) := dk_54 4 (dk_at dksX6_boxes_4 22 rfl rfl)
theorem dX6_boxes_118 : decode cX6_boxes 118 = .ok (.iload 4, 2) := dk_21 4 (dk_at dksX6_boxes_5 0 rfl rfl)
theorem dX6_boxes_120 : decode cX6_boxes 120 = .ok (.ifCond .le 52, 3) := dk_158 0 52 (dk_at dksX6_boxes_5 2 rfl rfl)
theorem dX6_boxes_123 : decode cX6_boxes 123 = .ok (.aload_n 0, 1) := dk_42 (dk_at dksX6_boxes_5 5 rfl rfl)
theorem dX6_boxes_124 : decode cX6_boxes 124 = .ok (.iload 4, 2) := dk_21 4 (dk_at dksX6_boxes_5 6 rfl rfl)
theorem dX6_boxes_126 : decode cX6_boxes 126 = .ok (.invokevirtual 448, 3) := dk_182 1 192 (dk_at dksX6_boxes_5 8 rfl rfl)
theorem dX6_boxes_129 : decode cX6_boxes 129 = .ok (.iload_n 1, 1) := dk_27 (dk_at dksX6_boxes_5 11 rfl rfl)
theorem dX6_boxes_130 : decode cX6_boxes 130 = .ok (.if_icmp .gt 31, 3) := dk_163 0 31 (dk_at dksX6_boxes_5 12 rfl rfl)
theorem dX6_boxes_133 : decode cX6_boxes 133 = .ok (.aload_n 0, 1) := dk_42 (dk_at dksX6_boxes_5 15 rfl rfl)
theorem dX6_boxes_134 : decode cX6_boxes 134 = .ok (.getfield 56, 3) := dk_180 0 56 (dk_at dksX6_boxes_5 16 rfl rfl)
theorem dX6_boxes_137 : decode cX6_boxes 137 = .ok (.iload_n 3, 1) := dk_29 (dk_at dksX6_boxes_5 19 rfl rfl)
theorem dX6_boxes_138 : decode cX6_boxes 138 = .ok (.aload_n 0, 1) := dk_42 (dk_at dksX6_boxes_5 20 rfl rfl)
theorem dX6_boxes_139 : decode cX6_boxes 139 = .ok (.getfield 56, 3) := dk_180 0 56 (dk_at dksX6_boxes_5 21 rfl rfl)
theorem dX6_boxes_142 : decode cX6_boxes 142 = .ok (.iload_n 3, 1) := dk_29 (dk_at dksX6_boxes_6 0 rfl rfl)
theorem dX6_boxes_143 : decode cX6_boxes 143 = .ok (.iaload, 1) := dk_46 (dk_at dksX6_boxes_6 1 rfl rfl)
theorem dX6_boxes_144 : decode cX6_boxes 144 = .ok (.iconst 1, 1) := dk_4 (dk_at dksX6_boxes_6 2 rfl rfl)
theorem dX6_boxes_145 : decode cX6_boxes 145 = .ok (.aload_n 0, 1) := dk_42 (dk_at dksX6_boxes_6 3 rfl rfl)
theorem dX6_boxes_146 : decode cX6_boxes 146 = .ok (.getfield 56, 3) := dk_180 0 56 (dk_at dksX6_boxes_6 4 rfl rfl)
theorem dX6_boxes_149 : decode cX6_boxes 149 = .ok (.iload_n 3, 1) := dk_29 (dk_at dksX6_boxes_6 7 rfl rfl)
theorem dX6_boxes_150 : decode cX6_boxes 150 = .ok (.iload 4, 2) := dk_21 4 (dk_at dksX6_boxes_6 8 rfl rfl)
theorem dX6_boxes_152 : decode cX6_boxes 152 = .ok (.iconst (-1), 1) := dk_2 (dk_at dksX6_boxes_6 10 rfl rfl)
theorem dX6_boxes_153 : decode cX6_boxes 153 = .ok (.ixor, 1) := dk_130 (dk_at dksX6_boxes_6 11 rfl rfl)
theorem dX6_boxes_154 : decode cX6_boxes 154 = .ok (.iand, 1) := dk_126 (dk_at dksX6_boxes_6 12 rfl rfl)
theorem dX6_boxes_155 : decode cX6_boxes 155 = .ok (.iaload, 1) := dk_46 (dk_at dksX6_boxes_6 13 rfl rfl)
theorem dX6_boxes_156 : decode cX6_boxes 156 = .ok (.iadd, 1) := dk_96 (dk_at dksX6_boxes_6 14 rfl rfl)
theorem dX6_boxes_157 : decode cX6_boxes 157 = .ok (.invokestatic 303, 3) := dk_184 1 47 (dk_at dksX6_boxes_6 15 rfl rfl)
theorem dX6_boxes_160 : decode cX6_boxes 160 = .ok (.iastore, 1) := dk_79 (dk_at dksX6_boxes_6 18 rfl rfl)
theorem dX6_boxes_161 : decode cX6_boxes 161 = .ok (.iload 4, 2) := dk_21 4 (dk_at dksX6_boxes_6 19 rfl rfl)
theorem dX6_boxes_163 : decode cX6_boxes 163 = .ok (.iconst 1, 1) := dk_4 (dk_at dksX6_boxes_6 21 rfl rfl)
theorem dX6_boxes_164 : decode cX6_boxes 164 = .ok (.isub, 1) := dk_100 (dk_at dksX6_boxes_6 22 rfl rfl)
theorem dX6_boxes_165 : decode cX6_boxes 165 = .ok (.iload_n 3, 1) := dk_29 (dk_at dksX6_boxes_6 23 rfl rfl)
theorem dX6_boxes_166 : decode cX6_boxes 166 = .ok (.iand, 1) := dk_126 (dk_at dksX6_boxes_7 0 rfl rfl)
theorem dX6_boxes_167 : decode cX6_boxes 167 = .ok (.istore 4, 2) := dk_54 4 (dk_at dksX6_boxes_7 1 rfl rfl)
theorem dX6_boxes_169 : decode cX6_boxes 169 = .ok (.goto (-51), 3) := dk_167 255 205 (dk_at dksX6_boxes_7 3 rfl rfl)
theorem dX6_boxes_172 : decode cX6_boxes 172 = .ok (.iinc 3 1, 3) := dk_132 3 1 (dk_at dksX6_boxes_7 6 rfl rfl)
theorem dX6_boxes_175 : decode cX6_boxes 175 = .ok (.goto (-92), 3) := dk_167 255 164 (dk_at dksX6_boxes_7 9 rfl rfl)
theorem dX6_boxes_178 : decode cX6_boxes 178 = .ok (.aload_n 0, 1) := dk_42 (dk_at dksX6_boxes_7 12 rfl rfl)
theorem dX6_boxes_179 : decode cX6_boxes 179 = .ok (.getfield 56, 3) := dk_180 0 56 (dk_at dksX6_boxes_7 13 rfl rfl)
theorem dX6_boxes_182 : decode cX6_boxes 182 = .ok (.iload_n 2, 1) := dk_28 (dk_at dksX6_boxes_7 16 rfl rfl)
theorem dX6_boxes_183 : decode cX6_boxes 183 = .ok (.iaload, 1) := dk_46 (dk_at dksX6_boxes_7 17 rfl rfl)
theorem dX6_boxes_184 : decode cX6_boxes 184 = .ok (.ireturn, 1) := dk_172 (dk_at dksX6_boxes_7 18 rfl rfl)
abbrev cX6_longOf : ByteArray := prog_16_method_134_code
def yX6_longOf : MethodName := ⟨RX6, "longOf", "(I)I"⟩
def dkwX6_longOf_1 : List UInt8 := [180, 0, 35, 16, 8, 29, 96, 46, 167, 0, 4, 3, 96, 61, 132, 3, 1, 167, 255, 219, 28, 172]
abbrev dktX6_longOf_1 : List UInt8 := dkwX6_longOf_1 ++ []
def dkwX6_longOf_0 : List UInt8 := [3, 61, 3, 62, 29, 42, 180, 0, 35, 3, 46, 162, 0, 33, 28, 27, 29, 184, 0, 116, 153, 0, 15, 42]
abbrev dktX6_longOf_0 : List UInt8 := dkwX6_longOf_0 ++ dktX6_longOf_1
theorem dksX6_longOf_0 : cX6_longOf.data.toList.drop 0 = dktX6_longOf_0 := by decide +kernel
theorem dksX6_longOf_1 : cX6_longOf.data.toList.drop 24 = dktX6_longOf_1 := dk_seg dksX6_longOf_0 24 rfl rfl
theorem dX6_longOf_0 : decode cX6_longOf 0 = .ok (.iconst 0, 1) := dk_3 (dk_at dksX6_longOf_0 0 rfl rfl)
theorem dX6_longOf_1 : decode cX6_longOf 1 = .ok (.istore_n 2, 1) := dk_61 (dk_at dksX6_longOf_0 1 rfl rfl)
theorem dX6_longOf_2 : decode cX6_longOf 2 = .ok (.iconst 0, 1) := dk_3 (dk_at dksX6_longOf_0 2 rfl rfl)
theorem dX6_longOf_3 : decode cX6_longOf 3 = .ok (.istore_n 3, 1) := dk_62 (dk_at dksX6_longOf_0 3 rfl rfl)
theorem dX6_longOf_4 : decode cX6_longOf 4 = .ok (.iload_n 3, 1) := dk_29 (dk_at dksX6_longOf_0 4 rfl rfl)
theorem dX6_longOf_5 : decode cX6_longOf 5 = .ok (.aload_n 0, 1) := dk_42 (dk_at dksX6_longOf_0 5 rfl rfl)
theorem dX6_longOf_6 : decode cX6_longOf 6 = .ok (.getfield 35, 3) := dk_180 0 35 (dk_at dksX6_longOf_0 6 rfl rfl)
theorem dX6_longOf_9 : decode cX6_longOf 9 = .ok (.iconst 0, 1) := dk_3 (dk_at dksX6_longOf_0 9 rfl rfl)
theorem dX6_longOf_10 : decode cX6_longOf 10 = .ok (.iaload, 1) := dk_46 (dk_at dksX6_longOf_0 10 rfl rfl)
theorem dX6_longOf_11 : decode cX6_longOf 11 = .ok (.if_icmp .ge 33, 3) := dk_162 0 33 (dk_at dksX6_longOf_0 11 rfl rfl)
theorem dX6_longOf_14 : decode cX6_longOf 14 = .ok (.iload_n 2, 1) := dk_28 (dk_at dksX6_longOf_0 14 rfl rfl)
theorem dX6_longOf_15 : decode cX6_longOf 15 = .ok (.iload_n 1, 1) := dk_27 (dk_at dksX6_longOf_0 15 rfl rfl)
theorem dX6_longOf_16 : decode cX6_longOf 16 = .ok (.iload_n 3, 1) := dk_29 (dk_at dksX6_longOf_0 16 rfl rfl)
theorem dX6_longOf_17 : decode cX6_longOf 17 = .ok (.invokestatic 116, 3) := dk_184 0 116 (dk_at dksX6_longOf_0 17 rfl rfl)
theorem dX6_longOf_20 : decode cX6_longOf 20 = .ok (.ifCond .eq 15, 3) := dk_153 0 15 (dk_at dksX6_longOf_0 20 rfl rfl)
theorem dX6_longOf_23 : decode cX6_longOf 23 = .ok (.aload_n 0, 1) := dk_42 (dk_at dksX6_longOf_0 23 rfl rfl)
theorem dX6_longOf_24 : decode cX6_longOf 24 = .ok (.getfield 35, 3) := dk_180 0 35 (dk_at dksX6_longOf_1 0 rfl rfl)
theorem dX6_longOf_27 : decode cX6_longOf 27 = .ok (.bipush 8, 2) := dk_16 8 (dk_at dksX6_longOf_1 3 rfl rfl)
theorem dX6_longOf_29 : decode cX6_longOf 29 = .ok (.iload_n 3, 1) := dk_29 (dk_at dksX6_longOf_1 5 rfl rfl)
theorem dX6_longOf_30 : decode cX6_longOf 30 = .ok (.iadd, 1) := dk_96 (dk_at dksX6_longOf_1 6 rfl rfl)
theorem dX6_longOf_31 : decode cX6_longOf 31 = .ok (.iaload, 1) := dk_46 (dk_at dksX6_longOf_1 7 rfl rfl)
theorem dX6_longOf_32 : decode cX6_longOf 32 = .ok (.goto 4, 3) := dk_167 0 4 (dk_at dksX6_longOf_1 8 rfl rfl)
theorem dX6_longOf_35 : decode cX6_longOf 35 = .ok (.iconst 0, 1) := dk_3 (dk_at dksX6_longOf_1 11 rfl rfl)
theorem dX6_longOf_36 : decode cX6_longOf 36 = .ok (.iadd, 1) := dk_96 (dk_at dksX6_longOf_1 12 rfl rfl)
theorem dX6_longOf_37 : decode cX6_longOf 37 = .ok (.istore_n 2, 1) := dk_61 (dk_at dksX6_longOf_1 13 rfl rfl)
theorem dX6_longOf_38 : decode cX6_longOf 38 = .ok (.iinc 3 1, 3) := dk_132 3 1 (dk_at dksX6_longOf_1 14 rfl rfl)
theorem dX6_longOf_41 : decode cX6_longOf 41 = .ok (.goto (-37), 3) := dk_167 255 219 (dk_at dksX6_longOf_1 17 rfl rfl)
theorem dX6_longOf_44 : decode cX6_longOf 44 = .ok (.iload_n 2, 1) := dk_28 (dk_at dksX6_longOf_1 20 rfl rfl)
theorem dX6_longOf_45 : decode cX6_longOf 45 = .ok (.ireturn, 1) := dk_172 (dk_at dksX6_longOf_1 21 rfl rfl)
abbrev cX6_waste : ByteArray := prog_16_method_136_code
def yX6_waste : MethodName := ⟨RX6, "waste", "(I)I"⟩
def dkwX6_waste_4 : List UInt8 := [167, 255, 193, 28, 172]
abbrev dktX6_waste_4 : List UInt8 := dkwX6_waste_4 ++ []
def dkwX6_waste_3 : List UInt8 := [27, 104, 42, 29, 182, 1, 58, 104, 162, 0, 9, 4, 29, 120, 167, 0, 4, 3, 128, 61, 132, 3, 1]
abbrev dktX6_waste_3 : List UInt8 := dkwX6_waste_3 ++ dktX6_waste_4
def dkwX6_waste_2 : List UInt8 := [153, 0, 41, 42, 180, 0, 35, 16, 40, 29, 96, 46, 42, 180, 0, 35, 16, 48, 29, 96, 46, 104, 16, 16]
abbrev dktX6_waste_2 : List UInt8 := dkwX6_waste_2 ++ dktX6_waste_3
def dkwX6_waste_1 : List UInt8 := [182, 1, 52, 172, 3, 61, 3, 62, 29, 42, 180, 0, 35, 3, 46, 162, 0, 59, 28, 42, 29, 182, 1, 81]
abbrev dktX6_waste_1 : List UInt8 := dkwX6_waste_1 ++ dktX6_waste_2
def dkwX6_waste_0 : List UInt8 := [42, 3, 181, 0, 77, 42, 3, 181, 0, 80, 27, 133, 9, 20, 1, 174, 184, 0, 112, 154, 0, 9, 42, 8]
abbrev dktX6_waste_0 : List UInt8 := dkwX6_waste_0 ++ dktX6_waste_1
theorem dksX6_waste_0 : cX6_waste.data.toList.drop 0 = dktX6_waste_0 := by decide +kernel
theorem dksX6_waste_1 : cX6_waste.data.toList.drop 24 = dktX6_waste_1 := dk_seg dksX6_waste_0 24 rfl rfl
theorem dksX6_waste_2 : cX6_waste.data.toList.drop 48 = dktX6_waste_2 := dk_seg dksX6_waste_1 24 rfl rfl
theorem dksX6_waste_3 : cX6_waste.data.toList.drop 72 = dktX6_waste_3 := dk_seg dksX6_waste_2 24 rfl rfl
theorem dksX6_waste_4 : cX6_waste.data.toList.drop 95 = dktX6_waste_4 := dk_seg dksX6_waste_3 23 rfl rfl
theorem dX6_waste_0 : decode cX6_waste 0 = .ok (.aload_n 0, 1) := dk_42 (dk_at dksX6_waste_0 0 rfl rfl)
theorem dX6_waste_1 : decode cX6_waste 1 = .ok (.iconst 0, 1) := dk_3 (dk_at dksX6_waste_0 1 rfl rfl)
theorem dX6_waste_2 : decode cX6_waste 2 = .ok (.putfield 77, 3) := dk_181 0 77 (dk_at dksX6_waste_0 2 rfl rfl)
theorem dX6_waste_5 : decode cX6_waste 5 = .ok (.aload_n 0, 1) := dk_42 (dk_at dksX6_waste_0 5 rfl rfl)
theorem dX6_waste_6 : decode cX6_waste 6 = .ok (.iconst 0, 1) := dk_3 (dk_at dksX6_waste_0 6 rfl rfl)
theorem dX6_waste_7 : decode cX6_waste 7 = .ok (.putfield 80, 3) := dk_181 0 80 (dk_at dksX6_waste_0 7 rfl rfl)
theorem dX6_waste_10 : decode cX6_waste 10 = .ok (.iload_n 1, 1) := dk_27 (dk_at dksX6_waste_0 10 rfl rfl)
theorem dX6_waste_11 : decode cX6_waste 11 = .ok (.i2l, 1) := dk_133 (dk_at dksX6_waste_0 11 rfl rfl)
theorem dX6_waste_12 : decode cX6_waste 12 = .ok (.lconst 0, 1) := dk_9 (dk_at dksX6_waste_0 12 rfl rfl)
theorem dX6_waste_13 : decode cX6_waste 13 = .ok (.ldc2_w 430, 3) := dk_20 1 174 (dk_at dksX6_waste_0 13 rfl rfl)
theorem dX6_waste_16 : decode cX6_waste 16 = .ok (.invokestatic 112, 3) := dk_184 0 112 (dk_at dksX6_waste_0 16 rfl rfl)
theorem dX6_waste_19 : decode cX6_waste 19 = .ok (.ifCond .ne 9, 3) := dk_154 0 9 (dk_at dksX6_waste_0 19 rfl rfl)
theorem dX6_waste_22 : decode cX6_waste 22 = .ok (.aload_n 0, 1) := dk_42 (dk_at dksX6_waste_0 22 rfl rfl)
theorem dX6_waste_23 : decode cX6_waste 23 = .ok (.iconst 5, 1) := dk_8 (dk_at dksX6_waste_0 23 rfl rfl)
theorem dX6_waste_24 : decode cX6_waste 24 = .ok (.invokevirtual 308, 3) := dk_182 1 52 (dk_at dksX6_waste_1 0 rfl rfl)
theorem dX6_waste_27 : decode cX6_waste 27 = .ok (.ireturn, 1) := dk_172 (dk_at dksX6_waste_1 3 rfl rfl)
theorem dX6_waste_28 : decode cX6_waste 28 = .ok (.iconst 0, 1) := dk_3 (dk_at dksX6_waste_1 4 rfl rfl)
theorem dX6_waste_29 : decode cX6_waste 29 = .ok (.istore_n 2, 1) := dk_61 (dk_at dksX6_waste_1 5 rfl rfl)
theorem dX6_waste_30 : decode cX6_waste 30 = .ok (.iconst 0, 1) := dk_3 (dk_at dksX6_waste_1 6 rfl rfl)
theorem dX6_waste_31 : decode cX6_waste 31 = .ok (.istore_n 3, 1) := dk_62 (dk_at dksX6_waste_1 7 rfl rfl)
theorem dX6_waste_32 : decode cX6_waste 32 = .ok (.iload_n 3, 1) := dk_29 (dk_at dksX6_waste_1 8 rfl rfl)
theorem dX6_waste_33 : decode cX6_waste 33 = .ok (.aload_n 0, 1) := dk_42 (dk_at dksX6_waste_1 9 rfl rfl)
theorem dX6_waste_34 : decode cX6_waste 34 = .ok (.getfield 35, 3) := dk_180 0 35 (dk_at dksX6_waste_1 10 rfl rfl)
theorem dX6_waste_37 : decode cX6_waste 37 = .ok (.iconst 0, 1) := dk_3 (dk_at dksX6_waste_1 13 rfl rfl)
theorem dX6_waste_38 : decode cX6_waste 38 = .ok (.iaload, 1) := dk_46 (dk_at dksX6_waste_1 14 rfl rfl)
theorem dX6_waste_39 : decode cX6_waste 39 = .ok (.if_icmp .ge 59, 3) := dk_162 0 59 (dk_at dksX6_waste_1 15 rfl rfl)
theorem dX6_waste_42 : decode cX6_waste 42 = .ok (.iload_n 2, 1) := dk_28 (dk_at dksX6_waste_1 18 rfl rfl)
theorem dX6_waste_43 : decode cX6_waste 43 = .ok (.aload_n 0, 1) := dk_42 (dk_at dksX6_waste_1 19 rfl rfl)
theorem dX6_waste_44 : decode cX6_waste 44 = .ok (.iload_n 3, 1) := dk_29 (dk_at dksX6_waste_1 20 rfl rfl)
theorem dX6_waste_45 : decode cX6_waste 45 = .ok (.invokevirtual 337, 3) := dk_182 1 81 (dk_at dksX6_waste_1 21 rfl rfl)
theorem dX6_waste_48 : decode cX6_waste 48 = .ok (.ifCond .eq 41, 3) := dk_153 0 41 (dk_at dksX6_waste_2 0 rfl rfl)
theorem dX6_waste_51 : decode cX6_waste 51 = .ok (.aload_n 0, 1) := dk_42 (dk_at dksX6_waste_2 3 rfl rfl)
theorem dX6_waste_52 : decode cX6_waste 52 = .ok (.getfield 35, 3) := dk_180 0 35 (dk_at dksX6_waste_2 4 rfl rfl)
theorem dX6_waste_55 : decode cX6_waste 55 = .ok (.bipush 40, 2) := dk_16 40 (dk_at dksX6_waste_2 7 rfl rfl)
theorem dX6_waste_57 : decode cX6_waste 57 = .ok (.iload_n 3, 1) := dk_29 (dk_at dksX6_waste_2 9 rfl rfl)
theorem dX6_waste_58 : decode cX6_waste 58 = .ok (.iadd, 1) := dk_96 (dk_at dksX6_waste_2 10 rfl rfl)
theorem dX6_waste_59 : decode cX6_waste 59 = .ok (.iaload, 1) := dk_46 (dk_at dksX6_waste_2 11 rfl rfl)
theorem dX6_waste_60 : decode cX6_waste 60 = .ok (.aload_n 0, 1) := dk_42 (dk_at dksX6_waste_2 12 rfl rfl)
theorem dX6_waste_61 : decode cX6_waste 61 = .ok (.getfield 35, 3) := dk_180 0 35 (dk_at dksX6_waste_2 13 rfl rfl)
theorem dX6_waste_64 : decode cX6_waste 64 = .ok (.bipush 48, 2) := dk_16 48 (dk_at dksX6_waste_2 16 rfl rfl)
theorem dX6_waste_66 : decode cX6_waste 66 = .ok (.iload_n 3, 1) := dk_29 (dk_at dksX6_waste_2 18 rfl rfl)
theorem dX6_waste_67 : decode cX6_waste 67 = .ok (.iadd, 1) := dk_96 (dk_at dksX6_waste_2 19 rfl rfl)
theorem dX6_waste_68 : decode cX6_waste 68 = .ok (.iaload, 1) := dk_46 (dk_at dksX6_waste_2 20 rfl rfl)
theorem dX6_waste_69 : decode cX6_waste 69 = .ok (.imul, 1) := dk_104 (dk_at dksX6_waste_2 21 rfl rfl)
theorem dX6_waste_70 : decode cX6_waste 70 = .ok (.bipush 16, 2) := dk_16 16 (dk_at dksX6_waste_2 22 rfl rfl)
theorem dX6_waste_72 : decode cX6_waste 72 = .ok (.iload_n 1, 1) := dk_27 (dk_at dksX6_waste_3 0 rfl rfl)
theorem dX6_waste_73 : decode cX6_waste 73 = .ok (.imul, 1) := dk_104 (dk_at dksX6_waste_3 1 rfl rfl)
theorem dX6_waste_74 : decode cX6_waste 74 = .ok (.aload_n 0, 1) := dk_42 (dk_at dksX6_waste_3 2 rfl rfl)
theorem dX6_waste_75 : decode cX6_waste 75 = .ok (.iload_n 3, 1) := dk_29 (dk_at dksX6_waste_3 3 rfl rfl)
theorem dX6_waste_76 : decode cX6_waste 76 = .ok (.invokevirtual 314, 3) := dk_182 1 58 (dk_at dksX6_waste_3 4 rfl rfl)
theorem dX6_waste_79 : decode cX6_waste 79 = .ok (.imul, 1) := dk_104 (dk_at dksX6_waste_3 7 rfl rfl)
theorem dX6_waste_80 : decode cX6_waste 80 = .ok (.if_icmp .ge 9, 3) := dk_162 0 9 (dk_at dksX6_waste_3 8 rfl rfl)
theorem dX6_waste_83 : decode cX6_waste 83 = .ok (.iconst 1, 1) := dk_4 (dk_at dksX6_waste_3 11 rfl rfl)
theorem dX6_waste_84 : decode cX6_waste 84 = .ok (.iload_n 3, 1) := dk_29 (dk_at dksX6_waste_3 12 rfl rfl)
theorem dX6_waste_85 : decode cX6_waste 85 = .ok (.ishl, 1) := dk_120 (dk_at dksX6_waste_3 13 rfl rfl)
theorem dX6_waste_86 : decode cX6_waste 86 = .ok (.goto 4, 3) := dk_167 0 4 (dk_at dksX6_waste_3 14 rfl rfl)
theorem dX6_waste_89 : decode cX6_waste 89 = .ok (.iconst 0, 1) := dk_3 (dk_at dksX6_waste_3 17 rfl rfl)
theorem dX6_waste_90 : decode cX6_waste 90 = .ok (.ior, 1) := dk_128 (dk_at dksX6_waste_3 18 rfl rfl)
theorem dX6_waste_91 : decode cX6_waste 91 = .ok (.istore_n 2, 1) := dk_61 (dk_at dksX6_waste_3 19 rfl rfl)
theorem dX6_waste_92 : decode cX6_waste 92 = .ok (.iinc 3 1, 3) := dk_132 3 1 (dk_at dksX6_waste_3 20 rfl rfl)
theorem dX6_waste_95 : decode cX6_waste 95 = .ok (.goto (-63), 3) := dk_167 255 193 (dk_at dksX6_waste_4 0 rfl rfl)
theorem dX6_waste_98 : decode cX6_waste 98 = .ok (.iload_n 2, 1) := dk_28 (dk_at dksX6_waste_4 3 rfl rfl)
theorem dX6_waste_99 : decode cX6_waste 99 = .ok (.ireturn, 1) := dk_172 (dk_at dksX6_waste_4 4 rfl rfl)
abbrev cX6_live : ByteArray := prog_16_method_143_code
def yX6_live : MethodName := ⟨RX6, "live", "(I)I"⟩
def dkwX6_live_4 : List UInt8 := [42, 180, 1, 213, 79, 42, 4, 181, 1, 234, 42, 180, 1, 207, 172]
abbrev dktX6_live_4 : List UInt8 := dkwX6_live_4 ++ []
def dkwX6_live_3 : List UInt8 := [180, 0, 71, 5, 42, 180, 1, 198, 79, 42, 180, 0, 71, 6, 42, 180, 1, 195, 79, 42, 180, 0, 71, 7]
abbrev dktX6_live_3 : List UInt8 := dkwX6_live_3 ++ dktX6_live_4
def dkwX6_live_2 : List UInt8 := [182, 1, 231, 42, 180, 0, 71, 3, 42, 180, 1, 216, 79, 42, 180, 0, 71, 4, 42, 180, 1, 201, 79, 42]
abbrev dktX6_live_2 : List UInt8 := dkwX6_live_2 ++ dktX6_live_3
def dkwX6_live_1 : List UInt8 := [182, 1, 52, 172, 42, 180, 0, 35, 17, 0, 132, 46, 154, 0, 10, 42, 16, 8, 182, 1, 52, 172, 42, 27]
abbrev dktX6_live_1 : List UInt8 := dkwX6_live_1 ++ dktX6_live_2
def dkwX6_live_0 : List UInt8 := [42, 3, 181, 0, 77, 42, 3, 181, 0, 80, 27, 133, 9, 20, 1, 122, 184, 0, 112, 154, 0, 9, 42, 8]
abbrev dktX6_live_0 : List UInt8 := dkwX6_live_0 ++ dktX6_live_1
theorem dksX6_live_0 : cX6_live.data.toList.drop 0 = dktX6_live_0 := by decide +kernel
theorem dksX6_live_1 : cX6_live.data.toList.drop 24 = dktX6_live_1 := dk_seg dksX6_live_0 24 rfl rfl
theorem dksX6_live_2 : cX6_live.data.toList.drop 48 = dktX6_live_2 := dk_seg dksX6_live_1 24 rfl rfl
theorem dksX6_live_3 : cX6_live.data.toList.drop 72 = dktX6_live_3 := dk_seg dksX6_live_2 24 rfl rfl
theorem dksX6_live_4 : cX6_live.data.toList.drop 96 = dktX6_live_4 := dk_seg dksX6_live_3 24 rfl rfl
theorem dX6_live_0 : decode cX6_live 0 = .ok (.aload_n 0, 1) := dk_42 (dk_at dksX6_live_0 0 rfl rfl)
theorem dX6_live_1 : decode cX6_live 1 = .ok (.iconst 0, 1) := dk_3 (dk_at dksX6_live_0 1 rfl rfl)
theorem dX6_live_2 : decode cX6_live 2 = .ok (.putfield 77, 3) := dk_181 0 77 (dk_at dksX6_live_0 2 rfl rfl)
theorem dX6_live_5 : decode cX6_live 5 = .ok (.aload_n 0, 1) := dk_42 (dk_at dksX6_live_0 5 rfl rfl)
theorem dX6_live_6 : decode cX6_live 6 = .ok (.iconst 0, 1) := dk_3 (dk_at dksX6_live_0 6 rfl rfl)
theorem dX6_live_7 : decode cX6_live 7 = .ok (.putfield 80, 3) := dk_181 0 80 (dk_at dksX6_live_0 7 rfl rfl)
theorem dX6_live_10 : decode cX6_live 10 = .ok (.iload_n 1, 1) := dk_27 (dk_at dksX6_live_0 10 rfl rfl)
theorem dX6_live_11 : decode cX6_live 11 = .ok (.i2l, 1) := dk_133 (dk_at dksX6_live_0 11 rfl rfl)
theorem dX6_live_12 : decode cX6_live 12 = .ok (.lconst 0, 1) := dk_9 (dk_at dksX6_live_0 12 rfl rfl)
theorem dX6_live_13 : decode cX6_live 13 = .ok (.ldc2_w 378, 3) := dk_20 1 122 (dk_at dksX6_live_0 13 rfl rfl)
theorem dX6_live_16 : decode cX6_live 16 = .ok (.invokestatic 112, 3) := dk_184 0 112 (dk_at dksX6_live_0 16 rfl rfl)
theorem dX6_live_19 : decode cX6_live 19 = .ok (.ifCond .ne 9, 3) := dk_154 0 9 (dk_at dksX6_live_0 19 rfl rfl)
theorem dX6_live_22 : decode cX6_live 22 = .ok (.aload_n 0, 1) := dk_42 (dk_at dksX6_live_0 22 rfl rfl)
theorem dX6_live_23 : decode cX6_live 23 = .ok (.iconst 5, 1) := dk_8 (dk_at dksX6_live_0 23 rfl rfl)
theorem dX6_live_24 : decode cX6_live 24 = .ok (.invokevirtual 308, 3) := dk_182 1 52 (dk_at dksX6_live_1 0 rfl rfl)
theorem dX6_live_27 : decode cX6_live 27 = .ok (.ireturn, 1) := dk_172 (dk_at dksX6_live_1 3 rfl rfl)
theorem dX6_live_28 : decode cX6_live 28 = .ok (.aload_n 0, 1) := dk_42 (dk_at dksX6_live_1 4 rfl rfl)
theorem dX6_live_29 : decode cX6_live 29 = .ok (.getfield 35, 3) := dk_180 0 35 (dk_at dksX6_live_1 5 rfl rfl)
theorem dX6_live_32 : decode cX6_live 32 = .ok (.sipush 132, 3) := dk_17 0 132 (dk_at dksX6_live_1 8 rfl rfl)
theorem dX6_live_35 : decode cX6_live 35 = .ok (.iaload, 1) := dk_46 (dk_at dksX6_live_1 11 rfl rfl)
theorem dX6_live_36 : decode cX6_live 36 = .ok (.ifCond .ne 10, 3) := dk_154 0 10 (dk_at dksX6_live_1 12 rfl rfl)
theorem dX6_live_39 : decode cX6_live 39 = .ok (.aload_n 0, 1) := dk_42 (dk_at dksX6_live_1 15 rfl rfl)
theorem dX6_live_40 : decode cX6_live 40 = .ok (.bipush 8, 2) := dk_16 8 (dk_at dksX6_live_1 16 rfl rfl)
theorem dX6_live_42 : decode cX6_live 42 = .ok (.invokevirtual 308, 3) := dk_182 1 52 (dk_at dksX6_live_1 18 rfl rfl)
theorem dX6_live_45 : decode cX6_live 45 = .ok (.ireturn, 1) := dk_172 (dk_at dksX6_live_1 21 rfl rfl)
theorem dX6_live_46 : decode cX6_live 46 = .ok (.aload_n 0, 1) := dk_42 (dk_at dksX6_live_1 22 rfl rfl)
theorem dX6_live_47 : decode cX6_live 47 = .ok (.iload_n 1, 1) := dk_27 (dk_at dksX6_live_1 23 rfl rfl)
theorem dX6_live_48 : decode cX6_live 48 = .ok (.invokevirtual 487, 3) := dk_182 1 231 (dk_at dksX6_live_2 0 rfl rfl)
theorem dX6_live_51 : decode cX6_live 51 = .ok (.aload_n 0, 1) := dk_42 (dk_at dksX6_live_2 3 rfl rfl)
theorem dX6_live_52 : decode cX6_live 52 = .ok (.getfield 71, 3) := dk_180 0 71 (dk_at dksX6_live_2 4 rfl rfl)
theorem dX6_live_55 : decode cX6_live 55 = .ok (.iconst 0, 1) := dk_3 (dk_at dksX6_live_2 7 rfl rfl)
theorem dX6_live_56 : decode cX6_live 56 = .ok (.aload_n 0, 1) := dk_42 (dk_at dksX6_live_2 8 rfl rfl)
theorem dX6_live_57 : decode cX6_live 57 = .ok (.getfield 472, 3) := dk_180 1 216 (dk_at dksX6_live_2 9 rfl rfl)
theorem dX6_live_60 : decode cX6_live 60 = .ok (.iastore, 1) := dk_79 (dk_at dksX6_live_2 12 rfl rfl)
theorem dX6_live_61 : decode cX6_live 61 = .ok (.aload_n 0, 1) := dk_42 (dk_at dksX6_live_2 13 rfl rfl)
theorem dX6_live_62 : decode cX6_live 62 = .ok (.getfield 71, 3) := dk_180 0 71 (dk_at dksX6_live_2 14 rfl rfl)
theorem dX6_live_65 : decode cX6_live 65 = .ok (.iconst 1, 1) := dk_4 (dk_at dksX6_live_2 17 rfl rfl)
theorem dX6_live_66 : decode cX6_live 66 = .ok (.aload_n 0, 1) := dk_42 (dk_at dksX6_live_2 18 rfl rfl)
theorem dX6_live_67 : decode cX6_live 67 = .ok (.getfield 457, 3) := dk_180 1 201 (dk_at dksX6_live_2 19 rfl rfl)
theorem dX6_live_70 : decode cX6_live 70 = .ok (.iastore, 1) := dk_79 (dk_at dksX6_live_2 22 rfl rfl)
theorem dX6_live_71 : decode cX6_live 71 = .ok (.aload_n 0, 1) := dk_42 (dk_at dksX6_live_2 23 rfl rfl)
theorem dX6_live_72 : decode cX6_live 72 = .ok (.getfield 71, 3) := dk_180 0 71 (dk_at dksX6_live_3 0 rfl rfl)
theorem dX6_live_75 : decode cX6_live 75 = .ok (.iconst 2, 1) := dk_5 (dk_at dksX6_live_3 3 rfl rfl)
theorem dX6_live_76 : decode cX6_live 76 = .ok (.aload_n 0, 1) := dk_42 (dk_at dksX6_live_3 4 rfl rfl)
theorem dX6_live_77 : decode cX6_live 77 = .ok (.getfield 454, 3) := dk_180 1 198 (dk_at dksX6_live_3 5 rfl rfl)
theorem dX6_live_80 : decode cX6_live 80 = .ok (.iastore, 1) := dk_79 (dk_at dksX6_live_3 8 rfl rfl)
theorem dX6_live_81 : decode cX6_live 81 = .ok (.aload_n 0, 1) := dk_42 (dk_at dksX6_live_3 9 rfl rfl)
theorem dX6_live_82 : decode cX6_live 82 = .ok (.getfield 71, 3) := dk_180 0 71 (dk_at dksX6_live_3 10 rfl rfl)
theorem dX6_live_85 : decode cX6_live 85 = .ok (.iconst 3, 1) := dk_6 (dk_at dksX6_live_3 13 rfl rfl)
theorem dX6_live_86 : decode cX6_live 86 = .ok (.aload_n 0, 1) := dk_42 (dk_at dksX6_live_3 14 rfl rfl)
theorem dX6_live_87 : decode cX6_live 87 = .ok (.getfield 451, 3) := dk_180 1 195 (dk_at dksX6_live_3 15 rfl rfl)
theorem dX6_live_90 : decode cX6_live 90 = .ok (.iastore, 1) := dk_79 (dk_at dksX6_live_3 18 rfl rfl)
theorem dX6_live_91 : decode cX6_live 91 = .ok (.aload_n 0, 1) := dk_42 (dk_at dksX6_live_3 19 rfl rfl)
theorem dX6_live_92 : decode cX6_live 92 = .ok (.getfield 71, 3) := dk_180 0 71 (dk_at dksX6_live_3 20 rfl rfl)
theorem dX6_live_95 : decode cX6_live 95 = .ok (.iconst 4, 1) := dk_7 (dk_at dksX6_live_3 23 rfl rfl)
theorem dX6_live_96 : decode cX6_live 96 = .ok (.aload_n 0, 1) := dk_42 (dk_at dksX6_live_4 0 rfl rfl)
theorem dX6_live_97 : decode cX6_live 97 = .ok (.getfield 469, 3) := dk_180 1 213 (dk_at dksX6_live_4 1 rfl rfl)
theorem dX6_live_100 : decode cX6_live 100 = .ok (.iastore, 1) := dk_79 (dk_at dksX6_live_4 4 rfl rfl)
theorem dX6_live_101 : decode cX6_live 101 = .ok (.aload_n 0, 1) := dk_42 (dk_at dksX6_live_4 5 rfl rfl)
theorem dX6_live_102 : decode cX6_live 102 = .ok (.iconst 1, 1) := dk_4 (dk_at dksX6_live_4 6 rfl rfl)
theorem dX6_live_103 : decode cX6_live 103 = .ok (.putfield 490, 3) := dk_181 1 234 (dk_at dksX6_live_4 7 rfl rfl)
theorem dX6_live_106 : decode cX6_live 106 = .ok (.aload_n 0, 1) := dk_42 (dk_at dksX6_live_4 10 rfl rfl)
theorem dX6_live_107 : decode cX6_live 107 = .ok (.getfield 463, 3) := dk_180 1 207 (dk_at dksX6_live_4 11 rfl rfl)
theorem dX6_live_110 : decode cX6_live 110 = .ok (.ireturn, 1) := dk_172 (dk_at dksX6_live_4 14 rfl rfl)
abbrev cX6_runs : ByteArray := prog_16_method_142_code
def yX6_runs : MethodName := ⟨RX6, "runs", "(I)V"⟩
def dkwX6_runs_2 : List UInt8 := [17, 0, 133, 46, 182, 1, 225, 177]
abbrev dktX6_runs_2 : List UInt8 := dkwX6_runs_2 ++ []
def dkwX6_runs_1 : List UInt8 := [181, 1, 198, 42, 3, 181, 1, 195, 42, 3, 181, 1, 213, 42, 3, 181, 1, 210, 42, 3, 42, 180, 0, 35]
abbrev dktX6_runs_1 : List UInt8 := dkwX6_runs_1 ++ dktX6_runs_2
def dkwX6_runs_0 : List UInt8 := [42, 27, 181, 1, 115, 42, 3, 181, 1, 207, 42, 3, 181, 1, 216, 42, 3, 181, 1, 201, 42, 3]
abbrev dktX6_runs_0 : List UInt8 := dkwX6_runs_0 ++ dktX6_runs_1
theorem dksX6_runs_0 : cX6_runs.data.toList.drop 0 = dktX6_runs_0 := by decide +kernel
theorem dksX6_runs_1 : cX6_runs.data.toList.drop 22 = dktX6_runs_1 := dk_seg dksX6_runs_0 22 rfl rfl
theorem dksX6_runs_2 : cX6_runs.data.toList.drop 46 = dktX6_runs_2 := dk_seg dksX6_runs_1 24 rfl rfl
theorem dX6_runs_0 : decode cX6_runs 0 = .ok (.aload_n 0, 1) := dk_42 (dk_at dksX6_runs_0 0 rfl rfl)
theorem dX6_runs_1 : decode cX6_runs 1 = .ok (.iload_n 1, 1) := dk_27 (dk_at dksX6_runs_0 1 rfl rfl)
theorem dX6_runs_2 : decode cX6_runs 2 = .ok (.putfield 371, 3) := dk_181 1 115 (dk_at dksX6_runs_0 2 rfl rfl)
theorem dX6_runs_5 : decode cX6_runs 5 = .ok (.aload_n 0, 1) := dk_42 (dk_at dksX6_runs_0 5 rfl rfl)
theorem dX6_runs_6 : decode cX6_runs 6 = .ok (.iconst 0, 1) := dk_3 (dk_at dksX6_runs_0 6 rfl rfl)
theorem dX6_runs_7 : decode cX6_runs 7 = .ok (.putfield 463, 3) := dk_181 1 207 (dk_at dksX6_runs_0 7 rfl rfl)
theorem dX6_runs_10 : decode cX6_runs 10 = .ok (.aload_n 0, 1) := dk_42 (dk_at dksX6_runs_0 10 rfl rfl)
theorem dX6_runs_11 : decode cX6_runs 11 = .ok (.iconst 0, 1) := dk_3 (dk_at dksX6_runs_0 11 rfl rfl)
theorem dX6_runs_12 : decode cX6_runs 12 = .ok (.putfield 472, 3) := dk_181 1 216 (dk_at dksX6_runs_0 12 rfl rfl)
theorem dX6_runs_15 : decode cX6_runs 15 = .ok (.aload_n 0, 1) := dk_42 (dk_at dksX6_runs_0 15 rfl rfl)
theorem dX6_runs_16 : decode cX6_runs 16 = .ok (.iconst 0, 1) := dk_3 (dk_at dksX6_runs_0 16 rfl rfl)
theorem dX6_runs_17 : decode cX6_runs 17 = .ok (.putfield 457, 3) := dk_181 1 201 (dk_at dksX6_runs_0 17 rfl rfl)
theorem dX6_runs_20 : decode cX6_runs 20 = .ok (.aload_n 0, 1) := dk_42 (dk_at dksX6_runs_0 20 rfl rfl)
theorem dX6_runs_21 : decode cX6_runs 21 = .ok (.iconst 0, 1) := dk_3 (dk_at dksX6_runs_0 21 rfl rfl)
theorem dX6_runs_22 : decode cX6_runs 22 = .ok (.putfield 454, 3) := dk_181 1 198 (dk_at dksX6_runs_1 0 rfl rfl)
theorem dX6_runs_25 : decode cX6_runs 25 = .ok (.aload_n 0, 1) := dk_42 (dk_at dksX6_runs_1 3 rfl rfl)
theorem dX6_runs_26 : decode cX6_runs 26 = .ok (.iconst 0, 1) := dk_3 (dk_at dksX6_runs_1 4 rfl rfl)
theorem dX6_runs_27 : decode cX6_runs 27 = .ok (.putfield 451, 3) := dk_181 1 195 (dk_at dksX6_runs_1 5 rfl rfl)
theorem dX6_runs_30 : decode cX6_runs 30 = .ok (.aload_n 0, 1) := dk_42 (dk_at dksX6_runs_1 8 rfl rfl)
theorem dX6_runs_31 : decode cX6_runs 31 = .ok (.iconst 0, 1) := dk_3 (dk_at dksX6_runs_1 9 rfl rfl)
theorem dX6_runs_32 : decode cX6_runs 32 = .ok (.putfield 469, 3) := dk_181 1 213 (dk_at dksX6_runs_1 10 rfl rfl)
theorem dX6_runs_35 : decode cX6_runs 35 = .ok (.aload_n 0, 1) := dk_42 (dk_at dksX6_runs_1 13 rfl rfl)
theorem dX6_runs_36 : decode cX6_runs 36 = .ok (.iconst 0, 1) := dk_3 (dk_at dksX6_runs_1 14 rfl rfl)
theorem dX6_runs_37 : decode cX6_runs 37 = .ok (.putfield 466, 3) := dk_181 1 210 (dk_at dksX6_runs_1 15 rfl rfl)
theorem dX6_runs_40 : decode cX6_runs 40 = .ok (.aload_n 0, 1) := dk_42 (dk_at dksX6_runs_1 18 rfl rfl)
theorem dX6_runs_41 : decode cX6_runs 41 = .ok (.iconst 0, 1) := dk_3 (dk_at dksX6_runs_1 19 rfl rfl)
theorem dX6_runs_42 : decode cX6_runs 42 = .ok (.aload_n 0, 1) := dk_42 (dk_at dksX6_runs_1 20 rfl rfl)
theorem dX6_runs_43 : decode cX6_runs 43 = .ok (.getfield 35, 3) := dk_180 0 35 (dk_at dksX6_runs_1 21 rfl rfl)
theorem dX6_runs_46 : decode cX6_runs 46 = .ok (.sipush 133, 3) := dk_17 0 133 (dk_at dksX6_runs_2 0 rfl rfl)
theorem dX6_runs_49 : decode cX6_runs 49 = .ok (.iaload, 1) := dk_46 (dk_at dksX6_runs_2 3 rfl rfl)
theorem dX6_runs_50 : decode cX6_runs 50 = .ok (.invokevirtual 481, 3) := dk_182 1 225 (dk_at dksX6_runs_2 4 rfl rfl)
theorem dX6_runs_53 : decode cX6_runs 53 = .ok (.return_, 1) := dk_177 (dk_at dksX6_runs_2 7 rfl rfl)
abbrev cX6_doAll : ByteArray := prog_16_method_141_code
def yX6_doAll : MethodName := ⟨RX6, "doAll", "(II)V"⟩
def dkwX6_doAll_1 : List UInt8 := [17, 0, 134, 16, 9, 29, 104, 96, 16, 8, 96, 46, 62, 167, 255, 222, 177]
abbrev dktX6_doAll_1 : List UInt8 := dkwX6_doAll_1 ++ []
def dkwX6_doAll_0 : List UInt8 := [27, 62, 29, 28, 162, 0, 35, 42, 180, 1, 210, 154, 0, 28, 42, 29, 182, 1, 228, 42, 180, 0, 35]
abbrev dktX6_doAll_0 : List UInt8 := dkwX6_doAll_0 ++ dktX6_doAll_1
theorem dksX6_doAll_0 : cX6_doAll.data.toList.drop 0 = dktX6_doAll_0 := by decide +kernel
theorem dksX6_doAll_1 : cX6_doAll.data.toList.drop 23 = dktX6_doAll_1 := dk_seg dksX6_doAll_0 23 rfl rfl
theorem dX6_doAll_0 : decode cX6_doAll 0 = .ok (.iload_n 1, 1) := dk_27 (dk_at dksX6_doAll_0 0 rfl rfl)
theorem dX6_doAll_1 : decode cX6_doAll 1 = .ok (.istore_n 3, 1) := dk_62 (dk_at dksX6_doAll_0 1 rfl rfl)
theorem dX6_doAll_2 : decode cX6_doAll 2 = .ok (.iload_n 3, 1) := dk_29 (dk_at dksX6_doAll_0 2 rfl rfl)
theorem dX6_doAll_3 : decode cX6_doAll 3 = .ok (.iload_n 2, 1) := dk_28 (dk_at dksX6_doAll_0 3 rfl rfl)
theorem dX6_doAll_4 : decode cX6_doAll 4 = .ok (.if_icmp .ge 35, 3) := dk_162 0 35 (dk_at dksX6_doAll_0 4 rfl rfl)
theorem dX6_doAll_7 : decode cX6_doAll 7 = .ok (.aload_n 0, 1) := dk_42 (dk_at dksX6_doAll_0 7 rfl rfl)
theorem dX6_doAll_8 : decode cX6_doAll 8 = .ok (.getfield 466, 3) := dk_180 1 210 (dk_at dksX6_doAll_0 8 rfl rfl)
theorem dX6_doAll_11 : decode cX6_doAll 11 = .ok (.ifCond .ne 28, 3) := dk_154 0 28 (dk_at dksX6_doAll_0 11 rfl rfl)
theorem dX6_doAll_14 : decode cX6_doAll 14 = .ok (.aload_n 0, 1) := dk_42 (dk_at dksX6_doAll_0 14 rfl rfl)
theorem dX6_doAll_15 : decode cX6_doAll 15 = .ok (.iload_n 3, 1) := dk_29 (dk_at dksX6_doAll_0 15 rfl rfl)
theorem dX6_doAll_16 : decode cX6_doAll 16 = .ok (.invokevirtual 484, 3) := dk_182 1 228 (dk_at dksX6_doAll_0 16 rfl rfl)
theorem dX6_doAll_19 : decode cX6_doAll 19 = .ok (.aload_n 0, 1) := dk_42 (dk_at dksX6_doAll_0 19 rfl rfl)
theorem dX6_doAll_20 : decode cX6_doAll 20 = .ok (.getfield 35, 3) := dk_180 0 35 (dk_at dksX6_doAll_0 20 rfl rfl)
theorem dX6_doAll_23 : decode cX6_doAll 23 = .ok (.sipush 134, 3) := dk_17 0 134 (dk_at dksX6_doAll_1 0 rfl rfl)
theorem dX6_doAll_26 : decode cX6_doAll 26 = .ok (.bipush 9, 2) := dk_16 9 (dk_at dksX6_doAll_1 3 rfl rfl)
theorem dX6_doAll_28 : decode cX6_doAll 28 = .ok (.iload_n 3, 1) := dk_29 (dk_at dksX6_doAll_1 5 rfl rfl)
theorem dX6_doAll_29 : decode cX6_doAll 29 = .ok (.imul, 1) := dk_104 (dk_at dksX6_doAll_1 6 rfl rfl)
theorem dX6_doAll_30 : decode cX6_doAll 30 = .ok (.iadd, 1) := dk_96 (dk_at dksX6_doAll_1 7 rfl rfl)
theorem dX6_doAll_31 : decode cX6_doAll 31 = .ok (.bipush 8, 2) := dk_16 8 (dk_at dksX6_doAll_1 8 rfl rfl)
theorem dX6_doAll_33 : decode cX6_doAll 33 = .ok (.iadd, 1) := dk_96 (dk_at dksX6_doAll_1 10 rfl rfl)
theorem dX6_doAll_34 : decode cX6_doAll 34 = .ok (.iaload, 1) := dk_46 (dk_at dksX6_doAll_1 11 rfl rfl)
theorem dX6_doAll_35 : decode cX6_doAll 35 = .ok (.istore_n 3, 1) := dk_62 (dk_at dksX6_doAll_1 12 rfl rfl)
theorem dX6_doAll_36 : decode cX6_doAll 36 = .ok (.goto (-34), 3) := dk_167 255 222 (dk_at dksX6_doAll_1 13 rfl rfl)
theorem dX6_doAll_39 : decode cX6_doAll 39 = .ok (.return_, 1) := dk_177 (dk_at dksX6_doAll_1 16 rfl rfl)
abbrev cX6_doOne : ByteArray := prog_16_method_140_code
def yX6_doOne : MethodName := ⟨RX6, "doOne", "(I)V"⟩
def dkwX6_doOne_7 : List UInt8 := [16, 7, 164, 0, 8, 42, 4, 181, 1, 210, 177]
abbrev dktX6_doOne_7 : List UInt8 := dkwX6_doOne_7 ++ []
def dkwX6_doOne_6 : List UInt8 := [4, 96, 42, 180, 0, 35, 28, 16, 8, 96, 46, 182, 1, 225, 132, 4, 1, 167, 255, 217, 167, 0, 14, 29]
abbrev dktX6_doOne_6 : List UInt8 := dkwX6_doOne_6 ++ dktX6_doOne_7
def dkwX6_doOne_5 : List UInt8 := [54, 4, 21, 4, 42, 180, 0, 35, 28, 4, 96, 46, 162, 0, 32, 42, 180, 1, 210, 154, 0, 25, 42, 27]
abbrev dktX6_doOne_5 : List UInt8 := dkwX6_doOne_5 ++ dktX6_doOne_6
def dkwX6_doOne_4 : List UInt8 := [96, 42, 180, 0, 35, 28, 16, 8, 96, 46, 182, 1, 225, 167, 0, 68, 29, 16, 7, 160, 0, 51, 3]
abbrev dktX6_doOne_4 : List UInt8 := dkwX6_doOne_4 ++ dktX6_doOne_5
def dkwX6_doOne_3 : List UInt8 := [96, 181, 1, 216, 167, 0, 101, 29, 16, 6, 160, 0, 30, 42, 28, 182, 1, 222, 153, 0, 22, 42, 27, 4]
abbrev dktX6_doOne_3 : List UInt8 := dkwX6_doOne_3 ++ dktX6_doOne_4
def dkwX6_doOne_2 : List UInt8 := [29, 16, 6, 162, 0, 28, 42, 89, 180, 1, 216, 42, 28, 182, 1, 219, 153, 0, 7, 3, 167, 0, 4, 4]
abbrev dktX6_doOne_2 : List UInt8 := dkwX6_doOne_2 ++ dktX6_doOne_3
def dkwX6_doOne_1 : List UInt8 := [180, 1, 207, 4, 96, 181, 1, 207, 17, 0, 134, 16, 9, 27, 104, 96, 61, 42, 180, 0, 35, 28, 46, 62]
abbrev dktX6_doOne_1 : List UInt8 := dkwX6_doOne_1 ++ dktX6_doOne_2
def dkwX6_doOne_0 : List UInt8 := [42, 180, 1, 207, 17, 1, 44, 160, 0, 14, 42, 4, 181, 1, 210, 42, 4, 181, 1, 213, 177, 42, 89]
abbrev dktX6_doOne_0 : List UInt8 := dkwX6_doOne_0 ++ dktX6_doOne_1
theorem dksX6_doOne_0 : cX6_doOne.data.toList.drop 0 = dktX6_doOne_0 := by decide +kernel
theorem dksX6_doOne_1 : cX6_doOne.data.toList.drop 23 = dktX6_doOne_1 := dk_seg dksX6_doOne_0 23 rfl rfl
theorem dksX6_doOne_2 : cX6_doOne.data.toList.drop 47 = dktX6_doOne_2 := dk_seg dksX6_doOne_1 24 rfl rfl
theorem dksX6_doOne_3 : cX6_doOne.data.toList.drop 71 = dktX6_doOne_3 := dk_seg dksX6_doOne_2 24 rfl rfl
theorem dksX6_doOne_4 : cX6_doOne.data.toList.drop 95 = dktX6_doOne_4 := dk_seg dksX6_doOne_3 24 rfl rfl
theorem dksX6_doOne_5 : cX6_doOne.data.toList.drop 118 = dktX6_doOne_5 := dk_seg dksX6_doOne_4 23 rfl rfl
theorem dksX6_doOne_6 : cX6_doOne.data.toList.drop 142 = dktX6_doOne_6 := dk_seg dksX6_doOne_5 24 rfl rfl
theorem dksX6_doOne_7 : cX6_doOne.data.toList.drop 166 = dktX6_doOne_7 := dk_seg dksX6_doOne_6 24 rfl rfl
theorem dX6_doOne_0 : decode cX6_doOne 0 = .ok (.aload_n 0, 1) := dk_42 (dk_at dksX6_doOne_0 0 rfl rfl)
theorem dX6_doOne_1 : decode cX6_doOne 1 = .ok (.getfield 463, 3) := dk_180 1 207 (dk_at dksX6_doOne_0 1 rfl rfl)
theorem dX6_doOne_4 : decode cX6_doOne 4 = .ok (.sipush 300, 3) := dk_17 1 44 (dk_at dksX6_doOne_0 4 rfl rfl)
theorem dX6_doOne_7 : decode cX6_doOne 7 = .ok (.if_icmp .ne 14, 3) := dk_160 0 14 (dk_at dksX6_doOne_0 7 rfl rfl)
theorem dX6_doOne_10 : decode cX6_doOne 10 = .ok (.aload_n 0, 1) := dk_42 (dk_at dksX6_doOne_0 10 rfl rfl)
theorem dX6_doOne_11 : decode cX6_doOne 11 = .ok (.iconst 1, 1) := dk_4 (dk_at dksX6_doOne_0 11 rfl rfl)
theorem dX6_doOne_12 : decode cX6_doOne 12 = .ok (.putfield 466, 3) := dk_181 1 210 (dk_at dksX6_doOne_0 12 rfl rfl)
theorem dX6_doOne_15 : decode cX6_doOne 15 = .ok (.aload_n 0, 1) := dk_42 (dk_at dksX6_doOne_0 15 rfl rfl)
theorem dX6_doOne_16 : decode cX6_doOne 16 = .ok (.iconst 1, 1) := dk_4 (dk_at dksX6_doOne_0 16 rfl rfl)
theorem dX6_doOne_17 : decode cX6_doOne 17 = .ok (.putfield 469, 3) := dk_181 1 213 (dk_at dksX6_doOne_0 17 rfl rfl)
theorem dX6_doOne_20 : decode cX6_doOne 20 = .ok (.return_, 1) := dk_177 (dk_at dksX6_doOne_0 20 rfl rfl)
theorem dX6_doOne_21 : decode cX6_doOne 21 = .ok (.aload_n 0, 1) := dk_42 (dk_at dksX6_doOne_0 21 rfl rfl)
theorem dX6_doOne_22 : decode cX6_doOne 22 = .ok (.dup, 1) := dk_89 (dk_at dksX6_doOne_0 22 rfl rfl)
theorem dX6_doOne_23 : decode cX6_doOne 23 = .ok (.getfield 463, 3) := dk_180 1 207 (dk_at dksX6_doOne_1 0 rfl rfl)
theorem dX6_doOne_26 : decode cX6_doOne 26 = .ok (.iconst 1, 1) := dk_4 (dk_at dksX6_doOne_1 3 rfl rfl)
theorem dX6_doOne_27 : decode cX6_doOne 27 = .ok (.iadd, 1) := dk_96 (dk_at dksX6_doOne_1 4 rfl rfl)
theorem dX6_doOne_28 : decode cX6_doOne 28 = .ok (.putfield 463, 3) := dk_181 1 207 (dk_at dksX6_doOne_1 5 rfl rfl)
theorem dX6_doOne_31 : decode cX6_doOne 31 = .ok (.sipush 134, 3) := dk_17 0 134 (dk_at dksX6_doOne_1 8 rfl rfl)
theorem dX6_doOne_34 : decode cX6_doOne 34 = .ok (.bipush 9, 2) := dk_16 9 (dk_at dksX6_doOne_1 11 rfl rfl)
theorem dX6_doOne_36 : decode cX6_doOne 36 = .ok (.iload_n 1, 1) := dk_27 (dk_at dksX6_doOne_1 13 rfl rfl)
theorem dX6_doOne_37 : decode cX6_doOne 37 = .ok (.imul, 1) := dk_104 (dk_at dksX6_doOne_1 14 rfl rfl)
theorem dX6_doOne_38 : decode cX6_doOne 38 = .ok (.iadd, 1) := dk_96 (dk_at dksX6_doOne_1 15 rfl rfl)
theorem dX6_doOne_39 : decode cX6_doOne 39 = .ok (.istore_n 2, 1) := dk_61 (dk_at dksX6_doOne_1 16 rfl rfl)
theorem dX6_doOne_40 : decode cX6_doOne 40 = .ok (.aload_n 0, 1) := dk_42 (dk_at dksX6_doOne_1 17 rfl rfl)
theorem dX6_doOne_41 : decode cX6_doOne 41 = .ok (.getfield 35, 3) := dk_180 0 35 (dk_at dksX6_doOne_1 18 rfl rfl)
theorem dX6_doOne_44 : decode cX6_doOne 44 = .ok (.iload_n 2, 1) := dk_28 (dk_at dksX6_doOne_1 21 rfl rfl)
theorem dX6_doOne_45 : decode cX6_doOne 45 = .ok (.iaload, 1) := dk_46 (dk_at dksX6_doOne_1 22 rfl rfl)
theorem dX6_doOne_46 : decode cX6_doOne 46 = .ok (.istore_n 3, 1) := dk_62 (dk_at dksX6_doOne_1 23 rfl rfl)
theorem dX6_doOne_47 : decode cX6_doOne 47 = .ok (.iload_n 3, 1) := dk_29 (dk_at dksX6_doOne_2 0 rfl rfl)
theorem dX6_doOne_48 : decode cX6_doOne 48 = .ok (.bipush 6, 2) := dk_16 6 (dk_at dksX6_doOne_2 1 rfl rfl)
theorem dX6_doOne_50 : decode cX6_doOne 50 = .ok (.if_icmp .ge 28, 3) := dk_162 0 28 (dk_at dksX6_doOne_2 3 rfl rfl)
theorem dX6_doOne_53 : decode cX6_doOne 53 = .ok (.aload_n 0, 1) := dk_42 (dk_at dksX6_doOne_2 6 rfl rfl)
theorem dX6_doOne_54 : decode cX6_doOne 54 = .ok (.dup, 1) := dk_89 (dk_at dksX6_doOne_2 7 rfl rfl)
theorem dX6_doOne_55 : decode cX6_doOne 55 = .ok (.getfield 472, 3) := dk_180 1 216 (dk_at dksX6_doOne_2 8 rfl rfl)
theorem dX6_doOne_58 : decode cX6_doOne 58 = .ok (.aload_n 0, 1) := dk_42 (dk_at dksX6_doOne_2 11 rfl rfl)
theorem dX6_doOne_59 : decode cX6_doOne 59 = .ok (.iload_n 2, 1) := dk_28 (dk_at dksX6_doOne_2 12 rfl rfl)
theorem dX6_doOne_60 : decode cX6_doOne 60 = .ok (.invokevirtual 475, 3) := dk_182 1 219 (dk_at dksX6_doOne_2 13 rfl rfl)
theorem dX6_doOne_63 : decode cX6_doOne 63 = .ok (.ifCond .eq 7, 3) := dk_153 0 7 (dk_at dksX6_doOne_2 16 rfl rfl)
theorem dX6_doOne_66 : decode cX6_doOne 66 = .ok (.iconst 0, 1) := dk_3 (dk_at dksX6_doOne_2 19 rfl rfl)
theorem dX6_doOne_67 : decode cX6_doOne 67 = .ok (.goto 4, 3) := dk_167 0 4 (dk_at dksX6_doOne_2 20 rfl rfl)
theorem dX6_doOne_70 : decode cX6_doOne 70 = .ok (.iconst 1, 1) := dk_4 (dk_at dksX6_doOne_2 23 rfl rfl)
theorem dX6_doOne_71 : decode cX6_doOne 71 = .ok (.iadd, 1) := dk_96 (dk_at dksX6_doOne_3 0 rfl rfl)
theorem dX6_doOne_72 : decode cX6_doOne 72 = .ok (.putfield 472, 3) := dk_181 1 216 (dk_at dksX6_doOne_3 1 rfl rfl)
theorem dX6_doOne_75 : decode cX6_doOne 75 = .ok (.goto 101, 3) := dk_167 0 101 (dk_at dksX6_doOne_3 4 rfl rfl)
theorem dX6_doOne_78 : decode cX6_doOne 78 = .ok (.iload_n 3, 1) := dk_29 (dk_at dksX6_doOne_3 7 rfl rfl)
theorem dX6_doOne_79 : decode cX6_doOne 79 = .ok (.bipush 6, 2) := dk_16 6 (dk_at dksX6_doOne_3 8 rfl rfl)
theorem dX6_doOne_81 : decode cX6_doOne 81 = .ok (.if_icmp .ne 30, 3) := dk_160 0 30 (dk_at dksX6_doOne_3 10 rfl rfl)
theorem dX6_doOne_84 : decode cX6_doOne 84 = .ok (.aload_n 0, 1) := dk_42 (dk_at dksX6_doOne_3 13 rfl rfl)
theorem dX6_doOne_85 : decode cX6_doOne 85 = .ok (.iload_n 2, 1) := dk_28 (dk_at dksX6_doOne_3 14 rfl rfl)
theorem dX6_doOne_86 : decode cX6_doOne 86 = .ok (.invokevirtual 478, 3) := dk_182 1 222 (dk_at dksX6_doOne_3 15 rfl rfl)
theorem dX6_doOne_89 : decode cX6_doOne 89 = .ok (.ifCond .eq 22, 3) := dk_153 0 22 (dk_at dksX6_doOne_3 18 rfl rfl)
theorem dX6_doOne_92 : decode cX6_doOne 92 = .ok (.aload_n 0, 1) := dk_42 (dk_at dksX6_doOne_3 21 rfl rfl)
theorem dX6_doOne_93 : decode cX6_doOne 93 = .ok (.iload_n 1, 1) := dk_27 (dk_at dksX6_doOne_3 22 rfl rfl)
theorem dX6_doOne_94 : decode cX6_doOne 94 = .ok (.iconst 1, 1) := dk_4 (dk_at dksX6_doOne_3 23 rfl rfl)
theorem dX6_doOne_95 : decode cX6_doOne 95 = .ok (.iadd, 1) := dk_96 (dk_at dksX6_doOne_4 0 rfl rfl)
theorem dX6_doOne_96 : decode cX6_doOne 96 = .ok (.aload_n 0, 1) := dk_42 (dk_at dksX6_doOne_4 1 rfl rfl)
theorem dX6_doOne_97 : decode cX6_doOne 97 = .ok (.getfield 35, 3) := dk_180 0 35 (dk_at dksX6_doOne_4 2 rfl rfl)
theorem dX6_doOne_100 : decode cX6_doOne 100 = .ok (.iload_n 2, 1) := dk_28 (dk_at dksX6_doOne_4 5 rfl rfl)
theorem dX6_doOne_101 : decode cX6_doOne 101 = .ok (.bipush 8, 2) := dk_16 8 (dk_at dksX6_doOne_4 6 rfl rfl)
theorem dX6_doOne_103 : decode cX6_doOne 103 = .ok (.iadd, 1) := dk_96 (dk_at dksX6_doOne_4 8 rfl rfl)
theorem dX6_doOne_104 : decode cX6_doOne 104 = .ok (.iaload, 1) := dk_46 (dk_at dksX6_doOne_4 9 rfl rfl)
theorem dX6_doOne_105 : decode cX6_doOne 105 = .ok (.invokevirtual 481, 3) := dk_182 1 225 (dk_at dksX6_doOne_4 10 rfl rfl)
theorem dX6_doOne_108 : decode cX6_doOne 108 = .ok (.goto 68, 3) := dk_167 0 68 (dk_at dksX6_doOne_4 13 rfl rfl)
theorem dX6_doOne_111 : decode cX6_doOne 111 = .ok (.iload_n 3, 1) := dk_29 (dk_at dksX6_doOne_4 16 rfl rfl)
theorem dX6_doOne_112 : decode cX6_doOne 112 = .ok (.bipush 7, 2) := dk_16 7 (dk_at dksX6_doOne_4 17 rfl rfl)
theorem dX6_doOne_114 : decode cX6_doOne 114 = .ok (.if_icmp .ne 51, 3) := dk_160 0 51 (dk_at dksX6_doOne_4 19 rfl rfl)
theorem dX6_doOne_117 : decode cX6_doOne 117 = .ok (.iconst 0, 1) := dk_3 (dk_at dksX6_doOne_4 22 rfl rfl)
theorem dX6_doOne_118 : decode cX6_doOne 118 = .ok (.istore 4, 2) := dk_54 4 (dk_at dksX6_doOne_5 0 rfl rfl)
theorem dX6_doOne_120 : decode cX6_doOne 120 = .ok (.iload 4, 2) := dk_21 4 (dk_at dksX6_doOne_5 2 rfl rfl)
theorem dX6_doOne_122 : decode cX6_doOne 122 = .ok (.aload_n 0, 1) := dk_42 (dk_at dksX6_doOne_5 4 rfl rfl)
theorem dX6_doOne_123 : decode cX6_doOne 123 = .ok (.getfield 35, 3) := dk_180 0 35 (dk_at dksX6_doOne_5 5 rfl rfl)
theorem dX6_doOne_126 : decode cX6_doOne 126 = .ok (.iload_n 2, 1) := dk_28 (dk_at dksX6_doOne_5 8 rfl rfl)
theorem dX6_doOne_127 : decode cX6_doOne 127 = .ok (.iconst 1, 1) := dk_4 (dk_at dksX6_doOne_5 9 rfl rfl)
theorem dX6_doOne_128 : decode cX6_doOne 128 = .ok (.iadd, 1) := dk_96 (dk_at dksX6_doOne_5 10 rfl rfl)
theorem dX6_doOne_129 : decode cX6_doOne 129 = .ok (.iaload, 1) := dk_46 (dk_at dksX6_doOne_5 11 rfl rfl)
theorem dX6_doOne_130 : decode cX6_doOne 130 = .ok (.if_icmp .ge 32, 3) := dk_162 0 32 (dk_at dksX6_doOne_5 12 rfl rfl)
theorem dX6_doOne_133 : decode cX6_doOne 133 = .ok (.aload_n 0, 1) := dk_42 (dk_at dksX6_doOne_5 15 rfl rfl)
theorem dX6_doOne_134 : decode cX6_doOne 134 = .ok (.getfield 466, 3) := dk_180 1 210 (dk_at dksX6_doOne_5 16 rfl rfl)
theorem dX6_doOne_137 : decode cX6_doOne 137 = .ok (.ifCond .ne 25, 3) := dk_154 0 25 (dk_at dksX6_doOne_5 19 rfl rfl)
theorem dX6_doOne_140 : decode cX6_doOne 140 = .ok (.aload_n 0, 1) := dk_42 (dk_at dksX6_doOne_5 22 rfl rfl)
theorem dX6_doOne_141 : decode cX6_doOne 141 = .ok (.iload_n 1, 1) := dk_27 (dk_at dksX6_doOne_5 23 rfl rfl)
theorem dX6_doOne_142 : decode cX6_doOne 142 = .ok (.iconst 1, 1) := dk_4 (dk_at dksX6_doOne_6 0 rfl rfl)
theorem dX6_doOne_143 : decode cX6_doOne 143 = .ok (.iadd, 1) := dk_96 (dk_at dksX6_doOne_6 1 rfl rfl)
theorem dX6_doOne_144 : decode cX6_doOne 144 = .ok (.aload_n 0, 1) := dk_42 (dk_at dksX6_doOne_6 2 rfl rfl)
theorem dX6_doOne_145 : decode cX6_doOne 145 = .ok (.getfield 35, 3) := dk_180 0 35 (dk_at dksX6_doOne_6 3 rfl rfl)
theorem dX6_doOne_148 : decode cX6_doOne 148 = .ok (.iload_n 2, 1) := dk_28 (dk_at dksX6_doOne_6 6 rfl rfl)
theorem dX6_doOne_149 : decode cX6_doOne 149 = .ok (.bipush 8, 2) := dk_16 8 (dk_at dksX6_doOne_6 7 rfl rfl)
theorem dX6_doOne_151 : decode cX6_doOne 151 = .ok (.iadd, 1) := dk_96 (dk_at dksX6_doOne_6 9 rfl rfl)
theorem dX6_doOne_152 : decode cX6_doOne 152 = .ok (.iaload, 1) := dk_46 (dk_at dksX6_doOne_6 10 rfl rfl)
theorem dX6_doOne_153 : decode cX6_doOne 153 = .ok (.invokevirtual 481, 3) := dk_182 1 225 (dk_at dksX6_doOne_6 11 rfl rfl)
theorem dX6_doOne_156 : decode cX6_doOne 156 = .ok (.iinc 4 1, 3) := dk_132 4 1 (dk_at dksX6_doOne_6 14 rfl rfl)
theorem dX6_doOne_159 : decode cX6_doOne 159 = .ok (.goto (-39), 3) := dk_167 255 217 (dk_at dksX6_doOne_6 17 rfl rfl)
theorem dX6_doOne_162 : decode cX6_doOne 162 = .ok (.goto 14, 3) := dk_167 0 14 (dk_at dksX6_doOne_6 20 rfl rfl)
theorem dX6_doOne_165 : decode cX6_doOne 165 = .ok (.iload_n 3, 1) := dk_29 (dk_at dksX6_doOne_6 23 rfl rfl)
theorem dX6_doOne_166 : decode cX6_doOne 166 = .ok (.bipush 7, 2) := dk_16 7 (dk_at dksX6_doOne_7 0 rfl rfl)
theorem dX6_doOne_168 : decode cX6_doOne 168 = .ok (.if_icmp .le 8, 3) := dk_164 0 8 (dk_at dksX6_doOne_7 2 rfl rfl)
theorem dX6_doOne_171 : decode cX6_doOne 171 = .ok (.aload_n 0, 1) := dk_42 (dk_at dksX6_doOne_7 5 rfl rfl)
theorem dX6_doOne_172 : decode cX6_doOne 172 = .ok (.iconst 1, 1) := dk_4 (dk_at dksX6_doOne_7 6 rfl rfl)
theorem dX6_doOne_173 : decode cX6_doOne 173 = .ok (.putfield 466, 3) := dk_181 1 210 (dk_at dksX6_doOne_7 7 rfl rfl)
theorem dX6_doOne_176 : decode cX6_doOne 176 = .ok (.return_, 1) := dk_177 (dk_at dksX6_doOne_7 10 rfl rfl)
abbrev cX6_does : ByteArray := prog_16_method_138_code
def yX6_does : MethodName := ⟨RX6, "does", "(I)Z"⟩
def dkwX6_does_5 : List UInt8 := [182, 1, 102, 87, 167, 0, 9, 42, 29, 182, 1, 105, 172, 4, 172]
abbrev dktX6_does_5 : List UInt8 := dkwX6_does_5 ++ []
def dkwX6_does_4 : List UInt8 := [167, 0, 36, 28, 6, 160, 0, 11, 42, 29, 182, 1, 99, 167, 0, 23, 28, 7, 160, 0, 12, 42, 29]
abbrev dktX6_does_4 : List UInt8 := dkwX6_does_4 ++ dktX6_does_5
def dkwX6_does_3 : List UInt8 := [87, 4, 172, 42, 29, 182, 1, 81, 154, 0, 5, 3, 172, 28, 4, 160, 0, 11, 42, 29, 182, 1, 204]
abbrev dktX6_does_3 : List UInt8 := dkwX6_does_3 ++ dktX6_does_4
def dkwX6_does_2 : List UInt8 := [167, 255, 234, 42, 89, 180, 1, 201, 29, 96, 181, 1, 201, 4, 172, 28, 5, 160, 0, 10, 42, 182, 1, 87]
abbrev dktX6_does_2 : List UInt8 := dkwX6_does_2 ++ dktX6_does_3
def dkwX6_does_1 : List UInt8 := [21, 4, 29, 162, 0, 22, 42, 89, 180, 1, 198, 42, 182, 1, 124, 96, 181, 1, 198, 132, 4, 1]
abbrev dktX6_does_1 : List UInt8 := dkwX6_does_1 ++ dktX6_does_2
def dkwX6_does_0 : List UInt8 := [42, 180, 0, 35, 27, 46, 61, 42, 180, 0, 35, 27, 4, 96, 46, 62, 28, 154, 0, 43, 3, 54, 4]
abbrev dktX6_does_0 : List UInt8 := dkwX6_does_0 ++ dktX6_does_1
theorem dksX6_does_0 : cX6_does.data.toList.drop 0 = dktX6_does_0 := by decide +kernel
theorem dksX6_does_1 : cX6_does.data.toList.drop 23 = dktX6_does_1 := dk_seg dksX6_does_0 23 rfl rfl
theorem dksX6_does_2 : cX6_does.data.toList.drop 45 = dktX6_does_2 := dk_seg dksX6_does_1 22 rfl rfl
theorem dksX6_does_3 : cX6_does.data.toList.drop 69 = dktX6_does_3 := dk_seg dksX6_does_2 24 rfl rfl
theorem dksX6_does_4 : cX6_does.data.toList.drop 92 = dktX6_does_4 := dk_seg dksX6_does_3 23 rfl rfl
theorem dksX6_does_5 : cX6_does.data.toList.drop 115 = dktX6_does_5 := dk_seg dksX6_does_4 23 rfl rfl
theorem dX6_does_0 : decode cX6_does 0 = .ok (.aload_n 0, 1) := dk_42 (dk_at dksX6_does_0 0 rfl rfl)
theorem dX6_does_1 : decode cX6_does 1 = .ok (.getfield 35, 3) := dk_180 0 35 (dk_at dksX6_does_0 1 rfl rfl)
theorem dX6_does_4 : decode cX6_does 4 = .ok (.iload_n 1, 1) := dk_27 (dk_at dksX6_does_0 4 rfl rfl)
theorem dX6_does_5 : decode cX6_does 5 = .ok (.iaload, 1) := dk_46 (dk_at dksX6_does_0 5 rfl rfl)
theorem dX6_does_6 : decode cX6_does 6 = .ok (.istore_n 2, 1) := dk_61 (dk_at dksX6_does_0 6 rfl rfl)
theorem dX6_does_7 : decode cX6_does 7 = .ok (.aload_n 0, 1) := dk_42 (dk_at dksX6_does_0 7 rfl rfl)
theorem dX6_does_8 : decode cX6_does 8 = .ok (.getfield 35, 3) := dk_180 0 35 (dk_at dksX6_does_0 8 rfl rfl)
theorem dX6_does_11 : decode cX6_does 11 = .ok (.iload_n 1, 1) := dk_27 (dk_at dksX6_does_0 11 rfl rfl)
theorem dX6_does_12 : decode cX6_does 12 = .ok (.iconst 1, 1) := dk_4 (dk_at dksX6_does_0 12 rfl rfl)
theorem dX6_does_13 : decode cX6_does 13 = .ok (.iadd, 1) := dk_96 (dk_at dksX6_does_0 13 rfl rfl)
theorem dX6_does_14 : decode cX6_does 14 = .ok (.iaload, 1) := dk_46 (dk_at dksX6_does_0 14 rfl rfl)
theorem dX6_does_15 : decode cX6_does 15 = .ok (.istore_n 3, 1) := dk_62 (dk_at dksX6_does_0 15 rfl rfl)
theorem dX6_does_16 : decode cX6_does 16 = .ok (.iload_n 2, 1) := dk_28 (dk_at dksX6_does_0 16 rfl rfl)
theorem dX6_does_17 : decode cX6_does 17 = .ok (.ifCond .ne 43, 3) := dk_154 0 43 (dk_at dksX6_does_0 17 rfl rfl)
theorem dX6_does_20 : decode cX6_does 20 = .ok (.iconst 0, 1) := dk_3 (dk_at dksX6_does_0 20 rfl rfl)
theorem dX6_does_21 : decode cX6_does 21 = .ok (.istore 4, 2) := dk_54 4 (dk_at dksX6_does_0 21 rfl rfl)
theorem dX6_does_23 : decode cX6_does 23 = .ok (.iload 4, 2) := dk_21 4 (dk_at dksX6_does_1 0 rfl rfl)
theorem dX6_does_25 : decode cX6_does 25 = .ok (.iload_n 3, 1) := dk_29 (dk_at dksX6_does_1 2 rfl rfl)
theorem dX6_does_26 : decode cX6_does 26 = .ok (.if_icmp .ge 22, 3) := dk_162 0 22 (dk_at dksX6_does_1 3 rfl rfl)
theorem dX6_does_29 : decode cX6_does 29 = .ok (.aload_n 0, 1) := dk_42 (dk_at dksX6_does_1 6 rfl rfl)
theorem dX6_does_30 : decode cX6_does 30 = .ok (.dup, 1) := dk_89 (dk_at dksX6_does_1 7 rfl rfl)
theorem dX6_does_31 : decode cX6_does 31 = .ok (.getfield 454, 3) := dk_180 1 198 (dk_at dksX6_does_1 8 rfl rfl)
theorem dX6_does_34 : decode cX6_does 34 = .ok (.aload_n 0, 1) := dk_42 (dk_at dksX6_does_1 11 rfl rfl)
theorem dX6_does_35 : decode cX6_does 35 = .ok (.invokevirtual 380, 3) := dk_182 1 124 (dk_at dksX6_does_1 12 rfl rfl)
theorem dX6_does_38 : decode cX6_does 38 = .ok (.iadd, 1) := dk_96 (dk_at dksX6_does_1 15 rfl rfl)
theorem dX6_does_39 : decode cX6_does 39 = .ok (.putfield 454, 3) := dk_181 1 198 (dk_at dksX6_does_1 16 rfl rfl)
theorem dX6_does_42 : decode cX6_does 42 = .ok (.iinc 4 1, 3) := dk_132 4 1 (dk_at dksX6_does_1 19 rfl rfl)
theorem dX6_does_45 : decode cX6_does 45 = .ok (.goto (-22), 3) := dk_167 255 234 (dk_at dksX6_does_2 0 rfl rfl)
theorem dX6_does_48 : decode cX6_does 48 = .ok (.aload_n 0, 1) := dk_42 (dk_at dksX6_does_2 3 rfl rfl)
theorem dX6_does_49 : decode cX6_does 49 = .ok (.dup, 1) := dk_89 (dk_at dksX6_does_2 4 rfl rfl)
theorem dX6_does_50 : decode cX6_does 50 = .ok (.getfield 457, 3) := dk_180 1 201 (dk_at dksX6_does_2 5 rfl rfl)
theorem dX6_does_53 : decode cX6_does 53 = .ok (.iload_n 3, 1) := dk_29 (dk_at dksX6_does_2 8 rfl rfl)
theorem dX6_does_54 : decode cX6_does 54 = .ok (.iadd, 1) := dk_96 (dk_at dksX6_does_2 9 rfl rfl)
theorem dX6_does_55 : decode cX6_does 55 = .ok (.putfield 457, 3) := dk_181 1 201 (dk_at dksX6_does_2 10 rfl rfl)
theorem dX6_does_58 : decode cX6_does 58 = .ok (.iconst 1, 1) := dk_4 (dk_at dksX6_does_2 13 rfl rfl)
theorem dX6_does_59 : decode cX6_does 59 = .ok (.ireturn, 1) := dk_172 (dk_at dksX6_does_2 14 rfl rfl)
theorem dX6_does_60 : decode cX6_does 60 = .ok (.iload_n 2, 1) := dk_28 (dk_at dksX6_does_2 15 rfl rfl)
theorem dX6_does_61 : decode cX6_does 61 = .ok (.iconst 2, 1) := dk_5 (dk_at dksX6_does_2 16 rfl rfl)
theorem dX6_does_62 : decode cX6_does 62 = .ok (.if_icmp .ne 10, 3) := dk_160 0 10 (dk_at dksX6_does_2 17 rfl rfl)
theorem dX6_does_65 : decode cX6_does 65 = .ok (.aload_n 0, 1) := dk_42 (dk_at dksX6_does_2 20 rfl rfl)
theorem dX6_does_66 : decode cX6_does 66 = .ok (.invokevirtual 343, 3) := dk_182 1 87 (dk_at dksX6_does_2 21 rfl rfl)
theorem dX6_does_69 : decode cX6_does 69 = .ok (.pop, 1) := dk_87 (dk_at dksX6_does_3 0 rfl rfl)
theorem dX6_does_70 : decode cX6_does 70 = .ok (.iconst 1, 1) := dk_4 (dk_at dksX6_does_3 1 rfl rfl)
theorem dX6_does_71 : decode cX6_does 71 = .ok (.ireturn, 1) := dk_172 (dk_at dksX6_does_3 2 rfl rfl)
theorem dX6_does_72 : decode cX6_does 72 = .ok (.aload_n 0, 1) := dk_42 (dk_at dksX6_does_3 3 rfl rfl)
theorem dX6_does_73 : decode cX6_does 73 = .ok (.iload_n 3, 1) := dk_29 (dk_at dksX6_does_3 4 rfl rfl)
theorem dX6_does_74 : decode cX6_does 74 = .ok (.invokevirtual 337, 3) := dk_182 1 81 (dk_at dksX6_does_3 5 rfl rfl)
theorem dX6_does_77 : decode cX6_does 77 = .ok (.ifCond .ne 5, 3) := dk_154 0 5 (dk_at dksX6_does_3 8 rfl rfl)
theorem dX6_does_80 : decode cX6_does 80 = .ok (.iconst 0, 1) := dk_3 (dk_at dksX6_does_3 11 rfl rfl)
theorem dX6_does_81 : decode cX6_does 81 = .ok (.ireturn, 1) := dk_172 (dk_at dksX6_does_3 12 rfl rfl)
theorem dX6_does_82 : decode cX6_does 82 = .ok (.iload_n 2, 1) := dk_28 (dk_at dksX6_does_3 13 rfl rfl)
theorem dX6_does_83 : decode cX6_does 83 = .ok (.iconst 1, 1) := dk_4 (dk_at dksX6_does_3 14 rfl rfl)
theorem dX6_does_84 : decode cX6_does 84 = .ok (.if_icmp .ne 11, 3) := dk_160 0 11 (dk_at dksX6_does_3 15 rfl rfl)
theorem dX6_does_87 : decode cX6_does 87 = .ok (.aload_n 0, 1) := dk_42 (dk_at dksX6_does_3 18 rfl rfl)
theorem dX6_does_88 : decode cX6_does 88 = .ok (.iload_n 3, 1) := dk_29 (dk_at dksX6_does_3 19 rfl rfl)
theorem dX6_does_89 : decode cX6_does 89 = .ok (.invokevirtual 460, 3) := dk_182 1 204 (dk_at dksX6_does_3 20 rfl rfl)
theorem dX6_does_92 : decode cX6_does 92 = .ok (.goto 36, 3) := dk_167 0 36 (dk_at dksX6_does_4 0 rfl rfl)
theorem dX6_does_95 : decode cX6_does 95 = .ok (.iload_n 2, 1) := dk_28 (dk_at dksX6_does_4 3 rfl rfl)
theorem dX6_does_96 : decode cX6_does 96 = .ok (.iconst 3, 1) := dk_6 (dk_at dksX6_does_4 4 rfl rfl)
theorem dX6_does_97 : decode cX6_does 97 = .ok (.if_icmp .ne 11, 3) := dk_160 0 11 (dk_at dksX6_does_4 5 rfl rfl)
theorem dX6_does_100 : decode cX6_does 100 = .ok (.aload_n 0, 1) := dk_42 (dk_at dksX6_does_4 8 rfl rfl)
theorem dX6_does_101 : decode cX6_does 101 = .ok (.iload_n 3, 1) := dk_29 (dk_at dksX6_does_4 9 rfl rfl)
theorem dX6_does_102 : decode cX6_does 102 = .ok (.invokevirtual 355, 3) := dk_182 1 99 (dk_at dksX6_does_4 10 rfl rfl)
theorem dX6_does_105 : decode cX6_does 105 = .ok (.goto 23, 3) := dk_167 0 23 (dk_at dksX6_does_4 13 rfl rfl)
theorem dX6_does_108 : decode cX6_does 108 = .ok (.iload_n 2, 1) := dk_28 (dk_at dksX6_does_4 16 rfl rfl)
theorem dX6_does_109 : decode cX6_does 109 = .ok (.iconst 4, 1) := dk_7 (dk_at dksX6_does_4 17 rfl rfl)
theorem dX6_does_110 : decode cX6_does 110 = .ok (.if_icmp .ne 12, 3) := dk_160 0 12 (dk_at dksX6_does_4 18 rfl rfl)
theorem dX6_does_113 : decode cX6_does 113 = .ok (.aload_n 0, 1) := dk_42 (dk_at dksX6_does_4 21 rfl rfl)
theorem dX6_does_114 : decode cX6_does 114 = .ok (.iload_n 3, 1) := dk_29 (dk_at dksX6_does_4 22 rfl rfl)
theorem dX6_does_115 : decode cX6_does 115 = .ok (.invokevirtual 358, 3) := dk_182 1 102 (dk_at dksX6_does_5 0 rfl rfl)
theorem dX6_does_118 : decode cX6_does 118 = .ok (.pop, 1) := dk_87 (dk_at dksX6_does_5 3 rfl rfl)
theorem dX6_does_119 : decode cX6_does 119 = .ok (.goto 9, 3) := dk_167 0 9 (dk_at dksX6_does_5 4 rfl rfl)
theorem dX6_does_122 : decode cX6_does 122 = .ok (.aload_n 0, 1) := dk_42 (dk_at dksX6_does_5 7 rfl rfl)
theorem dX6_does_123 : decode cX6_does 123 = .ok (.iload_n 3, 1) := dk_29 (dk_at dksX6_does_5 8 rfl rfl)
theorem dX6_does_124 : decode cX6_does 124 = .ok (.invokevirtual 361, 3) := dk_182 1 105 (dk_at dksX6_does_5 9 rfl rfl)
theorem dX6_does_127 : decode cX6_does 127 = .ok (.ireturn, 1) := dk_172 (dk_at dksX6_does_5 12 rfl rfl)
theorem dX6_does_128 : decode cX6_does 128 = .ok (.iconst 1, 1) := dk_4 (dk_at dksX6_does_5 13 rfl rfl)
theorem dX6_does_129 : decode cX6_does 129 = .ok (.ireturn, 1) := dk_172 (dk_at dksX6_does_5 14 rfl rfl)
abbrev cX6_takes : ByteArray := prog_16_method_137_code
def yX6_takes : MethodName := ⟨RX6, "takes", "(I)V"⟩
def dkwX6_takes_4 : List UInt8 := [182, 1, 99, 42, 89, 180, 1, 195, 4, 96, 181, 1, 195, 177]
abbrev dktX6_takes_4 : List UInt8 := dkwX6_takes_4 ++ []
def dkwX6_takes_3 : List UInt8 := [182, 1, 84, 87, 132, 2, 1, 167, 255, 236, 42, 180, 0, 50, 6, 46, 4, 160, 0, 8, 42, 27]
abbrev dktX6_takes_3 : List UInt8 := dkwX6_takes_3 ++ dktX6_takes_4
def dkwX6_takes_2 : List UInt8 := [87, 132, 2, 1, 167, 255, 236, 3, 61, 28, 42, 180, 0, 50, 5, 46, 162, 0, 16, 42, 27, 4]
abbrev dktX6_takes_2 : List UInt8 := dkwX6_takes_2 ++ dktX6_takes_3
def dkwX6_takes_1 : List UInt8 := [132, 2, 1, 167, 255, 238, 3, 61, 28, 42, 180, 0, 50, 4, 46, 162, 0, 16, 42, 27, 3, 182, 1, 84]
abbrev dktX6_takes_1 : List UInt8 := dkwX6_takes_1 ++ dktX6_takes_2
def dkwX6_takes_0 : List UInt8 := [42, 27, 182, 1, 157, 87, 3, 61, 28, 42, 180, 0, 50, 3, 46, 162, 0, 14, 42, 182, 1, 87, 87]
abbrev dktX6_takes_0 : List UInt8 := dkwX6_takes_0 ++ dktX6_takes_1
theorem dksX6_takes_0 : cX6_takes.data.toList.drop 0 = dktX6_takes_0 := by decide +kernel
theorem dksX6_takes_1 : cX6_takes.data.toList.drop 23 = dktX6_takes_1 := dk_seg dksX6_takes_0 23 rfl rfl
theorem dksX6_takes_2 : cX6_takes.data.toList.drop 47 = dktX6_takes_2 := dk_seg dksX6_takes_1 24 rfl rfl
theorem dksX6_takes_3 : cX6_takes.data.toList.drop 69 = dktX6_takes_3 := dk_seg dksX6_takes_2 22 rfl rfl
theorem dksX6_takes_4 : cX6_takes.data.toList.drop 91 = dktX6_takes_4 := dk_seg dksX6_takes_3 22 rfl rfl
theorem dX6_takes_0 : decode cX6_takes 0 = .ok (.aload_n 0, 1) := dk_42 (dk_at dksX6_takes_0 0 rfl rfl)
theorem dX6_takes_1 : decode cX6_takes 1 = .ok (.iload_n 1, 1) := dk_27 (dk_at dksX6_takes_0 1 rfl rfl)
theorem dX6_takes_2 : decode cX6_takes 2 = .ok (.invokevirtual 413, 3) := dk_182 1 157 (dk_at dksX6_takes_0 2 rfl rfl)
theorem dX6_takes_5 : decode cX6_takes 5 = .ok (.pop, 1) := dk_87 (dk_at dksX6_takes_0 5 rfl rfl)
theorem dX6_takes_6 : decode cX6_takes 6 = .ok (.iconst 0, 1) := dk_3 (dk_at dksX6_takes_0 6 rfl rfl)
theorem dX6_takes_7 : decode cX6_takes 7 = .ok (.istore_n 2, 1) := dk_61 (dk_at dksX6_takes_0 7 rfl rfl)
theorem dX6_takes_8 : decode cX6_takes 8 = .ok (.iload_n 2, 1) := dk_28 (dk_at dksX6_takes_0 8 rfl rfl)
theorem dX6_takes_9 : decode cX6_takes 9 = .ok (.aload_n 0, 1) := dk_42 (dk_at dksX6_takes_0 9 rfl rfl)
theorem dX6_takes_10 : decode cX6_takes 10 = .ok (.getfield 50, 3) := dk_180 0 50 (dk_at dksX6_takes_0 10 rfl rfl)
theorem dX6_takes_13 : decode cX6_takes 13 = .ok (.iconst 0, 1) := dk_3 (dk_at dksX6_takes_0 13 rfl rfl)
theorem dX6_takes_14 : decode cX6_takes 14 = .ok (.iaload, 1) := dk_46 (dk_at dksX6_takes_0 14 rfl rfl)
theorem dX6_takes_15 : decode cX6_takes 15 = .ok (.if_icmp .ge 14, 3) := dk_162 0 14 (dk_at dksX6_takes_0 15 rfl rfl)
theorem dX6_takes_18 : decode cX6_takes 18 = .ok (.aload_n 0, 1) := dk_42 (dk_at dksX6_takes_0 18 rfl rfl)
theorem dX6_takes_19 : decode cX6_takes 19 = .ok (.invokevirtual 343, 3) := dk_182 1 87 (dk_at dksX6_takes_0 19 rfl rfl)
theorem dX6_takes_22 : decode cX6_takes 22 = .ok (.pop, 1) := dk_87 (dk_at dksX6_takes_0 22 rfl rfl)
theorem dX6_takes_23 : decode cX6_takes 23 = .ok (.iinc 2 1, 3) := dk_132 2 1 (dk_at dksX6_takes_1 0 rfl rfl)
theorem dX6_takes_26 : decode cX6_takes 26 = .ok (.goto (-18), 3) := dk_167 255 238 (dk_at dksX6_takes_1 3 rfl rfl)
theorem dX6_takes_29 : decode cX6_takes 29 = .ok (.iconst 0, 1) := dk_3 (dk_at dksX6_takes_1 6 rfl rfl)
theorem dX6_takes_30 : decode cX6_takes 30 = .ok (.istore_n 2, 1) := dk_61 (dk_at dksX6_takes_1 7 rfl rfl)
theorem dX6_takes_31 : decode cX6_takes 31 = .ok (.iload_n 2, 1) := dk_28 (dk_at dksX6_takes_1 8 rfl rfl)
theorem dX6_takes_32 : decode cX6_takes 32 = .ok (.aload_n 0, 1) := dk_42 (dk_at dksX6_takes_1 9 rfl rfl)
theorem dX6_takes_33 : decode cX6_takes 33 = .ok (.getfield 50, 3) := dk_180 0 50 (dk_at dksX6_takes_1 10 rfl rfl)
theorem dX6_takes_36 : decode cX6_takes 36 = .ok (.iconst 1, 1) := dk_4 (dk_at dksX6_takes_1 13 rfl rfl)
theorem dX6_takes_37 : decode cX6_takes 37 = .ok (.iaload, 1) := dk_46 (dk_at dksX6_takes_1 14 rfl rfl)
theorem dX6_takes_38 : decode cX6_takes 38 = .ok (.if_icmp .ge 16, 3) := dk_162 0 16 (dk_at dksX6_takes_1 15 rfl rfl)
theorem dX6_takes_41 : decode cX6_takes 41 = .ok (.aload_n 0, 1) := dk_42 (dk_at dksX6_takes_1 18 rfl rfl)
theorem dX6_takes_42 : decode cX6_takes 42 = .ok (.iload_n 1, 1) := dk_27 (dk_at dksX6_takes_1 19 rfl rfl)
theorem dX6_takes_43 : decode cX6_takes 43 = .ok (.iconst 0, 1) := dk_3 (dk_at dksX6_takes_1 20 rfl rfl)
theorem dX6_takes_44 : decode cX6_takes 44 = .ok (.invokevirtual 340, 3) := dk_182 1 84 (dk_at dksX6_takes_1 21 rfl rfl)
theorem dX6_takes_47 : decode cX6_takes 47 = .ok (.pop, 1) := dk_87 (dk_at dksX6_takes_2 0 rfl rfl)
theorem dX6_takes_48 : decode cX6_takes 48 = .ok (.iinc 2 1, 3) := dk_132 2 1 (dk_at dksX6_takes_2 1 rfl rfl)
theorem dX6_takes_51 : decode cX6_takes 51 = .ok (.goto (-20), 3) := dk_167 255 236 (dk_at dksX6_takes_2 4 rfl rfl)
theorem dX6_takes_54 : decode cX6_takes 54 = .ok (.iconst 0, 1) := dk_3 (dk_at dksX6_takes_2 7 rfl rfl)
theorem dX6_takes_55 : decode cX6_takes 55 = .ok (.istore_n 2, 1) := dk_61 (dk_at dksX6_takes_2 8 rfl rfl)
theorem dX6_takes_56 : decode cX6_takes 56 = .ok (.iload_n 2, 1) := dk_28 (dk_at dksX6_takes_2 9 rfl rfl)
theorem dX6_takes_57 : decode cX6_takes 57 = .ok (.aload_n 0, 1) := dk_42 (dk_at dksX6_takes_2 10 rfl rfl)
theorem dX6_takes_58 : decode cX6_takes 58 = .ok (.getfield 50, 3) := dk_180 0 50 (dk_at dksX6_takes_2 11 rfl rfl)
theorem dX6_takes_61 : decode cX6_takes 61 = .ok (.iconst 2, 1) := dk_5 (dk_at dksX6_takes_2 14 rfl rfl)
theorem dX6_takes_62 : decode cX6_takes 62 = .ok (.iaload, 1) := dk_46 (dk_at dksX6_takes_2 15 rfl rfl)
theorem dX6_takes_63 : decode cX6_takes 63 = .ok (.if_icmp .ge 16, 3) := dk_162 0 16 (dk_at dksX6_takes_2 16 rfl rfl)
theorem dX6_takes_66 : decode cX6_takes 66 = .ok (.aload_n 0, 1) := dk_42 (dk_at dksX6_takes_2 19 rfl rfl)
theorem dX6_takes_67 : decode cX6_takes 67 = .ok (.iload_n 1, 1) := dk_27 (dk_at dksX6_takes_2 20 rfl rfl)
theorem dX6_takes_68 : decode cX6_takes 68 = .ok (.iconst 1, 1) := dk_4 (dk_at dksX6_takes_2 21 rfl rfl)
theorem dX6_takes_69 : decode cX6_takes 69 = .ok (.invokevirtual 340, 3) := dk_182 1 84 (dk_at dksX6_takes_3 0 rfl rfl)
theorem dX6_takes_72 : decode cX6_takes 72 = .ok (.pop, 1) := dk_87 (dk_at dksX6_takes_3 3 rfl rfl)
theorem dX6_takes_73 : decode cX6_takes 73 = .ok (.iinc 2 1, 3) := dk_132 2 1 (dk_at dksX6_takes_3 4 rfl rfl)
theorem dX6_takes_76 : decode cX6_takes 76 = .ok (.goto (-20), 3) := dk_167 255 236 (dk_at dksX6_takes_3 7 rfl rfl)
theorem dX6_takes_79 : decode cX6_takes 79 = .ok (.aload_n 0, 1) := dk_42 (dk_at dksX6_takes_3 10 rfl rfl)
theorem dX6_takes_80 : decode cX6_takes 80 = .ok (.getfield 50, 3) := dk_180 0 50 (dk_at dksX6_takes_3 11 rfl rfl)
theorem dX6_takes_83 : decode cX6_takes 83 = .ok (.iconst 3, 1) := dk_6 (dk_at dksX6_takes_3 14 rfl rfl)
theorem dX6_takes_84 : decode cX6_takes 84 = .ok (.iaload, 1) := dk_46 (dk_at dksX6_takes_3 15 rfl rfl)
theorem dX6_takes_85 : decode cX6_takes 85 = .ok (.iconst 1, 1) := dk_4 (dk_at dksX6_takes_3 16 rfl rfl)
theorem dX6_takes_86 : decode cX6_takes 86 = .ok (.if_icmp .ne 8, 3) := dk_160 0 8 (dk_at dksX6_takes_3 17 rfl rfl)
theorem dX6_takes_89 : decode cX6_takes 89 = .ok (.aload_n 0, 1) := dk_42 (dk_at dksX6_takes_3 20 rfl rfl)
theorem dX6_takes_90 : decode cX6_takes 90 = .ok (.iload_n 1, 1) := dk_27 (dk_at dksX6_takes_3 21 rfl rfl)
theorem dX6_takes_91 : decode cX6_takes 91 = .ok (.invokevirtual 355, 3) := dk_182 1 99 (dk_at dksX6_takes_4 0 rfl rfl)
theorem dX6_takes_94 : decode cX6_takes 94 = .ok (.aload_n 0, 1) := dk_42 (dk_at dksX6_takes_4 3 rfl rfl)
theorem dX6_takes_95 : decode cX6_takes 95 = .ok (.dup, 1) := dk_89 (dk_at dksX6_takes_4 4 rfl rfl)
theorem dX6_takes_96 : decode cX6_takes 96 = .ok (.getfield 451, 3) := dk_180 1 195 (dk_at dksX6_takes_4 5 rfl rfl)
theorem dX6_takes_99 : decode cX6_takes 99 = .ok (.iconst 1, 1) := dk_4 (dk_at dksX6_takes_4 8 rfl rfl)
theorem dX6_takes_100 : decode cX6_takes 100 = .ok (.iadd, 1) := dk_96 (dk_at dksX6_takes_4 9 rfl rfl)
theorem dX6_takes_101 : decode cX6_takes 101 = .ok (.putfield 451, 3) := dk_181 1 195 (dk_at dksX6_takes_4 10 rfl rfl)
theorem dX6_takes_104 : decode cX6_takes 104 = .ok (.return_, 1) := dk_177 (dk_at dksX6_takes_4 13 rfl rfl)
abbrev cX6_isSo : ByteArray := prog_16_method_139_code
def yX6_isSo : MethodName := ⟨RX6, "isSo", "(I)Z"⟩
def dkwX6_isSo_5 : List UInt8 := [42, 180, 0, 35, 27, 5, 96, 46, 160, 0, 7, 4, 167, 0, 4, 3, 172]
abbrev dktX6_isSo_5 : List UInt8 := dkwX6_isSo_5 ++ []
def dkwX6_isSo_4 : List UInt8 := [160, 0, 23, 29, 42, 180, 0, 35, 27, 5, 96, 46, 164, 0, 7, 4, 167, 0, 24, 3, 167, 0, 20, 29]
abbrev dktX6_isSo_4 : List UInt8 := dkwX6_isSo_4 ++ dktX6_isSo_5
def dkwX6_isSo_3 : List UInt8 := [162, 0, 7, 4, 167, 0, 58, 3, 167, 0, 54, 42, 180, 0, 35, 27, 16, 7, 96, 46, 16, 62]
abbrev dktX6_isSo_3 : List UInt8 := dkwX6_isSo_3 ++ dktX6_isSo_4
def dkwX6_isSo_2 : List UInt8 := [180, 0, 35, 27, 16, 7, 96, 46, 16, 60, 160, 0, 23, 29, 42, 180, 0, 35, 27, 5, 96, 46]
abbrev dktX6_isSo_2 : List UInt8 := dkwX6_isSo_2 ++ dktX6_isSo_3
def dkwX6_isSo_1 : List UInt8 := [182, 1, 130, 172, 28, 154, 0, 11, 42, 2, 182, 1, 127, 167, 0, 9, 42, 180, 0, 35, 4, 46, 62, 42]
abbrev dktX6_isSo_1 : List UInt8 := dkwX6_isSo_1 ++ dktX6_isSo_2
def dkwX6_isSo_0 : List UInt8 := [42, 180, 0, 35, 27, 16, 6, 96, 46, 61, 28, 5, 160, 0, 16, 42, 42, 180, 0, 35, 27, 4, 96, 46]
abbrev dktX6_isSo_0 : List UInt8 := dkwX6_isSo_0 ++ dktX6_isSo_1
theorem dksX6_isSo_0 : cX6_isSo.data.toList.drop 0 = dktX6_isSo_0 := by decide +kernel
theorem dksX6_isSo_1 : cX6_isSo.data.toList.drop 24 = dktX6_isSo_1 := dk_seg dksX6_isSo_0 24 rfl rfl
theorem dksX6_isSo_2 : cX6_isSo.data.toList.drop 48 = dktX6_isSo_2 := dk_seg dksX6_isSo_1 24 rfl rfl
theorem dksX6_isSo_3 : cX6_isSo.data.toList.drop 70 = dktX6_isSo_3 := dk_seg dksX6_isSo_2 22 rfl rfl
theorem dksX6_isSo_4 : cX6_isSo.data.toList.drop 92 = dktX6_isSo_4 := dk_seg dksX6_isSo_3 22 rfl rfl
theorem dksX6_isSo_5 : cX6_isSo.data.toList.drop 116 = dktX6_isSo_5 := dk_seg dksX6_isSo_4 24 rfl rfl
theorem dX6_isSo_0 : decode cX6_isSo 0 = .ok (.aload_n 0, 1) := dk_42 (dk_at dksX6_isSo_0 0 rfl rfl)
theorem dX6_isSo_1 : decode cX6_isSo 1 = .ok (.getfield 35, 3) := dk_180 0 35 (dk_at dksX6_isSo_0 1 rfl rfl)
theorem dX6_isSo_4 : decode cX6_isSo 4 = .ok (.iload_n 1, 1) := dk_27 (dk_at dksX6_isSo_0 4 rfl rfl)
theorem dX6_isSo_5 : decode cX6_isSo 5 = .ok (.bipush 6, 2) := dk_16 6 (dk_at dksX6_isSo_0 5 rfl rfl)
theorem dX6_isSo_7 : decode cX6_isSo 7 = .ok (.iadd, 1) := dk_96 (dk_at dksX6_isSo_0 7 rfl rfl)
theorem dX6_isSo_8 : decode cX6_isSo 8 = .ok (.iaload, 1) := dk_46 (dk_at dksX6_isSo_0 8 rfl rfl)
theorem dX6_isSo_9 : decode cX6_isSo 9 = .ok (.istore_n 2, 1) := dk_61 (dk_at dksX6_isSo_0 9 rfl rfl)
theorem dX6_isSo_10 : decode cX6_isSo 10 = .ok (.iload_n 2, 1) := dk_28 (dk_at dksX6_isSo_0 10 rfl rfl)
theorem dX6_isSo_11 : decode cX6_isSo 11 = .ok (.iconst 2, 1) := dk_5 (dk_at dksX6_isSo_0 11 rfl rfl)
theorem dX6_isSo_12 : decode cX6_isSo 12 = .ok (.if_icmp .ne 16, 3) := dk_160 0 16 (dk_at dksX6_isSo_0 12 rfl rfl)
theorem dX6_isSo_15 : decode cX6_isSo 15 = .ok (.aload_n 0, 1) := dk_42 (dk_at dksX6_isSo_0 15 rfl rfl)
theorem dX6_isSo_16 : decode cX6_isSo 16 = .ok (.aload_n 0, 1) := dk_42 (dk_at dksX6_isSo_0 16 rfl rfl)
theorem dX6_isSo_17 : decode cX6_isSo 17 = .ok (.getfield 35, 3) := dk_180 0 35 (dk_at dksX6_isSo_0 17 rfl rfl)
theorem dX6_isSo_20 : decode cX6_isSo 20 = .ok (.iload_n 1, 1) := dk_27 (dk_at dksX6_isSo_0 20 rfl rfl)
theorem dX6_isSo_21 : decode cX6_isSo 21 = .ok (.iconst 1, 1) := dk_4 (dk_at dksX6_isSo_0 21 rfl rfl)
theorem dX6_isSo_22 : decode cX6_isSo 22 = .ok (.iadd, 1) := dk_96 (dk_at dksX6_isSo_0 22 rfl rfl)
theorem dX6_isSo_23 : decode cX6_isSo 23 = .ok (.iaload, 1) := dk_46 (dk_at dksX6_isSo_0 23 rfl rfl)
theorem dX6_isSo_24 : decode cX6_isSo 24 = .ok (.invokevirtual 386, 3) := dk_182 1 130 (dk_at dksX6_isSo_1 0 rfl rfl)
theorem dX6_isSo_27 : decode cX6_isSo 27 = .ok (.ireturn, 1) := dk_172 (dk_at dksX6_isSo_1 3 rfl rfl)
theorem dX6_isSo_28 : decode cX6_isSo 28 = .ok (.iload_n 2, 1) := dk_28 (dk_at dksX6_isSo_1 4 rfl rfl)
theorem dX6_isSo_29 : decode cX6_isSo 29 = .ok (.ifCond .ne 11, 3) := dk_154 0 11 (dk_at dksX6_isSo_1 5 rfl rfl)
theorem dX6_isSo_32 : decode cX6_isSo 32 = .ok (.aload_n 0, 1) := dk_42 (dk_at dksX6_isSo_1 8 rfl rfl)
theorem dX6_isSo_33 : decode cX6_isSo 33 = .ok (.iconst (-1), 1) := dk_2 (dk_at dksX6_isSo_1 9 rfl rfl)
theorem dX6_isSo_34 : decode cX6_isSo 34 = .ok (.invokevirtual 383, 3) := dk_182 1 127 (dk_at dksX6_isSo_1 10 rfl rfl)
theorem dX6_isSo_37 : decode cX6_isSo 37 = .ok (.goto 9, 3) := dk_167 0 9 (dk_at dksX6_isSo_1 13 rfl rfl)
theorem dX6_isSo_40 : decode cX6_isSo 40 = .ok (.aload_n 0, 1) := dk_42 (dk_at dksX6_isSo_1 16 rfl rfl)
theorem dX6_isSo_41 : decode cX6_isSo 41 = .ok (.getfield 35, 3) := dk_180 0 35 (dk_at dksX6_isSo_1 17 rfl rfl)
theorem dX6_isSo_44 : decode cX6_isSo 44 = .ok (.iconst 1, 1) := dk_4 (dk_at dksX6_isSo_1 20 rfl rfl)
theorem dX6_isSo_45 : decode cX6_isSo 45 = .ok (.iaload, 1) := dk_46 (dk_at dksX6_isSo_1 21 rfl rfl)
theorem dX6_isSo_46 : decode cX6_isSo 46 = .ok (.istore_n 3, 1) := dk_62 (dk_at dksX6_isSo_1 22 rfl rfl)
theorem dX6_isSo_47 : decode cX6_isSo 47 = .ok (.aload_n 0, 1) := dk_42 (dk_at dksX6_isSo_1 23 rfl rfl)
theorem dX6_isSo_48 : decode cX6_isSo 48 = .ok (.getfield 35, 3) := dk_180 0 35 (dk_at dksX6_isSo_2 0 rfl rfl)
theorem dX6_isSo_51 : decode cX6_isSo 51 = .ok (.iload_n 1, 1) := dk_27 (dk_at dksX6_isSo_2 3 rfl rfl)
theorem dX6_isSo_52 : decode cX6_isSo 52 = .ok (.bipush 7, 2) := dk_16 7 (dk_at dksX6_isSo_2 4 rfl rfl)
theorem dX6_isSo_54 : decode cX6_isSo 54 = .ok (.iadd, 1) := dk_96 (dk_at dksX6_isSo_2 6 rfl rfl)
theorem dX6_isSo_55 : decode cX6_isSo 55 = .ok (.iaload, 1) := dk_46 (dk_at dksX6_isSo_2 7 rfl rfl)
theorem dX6_isSo_56 : decode cX6_isSo 56 = .ok (.bipush 60, 2) := dk_16 60 (dk_at dksX6_isSo_2 8 rfl rfl)
theorem dX6_isSo_58 : decode cX6_isSo 58 = .ok (.if_icmp .ne 23, 3) := dk_160 0 23 (dk_at dksX6_isSo_2 10 rfl rfl)
theorem dX6_isSo_61 : decode cX6_isSo 61 = .ok (.iload_n 3, 1) := dk_29 (dk_at dksX6_isSo_2 13 rfl rfl)
theorem dX6_isSo_62 : decode cX6_isSo 62 = .ok (.aload_n 0, 1) := dk_42 (dk_at dksX6_isSo_2 14 rfl rfl)
theorem dX6_isSo_63 : decode cX6_isSo 63 = .ok (.getfield 35, 3) := dk_180 0 35 (dk_at dksX6_isSo_2 15 rfl rfl)
theorem dX6_isSo_66 : decode cX6_isSo 66 = .ok (.iload_n 1, 1) := dk_27 (dk_at dksX6_isSo_2 18 rfl rfl)
theorem dX6_isSo_67 : decode cX6_isSo 67 = .ok (.iconst 2, 1) := dk_5 (dk_at dksX6_isSo_2 19 rfl rfl)
theorem dX6_isSo_68 : decode cX6_isSo 68 = .ok (.iadd, 1) := dk_96 (dk_at dksX6_isSo_2 20 rfl rfl)
theorem dX6_isSo_69 : decode cX6_isSo 69 = .ok (.iaload, 1) := dk_46 (dk_at dksX6_isSo_2 21 rfl rfl)
theorem dX6_isSo_70 : decode cX6_isSo 70 = .ok (.if_icmp .ge 7, 3) := dk_162 0 7 (dk_at dksX6_isSo_3 0 rfl rfl)
theorem dX6_isSo_73 : decode cX6_isSo 73 = .ok (.iconst 1, 1) := dk_4 (dk_at dksX6_isSo_3 3 rfl rfl)
theorem dX6_isSo_74 : decode cX6_isSo 74 = .ok (.goto 58, 3) := dk_167 0 58 (dk_at dksX6_isSo_3 4 rfl rfl)
theorem dX6_isSo_77 : decode cX6_isSo 77 = .ok (.iconst 0, 1) := dk_3 (dk_at dksX6_isSo_3 7 rfl rfl)
theorem dX6_isSo_78 : decode cX6_isSo 78 = .ok (.goto 54, 3) := dk_167 0 54 (dk_at dksX6_isSo_3 8 rfl rfl)
theorem dX6_isSo_81 : decode cX6_isSo 81 = .ok (.aload_n 0, 1) := dk_42 (dk_at dksX6_isSo_3 11 rfl rfl)
theorem dX6_isSo_82 : decode cX6_isSo 82 = .ok (.getfield 35, 3) := dk_180 0 35 (dk_at dksX6_isSo_3 12 rfl rfl)
theorem dX6_isSo_85 : decode cX6_isSo 85 = .ok (.iload_n 1, 1) := dk_27 (dk_at dksX6_isSo_3 15 rfl rfl)
theorem dX6_isSo_86 : decode cX6_isSo 86 = .ok (.bipush 7, 2) := dk_16 7 (dk_at dksX6_isSo_3 16 rfl rfl)
theorem dX6_isSo_88 : decode cX6_isSo 88 = .ok (.iadd, 1) := dk_96 (dk_at dksX6_isSo_3 18 rfl rfl)
theorem dX6_isSo_89 : decode cX6_isSo 89 = .ok (.iaload, 1) := dk_46 (dk_at dksX6_isSo_3 19 rfl rfl)
theorem dX6_isSo_90 : decode cX6_isSo 90 = .ok (.bipush 62, 2) := dk_16 62 (dk_at dksX6_isSo_3 20 rfl rfl)
theorem dX6_isSo_92 : decode cX6_isSo 92 = .ok (.if_icmp .ne 23, 3) := dk_160 0 23 (dk_at dksX6_isSo_4 0 rfl rfl)
theorem dX6_isSo_95 : decode cX6_isSo 95 = .ok (.iload_n 3, 1) := dk_29 (dk_at dksX6_isSo_4 3 rfl rfl)
theorem dX6_isSo_96 : decode cX6_isSo 96 = .ok (.aload_n 0, 1) := dk_42 (dk_at dksX6_isSo_4 4 rfl rfl)
theorem dX6_isSo_97 : decode cX6_isSo 97 = .ok (.getfield 35, 3) := dk_180 0 35 (dk_at dksX6_isSo_4 5 rfl rfl)
theorem dX6_isSo_100 : decode cX6_isSo 100 = .ok (.iload_n 1, 1) := dk_27 (dk_at dksX6_isSo_4 8 rfl rfl)
theorem dX6_isSo_101 : decode cX6_isSo 101 = .ok (.iconst 2, 1) := dk_5 (dk_at dksX6_isSo_4 9 rfl rfl)
theorem dX6_isSo_102 : decode cX6_isSo 102 = .ok (.iadd, 1) := dk_96 (dk_at dksX6_isSo_4 10 rfl rfl)
theorem dX6_isSo_103 : decode cX6_isSo 103 = .ok (.iaload, 1) := dk_46 (dk_at dksX6_isSo_4 11 rfl rfl)
theorem dX6_isSo_104 : decode cX6_isSo 104 = .ok (.if_icmp .le 7, 3) := dk_164 0 7 (dk_at dksX6_isSo_4 12 rfl rfl)
theorem dX6_isSo_107 : decode cX6_isSo 107 = .ok (.iconst 1, 1) := dk_4 (dk_at dksX6_isSo_4 15 rfl rfl)
theorem dX6_isSo_108 : decode cX6_isSo 108 = .ok (.goto 24, 3) := dk_167 0 24 (dk_at dksX6_isSo_4 16 rfl rfl)
theorem dX6_isSo_111 : decode cX6_isSo 111 = .ok (.iconst 0, 1) := dk_3 (dk_at dksX6_isSo_4 19 rfl rfl)
theorem dX6_isSo_112 : decode cX6_isSo 112 = .ok (.goto 20, 3) := dk_167 0 20 (dk_at dksX6_isSo_4 20 rfl rfl)
theorem dX6_isSo_115 : decode cX6_isSo 115 = .ok (.iload_n 3, 1) := dk_29 (dk_at dksX6_isSo_4 23 rfl rfl)
theorem dX6_isSo_116 : decode cX6_isSo 116 = .ok (.aload_n 0, 1) := dk_42 (dk_at dksX6_isSo_5 0 rfl rfl)
theorem dX6_isSo_117 : decode cX6_isSo 117 = .ok (.getfield 35, 3) := dk_180 0 35 (dk_at dksX6_isSo_5 1 rfl rfl)
theorem dX6_isSo_120 : decode cX6_isSo 120 = .ok (.iload_n 1, 1) := dk_27 (dk_at dksX6_isSo_5 4 rfl rfl)
theorem dX6_isSo_121 : decode cX6_isSo 121 = .ok (.iconst 2, 1) := dk_5 (dk_at dksX6_isSo_5 5 rfl rfl)
theorem dX6_isSo_122 : decode cX6_isSo 122 = .ok (.iadd, 1) := dk_96 (dk_at dksX6_isSo_5 6 rfl rfl)
theorem dX6_isSo_123 : decode cX6_isSo 123 = .ok (.iaload, 1) := dk_46 (dk_at dksX6_isSo_5 7 rfl rfl)
theorem dX6_isSo_124 : decode cX6_isSo 124 = .ok (.if_icmp .ne 7, 3) := dk_160 0 7 (dk_at dksX6_isSo_5 8 rfl rfl)
theorem dX6_isSo_127 : decode cX6_isSo 127 = .ok (.iconst 1, 1) := dk_4 (dk_at dksX6_isSo_5 11 rfl rfl)
theorem dX6_isSo_128 : decode cX6_isSo 128 = .ok (.goto 4, 3) := dk_167 0 4 (dk_at dksX6_isSo_5 12 rfl rfl)
theorem dX6_isSo_131 : decode cX6_isSo 131 = .ok (.iconst 0, 1) := dk_3 (dk_at dksX6_isSo_5 15 rfl rfl)
theorem dX6_isSo_132 : decode cX6_isSo 132 = .ok (.ireturn, 1) := dk_172 (dk_at dksX6_isSo_5 16 rfl rfl)
abbrev cX6_lived : ByteArray := prog_16_method_144_code
def yX6_lived : MethodName := ⟨RX6, "lived", "(I)I"⟩
def dkwX6_lived_2 : List UInt8 := [182, 1, 52, 172]
abbrev dktX6_lived_2 : List UInt8 := dkwX6_lived_2 ++ []
def dkwX6_lived_1 : List UInt8 := [182, 1, 52, 172, 42, 180, 1, 234, 153, 0, 12, 42, 180, 0, 71, 27, 46, 167, 0, 9, 42, 16, 8]
abbrev dktX6_lived_1 : List UInt8 := dkwX6_lived_1 ++ dktX6_lived_2
def dkwX6_lived_0 : List UInt8 := [42, 3, 181, 0, 77, 42, 3, 181, 0, 80, 27, 133, 9, 20, 0, 167, 184, 0, 112, 154, 0, 9, 42, 8]
abbrev dktX6_lived_0 : List UInt8 := dkwX6_lived_0 ++ dktX6_lived_1
theorem dksX6_lived_0 : cX6_lived.data.toList.drop 0 = dktX6_lived_0 := by decide +kernel
theorem dksX6_lived_1 : cX6_lived.data.toList.drop 24 = dktX6_lived_1 := dk_seg dksX6_lived_0 24 rfl rfl
theorem dksX6_lived_2 : cX6_lived.data.toList.drop 47 = dktX6_lived_2 := dk_seg dksX6_lived_1 23 rfl rfl
theorem dX6_lived_0 : decode cX6_lived 0 = .ok (.aload_n 0, 1) := dk_42 (dk_at dksX6_lived_0 0 rfl rfl)
theorem dX6_lived_1 : decode cX6_lived 1 = .ok (.iconst 0, 1) := dk_3 (dk_at dksX6_lived_0 1 rfl rfl)
theorem dX6_lived_2 : decode cX6_lived 2 = .ok (.putfield 77, 3) := dk_181 0 77 (dk_at dksX6_lived_0 2 rfl rfl)
theorem dX6_lived_5 : decode cX6_lived 5 = .ok (.aload_n 0, 1) := dk_42 (dk_at dksX6_lived_0 5 rfl rfl)
theorem dX6_lived_6 : decode cX6_lived 6 = .ok (.iconst 0, 1) := dk_3 (dk_at dksX6_lived_0 6 rfl rfl)
theorem dX6_lived_7 : decode cX6_lived 7 = .ok (.putfield 80, 3) := dk_181 0 80 (dk_at dksX6_lived_0 7 rfl rfl)
theorem dX6_lived_10 : decode cX6_lived 10 = .ok (.iload_n 1, 1) := dk_27 (dk_at dksX6_lived_0 10 rfl rfl)
theorem dX6_lived_11 : decode cX6_lived 11 = .ok (.i2l, 1) := dk_133 (dk_at dksX6_lived_0 11 rfl rfl)
theorem dX6_lived_12 : decode cX6_lived 12 = .ok (.lconst 0, 1) := dk_9 (dk_at dksX6_lived_0 12 rfl rfl)
theorem dX6_lived_13 : decode cX6_lived 13 = .ok (.ldc2_w 167, 3) := dk_20 0 167 (dk_at dksX6_lived_0 13 rfl rfl)
theorem dX6_lived_16 : decode cX6_lived 16 = .ok (.invokestatic 112, 3) := dk_184 0 112 (dk_at dksX6_lived_0 16 rfl rfl)
theorem dX6_lived_19 : decode cX6_lived 19 = .ok (.ifCond .ne 9, 3) := dk_154 0 9 (dk_at dksX6_lived_0 19 rfl rfl)
theorem dX6_lived_22 : decode cX6_lived 22 = .ok (.aload_n 0, 1) := dk_42 (dk_at dksX6_lived_0 22 rfl rfl)
theorem dX6_lived_23 : decode cX6_lived 23 = .ok (.iconst 5, 1) := dk_8 (dk_at dksX6_lived_0 23 rfl rfl)
theorem dX6_lived_24 : decode cX6_lived 24 = .ok (.invokevirtual 308, 3) := dk_182 1 52 (dk_at dksX6_lived_1 0 rfl rfl)
theorem dX6_lived_27 : decode cX6_lived 27 = .ok (.ireturn, 1) := dk_172 (dk_at dksX6_lived_1 3 rfl rfl)
theorem dX6_lived_28 : decode cX6_lived 28 = .ok (.aload_n 0, 1) := dk_42 (dk_at dksX6_lived_1 4 rfl rfl)
theorem dX6_lived_29 : decode cX6_lived 29 = .ok (.getfield 490, 3) := dk_180 1 234 (dk_at dksX6_lived_1 5 rfl rfl)
theorem dX6_lived_32 : decode cX6_lived 32 = .ok (.ifCond .eq 12, 3) := dk_153 0 12 (dk_at dksX6_lived_1 8 rfl rfl)
theorem dX6_lived_35 : decode cX6_lived 35 = .ok (.aload_n 0, 1) := dk_42 (dk_at dksX6_lived_1 11 rfl rfl)
theorem dX6_lived_36 : decode cX6_lived 36 = .ok (.getfield 71, 3) := dk_180 0 71 (dk_at dksX6_lived_1 12 rfl rfl)
theorem dX6_lived_39 : decode cX6_lived 39 = .ok (.iload_n 1, 1) := dk_27 (dk_at dksX6_lived_1 15 rfl rfl)
theorem dX6_lived_40 : decode cX6_lived 40 = .ok (.iaload, 1) := dk_46 (dk_at dksX6_lived_1 16 rfl rfl)
theorem dX6_lived_41 : decode cX6_lived 41 = .ok (.goto 9, 3) := dk_167 0 9 (dk_at dksX6_lived_1 17 rfl rfl)
theorem dX6_lived_44 : decode cX6_lived 44 = .ok (.aload_n 0, 1) := dk_42 (dk_at dksX6_lived_1 20 rfl rfl)
theorem dX6_lived_45 : decode cX6_lived 45 = .ok (.bipush 8, 2) := dk_16 8 (dk_at dksX6_lived_1 21 rfl rfl)
theorem dX6_lived_47 : decode cX6_lived 47 = .ok (.invokevirtual 308, 3) := dk_182 1 52 (dk_at dksX6_lived_2 0 rfl rfl)
theorem dX6_lived_50 : decode cX6_lived 50 = .ok (.ireturn, 1) := dk_172 (dk_at dksX6_lived_2 3 rfl rfl)
abbrev cX6_mean : ByteArray := prog_16_method_146_code
def yX6_mean : MethodName := ⟨RX6, "mean", "(II)Z"⟩
def dkwX6_mean_0 : List UInt8 := [42, 3, 181, 0, 77, 42, 3, 181, 0, 80, 42, 2, 27, 28, 182, 1, 239, 172]
abbrev dktX6_mean_0 : List UInt8 := dkwX6_mean_0 ++ []
theorem dksX6_mean_0 : cX6_mean.data.toList.drop 0 = dktX6_mean_0 := by decide +kernel
theorem dX6_mean_0 : decode cX6_mean 0 = .ok (.aload_n 0, 1) := dk_42 (dk_at dksX6_mean_0 0 rfl rfl)
theorem dX6_mean_1 : decode cX6_mean 1 = .ok (.iconst 0, 1) := dk_3 (dk_at dksX6_mean_0 1 rfl rfl)
theorem dX6_mean_2 : decode cX6_mean 2 = .ok (.putfield 77, 3) := dk_181 0 77 (dk_at dksX6_mean_0 2 rfl rfl)
theorem dX6_mean_5 : decode cX6_mean 5 = .ok (.aload_n 0, 1) := dk_42 (dk_at dksX6_mean_0 5 rfl rfl)
theorem dX6_mean_6 : decode cX6_mean 6 = .ok (.iconst 0, 1) := dk_3 (dk_at dksX6_mean_0 6 rfl rfl)
theorem dX6_mean_7 : decode cX6_mean 7 = .ok (.putfield 80, 3) := dk_181 0 80 (dk_at dksX6_mean_0 7 rfl rfl)
theorem dX6_mean_10 : decode cX6_mean 10 = .ok (.aload_n 0, 1) := dk_42 (dk_at dksX6_mean_0 10 rfl rfl)
theorem dX6_mean_11 : decode cX6_mean 11 = .ok (.iconst (-1), 1) := dk_2 (dk_at dksX6_mean_0 11 rfl rfl)
theorem dX6_mean_12 : decode cX6_mean 12 = .ok (.iload_n 1, 1) := dk_27 (dk_at dksX6_mean_0 12 rfl rfl)
theorem dX6_mean_13 : decode cX6_mean 13 = .ok (.iload_n 2, 1) := dk_28 (dk_at dksX6_mean_0 13 rfl rfl)
theorem dX6_mean_14 : decode cX6_mean 14 = .ok (.invokevirtual 495, 3) := dk_182 1 239 (dk_at dksX6_mean_0 14 rfl rfl)
theorem dX6_mean_17 : decode cX6_mean 17 = .ok (.ireturn, 1) := dk_172 (dk_at dksX6_mean_0 17 rfl rfl)
abbrev cX6_tried : ByteArray := prog_16_method_145_code
def yX6_tried : MethodName := ⟨RX6, "tried", "(III)Z"⟩
def dkwX6_tried_8 : List UInt8 := [172]
abbrev dktX6_tried_8 : List UInt8 := dkwX6_tried_8 ++ []
def dkwX6_tried_7 : List UInt8 := [21, 7, 46, 79, 132, 7, 1, 167, 255, 231, 132, 6, 1, 167, 255, 169, 42, 22, 4, 29, 133, 182, 1, 178]
abbrev dktX6_tried_7 : List UInt8 := dkwX6_tried_7 ++ dktX6_tried_8
def dkwX6_tried_6 : List UInt8 := [55, 4, 3, 54, 7, 21, 7, 17, 0, 132, 162, 0, 23, 42, 180, 0, 35, 21, 7, 42, 180, 0, 74]
abbrev dktX6_tried_6 : List UInt8 := dkwX6_tried_6 ++ dktX6_tried_7
def dkwX6_tried_5 : List UInt8 := [180, 0, 74, 8, 46, 100, 133, 167, 0, 16, 42, 27, 182, 1, 130, 153, 0, 7, 10, 167, 0, 4, 9, 97]
abbrev dktX6_tried_5 : List UInt8 := dkwX6_tried_5 ++ dktX6_tried_6
def dkwX6_tried_4 : List UInt8 := [162, 0, 87, 42, 28, 21, 6, 96, 182, 1, 231, 22, 4, 27, 156, 0, 20, 42, 180, 0, 35, 8, 46, 42]
abbrev dktX6_tried_4 : List UInt8 := dkwX6_tried_4 ++ dktX6_tried_5
def dkwX6_tried_3 : List UInt8 := [180, 0, 35, 21, 4, 46, 79, 132, 4, 1, 167, 255, 231, 9, 55, 4, 3, 54, 6, 21, 6, 29]
abbrev dktX6_tried_3 : List UInt8 := dkwX6_tried_3 ++ dktX6_tried_4
def dkwX6_tried_2 : List UInt8 := [182, 0, 92, 172, 3, 54, 4, 21, 4, 17, 0, 132, 162, 0, 23, 42, 180, 0, 74, 21, 4, 42]
abbrev dktX6_tried_2 : List UInt8 := dkwX6_tried_2 ++ dktX6_tried_3
def dkwX6_tried_1 : List UInt8 := [154, 0, 9, 42, 8, 182, 0, 92, 172, 42, 180, 0, 35, 17, 0, 132, 46, 154, 0, 10, 42, 16, 8]
abbrev dktX6_tried_1 : List UInt8 := dkwX6_tried_1 ++ dktX6_tried_2
def dkwX6_tried_0 : List UInt8 := [29, 133, 10, 20, 1, 237, 184, 0, 112, 153, 0, 18, 28, 133, 9, 17, 39, 16, 29, 100, 133, 184, 0, 112]
abbrev dktX6_tried_0 : List UInt8 := dkwX6_tried_0 ++ dktX6_tried_1
theorem dksX6_tried_0 : cX6_tried.data.toList.drop 0 = dktX6_tried_0 := by decide +kernel
theorem dksX6_tried_1 : cX6_tried.data.toList.drop 24 = dktX6_tried_1 := dk_seg dksX6_tried_0 24 rfl rfl
theorem dksX6_tried_2 : cX6_tried.data.toList.drop 47 = dktX6_tried_2 := dk_seg dksX6_tried_1 23 rfl rfl
theorem dksX6_tried_3 : cX6_tried.data.toList.drop 69 = dktX6_tried_3 := dk_seg dksX6_tried_2 22 rfl rfl
theorem dksX6_tried_4 : cX6_tried.data.toList.drop 91 = dktX6_tried_4 := dk_seg dksX6_tried_3 22 rfl rfl
theorem dksX6_tried_5 : cX6_tried.data.toList.drop 115 = dktX6_tried_5 := dk_seg dksX6_tried_4 24 rfl rfl
theorem dksX6_tried_6 : cX6_tried.data.toList.drop 139 = dktX6_tried_6 := dk_seg dksX6_tried_5 24 rfl rfl
theorem dksX6_tried_7 : cX6_tried.data.toList.drop 162 = dktX6_tried_7 := dk_seg dksX6_tried_6 23 rfl rfl
theorem dksX6_tried_8 : cX6_tried.data.toList.drop 186 = dktX6_tried_8 := dk_seg dksX6_tried_7 24 rfl rfl
theorem dX6_tried_0 : decode cX6_tried 0 = .ok (.iload_n 3, 1) := dk_29 (dk_at dksX6_tried_0 0 rfl rfl)
theorem dX6_tried_1 : decode cX6_tried 1 = .ok (.i2l, 1) := dk_133 (dk_at dksX6_tried_0 1 rfl rfl)
theorem dX6_tried_2 : decode cX6_tried 2 = .ok (.lconst 1, 1) := dk_10 (dk_at dksX6_tried_0 2 rfl rfl)
theorem dX6_tried_3 : decode cX6_tried 3 = .ok (.ldc2_w 493, 3) := dk_20 1 237 (dk_at dksX6_tried_0 3 rfl rfl)
theorem dX6_tried_6 : decode cX6_tried 6 = .ok (.invokestatic 112, 3) := dk_184 0 112 (dk_at dksX6_tried_0 6 rfl rfl)
theorem dX6_tried_9 : decode cX6_tried 9 = .ok (.ifCond .eq 18, 3) := dk_153 0 18 (dk_at dksX6_tried_0 9 rfl rfl)
theorem dX6_tried_12 : decode cX6_tried 12 = .ok (.iload_n 2, 1) := dk_28 (dk_at dksX6_tried_0 12 rfl rfl)
theorem dX6_tried_13 : decode cX6_tried 13 = .ok (.i2l, 1) := dk_133 (dk_at dksX6_tried_0 13 rfl rfl)
theorem dX6_tried_14 : decode cX6_tried 14 = .ok (.lconst 0, 1) := dk_9 (dk_at dksX6_tried_0 14 rfl rfl)
theorem dX6_tried_15 : decode cX6_tried 15 = .ok (.sipush 10000, 3) := dk_17 39 16 (dk_at dksX6_tried_0 15 rfl rfl)
theorem dX6_tried_18 : decode cX6_tried 18 = .ok (.iload_n 3, 1) := dk_29 (dk_at dksX6_tried_0 18 rfl rfl)
theorem dX6_tried_19 : decode cX6_tried 19 = .ok (.isub, 1) := dk_100 (dk_at dksX6_tried_0 19 rfl rfl)
theorem dX6_tried_20 : decode cX6_tried 20 = .ok (.i2l, 1) := dk_133 (dk_at dksX6_tried_0 20 rfl rfl)
theorem dX6_tried_21 : decode cX6_tried 21 = .ok (.invokestatic 112, 3) := dk_184 0 112 (dk_at dksX6_tried_0 21 rfl rfl)
theorem dX6_tried_24 : decode cX6_tried 24 = .ok (.ifCond .ne 9, 3) := dk_154 0 9 (dk_at dksX6_tried_1 0 rfl rfl)
theorem dX6_tried_27 : decode cX6_tried 27 = .ok (.aload_n 0, 1) := dk_42 (dk_at dksX6_tried_1 3 rfl rfl)
theorem dX6_tried_28 : decode cX6_tried 28 = .ok (.iconst 5, 1) := dk_8 (dk_at dksX6_tried_1 4 rfl rfl)
theorem dX6_tried_29 : decode cX6_tried 29 = .ok (.invokevirtual 92, 3) := dk_182 0 92 (dk_at dksX6_tried_1 5 rfl rfl)
theorem dX6_tried_32 : decode cX6_tried 32 = .ok (.ireturn, 1) := dk_172 (dk_at dksX6_tried_1 8 rfl rfl)
theorem dX6_tried_33 : decode cX6_tried 33 = .ok (.aload_n 0, 1) := dk_42 (dk_at dksX6_tried_1 9 rfl rfl)
theorem dX6_tried_34 : decode cX6_tried 34 = .ok (.getfield 35, 3) := dk_180 0 35 (dk_at dksX6_tried_1 10 rfl rfl)
theorem dX6_tried_37 : decode cX6_tried 37 = .ok (.sipush 132, 3) := dk_17 0 132 (dk_at dksX6_tried_1 13 rfl rfl)
theorem dX6_tried_40 : decode cX6_tried 40 = .ok (.iaload, 1) := dk_46 (dk_at dksX6_tried_1 16 rfl rfl)
theorem dX6_tried_41 : decode cX6_tried 41 = .ok (.ifCond .ne 10, 3) := dk_154 0 10 (dk_at dksX6_tried_1 17 rfl rfl)
theorem dX6_tried_44 : decode cX6_tried 44 = .ok (.aload_n 0, 1) := dk_42 (dk_at dksX6_tried_1 20 rfl rfl)
theorem dX6_tried_45 : decode cX6_tried 45 = .ok (.bipush 8, 2) := dk_16 8 (dk_at dksX6_tried_1 21 rfl rfl)
theorem dX6_tried_47 : decode cX6_tried 47 = .ok (.invokevirtual 92, 3) := dk_182 0 92 (dk_at dksX6_tried_2 0 rfl rfl)
theorem dX6_tried_50 : decode cX6_tried 50 = .ok (.ireturn, 1) := dk_172 (dk_at dksX6_tried_2 3 rfl rfl)
theorem dX6_tried_51 : decode cX6_tried 51 = .ok (.iconst 0, 1) := dk_3 (dk_at dksX6_tried_2 4 rfl rfl)
theorem dX6_tried_52 : decode cX6_tried 52 = .ok (.istore 4, 2) := dk_54 4 (dk_at dksX6_tried_2 5 rfl rfl)
theorem dX6_tried_54 : decode cX6_tried 54 = .ok (.iload 4, 2) := dk_21 4 (dk_at dksX6_tried_2 7 rfl rfl)
theorem dX6_tried_56 : decode cX6_tried 56 = .ok (.sipush 132, 3) := dk_17 0 132 (dk_at dksX6_tried_2 9 rfl rfl)
theorem dX6_tried_59 : decode cX6_tried 59 = .ok (.if_icmp .ge 23, 3) := dk_162 0 23 (dk_at dksX6_tried_2 12 rfl rfl)
theorem dX6_tried_62 : decode cX6_tried 62 = .ok (.aload_n 0, 1) := dk_42 (dk_at dksX6_tried_2 15 rfl rfl)
theorem dX6_tried_63 : decode cX6_tried 63 = .ok (.getfield 74, 3) := dk_180 0 74 (dk_at dksX6_tried_2 16 rfl rfl)
theorem dX6_tried_66 : decode cX6_tried 66 = .ok (.iload 4, 2) := dk_21 4 (dk_at dksX6_tried_2 19 rfl rfl)
theorem dX6_tried_68 : decode cX6_tried 68 = .ok (.aload_n 0, 1) := dk_42 (dk_at dksX6_tried_2 21 rfl rfl)
theorem dX6_tried_69 : decode cX6_tried 69 = .ok (.getfield 35, 3) := dk_180 0 35 (dk_at dksX6_tried_3 0 rfl rfl)
theorem dX6_tried_72 : decode cX6_tried 72 = .ok (.iload 4, 2) := dk_21 4 (dk_at dksX6_tried_3 3 rfl rfl)
theorem dX6_tried_74 : decode cX6_tried 74 = .ok (.iaload, 1) := dk_46 (dk_at dksX6_tried_3 5 rfl rfl)
theorem dX6_tried_75 : decode cX6_tried 75 = .ok (.iastore, 1) := dk_79 (dk_at dksX6_tried_3 6 rfl rfl)
theorem dX6_tried_76 : decode cX6_tried 76 = .ok (.iinc 4 1, 3) := dk_132 4 1 (dk_at dksX6_tried_3 7 rfl rfl)
theorem dX6_tried_79 : decode cX6_tried 79 = .ok (.goto (-25), 3) := dk_167 255 231 (dk_at dksX6_tried_3 10 rfl rfl)
theorem dX6_tried_82 : decode cX6_tried 82 = .ok (.lconst 0, 1) := dk_9 (dk_at dksX6_tried_3 13 rfl rfl)
theorem dX6_tried_83 : decode cX6_tried 83 = .ok (.lstore 4, 2) := dk_55 4 (dk_at dksX6_tried_3 14 rfl rfl)
theorem dX6_tried_85 : decode cX6_tried 85 = .ok (.iconst 0, 1) := dk_3 (dk_at dksX6_tried_3 16 rfl rfl)
theorem dX6_tried_86 : decode cX6_tried 86 = .ok (.istore 6, 2) := dk_54 6 (dk_at dksX6_tried_3 17 rfl rfl)
theorem dX6_tried_88 : decode cX6_tried 88 = .ok (.iload 6, 2) := dk_21 6 (dk_at dksX6_tried_3 19 rfl rfl)
theorem dX6_tried_90 : decode cX6_tried 90 = .ok (.iload_n 3, 1) := dk_29 (dk_at dksX6_tried_3 21 rfl rfl)
theorem dX6_tried_91 : decode cX6_tried 91 = .ok (.if_icmp .ge 87, 3) := dk_162 0 87 (dk_at dksX6_tried_4 0 rfl rfl)
theorem dX6_tried_94 : decode cX6_tried 94 = .ok (.aload_n 0, 1) := dk_42 (dk_at dksX6_tried_4 3 rfl rfl)
theorem dX6_tried_95 : decode cX6_tried 95 = .ok (.iload_n 2, 1) := dk_28 (dk_at dksX6_tried_4 4 rfl rfl)
theorem dX6_tried_96 : decode cX6_tried 96 = .ok (.iload 6, 2) := dk_21 6 (dk_at dksX6_tried_4 5 rfl rfl)
theorem dX6_tried_98 : decode cX6_tried 98 = .ok (.iadd, 1) := dk_96 (dk_at dksX6_tried_4 7 rfl rfl)
theorem dX6_tried_99 : decode cX6_tried 99 = .ok (.invokevirtual 487, 3) := dk_182 1 231 (dk_at dksX6_tried_4 8 rfl rfl)
theorem dX6_tried_102 : decode cX6_tried 102 = .ok (.lload 4, 2) := dk_22 4 (dk_at dksX6_tried_4 11 rfl rfl)
theorem dX6_tried_104 : decode cX6_tried 104 = .ok (.iload_n 1, 1) := dk_27 (dk_at dksX6_tried_4 13 rfl rfl)
theorem dX6_tried_105 : decode cX6_tried 105 = .ok (.ifCond .ge 20, 3) := dk_156 0 20 (dk_at dksX6_tried_4 14 rfl rfl)
theorem dX6_tried_108 : decode cX6_tried 108 = .ok (.aload_n 0, 1) := dk_42 (dk_at dksX6_tried_4 17 rfl rfl)
theorem dX6_tried_109 : decode cX6_tried 109 = .ok (.getfield 35, 3) := dk_180 0 35 (dk_at dksX6_tried_4 18 rfl rfl)
theorem dX6_tried_112 : decode cX6_tried 112 = .ok (.iconst 5, 1) := dk_8 (dk_at dksX6_tried_4 21 rfl rfl)
theorem dX6_tried_113 : decode cX6_tried 113 = .ok (.iaload, 1) := dk_46 (dk_at dksX6_tried_4 22 rfl rfl)
theorem dX6_tried_114 : decode cX6_tried 114 = .ok (.aload_n 0, 1) := dk_42 (dk_at dksX6_tried_4 23 rfl rfl)
theorem dX6_tried_115 : decode cX6_tried 115 = .ok (.getfield 74, 3) := dk_180 0 74 (dk_at dksX6_tried_5 0 rfl rfl)
theorem dX6_tried_118 : decode cX6_tried 118 = .ok (.iconst 5, 1) := dk_8 (dk_at dksX6_tried_5 3 rfl rfl)
theorem dX6_tried_119 : decode cX6_tried 119 = .ok (.iaload, 1) := dk_46 (dk_at dksX6_tried_5 4 rfl rfl)
theorem dX6_tried_120 : decode cX6_tried 120 = .ok (.isub, 1) := dk_100 (dk_at dksX6_tried_5 5 rfl rfl)
theorem dX6_tried_121 : decode cX6_tried 121 = .ok (.i2l, 1) := dk_133 (dk_at dksX6_tried_5 6 rfl rfl)
theorem dX6_tried_122 : decode cX6_tried 122 = .ok (.goto 16, 3) := dk_167 0 16 (dk_at dksX6_tried_5 7 rfl rfl)
theorem dX6_tried_125 : decode cX6_tried 125 = .ok (.aload_n 0, 1) := dk_42 (dk_at dksX6_tried_5 10 rfl rfl)
theorem dX6_tried_126 : decode cX6_tried 126 = .ok (.iload_n 1, 1) := dk_27 (dk_at dksX6_tried_5 11 rfl rfl)
theorem dX6_tried_127 : decode cX6_tried 127 = .ok (.invokevirtual 386, 3) := dk_182 1 130 (dk_at dksX6_tried_5 12 rfl rfl)
theorem dX6_tried_130 : decode cX6_tried 130 = .ok (.ifCond .eq 7, 3) := dk_153 0 7 (dk_at dksX6_tried_5 15 rfl rfl)
theorem dX6_tried_133 : decode cX6_tried 133 = .ok (.lconst 1, 1) := dk_10 (dk_at dksX6_tried_5 18 rfl rfl)
theorem dX6_tried_134 : decode cX6_tried 134 = .ok (.goto 4, 3) := dk_167 0 4 (dk_at dksX6_tried_5 19 rfl rfl)
theorem dX6_tried_137 : decode cX6_tried 137 = .ok (.lconst 0, 1) := dk_9 (dk_at dksX6_tried_5 22 rfl rfl)
theorem dX6_tried_138 : decode cX6_tried 138 = .ok (.ladd, 1) := dk_97 (dk_at dksX6_tried_5 23 rfl rfl)
theorem dX6_tried_139 : decode cX6_tried 139 = .ok (.lstore 4, 2) := dk_55 4 (dk_at dksX6_tried_6 0 rfl rfl)
theorem dX6_tried_141 : decode cX6_tried 141 = .ok (.iconst 0, 1) := dk_3 (dk_at dksX6_tried_6 2 rfl rfl)
theorem dX6_tried_142 : decode cX6_tried 142 = .ok (.istore 7, 2) := dk_54 7 (dk_at dksX6_tried_6 3 rfl rfl)
theorem dX6_tried_144 : decode cX6_tried 144 = .ok (.iload 7, 2) := dk_21 7 (dk_at dksX6_tried_6 5 rfl rfl)
theorem dX6_tried_146 : decode cX6_tried 146 = .ok (.sipush 132, 3) := dk_17 0 132 (dk_at dksX6_tried_6 7 rfl rfl)
theorem dX6_tried_149 : decode cX6_tried 149 = .ok (.if_icmp .ge 23, 3) := dk_162 0 23 (dk_at dksX6_tried_6 10 rfl rfl)
theorem dX6_tried_152 : decode cX6_tried 152 = .ok (.aload_n 0, 1) := dk_42 (dk_at dksX6_tried_6 13 rfl rfl)
theorem dX6_tried_153 : decode cX6_tried 153 = .ok (.getfield 35, 3) := dk_180 0 35 (dk_at dksX6_tried_6 14 rfl rfl)
theorem dX6_tried_156 : decode cX6_tried 156 = .ok (.iload 7, 2) := dk_21 7 (dk_at dksX6_tried_6 17 rfl rfl)
theorem dX6_tried_158 : decode cX6_tried 158 = .ok (.aload_n 0, 1) := dk_42 (dk_at dksX6_tried_6 19 rfl rfl)
theorem dX6_tried_159 : decode cX6_tried 159 = .ok (.getfield 74, 3) := dk_180 0 74 (dk_at dksX6_tried_6 20 rfl rfl)
theorem dX6_tried_162 : decode cX6_tried 162 = .ok (.iload 7, 2) := dk_21 7 (dk_at dksX6_tried_7 0 rfl rfl)
theorem dX6_tried_164 : decode cX6_tried 164 = .ok (.iaload, 1) := dk_46 (dk_at dksX6_tried_7 2 rfl rfl)
theorem dX6_tried_165 : decode cX6_tried 165 = .ok (.iastore, 1) := dk_79 (dk_at dksX6_tried_7 3 rfl rfl)
theorem dX6_tried_166 : decode cX6_tried 166 = .ok (.iinc 7 1, 3) := dk_132 7 1 (dk_at dksX6_tried_7 4 rfl rfl)
theorem dX6_tried_169 : decode cX6_tried 169 = .ok (.goto (-25), 3) := dk_167 255 231 (dk_at dksX6_tried_7 7 rfl rfl)
theorem dX6_tried_172 : decode cX6_tried 172 = .ok (.iinc 6 1, 3) := dk_132 6 1 (dk_at dksX6_tried_7 10 rfl rfl)
theorem dX6_tried_175 : decode cX6_tried 175 = .ok (.goto (-87), 3) := dk_167 255 169 (dk_at dksX6_tried_7 13 rfl rfl)
theorem dX6_tried_178 : decode cX6_tried 178 = .ok (.aload_n 0, 1) := dk_42 (dk_at dksX6_tried_7 16 rfl rfl)
theorem dX6_tried_179 : decode cX6_tried 179 = .ok (.lload 4, 2) := dk_22 4 (dk_at dksX6_tried_7 17 rfl rfl)
theorem dX6_tried_181 : decode cX6_tried 181 = .ok (.iload_n 3, 1) := dk_29 (dk_at dksX6_tried_7 19 rfl rfl)
theorem dX6_tried_182 : decode cX6_tried 182 = .ok (.i2l, 1) := dk_133 (dk_at dksX6_tried_7 20 rfl rfl)
theorem dX6_tried_183 : decode cX6_tried 183 = .ok (.invokevirtual 434, 3) := dk_182 1 178 (dk_at dksX6_tried_7 21 rfl rfl)
theorem dX6_tried_186 : decode cX6_tried 186 = .ok (.ireturn, 1) := dk_172 (dk_at dksX6_tried_8 0 rfl rfl)
abbrev cX6_odds : ByteArray := prog_16_method_147_code
def yX6_odds : MethodName := ⟨RX6, "odds", "(III)Z"⟩
def dkwX6_odds_1 : List UInt8 := [182, 1, 239, 167, 0, 8, 42, 5, 182, 0, 92, 172]
abbrev dktX6_odds_1 : List UInt8 := dkwX6_odds_1 ++ []
def dkwX6_odds_0 : List UInt8 := [42, 3, 181, 0, 77, 42, 3, 181, 0, 80, 42, 27, 182, 1, 55, 153, 0, 13, 42, 27, 28, 29]
abbrev dktX6_odds_0 : List UInt8 := dkwX6_odds_0 ++ dktX6_odds_1
theorem dksX6_odds_0 : cX6_odds.data.toList.drop 0 = dktX6_odds_0 := by decide +kernel
theorem dksX6_odds_1 : cX6_odds.data.toList.drop 22 = dktX6_odds_1 := dk_seg dksX6_odds_0 22 rfl rfl
theorem dX6_odds_0 : decode cX6_odds 0 = .ok (.aload_n 0, 1) := dk_42 (dk_at dksX6_odds_0 0 rfl rfl)
theorem dX6_odds_1 : decode cX6_odds 1 = .ok (.iconst 0, 1) := dk_3 (dk_at dksX6_odds_0 1 rfl rfl)
theorem dX6_odds_2 : decode cX6_odds 2 = .ok (.putfield 77, 3) := dk_181 0 77 (dk_at dksX6_odds_0 2 rfl rfl)
theorem dX6_odds_5 : decode cX6_odds 5 = .ok (.aload_n 0, 1) := dk_42 (dk_at dksX6_odds_0 5 rfl rfl)
theorem dX6_odds_6 : decode cX6_odds 6 = .ok (.iconst 0, 1) := dk_3 (dk_at dksX6_odds_0 6 rfl rfl)
theorem dX6_odds_7 : decode cX6_odds 7 = .ok (.putfield 80, 3) := dk_181 0 80 (dk_at dksX6_odds_0 7 rfl rfl)
theorem dX6_odds_10 : decode cX6_odds 10 = .ok (.aload_n 0, 1) := dk_42 (dk_at dksX6_odds_0 10 rfl rfl)
theorem dX6_odds_11 : decode cX6_odds 11 = .ok (.iload_n 1, 1) := dk_27 (dk_at dksX6_odds_0 11 rfl rfl)
theorem dX6_odds_12 : decode cX6_odds 12 = .ok (.invokevirtual 311, 3) := dk_182 1 55 (dk_at dksX6_odds_0 12 rfl rfl)
theorem dX6_odds_15 : decode cX6_odds 15 = .ok (.ifCond .eq 13, 3) := dk_153 0 13 (dk_at dksX6_odds_0 15 rfl rfl)
theorem dX6_odds_18 : decode cX6_odds 18 = .ok (.aload_n 0, 1) := dk_42 (dk_at dksX6_odds_0 18 rfl rfl)
theorem dX6_odds_19 : decode cX6_odds 19 = .ok (.iload_n 1, 1) := dk_27 (dk_at dksX6_odds_0 19 rfl rfl)
theorem dX6_odds_20 : decode cX6_odds 20 = .ok (.iload_n 2, 1) := dk_28 (dk_at dksX6_odds_0 20 rfl rfl)
theorem dX6_odds_21 : decode cX6_odds 21 = .ok (.iload_n 3, 1) := dk_29 (dk_at dksX6_odds_0 21 rfl rfl)
theorem dX6_odds_22 : decode cX6_odds 22 = .ok (.invokevirtual 495, 3) := dk_182 1 239 (dk_at dksX6_odds_1 0 rfl rfl)
theorem dX6_odds_25 : decode cX6_odds 25 = .ok (.goto 8, 3) := dk_167 0 8 (dk_at dksX6_odds_1 3 rfl rfl)
theorem dX6_odds_28 : decode cX6_odds 28 = .ok (.aload_n 0, 1) := dk_42 (dk_at dksX6_odds_1 6 rfl rfl)
theorem dX6_odds_29 : decode cX6_odds 29 = .ok (.iconst 2, 1) := dk_5 (dk_at dksX6_odds_1 7 rfl rfl)
theorem dX6_odds_30 : decode cX6_odds 30 = .ok (.invokevirtual 92, 3) := dk_182 0 92 (dk_at dksX6_odds_1 8 rfl rfl)
theorem dX6_odds_33 : decode cX6_odds 33 = .ok (.ireturn, 1) := dk_172 (dk_at dksX6_odds_1 11 rfl rfl)
abbrev cX6_mark : ByteArray := prog_16_method_149_code
def yX6_mark : MethodName := ⟨RX6, "mark", "()I"⟩
def dkwX6_mark_2 : List UInt8 := [172]
abbrev dktX6_mark_2 : List UInt8 := dkwX6_mark_2 ++ []
def dkwX6_mark_1 : List UInt8 := [172, 42, 89, 180, 1, 243, 4, 96, 181, 1, 243, 42, 3, 42, 180, 1, 243, 182, 1, 26, 42, 180, 1, 243]
abbrev dktX6_mark_1 : List UInt8 := dkwX6_mark_1 ++ dktX6_mark_2
def dkwX6_mark_0 : List UInt8 := [42, 3, 181, 0, 77, 42, 3, 181, 0, 80, 42, 180, 1, 243, 6, 160, 0, 10, 42, 16, 7, 182, 1, 52]
abbrev dktX6_mark_0 : List UInt8 := dkwX6_mark_0 ++ dktX6_mark_1
theorem dksX6_mark_0 : cX6_mark.data.toList.drop 0 = dktX6_mark_0 := by decide +kernel
theorem dksX6_mark_1 : cX6_mark.data.toList.drop 24 = dktX6_mark_1 := dk_seg dksX6_mark_0 24 rfl rfl
theorem dksX6_mark_2 : cX6_mark.data.toList.drop 48 = dktX6_mark_2 := dk_seg dksX6_mark_1 24 rfl rfl
theorem dX6_mark_0 : decode cX6_mark 0 = .ok (.aload_n 0, 1) := dk_42 (dk_at dksX6_mark_0 0 rfl rfl)
theorem dX6_mark_1 : decode cX6_mark 1 = .ok (.iconst 0, 1) := dk_3 (dk_at dksX6_mark_0 1 rfl rfl)
theorem dX6_mark_2 : decode cX6_mark 2 = .ok (.putfield 77, 3) := dk_181 0 77 (dk_at dksX6_mark_0 2 rfl rfl)
theorem dX6_mark_5 : decode cX6_mark 5 = .ok (.aload_n 0, 1) := dk_42 (dk_at dksX6_mark_0 5 rfl rfl)
theorem dX6_mark_6 : decode cX6_mark 6 = .ok (.iconst 0, 1) := dk_3 (dk_at dksX6_mark_0 6 rfl rfl)
theorem dX6_mark_7 : decode cX6_mark 7 = .ok (.putfield 80, 3) := dk_181 0 80 (dk_at dksX6_mark_0 7 rfl rfl)
theorem dX6_mark_10 : decode cX6_mark 10 = .ok (.aload_n 0, 1) := dk_42 (dk_at dksX6_mark_0 10 rfl rfl)
theorem dX6_mark_11 : decode cX6_mark 11 = .ok (.getfield 499, 3) := dk_180 1 243 (dk_at dksX6_mark_0 11 rfl rfl)
theorem dX6_mark_14 : decode cX6_mark 14 = .ok (.iconst 3, 1) := dk_6 (dk_at dksX6_mark_0 14 rfl rfl)
theorem dX6_mark_15 : decode cX6_mark 15 = .ok (.if_icmp .ne 10, 3) := dk_160 0 10 (dk_at dksX6_mark_0 15 rfl rfl)
theorem dX6_mark_18 : decode cX6_mark 18 = .ok (.aload_n 0, 1) := dk_42 (dk_at dksX6_mark_0 18 rfl rfl)
theorem dX6_mark_19 : decode cX6_mark 19 = .ok (.bipush 7, 2) := dk_16 7 (dk_at dksX6_mark_0 19 rfl rfl)
theorem dX6_mark_21 : decode cX6_mark 21 = .ok (.invokevirtual 308, 3) := dk_182 1 52 (dk_at dksX6_mark_0 21 rfl rfl)
theorem dX6_mark_24 : decode cX6_mark 24 = .ok (.ireturn, 1) := dk_172 (dk_at dksX6_mark_1 0 rfl rfl)
theorem dX6_mark_25 : decode cX6_mark 25 = .ok (.aload_n 0, 1) := dk_42 (dk_at dksX6_mark_1 1 rfl rfl)
theorem dX6_mark_26 : decode cX6_mark 26 = .ok (.dup, 1) := dk_89 (dk_at dksX6_mark_1 2 rfl rfl)
theorem dX6_mark_27 : decode cX6_mark 27 = .ok (.getfield 499, 3) := dk_180 1 243 (dk_at dksX6_mark_1 3 rfl rfl)
theorem dX6_mark_30 : decode cX6_mark 30 = .ok (.iconst 1, 1) := dk_4 (dk_at dksX6_mark_1 6 rfl rfl)
theorem dX6_mark_31 : decode cX6_mark 31 = .ok (.iadd, 1) := dk_96 (dk_at dksX6_mark_1 7 rfl rfl)
theorem dX6_mark_32 : decode cX6_mark 32 = .ok (.putfield 499, 3) := dk_181 1 243 (dk_at dksX6_mark_1 8 rfl rfl)
theorem dX6_mark_35 : decode cX6_mark 35 = .ok (.aload_n 0, 1) := dk_42 (dk_at dksX6_mark_1 11 rfl rfl)
theorem dX6_mark_36 : decode cX6_mark 36 = .ok (.iconst 0, 1) := dk_3 (dk_at dksX6_mark_1 12 rfl rfl)
theorem dX6_mark_37 : decode cX6_mark 37 = .ok (.aload_n 0, 1) := dk_42 (dk_at dksX6_mark_1 13 rfl rfl)
theorem dX6_mark_38 : decode cX6_mark 38 = .ok (.getfield 499, 3) := dk_180 1 243 (dk_at dksX6_mark_1 14 rfl rfl)
theorem dX6_mark_41 : decode cX6_mark 41 = .ok (.invokevirtual 282, 3) := dk_182 1 26 (dk_at dksX6_mark_1 17 rfl rfl)
theorem dX6_mark_44 : decode cX6_mark 44 = .ok (.aload_n 0, 1) := dk_42 (dk_at dksX6_mark_1 20 rfl rfl)
theorem dX6_mark_45 : decode cX6_mark 45 = .ok (.getfield 499, 3) := dk_180 1 243 (dk_at dksX6_mark_1 21 rfl rfl)
theorem dX6_mark_48 : decode cX6_mark 48 = .ok (.ireturn, 1) := dk_172 (dk_at dksX6_mark_2 0 rfl rfl)
abbrev cX6_back : ByteArray := prog_16_method_150_code
def yX6_back : MethodName := ⟨RX6, "back", "()I"⟩
def dkwX6_back_1 : List UInt8 := [42, 42, 180, 1, 243, 3, 182, 1, 26, 42, 89, 180, 1, 243, 4, 100, 181, 1, 243, 42, 180, 1, 243, 172]
abbrev dktX6_back_1 : List UInt8 := dkwX6_back_1 ++ []
def dkwX6_back_0 : List UInt8 := [42, 3, 181, 0, 77, 42, 3, 181, 0, 80, 42, 180, 1, 243, 154, 0, 10, 42, 16, 8, 182, 1, 52, 172]
abbrev dktX6_back_0 : List UInt8 := dkwX6_back_0 ++ dktX6_back_1
theorem dksX6_back_0 : cX6_back.data.toList.drop 0 = dktX6_back_0 := by decide +kernel
theorem dksX6_back_1 : cX6_back.data.toList.drop 24 = dktX6_back_1 := dk_seg dksX6_back_0 24 rfl rfl
theorem dX6_back_0 : decode cX6_back 0 = .ok (.aload_n 0, 1) := dk_42 (dk_at dksX6_back_0 0 rfl rfl)
theorem dX6_back_1 : decode cX6_back 1 = .ok (.iconst 0, 1) := dk_3 (dk_at dksX6_back_0 1 rfl rfl)
theorem dX6_back_2 : decode cX6_back 2 = .ok (.putfield 77, 3) := dk_181 0 77 (dk_at dksX6_back_0 2 rfl rfl)
theorem dX6_back_5 : decode cX6_back 5 = .ok (.aload_n 0, 1) := dk_42 (dk_at dksX6_back_0 5 rfl rfl)
theorem dX6_back_6 : decode cX6_back 6 = .ok (.iconst 0, 1) := dk_3 (dk_at dksX6_back_0 6 rfl rfl)
theorem dX6_back_7 : decode cX6_back 7 = .ok (.putfield 80, 3) := dk_181 0 80 (dk_at dksX6_back_0 7 rfl rfl)
theorem dX6_back_10 : decode cX6_back 10 = .ok (.aload_n 0, 1) := dk_42 (dk_at dksX6_back_0 10 rfl rfl)
theorem dX6_back_11 : decode cX6_back 11 = .ok (.getfield 499, 3) := dk_180 1 243 (dk_at dksX6_back_0 11 rfl rfl)
theorem dX6_back_14 : decode cX6_back 14 = .ok (.ifCond .ne 10, 3) := dk_154 0 10 (dk_at dksX6_back_0 14 rfl rfl)
theorem dX6_back_17 : decode cX6_back 17 = .ok (.aload_n 0, 1) := dk_42 (dk_at dksX6_back_0 17 rfl rfl)
theorem dX6_back_18 : decode cX6_back 18 = .ok (.bipush 8, 2) := dk_16 8 (dk_at dksX6_back_0 18 rfl rfl)
theorem dX6_back_20 : decode cX6_back 20 = .ok (.invokevirtual 308, 3) := dk_182 1 52 (dk_at dksX6_back_0 20 rfl rfl)
theorem dX6_back_23 : decode cX6_back 23 = .ok (.ireturn, 1) := dk_172 (dk_at dksX6_back_0 23 rfl rfl)
theorem dX6_back_24 : decode cX6_back 24 = .ok (.aload_n 0, 1) := dk_42 (dk_at dksX6_back_1 0 rfl rfl)
theorem dX6_back_25 : decode cX6_back 25 = .ok (.aload_n 0, 1) := dk_42 (dk_at dksX6_back_1 1 rfl rfl)
theorem dX6_back_26 : decode cX6_back 26 = .ok (.getfield 499, 3) := dk_180 1 243 (dk_at dksX6_back_1 2 rfl rfl)
theorem dX6_back_29 : decode cX6_back 29 = .ok (.iconst 0, 1) := dk_3 (dk_at dksX6_back_1 5 rfl rfl)
theorem dX6_back_30 : decode cX6_back 30 = .ok (.invokevirtual 282, 3) := dk_182 1 26 (dk_at dksX6_back_1 6 rfl rfl)
theorem dX6_back_33 : decode cX6_back 33 = .ok (.aload_n 0, 1) := dk_42 (dk_at dksX6_back_1 9 rfl rfl)
theorem dX6_back_34 : decode cX6_back 34 = .ok (.dup, 1) := dk_89 (dk_at dksX6_back_1 10 rfl rfl)
theorem dX6_back_35 : decode cX6_back 35 = .ok (.getfield 499, 3) := dk_180 1 243 (dk_at dksX6_back_1 11 rfl rfl)
theorem dX6_back_38 : decode cX6_back 38 = .ok (.iconst 1, 1) := dk_4 (dk_at dksX6_back_1 14 rfl rfl)
theorem dX6_back_39 : decode cX6_back 39 = .ok (.isub, 1) := dk_100 (dk_at dksX6_back_1 15 rfl rfl)
theorem dX6_back_40 : decode cX6_back 40 = .ok (.putfield 499, 3) := dk_181 1 243 (dk_at dksX6_back_1 16 rfl rfl)
theorem dX6_back_43 : decode cX6_back 43 = .ok (.aload_n 0, 1) := dk_42 (dk_at dksX6_back_1 19 rfl rfl)
theorem dX6_back_44 : decode cX6_back 44 = .ok (.getfield 499, 3) := dk_180 1 243 (dk_at dksX6_back_1 20 rfl rfl)
theorem dX6_back_47 : decode cX6_back 47 = .ok (.ireturn, 1) := dk_172 (dk_at dksX6_back_1 23 rfl rfl)
theorem q143 : (Jvm.Cond.initialized "CableDrawerModel") ∈ lw_all := lw_g (lw_at lw_m1 10 rfl) rfl
theorem q1546 : (Jvm.Cond.instantiable "CableDrawerModel" (50 : Nat)) ∈ lw_all := lw_g (lw_at lw_m6 213 rfl) rfl
theorem q1548 : (Jvm.Cond.instanceMethod ({ cls := "CableDrawerModel", name := "<init>", desc := "()V" } : Jvm.MethodName)) ∈ lw_all := lw_g (lw_at lw_m6 215 rfl) rfl
theorem q1549 : (Jvm.Cond.code ({ cls := "CableDrawerModel", name := "<init>", desc := "()V" } : Jvm.MethodName) prog_16_method_1_code (2 : Nat) (Option.none : Option Jvm.ClassFile.FieldType)) ∈ lw_all := lw_g (lw_at lw_m6 216 rfl) rfl
theorem q1550 : (Jvm.Cond.methodLink "CableDrawerModel" (1 : Nat) ({ cls := "java/lang/Object", name := "<init>", desc := "()V" } : Jvm.MethodName)) ∈ lw_all := lw_g (lw_at lw_m6 217 rfl) rfl
theorem q1551 : (Jvm.Cond.fieldLink "CableDrawerModel" (80 : Nat) "CableDrawerModel" "status" "I") ∈ lw_all := lw_g (lw_at lw_m6 218 rfl) rfl
theorem q1552 : (Jvm.Cond.fieldLink "CableDrawerModel" (77 : Nat) "CableDrawerModel" "thrown" "I") ∈ lw_all := lw_g (lw_at lw_m6 219 rfl) rfl
theorem q1553 : (Jvm.Cond.fieldLink "CableDrawerModel" (83 : Nat) "CableDrawerModel" "above" "J") ∈ lw_all := lw_g (lw_at lw_m6 220 rfl) rfl
theorem q1554 : (Jvm.Cond.fieldLink "CableDrawerModel" (7 : Nat) "CableDrawerModel" "under" "J") ∈ lw_all := lw_g (lw_at lw_m6 221 rfl) rfl
theorem q1555 : (Jvm.Cond.fieldLink "CableDrawerModel" (13 : Nat) "CableDrawerModel" "traySort" "[I") ∈ lw_all := lw_g (lw_at lw_m6 222 rfl) rfl
theorem q1556 : (Jvm.Cond.fieldLink "CableDrawerModel" (17 : Nat) "CableDrawerModel" "trayMany" "[I") ∈ lw_all := lw_g (lw_at lw_m6 223 rfl) rfl
theorem q1557 : (Jvm.Cond.fieldLink "CableDrawerModel" (20 : Nat) "CableDrawerModel" "numbers" "[J") ∈ lw_all := lw_g (lw_at lw_m6 224 rfl) rfl
theorem q1558 : (Jvm.Cond.fieldLink "CableDrawerModel" (24 : Nat) "CableDrawerModel" "tape" "[B") ∈ lw_all := lw_g (lw_at lw_m6 225 rfl) rfl
theorem q1559 : (Jvm.Cond.fieldLink "CableDrawerModel" (232 : Nat) "CableDrawerModel" "taped" "I") ∈ lw_all := lw_g (lw_at lw_m6 226 rfl) rfl
theorem q1560 : (Jvm.Cond.fieldLink "CableDrawerModel" (120 : Nat) "CableDrawerModel" "textEnd" "I") ∈ lw_all := lw_g (lw_at lw_m6 227 rfl) rfl
theorem q1561 : (Jvm.Cond.fieldLink "CableDrawerModel" (28 : Nat) "CableDrawerModel" "faultKind" "I") ∈ lw_all := lw_g (lw_at lw_m6 228 rfl) rfl
theorem q1562 : (Jvm.Cond.fieldLink "CableDrawerModel" (32 : Nat) "CableDrawerModel" "faultAt" "I") ∈ lw_all := lw_g (lw_at lw_m6 229 rfl) rfl
theorem q1563 : (Jvm.Cond.fieldLink "CableDrawerModel" (216 : Nat) "CableDrawerModel" "bad" "I") ∈ lw_all := lw_g (lw_at lw_m6 230 rfl) rfl
theorem q1564 : (Jvm.Cond.fieldLink "CableDrawerModel" (219 : Nat) "CableDrawerModel" "badAt" "I") ∈ lw_all := lw_g (lw_at lw_m6 231 rfl) rfl
theorem q1565 : (Jvm.Cond.fieldLink "CableDrawerModel" (132 : Nat) "CableDrawerModel" "token" "I") ∈ lw_all := lw_g (lw_at lw_m6 232 rfl) rfl
theorem q1566 : (Jvm.Cond.fieldLink "CableDrawerModel" (126 : Nat) "CableDrawerModel" "at" "I") ∈ lw_all := lw_g (lw_at lw_m6 233 rfl) rfl
theorem q1567 : (Jvm.Cond.fieldLink "CableDrawerModel" (123 : Nat) "CableDrawerModel" "behind" "I") ∈ lw_all := lw_g (lw_at lw_m6 234 rfl) rfl
theorem q1568 : (Jvm.Cond.fieldLink "CableDrawerModel" (151 : Nat) "CableDrawerModel" "number" "I") ∈ lw_all := lw_g (lw_at lw_m6 235 rfl) rfl
theorem q1569 : (Jvm.Cond.fieldLink "CableDrawerModel" (145 : Nat) "CableDrawerModel" "letters" "I") ∈ lw_all := lw_g (lw_at lw_m6 236 rfl) rfl
theorem q1570 : (Jvm.Cond.fieldLink "CableDrawerModel" (138 : Nat) "CableDrawerModel" "word" "J") ∈ lw_all := lw_g (lw_at lw_m6 237 rfl) rfl
theorem q1571 : (Jvm.Cond.fieldLink "CableDrawerModel" (35 : Nat) "CableDrawerModel" "c" "[I") ∈ lw_all := lw_g (lw_at lw_m6 238 rfl) rfl
theorem q1572 : (Jvm.Cond.fieldLink "CableDrawerModel" (38 : Nat) "CableDrawerModel" "kept" "[I") ∈ lw_all := lw_g (lw_at lw_m6 239 rfl) rfl
theorem q1573 : (Jvm.Cond.fieldLink "CableDrawerModel" (41 : Nat) "CableDrawerModel" "words" "[J") ∈ lw_all := lw_g (lw_at lw_m7 0 rfl) rfl
theorem q1574 : (Jvm.Cond.fieldLink "CableDrawerModel" (499 : Nat) "CableDrawerModel" "markMany" "I") ∈ lw_all := lw_g (lw_at lw_m7 1 rfl) rfl
theorem q1575 : (Jvm.Cond.fieldLink "CableDrawerModel" (291 : Nat) "CableDrawerModel" "newSteps" "I") ∈ lw_all := lw_g (lw_at lw_m7 2 rfl) rfl
theorem q1576 : (Jvm.Cond.fieldLink "CableDrawerModel" (371 : Nat) "CableDrawerModel" "random" "I") ∈ lw_all := lw_g (lw_at lw_m7 3 rfl) rfl
theorem q1577 : (Jvm.Cond.fieldLink "CableDrawerModel" (398 : Nat) "CableDrawerModel" "bestFrom" "I") ∈ lw_all := lw_g (lw_at lw_m7 4 rfl) rfl
theorem q1578 : (Jvm.Cond.fieldLink "CableDrawerModel" (401 : Nat) "CableDrawerModel" "bestTo" "I") ∈ lw_all := lw_g (lw_at lw_m7 5 rfl) rfl
theorem q1579 : (Jvm.Cond.fieldLink "CableDrawerModel" (404 : Nat) "CableDrawerModel" "bestPull" "I") ∈ lw_all := lw_g (lw_at lw_m7 6 rfl) rfl
theorem q1580 : (Jvm.Cond.fieldLink "CableDrawerModel" (44 : Nat) "CableDrawerModel" "lengths" "[I") ∈ lw_all := lw_g (lw_at lw_m7 7 rfl) rfl
theorem q1581 : (Jvm.Cond.fieldLink "CableDrawerModel" (47 : Nat) "CableDrawerModel" "loose" "[I") ∈ lw_all := lw_g (lw_at lw_m7 8 rfl) rfl
theorem q1582 : (Jvm.Cond.fieldLink "CableDrawerModel" (50 : Nat) "CableDrawerModel" "wayNow" "[I") ∈ lw_all := lw_g (lw_at lw_m7 9 rfl) rfl
theorem q1583 : (Jvm.Cond.fieldLink "CableDrawerModel" (53 : Nat) "CableDrawerModel" "wayTold" "[I") ∈ lw_all := lw_g (lw_at lw_m7 10 rfl) rfl
theorem q1584 : (Jvm.Cond.fieldLink "CableDrawerModel" (416 : Nat) "CableDrawerModel" "hasWay" "Z") ∈ lw_all := lw_g (lw_at lw_m7 11 rfl) rfl
theorem q1585 : (Jvm.Cond.fieldLink "CableDrawerModel" (56 : Nat) "CableDrawerModel" "left" "[I") ∈ lw_all := lw_g (lw_at lw_m7 12 rfl) rfl
theorem q1586 : (Jvm.Cond.fieldLink "CableDrawerModel" (59 : Nat) "CableDrawerModel" "orderNow" "[I") ∈ lw_all := lw_g (lw_at lw_m7 13 rfl) rfl
theorem q1587 : (Jvm.Cond.fieldLink "CableDrawerModel" (62 : Nat) "CableDrawerModel" "orderTold" "[I") ∈ lw_all := lw_g (lw_at lw_m7 14 rfl) rfl
theorem q1588 : (Jvm.Cond.fieldLink "CableDrawerModel" (65 : Nat) "CableDrawerModel" "kept2" "[I") ∈ lw_all := lw_g (lw_at lw_m7 15 rfl) rfl
theorem q1589 : (Jvm.Cond.fieldLink "CableDrawerModel" (68 : Nat) "CableDrawerModel" "orderMany" "I") ∈ lw_all := lw_g (lw_at lw_m7 16 rfl) rfl
theorem q1590 : (Jvm.Cond.fieldLink "CableDrawerModel" (427 : Nat) "CableDrawerModel" "loosensTold" "I") ∈ lw_all := lw_g (lw_at lw_m7 17 rfl) rfl
theorem q1591 : (Jvm.Cond.fieldLink "CableDrawerModel" (71 : Nat) "CableDrawerModel" "livedLast" "[I") ∈ lw_all := lw_g (lw_at lw_m7 18 rfl) rfl
theorem q1592 : (Jvm.Cond.fieldLink "CableDrawerModel" (74 : Nat) "CableDrawerModel" "before" "[I") ∈ lw_all := lw_g (lw_at lw_m7 19 rfl) rfl
theorem q1593 : (Jvm.Cond.fieldLink "CableDrawerModel" (490 : Nat) "CableDrawerModel" "hasLived" "Z") ∈ lw_all := lw_g (lw_at lw_m7 20 rfl) rfl
theorem q1594 : (Jvm.Cond.fieldLink "CableDrawerModel" (466 : Nat) "CableDrawerModel" "isOver" "Z") ∈ lw_all := lw_g (lw_at lw_m7 21 rfl) rfl
theorem q1595 : (Jvm.Cond.fieldLink "CableDrawerModel" (463 : Nat) "CableDrawerModel" "done" "I") ∈ lw_all := lw_g (lw_at lw_m7 22 rfl) rfl
theorem q1596 : (Jvm.Cond.fieldLink "CableDrawerModel" (472 : Nat) "CableDrawerModel" "missed" "I") ∈ lw_all := lw_g (lw_at lw_m7 23 rfl) rfl
theorem q1597 : (Jvm.Cond.fieldLink "CableDrawerModel" (457 : Nat) "CableDrawerModel" "openMany" "I") ∈ lw_all := lw_g (lw_at lw_m7 24 rfl) rfl
theorem q1598 : (Jvm.Cond.fieldLink "CableDrawerModel" (454 : Nat) "CableDrawerModel" "came" "I") ∈ lw_all := lw_g (lw_at lw_m7 25 rfl) rfl
theorem q1599 : (Jvm.Cond.fieldLink "CableDrawerModel" (451 : Nat) "CableDrawerModel" "taken" "I") ∈ lw_all := lw_g (lw_at lw_m7 26 rfl) rfl
theorem q1600 : (Jvm.Cond.fieldLink "CableDrawerModel" (469 : Nat) "CableDrawerModel" "leftOver" "I") ∈ lw_all := lw_g (lw_at lw_m7 27 rfl) rfl
theorem q1601 : (Jvm.Cond.lays "CableDrawerModel" "CableDrawerModel" "status" "I") ∈ lw_all := lw_g (lw_at lw_m7 28 rfl) rfl
theorem q1602 : (Jvm.Cond.soleField "CableDrawerModel" "status") ∈ lw_all := lw_g (lw_at lw_m7 29 rfl) rfl
theorem q1603 : (Jvm.Cond.lays "CableDrawerModel" "CableDrawerModel" "thrown" "I") ∈ lw_all := lw_g (lw_at lw_m7 30 rfl) rfl
theorem q1604 : (Jvm.Cond.soleField "CableDrawerModel" "thrown") ∈ lw_all := lw_g (lw_at lw_m7 31 rfl) rfl
theorem q1605 : (Jvm.Cond.lays "CableDrawerModel" "CableDrawerModel" "above" "J") ∈ lw_all := lw_g (lw_at lw_m7 32 rfl) rfl
theorem q1606 : (Jvm.Cond.soleField "CableDrawerModel" "above") ∈ lw_all := lw_g (lw_at lw_m7 33 rfl) rfl
theorem q1607 : (Jvm.Cond.lays "CableDrawerModel" "CableDrawerModel" "under" "J") ∈ lw_all := lw_g (lw_at lw_m7 34 rfl) rfl
theorem q1608 : (Jvm.Cond.soleField "CableDrawerModel" "under") ∈ lw_all := lw_g (lw_at lw_m7 35 rfl) rfl
theorem q1609 : (Jvm.Cond.laysFinal "CableDrawerModel" "CableDrawerModel" "traySort" "[I") ∈ lw_all := lw_g (lw_at lw_m7 36 rfl) rfl
theorem q1610 : (Jvm.Cond.soleField "CableDrawerModel" "traySort") ∈ lw_all := lw_g (lw_at lw_m7 37 rfl) rfl
theorem q1611 : (Jvm.Cond.laysFinal "CableDrawerModel" "CableDrawerModel" "trayMany" "[I") ∈ lw_all := lw_g (lw_at lw_m7 38 rfl) rfl
theorem q1612 : (Jvm.Cond.soleField "CableDrawerModel" "trayMany") ∈ lw_all := lw_g (lw_at lw_m7 39 rfl) rfl
theorem q1613 : (Jvm.Cond.laysFinal "CableDrawerModel" "CableDrawerModel" "numbers" "[J") ∈ lw_all := lw_g (lw_at lw_m7 40 rfl) rfl
theorem q1614 : (Jvm.Cond.soleField "CableDrawerModel" "numbers") ∈ lw_all := lw_g (lw_at lw_m7 41 rfl) rfl
theorem q1615 : (Jvm.Cond.laysFinal "CableDrawerModel" "CableDrawerModel" "tape" "[B") ∈ lw_all := lw_g (lw_at lw_m7 42 rfl) rfl
theorem q1616 : (Jvm.Cond.soleField "CableDrawerModel" "tape") ∈ lw_all := lw_g (lw_at lw_m7 43 rfl) rfl
theorem q1617 : (Jvm.Cond.lays "CableDrawerModel" "CableDrawerModel" "taped" "I") ∈ lw_all := lw_g (lw_at lw_m7 44 rfl) rfl
theorem q1618 : (Jvm.Cond.soleField "CableDrawerModel" "taped") ∈ lw_all := lw_g (lw_at lw_m7 45 rfl) rfl
theorem q1619 : (Jvm.Cond.lays "CableDrawerModel" "CableDrawerModel" "textEnd" "I") ∈ lw_all := lw_g (lw_at lw_m7 46 rfl) rfl
theorem q1620 : (Jvm.Cond.soleField "CableDrawerModel" "textEnd") ∈ lw_all := lw_g (lw_at lw_m7 47 rfl) rfl
theorem q1621 : (Jvm.Cond.lays "CableDrawerModel" "CableDrawerModel" "faultKind" "I") ∈ lw_all := lw_g (lw_at lw_m7 48 rfl) rfl
theorem q1622 : (Jvm.Cond.soleField "CableDrawerModel" "faultKind") ∈ lw_all := lw_g (lw_at lw_m7 49 rfl) rfl
theorem q1623 : (Jvm.Cond.lays "CableDrawerModel" "CableDrawerModel" "faultAt" "I") ∈ lw_all := lw_g (lw_at lw_m7 50 rfl) rfl
theorem q1624 : (Jvm.Cond.soleField "CableDrawerModel" "faultAt") ∈ lw_all := lw_g (lw_at lw_m7 51 rfl) rfl
theorem q1625 : (Jvm.Cond.lays "CableDrawerModel" "CableDrawerModel" "bad" "I") ∈ lw_all := lw_g (lw_at lw_m7 52 rfl) rfl
theorem q1626 : (Jvm.Cond.soleField "CableDrawerModel" "bad") ∈ lw_all := lw_g (lw_at lw_m7 53 rfl) rfl
theorem q1627 : (Jvm.Cond.lays "CableDrawerModel" "CableDrawerModel" "badAt" "I") ∈ lw_all := lw_g (lw_at lw_m7 54 rfl) rfl
theorem q1628 : (Jvm.Cond.soleField "CableDrawerModel" "badAt") ∈ lw_all := lw_g (lw_at lw_m7 55 rfl) rfl
theorem q1629 : (Jvm.Cond.lays "CableDrawerModel" "CableDrawerModel" "token" "I") ∈ lw_all := lw_g (lw_at lw_m7 56 rfl) rfl
theorem q1630 : (Jvm.Cond.soleField "CableDrawerModel" "token") ∈ lw_all := lw_g (lw_at lw_m7 57 rfl) rfl
theorem q1631 : (Jvm.Cond.lays "CableDrawerModel" "CableDrawerModel" "at" "I") ∈ lw_all := lw_g (lw_at lw_m7 58 rfl) rfl
theorem q1632 : (Jvm.Cond.soleField "CableDrawerModel" "at") ∈ lw_all := lw_g (lw_at lw_m7 59 rfl) rfl
theorem q1633 : (Jvm.Cond.lays "CableDrawerModel" "CableDrawerModel" "behind" "I") ∈ lw_all := lw_g (lw_at lw_m7 60 rfl) rfl
theorem q1634 : (Jvm.Cond.soleField "CableDrawerModel" "behind") ∈ lw_all := lw_g (lw_at lw_m7 61 rfl) rfl
theorem q1635 : (Jvm.Cond.lays "CableDrawerModel" "CableDrawerModel" "number" "I") ∈ lw_all := lw_g (lw_at lw_m7 62 rfl) rfl
theorem q1636 : (Jvm.Cond.soleField "CableDrawerModel" "number") ∈ lw_all := lw_g (lw_at lw_m7 63 rfl) rfl
theorem q1637 : (Jvm.Cond.lays "CableDrawerModel" "CableDrawerModel" "letters" "I") ∈ lw_all := lw_g (lw_at lw_m7 64 rfl) rfl
theorem q1638 : (Jvm.Cond.soleField "CableDrawerModel" "letters") ∈ lw_all := lw_g (lw_at lw_m7 65 rfl) rfl
theorem q1639 : (Jvm.Cond.lays "CableDrawerModel" "CableDrawerModel" "word" "J") ∈ lw_all := lw_g (lw_at lw_m7 66 rfl) rfl
theorem q1640 : (Jvm.Cond.soleField "CableDrawerModel" "word") ∈ lw_all := lw_g (lw_at lw_m7 67 rfl) rfl
theorem q1641 : (Jvm.Cond.laysFinal "CableDrawerModel" "CableDrawerModel" "c" "[I") ∈ lw_all := lw_g (lw_at lw_m7 68 rfl) rfl
theorem q1642 : (Jvm.Cond.soleField "CableDrawerModel" "c") ∈ lw_all := lw_g (lw_at lw_m7 69 rfl) rfl
theorem q1643 : (Jvm.Cond.laysFinal "CableDrawerModel" "CableDrawerModel" "kept" "[I") ∈ lw_all := lw_g (lw_at lw_m7 70 rfl) rfl
theorem q1644 : (Jvm.Cond.soleField "CableDrawerModel" "kept") ∈ lw_all := lw_g (lw_at lw_m7 71 rfl) rfl
theorem q1645 : (Jvm.Cond.laysFinal "CableDrawerModel" "CableDrawerModel" "words" "[J") ∈ lw_all := lw_g (lw_at lw_m7 72 rfl) rfl
theorem q1646 : (Jvm.Cond.soleField "CableDrawerModel" "words") ∈ lw_all := lw_g (lw_at lw_m7 73 rfl) rfl
theorem q1647 : (Jvm.Cond.lays "CableDrawerModel" "CableDrawerModel" "markMany" "I") ∈ lw_all := lw_g (lw_at lw_m7 74 rfl) rfl
theorem q1648 : (Jvm.Cond.soleField "CableDrawerModel" "markMany") ∈ lw_all := lw_g (lw_at lw_m7 75 rfl) rfl
theorem q1649 : (Jvm.Cond.lays "CableDrawerModel" "CableDrawerModel" "newSteps" "I") ∈ lw_all := lw_g (lw_at lw_m7 76 rfl) rfl
theorem q1650 : (Jvm.Cond.soleField "CableDrawerModel" "newSteps") ∈ lw_all := lw_g (lw_at lw_m7 77 rfl) rfl
theorem q1651 : (Jvm.Cond.lays "CableDrawerModel" "CableDrawerModel" "random" "I") ∈ lw_all := lw_g (lw_at lw_m7 78 rfl) rfl
theorem q1652 : (Jvm.Cond.soleField "CableDrawerModel" "random") ∈ lw_all := lw_g (lw_at lw_m7 79 rfl) rfl
theorem q1653 : (Jvm.Cond.lays "CableDrawerModel" "CableDrawerModel" "bestFrom" "I") ∈ lw_all := lw_g (lw_at lw_m7 80 rfl) rfl
theorem q1654 : (Jvm.Cond.soleField "CableDrawerModel" "bestFrom") ∈ lw_all := lw_g (lw_at lw_m7 81 rfl) rfl
theorem q1655 : (Jvm.Cond.lays "CableDrawerModel" "CableDrawerModel" "bestTo" "I") ∈ lw_all := lw_g (lw_at lw_m7 82 rfl) rfl
theorem q1656 : (Jvm.Cond.soleField "CableDrawerModel" "bestTo") ∈ lw_all := lw_g (lw_at lw_m7 83 rfl) rfl
theorem q1657 : (Jvm.Cond.lays "CableDrawerModel" "CableDrawerModel" "bestPull" "I") ∈ lw_all := lw_g (lw_at lw_m7 84 rfl) rfl
theorem q1658 : (Jvm.Cond.soleField "CableDrawerModel" "bestPull") ∈ lw_all := lw_g (lw_at lw_m7 85 rfl) rfl
theorem q1659 : (Jvm.Cond.laysFinal "CableDrawerModel" "CableDrawerModel" "lengths" "[I") ∈ lw_all := lw_g (lw_at lw_m7 86 rfl) rfl
theorem q1660 : (Jvm.Cond.soleField "CableDrawerModel" "lengths") ∈ lw_all := lw_g (lw_at lw_m7 87 rfl) rfl
theorem q1661 : (Jvm.Cond.laysFinal "CableDrawerModel" "CableDrawerModel" "loose" "[I") ∈ lw_all := lw_g (lw_at lw_m7 88 rfl) rfl
theorem q1662 : (Jvm.Cond.soleField "CableDrawerModel" "loose") ∈ lw_all := lw_g (lw_at lw_m7 89 rfl) rfl
theorem q1663 : (Jvm.Cond.laysFinal "CableDrawerModel" "CableDrawerModel" "wayNow" "[I") ∈ lw_all := lw_g (lw_at lw_m7 90 rfl) rfl
theorem q1664 : (Jvm.Cond.soleField "CableDrawerModel" "wayNow") ∈ lw_all := lw_g (lw_at lw_m7 91 rfl) rfl
theorem q1665 : (Jvm.Cond.laysFinal "CableDrawerModel" "CableDrawerModel" "wayTold" "[I") ∈ lw_all := lw_g (lw_at lw_m7 92 rfl) rfl
theorem q1666 : (Jvm.Cond.soleField "CableDrawerModel" "wayTold") ∈ lw_all := lw_g (lw_at lw_m7 93 rfl) rfl
theorem q1667 : (Jvm.Cond.lays "CableDrawerModel" "CableDrawerModel" "hasWay" "Z") ∈ lw_all := lw_g (lw_at lw_m7 94 rfl) rfl
theorem q1668 : (Jvm.Cond.soleField "CableDrawerModel" "hasWay") ∈ lw_all := lw_g (lw_at lw_m7 95 rfl) rfl
theorem q1669 : (Jvm.Cond.laysFinal "CableDrawerModel" "CableDrawerModel" "left" "[I") ∈ lw_all := lw_g (lw_at lw_m7 96 rfl) rfl
theorem q1670 : (Jvm.Cond.soleField "CableDrawerModel" "left") ∈ lw_all := lw_g (lw_at lw_m7 97 rfl) rfl
theorem q1671 : (Jvm.Cond.laysFinal "CableDrawerModel" "CableDrawerModel" "orderNow" "[I") ∈ lw_all := lw_g (lw_at lw_m7 98 rfl) rfl
theorem q1672 : (Jvm.Cond.soleField "CableDrawerModel" "orderNow") ∈ lw_all := lw_g (lw_at lw_m7 99 rfl) rfl
theorem q1673 : (Jvm.Cond.laysFinal "CableDrawerModel" "CableDrawerModel" "orderTold" "[I") ∈ lw_all := lw_g (lw_at lw_m7 100 rfl) rfl
theorem q1674 : (Jvm.Cond.soleField "CableDrawerModel" "orderTold") ∈ lw_all := lw_g (lw_at lw_m7 101 rfl) rfl
theorem q1675 : (Jvm.Cond.laysFinal "CableDrawerModel" "CableDrawerModel" "kept2" "[I") ∈ lw_all := lw_g (lw_at lw_m7 102 rfl) rfl
theorem q1676 : (Jvm.Cond.soleField "CableDrawerModel" "kept2") ∈ lw_all := lw_g (lw_at lw_m7 103 rfl) rfl
theorem q1677 : (Jvm.Cond.lays "CableDrawerModel" "CableDrawerModel" "orderMany" "I") ∈ lw_all := lw_g (lw_at lw_m7 104 rfl) rfl
theorem q1678 : (Jvm.Cond.soleField "CableDrawerModel" "orderMany") ∈ lw_all := lw_g (lw_at lw_m7 105 rfl) rfl
theorem q1679 : (Jvm.Cond.lays "CableDrawerModel" "CableDrawerModel" "loosensTold" "I") ∈ lw_all := lw_g (lw_at lw_m7 106 rfl) rfl
theorem q1680 : (Jvm.Cond.soleField "CableDrawerModel" "loosensTold") ∈ lw_all := lw_g (lw_at lw_m7 107 rfl) rfl
theorem q1681 : (Jvm.Cond.laysFinal "CableDrawerModel" "CableDrawerModel" "livedLast" "[I") ∈ lw_all := lw_g (lw_at lw_m7 108 rfl) rfl
theorem q1682 : (Jvm.Cond.soleField "CableDrawerModel" "livedLast") ∈ lw_all := lw_g (lw_at lw_m7 109 rfl) rfl
theorem q1683 : (Jvm.Cond.laysFinal "CableDrawerModel" "CableDrawerModel" "before" "[I") ∈ lw_all := lw_g (lw_at lw_m7 110 rfl) rfl
theorem q1684 : (Jvm.Cond.soleField "CableDrawerModel" "before") ∈ lw_all := lw_g (lw_at lw_m7 111 rfl) rfl
theorem q1685 : (Jvm.Cond.lays "CableDrawerModel" "CableDrawerModel" "hasLived" "Z") ∈ lw_all := lw_g (lw_at lw_m7 112 rfl) rfl
theorem q1686 : (Jvm.Cond.soleField "CableDrawerModel" "hasLived") ∈ lw_all := lw_g (lw_at lw_m7 113 rfl) rfl
theorem q1687 : (Jvm.Cond.lays "CableDrawerModel" "CableDrawerModel" "isOver" "Z") ∈ lw_all := lw_g (lw_at lw_m7 114 rfl) rfl
theorem q1688 : (Jvm.Cond.soleField "CableDrawerModel" "isOver") ∈ lw_all := lw_g (lw_at lw_m7 115 rfl) rfl
theorem q1689 : (Jvm.Cond.lays "CableDrawerModel" "CableDrawerModel" "done" "I") ∈ lw_all := lw_g (lw_at lw_m7 116 rfl) rfl
theorem q1690 : (Jvm.Cond.soleField "CableDrawerModel" "done") ∈ lw_all := lw_g (lw_at lw_m7 117 rfl) rfl
theorem q1691 : (Jvm.Cond.lays "CableDrawerModel" "CableDrawerModel" "missed" "I") ∈ lw_all := lw_g (lw_at lw_m7 118 rfl) rfl
theorem q1692 : (Jvm.Cond.soleField "CableDrawerModel" "missed") ∈ lw_all := lw_g (lw_at lw_m7 119 rfl) rfl
theorem q1693 : (Jvm.Cond.lays "CableDrawerModel" "CableDrawerModel" "openMany" "I") ∈ lw_all := lw_g (lw_at lw_m7 120 rfl) rfl
theorem q1694 : (Jvm.Cond.soleField "CableDrawerModel" "openMany") ∈ lw_all := lw_g (lw_at lw_m7 121 rfl) rfl
theorem q1695 : (Jvm.Cond.lays "CableDrawerModel" "CableDrawerModel" "came" "I") ∈ lw_all := lw_g (lw_at lw_m7 122 rfl) rfl
theorem q1696 : (Jvm.Cond.soleField "CableDrawerModel" "came") ∈ lw_all := lw_g (lw_at lw_m7 123 rfl) rfl
theorem q1697 : (Jvm.Cond.lays "CableDrawerModel" "CableDrawerModel" "taken" "I") ∈ lw_all := lw_g (lw_at lw_m7 124 rfl) rfl
theorem q1698 : (Jvm.Cond.soleField "CableDrawerModel" "taken") ∈ lw_all := lw_g (lw_at lw_m7 125 rfl) rfl
theorem q1699 : (Jvm.Cond.lays "CableDrawerModel" "CableDrawerModel" "leftOver" "I") ∈ lw_all := lw_g (lw_at lw_m7 126 rfl) rfl
theorem q1700 : (Jvm.Cond.soleField "CableDrawerModel" "leftOver") ∈ lw_all := lw_g (lw_at lw_m7 127 rfl) rfl
theorem q1701 : (Jvm.Cond.superclass "CableDrawerModel" "java/lang/Object") ∈ lw_all := lw_g (lw_at lw_m7 128 rfl) rfl
theorem q1703 : (Jvm.Cond.instanceMethod ({ cls := "CableDrawerModel", name := "status", desc := "()I" } : Jvm.MethodName)) ∈ lw_all := lw_g (lw_at lw_m7 130 rfl) rfl
theorem q1704 : (Jvm.Cond.selects "CableDrawerModel" ({ cls := "CableDrawerModel", name := "status", desc := "()I" } : Jvm.MethodName) ({ cls := "CableDrawerModel", name := "status", desc := "()I" } : Jvm.MethodName)) ∈ lw_all := lw_g (lw_at lw_m7 131 rfl) rfl
theorem q1705 : (Jvm.Cond.code ({ cls := "CableDrawerModel", name := "status", desc := "()I" } : Jvm.MethodName) prog_16_method_3_code (1 : Nat) (Option.some Jvm.ClassFile.FieldType.int)) ∈ lw_all := lw_g (lw_at lw_m7 132 rfl) rfl
theorem q1707 : (Jvm.Cond.instanceMethod ({ cls := "CableDrawerModel", name := "top", desc := "()J" } : Jvm.MethodName)) ∈ lw_all := lw_g (lw_at lw_m7 134 rfl) rfl
theorem q1708 : (Jvm.Cond.selects "CableDrawerModel" ({ cls := "CableDrawerModel", name := "top", desc := "()J" } : Jvm.MethodName) ({ cls := "CableDrawerModel", name := "top", desc := "()J" } : Jvm.MethodName)) ∈ lw_all := lw_g (lw_at lw_m7 135 rfl) rfl
theorem q1709 : (Jvm.Cond.code ({ cls := "CableDrawerModel", name := "top", desc := "()J" } : Jvm.MethodName) prog_16_method_4_code (1 : Nat) (Option.some Jvm.ClassFile.FieldType.long)) ∈ lw_all := lw_g (lw_at lw_m7 136 rfl) rfl
theorem q1711 : (Jvm.Cond.instanceMethod ({ cls := "CableDrawerModel", name := "bottom", desc := "()J" } : Jvm.MethodName)) ∈ lw_all := lw_g (lw_at lw_m7 138 rfl) rfl
theorem q1712 : (Jvm.Cond.selects "CableDrawerModel" ({ cls := "CableDrawerModel", name := "bottom", desc := "()J" } : Jvm.MethodName) ({ cls := "CableDrawerModel", name := "bottom", desc := "()J" } : Jvm.MethodName)) ∈ lw_all := lw_g (lw_at lw_m7 139 rfl) rfl
theorem q1713 : (Jvm.Cond.code ({ cls := "CableDrawerModel", name := "bottom", desc := "()J" } : Jvm.MethodName) prog_16_method_5_code (1 : Nat) (Option.some Jvm.ClassFile.FieldType.long)) ∈ lw_all := lw_g (lw_at lw_m7 140 rfl) rfl
theorem q1715 : (Jvm.Cond.instanceMethod ({ cls := "CableDrawerModel", name := "tray", desc := "(III)Z" } : Jvm.MethodName)) ∈ lw_all := lw_g (lw_at lw_m7 142 rfl) rfl
theorem q1716 : (Jvm.Cond.selects "CableDrawerModel" ({ cls := "CableDrawerModel", name := "tray", desc := "(III)Z" } : Jvm.MethodName) ({ cls := "CableDrawerModel", name := "tray", desc := "(III)Z" } : Jvm.MethodName)) ∈ lw_all := lw_g (lw_at lw_m7 143 rfl) rfl
theorem q1717 : (Jvm.Cond.code ({ cls := "CableDrawerModel", name := "tray", desc := "(III)Z" } : Jvm.MethodName) prog_16_method_11_code (5 : Nat) (Option.some Jvm.ClassFile.FieldType.boolean)) ∈ lw_all := lw_g (lw_at lw_m7 144 rfl) rfl
theorem q1718 : (Jvm.Cond.methodLink "CableDrawerModel" (92 : Nat) ({ cls := "CableDrawerModel", name := "no", desc := "(I)Z" } : Jvm.MethodName)) ∈ lw_all := lw_g (lw_at lw_m7 145 rfl) rfl
theorem q1719 : (Jvm.Cond.privateMethod ({ cls := "CableDrawerModel", name := "no", desc := "(I)Z" } : Jvm.MethodName)) ∈ lw_tbl := lw_at lw_m7 146 rfl
theorem q1720 : (Jvm.Cond.instanceMethod ({ cls := "CableDrawerModel", name := "no", desc := "(I)Z" } : Jvm.MethodName)) ∈ lw_all := lw_g (lw_at lw_m7 147 rfl) rfl
theorem q1721 : (Jvm.Cond.code ({ cls := "CableDrawerModel", name := "no", desc := "(I)Z" } : Jvm.MethodName) prog_16_method_7_code (2 : Nat) (Option.some Jvm.ClassFile.FieldType.boolean)) ∈ lw_all := lw_g (lw_at lw_m7 148 rfl) rfl
theorem q1723 : (Jvm.Cond.instanceMethod ({ cls := "CableDrawerModel", name := "write", desc := "(IIJ)Z" } : Jvm.MethodName)) ∈ lw_all := lw_g (lw_at lw_m7 150 rfl) rfl
theorem q1724 : (Jvm.Cond.selects "CableDrawerModel" ({ cls := "CableDrawerModel", name := "write", desc := "(IIJ)Z" } : Jvm.MethodName) ({ cls := "CableDrawerModel", name := "write", desc := "(IIJ)Z" } : Jvm.MethodName)) ∈ lw_all := lw_g (lw_at lw_m7 151 rfl) rfl
theorem q1725 : (Jvm.Cond.code ({ cls := "CableDrawerModel", name := "write", desc := "(IIJ)Z" } : Jvm.MethodName) prog_16_method_14_code (5 : Nat) (Option.some Jvm.ClassFile.FieldType.boolean)) ∈ lw_all := lw_g (lw_at lw_m7 152 rfl) rfl
theorem q1726 : (Jvm.Cond.methodLink "CableDrawerModel" (100 : Nat) ({ cls := "CableDrawerModel", name := "placed", desc := "(II)I" } : Jvm.MethodName)) ∈ lw_all := lw_g (lw_at lw_m7 153 rfl) rfl
theorem q1727 : (Jvm.Cond.privateMethod ({ cls := "CableDrawerModel", name := "placed", desc := "(II)I" } : Jvm.MethodName)) ∈ lw_tbl := lw_at lw_m7 154 rfl
theorem q1728 : (Jvm.Cond.instanceMethod ({ cls := "CableDrawerModel", name := "placed", desc := "(II)I" } : Jvm.MethodName)) ∈ lw_all := lw_g (lw_at lw_m7 155 rfl) rfl
theorem q1729 : (Jvm.Cond.code ({ cls := "CableDrawerModel", name := "placed", desc := "(II)I" } : Jvm.MethodName) prog_16_method_13_code (4 : Nat) (Option.some Jvm.ClassFile.FieldType.int)) ∈ lw_all := lw_g (lw_at lw_m7 156 rfl) rfl
theorem q1730 : (Jvm.Cond.methodLink "CableDrawerModel" (96 : Nat) ({ cls := "CableDrawerModel", name := "trayed", desc := "(I)I" } : Jvm.MethodName)) ∈ lw_all := lw_g (lw_at lw_m7 157 rfl) rfl
theorem q1731 : (Jvm.Cond.privateMethod ({ cls := "CableDrawerModel", name := "trayed", desc := "(I)I" } : Jvm.MethodName)) ∈ lw_tbl := lw_at lw_m7 158 rfl
theorem q1732 : (Jvm.Cond.instanceMethod ({ cls := "CableDrawerModel", name := "trayed", desc := "(I)I" } : Jvm.MethodName)) ∈ lw_all := lw_g (lw_at lw_m7 159 rfl) rfl
theorem q1733 : (Jvm.Cond.code ({ cls := "CableDrawerModel", name := "trayed", desc := "(I)I" } : Jvm.MethodName) prog_16_method_12_code (2 : Nat) (Option.some Jvm.ClassFile.FieldType.int)) ∈ lw_all := lw_g (lw_at lw_m7 160 rfl) rfl
theorem q1734 : (Jvm.Cond.methodLink "CableDrawerModel" (104 : Nat) ({ cls := "CableDrawerModel", name := "cut", desc := "(IJ)J" } : Jvm.MethodName)) ∈ lw_all := lw_g (lw_at lw_m7 161 rfl) rfl
theorem q1735 : (Jvm.Cond.static ({ cls := "CableDrawerModel", name := "cut", desc := "(IJ)J" } : Jvm.MethodName)) ∈ lw_all := lw_g (lw_at lw_m7 162 rfl) rfl
theorem q1736 : (Jvm.Cond.code ({ cls := "CableDrawerModel", name := "cut", desc := "(IJ)J" } : Jvm.MethodName) prog_16_method_10_code (3 : Nat) (Option.some Jvm.ClassFile.FieldType.long)) ∈ lw_all := lw_g (lw_at lw_m7 163 rfl) rfl
theorem q1738 : (Jvm.Cond.instanceMethod ({ cls := "CableDrawerModel", name := "read", desc := "(II)J" } : Jvm.MethodName)) ∈ lw_all := lw_g (lw_at lw_m7 165 rfl) rfl
theorem q1739 : (Jvm.Cond.selects "CableDrawerModel" ({ cls := "CableDrawerModel", name := "read", desc := "(II)J" } : Jvm.MethodName) ({ cls := "CableDrawerModel", name := "read", desc := "(II)J" } : Jvm.MethodName)) ∈ lw_all := lw_g (lw_at lw_m7 166 rfl) rfl
theorem q1740 : (Jvm.Cond.code ({ cls := "CableDrawerModel", name := "read", desc := "(II)J" } : Jvm.MethodName) prog_16_method_15_code (3 : Nat) (Option.some Jvm.ClassFile.FieldType.long)) ∈ lw_all := lw_g (lw_at lw_m7 167 rfl) rfl
theorem q1741 : (Jvm.Cond.constantLong "CableDrawerModel" (108 : Nat) (-1 : Int64)) ∈ lw_all := lw_g (lw_at lw_m7 168 rfl) rfl
theorem q1743 : (Jvm.Cond.instanceMethod ({ cls := "CableDrawerModel", name := "pour", desc := "(IIIII)Z" } : Jvm.MethodName)) ∈ lw_all := lw_g (lw_at lw_m7 170 rfl) rfl
theorem q1744 : (Jvm.Cond.selects "CableDrawerModel" ({ cls := "CableDrawerModel", name := "pour", desc := "(IIIII)Z" } : Jvm.MethodName) ({ cls := "CableDrawerModel", name := "pour", desc := "(IIIII)Z" } : Jvm.MethodName)) ∈ lw_all := lw_g (lw_at lw_m7 171 rfl) rfl
theorem q1745 : (Jvm.Cond.code ({ cls := "CableDrawerModel", name := "pour", desc := "(IIIII)Z" } : Jvm.MethodName) prog_16_method_16_code (9 : Nat) (Option.some Jvm.ClassFile.FieldType.boolean)) ∈ lw_all := lw_g (lw_at lw_m7 172 rfl) rfl
theorem q1747 : (Jvm.Cond.instanceMethod ({ cls := "CableDrawerModel", name := "feed", desc := "(IIIII)I" } : Jvm.MethodName)) ∈ lw_all := lw_g (lw_at lw_m7 174 rfl) rfl
theorem q1748 : (Jvm.Cond.selects "CableDrawerModel" ({ cls := "CableDrawerModel", name := "feed", desc := "(IIIII)I" } : Jvm.MethodName) ({ cls := "CableDrawerModel", name := "feed", desc := "(IIIII)I" } : Jvm.MethodName)) ∈ lw_all := lw_g (lw_at lw_m7 175 rfl) rfl
theorem q1749 : (Jvm.Cond.code ({ cls := "CableDrawerModel", name := "feed", desc := "(IIIII)I" } : Jvm.MethodName) prog_16_method_48_code (6 : Nat) (Option.some Jvm.ClassFile.FieldType.int)) ∈ lw_all := lw_g (lw_at lw_m7 176 rfl) rfl
theorem q1750 : (Jvm.Cond.methodLink "CableDrawerModel" (235 : Nat) ({ cls := "CableDrawerModel", name := "lay", desc := "(I)V" } : Jvm.MethodName)) ∈ lw_all := lw_g (lw_at lw_m7 177 rfl) rfl
theorem q1751 : (Jvm.Cond.privateMethod ({ cls := "CableDrawerModel", name := "lay", desc := "(I)V" } : Jvm.MethodName)) ∈ lw_tbl := lw_at lw_m7 178 rfl
theorem q1752 : (Jvm.Cond.instanceMethod ({ cls := "CableDrawerModel", name := "lay", desc := "(I)V" } : Jvm.MethodName)) ∈ lw_all := lw_g (lw_at lw_m7 179 rfl) rfl
theorem q1753 : (Jvm.Cond.code ({ cls := "CableDrawerModel", name := "lay", desc := "(I)V" } : Jvm.MethodName) prog_16_method_49_code (3 : Nat) (Option.none : Option Jvm.ClassFile.FieldType)) ∈ lw_all := lw_g (lw_at lw_m7 180 rfl) rfl
theorem q1755 : (Jvm.Cond.instanceMethod ({ cls := "CableDrawerModel", name := "fault", desc := "(I)I" } : Jvm.MethodName)) ∈ lw_all := lw_g (lw_at lw_m7 182 rfl) rfl
theorem q1756 : (Jvm.Cond.selects "CableDrawerModel" ({ cls := "CableDrawerModel", name := "fault", desc := "(I)I" } : Jvm.MethodName) ({ cls := "CableDrawerModel", name := "fault", desc := "(I)I" } : Jvm.MethodName)) ∈ lw_all := lw_g (lw_at lw_m7 183 rfl) rfl
theorem q1757 : (Jvm.Cond.code ({ cls := "CableDrawerModel", name := "fault", desc := "(I)I" } : Jvm.MethodName) prog_16_method_52_code (2 : Nat) (Option.some Jvm.ClassFile.FieldType.int)) ∈ lw_all := lw_g (lw_at lw_m7 184 rfl) rfl
theorem q1759 : (Jvm.Cond.instanceMethod ({ cls := "CableDrawerModel", name := "drawer", desc := "(I)I" } : Jvm.MethodName)) ∈ lw_all := lw_g (lw_at lw_m7 186 rfl) rfl
theorem q1760 : (Jvm.Cond.selects "CableDrawerModel" ({ cls := "CableDrawerModel", name := "drawer", desc := "(I)I" } : Jvm.MethodName) ({ cls := "CableDrawerModel", name := "drawer", desc := "(I)I" } : Jvm.MethodName)) ∈ lw_all := lw_g (lw_at lw_m7 187 rfl) rfl
theorem q1761 : (Jvm.Cond.code ({ cls := "CableDrawerModel", name := "drawer", desc := "(I)I" } : Jvm.MethodName) prog_16_method_61_code (3 : Nat) (Option.some Jvm.ClassFile.FieldType.int)) ∈ lw_all := lw_g (lw_at lw_m7 188 rfl) rfl
theorem q1762 : (Jvm.Cond.methodLink "CableDrawerModel" (264 : Nat) ({ cls := "CableDrawerModel", name := "starts", desc := "(II)Z" } : Jvm.MethodName)) ∈ lw_all := lw_g (lw_at lw_m7 189 rfl) rfl
theorem q1763 : (Jvm.Cond.privateMethod ({ cls := "CableDrawerModel", name := "starts", desc := "(II)Z" } : Jvm.MethodName)) ∈ lw_tbl := lw_at lw_m7 190 rfl
theorem q1764 : (Jvm.Cond.instanceMethod ({ cls := "CableDrawerModel", name := "starts", desc := "(II)Z" } : Jvm.MethodName)) ∈ lw_all := lw_g (lw_at lw_m7 191 rfl) rfl
theorem q1765 : (Jvm.Cond.code ({ cls := "CableDrawerModel", name := "starts", desc := "(II)Z" } : Jvm.MethodName) prog_16_method_50_code (3 : Nat) (Option.some Jvm.ClassFile.FieldType.boolean)) ∈ lw_all := lw_g (lw_at lw_m7 192 rfl) rfl
theorem q1766 : (Jvm.Cond.methodLink "CableDrawerModel" (226 : Nat) ({ cls := "CableDrawerModel", name := "next", desc := "()V" } : Jvm.MethodName)) ∈ lw_all := lw_g (lw_at lw_m7 193 rfl) rfl
theorem q1767 : (Jvm.Cond.privateMethod ({ cls := "CableDrawerModel", name := "next", desc := "()V" } : Jvm.MethodName)) ∈ lw_tbl := lw_at lw_m7 194 rfl
theorem q1768 : (Jvm.Cond.instanceMethod ({ cls := "CableDrawerModel", name := "next", desc := "()V" } : Jvm.MethodName)) ∈ lw_all := lw_g (lw_at lw_m7 195 rfl) rfl
theorem q1769 : (Jvm.Cond.code ({ cls := "CableDrawerModel", name := "next", desc := "()V" } : Jvm.MethodName) prog_16_method_24_code (2 : Nat) (Option.none : Option Jvm.ClassFile.FieldType)) ∈ lw_all := lw_g (lw_at lw_m7 196 rfl) rfl
theorem q1770 : (Jvm.Cond.methodLink "CableDrawerModel" (129 : Nat) ({ cls := "CableDrawerModel", name := "look2", desc := "(I)I" } : Jvm.MethodName)) ∈ lw_all := lw_g (lw_at lw_m7 197 rfl) rfl
theorem q1771 : (Jvm.Cond.privateMethod ({ cls := "CableDrawerModel", name := "look2", desc := "(I)I" } : Jvm.MethodName)) ∈ lw_tbl := lw_at lw_m7 198 rfl
theorem q1772 : (Jvm.Cond.instanceMethod ({ cls := "CableDrawerModel", name := "look2", desc := "(I)I" } : Jvm.MethodName)) ∈ lw_all := lw_g (lw_at lw_m7 199 rfl) rfl
theorem q1773 : (Jvm.Cond.code ({ cls := "CableDrawerModel", name := "look2", desc := "(I)I" } : Jvm.MethodName) prog_16_method_20_code (2 : Nat) (Option.some Jvm.ClassFile.FieldType.int)) ∈ lw_all := lw_g (lw_at lw_m7 200 rfl) rfl
theorem q1774 : (Jvm.Cond.methodLink "CableDrawerModel" (135 : Nat) ({ cls := "CableDrawerModel", name := "isLetter", desc := "(I)Z" } : Jvm.MethodName)) ∈ lw_all := lw_g (lw_at lw_m7 201 rfl) rfl
theorem q1775 : (Jvm.Cond.static ({ cls := "CableDrawerModel", name := "isLetter", desc := "(I)Z" } : Jvm.MethodName)) ∈ lw_all := lw_g (lw_at lw_m7 202 rfl) rfl
theorem q1776 : (Jvm.Cond.code ({ cls := "CableDrawerModel", name := "isLetter", desc := "(I)Z" } : Jvm.MethodName) prog_16_method_21_code (1 : Nat) (Option.some Jvm.ClassFile.FieldType.boolean)) ∈ lw_all := lw_g (lw_at lw_m7 203 rfl) rfl
theorem q1777 : (Jvm.Cond.constantLong "CableDrawerModel" (141 : Nat) (32 : Int64)) ∈ lw_all := lw_g (lw_at lw_m7 204 rfl) rfl
theorem q1778 : (Jvm.Cond.constantLong "CableDrawerModel" (143 : Nat) (96 : Int64)) ∈ lw_all := lw_g (lw_at lw_m7 205 rfl) rfl
theorem q1779 : (Jvm.Cond.methodLink "CableDrawerModel" (148 : Nat) ({ cls := "CableDrawerModel", name := "isDigit", desc := "(I)Z" } : Jvm.MethodName)) ∈ lw_all := lw_g (lw_at lw_m7 206 rfl) rfl
theorem q1780 : (Jvm.Cond.static ({ cls := "CableDrawerModel", name := "isDigit", desc := "(I)Z" } : Jvm.MethodName)) ∈ lw_all := lw_g (lw_at lw_m7 207 rfl) rfl
theorem q1781 : (Jvm.Cond.code ({ cls := "CableDrawerModel", name := "isDigit", desc := "(I)Z" } : Jvm.MethodName) prog_16_method_22_code (1 : Nat) (Option.some Jvm.ClassFile.FieldType.boolean)) ∈ lw_all := lw_g (lw_at lw_m7 208 rfl) rfl
theorem q1782 : (Jvm.Cond.methodLink "CableDrawerModel" (154 : Nat) ({ cls := "CableDrawerModel", name := "isSignByte", desc := "(I)Z" } : Jvm.MethodName)) ∈ lw_all := lw_g (lw_at lw_m7 209 rfl) rfl
theorem q1783 : (Jvm.Cond.privateMethod ({ cls := "CableDrawerModel", name := "isSignByte", desc := "(I)Z" } : Jvm.MethodName)) ∈ lw_tbl := lw_at lw_m7 210 rfl
theorem q1784 : (Jvm.Cond.instanceMethod ({ cls := "CableDrawerModel", name := "isSignByte", desc := "(I)Z" } : Jvm.MethodName)) ∈ lw_all := lw_g (lw_at lw_m7 211 rfl) rfl
theorem q1785 : (Jvm.Cond.code ({ cls := "CableDrawerModel", name := "isSignByte", desc := "(I)Z" } : Jvm.MethodName) prog_16_method_23_code (2 : Nat) (Option.some Jvm.ClassFile.FieldType.boolean)) ∈ lw_all := lw_g (lw_at lw_m7 212 rfl) rfl
theorem q1786 : (Jvm.Cond.methodLink "CableDrawerModel" (176 : Nat) ({ cls := "CableDrawerModel", name := "isLead", desc := "()Z" } : Jvm.MethodName)) ∈ lw_all := lw_g (lw_at lw_m7 213 rfl) rfl
theorem q1787 : (Jvm.Cond.privateMethod ({ cls := "CableDrawerModel", name := "isLead", desc := "()Z" } : Jvm.MethodName)) ∈ lw_tbl := lw_at lw_m7 214 rfl
theorem q1788 : (Jvm.Cond.instanceMethod ({ cls := "CableDrawerModel", name := "isLead", desc := "()Z" } : Jvm.MethodName)) ∈ lw_all := lw_g (lw_at lw_m7 215 rfl) rfl
theorem q1789 : (Jvm.Cond.code ({ cls := "CableDrawerModel", name := "isLead", desc := "()Z" } : Jvm.MethodName) prog_16_method_28_code (1 : Nat) (Option.some Jvm.ClassFile.FieldType.boolean)) ∈ lw_all := lw_g (lw_at lw_m7 216 rfl) rfl
theorem q1790 : (Jvm.Cond.methodLink "CableDrawerModel" (157 : Nat) ({ cls := "CableDrawerModel", name := "spelled", desc := "(IIIIII)J" } : Jvm.MethodName)) ∈ lw_all := lw_g (lw_at lw_m7 217 rfl) rfl
theorem q1791 : (Jvm.Cond.static ({ cls := "CableDrawerModel", name := "spelled", desc := "(IIIIII)J" } : Jvm.MethodName)) ∈ lw_all := lw_g (lw_at lw_m7 218 rfl) rfl
theorem q1792 : (Jvm.Cond.code ({ cls := "CableDrawerModel", name := "spelled", desc := "(IIIIII)J" } : Jvm.MethodName) prog_16_method_26_code (8 : Nat) (Option.some Jvm.ClassFile.FieldType.long)) ∈ lw_all := lw_g (lw_at lw_m7 219 rfl) rfl
theorem q1793 : (Jvm.Cond.methodLink "CableDrawerModel" (161 : Nat) ({ cls := "CableDrawerModel", name := "isWord", desc := "(J)Z" } : Jvm.MethodName)) ∈ lw_all := lw_g (lw_at lw_m7 220 rfl) rfl
theorem q1794 : (Jvm.Cond.privateMethod ({ cls := "CableDrawerModel", name := "isWord", desc := "(J)Z" } : Jvm.MethodName)) ∈ lw_tbl := lw_at lw_m7 221 rfl
theorem q1795 : (Jvm.Cond.instanceMethod ({ cls := "CableDrawerModel", name := "isWord", desc := "(J)Z" } : Jvm.MethodName)) ∈ lw_all := lw_g (lw_at lw_m7 222 rfl) rfl
theorem q1796 : (Jvm.Cond.code ({ cls := "CableDrawerModel", name := "isWord", desc := "(J)Z" } : Jvm.MethodName) prog_16_method_27_code (3 : Nat) (Option.some Jvm.ClassFile.FieldType.boolean)) ∈ lw_all := lw_g (lw_at lw_m7 223 rfl) rfl
theorem q1797 : (Jvm.Cond.methodLink "CableDrawerModel" (267 : Nat) ({ cls := "CableDrawerModel", name := "readLead", desc := "()V" } : Jvm.MethodName)) ∈ lw_all := lw_g (lw_at lw_m7 224 rfl) rfl
theorem q1798 : (Jvm.Cond.privateMethod ({ cls := "CableDrawerModel", name := "readLead", desc := "()V" } : Jvm.MethodName)) ∈ lw_tbl := lw_at lw_m7 225 rfl
theorem q1799 : (Jvm.Cond.instanceMethod ({ cls := "CableDrawerModel", name := "readLead", desc := "()V" } : Jvm.MethodName)) ∈ lw_all := lw_g (lw_at lw_m7 226 rfl) rfl
theorem q1800 : (Jvm.Cond.code ({ cls := "CableDrawerModel", name := "readLead", desc := "()V" } : Jvm.MethodName) prog_16_method_58_code (2 : Nat) (Option.none : Option Jvm.ClassFile.FieldType)) ∈ lw_all := lw_g (lw_at lw_m7 227 rfl) rfl
theorem q1801 : (Jvm.Cond.methodLink "CableDrawerModel" (222 : Nat) ({ cls := "CableDrawerModel", name := "fail", desc := "(II)V" } : Jvm.MethodName)) ∈ lw_all := lw_g (lw_at lw_m7 228 rfl) rfl
theorem q1802 : (Jvm.Cond.privateMethod ({ cls := "CableDrawerModel", name := "fail", desc := "(II)V" } : Jvm.MethodName)) ∈ lw_tbl := lw_at lw_m7 229 rfl
theorem q1803 : (Jvm.Cond.instanceMethod ({ cls := "CableDrawerModel", name := "fail", desc := "(II)V" } : Jvm.MethodName)) ∈ lw_all := lw_g (lw_at lw_m7 230 rfl) rfl
theorem q1804 : (Jvm.Cond.code ({ cls := "CableDrawerModel", name := "fail", desc := "(II)V" } : Jvm.MethodName) prog_16_method_44_code (3 : Nat) (Option.none : Option Jvm.ClassFile.FieldType)) ∈ lw_all := lw_g (lw_at lw_m7 231 rfl) rfl
theorem q1805 : (Jvm.Cond.methodLink "CableDrawerModel" (258 : Nat) ({ cls := "CableDrawerModel", name := "readNew", desc := "(I)V" } : Jvm.MethodName)) ∈ lw_all := lw_g (lw_at lw_m7 232 rfl) rfl
theorem q1806 : (Jvm.Cond.privateMethod ({ cls := "CableDrawerModel", name := "readNew", desc := "(I)V" } : Jvm.MethodName)) ∈ lw_tbl := lw_at lw_m7 233 rfl
theorem q1807 : (Jvm.Cond.instanceMethod ({ cls := "CableDrawerModel", name := "readNew", desc := "(I)V" } : Jvm.MethodName)) ∈ lw_all := lw_g (lw_at lw_m7 234 rfl) rfl
theorem q1808 : (Jvm.Cond.code ({ cls := "CableDrawerModel", name := "readNew", desc := "(I)V" } : Jvm.MethodName) prog_16_method_55_code (2 : Nat) (Option.none : Option Jvm.ClassFile.FieldType)) ∈ lw_all := lw_g (lw_at lw_m7 235 rfl) rfl
theorem q1809 : (Jvm.Cond.methodLink "CableDrawerModel" (239 : Nat) ({ cls := "CableDrawerModel", name := "isName", desc := "()Z" } : Jvm.MethodName)) ∈ lw_all := lw_g (lw_at lw_m7 236 rfl) rfl
theorem q1810 : (Jvm.Cond.privateMethod ({ cls := "CableDrawerModel", name := "isName", desc := "()Z" } : Jvm.MethodName)) ∈ lw_tbl := lw_at lw_m7 237 rfl
theorem q1811 : (Jvm.Cond.instanceMethod ({ cls := "CableDrawerModel", name := "isName", desc := "()Z" } : Jvm.MethodName)) ∈ lw_all := lw_g (lw_at lw_m7 238 rfl) rfl
theorem q1812 : (Jvm.Cond.code ({ cls := "CableDrawerModel", name := "isName", desc := "()Z" } : Jvm.MethodName) prog_16_method_43_code (1 : Nat) (Option.some Jvm.ClassFile.FieldType.boolean)) ∈ lw_all := lw_g (lw_at lw_m7 239 rfl) rfl
theorem q1813 : (Jvm.Cond.methodLink "CableDrawerModel" (213 : Nat) ({ cls := "CableDrawerModel", name := "isKept", desc := "()Z" } : Jvm.MethodName)) ∈ lw_all := lw_g (lw_at lw_m8 0 rfl) rfl
theorem q1814 : (Jvm.Cond.privateMethod ({ cls := "CableDrawerModel", name := "isKept", desc := "()Z" } : Jvm.MethodName)) ∈ lw_tbl := lw_at lw_m8 1 rfl
theorem q1815 : (Jvm.Cond.instanceMethod ({ cls := "CableDrawerModel", name := "isKept", desc := "()Z" } : Jvm.MethodName)) ∈ lw_all := lw_g (lw_at lw_m8 2 rfl) rfl
theorem q1816 : (Jvm.Cond.code ({ cls := "CableDrawerModel", name := "isKept", desc := "()Z" } : Jvm.MethodName) prog_16_method_42_code (1 : Nat) (Option.some Jvm.ClassFile.FieldType.boolean)) ∈ lw_all := lw_g (lw_at lw_m8 3 rfl) rfl
theorem q1817 : (Jvm.Cond.methodLink "CableDrawerModel" (179 : Nat) ({ cls := "CableDrawerModel", name := "isLong", desc := "()Z" } : Jvm.MethodName)) ∈ lw_all := lw_g (lw_at lw_m8 4 rfl) rfl
theorem q1818 : (Jvm.Cond.privateMethod ({ cls := "CableDrawerModel", name := "isLong", desc := "()Z" } : Jvm.MethodName)) ∈ lw_tbl := lw_at lw_m8 5 rfl
theorem q1819 : (Jvm.Cond.instanceMethod ({ cls := "CableDrawerModel", name := "isLong", desc := "()Z" } : Jvm.MethodName)) ∈ lw_all := lw_g (lw_at lw_m8 6 rfl) rfl
theorem q1820 : (Jvm.Cond.code ({ cls := "CableDrawerModel", name := "isLong", desc := "()Z" } : Jvm.MethodName) prog_16_method_29_code (1 : Nat) (Option.some Jvm.ClassFile.FieldType.boolean)) ∈ lw_all := lw_g (lw_at lw_m8 7 rfl) rfl
theorem q1821 : (Jvm.Cond.methodLink "CableDrawerModel" (182 : Nat) ({ cls := "CableDrawerModel", name := "isStiff", desc := "()Z" } : Jvm.MethodName)) ∈ lw_all := lw_g (lw_at lw_m8 8 rfl) rfl
theorem q1822 : (Jvm.Cond.privateMethod ({ cls := "CableDrawerModel", name := "isStiff", desc := "()Z" } : Jvm.MethodName)) ∈ lw_tbl := lw_at lw_m8 9 rfl
theorem q1823 : (Jvm.Cond.instanceMethod ({ cls := "CableDrawerModel", name := "isStiff", desc := "()Z" } : Jvm.MethodName)) ∈ lw_all := lw_g (lw_at lw_m8 10 rfl) rfl
theorem q1824 : (Jvm.Cond.code ({ cls := "CableDrawerModel", name := "isStiff", desc := "()Z" } : Jvm.MethodName) prog_16_method_30_code (1 : Nat) (Option.some Jvm.ClassFile.FieldType.boolean)) ∈ lw_all := lw_g (lw_at lw_m8 11 rfl) rfl
theorem q1825 : (Jvm.Cond.methodLink "CableDrawerModel" (185 : Nat) ({ cls := "CableDrawerModel", name := "isEnds", desc := "()Z" } : Jvm.MethodName)) ∈ lw_all := lw_g (lw_at lw_m8 12 rfl) rfl
theorem q1826 : (Jvm.Cond.privateMethod ({ cls := "CableDrawerModel", name := "isEnds", desc := "()Z" } : Jvm.MethodName)) ∈ lw_tbl := lw_at lw_m8 13 rfl
theorem q1827 : (Jvm.Cond.instanceMethod ({ cls := "CableDrawerModel", name := "isEnds", desc := "()Z" } : Jvm.MethodName)) ∈ lw_all := lw_g (lw_at lw_m8 14 rfl) rfl
theorem q1828 : (Jvm.Cond.code ({ cls := "CableDrawerModel", name := "isEnds", desc := "()Z" } : Jvm.MethodName) prog_16_method_31_code (1 : Nat) (Option.some Jvm.ClassFile.FieldType.boolean)) ∈ lw_all := lw_g (lw_at lw_m8 15 rfl) rfl
theorem q1829 : (Jvm.Cond.methodLink "CableDrawerModel" (188 : Nat) ({ cls := "CableDrawerModel", name := "isCosts", desc := "()Z" } : Jvm.MethodName)) ∈ lw_all := lw_g (lw_at lw_m8 16 rfl) rfl
theorem q1830 : (Jvm.Cond.privateMethod ({ cls := "CableDrawerModel", name := "isCosts", desc := "()Z" } : Jvm.MethodName)) ∈ lw_tbl := lw_at lw_m8 17 rfl
theorem q1831 : (Jvm.Cond.instanceMethod ({ cls := "CableDrawerModel", name := "isCosts", desc := "()Z" } : Jvm.MethodName)) ∈ lw_all := lw_g (lw_at lw_m8 18 rfl) rfl
theorem q1832 : (Jvm.Cond.code ({ cls := "CableDrawerModel", name := "isCosts", desc := "()Z" } : Jvm.MethodName) prog_16_method_32_code (1 : Nat) (Option.some Jvm.ClassFile.FieldType.boolean)) ∈ lw_all := lw_g (lw_at lw_m8 19 rfl) rfl
theorem q1833 : (Jvm.Cond.methodLink "CableDrawerModel" (191 : Nat) ({ cls := "CableDrawerModel", name := "isUsed", desc := "()Z" } : Jvm.MethodName)) ∈ lw_all := lw_g (lw_at lw_m8 20 rfl) rfl
theorem q1834 : (Jvm.Cond.privateMethod ({ cls := "CableDrawerModel", name := "isUsed", desc := "()Z" } : Jvm.MethodName)) ∈ lw_tbl := lw_at lw_m8 21 rfl
theorem q1835 : (Jvm.Cond.instanceMethod ({ cls := "CableDrawerModel", name := "isUsed", desc := "()Z" } : Jvm.MethodName)) ∈ lw_all := lw_g (lw_at lw_m8 22 rfl) rfl
theorem q1836 : (Jvm.Cond.code ({ cls := "CableDrawerModel", name := "isUsed", desc := "()Z" } : Jvm.MethodName) prog_16_method_33_code (1 : Nat) (Option.some Jvm.ClassFile.FieldType.boolean)) ∈ lw_all := lw_g (lw_at lw_m8 23 rfl) rfl
theorem q1837 : (Jvm.Cond.methodLink "CableDrawerModel" (169 : Nat) ({ cls := "CableDrawerModel", name := "isClip", desc := "()Z" } : Jvm.MethodName)) ∈ lw_all := lw_g (lw_at lw_m8 24 rfl) rfl
theorem q1838 : (Jvm.Cond.privateMethod ({ cls := "CableDrawerModel", name := "isClip", desc := "()Z" } : Jvm.MethodName)) ∈ lw_tbl := lw_at lw_m8 25 rfl
theorem q1839 : (Jvm.Cond.instanceMethod ({ cls := "CableDrawerModel", name := "isClip", desc := "()Z" } : Jvm.MethodName)) ∈ lw_all := lw_g (lw_at lw_m8 26 rfl) rfl
theorem q1840 : (Jvm.Cond.code ({ cls := "CableDrawerModel", name := "isClip", desc := "()Z" } : Jvm.MethodName) prog_16_method_34_code (1 : Nat) (Option.some Jvm.ClassFile.FieldType.boolean)) ∈ lw_all := lw_g (lw_at lw_m8 27 rfl) rfl
theorem q1841 : (Jvm.Cond.methodLink "CableDrawerModel" (173 : Nat) ({ cls := "CableDrawerModel", name := "isCross", desc := "()Z" } : Jvm.MethodName)) ∈ lw_all := lw_g (lw_at lw_m8 28 rfl) rfl
theorem q1842 : (Jvm.Cond.privateMethod ({ cls := "CableDrawerModel", name := "isCross", desc := "()Z" } : Jvm.MethodName)) ∈ lw_tbl := lw_at lw_m8 29 rfl
theorem q1843 : (Jvm.Cond.instanceMethod ({ cls := "CableDrawerModel", name := "isCross", desc := "()Z" } : Jvm.MethodName)) ∈ lw_all := lw_g (lw_at lw_m8 30 rfl) rfl
theorem q1844 : (Jvm.Cond.code ({ cls := "CableDrawerModel", name := "isCross", desc := "()Z" } : Jvm.MethodName) prog_16_method_35_code (1 : Nat) (Option.some Jvm.ClassFile.FieldType.boolean)) ∈ lw_all := lw_g (lw_at lw_m8 31 rfl) rfl
theorem q1845 : (Jvm.Cond.methodLink "CableDrawerModel" (194 : Nat) ({ cls := "CableDrawerModel", name := "isLook", desc := "()Z" } : Jvm.MethodName)) ∈ lw_all := lw_g (lw_at lw_m8 32 rfl) rfl
theorem q1846 : (Jvm.Cond.privateMethod ({ cls := "CableDrawerModel", name := "isLook", desc := "()Z" } : Jvm.MethodName)) ∈ lw_tbl := lw_at lw_m8 33 rfl
theorem q1847 : (Jvm.Cond.instanceMethod ({ cls := "CableDrawerModel", name := "isLook", desc := "()Z" } : Jvm.MethodName)) ∈ lw_all := lw_g (lw_at lw_m8 34 rfl) rfl
theorem q1848 : (Jvm.Cond.code ({ cls := "CableDrawerModel", name := "isLook", desc := "()Z" } : Jvm.MethodName) prog_16_method_36_code (1 : Nat) (Option.some Jvm.ClassFile.FieldType.boolean)) ∈ lw_all := lw_g (lw_at lw_m8 35 rfl) rfl
theorem q1849 : (Jvm.Cond.methodLink "CableDrawerModel" (197 : Nat) ({ cls := "CableDrawerModel", name := "isFrom", desc := "()Z" } : Jvm.MethodName)) ∈ lw_all := lw_g (lw_at lw_m8 36 rfl) rfl
theorem q1850 : (Jvm.Cond.privateMethod ({ cls := "CableDrawerModel", name := "isFrom", desc := "()Z" } : Jvm.MethodName)) ∈ lw_tbl := lw_at lw_m8 37 rfl
theorem q1851 : (Jvm.Cond.instanceMethod ({ cls := "CableDrawerModel", name := "isFrom", desc := "()Z" } : Jvm.MethodName)) ∈ lw_all := lw_g (lw_at lw_m8 38 rfl) rfl
theorem q1852 : (Jvm.Cond.code ({ cls := "CableDrawerModel", name := "isFrom", desc := "()Z" } : Jvm.MethodName) prog_16_method_37_code (1 : Nat) (Option.some Jvm.ClassFile.FieldType.boolean)) ∈ lw_all := lw_g (lw_at lw_m8 39 rfl) rfl
theorem q1853 : (Jvm.Cond.methodLink "CableDrawerModel" (200 : Nat) ({ cls := "CableDrawerModel", name := "stateWord", desc := "()I" } : Jvm.MethodName)) ∈ lw_all := lw_g (lw_at lw_m8 40 rfl) rfl
theorem q1854 : (Jvm.Cond.privateMethod ({ cls := "CableDrawerModel", name := "stateWord", desc := "()I" } : Jvm.MethodName)) ∈ lw_tbl := lw_at lw_m8 41 rfl
theorem q1855 : (Jvm.Cond.instanceMethod ({ cls := "CableDrawerModel", name := "stateWord", desc := "()I" } : Jvm.MethodName)) ∈ lw_all := lw_g (lw_at lw_m8 42 rfl) rfl
theorem q1856 : (Jvm.Cond.code ({ cls := "CableDrawerModel", name := "stateWord", desc := "()I" } : Jvm.MethodName) prog_16_method_38_code (1 : Nat) (Option.some Jvm.ClassFile.FieldType.int)) ∈ lw_all := lw_g (lw_at lw_m8 43 rfl) rfl
theorem q1857 : (Jvm.Cond.constantLong "CableDrawerModel" (165 : Nat) (5 : Int64)) ∈ lw_all := lw_g (lw_at lw_m8 44 rfl) rfl
theorem q1858 : (Jvm.Cond.constantLong "CableDrawerModel" (167 : Nat) (4 : Int64)) ∈ lw_all := lw_g (lw_at lw_m8 45 rfl) rfl
theorem q1859 : (Jvm.Cond.methodLink "CableDrawerModel" (204 : Nat) ({ cls := "CableDrawerModel", name := "stepWord", desc := "()I" } : Jvm.MethodName)) ∈ lw_all := lw_g (lw_at lw_m8 46 rfl) rfl
theorem q1860 : (Jvm.Cond.privateMethod ({ cls := "CableDrawerModel", name := "stepWord", desc := "()I" } : Jvm.MethodName)) ∈ lw_tbl := lw_at lw_m8 47 rfl
theorem q1861 : (Jvm.Cond.instanceMethod ({ cls := "CableDrawerModel", name := "stepWord", desc := "()I" } : Jvm.MethodName)) ∈ lw_all := lw_g (lw_at lw_m8 48 rfl) rfl
theorem q1862 : (Jvm.Cond.code ({ cls := "CableDrawerModel", name := "stepWord", desc := "()I" } : Jvm.MethodName) prog_16_method_39_code (1 : Nat) (Option.some Jvm.ClassFile.FieldType.int)) ∈ lw_all := lw_g (lw_at lw_m8 49 rfl) rfl
theorem q1863 : (Jvm.Cond.methodLink "CableDrawerModel" (207 : Nat) ({ cls := "CableDrawerModel", name := "testWord", desc := "()I" } : Jvm.MethodName)) ∈ lw_all := lw_g (lw_at lw_m8 50 rfl) rfl
theorem q1864 : (Jvm.Cond.privateMethod ({ cls := "CableDrawerModel", name := "testWord", desc := "()I" } : Jvm.MethodName)) ∈ lw_tbl := lw_at lw_m8 51 rfl
theorem q1865 : (Jvm.Cond.instanceMethod ({ cls := "CableDrawerModel", name := "testWord", desc := "()I" } : Jvm.MethodName)) ∈ lw_all := lw_g (lw_at lw_m8 52 rfl) rfl
theorem q1866 : (Jvm.Cond.code ({ cls := "CableDrawerModel", name := "testWord", desc := "()I" } : Jvm.MethodName) prog_16_method_40_code (1 : Nat) (Option.some Jvm.ClassFile.FieldType.int)) ∈ lw_all := lw_g (lw_at lw_m8 53 rfl) rfl
theorem q1867 : (Jvm.Cond.methodLink "CableDrawerModel" (210 : Nat) ({ cls := "CableDrawerModel", name := "isEnd", desc := "()Z" } : Jvm.MethodName)) ∈ lw_all := lw_g (lw_at lw_m8 54 rfl) rfl
theorem q1868 : (Jvm.Cond.privateMethod ({ cls := "CableDrawerModel", name := "isEnd", desc := "()Z" } : Jvm.MethodName)) ∈ lw_tbl := lw_at lw_m8 55 rfl
theorem q1869 : (Jvm.Cond.instanceMethod ({ cls := "CableDrawerModel", name := "isEnd", desc := "()Z" } : Jvm.MethodName)) ∈ lw_all := lw_g (lw_at lw_m8 56 rfl) rfl
theorem q1870 : (Jvm.Cond.code ({ cls := "CableDrawerModel", name := "isEnd", desc := "()Z" } : Jvm.MethodName) prog_16_method_41_code (1 : Nat) (Option.some Jvm.ClassFile.FieldType.boolean)) ∈ lw_all := lw_g (lw_at lw_m8 57 rfl) rfl
theorem q1871 : (Jvm.Cond.methodLink "CableDrawerModel" (229 : Nat) ({ cls := "CableDrawerModel", name := "wrong", desc := "()V" } : Jvm.MethodName)) ∈ lw_all := lw_g (lw_at lw_m8 58 rfl) rfl
theorem q1872 : (Jvm.Cond.privateMethod ({ cls := "CableDrawerModel", name := "wrong", desc := "()V" } : Jvm.MethodName)) ∈ lw_tbl := lw_at lw_m8 59 rfl
theorem q1873 : (Jvm.Cond.instanceMethod ({ cls := "CableDrawerModel", name := "wrong", desc := "()V" } : Jvm.MethodName)) ∈ lw_all := lw_g (lw_at lw_m8 60 rfl) rfl
theorem q1874 : (Jvm.Cond.code ({ cls := "CableDrawerModel", name := "wrong", desc := "()V" } : Jvm.MethodName) prog_16_method_45_code (1 : Nat) (Option.none : Option Jvm.ClassFile.FieldType)) ∈ lw_all := lw_g (lw_at lw_m8 61 rfl) rfl
theorem q1875 : (Jvm.Cond.methodLink "CableDrawerModel" (242 : Nat) ({ cls := "CableDrawerModel", name := "leadNamed", desc := "(I)I" } : Jvm.MethodName)) ∈ lw_all := lw_g (lw_at lw_m8 62 rfl) rfl
theorem q1876 : (Jvm.Cond.privateMethod ({ cls := "CableDrawerModel", name := "leadNamed", desc := "(I)I" } : Jvm.MethodName)) ∈ lw_tbl := lw_at lw_m8 63 rfl
theorem q1877 : (Jvm.Cond.instanceMethod ({ cls := "CableDrawerModel", name := "leadNamed", desc := "(I)I" } : Jvm.MethodName)) ∈ lw_all := lw_g (lw_at lw_m8 64 rfl) rfl
theorem q1878 : (Jvm.Cond.code ({ cls := "CableDrawerModel", name := "leadNamed", desc := "(I)I" } : Jvm.MethodName) prog_16_method_53_code (3 : Nat) (Option.some Jvm.ClassFile.FieldType.int)) ∈ lw_all := lw_g (lw_at lw_m8 65 rfl) rfl
theorem q1879 : (Jvm.Cond.methodLink "CableDrawerModel" (245 : Nat) ({ cls := "CableDrawerModel", name := "isLookNamed", desc := "()Z" } : Jvm.MethodName)) ∈ lw_all := lw_g (lw_at lw_m8 66 rfl) rfl
theorem q1880 : (Jvm.Cond.privateMethod ({ cls := "CableDrawerModel", name := "isLookNamed", desc := "()Z" } : Jvm.MethodName)) ∈ lw_tbl := lw_at lw_m8 67 rfl
theorem q1881 : (Jvm.Cond.instanceMethod ({ cls := "CableDrawerModel", name := "isLookNamed", desc := "()Z" } : Jvm.MethodName)) ∈ lw_all := lw_g (lw_at lw_m8 68 rfl) rfl
theorem q1882 : (Jvm.Cond.code ({ cls := "CableDrawerModel", name := "isLookNamed", desc := "()Z" } : Jvm.MethodName) prog_16_method_54_code (2 : Nat) (Option.some Jvm.ClassFile.FieldType.boolean)) ∈ lw_all := lw_g (lw_at lw_m8 69 rfl) rfl
theorem q1883 : (Jvm.Cond.methodLink "CableDrawerModel" (254 : Nat) ({ cls := "CableDrawerModel", name := "must", desc := "(Z)V" } : Jvm.MethodName)) ∈ lw_all := lw_g (lw_at lw_m8 70 rfl) rfl
theorem q1884 : (Jvm.Cond.privateMethod ({ cls := "CableDrawerModel", name := "must", desc := "(Z)V" } : Jvm.MethodName)) ∈ lw_tbl := lw_at lw_m8 71 rfl
theorem q1885 : (Jvm.Cond.instanceMethod ({ cls := "CableDrawerModel", name := "must", desc := "(Z)V" } : Jvm.MethodName)) ∈ lw_all := lw_g (lw_at lw_m8 72 rfl) rfl
theorem q1886 : (Jvm.Cond.code ({ cls := "CableDrawerModel", name := "must", desc := "(Z)V" } : Jvm.MethodName) prog_16_method_46_code (2 : Nat) (Option.none : Option Jvm.ClassFile.FieldType)) ∈ lw_all := lw_g (lw_at lw_m8 73 rfl) rfl
theorem q1887 : (Jvm.Cond.methodLink "CableDrawerModel" (261 : Nat) ({ cls := "CableDrawerModel", name := "count", desc := "(II)I" } : Jvm.MethodName)) ∈ lw_all := lw_g (lw_at lw_m8 74 rfl) rfl
theorem q1888 : (Jvm.Cond.privateMethod ({ cls := "CableDrawerModel", name := "count", desc := "(II)I" } : Jvm.MethodName)) ∈ lw_tbl := lw_at lw_m8 75 rfl
theorem q1889 : (Jvm.Cond.instanceMethod ({ cls := "CableDrawerModel", name := "count", desc := "(II)I" } : Jvm.MethodName)) ∈ lw_all := lw_g (lw_at lw_m8 76 rfl) rfl
theorem q1890 : (Jvm.Cond.code ({ cls := "CableDrawerModel", name := "count", desc := "(II)I" } : Jvm.MethodName) prog_16_method_47_code (4 : Nat) (Option.some Jvm.ClassFile.FieldType.int)) ∈ lw_all := lw_g (lw_at lw_m8 77 rfl) rfl
theorem q1891 : (Jvm.Cond.methodLink "CableDrawerModel" (112 : Nat) ({ cls := "CableDrawerModel", name := "isIn", desc := "(JJJ)Z" } : Jvm.MethodName)) ∈ lw_all := lw_g (lw_at lw_m8 78 rfl) rfl
theorem q1892 : (Jvm.Cond.static ({ cls := "CableDrawerModel", name := "isIn", desc := "(JJJ)Z" } : Jvm.MethodName)) ∈ lw_all := lw_g (lw_at lw_m8 79 rfl) rfl
theorem q1893 : (Jvm.Cond.code ({ cls := "CableDrawerModel", name := "isIn", desc := "(JJJ)Z" } : Jvm.MethodName) prog_16_method_8_code (6 : Nat) (Option.some Jvm.ClassFile.FieldType.boolean)) ∈ lw_all := lw_g (lw_at lw_m8 80 rfl) rfl
theorem q1894 : (Jvm.Cond.methodLink "CableDrawerModel" (270 : Nat) ({ cls := "CableDrawerModel", name := "readCross", desc := "()V" } : Jvm.MethodName)) ∈ lw_all := lw_g (lw_at lw_m8 81 rfl) rfl
theorem q1895 : (Jvm.Cond.privateMethod ({ cls := "CableDrawerModel", name := "readCross", desc := "()V" } : Jvm.MethodName)) ∈ lw_tbl := lw_at lw_m8 82 rfl
theorem q1896 : (Jvm.Cond.instanceMethod ({ cls := "CableDrawerModel", name := "readCross", desc := "()V" } : Jvm.MethodName)) ∈ lw_all := lw_g (lw_at lw_m8 83 rfl) rfl
theorem q1897 : (Jvm.Cond.code ({ cls := "CableDrawerModel", name := "readCross", desc := "()V" } : Jvm.MethodName) prog_16_method_59_code (5 : Nat) (Option.none : Option Jvm.ClassFile.FieldType)) ∈ lw_all := lw_g (lw_at lw_m8 84 rfl) rfl
theorem q1898 : (Jvm.Cond.methodLink "CableDrawerModel" (251 : Nat) ({ cls := "CableDrawerModel", name := "told", desc := "(I)I" } : Jvm.MethodName)) ∈ lw_all := lw_g (lw_at lw_m8 85 rfl) rfl
theorem q1899 : (Jvm.Cond.privateMethod ({ cls := "CableDrawerModel", name := "told", desc := "(I)I" } : Jvm.MethodName)) ∈ lw_tbl := lw_at lw_m8 86 rfl
theorem q1900 : (Jvm.Cond.instanceMethod ({ cls := "CableDrawerModel", name := "told", desc := "(I)I" } : Jvm.MethodName)) ∈ lw_all := lw_g (lw_at lw_m8 87 rfl) rfl
theorem q1901 : (Jvm.Cond.code ({ cls := "CableDrawerModel", name := "told", desc := "(I)I" } : Jvm.MethodName) prog_16_method_56_code (3 : Nat) (Option.some Jvm.ClassFile.FieldType.int)) ∈ lw_all := lw_g (lw_at lw_m8 88 rfl) rfl
theorem q1902 : (Jvm.Cond.methodLink "CableDrawerModel" (248 : Nat) ({ cls := "java/lang/Math", name := "max", desc := "(II)I" } : Jvm.MethodName)) ∈ lw_all := lw_g (lw_at lw_m8 89 rfl) rfl
theorem q1903 : (Jvm.Cond.methodLink "CableDrawerModel" (116 : Nat) ({ cls := "CableDrawerModel", name := "has", desc := "(II)Z" } : Jvm.MethodName)) ∈ lw_all := lw_g (lw_at lw_m8 90 rfl) rfl
theorem q1904 : (Jvm.Cond.static ({ cls := "CableDrawerModel", name := "has", desc := "(II)Z" } : Jvm.MethodName)) ∈ lw_all := lw_g (lw_at lw_m8 91 rfl) rfl
theorem q1905 : (Jvm.Cond.code ({ cls := "CableDrawerModel", name := "has", desc := "(II)Z" } : Jvm.MethodName) prog_16_method_18_code (2 : Nat) (Option.some Jvm.ClassFile.FieldType.boolean)) ∈ lw_all := lw_g (lw_at lw_m8 92 rfl) rfl
theorem q1906 : (Jvm.Cond.methodLink "CableDrawerModel" (273 : Nat) ({ cls := "CableDrawerModel", name := "readLook", desc := "()V" } : Jvm.MethodName)) ∈ lw_all := lw_g (lw_at lw_m8 93 rfl) rfl
theorem q1907 : (Jvm.Cond.privateMethod ({ cls := "CableDrawerModel", name := "readLook", desc := "()V" } : Jvm.MethodName)) ∈ lw_tbl := lw_at lw_m8 94 rfl
theorem q1908 : (Jvm.Cond.instanceMethod ({ cls := "CableDrawerModel", name := "readLook", desc := "()V" } : Jvm.MethodName)) ∈ lw_all := lw_g (lw_at lw_m8 95 rfl) rfl
theorem q1909 : (Jvm.Cond.code ({ cls := "CableDrawerModel", name := "readLook", desc := "()V" } : Jvm.MethodName) prog_16_method_60_code (5 : Nat) (Option.none : Option Jvm.ClassFile.FieldType)) ∈ lw_all := lw_g (lw_at lw_m8 96 rfl) rfl
theorem q1910 : (Jvm.Cond.methodLink "CableDrawerModel" (276 : Nat) ({ cls := "CableDrawerModel", name := "isSign", desc := "(I)Z" } : Jvm.MethodName)) ∈ lw_all := lw_g (lw_at lw_m8 97 rfl) rfl
theorem q1911 : (Jvm.Cond.privateMethod ({ cls := "CableDrawerModel", name := "isSign", desc := "(I)Z" } : Jvm.MethodName)) ∈ lw_tbl := lw_at lw_m8 98 rfl
theorem q1912 : (Jvm.Cond.instanceMethod ({ cls := "CableDrawerModel", name := "isSign", desc := "(I)Z" } : Jvm.MethodName)) ∈ lw_all := lw_g (lw_at lw_m8 99 rfl) rfl
theorem q1913 : (Jvm.Cond.code ({ cls := "CableDrawerModel", name := "isSign", desc := "(I)Z" } : Jvm.MethodName) prog_16_method_25_code (2 : Nat) (Option.some Jvm.ClassFile.FieldType.boolean)) ∈ lw_all := lw_g (lw_at lw_m8 100 rfl) rfl
theorem q1914 : (Jvm.Cond.methodLink "CableDrawerModel" (279 : Nat) ({ cls := "CableDrawerModel", name := "isWell", desc := "()Z" } : Jvm.MethodName)) ∈ lw_all := lw_g (lw_at lw_m8 101 rfl) rfl
theorem q1915 : (Jvm.Cond.privateMethod ({ cls := "CableDrawerModel", name := "isWell", desc := "()Z" } : Jvm.MethodName)) ∈ lw_tbl := lw_at lw_m8 102 rfl
theorem q1916 : (Jvm.Cond.instanceMethod ({ cls := "CableDrawerModel", name := "isWell", desc := "()Z" } : Jvm.MethodName)) ∈ lw_all := lw_g (lw_at lw_m8 103 rfl) rfl
theorem q1917 : (Jvm.Cond.code ({ cls := "CableDrawerModel", name := "isWell", desc := "()Z" } : Jvm.MethodName) prog_16_method_51_code (1 : Nat) (Option.some Jvm.ClassFile.FieldType.boolean)) ∈ lw_all := lw_g (lw_at lw_m8 104 rfl) rfl
theorem q1918 : (Jvm.Cond.methodLink "CableDrawerModel" (282 : Nat) ({ cls := "CableDrawerModel", name := "copy", desc := "(II)V" } : Jvm.MethodName)) ∈ lw_all := lw_g (lw_at lw_m8 105 rfl) rfl
theorem q1919 : (Jvm.Cond.privateMethod ({ cls := "CableDrawerModel", name := "copy", desc := "(II)V" } : Jvm.MethodName)) ∈ lw_tbl := lw_at lw_m8 106 rfl
theorem q1920 : (Jvm.Cond.instanceMethod ({ cls := "CableDrawerModel", name := "copy", desc := "(II)V" } : Jvm.MethodName)) ∈ lw_all := lw_g (lw_at lw_m8 107 rfl) rfl
theorem q1921 : (Jvm.Cond.code ({ cls := "CableDrawerModel", name := "copy", desc := "(II)V" } : Jvm.MethodName) prog_16_method_148_code (4 : Nat) (Option.none : Option Jvm.ClassFile.FieldType)) ∈ lw_all := lw_g (lw_at lw_m8 108 rfl) rfl
theorem q1923 : (Jvm.Cond.instanceMethod ({ cls := "CableDrawerModel", name := "years", desc := "(I)I" } : Jvm.MethodName)) ∈ lw_all := lw_g (lw_at lw_m8 110 rfl) rfl
theorem q1924 : (Jvm.Cond.selects "CableDrawerModel" ({ cls := "CableDrawerModel", name := "years", desc := "(I)I" } : Jvm.MethodName) ({ cls := "CableDrawerModel", name := "years", desc := "(I)I" } : Jvm.MethodName)) ∈ lw_all := lw_g (lw_at lw_m8 111 rfl) rfl
theorem q1925 : (Jvm.Cond.code ({ cls := "CableDrawerModel", name := "years", desc := "(I)I" } : Jvm.MethodName) prog_16_method_65_code (3 : Nat) (Option.some Jvm.ClassFile.FieldType.int)) ∈ lw_all := lw_g (lw_at lw_m8 112 rfl) rfl
theorem q1926 : (Jvm.Cond.methodLink "CableDrawerModel" (297 : Nat) ({ cls := "CableDrawerModel", name := "readStep", desc := "(I)V" } : Jvm.MethodName)) ∈ lw_all := lw_g (lw_at lw_m8 113 rfl) rfl
theorem q1927 : (Jvm.Cond.privateMethod ({ cls := "CableDrawerModel", name := "readStep", desc := "(I)V" } : Jvm.MethodName)) ∈ lw_tbl := lw_at lw_m8 114 rfl
theorem q1928 : (Jvm.Cond.instanceMethod ({ cls := "CableDrawerModel", name := "readStep", desc := "(I)V" } : Jvm.MethodName)) ∈ lw_all := lw_g (lw_at lw_m8 115 rfl) rfl
theorem q1929 : (Jvm.Cond.code ({ cls := "CableDrawerModel", name := "readStep", desc := "(I)V" } : Jvm.MethodName) prog_16_method_64_code (5 : Nat) (Option.none : Option Jvm.ClassFile.FieldType)) ∈ lw_all := lw_g (lw_at lw_m8 116 rfl) rfl
theorem q1930 : (Jvm.Cond.methodLink "CableDrawerModel" (294 : Nat) ({ cls := "CableDrawerModel", name := "readRest", desc := "(I)V" } : Jvm.MethodName)) ∈ lw_all := lw_g (lw_at lw_m8 117 rfl) rfl
theorem q1931 : (Jvm.Cond.privateMethod ({ cls := "CableDrawerModel", name := "readRest", desc := "(I)V" } : Jvm.MethodName)) ∈ lw_tbl := lw_at lw_m8 118 rfl
theorem q1932 : (Jvm.Cond.instanceMethod ({ cls := "CableDrawerModel", name := "readRest", desc := "(I)V" } : Jvm.MethodName)) ∈ lw_all := lw_g (lw_at lw_m8 119 rfl) rfl
theorem q1933 : (Jvm.Cond.code ({ cls := "CableDrawerModel", name := "readRest", desc := "(I)V" } : Jvm.MethodName) prog_16_method_63_code (3 : Nat) (Option.none : Option Jvm.ClassFile.FieldType)) ∈ lw_all := lw_g (lw_at lw_m8 120 rfl) rfl
theorem q1934 : (Jvm.Cond.methodLink "CableDrawerModel" (288 : Nat) ({ cls := "CableDrawerModel", name := "readTest", desc := "(I)V" } : Jvm.MethodName)) ∈ lw_all := lw_g (lw_at lw_m8 121 rfl) rfl
theorem q1935 : (Jvm.Cond.privateMethod ({ cls := "CableDrawerModel", name := "readTest", desc := "(I)V" } : Jvm.MethodName)) ∈ lw_tbl := lw_at lw_m8 122 rfl
theorem q1936 : (Jvm.Cond.instanceMethod ({ cls := "CableDrawerModel", name := "readTest", desc := "(I)V" } : Jvm.MethodName)) ∈ lw_all := lw_g (lw_at lw_m8 123 rfl) rfl
theorem q1937 : (Jvm.Cond.code ({ cls := "CableDrawerModel", name := "readTest", desc := "(I)V" } : Jvm.MethodName) prog_16_method_62_code (3 : Nat) (Option.none : Option Jvm.ClassFile.FieldType)) ∈ lw_all := lw_g (lw_at lw_m8 124 rfl) rfl
theorem q1938 : (Jvm.Cond.methodLink "CableDrawerModel" (285 : Nat) ({ cls := "CableDrawerModel", name := "readTold", desc := "(I)I" } : Jvm.MethodName)) ∈ lw_all := lw_g (lw_at lw_m8 125 rfl) rfl
theorem q1939 : (Jvm.Cond.privateMethod ({ cls := "CableDrawerModel", name := "readTold", desc := "(I)I" } : Jvm.MethodName)) ∈ lw_tbl := lw_at lw_m8 126 rfl
theorem q1940 : (Jvm.Cond.instanceMethod ({ cls := "CableDrawerModel", name := "readTold", desc := "(I)I" } : Jvm.MethodName)) ∈ lw_all := lw_g (lw_at lw_m8 127 rfl) rfl
theorem q1941 : (Jvm.Cond.code ({ cls := "CableDrawerModel", name := "readTold", desc := "(I)I" } : Jvm.MethodName) prog_16_method_57_code (3 : Nat) (Option.some Jvm.ClassFile.FieldType.int)) ∈ lw_all := lw_g (lw_at lw_m8 128 rfl) rfl
theorem q1943 : (Jvm.Cond.instanceMethod ({ cls := "CableDrawerModel", name := "many", desc := "(I)I" } : Jvm.MethodName)) ∈ lw_all := lw_g (lw_at lw_m8 130 rfl) rfl
theorem q1944 : (Jvm.Cond.selects "CableDrawerModel" ({ cls := "CableDrawerModel", name := "many", desc := "(I)I" } : Jvm.MethodName) ({ cls := "CableDrawerModel", name := "many", desc := "(I)I" } : Jvm.MethodName)) ∈ lw_all := lw_g (lw_at lw_m8 131 rfl) rfl
theorem q1945 : (Jvm.Cond.code ({ cls := "CableDrawerModel", name := "many", desc := "(I)I" } : Jvm.MethodName) prog_16_method_71_code (2 : Nat) (Option.some Jvm.ClassFile.FieldType.int)) ∈ lw_all := lw_g (lw_at lw_m8 132 rfl) rfl
theorem q1946 : (Jvm.Cond.constantLong "CableDrawerModel" (306 : Nat) (7 : Int64)) ∈ lw_all := lw_g (lw_at lw_m8 133 rfl) rfl
theorem q1947 : (Jvm.Cond.methodLink "CableDrawerModel" (308 : Nat) ({ cls := "CableDrawerModel", name := "refuse", desc := "(I)I" } : Jvm.MethodName)) ∈ lw_all := lw_g (lw_at lw_m8 134 rfl) rfl
theorem q1948 : (Jvm.Cond.privateMethod ({ cls := "CableDrawerModel", name := "refuse", desc := "(I)I" } : Jvm.MethodName)) ∈ lw_tbl := lw_at lw_m8 135 rfl
theorem q1949 : (Jvm.Cond.instanceMethod ({ cls := "CableDrawerModel", name := "refuse", desc := "(I)I" } : Jvm.MethodName)) ∈ lw_all := lw_g (lw_at lw_m8 136 rfl) rfl
theorem q1950 : (Jvm.Cond.code ({ cls := "CableDrawerModel", name := "refuse", desc := "(I)I" } : Jvm.MethodName) prog_16_method_6_code (2 : Nat) (Option.some Jvm.ClassFile.FieldType.int)) ∈ lw_all := lw_g (lw_at lw_m8 137 rfl) rfl
theorem q1952 : (Jvm.Cond.instanceMethod ({ cls := "CableDrawerModel", name := "lead", desc := "(II)I" } : Jvm.MethodName)) ∈ lw_all := lw_g (lw_at lw_m8 139 rfl) rfl
theorem q1953 : (Jvm.Cond.selects "CableDrawerModel" ({ cls := "CableDrawerModel", name := "lead", desc := "(II)I" } : Jvm.MethodName) ({ cls := "CableDrawerModel", name := "lead", desc := "(II)I" } : Jvm.MethodName)) ∈ lw_all := lw_g (lw_at lw_m8 140 rfl) rfl
theorem q1954 : (Jvm.Cond.code ({ cls := "CableDrawerModel", name := "lead", desc := "(II)I" } : Jvm.MethodName) prog_16_method_72_code (3 : Nat) (Option.some Jvm.ClassFile.FieldType.int)) ∈ lw_all := lw_g (lw_at lw_m8 141 rfl) rfl
theorem q1955 : (Jvm.Cond.methodLink "CableDrawerModel" (311 : Nat) ({ cls := "CableDrawerModel", name := "isLeadAt", desc := "(I)Z" } : Jvm.MethodName)) ∈ lw_all := lw_g (lw_at lw_m8 142 rfl) rfl
theorem q1956 : (Jvm.Cond.privateMethod ({ cls := "CableDrawerModel", name := "isLeadAt", desc := "(I)Z" } : Jvm.MethodName)) ∈ lw_tbl := lw_at lw_m8 143 rfl
theorem q1957 : (Jvm.Cond.instanceMethod ({ cls := "CableDrawerModel", name := "isLeadAt", desc := "(I)Z" } : Jvm.MethodName)) ∈ lw_all := lw_g (lw_at lw_m8 144 rfl) rfl
theorem q1958 : (Jvm.Cond.code ({ cls := "CableDrawerModel", name := "isLeadAt", desc := "(I)Z" } : Jvm.MethodName) prog_16_method_66_code (2 : Nat) (Option.some Jvm.ClassFile.FieldType.boolean)) ∈ lw_all := lw_g (lw_at lw_m8 145 rfl) rfl
theorem q1959 : (Jvm.Cond.methodLink "CableDrawerModel" (314 : Nat) ({ cls := "CableDrawerModel", name := "crossings", desc := "(I)I" } : Jvm.MethodName)) ∈ lw_all := lw_g (lw_at lw_m8 146 rfl) rfl
theorem q1960 : (Jvm.Cond.privateMethod ({ cls := "CableDrawerModel", name := "crossings", desc := "(I)I" } : Jvm.MethodName)) ∈ lw_tbl := lw_at lw_m8 147 rfl
theorem q1961 : (Jvm.Cond.instanceMethod ({ cls := "CableDrawerModel", name := "crossings", desc := "(I)I" } : Jvm.MethodName)) ∈ lw_all := lw_g (lw_at lw_m8 148 rfl) rfl
theorem q1962 : (Jvm.Cond.code ({ cls := "CableDrawerModel", name := "crossings", desc := "(I)I" } : Jvm.MethodName) prog_16_method_69_code (4 : Nat) (Option.some Jvm.ClassFile.FieldType.int)) ∈ lw_all := lw_g (lw_at lw_m8 149 rfl) rfl
theorem q1963 : (Jvm.Cond.methodLink "CableDrawerModel" (300 : Nat) ({ cls := "CableDrawerModel", name := "isOf", desc := "(II)Z" } : Jvm.MethodName)) ∈ lw_all := lw_g (lw_at lw_m8 150 rfl) rfl
theorem q1964 : (Jvm.Cond.privateMethod ({ cls := "CableDrawerModel", name := "isOf", desc := "(II)Z" } : Jvm.MethodName)) ∈ lw_tbl := lw_at lw_m8 151 rfl
theorem q1965 : (Jvm.Cond.instanceMethod ({ cls := "CableDrawerModel", name := "isOf", desc := "(II)Z" } : Jvm.MethodName)) ∈ lw_all := lw_g (lw_at lw_m8 152 rfl) rfl
theorem q1966 : (Jvm.Cond.code ({ cls := "CableDrawerModel", name := "isOf", desc := "(II)Z" } : Jvm.MethodName) prog_16_method_68_code (3 : Nat) (Option.some Jvm.ClassFile.FieldType.boolean)) ∈ lw_all := lw_g (lw_at lw_m8 153 rfl) rfl
theorem q1967 : (Jvm.Cond.methodLink "CableDrawerModel" (317 : Nat) ({ cls := "CableDrawerModel", name := "riskOf", desc := "(I)I" } : Jvm.MethodName)) ∈ lw_all := lw_g (lw_at lw_m8 154 rfl) rfl
theorem q1968 : (Jvm.Cond.privateMethod ({ cls := "CableDrawerModel", name := "riskOf", desc := "(I)I" } : Jvm.MethodName)) ∈ lw_tbl := lw_at lw_m8 155 rfl
theorem q1969 : (Jvm.Cond.instanceMethod ({ cls := "CableDrawerModel", name := "riskOf", desc := "(I)I" } : Jvm.MethodName)) ∈ lw_all := lw_g (lw_at lw_m8 156 rfl) rfl
theorem q1970 : (Jvm.Cond.code ({ cls := "CableDrawerModel", name := "riskOf", desc := "(I)I" } : Jvm.MethodName) prog_16_method_70_code (2 : Nat) (Option.some Jvm.ClassFile.FieldType.int)) ∈ lw_all := lw_g (lw_at lw_m8 157 rfl) rfl
theorem q1971 : (Jvm.Cond.methodLink "CableDrawerModel" (303 : Nat) ({ cls := "java/lang/Math", name := "min", desc := "(II)I" } : Jvm.MethodName)) ∈ lw_all := lw_g (lw_at lw_m8 158 rfl) rfl
theorem q1973 : (Jvm.Cond.instanceMethod ({ cls := "CableDrawerModel", name := "crossing", desc := "(II)I" } : Jvm.MethodName)) ∈ lw_all := lw_g (lw_at lw_m8 160 rfl) rfl
theorem q1974 : (Jvm.Cond.selects "CableDrawerModel" ({ cls := "CableDrawerModel", name := "crossing", desc := "(II)I" } : Jvm.MethodName) ({ cls := "CableDrawerModel", name := "crossing", desc := "(II)I" } : Jvm.MethodName)) ∈ lw_all := lw_g (lw_at lw_m8 161 rfl) rfl
theorem q1975 : (Jvm.Cond.code ({ cls := "CableDrawerModel", name := "crossing", desc := "(II)I" } : Jvm.MethodName) prog_16_method_73_code (3 : Nat) (Option.some Jvm.ClassFile.FieldType.int)) ∈ lw_all := lw_g (lw_at lw_m8 162 rfl) rfl
theorem q1976 : (Jvm.Cond.constantLong "CableDrawerModel" (320 : Nat) (2 : Int64)) ∈ lw_all := lw_g (lw_at lw_m8 163 rfl) rfl
theorem q1978 : (Jvm.Cond.instanceMethod ({ cls := "CableDrawerModel", name := "along", desc := "(II)I" } : Jvm.MethodName)) ∈ lw_all := lw_g (lw_at lw_m8 165 rfl) rfl
theorem q1979 : (Jvm.Cond.selects "CableDrawerModel" ({ cls := "CableDrawerModel", name := "along", desc := "(II)I" } : Jvm.MethodName) ({ cls := "CableDrawerModel", name := "along", desc := "(II)I" } : Jvm.MethodName)) ∈ lw_all := lw_g (lw_at lw_m8 166 rfl) rfl
theorem q1980 : (Jvm.Cond.code ({ cls := "CableDrawerModel", name := "along", desc := "(II)I" } : Jvm.MethodName) prog_16_method_74_code (5 : Nat) (Option.some Jvm.ClassFile.FieldType.int)) ∈ lw_all := lw_g (lw_at lw_m8 167 rfl) rfl
theorem q1982 : (Jvm.Cond.instanceMethod ({ cls := "CableDrawerModel", name := "look", desc := "(I)I" } : Jvm.MethodName)) ∈ lw_all := lw_g (lw_at lw_m8 169 rfl) rfl
theorem q1983 : (Jvm.Cond.selects "CableDrawerModel" ({ cls := "CableDrawerModel", name := "look", desc := "(I)I" } : Jvm.MethodName) ({ cls := "CableDrawerModel", name := "look", desc := "(I)I" } : Jvm.MethodName)) ∈ lw_all := lw_g (lw_at lw_m8 170 rfl) rfl
theorem q1984 : (Jvm.Cond.code ({ cls := "CableDrawerModel", name := "look", desc := "(I)I" } : Jvm.MethodName) prog_16_method_75_code (2 : Nat) (Option.some Jvm.ClassFile.FieldType.int)) ∈ lw_all := lw_g (lw_at lw_m8 171 rfl) rfl
theorem q1986 : (Jvm.Cond.instanceMethod ({ cls := "CableDrawerModel", name := "between", desc := "(II)I" } : Jvm.MethodName)) ∈ lw_all := lw_g (lw_at lw_m8 173 rfl) rfl
theorem q1987 : (Jvm.Cond.selects "CableDrawerModel" ({ cls := "CableDrawerModel", name := "between", desc := "(II)I" } : Jvm.MethodName) ({ cls := "CableDrawerModel", name := "between", desc := "(II)I" } : Jvm.MethodName)) ∈ lw_all := lw_g (lw_at lw_m8 174 rfl) rfl
theorem q1988 : (Jvm.Cond.code ({ cls := "CableDrawerModel", name := "between", desc := "(II)I" } : Jvm.MethodName) prog_16_method_76_code (5 : Nat) (Option.some Jvm.ClassFile.FieldType.int)) ∈ lw_all := lw_g (lw_at lw_m8 175 rfl) rfl
theorem q1990 : (Jvm.Cond.instanceMethod ({ cls := "CableDrawerModel", name := "copyStates", desc := "(I)I" } : Jvm.MethodName)) ∈ lw_all := lw_g (lw_at lw_m8 177 rfl) rfl
theorem q1991 : (Jvm.Cond.selects "CableDrawerModel" ({ cls := "CableDrawerModel", name := "copyStates", desc := "(I)I" } : Jvm.MethodName) ({ cls := "CableDrawerModel", name := "copyStates", desc := "(I)I" } : Jvm.MethodName)) ∈ lw_all := lw_g (lw_at lw_m8 178 rfl) rfl
theorem q1992 : (Jvm.Cond.code ({ cls := "CableDrawerModel", name := "copyStates", desc := "(I)I" } : Jvm.MethodName) prog_16_method_77_code (3 : Nat) (Option.some Jvm.ClassFile.FieldType.int)) ∈ lw_all := lw_g (lw_at lw_m8 179 rfl) rfl
theorem q1993 : (Jvm.Cond.methodLink "CableDrawerModel" (322 : Nat) ({ cls := "CableDrawerModel", name := "isTray", desc := "(I)Z" } : Jvm.MethodName)) ∈ lw_all := lw_g (lw_at lw_m8 180 rfl) rfl
theorem q1994 : (Jvm.Cond.privateMethod ({ cls := "CableDrawerModel", name := "isTray", desc := "(I)Z" } : Jvm.MethodName)) ∈ lw_tbl := lw_at lw_m8 181 rfl
theorem q1995 : (Jvm.Cond.instanceMethod ({ cls := "CableDrawerModel", name := "isTray", desc := "(I)Z" } : Jvm.MethodName)) ∈ lw_all := lw_g (lw_at lw_m8 182 rfl) rfl
theorem q1996 : (Jvm.Cond.code ({ cls := "CableDrawerModel", name := "isTray", desc := "(I)Z" } : Jvm.MethodName) prog_16_method_17_code (2 : Nat) (Option.some Jvm.ClassFile.FieldType.boolean)) ∈ lw_all := lw_g (lw_at lw_m8 183 rfl) rfl
theorem q1997 : (Jvm.Cond.constantLong "CableDrawerModel" (110 : Nat) (3 : Int64)) ∈ lw_all := lw_g (lw_at lw_m8 184 rfl) rfl
theorem q1999 : (Jvm.Cond.instanceMethod ({ cls := "CableDrawerModel", name := "follow", desc := "(II)I" } : Jvm.MethodName)) ∈ lw_all := lw_g (lw_at lw_m8 186 rfl) rfl
theorem q2000 : (Jvm.Cond.selects "CableDrawerModel" ({ cls := "CableDrawerModel", name := "follow", desc := "(II)I" } : Jvm.MethodName) ({ cls := "CableDrawerModel", name := "follow", desc := "(II)I" } : Jvm.MethodName)) ∈ lw_all := lw_g (lw_at lw_m8 187 rfl) rfl
theorem q2001 : (Jvm.Cond.code ({ cls := "CableDrawerModel", name := "follow", desc := "(II)I" } : Jvm.MethodName) prog_16_method_84_code (3 : Nat) (Option.some Jvm.ClassFile.FieldType.int)) ∈ lw_all := lw_g (lw_at lw_m8 188 rfl) rfl
theorem q2002 : (Jvm.Cond.methodLink "CableDrawerModel" (337 : Nat) ({ cls := "CableDrawerModel", name := "isInside", desc := "(I)Z" } : Jvm.MethodName)) ∈ lw_all := lw_g (lw_at lw_m8 189 rfl) rfl
theorem q2003 : (Jvm.Cond.privateMethod ({ cls := "CableDrawerModel", name := "isInside", desc := "(I)Z" } : Jvm.MethodName)) ∈ lw_tbl := lw_at lw_m8 190 rfl
theorem q2004 : (Jvm.Cond.instanceMethod ({ cls := "CableDrawerModel", name := "isInside", desc := "(I)Z" } : Jvm.MethodName)) ∈ lw_all := lw_g (lw_at lw_m8 191 rfl) rfl
theorem q2005 : (Jvm.Cond.code ({ cls := "CableDrawerModel", name := "isInside", desc := "(I)Z" } : Jvm.MethodName) prog_16_method_67_code (2 : Nat) (Option.some Jvm.ClassFile.FieldType.boolean)) ∈ lw_all := lw_g (lw_at lw_m8 192 rfl) rfl
theorem q2006 : (Jvm.Cond.methodLink "CableDrawerModel" (331 : Nat) ({ cls := "CableDrawerModel", name := "nearest", desc := "(II)I" } : Jvm.MethodName)) ∈ lw_all := lw_g (lw_at lw_m8 193 rfl) rfl
theorem q2007 : (Jvm.Cond.privateMethod ({ cls := "CableDrawerModel", name := "nearest", desc := "(II)I" } : Jvm.MethodName)) ∈ lw_tbl := lw_at lw_m8 194 rfl
theorem q2008 : (Jvm.Cond.instanceMethod ({ cls := "CableDrawerModel", name := "nearest", desc := "(II)I" } : Jvm.MethodName)) ∈ lw_all := lw_g (lw_at lw_m8 195 rfl) rfl
theorem q2009 : (Jvm.Cond.code ({ cls := "CableDrawerModel", name := "nearest", desc := "(II)I" } : Jvm.MethodName) prog_16_method_82_code (5 : Nat) (Option.some Jvm.ClassFile.FieldType.int)) ∈ lw_all := lw_g (lw_at lw_m8 196 rfl) rfl
theorem q2010 : (Jvm.Cond.methodLink "CableDrawerModel" (340 : Nat) ({ cls := "CableDrawerModel", name := "followsOne", desc := "(II)I" } : Jvm.MethodName)) ∈ lw_all := lw_g (lw_at lw_m8 197 rfl) rfl
theorem q2011 : (Jvm.Cond.privateMethod ({ cls := "CableDrawerModel", name := "followsOne", desc := "(II)I" } : Jvm.MethodName)) ∈ lw_tbl := lw_at lw_m8 198 rfl
theorem q2012 : (Jvm.Cond.instanceMethod ({ cls := "CableDrawerModel", name := "followsOne", desc := "(II)I" } : Jvm.MethodName)) ∈ lw_all := lw_g (lw_at lw_m8 199 rfl) rfl
theorem q2013 : (Jvm.Cond.code ({ cls := "CableDrawerModel", name := "followsOne", desc := "(II)I" } : Jvm.MethodName) prog_16_method_83_code (5 : Nat) (Option.some Jvm.ClassFile.FieldType.int)) ∈ lw_all := lw_g (lw_at lw_m8 200 rfl) rfl
theorem q2014 : (Jvm.Cond.methodLink "CableDrawerModel" (334 : Nat) ({ cls := "CableDrawerModel", name := "costOf", desc := "(II)I" } : Jvm.MethodName)) ∈ lw_all := lw_g (lw_at lw_m8 201 rfl) rfl
theorem q2015 : (Jvm.Cond.privateMethod ({ cls := "CableDrawerModel", name := "costOf", desc := "(II)I" } : Jvm.MethodName)) ∈ lw_tbl := lw_at lw_m8 202 rfl
theorem q2016 : (Jvm.Cond.instanceMethod ({ cls := "CableDrawerModel", name := "costOf", desc := "(II)I" } : Jvm.MethodName)) ∈ lw_all := lw_g (lw_at lw_m8 203 rfl) rfl
theorem q2017 : (Jvm.Cond.code ({ cls := "CableDrawerModel", name := "costOf", desc := "(II)I" } : Jvm.MethodName) prog_16_method_81_code (3 : Nat) (Option.some Jvm.ClassFile.FieldType.int)) ∈ lw_all := lw_g (lw_at lw_m8 204 rfl) rfl
theorem q2018 : (Jvm.Cond.methodLink "CableDrawerModel" (328 : Nat) ({ cls := "CableDrawerModel", name := "secondsOf", desc := "(I)I" } : Jvm.MethodName)) ∈ lw_all := lw_g (lw_at lw_m8 205 rfl) rfl
theorem q2019 : (Jvm.Cond.static ({ cls := "CableDrawerModel", name := "secondsOf", desc := "(I)I" } : Jvm.MethodName)) ∈ lw_all := lw_g (lw_at lw_m8 206 rfl) rfl
theorem q2020 : (Jvm.Cond.code ({ cls := "CableDrawerModel", name := "secondsOf", desc := "(I)I" } : Jvm.MethodName) prog_16_method_80_code (1 : Nat) (Option.some Jvm.ClassFile.FieldType.int)) ∈ lw_all := lw_g (lw_at lw_m8 207 rfl) rfl
theorem q2021 : (Jvm.Cond.methodLink "CableDrawerModel" (325 : Nat) ({ cls := "CableDrawerModel", name := "drops", desc := "(I)V" } : Jvm.MethodName)) ∈ lw_all := lw_g (lw_at lw_m8 208 rfl) rfl
theorem q2022 : (Jvm.Cond.privateMethod ({ cls := "CableDrawerModel", name := "drops", desc := "(I)V" } : Jvm.MethodName)) ∈ lw_tbl := lw_at lw_m8 209 rfl
theorem q2023 : (Jvm.Cond.instanceMethod ({ cls := "CableDrawerModel", name := "drops", desc := "(I)V" } : Jvm.MethodName)) ∈ lw_all := lw_g (lw_at lw_m8 210 rfl) rfl
theorem q2024 : (Jvm.Cond.code ({ cls := "CableDrawerModel", name := "drops", desc := "(I)V" } : Jvm.MethodName) prog_16_method_78_code (3 : Nat) (Option.none : Option Jvm.ClassFile.FieldType)) ∈ lw_all := lw_g (lw_at lw_m8 211 rfl) rfl
theorem q2026 : (Jvm.Cond.instanceMethod ({ cls := "CableDrawerModel", name := "loosen", desc := "()I" } : Jvm.MethodName)) ∈ lw_all := lw_g (lw_at lw_m8 213 rfl) rfl
theorem q2027 : (Jvm.Cond.selects "CableDrawerModel" ({ cls := "CableDrawerModel", name := "loosen", desc := "()I" } : Jvm.MethodName) ({ cls := "CableDrawerModel", name := "loosen", desc := "()I" } : Jvm.MethodName)) ∈ lw_all := lw_g (lw_at lw_m8 214 rfl) rfl
theorem q2028 : (Jvm.Cond.code ({ cls := "CableDrawerModel", name := "loosen", desc := "()I" } : Jvm.MethodName) prog_16_method_86_code (1 : Nat) (Option.some Jvm.ClassFile.FieldType.int)) ∈ lw_all := lw_g (lw_at lw_m8 215 rfl) rfl
theorem q2029 : (Jvm.Cond.methodLink "CableDrawerModel" (343 : Nat) ({ cls := "CableDrawerModel", name := "loosensOnce", desc := "()I" } : Jvm.MethodName)) ∈ lw_all := lw_g (lw_at lw_m8 216 rfl) rfl
theorem q2030 : (Jvm.Cond.privateMethod ({ cls := "CableDrawerModel", name := "loosensOnce", desc := "()I" } : Jvm.MethodName)) ∈ lw_tbl := lw_at lw_m8 217 rfl
theorem q2031 : (Jvm.Cond.instanceMethod ({ cls := "CableDrawerModel", name := "loosensOnce", desc := "()I" } : Jvm.MethodName)) ∈ lw_all := lw_g (lw_at lw_m8 218 rfl) rfl
theorem q2032 : (Jvm.Cond.code ({ cls := "CableDrawerModel", name := "loosensOnce", desc := "()I" } : Jvm.MethodName) prog_16_method_85_code (3 : Nat) (Option.some Jvm.ClassFile.FieldType.int)) ∈ lw_all := lw_g (lw_at lw_m8 219 rfl) rfl
theorem q2034 : (Jvm.Cond.instanceMethod ({ cls := "CableDrawerModel", name := "pull", desc := "(I)I" } : Jvm.MethodName)) ∈ lw_all := lw_g (lw_at lw_m8 221 rfl) rfl
theorem q2035 : (Jvm.Cond.selects "CableDrawerModel" ({ cls := "CableDrawerModel", name := "pull", desc := "(I)I" } : Jvm.MethodName) ({ cls := "CableDrawerModel", name := "pull", desc := "(I)I" } : Jvm.MethodName)) ∈ lw_all := lw_g (lw_at lw_m8 222 rfl) rfl
theorem q2036 : (Jvm.Cond.code ({ cls := "CableDrawerModel", name := "pull", desc := "(I)I" } : Jvm.MethodName) prog_16_method_89_code (3 : Nat) (Option.some Jvm.ClassFile.FieldType.int)) ∈ lw_all := lw_g (lw_at lw_m8 223 rfl) rfl
theorem q2037 : (Jvm.Cond.methodLink "CableDrawerModel" (346 : Nat) ({ cls := "CableDrawerModel", name := "lumpOf", desc := "(I)I" } : Jvm.MethodName)) ∈ lw_all := lw_g (lw_at lw_m8 224 rfl) rfl
theorem q2038 : (Jvm.Cond.privateMethod ({ cls := "CableDrawerModel", name := "lumpOf", desc := "(I)I" } : Jvm.MethodName)) ∈ lw_tbl := lw_at lw_m8 225 rfl
theorem q2039 : (Jvm.Cond.instanceMethod ({ cls := "CableDrawerModel", name := "lumpOf", desc := "(I)I" } : Jvm.MethodName)) ∈ lw_all := lw_g (lw_at lw_m8 226 rfl) rfl
theorem q2040 : (Jvm.Cond.code ({ cls := "CableDrawerModel", name := "lumpOf", desc := "(I)I" } : Jvm.MethodName) prog_16_method_87_code (5 : Nat) (Option.some Jvm.ClassFile.FieldType.int)) ∈ lw_all := lw_g (lw_at lw_m8 227 rfl) rfl
theorem q2041 : (Jvm.Cond.methodLink "CableDrawerModel" (349 : Nat) ({ cls := "CableDrawerModel", name := "sizeOf", desc := "(I)I" } : Jvm.MethodName)) ∈ lw_all := lw_g (lw_at lw_m8 228 rfl) rfl
theorem q2042 : (Jvm.Cond.static ({ cls := "CableDrawerModel", name := "sizeOf", desc := "(I)I" } : Jvm.MethodName)) ∈ lw_all := lw_g (lw_at lw_m8 229 rfl) rfl
theorem q2043 : (Jvm.Cond.code ({ cls := "CableDrawerModel", name := "sizeOf", desc := "(I)I" } : Jvm.MethodName) prog_16_method_19_code (3 : Nat) (Option.some Jvm.ClassFile.FieldType.int)) ∈ lw_all := lw_g (lw_at lw_m8 230 rfl) rfl
theorem q2044 : (Jvm.Cond.methodLink "CableDrawerModel" (355 : Nat) ({ cls := "CableDrawerModel", name := "pulls", desc := "(I)V" } : Jvm.MethodName)) ∈ lw_all := lw_g (lw_at lw_m8 231 rfl) rfl
theorem q2045 : (Jvm.Cond.privateMethod ({ cls := "CableDrawerModel", name := "pulls", desc := "(I)V" } : Jvm.MethodName)) ∈ lw_tbl := lw_at lw_m8 232 rfl
theorem q2046 : (Jvm.Cond.instanceMethod ({ cls := "CableDrawerModel", name := "pulls", desc := "(I)V" } : Jvm.MethodName)) ∈ lw_all := lw_g (lw_at lw_m8 233 rfl) rfl
theorem q2047 : (Jvm.Cond.code ({ cls := "CableDrawerModel", name := "pulls", desc := "(I)V" } : Jvm.MethodName) prog_16_method_88_code (3 : Nat) (Option.none : Option Jvm.ClassFile.FieldType)) ∈ lw_all := lw_g (lw_at lw_m8 234 rfl) rfl
theorem q2048 : (Jvm.Cond.methodLink "CableDrawerModel" (352 : Nat) ({ cls := "CableDrawerModel", name := "dropsAll", desc := "(I)I" } : Jvm.MethodName)) ∈ lw_all := lw_g (lw_at lw_m8 235 rfl) rfl
theorem q2049 : (Jvm.Cond.privateMethod ({ cls := "CableDrawerModel", name := "dropsAll", desc := "(I)I" } : Jvm.MethodName)) ∈ lw_tbl := lw_at lw_m8 236 rfl
theorem q2050 : (Jvm.Cond.instanceMethod ({ cls := "CableDrawerModel", name := "dropsAll", desc := "(I)I" } : Jvm.MethodName)) ∈ lw_all := lw_g (lw_at lw_m8 237 rfl) rfl
theorem q2051 : (Jvm.Cond.code ({ cls := "CableDrawerModel", name := "dropsAll", desc := "(I)I" } : Jvm.MethodName) prog_16_method_79_code (4 : Nat) (Option.some Jvm.ClassFile.FieldType.int)) ∈ lw_all := lw_g (lw_at lw_m8 238 rfl) rfl
theorem q2053 : (Jvm.Cond.instanceMethod ({ cls := "CableDrawerModel", name := "cut", desc := "(I)I" } : Jvm.MethodName)) ∈ lw_all := lw_g (lw_at lw_m9 0 rfl) rfl
theorem q2054 : (Jvm.Cond.selects "CableDrawerModel" ({ cls := "CableDrawerModel", name := "cut", desc := "(I)I" } : Jvm.MethodName) ({ cls := "CableDrawerModel", name := "cut", desc := "(I)I" } : Jvm.MethodName)) ∈ lw_all := lw_g (lw_at lw_m9 1 rfl) rfl
theorem q2055 : (Jvm.Cond.code ({ cls := "CableDrawerModel", name := "cut", desc := "(I)I" } : Jvm.MethodName) prog_16_method_91_code (2 : Nat) (Option.some Jvm.ClassFile.FieldType.int)) ∈ lw_all := lw_g (lw_at lw_m9 2 rfl) rfl
theorem q2056 : (Jvm.Cond.methodLink "CableDrawerModel" (358 : Nat) ({ cls := "CableDrawerModel", name := "cuts", desc := "(I)I" } : Jvm.MethodName)) ∈ lw_all := lw_g (lw_at lw_m9 3 rfl) rfl
theorem q2057 : (Jvm.Cond.privateMethod ({ cls := "CableDrawerModel", name := "cuts", desc := "(I)I" } : Jvm.MethodName)) ∈ lw_tbl := lw_at lw_m9 4 rfl
theorem q2058 : (Jvm.Cond.instanceMethod ({ cls := "CableDrawerModel", name := "cuts", desc := "(I)I" } : Jvm.MethodName)) ∈ lw_all := lw_g (lw_at lw_m9 5 rfl) rfl
theorem q2059 : (Jvm.Cond.code ({ cls := "CableDrawerModel", name := "cuts", desc := "(I)I" } : Jvm.MethodName) prog_16_method_90_code (2 : Nat) (Option.some Jvm.ClassFile.FieldType.int)) ∈ lw_all := lw_g (lw_at lw_m9 6 rfl) rfl
theorem q2061 : (Jvm.Cond.instanceMethod ({ cls := "CableDrawerModel", name := "clip", desc := "(I)Z" } : Jvm.MethodName)) ∈ lw_all := lw_g (lw_at lw_m9 8 rfl) rfl
theorem q2062 : (Jvm.Cond.selects "CableDrawerModel" ({ cls := "CableDrawerModel", name := "clip", desc := "(I)Z" } : Jvm.MethodName) ({ cls := "CableDrawerModel", name := "clip", desc := "(I)Z" } : Jvm.MethodName)) ∈ lw_all := lw_g (lw_at lw_m9 9 rfl) rfl
theorem q2063 : (Jvm.Cond.code ({ cls := "CableDrawerModel", name := "clip", desc := "(I)Z" } : Jvm.MethodName) prog_16_method_93_code (2 : Nat) (Option.some Jvm.ClassFile.FieldType.boolean)) ∈ lw_all := lw_g (lw_at lw_m9 10 rfl) rfl
theorem q2064 : (Jvm.Cond.methodLink "CableDrawerModel" (361 : Nat) ({ cls := "CableDrawerModel", name := "clips2", desc := "(I)Z" } : Jvm.MethodName)) ∈ lw_all := lw_g (lw_at lw_m9 11 rfl) rfl
theorem q2065 : (Jvm.Cond.privateMethod ({ cls := "CableDrawerModel", name := "clips2", desc := "(I)Z" } : Jvm.MethodName)) ∈ lw_tbl := lw_at lw_m9 12 rfl
theorem q2066 : (Jvm.Cond.instanceMethod ({ cls := "CableDrawerModel", name := "clips2", desc := "(I)Z" } : Jvm.MethodName)) ∈ lw_all := lw_g (lw_at lw_m9 13 rfl) rfl
theorem q2067 : (Jvm.Cond.code ({ cls := "CableDrawerModel", name := "clips2", desc := "(I)Z" } : Jvm.MethodName) prog_16_method_92_code (2 : Nat) (Option.some Jvm.ClassFile.FieldType.boolean)) ∈ lw_all := lw_g (lw_at lw_m9 14 rfl) rfl
theorem q2069 : (Jvm.Cond.instanceMethod ({ cls := "CableDrawerModel", name := "unclip", desc := "(I)Z" } : Jvm.MethodName)) ∈ lw_all := lw_g (lw_at lw_m9 16 rfl) rfl
theorem q2070 : (Jvm.Cond.selects "CableDrawerModel" ({ cls := "CableDrawerModel", name := "unclip", desc := "(I)Z" } : Jvm.MethodName) ({ cls := "CableDrawerModel", name := "unclip", desc := "(I)Z" } : Jvm.MethodName)) ∈ lw_all := lw_g (lw_at lw_m9 17 rfl) rfl
theorem q2071 : (Jvm.Cond.code ({ cls := "CableDrawerModel", name := "unclip", desc := "(I)Z" } : Jvm.MethodName) prog_16_method_94_code (2 : Nat) (Option.some Jvm.ClassFile.FieldType.boolean)) ∈ lw_all := lw_g (lw_at lw_m9 18 rfl) rfl
theorem q2073 : (Jvm.Cond.instanceMethod ({ cls := "CableDrawerModel", name := "cross", desc := "(III)I" } : Jvm.MethodName)) ∈ lw_all := lw_g (lw_at lw_m9 20 rfl) rfl
theorem q2074 : (Jvm.Cond.selects "CableDrawerModel" ({ cls := "CableDrawerModel", name := "cross", desc := "(III)I" } : Jvm.MethodName) ({ cls := "CableDrawerModel", name := "cross", desc := "(III)I" } : Jvm.MethodName)) ∈ lw_all := lw_g (lw_at lw_m9 21 rfl) rfl
theorem q2075 : (Jvm.Cond.code ({ cls := "CableDrawerModel", name := "cross", desc := "(III)I" } : Jvm.MethodName) prog_16_method_97_code (4 : Nat) (Option.some Jvm.ClassFile.FieldType.int)) ∈ lw_all := lw_g (lw_at lw_m9 22 rfl) rfl
theorem q2076 : (Jvm.Cond.methodLink "CableDrawerModel" (364 : Nat) ({ cls := "CableDrawerModel", name := "crossable", desc := "()I" } : Jvm.MethodName)) ∈ lw_all := lw_g (lw_at lw_m9 23 rfl) rfl
theorem q2077 : (Jvm.Cond.privateMethod ({ cls := "CableDrawerModel", name := "crossable", desc := "()I" } : Jvm.MethodName)) ∈ lw_tbl := lw_at lw_m9 24 rfl
theorem q2078 : (Jvm.Cond.instanceMethod ({ cls := "CableDrawerModel", name := "crossable", desc := "()I" } : Jvm.MethodName)) ∈ lw_all := lw_g (lw_at lw_m9 25 rfl) rfl
theorem q2079 : (Jvm.Cond.code ({ cls := "CableDrawerModel", name := "crossable", desc := "()I" } : Jvm.MethodName) prog_16_method_95_code (1 : Nat) (Option.some Jvm.ClassFile.FieldType.int)) ∈ lw_all := lw_g (lw_at lw_m9 26 rfl) rfl
theorem q2080 : (Jvm.Cond.methodLink "CableDrawerModel" (367 : Nat) ({ cls := "CableDrawerModel", name := "crosses", desc := "(III)V" } : Jvm.MethodName)) ∈ lw_all := lw_g (lw_at lw_m9 27 rfl) rfl
theorem q2081 : (Jvm.Cond.privateMethod ({ cls := "CableDrawerModel", name := "crosses", desc := "(III)V" } : Jvm.MethodName)) ∈ lw_tbl := lw_at lw_m9 28 rfl
theorem q2082 : (Jvm.Cond.instanceMethod ({ cls := "CableDrawerModel", name := "crosses", desc := "(III)V" } : Jvm.MethodName)) ∈ lw_all := lw_g (lw_at lw_m9 29 rfl) rfl
theorem q2083 : (Jvm.Cond.code ({ cls := "CableDrawerModel", name := "crosses", desc := "(III)V" } : Jvm.MethodName) prog_16_method_96_code (5 : Nat) (Option.none : Option Jvm.ClassFile.FieldType)) ∈ lw_all := lw_g (lw_at lw_m9 30 rfl) rfl
theorem q2085 : (Jvm.Cond.instanceMethod ({ cls := "CableDrawerModel", name := "open", desc := "(I)I" } : Jvm.MethodName)) ∈ lw_all := lw_g (lw_at lw_m9 32 rfl) rfl
theorem q2086 : (Jvm.Cond.selects "CableDrawerModel" ({ cls := "CableDrawerModel", name := "open", desc := "(I)I" } : Jvm.MethodName) ({ cls := "CableDrawerModel", name := "open", desc := "(I)I" } : Jvm.MethodName)) ∈ lw_all := lw_g (lw_at lw_m9 33 rfl) rfl
theorem q2087 : (Jvm.Cond.code ({ cls := "CableDrawerModel", name := "open", desc := "(I)I" } : Jvm.MethodName) prog_16_method_100_code (2 : Nat) (Option.some Jvm.ClassFile.FieldType.int)) ∈ lw_all := lw_g (lw_at lw_m9 34 rfl) rfl
theorem q2088 : (Jvm.Cond.constantLong "CableDrawerModel" (378 : Nat) (9999 : Int64)) ∈ lw_all := lw_g (lw_at lw_m9 35 rfl) rfl
theorem q2089 : (Jvm.Cond.methodLink "CableDrawerModel" (380 : Nat) ({ cls := "CableDrawerModel", name := "opens", desc := "()I" } : Jvm.MethodName)) ∈ lw_all := lw_g (lw_at lw_m9 36 rfl) rfl
theorem q2090 : (Jvm.Cond.privateMethod ({ cls := "CableDrawerModel", name := "opens", desc := "()I" } : Jvm.MethodName)) ∈ lw_tbl := lw_at lw_m9 37 rfl
theorem q2091 : (Jvm.Cond.instanceMethod ({ cls := "CableDrawerModel", name := "opens", desc := "()I" } : Jvm.MethodName)) ∈ lw_all := lw_g (lw_at lw_m9 38 rfl) rfl
theorem q2092 : (Jvm.Cond.code ({ cls := "CableDrawerModel", name := "opens", desc := "()I" } : Jvm.MethodName) prog_16_method_99_code (7 : Nat) (Option.some Jvm.ClassFile.FieldType.int)) ∈ lw_all := lw_g (lw_at lw_m9 39 rfl) rfl
theorem q2093 : (Jvm.Cond.methodLink "CableDrawerModel" (375 : Nat) ({ cls := "CableDrawerModel", name := "draw", desc := "(I)I" } : Jvm.MethodName)) ∈ lw_all := lw_g (lw_at lw_m9 40 rfl) rfl
theorem q2094 : (Jvm.Cond.privateMethod ({ cls := "CableDrawerModel", name := "draw", desc := "(I)I" } : Jvm.MethodName)) ∈ lw_tbl := lw_at lw_m9 41 rfl
theorem q2095 : (Jvm.Cond.instanceMethod ({ cls := "CableDrawerModel", name := "draw", desc := "(I)I" } : Jvm.MethodName)) ∈ lw_all := lw_g (lw_at lw_m9 42 rfl) rfl
theorem q2096 : (Jvm.Cond.code ({ cls := "CableDrawerModel", name := "draw", desc := "(I)I" } : Jvm.MethodName) prog_16_method_98_code (2 : Nat) (Option.some Jvm.ClassFile.FieldType.int)) ∈ lw_all := lw_g (lw_at lw_m9 43 rfl) rfl
theorem q2097 : (Jvm.Cond.constant "CableDrawerModel" (374 : Nat) (65536 : Int32)) ∈ lw_all := lw_g (lw_at lw_m9 44 rfl) rfl
theorem q2099 : (Jvm.Cond.instanceMethod ({ cls := "CableDrawerModel", name := "lump", desc := "(I)I" } : Jvm.MethodName)) ∈ lw_all := lw_g (lw_at lw_m9 46 rfl) rfl
theorem q2100 : (Jvm.Cond.selects "CableDrawerModel" ({ cls := "CableDrawerModel", name := "lump", desc := "(I)I" } : Jvm.MethodName) ({ cls := "CableDrawerModel", name := "lump", desc := "(I)I" } : Jvm.MethodName)) ∈ lw_all := lw_g (lw_at lw_m9 47 rfl) rfl
theorem q2101 : (Jvm.Cond.code ({ cls := "CableDrawerModel", name := "lump", desc := "(I)I" } : Jvm.MethodName) prog_16_method_101_code (2 : Nat) (Option.some Jvm.ClassFile.FieldType.int)) ∈ lw_all := lw_g (lw_at lw_m9 48 rfl) rfl
theorem q2103 : (Jvm.Cond.instanceMethod ({ cls := "CableDrawerModel", name := "lumps", desc := "(I)I" } : Jvm.MethodName)) ∈ lw_all := lw_g (lw_at lw_m9 50 rfl) rfl
theorem q2104 : (Jvm.Cond.selects "CableDrawerModel" ({ cls := "CableDrawerModel", name := "lumps", desc := "(I)I" } : Jvm.MethodName) ({ cls := "CableDrawerModel", name := "lumps", desc := "(I)I" } : Jvm.MethodName)) ∈ lw_all := lw_g (lw_at lw_m9 51 rfl) rfl
theorem q2105 : (Jvm.Cond.code ({ cls := "CableDrawerModel", name := "lumps", desc := "(I)I" } : Jvm.MethodName) prog_16_method_103_code (5 : Nat) (Option.some Jvm.ClassFile.FieldType.int)) ∈ lw_all := lw_g (lw_at lw_m9 52 rfl) rfl
theorem q2106 : (Jvm.Cond.methodLink "CableDrawerModel" (383 : Nat) ({ cls := "CableDrawerModel", name := "largest", desc := "(I)I" } : Jvm.MethodName)) ∈ lw_all := lw_g (lw_at lw_m9 53 rfl) rfl
theorem q2107 : (Jvm.Cond.privateMethod ({ cls := "CableDrawerModel", name := "largest", desc := "(I)I" } : Jvm.MethodName)) ∈ lw_tbl := lw_at lw_m9 54 rfl
theorem q2108 : (Jvm.Cond.instanceMethod ({ cls := "CableDrawerModel", name := "largest", desc := "(I)I" } : Jvm.MethodName)) ∈ lw_all := lw_g (lw_at lw_m9 55 rfl) rfl
theorem q2109 : (Jvm.Cond.code ({ cls := "CableDrawerModel", name := "largest", desc := "(I)I" } : Jvm.MethodName) prog_16_method_102_code (4 : Nat) (Option.some Jvm.ClassFile.FieldType.int)) ∈ lw_all := lw_g (lw_at lw_m9 56 rfl) rfl
theorem q2111 : (Jvm.Cond.instanceMethod ({ cls := "CableDrawerModel", name := "comes", desc := "(I)I" } : Jvm.MethodName)) ∈ lw_all := lw_g (lw_at lw_m9 58 rfl) rfl
theorem q2112 : (Jvm.Cond.selects "CableDrawerModel" ({ cls := "CableDrawerModel", name := "comes", desc := "(I)I" } : Jvm.MethodName) ({ cls := "CableDrawerModel", name := "comes", desc := "(I)I" } : Jvm.MethodName)) ∈ lw_all := lw_g (lw_at lw_m9 59 rfl) rfl
theorem q2113 : (Jvm.Cond.code ({ cls := "CableDrawerModel", name := "comes", desc := "(I)I" } : Jvm.MethodName) prog_16_method_104_code (2 : Nat) (Option.some Jvm.ClassFile.FieldType.int)) ∈ lw_all := lw_g (lw_at lw_m9 60 rfl) rfl
theorem q2115 : (Jvm.Cond.instanceMethod ({ cls := "CableDrawerModel", name := "easy", desc := "()I" } : Jvm.MethodName)) ∈ lw_all := lw_g (lw_at lw_m9 62 rfl) rfl
theorem q2116 : (Jvm.Cond.selects "CableDrawerModel" ({ cls := "CableDrawerModel", name := "easy", desc := "()I" } : Jvm.MethodName) ({ cls := "CableDrawerModel", name := "easy", desc := "()I" } : Jvm.MethodName)) ∈ lw_all := lw_g (lw_at lw_m9 63 rfl) rfl
theorem q2117 : (Jvm.Cond.code ({ cls := "CableDrawerModel", name := "easy", desc := "()I" } : Jvm.MethodName) prog_16_method_105_code (3 : Nat) (Option.some Jvm.ClassFile.FieldType.int)) ∈ lw_all := lw_g (lw_at lw_m9 64 rfl) rfl
theorem q2119 : (Jvm.Cond.instanceMethod ({ cls := "CableDrawerModel", name := "free", desc := "(I)I" } : Jvm.MethodName)) ∈ lw_all := lw_g (lw_at lw_m9 66 rfl) rfl
theorem q2120 : (Jvm.Cond.selects "CableDrawerModel" ({ cls := "CableDrawerModel", name := "free", desc := "(I)I" } : Jvm.MethodName) ({ cls := "CableDrawerModel", name := "free", desc := "(I)I" } : Jvm.MethodName)) ∈ lw_all := lw_g (lw_at lw_m9 67 rfl) rfl
theorem q2121 : (Jvm.Cond.code ({ cls := "CableDrawerModel", name := "free", desc := "(I)I" } : Jvm.MethodName) prog_16_method_107_code (2 : Nat) (Option.some Jvm.ClassFile.FieldType.int)) ∈ lw_all := lw_g (lw_at lw_m9 68 rfl) rfl
theorem q2122 : (Jvm.Cond.methodLink "CableDrawerModel" (386 : Nat) ({ cls := "CableDrawerModel", name := "isFree", desc := "(I)Z" } : Jvm.MethodName)) ∈ lw_all := lw_g (lw_at lw_m9 69 rfl) rfl
theorem q2123 : (Jvm.Cond.privateMethod ({ cls := "CableDrawerModel", name := "isFree", desc := "(I)Z" } : Jvm.MethodName)) ∈ lw_tbl := lw_at lw_m9 70 rfl
theorem q2124 : (Jvm.Cond.instanceMethod ({ cls := "CableDrawerModel", name := "isFree", desc := "(I)Z" } : Jvm.MethodName)) ∈ lw_all := lw_g (lw_at lw_m9 71 rfl) rfl
theorem q2125 : (Jvm.Cond.code ({ cls := "CableDrawerModel", name := "isFree", desc := "(I)Z" } : Jvm.MethodName) prog_16_method_106_code (2 : Nat) (Option.some Jvm.ClassFile.FieldType.boolean)) ∈ lw_all := lw_g (lw_at lw_m9 72 rfl) rfl
theorem q2127 : (Jvm.Cond.instanceMethod ({ cls := "CableDrawerModel", name := "inState", desc := "(I)I" } : Jvm.MethodName)) ∈ lw_all := lw_g (lw_at lw_m9 74 rfl) rfl
theorem q2128 : (Jvm.Cond.selects "CableDrawerModel" ({ cls := "CableDrawerModel", name := "inState", desc := "(I)I" } : Jvm.MethodName) ({ cls := "CableDrawerModel", name := "inState", desc := "(I)I" } : Jvm.MethodName)) ∈ lw_all := lw_g (lw_at lw_m9 75 rfl) rfl
theorem q2129 : (Jvm.Cond.code ({ cls := "CableDrawerModel", name := "inState", desc := "(I)I" } : Jvm.MethodName) prog_16_method_109_code (2 : Nat) (Option.some Jvm.ClassFile.FieldType.int)) ∈ lw_all := lw_g (lw_at lw_m9 76 rfl) rfl
theorem q2130 : (Jvm.Cond.methodLink "CableDrawerModel" (389 : Nat) ({ cls := "CableDrawerModel", name := "stateMany", desc := "(I)I" } : Jvm.MethodName)) ∈ lw_all := lw_g (lw_at lw_m9 77 rfl) rfl
theorem q2131 : (Jvm.Cond.privateMethod ({ cls := "CableDrawerModel", name := "stateMany", desc := "(I)I" } : Jvm.MethodName)) ∈ lw_tbl := lw_at lw_m9 78 rfl
theorem q2132 : (Jvm.Cond.instanceMethod ({ cls := "CableDrawerModel", name := "stateMany", desc := "(I)I" } : Jvm.MethodName)) ∈ lw_all := lw_g (lw_at lw_m9 79 rfl) rfl
theorem q2133 : (Jvm.Cond.code ({ cls := "CableDrawerModel", name := "stateMany", desc := "(I)I" } : Jvm.MethodName) prog_16_method_108_code (4 : Nat) (Option.some Jvm.ClassFile.FieldType.int)) ∈ lw_all := lw_g (lw_at lw_m9 80 rfl) rfl
theorem q2135 : (Jvm.Cond.instanceMethod ({ cls := "CableDrawerModel", name := "worse", desc := "(II)I" } : Jvm.MethodName)) ∈ lw_all := lw_g (lw_at lw_m9 82 rfl) rfl
theorem q2136 : (Jvm.Cond.selects "CableDrawerModel" ({ cls := "CableDrawerModel", name := "worse", desc := "(II)I" } : Jvm.MethodName) ({ cls := "CableDrawerModel", name := "worse", desc := "(II)I" } : Jvm.MethodName)) ∈ lw_all := lw_g (lw_at lw_m9 83 rfl) rfl
theorem q2137 : (Jvm.Cond.code ({ cls := "CableDrawerModel", name := "worse", desc := "(II)I" } : Jvm.MethodName) prog_16_method_112_code (5 : Nat) (Option.some Jvm.ClassFile.FieldType.int)) ∈ lw_all := lw_g (lw_at lw_m9 84 rfl) rfl
theorem q2138 : (Jvm.Cond.methodLink "CableDrawerModel" (392 : Nat) ({ cls := "CableDrawerModel", name := "keeps", desc := "()V" } : Jvm.MethodName)) ∈ lw_all := lw_g (lw_at lw_m9 85 rfl) rfl
theorem q2139 : (Jvm.Cond.privateMethod ({ cls := "CableDrawerModel", name := "keeps", desc := "()V" } : Jvm.MethodName)) ∈ lw_tbl := lw_at lw_m9 86 rfl
theorem q2140 : (Jvm.Cond.instanceMethod ({ cls := "CableDrawerModel", name := "keeps", desc := "()V" } : Jvm.MethodName)) ∈ lw_all := lw_g (lw_at lw_m9 87 rfl) rfl
theorem q2141 : (Jvm.Cond.code ({ cls := "CableDrawerModel", name := "keeps", desc := "()V" } : Jvm.MethodName) prog_16_method_110_code (2 : Nat) (Option.none : Option Jvm.ClassFile.FieldType)) ∈ lw_all := lw_g (lw_at lw_m9 88 rfl) rfl
theorem q2142 : (Jvm.Cond.methodLink "CableDrawerModel" (395 : Nat) ({ cls := "CableDrawerModel", name := "gives", desc := "()V" } : Jvm.MethodName)) ∈ lw_all := lw_g (lw_at lw_m9 89 rfl) rfl
theorem q2143 : (Jvm.Cond.privateMethod ({ cls := "CableDrawerModel", name := "gives", desc := "()V" } : Jvm.MethodName)) ∈ lw_tbl := lw_at lw_m9 90 rfl
theorem q2144 : (Jvm.Cond.instanceMethod ({ cls := "CableDrawerModel", name := "gives", desc := "()V" } : Jvm.MethodName)) ∈ lw_all := lw_g (lw_at lw_m9 91 rfl) rfl
theorem q2145 : (Jvm.Cond.code ({ cls := "CableDrawerModel", name := "gives", desc := "()V" } : Jvm.MethodName) prog_16_method_111_code (2 : Nat) (Option.none : Option Jvm.ClassFile.FieldType)) ∈ lw_all := lw_g (lw_at lw_m9 92 rfl) rfl
theorem q2147 : (Jvm.Cond.instanceMethod ({ cls := "CableDrawerModel", name := "worst", desc := "()I" } : Jvm.MethodName)) ∈ lw_all := lw_g (lw_at lw_m9 94 rfl) rfl
theorem q2148 : (Jvm.Cond.selects "CableDrawerModel" ({ cls := "CableDrawerModel", name := "worst", desc := "()I" } : Jvm.MethodName) ({ cls := "CableDrawerModel", name := "worst", desc := "()I" } : Jvm.MethodName)) ∈ lw_all := lw_g (lw_at lw_m9 95 rfl) rfl
theorem q2149 : (Jvm.Cond.code ({ cls := "CableDrawerModel", name := "worst", desc := "()I" } : Jvm.MethodName) prog_16_method_113_code (3 : Nat) (Option.some Jvm.ClassFile.FieldType.int)) ∈ lw_all := lw_g (lw_at lw_m9 96 rfl) rfl
theorem q2151 : (Jvm.Cond.instanceMethod ({ cls := "CableDrawerModel", name := "key", desc := "()I" } : Jvm.MethodName)) ∈ lw_all := lw_g (lw_at lw_m9 98 rfl) rfl
theorem q2152 : (Jvm.Cond.selects "CableDrawerModel" ({ cls := "CableDrawerModel", name := "key", desc := "()I" } : Jvm.MethodName) ({ cls := "CableDrawerModel", name := "key", desc := "()I" } : Jvm.MethodName)) ∈ lw_all := lw_g (lw_at lw_m9 99 rfl) rfl
theorem q2153 : (Jvm.Cond.code ({ cls := "CableDrawerModel", name := "key", desc := "()I" } : Jvm.MethodName) prog_16_method_114_code (5 : Nat) (Option.some Jvm.ClassFile.FieldType.int)) ∈ lw_all := lw_g (lw_at lw_m9 100 rfl) rfl
theorem q2155 : (Jvm.Cond.instanceMethod ({ cls := "CableDrawerModel", name := "alone", desc := "(I)I" } : Jvm.MethodName)) ∈ lw_all := lw_g (lw_at lw_m9 102 rfl) rfl
theorem q2156 : (Jvm.Cond.selects "CableDrawerModel" ({ cls := "CableDrawerModel", name := "alone", desc := "(I)I" } : Jvm.MethodName) ({ cls := "CableDrawerModel", name := "alone", desc := "(I)I" } : Jvm.MethodName)) ∈ lw_all := lw_g (lw_at lw_m9 103 rfl) rfl
theorem q2157 : (Jvm.Cond.code ({ cls := "CableDrawerModel", name := "alone", desc := "(I)I" } : Jvm.MethodName) prog_16_method_118_code (4 : Nat) (Option.some Jvm.ClassFile.FieldType.int)) ∈ lw_all := lw_g (lw_at lw_m9 104 rfl) rfl
theorem q2158 : (Jvm.Cond.methodLink "CableDrawerModel" (413 : Nat) ({ cls := "CableDrawerModel", name := "aloneOf", desc := "(I)I" } : Jvm.MethodName)) ∈ lw_all := lw_g (lw_at lw_m9 105 rfl) rfl
theorem q2159 : (Jvm.Cond.privateMethod ({ cls := "CableDrawerModel", name := "aloneOf", desc := "(I)I" } : Jvm.MethodName)) ∈ lw_tbl := lw_at lw_m9 106 rfl
theorem q2160 : (Jvm.Cond.instanceMethod ({ cls := "CableDrawerModel", name := "aloneOf", desc := "(I)I" } : Jvm.MethodName)) ∈ lw_all := lw_g (lw_at lw_m9 107 rfl) rfl
theorem q2161 : (Jvm.Cond.code ({ cls := "CableDrawerModel", name := "aloneOf", desc := "(I)I" } : Jvm.MethodName) prog_16_method_117_code (6 : Nat) (Option.some Jvm.ClassFile.FieldType.int)) ∈ lw_all := lw_g (lw_at lw_m9 108 rfl) rfl
theorem q2162 : (Jvm.Cond.methodLink "CableDrawerModel" (410 : Nat) ({ cls := "CableDrawerModel", name := "frees", desc := "(I)I" } : Jvm.MethodName)) ∈ lw_all := lw_g (lw_at lw_m9 109 rfl) rfl
theorem q2163 : (Jvm.Cond.privateMethod ({ cls := "CableDrawerModel", name := "frees", desc := "(I)I" } : Jvm.MethodName)) ∈ lw_tbl := lw_at lw_m9 110 rfl
theorem q2164 : (Jvm.Cond.instanceMethod ({ cls := "CableDrawerModel", name := "frees", desc := "(I)I" } : Jvm.MethodName)) ∈ lw_all := lw_g (lw_at lw_m9 111 rfl) rfl
theorem q2165 : (Jvm.Cond.code ({ cls := "CableDrawerModel", name := "frees", desc := "(I)I" } : Jvm.MethodName) prog_16_method_116_code (10 : Nat) (Option.some Jvm.ClassFile.FieldType.int)) ∈ lw_all := lw_g (lw_at lw_m9 112 rfl) rfl
theorem q2166 : (Jvm.Cond.methodLink "CableDrawerModel" (407 : Nat) ({ cls := "CableDrawerModel", name := "alongOf", desc := "(II)I" } : Jvm.MethodName)) ∈ lw_all := lw_g (lw_at lw_m9 113 rfl) rfl
theorem q2167 : (Jvm.Cond.privateMethod ({ cls := "CableDrawerModel", name := "alongOf", desc := "(II)I" } : Jvm.MethodName)) ∈ lw_tbl := lw_at lw_m9 114 rfl
theorem q2168 : (Jvm.Cond.instanceMethod ({ cls := "CableDrawerModel", name := "alongOf", desc := "(II)I" } : Jvm.MethodName)) ∈ lw_all := lw_g (lw_at lw_m9 115 rfl) rfl
theorem q2169 : (Jvm.Cond.code ({ cls := "CableDrawerModel", name := "alongOf", desc := "(II)I" } : Jvm.MethodName) prog_16_method_115_code (5 : Nat) (Option.some Jvm.ClassFile.FieldType.int)) ∈ lw_all := lw_g (lw_at lw_m9 116 rfl) rfl
theorem q2171 : (Jvm.Cond.instanceMethod ({ cls := "CableDrawerModel", name := "way", desc := "(I)I" } : Jvm.MethodName)) ∈ lw_all := lw_g (lw_at lw_m9 118 rfl) rfl
theorem q2172 : (Jvm.Cond.selects "CableDrawerModel" ({ cls := "CableDrawerModel", name := "way", desc := "(I)I" } : Jvm.MethodName) ({ cls := "CableDrawerModel", name := "way", desc := "(I)I" } : Jvm.MethodName)) ∈ lw_all := lw_g (lw_at lw_m9 119 rfl) rfl
theorem q2173 : (Jvm.Cond.code ({ cls := "CableDrawerModel", name := "way", desc := "(I)I" } : Jvm.MethodName) prog_16_method_119_code (2 : Nat) (Option.some Jvm.ClassFile.FieldType.int)) ∈ lw_all := lw_g (lw_at lw_m9 120 rfl) rfl
theorem q2175 : (Jvm.Cond.instanceMethod ({ cls := "CableDrawerModel", name := "follows", desc := "(III)I" } : Jvm.MethodName)) ∈ lw_all := lw_g (lw_at lw_m9 122 rfl) rfl
theorem q2176 : (Jvm.Cond.selects "CableDrawerModel" ({ cls := "CableDrawerModel", name := "follows", desc := "(III)I" } : Jvm.MethodName) ({ cls := "CableDrawerModel", name := "follows", desc := "(III)I" } : Jvm.MethodName)) ∈ lw_all := lw_g (lw_at lw_m9 123 rfl) rfl
theorem q2177 : (Jvm.Cond.code ({ cls := "CableDrawerModel", name := "follows", desc := "(III)I" } : Jvm.MethodName) prog_16_method_120_code (7 : Nat) (Option.some Jvm.ClassFile.FieldType.int)) ∈ lw_all := lw_g (lw_at lw_m9 124 rfl) rfl
theorem q2179 : (Jvm.Cond.instanceMethod ({ cls := "CableDrawerModel", name := "all", desc := "()I" } : Jvm.MethodName)) ∈ lw_all := lw_g (lw_at lw_m9 126 rfl) rfl
theorem q2180 : (Jvm.Cond.selects "CableDrawerModel" ({ cls := "CableDrawerModel", name := "all", desc := "()I" } : Jvm.MethodName) ({ cls := "CableDrawerModel", name := "all", desc := "()I" } : Jvm.MethodName)) ∈ lw_all := lw_g (lw_at lw_m9 127 rfl) rfl
theorem q2181 : (Jvm.Cond.code ({ cls := "CableDrawerModel", name := "all", desc := "()I" } : Jvm.MethodName) prog_16_method_123_code (5 : Nat) (Option.some Jvm.ClassFile.FieldType.int)) ∈ lw_all := lw_g (lw_at lw_m9 128 rfl) rfl
theorem q2182 : (Jvm.Cond.methodLink "CableDrawerModel" (424 : Nat) ({ cls := "CableDrawerModel", name := "allOf", desc := "()I" } : Jvm.MethodName)) ∈ lw_all := lw_g (lw_at lw_m9 129 rfl) rfl
theorem q2183 : (Jvm.Cond.privateMethod ({ cls := "CableDrawerModel", name := "allOf", desc := "()I" } : Jvm.MethodName)) ∈ lw_tbl := lw_at lw_m9 130 rfl
theorem q2184 : (Jvm.Cond.instanceMethod ({ cls := "CableDrawerModel", name := "allOf", desc := "()I" } : Jvm.MethodName)) ∈ lw_all := lw_g (lw_at lw_m9 131 rfl) rfl
theorem q2185 : (Jvm.Cond.code ({ cls := "CableDrawerModel", name := "allOf", desc := "()I" } : Jvm.MethodName) prog_16_method_122_code (5 : Nat) (Option.some Jvm.ClassFile.FieldType.int)) ∈ lw_all := lw_g (lw_at lw_m9 132 rfl) rfl
theorem q2186 : (Jvm.Cond.constant "CableDrawerModel" (420 : Nat) (99999 : Int32)) ∈ lw_all := lw_g (lw_at lw_m9 133 rfl) rfl
theorem q2187 : (Jvm.Cond.methodLink "CableDrawerModel" (421 : Nat) ({ cls := "CableDrawerModel", name := "costAfter", desc := "(II)I" } : Jvm.MethodName)) ∈ lw_all := lw_g (lw_at lw_m9 134 rfl) rfl
theorem q2188 : (Jvm.Cond.privateMethod ({ cls := "CableDrawerModel", name := "costAfter", desc := "(II)I" } : Jvm.MethodName)) ∈ lw_tbl := lw_at lw_m9 135 rfl
theorem q2189 : (Jvm.Cond.instanceMethod ({ cls := "CableDrawerModel", name := "costAfter", desc := "(II)I" } : Jvm.MethodName)) ∈ lw_all := lw_g (lw_at lw_m9 136 rfl) rfl
theorem q2190 : (Jvm.Cond.code ({ cls := "CableDrawerModel", name := "costAfter", desc := "(II)I" } : Jvm.MethodName) prog_16_method_121_code (5 : Nat) (Option.some Jvm.ClassFile.FieldType.int)) ∈ lw_all := lw_g (lw_at lw_m9 137 rfl) rfl
theorem q2192 : (Jvm.Cond.instanceMethod ({ cls := "CableDrawerModel", name := "order", desc := "(I)I" } : Jvm.MethodName)) ∈ lw_all := lw_g (lw_at lw_m9 139 rfl) rfl
theorem q2193 : (Jvm.Cond.selects "CableDrawerModel" ({ cls := "CableDrawerModel", name := "order", desc := "(I)I" } : Jvm.MethodName) ({ cls := "CableDrawerModel", name := "order", desc := "(I)I" } : Jvm.MethodName)) ∈ lw_all := lw_g (lw_at lw_m9 140 rfl) rfl
theorem q2194 : (Jvm.Cond.code ({ cls := "CableDrawerModel", name := "order", desc := "(I)I" } : Jvm.MethodName) prog_16_method_124_code (2 : Nat) (Option.some Jvm.ClassFile.FieldType.int)) ∈ lw_all := lw_g (lw_at lw_m9 141 rfl) rfl
theorem q2196 : (Jvm.Cond.instanceMethod ({ cls := "CableDrawerModel", name := "loosens", desc := "()I" } : Jvm.MethodName)) ∈ lw_all := lw_g (lw_at lw_m9 143 rfl) rfl
theorem q2197 : (Jvm.Cond.selects "CableDrawerModel" ({ cls := "CableDrawerModel", name := "loosens", desc := "()I" } : Jvm.MethodName) ({ cls := "CableDrawerModel", name := "loosens", desc := "()I" } : Jvm.MethodName)) ∈ lw_all := lw_g (lw_at lw_m9 144 rfl) rfl
theorem q2198 : (Jvm.Cond.code ({ cls := "CableDrawerModel", name := "loosens", desc := "()I" } : Jvm.MethodName) prog_16_method_125_code (1 : Nat) (Option.some Jvm.ClassFile.FieldType.int)) ∈ lw_all := lw_g (lw_at lw_m9 145 rfl) rfl
theorem q2200 : (Jvm.Cond.instanceMethod ({ cls := "CableDrawerModel", name := "soonest", desc := "()I" } : Jvm.MethodName)) ∈ lw_all := lw_g (lw_at lw_m9 147 rfl) rfl
theorem q2201 : (Jvm.Cond.selects "CableDrawerModel" ({ cls := "CableDrawerModel", name := "soonest", desc := "()I" } : Jvm.MethodName) ({ cls := "CableDrawerModel", name := "soonest", desc := "()I" } : Jvm.MethodName)) ∈ lw_all := lw_g (lw_at lw_m9 148 rfl) rfl
theorem q2202 : (Jvm.Cond.code ({ cls := "CableDrawerModel", name := "soonest", desc := "()I" } : Jvm.MethodName) prog_16_method_126_code (5 : Nat) (Option.some Jvm.ClassFile.FieldType.int)) ∈ lw_all := lw_g (lw_at lw_m9 149 rfl) rfl
theorem q2204 : (Jvm.Cond.instanceMethod ({ cls := "CableDrawerModel", name := "fresh", desc := "(II)Z" } : Jvm.MethodName)) ∈ lw_all := lw_g (lw_at lw_m9 151 rfl) rfl
theorem q2205 : (Jvm.Cond.selects "CableDrawerModel" ({ cls := "CableDrawerModel", name := "fresh", desc := "(II)Z" } : Jvm.MethodName) ({ cls := "CableDrawerModel", name := "fresh", desc := "(II)Z" } : Jvm.MethodName)) ∈ lw_all := lw_g (lw_at lw_m9 152 rfl) rfl
theorem q2206 : (Jvm.Cond.code ({ cls := "CableDrawerModel", name := "fresh", desc := "(II)Z" } : Jvm.MethodName) prog_16_method_127_code (3 : Nat) (Option.some Jvm.ClassFile.FieldType.boolean)) ∈ lw_all := lw_g (lw_at lw_m9 153 rfl) rfl
theorem q2207 : (Jvm.Cond.constantLong "CableDrawerModel" (430 : Nat) (999 : Int64)) ∈ lw_all := lw_g (lw_at lw_m9 154 rfl) rfl
theorem q2208 : (Jvm.Cond.constantLong "CableDrawerModel" (432 : Nat) (60 : Int64)) ∈ lw_all := lw_g (lw_at lw_m9 155 rfl) rfl
theorem q2209 : (Jvm.Cond.methodLink "CableDrawerModel" (434 : Nat) ({ cls := "CableDrawerModel", name := "fraction", desc := "(JJ)Z" } : Jvm.MethodName)) ∈ lw_all := lw_g (lw_at lw_m9 156 rfl) rfl
theorem q2210 : (Jvm.Cond.privateMethod ({ cls := "CableDrawerModel", name := "fraction", desc := "(JJ)Z" } : Jvm.MethodName)) ∈ lw_tbl := lw_at lw_m9 157 rfl
theorem q2211 : (Jvm.Cond.instanceMethod ({ cls := "CableDrawerModel", name := "fraction", desc := "(JJ)Z" } : Jvm.MethodName)) ∈ lw_all := lw_g (lw_at lw_m9 158 rfl) rfl
theorem q2212 : (Jvm.Cond.code ({ cls := "CableDrawerModel", name := "fraction", desc := "(JJ)Z" } : Jvm.MethodName) prog_16_method_9_code (11 : Nat) (Option.some Jvm.ClassFile.FieldType.boolean)) ∈ lw_all := lw_g (lw_at lw_m9 159 rfl) rfl
theorem q2213 : (Jvm.Cond.methodLink "CableDrawerModel" (86 : Nat) ({ cls := "java/lang/Math", name := "abs", desc := "(J)J" } : Jvm.MethodName)) ∈ lw_all := lw_g (lw_at lw_m9 160 rfl) rfl
theorem q2215 : (Jvm.Cond.instanceMethod ({ cls := "CableDrawerModel", name := "grows", desc := "()Z" } : Jvm.MethodName)) ∈ lw_all := lw_g (lw_at lw_m9 162 rfl) rfl
theorem q2216 : (Jvm.Cond.selects "CableDrawerModel" ({ cls := "CableDrawerModel", name := "grows", desc := "()Z" } : Jvm.MethodName) ({ cls := "CableDrawerModel", name := "grows", desc := "()Z" } : Jvm.MethodName)) ∈ lw_all := lw_g (lw_at lw_m9 163 rfl) rfl
theorem q2217 : (Jvm.Cond.code ({ cls := "CableDrawerModel", name := "grows", desc := "()Z" } : Jvm.MethodName) prog_16_method_129_code (1 : Nat) (Option.some Jvm.ClassFile.FieldType.boolean)) ∈ lw_all := lw_g (lw_at lw_m9 164 rfl) rfl
theorem q2218 : (Jvm.Cond.methodLink "CableDrawerModel" (438 : Nat) ({ cls := "CableDrawerModel", name := "growth", desc := "()I" } : Jvm.MethodName)) ∈ lw_all := lw_g (lw_at lw_m9 165 rfl) rfl
theorem q2219 : (Jvm.Cond.privateMethod ({ cls := "CableDrawerModel", name := "growth", desc := "()I" } : Jvm.MethodName)) ∈ lw_tbl := lw_at lw_m9 166 rfl
theorem q2220 : (Jvm.Cond.instanceMethod ({ cls := "CableDrawerModel", name := "growth", desc := "()I" } : Jvm.MethodName)) ∈ lw_all := lw_g (lw_at lw_m9 167 rfl) rfl
theorem q2221 : (Jvm.Cond.code ({ cls := "CableDrawerModel", name := "growth", desc := "()I" } : Jvm.MethodName) prog_16_method_128_code (3 : Nat) (Option.some Jvm.ClassFile.FieldType.int)) ∈ lw_all := lw_g (lw_at lw_m9 168 rfl) rfl
theorem q2222 : (Jvm.Cond.constantLong "CableDrawerModel" (441 : Nat) (16 : Int64)) ∈ lw_all := lw_g (lw_at lw_m9 169 rfl) rfl
theorem q2224 : (Jvm.Cond.instanceMethod ({ cls := "CableDrawerModel", name := "clips", desc := "()I" } : Jvm.MethodName)) ∈ lw_all := lw_g (lw_at lw_m9 171 rfl) rfl
theorem q2225 : (Jvm.Cond.selects "CableDrawerModel" ({ cls := "CableDrawerModel", name := "clips", desc := "()I" } : Jvm.MethodName) ({ cls := "CableDrawerModel", name := "clips", desc := "()I" } : Jvm.MethodName)) ∈ lw_all := lw_g (lw_at lw_m9 172 rfl) rfl
theorem q2226 : (Jvm.Cond.code ({ cls := "CableDrawerModel", name := "clips", desc := "()I" } : Jvm.MethodName) prog_16_method_130_code (2 : Nat) (Option.some Jvm.ClassFile.FieldType.int)) ∈ lw_all := lw_g (lw_at lw_m9 173 rfl) rfl
theorem q2228 : (Jvm.Cond.instanceMethod ({ cls := "CableDrawerModel", name := "tries", desc := "(I)Z" } : Jvm.MethodName)) ∈ lw_all := lw_g (lw_at lw_m9 175 rfl) rfl
theorem q2229 : (Jvm.Cond.selects "CableDrawerModel" ({ cls := "CableDrawerModel", name := "tries", desc := "(I)Z" } : Jvm.MethodName) ({ cls := "CableDrawerModel", name := "tries", desc := "(I)Z" } : Jvm.MethodName)) ∈ lw_all := lw_g (lw_at lw_m9 176 rfl) rfl
theorem q2230 : (Jvm.Cond.code ({ cls := "CableDrawerModel", name := "tries", desc := "(I)Z" } : Jvm.MethodName) prog_16_method_132_code (6 : Nat) (Option.some Jvm.ClassFile.FieldType.boolean)) ∈ lw_all := lw_g (lw_at lw_m9 177 rfl) rfl
theorem q2231 : (Jvm.Cond.methodLink "CableDrawerModel" (443 : Nat) ({ cls := "CableDrawerModel", name := "aheadOf", desc := "(II)I" } : Jvm.MethodName)) ∈ lw_all := lw_g (lw_at lw_m9 178 rfl) rfl
theorem q2232 : (Jvm.Cond.privateMethod ({ cls := "CableDrawerModel", name := "aheadOf", desc := "(II)I" } : Jvm.MethodName)) ∈ lw_tbl := lw_at lw_m9 179 rfl
theorem q2233 : (Jvm.Cond.instanceMethod ({ cls := "CableDrawerModel", name := "aheadOf", desc := "(II)I" } : Jvm.MethodName)) ∈ lw_all := lw_g (lw_at lw_m9 180 rfl) rfl
theorem q2234 : (Jvm.Cond.code ({ cls := "CableDrawerModel", name := "aheadOf", desc := "(II)I" } : Jvm.MethodName) prog_16_method_131_code (5 : Nat) (Option.some Jvm.ClassFile.FieldType.int)) ∈ lw_all := lw_g (lw_at lw_m9 181 rfl) rfl
theorem q2236 : (Jvm.Cond.instanceMethod ({ cls := "CableDrawerModel", name := "nextTry", desc := "(II)I" } : Jvm.MethodName)) ∈ lw_all := lw_g (lw_at lw_m9 183 rfl) rfl
theorem q2237 : (Jvm.Cond.selects "CableDrawerModel" ({ cls := "CableDrawerModel", name := "nextTry", desc := "(II)I" } : Jvm.MethodName) ({ cls := "CableDrawerModel", name := "nextTry", desc := "(II)I" } : Jvm.MethodName)) ∈ lw_all := lw_g (lw_at lw_m9 184 rfl) rfl
theorem q2238 : (Jvm.Cond.code ({ cls := "CableDrawerModel", name := "nextTry", desc := "(II)I" } : Jvm.MethodName) prog_16_method_133_code (5 : Nat) (Option.some Jvm.ClassFile.FieldType.int)) ∈ lw_all := lw_g (lw_at lw_m9 185 rfl) rfl
theorem q2240 : (Jvm.Cond.instanceMethod ({ cls := "CableDrawerModel", name := "boxes", desc := "(I)I" } : Jvm.MethodName)) ∈ lw_all := lw_g (lw_at lw_m9 187 rfl) rfl
theorem q2241 : (Jvm.Cond.selects "CableDrawerModel" ({ cls := "CableDrawerModel", name := "boxes", desc := "(I)I" } : Jvm.MethodName) ({ cls := "CableDrawerModel", name := "boxes", desc := "(I)I" } : Jvm.MethodName)) ∈ lw_all := lw_g (lw_at lw_m9 188 rfl) rfl
theorem q2242 : (Jvm.Cond.code ({ cls := "CableDrawerModel", name := "boxes", desc := "(I)I" } : Jvm.MethodName) prog_16_method_135_code (5 : Nat) (Option.some Jvm.ClassFile.FieldType.int)) ∈ lw_all := lw_g (lw_at lw_m9 189 rfl) rfl
theorem q2243 : (Jvm.Cond.constantLong "CableDrawerModel" (446 : Nat) (99 : Int64)) ∈ lw_all := lw_g (lw_at lw_m9 190 rfl) rfl
theorem q2244 : (Jvm.Cond.methodLink "CableDrawerModel" (448 : Nat) ({ cls := "CableDrawerModel", name := "longOf", desc := "(I)I" } : Jvm.MethodName)) ∈ lw_all := lw_g (lw_at lw_m9 191 rfl) rfl
theorem q2245 : (Jvm.Cond.privateMethod ({ cls := "CableDrawerModel", name := "longOf", desc := "(I)I" } : Jvm.MethodName)) ∈ lw_tbl := lw_at lw_m9 192 rfl
theorem q2246 : (Jvm.Cond.instanceMethod ({ cls := "CableDrawerModel", name := "longOf", desc := "(I)I" } : Jvm.MethodName)) ∈ lw_all := lw_g (lw_at lw_m9 193 rfl) rfl
theorem q2247 : (Jvm.Cond.code ({ cls := "CableDrawerModel", name := "longOf", desc := "(I)I" } : Jvm.MethodName) prog_16_method_134_code (4 : Nat) (Option.some Jvm.ClassFile.FieldType.int)) ∈ lw_all := lw_g (lw_at lw_m9 194 rfl) rfl
theorem q2249 : (Jvm.Cond.instanceMethod ({ cls := "CableDrawerModel", name := "waste", desc := "(I)I" } : Jvm.MethodName)) ∈ lw_all := lw_g (lw_at lw_m9 196 rfl) rfl
theorem q2250 : (Jvm.Cond.selects "CableDrawerModel" ({ cls := "CableDrawerModel", name := "waste", desc := "(I)I" } : Jvm.MethodName) ({ cls := "CableDrawerModel", name := "waste", desc := "(I)I" } : Jvm.MethodName)) ∈ lw_all := lw_g (lw_at lw_m9 197 rfl) rfl
theorem q2251 : (Jvm.Cond.code ({ cls := "CableDrawerModel", name := "waste", desc := "(I)I" } : Jvm.MethodName) prog_16_method_136_code (4 : Nat) (Option.some Jvm.ClassFile.FieldType.int)) ∈ lw_all := lw_g (lw_at lw_m9 198 rfl) rfl
theorem q2253 : (Jvm.Cond.instanceMethod ({ cls := "CableDrawerModel", name := "live", desc := "(I)I" } : Jvm.MethodName)) ∈ lw_all := lw_g (lw_at lw_m9 200 rfl) rfl
theorem q2254 : (Jvm.Cond.selects "CableDrawerModel" ({ cls := "CableDrawerModel", name := "live", desc := "(I)I" } : Jvm.MethodName) ({ cls := "CableDrawerModel", name := "live", desc := "(I)I" } : Jvm.MethodName)) ∈ lw_all := lw_g (lw_at lw_m9 201 rfl) rfl
theorem q2255 : (Jvm.Cond.code ({ cls := "CableDrawerModel", name := "live", desc := "(I)I" } : Jvm.MethodName) prog_16_method_143_code (2 : Nat) (Option.some Jvm.ClassFile.FieldType.int)) ∈ lw_all := lw_g (lw_at lw_m9 202 rfl) rfl
theorem q2256 : (Jvm.Cond.methodLink "CableDrawerModel" (487 : Nat) ({ cls := "CableDrawerModel", name := "runs", desc := "(I)V" } : Jvm.MethodName)) ∈ lw_all := lw_g (lw_at lw_m9 203 rfl) rfl
theorem q2257 : (Jvm.Cond.privateMethod ({ cls := "CableDrawerModel", name := "runs", desc := "(I)V" } : Jvm.MethodName)) ∈ lw_tbl := lw_at lw_m9 204 rfl
theorem q2258 : (Jvm.Cond.instanceMethod ({ cls := "CableDrawerModel", name := "runs", desc := "(I)V" } : Jvm.MethodName)) ∈ lw_all := lw_g (lw_at lw_m9 205 rfl) rfl
theorem q2259 : (Jvm.Cond.code ({ cls := "CableDrawerModel", name := "runs", desc := "(I)V" } : Jvm.MethodName) prog_16_method_142_code (2 : Nat) (Option.none : Option Jvm.ClassFile.FieldType)) ∈ lw_all := lw_g (lw_at lw_m9 206 rfl) rfl
theorem q2260 : (Jvm.Cond.methodLink "CableDrawerModel" (481 : Nat) ({ cls := "CableDrawerModel", name := "doAll", desc := "(II)V" } : Jvm.MethodName)) ∈ lw_all := lw_g (lw_at lw_m9 207 rfl) rfl
theorem q2261 : (Jvm.Cond.privateMethod ({ cls := "CableDrawerModel", name := "doAll", desc := "(II)V" } : Jvm.MethodName)) ∈ lw_tbl := lw_at lw_m9 208 rfl
theorem q2262 : (Jvm.Cond.instanceMethod ({ cls := "CableDrawerModel", name := "doAll", desc := "(II)V" } : Jvm.MethodName)) ∈ lw_all := lw_g (lw_at lw_m9 209 rfl) rfl
theorem q2263 : (Jvm.Cond.code ({ cls := "CableDrawerModel", name := "doAll", desc := "(II)V" } : Jvm.MethodName) prog_16_method_141_code (4 : Nat) (Option.none : Option Jvm.ClassFile.FieldType)) ∈ lw_all := lw_g (lw_at lw_m9 210 rfl) rfl
theorem q2264 : (Jvm.Cond.methodLink "CableDrawerModel" (484 : Nat) ({ cls := "CableDrawerModel", name := "doOne", desc := "(I)V" } : Jvm.MethodName)) ∈ lw_all := lw_g (lw_at lw_m9 211 rfl) rfl
theorem q2265 : (Jvm.Cond.privateMethod ({ cls := "CableDrawerModel", name := "doOne", desc := "(I)V" } : Jvm.MethodName)) ∈ lw_tbl := lw_at lw_m9 212 rfl
theorem q2266 : (Jvm.Cond.instanceMethod ({ cls := "CableDrawerModel", name := "doOne", desc := "(I)V" } : Jvm.MethodName)) ∈ lw_all := lw_g (lw_at lw_m9 213 rfl) rfl
theorem q2267 : (Jvm.Cond.code ({ cls := "CableDrawerModel", name := "doOne", desc := "(I)V" } : Jvm.MethodName) prog_16_method_140_code (5 : Nat) (Option.none : Option Jvm.ClassFile.FieldType)) ∈ lw_all := lw_g (lw_at lw_m9 214 rfl) rfl
theorem q2268 : (Jvm.Cond.methodLink "CableDrawerModel" (475 : Nat) ({ cls := "CableDrawerModel", name := "does", desc := "(I)Z" } : Jvm.MethodName)) ∈ lw_all := lw_g (lw_at lw_m9 215 rfl) rfl
theorem q2269 : (Jvm.Cond.privateMethod ({ cls := "CableDrawerModel", name := "does", desc := "(I)Z" } : Jvm.MethodName)) ∈ lw_tbl := lw_at lw_m9 216 rfl
theorem q2270 : (Jvm.Cond.instanceMethod ({ cls := "CableDrawerModel", name := "does", desc := "(I)Z" } : Jvm.MethodName)) ∈ lw_all := lw_g (lw_at lw_m9 217 rfl) rfl
theorem q2271 : (Jvm.Cond.code ({ cls := "CableDrawerModel", name := "does", desc := "(I)Z" } : Jvm.MethodName) prog_16_method_138_code (5 : Nat) (Option.some Jvm.ClassFile.FieldType.boolean)) ∈ lw_all := lw_g (lw_at lw_m9 218 rfl) rfl
theorem q2272 : (Jvm.Cond.methodLink "CableDrawerModel" (460 : Nat) ({ cls := "CableDrawerModel", name := "takes", desc := "(I)V" } : Jvm.MethodName)) ∈ lw_all := lw_g (lw_at lw_m9 219 rfl) rfl
theorem q2273 : (Jvm.Cond.privateMethod ({ cls := "CableDrawerModel", name := "takes", desc := "(I)V" } : Jvm.MethodName)) ∈ lw_tbl := lw_at lw_m9 220 rfl
theorem q2274 : (Jvm.Cond.instanceMethod ({ cls := "CableDrawerModel", name := "takes", desc := "(I)V" } : Jvm.MethodName)) ∈ lw_all := lw_g (lw_at lw_m9 221 rfl) rfl
theorem q2275 : (Jvm.Cond.code ({ cls := "CableDrawerModel", name := "takes", desc := "(I)V" } : Jvm.MethodName) prog_16_method_137_code (3 : Nat) (Option.none : Option Jvm.ClassFile.FieldType)) ∈ lw_all := lw_g (lw_at lw_m9 222 rfl) rfl
theorem q2276 : (Jvm.Cond.methodLink "CableDrawerModel" (478 : Nat) ({ cls := "CableDrawerModel", name := "isSo", desc := "(I)Z" } : Jvm.MethodName)) ∈ lw_all := lw_g (lw_at lw_m9 223 rfl) rfl
theorem q2277 : (Jvm.Cond.privateMethod ({ cls := "CableDrawerModel", name := "isSo", desc := "(I)Z" } : Jvm.MethodName)) ∈ lw_tbl := lw_at lw_m9 224 rfl
theorem q2278 : (Jvm.Cond.instanceMethod ({ cls := "CableDrawerModel", name := "isSo", desc := "(I)Z" } : Jvm.MethodName)) ∈ lw_all := lw_g (lw_at lw_m9 225 rfl) rfl
theorem q2279 : (Jvm.Cond.code ({ cls := "CableDrawerModel", name := "isSo", desc := "(I)Z" } : Jvm.MethodName) prog_16_method_139_code (4 : Nat) (Option.some Jvm.ClassFile.FieldType.boolean)) ∈ lw_all := lw_g (lw_at lw_m9 226 rfl) rfl
theorem q2281 : (Jvm.Cond.instanceMethod ({ cls := "CableDrawerModel", name := "lived", desc := "(I)I" } : Jvm.MethodName)) ∈ lw_all := lw_g (lw_at lw_m9 228 rfl) rfl
theorem q2282 : (Jvm.Cond.selects "CableDrawerModel" ({ cls := "CableDrawerModel", name := "lived", desc := "(I)I" } : Jvm.MethodName) ({ cls := "CableDrawerModel", name := "lived", desc := "(I)I" } : Jvm.MethodName)) ∈ lw_all := lw_g (lw_at lw_m9 229 rfl) rfl
theorem q2283 : (Jvm.Cond.code ({ cls := "CableDrawerModel", name := "lived", desc := "(I)I" } : Jvm.MethodName) prog_16_method_144_code (2 : Nat) (Option.some Jvm.ClassFile.FieldType.int)) ∈ lw_all := lw_g (lw_at lw_m9 230 rfl) rfl
theorem q2285 : (Jvm.Cond.instanceMethod ({ cls := "CableDrawerModel", name := "mean", desc := "(II)Z" } : Jvm.MethodName)) ∈ lw_all := lw_g (lw_at lw_m9 232 rfl) rfl
theorem q2286 : (Jvm.Cond.selects "CableDrawerModel" ({ cls := "CableDrawerModel", name := "mean", desc := "(II)Z" } : Jvm.MethodName) ({ cls := "CableDrawerModel", name := "mean", desc := "(II)Z" } : Jvm.MethodName)) ∈ lw_all := lw_g (lw_at lw_m9 233 rfl) rfl
theorem q2287 : (Jvm.Cond.code ({ cls := "CableDrawerModel", name := "mean", desc := "(II)Z" } : Jvm.MethodName) prog_16_method_146_code (3 : Nat) (Option.some Jvm.ClassFile.FieldType.boolean)) ∈ lw_all := lw_g (lw_at lw_m9 234 rfl) rfl
theorem q2288 : (Jvm.Cond.methodLink "CableDrawerModel" (495 : Nat) ({ cls := "CableDrawerModel", name := "tried", desc := "(III)Z" } : Jvm.MethodName)) ∈ lw_all := lw_g (lw_at lw_m9 235 rfl) rfl
theorem q2289 : (Jvm.Cond.privateMethod ({ cls := "CableDrawerModel", name := "tried", desc := "(III)Z" } : Jvm.MethodName)) ∈ lw_tbl := lw_at lw_m9 236 rfl
theorem q2290 : (Jvm.Cond.instanceMethod ({ cls := "CableDrawerModel", name := "tried", desc := "(III)Z" } : Jvm.MethodName)) ∈ lw_all := lw_g (lw_at lw_m9 237 rfl) rfl
theorem q2291 : (Jvm.Cond.code ({ cls := "CableDrawerModel", name := "tried", desc := "(III)Z" } : Jvm.MethodName) prog_16_method_145_code (8 : Nat) (Option.some Jvm.ClassFile.FieldType.boolean)) ∈ lw_all := lw_g (lw_at lw_m9 238 rfl) rfl
theorem q2292 : (Jvm.Cond.constantLong "CableDrawerModel" (493 : Nat) (20 : Int64)) ∈ lw_all := lw_g (lw_at lw_m9 239 rfl) rfl
theorem q2294 : (Jvm.Cond.instanceMethod ({ cls := "CableDrawerModel", name := "odds", desc := "(III)Z" } : Jvm.MethodName)) ∈ lw_all := lw_g (lw_at lw_m10 1 rfl) rfl
theorem q2295 : (Jvm.Cond.selects "CableDrawerModel" ({ cls := "CableDrawerModel", name := "odds", desc := "(III)Z" } : Jvm.MethodName) ({ cls := "CableDrawerModel", name := "odds", desc := "(III)Z" } : Jvm.MethodName)) ∈ lw_all := lw_g (lw_at lw_m10 2 rfl) rfl
theorem q2296 : (Jvm.Cond.code ({ cls := "CableDrawerModel", name := "odds", desc := "(III)Z" } : Jvm.MethodName) prog_16_method_147_code (4 : Nat) (Option.some Jvm.ClassFile.FieldType.boolean)) ∈ lw_all := lw_g (lw_at lw_m10 3 rfl) rfl
theorem q2298 : (Jvm.Cond.instanceMethod ({ cls := "CableDrawerModel", name := "mark", desc := "()I" } : Jvm.MethodName)) ∈ lw_all := lw_g (lw_at lw_m10 5 rfl) rfl
theorem q2299 : (Jvm.Cond.selects "CableDrawerModel" ({ cls := "CableDrawerModel", name := "mark", desc := "()I" } : Jvm.MethodName) ({ cls := "CableDrawerModel", name := "mark", desc := "()I" } : Jvm.MethodName)) ∈ lw_all := lw_g (lw_at lw_m10 6 rfl) rfl
theorem q2300 : (Jvm.Cond.code ({ cls := "CableDrawerModel", name := "mark", desc := "()I" } : Jvm.MethodName) prog_16_method_149_code (1 : Nat) (Option.some Jvm.ClassFile.FieldType.int)) ∈ lw_all := lw_g (lw_at lw_m10 7 rfl) rfl
theorem q2302 : (Jvm.Cond.instanceMethod ({ cls := "CableDrawerModel", name := "back", desc := "()I" } : Jvm.MethodName)) ∈ lw_all := lw_g (lw_at lw_m10 9 rfl) rfl
theorem q2303 : (Jvm.Cond.selects "CableDrawerModel" ({ cls := "CableDrawerModel", name := "back", desc := "()I" } : Jvm.MethodName) ({ cls := "CableDrawerModel", name := "back", desc := "()I" } : Jvm.MethodName)) ∈ lw_all := lw_g (lw_at lw_m10 10 rfl) rfl
theorem q2304 : (Jvm.Cond.code ({ cls := "CableDrawerModel", name := "back", desc := "()I" } : Jvm.MethodName) prog_16_method_150_code (1 : Nat) (Option.some Jvm.ClassFile.FieldType.int)) ∈ lw_all := lw_g (lw_at lw_m10 11 rfl) rfl
theorem in_X6 : ∀ w ∈ wsX60, w ∈ lw_all := lw_in wsX60 [1601, 1603, 1605, 1607, 1609, 1611, 1613, 1615, 1617, 1619, 1621, 1623, 1625, 1627, 1629, 1631, 1633, 1635, 1637, 1639, 1641, 1643, 1645, 1647, 1649, 1651, 1653, 1655, 1657, 1659, 1661, 1663, 1665, 1667, 1669, 1671, 1673, 1675, 1677, 1679, 1681, 1683, 1685, 1687, 1689, 1691, 1693, 1695, 1697, 1699] (by decide +kernel) (by decide +kernel)
