/-! CableDrawer -/
set_option maxRecDepth 100000
def RX0 : String := "CableDrawer"
def TX0 : u_T := fun k => match k with
  | 0 => ("CableDrawer", "trays", "[LCableDrawer$Tray;", true)
  | 1 => ("CableDrawer", "kinds", "[LCableDrawer$Crossing;", true)
  | 2 => ("CableDrawer", "reader", "LCableDrawer$Reader;", true)
  | 3 => ("CableDrawer", "drawer", "LCableDrawer$Drawer;", false)
  | 4 => ("CableDrawer", "steps", "[LCableDrawer$Step;", false)
  | 5 => ("CableDrawer", "stepMany", "I", false)
  | 6 => ("CableDrawer", "status", "I", false)
  | 7 => ("CableDrawer", "faultKind", "I", false)
  | 8 => ("CableDrawer", "faultPlace", "I", false)
  | 9 => ("CableDrawer", "top", "J", false)
  | 10 => ("CableDrawer", "bottom", "J", false)
  | 11 => ("CableDrawer", "drawn", "I", false)
  | 12 => ("CableDrawer", "its", "[I", true)
  | 13 => ("CableDrawer", "with", "[I", true)
  | 14 => ("CableDrawer", "itsMany", "I", false)
  | 15 => ("CableDrawer", "wayFirst", "I", false)
  | 16 => ("CableDrawer", "wayLast", "I", false)
  | 17 => ("CableDrawer", "way", "[I", true)
  | 18 => ("CableDrawer", "isWay", "Z", false)
  | 19 => ("CableDrawer", "toldWay", "[I", true)
  | 20 => ("CableDrawer", "rest", "[I", true)
  | 21 => ("CableDrawer", "toldOrder", "[I", true)
  | 22 => ("CableDrawer", "orderMany", "I", false)
  | 23 => ("CableDrawer", "toldLoosens", "I", false)
  | 24 => ("CableDrawer", "packed", "[I", true)
  | 25 => ("CableDrawer", "ranSteps", "I", false)
  | 26 => ("CableDrawer", "ran", "[I", true)
  | 27 => ("CableDrawer", "told", "[I", true)
  | 28 => ("CableDrawer", "isTold", "Z", false)
  | 29 => ("CableDrawer", "kept", "[LCableDrawer$Kept;", true)
  | _ => ("CableDrawer", "marks", "I", false)
def tyX0 : Nat → FieldType := fun k => match k with
  | 0 => .array (.object "CableDrawer$Tray")
  | 1 => .array (.object "CableDrawer$Crossing")
  | 2 => .object "CableDrawer$Reader"
  | 3 => .object "CableDrawer$Drawer"
  | 4 => .array (.object "CableDrawer$Step")
  | 5 => .int
  | 6 => .int
  | 7 => .int
  | 8 => .int
  | 9 => .long
  | 10 => .long
  | 11 => .int
  | 12 => .array .int
  | 13 => .array .int
  | 14 => .int
  | 15 => .int
  | 16 => .int
  | 17 => .array .int
  | 18 => .boolean
  | 19 => .array .int
  | 20 => .array .int
  | 21 => .array .int
  | 22 => .int
  | 23 => .int
  | 24 => .array .int
  | 25 => .int
  | 26 => .array .int
  | 27 => .array .int
  | 28 => .boolean
  | 29 => .array (.object "CableDrawer$Kept")
  | _ => .int
abbrev wsX00 : List Cond := u_ws RX0 TX0 31
set_option maxRecDepth 100000 in
theorem nmX0 : ∀ a, a < 31 → ∀ b, b < 31 → a ≠ b → (TX0 a).2.1 ≠ (TX0 b).2.1 := by decide +kernel
set_option maxRecDepth 100000 in
theorem tyX0_ok : ∀ k, k < 31 → parseFieldDescriptor (TX0 k).2.2.1 = some (tyX0 k) := by decide +kernel
abbrev cX0_init : ByteArray := prog_1_method_1_code
def yX0_init : MethodName := ⟨RX0, "<init>", "()V"⟩
def dkwX0_init_7 : List UInt8 := [162, 0, 22, 42, 180, 0, 11, 27, 187, 0, 9, 89, 183, 0, 90, 83, 132, 1, 1, 167, 255, 235, 177]
abbrev dktX0_init_7 : List UInt8 := dkwX0_init_7 ++ []
def dkwX0_init_6 : List UInt8 := [181, 0, 78, 42, 8, 188, 10, 181, 0, 81, 42, 6, 189, 0, 84, 181, 0, 86, 3, 60, 27, 7]
abbrev dktX0_init_6 : List UInt8 := dkwX0_init_6 ++ dktX0_init_7
def dkwX0_init_5 : List UInt8 := [188, 10, 181, 0, 69, 42, 2, 181, 0, 72, 42, 17, 1, 0, 188, 10, 181, 0, 75, 42, 8, 188, 10]
abbrev dktX0_init_5 : List UInt8 := dkwX0_init_5 ++ dktX0_init_6
def dkwX0_init_4 : List UInt8 := [188, 10, 181, 0, 60, 42, 7, 188, 10, 181, 0, 63, 42, 17, 1, 0, 188, 10, 181, 0, 66, 42, 16, 8]
abbrev dktX0_init_4 : List UInt8 := dkwX0_init_4 ++ dktX0_init_5
def dkwX0_init_3 : List UInt8 := [42, 10, 181, 0, 49, 42, 16, 24, 188, 10, 181, 0, 53, 42, 16, 24, 188, 10, 181, 0, 57, 42, 7]
abbrev dktX0_init_3 : List UInt8 := dkwX0_init_3 ++ dktX0_init_4
def dkwX0_init_2 : List UInt8 := [187, 0, 33, 89, 42, 180, 0, 17, 183, 0, 35, 181, 0, 38, 42, 2, 181, 0, 42, 42, 2, 181, 0, 46]
abbrev dktX0_init_2 : List UInt8 := dkwX0_init_2 ++ dktX0_init_3
def dkwX0_init_1 : List UInt8 := [187, 0, 21, 89, 187, 0, 23, 89, 183, 0, 25, 42, 180, 0, 17, 183, 0, 26, 181, 0, 29, 42]
abbrev dktX0_init_1 : List UInt8 := dkwX0_init_1 ++ dktX0_init_2
def dkwX0_init_0 : List UInt8 := [42, 183, 0, 1, 42, 7, 189, 0, 9, 181, 0, 11, 42, 17, 1, 0, 189, 0, 15, 181, 0, 17, 42]
abbrev dktX0_init_0 : List UInt8 := dkwX0_init_0 ++ dktX0_init_1
theorem dksX0_init_0 : cX0_init.data.toList.drop 0 = dktX0_init_0 := by decide +kernel
theorem dksX0_init_1 : cX0_init.data.toList.drop 23 = dktX0_init_1 := dk_seg dksX0_init_0 23 rfl rfl
theorem dksX0_init_2 : cX0_init.data.toList.drop 45 = dktX0_init_2 := dk_seg dksX0_init_1 22 rfl rfl
theorem dksX0_init_3 : cX0_init.data.toList.drop 69 = dktX0_init_3 := dk_seg dksX0_init_2 24 rfl rfl
theorem dksX0_init_4 : cX0_init.data.toList.drop 92 = dktX0_init_4 := dk_seg dksX0_init_3 23 rfl rfl
theorem dksX0_init_5 : cX0_init.data.toList.drop 116 = dktX0_init_5 := dk_seg dksX0_init_4 24 rfl rfl
theorem dksX0_init_6 : cX0_init.data.toList.drop 139 = dktX0_init_6 := dk_seg dksX0_init_5 23 rfl rfl
theorem dksX0_init_7 : cX0_init.data.toList.drop 161 = dktX0_init_7 := dk_seg dksX0_init_6 22 rfl rfl
theorem dX0_init_0 : decode cX0_init 0 = .ok (.aload_n 0, 1) := dk_42 (dk_at dksX0_init_0 0 rfl rfl)
theorem dX0_init_1 : decode cX0_init 1 = .ok (.invokespecial 1, 3) := dk_183 0 1 (dk_at dksX0_init_0 1 rfl rfl)
theorem dX0_init_4 : decode cX0_init 4 = .ok (.aload_n 0, 1) := dk_42 (dk_at dksX0_init_0 4 rfl rfl)
theorem dX0_init_5 : decode cX0_init 5 = .ok (.iconst 4, 1) := dk_7 (dk_at dksX0_init_0 5 rfl rfl)
theorem dX0_init_6 : decode cX0_init 6 = .ok (.anewarray 9, 3) := dk_189 0 9 (dk_at dksX0_init_0 6 rfl rfl)
theorem dX0_init_9 : decode cX0_init 9 = .ok (.putfield 11, 3) := dk_181 0 11 (dk_at dksX0_init_0 9 rfl rfl)
theorem dX0_init_12 : decode cX0_init 12 = .ok (.aload_n 0, 1) := dk_42 (dk_at dksX0_init_0 12 rfl rfl)
theorem dX0_init_13 : decode cX0_init 13 = .ok (.sipush 256, 3) := dk_17 1 0 (dk_at dksX0_init_0 13 rfl rfl)
theorem dX0_init_16 : decode cX0_init 16 = .ok (.anewarray 15, 3) := dk_189 0 15 (dk_at dksX0_init_0 16 rfl rfl)
theorem dX0_init_19 : decode cX0_init 19 = .ok (.putfield 17, 3) := dk_181 0 17 (dk_at dksX0_init_0 19 rfl rfl)
theorem dX0_init_22 : decode cX0_init 22 = .ok (.aload_n 0, 1) := dk_42 (dk_at dksX0_init_0 22 rfl rfl)
theorem dX0_init_23 : decode cX0_init 23 = .ok (.new 21, 3) := dk_187 0 21 (dk_at dksX0_init_1 0 rfl rfl)
theorem dX0_init_26 : decode cX0_init 26 = .ok (.dup, 1) := dk_89 (dk_at dksX0_init_1 3 rfl rfl)
theorem dX0_init_27 : decode cX0_init 27 = .ok (.new 23, 3) := dk_187 0 23 (dk_at dksX0_init_1 4 rfl rfl)
theorem dX0_init_30 : decode cX0_init 30 = .ok (.dup, 1) := dk_89 (dk_at dksX0_init_1 7 rfl rfl)
theorem dX0_init_31 : decode cX0_init 31 = .ok (.invokespecial 25, 3) := dk_183 0 25 (dk_at dksX0_init_1 8 rfl rfl)
theorem dX0_init_34 : decode cX0_init 34 = .ok (.aload_n 0, 1) := dk_42 (dk_at dksX0_init_1 11 rfl rfl)
theorem dX0_init_35 : decode cX0_init 35 = .ok (.getfield 17, 3) := dk_180 0 17 (dk_at dksX0_init_1 12 rfl rfl)
theorem dX0_init_38 : decode cX0_init 38 = .ok (.invokespecial 26, 3) := dk_183 0 26 (dk_at dksX0_init_1 15 rfl rfl)
theorem dX0_init_41 : decode cX0_init 41 = .ok (.putfield 29, 3) := dk_181 0 29 (dk_at dksX0_init_1 18 rfl rfl)
theorem dX0_init_44 : decode cX0_init 44 = .ok (.aload_n 0, 1) := dk_42 (dk_at dksX0_init_1 21 rfl rfl)
theorem dX0_init_45 : decode cX0_init 45 = .ok (.new 33, 3) := dk_187 0 33 (dk_at dksX0_init_2 0 rfl rfl)
theorem dX0_init_48 : decode cX0_init 48 = .ok (.dup, 1) := dk_89 (dk_at dksX0_init_2 3 rfl rfl)
theorem dX0_init_49 : decode cX0_init 49 = .ok (.aload_n 0, 1) := dk_42 (dk_at dksX0_init_2 4 rfl rfl)
theorem dX0_init_50 : decode cX0_init 50 = .ok (.getfield 17, 3) := dk_180 0 17 (dk_at dksX0_init_2 5 rfl rfl)
theorem dX0_init_53 : decode cX0_init 53 = .ok (.invokespecial 35, 3) := dk_183 0 35 (dk_at dksX0_init_2 8 rfl rfl)
theorem dX0_init_56 : decode cX0_init 56 = .ok (.putfield 38, 3) := dk_181 0 38 (dk_at dksX0_init_2 11 rfl rfl)
theorem dX0_init_59 : decode cX0_init 59 = .ok (.aload_n 0, 1) := dk_42 (dk_at dksX0_init_2 14 rfl rfl)
theorem dX0_init_60 : decode cX0_init 60 = .ok (.iconst (-1), 1) := dk_2 (dk_at dksX0_init_2 15 rfl rfl)
theorem dX0_init_61 : decode cX0_init 61 = .ok (.putfield 42, 3) := dk_181 0 42 (dk_at dksX0_init_2 16 rfl rfl)
theorem dX0_init_64 : decode cX0_init 64 = .ok (.aload_n 0, 1) := dk_42 (dk_at dksX0_init_2 19 rfl rfl)
theorem dX0_init_65 : decode cX0_init 65 = .ok (.iconst (-1), 1) := dk_2 (dk_at dksX0_init_2 20 rfl rfl)
theorem dX0_init_66 : decode cX0_init 66 = .ok (.putfield 46, 3) := dk_181 0 46 (dk_at dksX0_init_2 21 rfl rfl)
theorem dX0_init_69 : decode cX0_init 69 = .ok (.aload_n 0, 1) := dk_42 (dk_at dksX0_init_3 0 rfl rfl)
theorem dX0_init_70 : decode cX0_init 70 = .ok (.lconst 1, 1) := dk_10 (dk_at dksX0_init_3 1 rfl rfl)
theorem dX0_init_71 : decode cX0_init 71 = .ok (.putfield 49, 3) := dk_181 0 49 (dk_at dksX0_init_3 2 rfl rfl)
theorem dX0_init_74 : decode cX0_init 74 = .ok (.aload_n 0, 1) := dk_42 (dk_at dksX0_init_3 5 rfl rfl)
theorem dX0_init_75 : decode cX0_init 75 = .ok (.bipush 24, 2) := dk_16 24 (dk_at dksX0_init_3 6 rfl rfl)
theorem dX0_init_77 : decode cX0_init 77 = .ok (.newarray .int, 2) := dk_188_10 (dk_at dksX0_init_3 8 rfl rfl)
theorem dX0_init_79 : decode cX0_init 79 = .ok (.putfield 53, 3) := dk_181 0 53 (dk_at dksX0_init_3 10 rfl rfl)
theorem dX0_init_82 : decode cX0_init 82 = .ok (.aload_n 0, 1) := dk_42 (dk_at dksX0_init_3 13 rfl rfl)
theorem dX0_init_83 : decode cX0_init 83 = .ok (.bipush 24, 2) := dk_16 24 (dk_at dksX0_init_3 14 rfl rfl)
theorem dX0_init_85 : decode cX0_init 85 = .ok (.newarray .int, 2) := dk_188_10 (dk_at dksX0_init_3 16 rfl rfl)
theorem dX0_init_87 : decode cX0_init 87 = .ok (.putfield 57, 3) := dk_181 0 57 (dk_at dksX0_init_3 18 rfl rfl)
theorem dX0_init_90 : decode cX0_init 90 = .ok (.aload_n 0, 1) := dk_42 (dk_at dksX0_init_3 21 rfl rfl)
theorem dX0_init_91 : decode cX0_init 91 = .ok (.iconst 4, 1) := dk_7 (dk_at dksX0_init_3 22 rfl rfl)
theorem dX0_init_92 : decode cX0_init 92 = .ok (.newarray .int, 2) := dk_188_10 (dk_at dksX0_init_4 0 rfl rfl)
theorem dX0_init_94 : decode cX0_init 94 = .ok (.putfield 60, 3) := dk_181 0 60 (dk_at dksX0_init_4 2 rfl rfl)
theorem dX0_init_97 : decode cX0_init 97 = .ok (.aload_n 0, 1) := dk_42 (dk_at dksX0_init_4 5 rfl rfl)
theorem dX0_init_98 : decode cX0_init 98 = .ok (.iconst 4, 1) := dk_7 (dk_at dksX0_init_4 6 rfl rfl)
theorem dX0_init_99 : decode cX0_init 99 = .ok (.newarray .int, 2) := dk_188_10 (dk_at dksX0_init_4 7 rfl rfl)
theorem dX0_init_101 : decode cX0_init 101 = .ok (.putfield 63, 3) := dk_181 0 63 (dk_at dksX0_init_4 9 rfl rfl)
theorem dX0_init_104 : decode cX0_init 104 = .ok (.aload_n 0, 1) := dk_42 (dk_at dksX0_init_4 12 rfl rfl)
theorem dX0_init_105 : decode cX0_init 105 = .ok (.sipush 256, 3) := dk_17 1 0 (dk_at dksX0_init_4 13 rfl rfl)
theorem dX0_init_108 : decode cX0_init 108 = .ok (.newarray .int, 2) := dk_188_10 (dk_at dksX0_init_4 16 rfl rfl)
theorem dX0_init_110 : decode cX0_init 110 = .ok (.putfield 66, 3) := dk_181 0 66 (dk_at dksX0_init_4 18 rfl rfl)
theorem dX0_init_113 : decode cX0_init 113 = .ok (.aload_n 0, 1) := dk_42 (dk_at dksX0_init_4 21 rfl rfl)
theorem dX0_init_114 : decode cX0_init 114 = .ok (.bipush 8, 2) := dk_16 8 (dk_at dksX0_init_4 22 rfl rfl)
theorem dX0_init_116 : decode cX0_init 116 = .ok (.newarray .int, 2) := dk_188_10 (dk_at dksX0_init_5 0 rfl rfl)
theorem dX0_init_118 : decode cX0_init 118 = .ok (.putfield 69, 3) := dk_181 0 69 (dk_at dksX0_init_5 2 rfl rfl)
theorem dX0_init_121 : decode cX0_init 121 = .ok (.aload_n 0, 1) := dk_42 (dk_at dksX0_init_5 5 rfl rfl)
theorem dX0_init_122 : decode cX0_init 122 = .ok (.iconst (-1), 1) := dk_2 (dk_at dksX0_init_5 6 rfl rfl)
theorem dX0_init_123 : decode cX0_init 123 = .ok (.putfield 72, 3) := dk_181 0 72 (dk_at dksX0_init_5 7 rfl rfl)
theorem dX0_init_126 : decode cX0_init 126 = .ok (.aload_n 0, 1) := dk_42 (dk_at dksX0_init_5 10 rfl rfl)
theorem dX0_init_127 : decode cX0_init 127 = .ok (.sipush 256, 3) := dk_17 1 0 (dk_at dksX0_init_5 11 rfl rfl)
theorem dX0_init_130 : decode cX0_init 130 = .ok (.newarray .int, 2) := dk_188_10 (dk_at dksX0_init_5 14 rfl rfl)
theorem dX0_init_132 : decode cX0_init 132 = .ok (.putfield 75, 3) := dk_181 0 75 (dk_at dksX0_init_5 16 rfl rfl)
theorem dX0_init_135 : decode cX0_init 135 = .ok (.aload_n 0, 1) := dk_42 (dk_at dksX0_init_5 19 rfl rfl)
theorem dX0_init_136 : decode cX0_init 136 = .ok (.iconst 5, 1) := dk_8 (dk_at dksX0_init_5 20 rfl rfl)
theorem dX0_init_137 : decode cX0_init 137 = .ok (.newarray .int, 2) := dk_188_10 (dk_at dksX0_init_5 21 rfl rfl)
theorem dX0_init_139 : decode cX0_init 139 = .ok (.putfield 78, 3) := dk_181 0 78 (dk_at dksX0_init_6 0 rfl rfl)
theorem dX0_init_142 : decode cX0_init 142 = .ok (.aload_n 0, 1) := dk_42 (dk_at dksX0_init_6 3 rfl rfl)
theorem dX0_init_143 : decode cX0_init 143 = .ok (.iconst 5, 1) := dk_8 (dk_at dksX0_init_6 4 rfl rfl)
theorem dX0_init_144 : decode cX0_init 144 = .ok (.newarray .int, 2) := dk_188_10 (dk_at dksX0_init_6 5 rfl rfl)
theorem dX0_init_146 : decode cX0_init 146 = .ok (.putfield 81, 3) := dk_181 0 81 (dk_at dksX0_init_6 7 rfl rfl)
theorem dX0_init_149 : decode cX0_init 149 = .ok (.aload_n 0, 1) := dk_42 (dk_at dksX0_init_6 10 rfl rfl)
theorem dX0_init_150 : decode cX0_init 150 = .ok (.iconst 3, 1) := dk_6 (dk_at dksX0_init_6 11 rfl rfl)
theorem dX0_init_151 : decode cX0_init 151 = .ok (.anewarray 84, 3) := dk_189 0 84 (dk_at dksX0_init_6 12 rfl rfl)
theorem dX0_init_154 : decode cX0_init 154 = .ok (.putfield 86, 3) := dk_181 0 86 (dk_at dksX0_init_6 15 rfl rfl)
theorem dX0_init_157 : decode cX0_init 157 = .ok (.iconst 0, 1) := dk_3 (dk_at dksX0_init_6 18 rfl rfl)
theorem dX0_init_158 : decode cX0_init 158 = .ok (.istore_n 1, 1) := dk_60 (dk_at dksX0_init_6 19 rfl rfl)
theorem dX0_init_159 : decode cX0_init 159 = .ok (.iload_n 1, 1) := dk_27 (dk_at dksX0_init_6 20 rfl rfl)
theorem dX0_init_160 : decode cX0_init 160 = .ok (.iconst 4, 1) := dk_7 (dk_at dksX0_init_6 21 rfl rfl)
theorem dX0_init_161 : decode cX0_init 161 = .ok (.if_icmp .ge 22, 3) := dk_162 0 22 (dk_at dksX0_init_7 0 rfl rfl)
theorem dX0_init_164 : decode cX0_init 164 = .ok (.aload_n 0, 1) := dk_42 (dk_at dksX0_init_7 3 rfl rfl)
theorem dX0_init_165 : decode cX0_init 165 = .ok (.getfield 11, 3) := dk_180 0 11 (dk_at dksX0_init_7 4 rfl rfl)
theorem dX0_init_168 : decode cX0_init 168 = .ok (.iload_n 1, 1) := dk_27 (dk_at dksX0_init_7 7 rfl rfl)
theorem dX0_init_169 : decode cX0_init 169 = .ok (.new 9, 3) := dk_187 0 9 (dk_at dksX0_init_7 8 rfl rfl)
theorem dX0_init_172 : decode cX0_init 172 = .ok (.dup, 1) := dk_89 (dk_at dksX0_init_7 11 rfl rfl)
theorem dX0_init_173 : decode cX0_init 173 = .ok (.invokespecial 90, 3) := dk_183 0 90 (dk_at dksX0_init_7 12 rfl rfl)
theorem dX0_init_176 : decode cX0_init 176 = .ok (.aastore, 1) := dk_83 (dk_at dksX0_init_7 15 rfl rfl)
theorem dX0_init_177 : decode cX0_init 177 = .ok (.iinc 1 1, 3) := dk_132 1 1 (dk_at dksX0_init_7 16 rfl rfl)
theorem dX0_init_180 : decode cX0_init 180 = .ok (.goto (-21), 3) := dk_167 255 235 (dk_at dksX0_init_7 19 rfl rfl)
theorem dX0_init_183 : decode cX0_init 183 = .ok (.return_, 1) := dk_177 (dk_at dksX0_init_7 22 rfl rfl)
abbrev cX0_status : ByteArray := prog_1_method_2_code
def yX0_status : MethodName := ⟨RX0, "status", "()I"⟩
theorem dX0_status_0 : decode cX0_status 0 = .ok (.aload_n 0, 1) := by decide +kernel
theorem dX0_status_1 : decode cX0_status 1 = .ok (.getfield 91, 3) := by decide +kernel
theorem dX0_status_4 : decode cX0_status 4 = .ok (.ireturn, 1) := by decide +kernel
abbrev cX0_top : ByteArray := prog_1_method_3_code
def yX0_top : MethodName := ⟨RX0, "top", "()J"⟩
theorem dX0_top_0 : decode cX0_top 0 = .ok (.aload_n 0, 1) := by decide +kernel
theorem dX0_top_1 : decode cX0_top 1 = .ok (.getfield 94, 3) := by decide +kernel
theorem dX0_top_4 : decode cX0_top 4 = .ok (.lreturn, 1) := by decide +kernel
abbrev cX0_bottom : ByteArray := prog_1_method_4_code
def yX0_bottom : MethodName := ⟨RX0, "bottom", "()J"⟩
theorem dX0_bottom_0 : decode cX0_bottom 0 = .ok (.aload_n 0, 1) := by decide +kernel
theorem dX0_bottom_1 : decode cX0_bottom 1 = .ok (.getfield 49, 3) := by decide +kernel
theorem dX0_bottom_4 : decode cX0_bottom 4 = .ok (.lreturn, 1) := by decide +kernel
abbrev cX0_tray : ByteArray := prog_1_method_11_code
def yX0_tray : MethodName := ⟨RX0, "tray", "(III)Z"⟩
def dkwX0_tray_2 : List UInt8 := [167, 0, 12, 58, 4, 42, 16, 6, 182, 0, 110, 172, 42, 3, 182, 0, 110, 172]
abbrev dktX0_tray_2 : List UInt8 := dkwX0_tray_2 ++ []
def dkwX0_tray_1 : List UInt8 := [16, 60, 164, 0, 9, 42, 8, 182, 0, 110, 172, 42, 180, 0, 11, 27, 50, 28, 29, 182, 0, 117]
abbrev dktX0_tray_1 : List UInt8 := dkwX0_tray_1 ++ dktX0_tray_2
def dkwX0_tray_0 : List UInt8 := [27, 184, 0, 114, 153, 0, 12, 28, 155, 0, 8, 28, 6, 164, 0, 9, 42, 4, 182, 0, 110, 172, 29]
abbrev dktX0_tray_0 : List UInt8 := dkwX0_tray_0 ++ dktX0_tray_1
theorem dksX0_tray_0 : cX0_tray.data.toList.drop 0 = dktX0_tray_0 := by decide +kernel
theorem dksX0_tray_1 : cX0_tray.data.toList.drop 23 = dktX0_tray_1 := dk_seg dksX0_tray_0 23 rfl rfl
theorem dksX0_tray_2 : cX0_tray.data.toList.drop 45 = dktX0_tray_2 := dk_seg dksX0_tray_1 22 rfl rfl
theorem dX0_tray_0 : decode cX0_tray 0 = .ok (.iload_n 1, 1) := dk_27 (dk_at dksX0_tray_0 0 rfl rfl)
theorem dX0_tray_1 : decode cX0_tray 1 = .ok (.invokestatic 114, 3) := dk_184 0 114 (dk_at dksX0_tray_0 1 rfl rfl)
theorem dX0_tray_4 : decode cX0_tray 4 = .ok (.ifCond .eq 12, 3) := dk_153 0 12 (dk_at dksX0_tray_0 4 rfl rfl)
theorem dX0_tray_7 : decode cX0_tray 7 = .ok (.iload_n 2, 1) := dk_28 (dk_at dksX0_tray_0 7 rfl rfl)
theorem dX0_tray_8 : decode cX0_tray 8 = .ok (.ifCond .lt 8, 3) := dk_155 0 8 (dk_at dksX0_tray_0 8 rfl rfl)
theorem dX0_tray_11 : decode cX0_tray 11 = .ok (.iload_n 2, 1) := dk_28 (dk_at dksX0_tray_0 11 rfl rfl)
theorem dX0_tray_12 : decode cX0_tray 12 = .ok (.iconst 3, 1) := dk_6 (dk_at dksX0_tray_0 12 rfl rfl)
theorem dX0_tray_13 : decode cX0_tray 13 = .ok (.if_icmp .le 9, 3) := dk_164 0 9 (dk_at dksX0_tray_0 13 rfl rfl)
theorem dX0_tray_16 : decode cX0_tray 16 = .ok (.aload_n 0, 1) := dk_42 (dk_at dksX0_tray_0 16 rfl rfl)
theorem dX0_tray_17 : decode cX0_tray 17 = .ok (.iconst 1, 1) := dk_4 (dk_at dksX0_tray_0 17 rfl rfl)
theorem dX0_tray_18 : decode cX0_tray 18 = .ok (.invokevirtual 110, 3) := dk_182 0 110 (dk_at dksX0_tray_0 18 rfl rfl)
theorem dX0_tray_21 : decode cX0_tray 21 = .ok (.ireturn, 1) := dk_172 (dk_at dksX0_tray_0 21 rfl rfl)
theorem dX0_tray_22 : decode cX0_tray 22 = .ok (.iload_n 3, 1) := dk_29 (dk_at dksX0_tray_0 22 rfl rfl)
theorem dX0_tray_23 : decode cX0_tray 23 = .ok (.bipush 60, 2) := dk_16 60 (dk_at dksX0_tray_1 0 rfl rfl)
theorem dX0_tray_25 : decode cX0_tray 25 = .ok (.if_icmp .le 9, 3) := dk_164 0 9 (dk_at dksX0_tray_1 2 rfl rfl)
theorem dX0_tray_28 : decode cX0_tray 28 = .ok (.aload_n 0, 1) := dk_42 (dk_at dksX0_tray_1 5 rfl rfl)
theorem dX0_tray_29 : decode cX0_tray 29 = .ok (.iconst 5, 1) := dk_8 (dk_at dksX0_tray_1 6 rfl rfl)
theorem dX0_tray_30 : decode cX0_tray 30 = .ok (.invokevirtual 110, 3) := dk_182 0 110 (dk_at dksX0_tray_1 7 rfl rfl)
theorem dX0_tray_33 : decode cX0_tray 33 = .ok (.ireturn, 1) := dk_172 (dk_at dksX0_tray_1 10 rfl rfl)
theorem dX0_tray_34 : decode cX0_tray 34 = .ok (.aload_n 0, 1) := dk_42 (dk_at dksX0_tray_1 11 rfl rfl)
theorem dX0_tray_35 : decode cX0_tray 35 = .ok (.getfield 11, 3) := dk_180 0 11 (dk_at dksX0_tray_1 12 rfl rfl)
theorem dX0_tray_38 : decode cX0_tray 38 = .ok (.iload_n 1, 1) := dk_27 (dk_at dksX0_tray_1 15 rfl rfl)
theorem dX0_tray_39 : decode cX0_tray 39 = .ok (.aaload, 1) := dk_50 (dk_at dksX0_tray_1 16 rfl rfl)
theorem dX0_tray_40 : decode cX0_tray 40 = .ok (.iload_n 2, 1) := dk_28 (dk_at dksX0_tray_1 17 rfl rfl)
theorem dX0_tray_41 : decode cX0_tray 41 = .ok (.iload_n 3, 1) := dk_29 (dk_at dksX0_tray_1 18 rfl rfl)
theorem dX0_tray_42 : decode cX0_tray 42 = .ok (.invokevirtual 117, 3) := dk_182 0 117 (dk_at dksX0_tray_1 19 rfl rfl)
theorem dX0_tray_45 : decode cX0_tray 45 = .ok (.goto 12, 3) := dk_167 0 12 (dk_at dksX0_tray_2 0 rfl rfl)
theorem dX0_tray_48 : decode cX0_tray 48 = .ok (.astore 4, 2) := dk_58 4 (dk_at dksX0_tray_2 3 rfl rfl)
theorem dX0_tray_50 : decode cX0_tray 50 = .ok (.aload_n 0, 1) := dk_42 (dk_at dksX0_tray_2 5 rfl rfl)
theorem dX0_tray_51 : decode cX0_tray 51 = .ok (.bipush 6, 2) := dk_16 6 (dk_at dksX0_tray_2 6 rfl rfl)
theorem dX0_tray_53 : decode cX0_tray 53 = .ok (.invokevirtual 110, 3) := dk_182 0 110 (dk_at dksX0_tray_2 8 rfl rfl)
theorem dX0_tray_56 : decode cX0_tray 56 = .ok (.ireturn, 1) := dk_172 (dk_at dksX0_tray_2 11 rfl rfl)
theorem dX0_tray_57 : decode cX0_tray 57 = .ok (.aload_n 0, 1) := dk_42 (dk_at dksX0_tray_2 12 rfl rfl)
theorem dX0_tray_58 : decode cX0_tray 58 = .ok (.iconst 0, 1) := dk_3 (dk_at dksX0_tray_2 13 rfl rfl)
theorem dX0_tray_59 : decode cX0_tray 59 = .ok (.invokevirtual 110, 3) := dk_182 0 110 (dk_at dksX0_tray_2 14 rfl rfl)
theorem dX0_tray_62 : decode cX0_tray 62 = .ok (.ireturn, 1) := dk_172 (dk_at dksX0_tray_2 17 rfl rfl)
abbrev cX0_isTray : ByteArray := prog_1_method_10_code
def yX0_isTray : MethodName := ⟨RX0, "isTray", "(I)Z"⟩
def dkwX0_isTray_0 : List UInt8 := [26, 155, 0, 12, 26, 7, 162, 0, 7, 4, 167, 0, 4, 3, 172]
abbrev dktX0_isTray_0 : List UInt8 := dkwX0_isTray_0 ++ []
theorem dksX0_isTray_0 : cX0_isTray.data.toList.drop 0 = dktX0_isTray_0 := by decide +kernel
theorem dX0_isTray_0 : decode cX0_isTray 0 = .ok (.iload_n 0, 1) := dk_26 (dk_at dksX0_isTray_0 0 rfl rfl)
theorem dX0_isTray_1 : decode cX0_isTray 1 = .ok (.ifCond .lt 12, 3) := dk_155 0 12 (dk_at dksX0_isTray_0 1 rfl rfl)
theorem dX0_isTray_4 : decode cX0_isTray 4 = .ok (.iload_n 0, 1) := dk_26 (dk_at dksX0_isTray_0 4 rfl rfl)
theorem dX0_isTray_5 : decode cX0_isTray 5 = .ok (.iconst 4, 1) := dk_7 (dk_at dksX0_isTray_0 5 rfl rfl)
theorem dX0_isTray_6 : decode cX0_isTray 6 = .ok (.if_icmp .ge 7, 3) := dk_162 0 7 (dk_at dksX0_isTray_0 6 rfl rfl)
theorem dX0_isTray_9 : decode cX0_isTray 9 = .ok (.iconst 1, 1) := dk_4 (dk_at dksX0_isTray_0 9 rfl rfl)
theorem dX0_isTray_10 : decode cX0_isTray 10 = .ok (.goto 4, 3) := dk_167 0 4 (dk_at dksX0_isTray_0 10 rfl rfl)
theorem dX0_isTray_13 : decode cX0_isTray 13 = .ok (.iconst 0, 1) := dk_3 (dk_at dksX0_isTray_0 13 rfl rfl)
theorem dX0_isTray_14 : decode cX0_isTray 14 = .ok (.ireturn, 1) := dk_172 (dk_at dksX0_isTray_0 14 rfl rfl)
abbrev cX0_is : ByteArray := prog_1_method_5_code
def yX0_is : MethodName := ⟨RX0, "is", "(I)Z"⟩
def dkwX0_is_0 : List UInt8 := [42, 27, 181, 0, 91, 27, 154, 0, 7, 4, 167, 0, 4, 3, 172]
abbrev dktX0_is_0 : List UInt8 := dkwX0_is_0 ++ []
theorem dksX0_is_0 : cX0_is.data.toList.drop 0 = dktX0_is_0 := by decide +kernel
theorem dX0_is_0 : decode cX0_is 0 = .ok (.aload_n 0, 1) := dk_42 (dk_at dksX0_is_0 0 rfl rfl)
theorem dX0_is_1 : decode cX0_is 1 = .ok (.iload_n 1, 1) := dk_27 (dk_at dksX0_is_0 1 rfl rfl)
theorem dX0_is_2 : decode cX0_is 2 = .ok (.putfield 91, 3) := dk_181 0 91 (dk_at dksX0_is_0 2 rfl rfl)
theorem dX0_is_5 : decode cX0_is 5 = .ok (.iload_n 1, 1) := dk_27 (dk_at dksX0_is_0 5 rfl rfl)
theorem dX0_is_6 : decode cX0_is 6 = .ok (.ifCond .ne 7, 3) := dk_154 0 7 (dk_at dksX0_is_0 6 rfl rfl)
theorem dX0_is_9 : decode cX0_is 9 = .ok (.iconst 1, 1) := dk_4 (dk_at dksX0_is_0 9 rfl rfl)
theorem dX0_is_10 : decode cX0_is 10 = .ok (.goto 4, 3) := dk_167 0 4 (dk_at dksX0_is_0 10 rfl rfl)
theorem dX0_is_13 : decode cX0_is 13 = .ok (.iconst 0, 1) := dk_3 (dk_at dksX0_is_0 13 rfl rfl)
theorem dX0_is_14 : decode cX0_is 14 = .ok (.ireturn, 1) := dk_172 (dk_at dksX0_is_0 14 rfl rfl)
abbrev cX0_write : ByteArray := prog_1_method_12_code
def yX0_write : MethodName := ⟨RX0, "write", "(IIJ)Z"⟩
def dkwX0_write_2 : List UInt8 := [172]
abbrev dktX0_write_2 : List UInt8 := dkwX0_write_2 ++ []
def dkwX0_write_1 : List UInt8 := [167, 0, 19, 58, 5, 42, 6, 182, 0, 110, 172, 58, 5, 42, 7, 182, 0, 110, 172, 42, 3, 182, 0, 110]
abbrev dktX0_write_1 : List UInt8 := dkwX0_write_1 ++ dktX0_write_2
def dkwX0_write_0 : List UInt8 := [27, 184, 0, 114, 154, 0, 9, 42, 4, 182, 0, 110, 172, 42, 180, 0, 11, 27, 50, 28, 33, 182, 0, 123]
abbrev dktX0_write_0 : List UInt8 := dkwX0_write_0 ++ dktX0_write_1
theorem dksX0_write_0 : cX0_write.data.toList.drop 0 = dktX0_write_0 := by decide +kernel
theorem dksX0_write_1 : cX0_write.data.toList.drop 24 = dktX0_write_1 := dk_seg dksX0_write_0 24 rfl rfl
theorem dksX0_write_2 : cX0_write.data.toList.drop 48 = dktX0_write_2 := dk_seg dksX0_write_1 24 rfl rfl
theorem dX0_write_0 : decode cX0_write 0 = .ok (.iload_n 1, 1) := dk_27 (dk_at dksX0_write_0 0 rfl rfl)
theorem dX0_write_1 : decode cX0_write 1 = .ok (.invokestatic 114, 3) := dk_184 0 114 (dk_at dksX0_write_0 1 rfl rfl)
theorem dX0_write_4 : decode cX0_write 4 = .ok (.ifCond .ne 9, 3) := dk_154 0 9 (dk_at dksX0_write_0 4 rfl rfl)
theorem dX0_write_7 : decode cX0_write 7 = .ok (.aload_n 0, 1) := dk_42 (dk_at dksX0_write_0 7 rfl rfl)
theorem dX0_write_8 : decode cX0_write 8 = .ok (.iconst 1, 1) := dk_4 (dk_at dksX0_write_0 8 rfl rfl)
theorem dX0_write_9 : decode cX0_write 9 = .ok (.invokevirtual 110, 3) := dk_182 0 110 (dk_at dksX0_write_0 9 rfl rfl)
theorem dX0_write_12 : decode cX0_write 12 = .ok (.ireturn, 1) := dk_172 (dk_at dksX0_write_0 12 rfl rfl)
theorem dX0_write_13 : decode cX0_write 13 = .ok (.aload_n 0, 1) := dk_42 (dk_at dksX0_write_0 13 rfl rfl)
theorem dX0_write_14 : decode cX0_write 14 = .ok (.getfield 11, 3) := dk_180 0 11 (dk_at dksX0_write_0 14 rfl rfl)
theorem dX0_write_17 : decode cX0_write 17 = .ok (.iload_n 1, 1) := dk_27 (dk_at dksX0_write_0 17 rfl rfl)
theorem dX0_write_18 : decode cX0_write 18 = .ok (.aaload, 1) := dk_50 (dk_at dksX0_write_0 18 rfl rfl)
theorem dX0_write_19 : decode cX0_write 19 = .ok (.iload_n 2, 1) := dk_28 (dk_at dksX0_write_0 19 rfl rfl)
theorem dX0_write_20 : decode cX0_write 20 = .ok (.lload_n 3, 1) := dk_33 (dk_at dksX0_write_0 20 rfl rfl)
theorem dX0_write_21 : decode cX0_write 21 = .ok (.invokevirtual 123, 3) := dk_182 0 123 (dk_at dksX0_write_0 21 rfl rfl)
theorem dX0_write_24 : decode cX0_write 24 = .ok (.goto 19, 3) := dk_167 0 19 (dk_at dksX0_write_1 0 rfl rfl)
theorem dX0_write_27 : decode cX0_write 27 = .ok (.astore 5, 2) := dk_58 5 (dk_at dksX0_write_1 3 rfl rfl)
theorem dX0_write_29 : decode cX0_write 29 = .ok (.aload_n 0, 1) := dk_42 (dk_at dksX0_write_1 5 rfl rfl)
theorem dX0_write_30 : decode cX0_write 30 = .ok (.iconst 3, 1) := dk_6 (dk_at dksX0_write_1 6 rfl rfl)
theorem dX0_write_31 : decode cX0_write 31 = .ok (.invokevirtual 110, 3) := dk_182 0 110 (dk_at dksX0_write_1 7 rfl rfl)
theorem dX0_write_34 : decode cX0_write 34 = .ok (.ireturn, 1) := dk_172 (dk_at dksX0_write_1 10 rfl rfl)
theorem dX0_write_35 : decode cX0_write 35 = .ok (.astore 5, 2) := dk_58 5 (dk_at dksX0_write_1 11 rfl rfl)
theorem dX0_write_37 : decode cX0_write 37 = .ok (.aload_n 0, 1) := dk_42 (dk_at dksX0_write_1 13 rfl rfl)
theorem dX0_write_38 : decode cX0_write 38 = .ok (.iconst 4, 1) := dk_7 (dk_at dksX0_write_1 14 rfl rfl)
theorem dX0_write_39 : decode cX0_write 39 = .ok (.invokevirtual 110, 3) := dk_182 0 110 (dk_at dksX0_write_1 15 rfl rfl)
theorem dX0_write_42 : decode cX0_write 42 = .ok (.ireturn, 1) := dk_172 (dk_at dksX0_write_1 18 rfl rfl)
theorem dX0_write_43 : decode cX0_write 43 = .ok (.aload_n 0, 1) := dk_42 (dk_at dksX0_write_1 19 rfl rfl)
theorem dX0_write_44 : decode cX0_write 44 = .ok (.iconst 0, 1) := dk_3 (dk_at dksX0_write_1 20 rfl rfl)
theorem dX0_write_45 : decode cX0_write 45 = .ok (.invokevirtual 110, 3) := dk_182 0 110 (dk_at dksX0_write_1 21 rfl rfl)
theorem dX0_write_48 : decode cX0_write 48 = .ok (.ireturn, 1) := dk_172 (dk_at dksX0_write_2 0 rfl rfl)
abbrev cX0_read : ByteArray := prog_1_method_13_code
def yX0_read : MethodName := ⟨RX0, "read", "(II)J"⟩
def dkwX0_read_2 : List UInt8 := [173]
abbrev dktX0_read_2 : List UInt8 := dkwX0_read_2 ++ []
def dkwX0_read_1 : List UInt8 := [50, 28, 182, 0, 131, 173, 78, 42, 6, 181, 0, 91, 167, 0, 9, 78, 42, 7, 181, 0, 91, 20, 0, 135]
abbrev dktX0_read_1 : List UInt8 := dkwX0_read_1 ++ dktX0_read_2
def dkwX0_read_0 : List UInt8 := [27, 184, 0, 114, 154, 0, 10, 42, 4, 182, 0, 97, 133, 173, 42, 3, 181, 0, 91, 42, 180, 0, 11, 27]
abbrev dktX0_read_0 : List UInt8 := dkwX0_read_0 ++ dktX0_read_1
theorem dksX0_read_0 : cX0_read.data.toList.drop 0 = dktX0_read_0 := by decide +kernel
theorem dksX0_read_1 : cX0_read.data.toList.drop 24 = dktX0_read_1 := dk_seg dksX0_read_0 24 rfl rfl
theorem dksX0_read_2 : cX0_read.data.toList.drop 48 = dktX0_read_2 := dk_seg dksX0_read_1 24 rfl rfl
theorem dX0_read_0 : decode cX0_read 0 = .ok (.iload_n 1, 1) := dk_27 (dk_at dksX0_read_0 0 rfl rfl)
theorem dX0_read_1 : decode cX0_read 1 = .ok (.invokestatic 114, 3) := dk_184 0 114 (dk_at dksX0_read_0 1 rfl rfl)
theorem dX0_read_4 : decode cX0_read 4 = .ok (.ifCond .ne 10, 3) := dk_154 0 10 (dk_at dksX0_read_0 4 rfl rfl)
theorem dX0_read_7 : decode cX0_read 7 = .ok (.aload_n 0, 1) := dk_42 (dk_at dksX0_read_0 7 rfl rfl)
theorem dX0_read_8 : decode cX0_read 8 = .ok (.iconst 1, 1) := dk_4 (dk_at dksX0_read_0 8 rfl rfl)
theorem dX0_read_9 : decode cX0_read 9 = .ok (.invokevirtual 97, 3) := dk_182 0 97 (dk_at dksX0_read_0 9 rfl rfl)
theorem dX0_read_12 : decode cX0_read 12 = .ok (.i2l, 1) := dk_133 (dk_at dksX0_read_0 12 rfl rfl)
theorem dX0_read_13 : decode cX0_read 13 = .ok (.lreturn, 1) := dk_173 (dk_at dksX0_read_0 13 rfl rfl)
theorem dX0_read_14 : decode cX0_read 14 = .ok (.aload_n 0, 1) := dk_42 (dk_at dksX0_read_0 14 rfl rfl)
theorem dX0_read_15 : decode cX0_read 15 = .ok (.iconst 0, 1) := dk_3 (dk_at dksX0_read_0 15 rfl rfl)
theorem dX0_read_16 : decode cX0_read 16 = .ok (.putfield 91, 3) := dk_181 0 91 (dk_at dksX0_read_0 16 rfl rfl)
theorem dX0_read_19 : decode cX0_read 19 = .ok (.aload_n 0, 1) := dk_42 (dk_at dksX0_read_0 19 rfl rfl)
theorem dX0_read_20 : decode cX0_read 20 = .ok (.getfield 11, 3) := dk_180 0 11 (dk_at dksX0_read_0 20 rfl rfl)
theorem dX0_read_23 : decode cX0_read 23 = .ok (.iload_n 1, 1) := dk_27 (dk_at dksX0_read_0 23 rfl rfl)
theorem dX0_read_24 : decode cX0_read 24 = .ok (.aaload, 1) := dk_50 (dk_at dksX0_read_1 0 rfl rfl)
theorem dX0_read_25 : decode cX0_read 25 = .ok (.iload_n 2, 1) := dk_28 (dk_at dksX0_read_1 1 rfl rfl)
theorem dX0_read_26 : decode cX0_read 26 = .ok (.invokevirtual 131, 3) := dk_182 0 131 (dk_at dksX0_read_1 2 rfl rfl)
theorem dX0_read_29 : decode cX0_read 29 = .ok (.lreturn, 1) := dk_173 (dk_at dksX0_read_1 5 rfl rfl)
theorem dX0_read_30 : decode cX0_read 30 = .ok (.astore_n 3, 1) := dk_78 (dk_at dksX0_read_1 6 rfl rfl)
theorem dX0_read_31 : decode cX0_read 31 = .ok (.aload_n 0, 1) := dk_42 (dk_at dksX0_read_1 7 rfl rfl)
theorem dX0_read_32 : decode cX0_read 32 = .ok (.iconst 3, 1) := dk_6 (dk_at dksX0_read_1 8 rfl rfl)
theorem dX0_read_33 : decode cX0_read 33 = .ok (.putfield 91, 3) := dk_181 0 91 (dk_at dksX0_read_1 9 rfl rfl)
theorem dX0_read_36 : decode cX0_read 36 = .ok (.goto 9, 3) := dk_167 0 9 (dk_at dksX0_read_1 12 rfl rfl)
theorem dX0_read_39 : decode cX0_read 39 = .ok (.astore_n 3, 1) := dk_78 (dk_at dksX0_read_1 15 rfl rfl)
theorem dX0_read_40 : decode cX0_read 40 = .ok (.aload_n 0, 1) := dk_42 (dk_at dksX0_read_1 16 rfl rfl)
theorem dX0_read_41 : decode cX0_read 41 = .ok (.iconst 4, 1) := dk_7 (dk_at dksX0_read_1 17 rfl rfl)
theorem dX0_read_42 : decode cX0_read 42 = .ok (.putfield 91, 3) := dk_181 0 91 (dk_at dksX0_read_1 18 rfl rfl)
theorem dX0_read_45 : decode cX0_read 45 = .ok (.ldc2_w 135, 3) := dk_20 0 135 (dk_at dksX0_read_1 21 rfl rfl)
theorem dX0_read_48 : decode cX0_read 48 = .ok (.lreturn, 1) := dk_173 (dk_at dksX0_read_2 0 rfl rfl)
abbrev cX0_none : ByteArray := prog_1_method_6_code
def yX0_none : MethodName := ⟨RX0, "none", "(I)I"⟩
def dkwX0_none_0 : List UInt8 := [42, 27, 181, 0, 91, 2, 172]
abbrev dktX0_none_0 : List UInt8 := dkwX0_none_0 ++ []
theorem dksX0_none_0 : cX0_none.data.toList.drop 0 = dktX0_none_0 := by decide +kernel
theorem dX0_none_0 : decode cX0_none 0 = .ok (.aload_n 0, 1) := dk_42 (dk_at dksX0_none_0 0 rfl rfl)
theorem dX0_none_1 : decode cX0_none 1 = .ok (.iload_n 1, 1) := dk_27 (dk_at dksX0_none_0 1 rfl rfl)
theorem dX0_none_2 : decode cX0_none 2 = .ok (.putfield 91, 3) := dk_181 0 91 (dk_at dksX0_none_0 2 rfl rfl)
theorem dX0_none_5 : decode cX0_none 5 = .ok (.iconst (-1), 1) := dk_2 (dk_at dksX0_none_0 5 rfl rfl)
theorem dX0_none_6 : decode cX0_none 6 = .ok (.ireturn, 1) := dk_172 (dk_at dksX0_none_0 6 rfl rfl)
abbrev cX0_pour : ByteArray := prog_1_method_14_code
def yX0_pour : MethodName := ⟨RX0, "pour", "(IIIII)Z"⟩
def dkwX0_pour_5 : List UInt8 := [7, 182, 0, 110, 172, 42, 3, 182, 0, 110, 172]
abbrev dktX0_pour_5 : List UInt8 := dkwX0_pour_5 ++ []
def dkwX0_pour_4 : List UInt8 := [167, 0, 29, 58, 8, 42, 6, 182, 0, 110, 172, 58, 8, 42, 21, 5, 156, 0, 8, 16, 6, 167, 0, 4]
abbrev dktX0_pour_4 : List UInt8 := dkwX0_pour_4 ++ dktX0_pour_5
def dkwX0_pour_3 : List UInt8 := [159, 0, 10, 42, 16, 11, 182, 0, 110, 172, 25, 6, 28, 25, 7, 21, 4, 21, 5, 184, 0, 144]
abbrev dktX0_pour_3 : List UInt8 := dkwX0_pour_3 ++ dktX0_pour_4
def dkwX0_pour_2 : List UInt8 := [25, 7, 198, 0, 31, 42, 180, 0, 11, 27, 50, 180, 0, 141, 42, 180, 0, 11, 29, 50, 180, 0, 141]
abbrev dktX0_pour_2 : List UInt8 := dkwX0_pour_2 ++ dktX0_pour_3
def dkwX0_pour_1 : List UInt8 := [27, 50, 180, 0, 137, 58, 6, 42, 180, 0, 11, 29, 50, 180, 0, 137, 58, 7, 25, 6, 198, 0, 36]
abbrev dktX0_pour_1 : List UInt8 := dkwX0_pour_1 ++ dktX0_pour_2
def dkwX0_pour_0 : List UInt8 := [27, 184, 0, 114, 153, 0, 10, 29, 184, 0, 114, 154, 0, 9, 42, 4, 182, 0, 110, 172, 42, 180, 0, 11]
abbrev dktX0_pour_0 : List UInt8 := dkwX0_pour_0 ++ dktX0_pour_1
theorem dksX0_pour_0 : cX0_pour.data.toList.drop 0 = dktX0_pour_0 := by decide +kernel
theorem dksX0_pour_1 : cX0_pour.data.toList.drop 24 = dktX0_pour_1 := dk_seg dksX0_pour_0 24 rfl rfl
theorem dksX0_pour_2 : cX0_pour.data.toList.drop 47 = dktX0_pour_2 := dk_seg dksX0_pour_1 23 rfl rfl
theorem dksX0_pour_3 : cX0_pour.data.toList.drop 70 = dktX0_pour_3 := dk_seg dksX0_pour_2 23 rfl rfl
theorem dksX0_pour_4 : cX0_pour.data.toList.drop 92 = dktX0_pour_4 := dk_seg dksX0_pour_3 22 rfl rfl
theorem dksX0_pour_5 : cX0_pour.data.toList.drop 116 = dktX0_pour_5 := dk_seg dksX0_pour_4 24 rfl rfl
theorem dX0_pour_0 : decode cX0_pour 0 = .ok (.iload_n 1, 1) := dk_27 (dk_at dksX0_pour_0 0 rfl rfl)
theorem dX0_pour_1 : decode cX0_pour 1 = .ok (.invokestatic 114, 3) := dk_184 0 114 (dk_at dksX0_pour_0 1 rfl rfl)
theorem dX0_pour_4 : decode cX0_pour 4 = .ok (.ifCond .eq 10, 3) := dk_153 0 10 (dk_at dksX0_pour_0 4 rfl rfl)
theorem dX0_pour_7 : decode cX0_pour 7 = .ok (.iload_n 3, 1) := dk_29 (dk_at dksX0_pour_0 7 rfl rfl)
theorem dX0_pour_8 : decode cX0_pour 8 = .ok (.invokestatic 114, 3) := dk_184 0 114 (dk_at dksX0_pour_0 8 rfl rfl)
theorem dX0_pour_11 : decode cX0_pour 11 = .ok (.ifCond .ne 9, 3) := dk_154 0 9 (dk_at dksX0_pour_0 11 rfl rfl)
theorem dX0_pour_14 : decode cX0_pour 14 = .ok (.aload_n 0, 1) := dk_42 (dk_at dksX0_pour_0 14 rfl rfl)
theorem dX0_pour_15 : decode cX0_pour 15 = .ok (.iconst 1, 1) := dk_4 (dk_at dksX0_pour_0 15 rfl rfl)
theorem dX0_pour_16 : decode cX0_pour 16 = .ok (.invokevirtual 110, 3) := dk_182 0 110 (dk_at dksX0_pour_0 16 rfl rfl)
theorem dX0_pour_19 : decode cX0_pour 19 = .ok (.ireturn, 1) := dk_172 (dk_at dksX0_pour_0 19 rfl rfl)
theorem dX0_pour_20 : decode cX0_pour 20 = .ok (.aload_n 0, 1) := dk_42 (dk_at dksX0_pour_0 20 rfl rfl)
theorem dX0_pour_21 : decode cX0_pour 21 = .ok (.getfield 11, 3) := dk_180 0 11 (dk_at dksX0_pour_0 21 rfl rfl)
theorem dX0_pour_24 : decode cX0_pour 24 = .ok (.iload_n 1, 1) := dk_27 (dk_at dksX0_pour_1 0 rfl rfl)
theorem dX0_pour_25 : decode cX0_pour 25 = .ok (.aaload, 1) := dk_50 (dk_at dksX0_pour_1 1 rfl rfl)
theorem dX0_pour_26 : decode cX0_pour 26 = .ok (.getfield 137, 3) := dk_180 0 137 (dk_at dksX0_pour_1 2 rfl rfl)
theorem dX0_pour_29 : decode cX0_pour 29 = .ok (.astore 6, 2) := dk_58 6 (dk_at dksX0_pour_1 5 rfl rfl)
theorem dX0_pour_31 : decode cX0_pour 31 = .ok (.aload_n 0, 1) := dk_42 (dk_at dksX0_pour_1 7 rfl rfl)
theorem dX0_pour_32 : decode cX0_pour 32 = .ok (.getfield 11, 3) := dk_180 0 11 (dk_at dksX0_pour_1 8 rfl rfl)
theorem dX0_pour_35 : decode cX0_pour 35 = .ok (.iload_n 3, 1) := dk_29 (dk_at dksX0_pour_1 11 rfl rfl)
theorem dX0_pour_36 : decode cX0_pour 36 = .ok (.aaload, 1) := dk_50 (dk_at dksX0_pour_1 12 rfl rfl)
theorem dX0_pour_37 : decode cX0_pour 37 = .ok (.getfield 137, 3) := dk_180 0 137 (dk_at dksX0_pour_1 13 rfl rfl)
theorem dX0_pour_40 : decode cX0_pour 40 = .ok (.astore 7, 2) := dk_58 7 (dk_at dksX0_pour_1 16 rfl rfl)
theorem dX0_pour_42 : decode cX0_pour 42 = .ok (.aload 6, 2) := dk_25 6 (dk_at dksX0_pour_1 18 rfl rfl)
theorem dX0_pour_44 : decode cX0_pour 44 = .ok (.ifnull 36, 3) := dk_198 0 36 (dk_at dksX0_pour_1 20 rfl rfl)
theorem dX0_pour_47 : decode cX0_pour 47 = .ok (.aload 7, 2) := dk_25 7 (dk_at dksX0_pour_2 0 rfl rfl)
theorem dX0_pour_49 : decode cX0_pour 49 = .ok (.ifnull 31, 3) := dk_198 0 31 (dk_at dksX0_pour_2 2 rfl rfl)
theorem dX0_pour_52 : decode cX0_pour 52 = .ok (.aload_n 0, 1) := dk_42 (dk_at dksX0_pour_2 5 rfl rfl)
theorem dX0_pour_53 : decode cX0_pour 53 = .ok (.getfield 11, 3) := dk_180 0 11 (dk_at dksX0_pour_2 6 rfl rfl)
theorem dX0_pour_56 : decode cX0_pour 56 = .ok (.iload_n 1, 1) := dk_27 (dk_at dksX0_pour_2 9 rfl rfl)
theorem dX0_pour_57 : decode cX0_pour 57 = .ok (.aaload, 1) := dk_50 (dk_at dksX0_pour_2 10 rfl rfl)
theorem dX0_pour_58 : decode cX0_pour 58 = .ok (.getfield 141, 3) := dk_180 0 141 (dk_at dksX0_pour_2 11 rfl rfl)
theorem dX0_pour_61 : decode cX0_pour 61 = .ok (.aload_n 0, 1) := dk_42 (dk_at dksX0_pour_2 14 rfl rfl)
theorem dX0_pour_62 : decode cX0_pour 62 = .ok (.getfield 11, 3) := dk_180 0 11 (dk_at dksX0_pour_2 15 rfl rfl)
theorem dX0_pour_65 : decode cX0_pour 65 = .ok (.iload_n 3, 1) := dk_29 (dk_at dksX0_pour_2 18 rfl rfl)
theorem dX0_pour_66 : decode cX0_pour 66 = .ok (.aaload, 1) := dk_50 (dk_at dksX0_pour_2 19 rfl rfl)
theorem dX0_pour_67 : decode cX0_pour 67 = .ok (.getfield 141, 3) := dk_180 0 141 (dk_at dksX0_pour_2 20 rfl rfl)
theorem dX0_pour_70 : decode cX0_pour 70 = .ok (.if_icmp .eq 10, 3) := dk_159 0 10 (dk_at dksX0_pour_3 0 rfl rfl)
theorem dX0_pour_73 : decode cX0_pour 73 = .ok (.aload_n 0, 1) := dk_42 (dk_at dksX0_pour_3 3 rfl rfl)
theorem dX0_pour_74 : decode cX0_pour 74 = .ok (.bipush 11, 2) := dk_16 11 (dk_at dksX0_pour_3 4 rfl rfl)
theorem dX0_pour_76 : decode cX0_pour 76 = .ok (.invokevirtual 110, 3) := dk_182 0 110 (dk_at dksX0_pour_3 6 rfl rfl)
theorem dX0_pour_79 : decode cX0_pour 79 = .ok (.ireturn, 1) := dk_172 (dk_at dksX0_pour_3 9 rfl rfl)
theorem dX0_pour_80 : decode cX0_pour 80 = .ok (.aload 6, 2) := dk_25 6 (dk_at dksX0_pour_3 10 rfl rfl)
theorem dX0_pour_82 : decode cX0_pour 82 = .ok (.iload_n 2, 1) := dk_28 (dk_at dksX0_pour_3 12 rfl rfl)
theorem dX0_pour_83 : decode cX0_pour 83 = .ok (.aload 7, 2) := dk_25 7 (dk_at dksX0_pour_3 13 rfl rfl)
theorem dX0_pour_85 : decode cX0_pour 85 = .ok (.iload 4, 2) := dk_21 4 (dk_at dksX0_pour_3 15 rfl rfl)
theorem dX0_pour_87 : decode cX0_pour 87 = .ok (.iload 5, 2) := dk_21 5 (dk_at dksX0_pour_3 17 rfl rfl)
theorem dX0_pour_89 : decode cX0_pour 89 = .ok (.invokestatic 144, 3) := dk_184 0 144 (dk_at dksX0_pour_3 19 rfl rfl)
theorem dX0_pour_92 : decode cX0_pour 92 = .ok (.goto 29, 3) := dk_167 0 29 (dk_at dksX0_pour_4 0 rfl rfl)
theorem dX0_pour_95 : decode cX0_pour 95 = .ok (.astore 8, 2) := dk_58 8 (dk_at dksX0_pour_4 3 rfl rfl)
theorem dX0_pour_97 : decode cX0_pour 97 = .ok (.aload_n 0, 1) := dk_42 (dk_at dksX0_pour_4 5 rfl rfl)
theorem dX0_pour_98 : decode cX0_pour 98 = .ok (.iconst 3, 1) := dk_6 (dk_at dksX0_pour_4 6 rfl rfl)
theorem dX0_pour_99 : decode cX0_pour 99 = .ok (.invokevirtual 110, 3) := dk_182 0 110 (dk_at dksX0_pour_4 7 rfl rfl)
theorem dX0_pour_102 : decode cX0_pour 102 = .ok (.ireturn, 1) := dk_172 (dk_at dksX0_pour_4 10 rfl rfl)
theorem dX0_pour_103 : decode cX0_pour 103 = .ok (.astore 8, 2) := dk_58 8 (dk_at dksX0_pour_4 11 rfl rfl)
theorem dX0_pour_105 : decode cX0_pour 105 = .ok (.aload_n 0, 1) := dk_42 (dk_at dksX0_pour_4 13 rfl rfl)
theorem dX0_pour_106 : decode cX0_pour 106 = .ok (.iload 5, 2) := dk_21 5 (dk_at dksX0_pour_4 14 rfl rfl)
theorem dX0_pour_108 : decode cX0_pour 108 = .ok (.ifCond .ge 8, 3) := dk_156 0 8 (dk_at dksX0_pour_4 16 rfl rfl)
theorem dX0_pour_111 : decode cX0_pour 111 = .ok (.bipush 6, 2) := dk_16 6 (dk_at dksX0_pour_4 19 rfl rfl)
theorem dX0_pour_113 : decode cX0_pour 113 = .ok (.goto 4, 3) := dk_167 0 4 (dk_at dksX0_pour_4 21 rfl rfl)
theorem dX0_pour_116 : decode cX0_pour 116 = .ok (.iconst 4, 1) := dk_7 (dk_at dksX0_pour_5 0 rfl rfl)
theorem dX0_pour_117 : decode cX0_pour 117 = .ok (.invokevirtual 110, 3) := dk_182 0 110 (dk_at dksX0_pour_5 1 rfl rfl)
theorem dX0_pour_120 : decode cX0_pour 120 = .ok (.ireturn, 1) := dk_172 (dk_at dksX0_pour_5 4 rfl rfl)
theorem dX0_pour_121 : decode cX0_pour 121 = .ok (.aload_n 0, 1) := dk_42 (dk_at dksX0_pour_5 5 rfl rfl)
theorem dX0_pour_122 : decode cX0_pour 122 = .ok (.iconst 0, 1) := dk_3 (dk_at dksX0_pour_5 6 rfl rfl)
theorem dX0_pour_123 : decode cX0_pour 123 = .ok (.invokevirtual 110, 3) := dk_182 0 110 (dk_at dksX0_pour_5 7 rfl rfl)
theorem dX0_pour_126 : decode cX0_pour 126 = .ok (.ireturn, 1) := dk_172 (dk_at dksX0_pour_5 10 rfl rfl)
abbrev cX0_feed : ByteArray := prog_1_method_19_code
def yX0_feed : MethodName := ⟨RX0, "feed", "(IIIII)I"⟩
def dkwX0_feed_2 : List UInt8 := [180, 0, 29, 180, 0, 171, 172]
abbrev dktX0_feed_2 : List UInt8 := dkwX0_feed_2 ++ []
def dkwX0_feed_1 : List UInt8 := [28, 182, 0, 174, 42, 29, 182, 0, 174, 42, 21, 4, 182, 0, 174, 42, 21, 5, 182, 0, 174, 42]
abbrev dktX0_feed_1 : List UInt8 := dkwX0_feed_1 ++ dktX0_feed_2
def dkwX0_feed_0 : List UInt8 := [42, 180, 0, 29, 180, 0, 171, 16, 20, 96, 17, 3, 132, 164, 0, 5, 2, 172, 42, 27, 182, 0, 174, 42]
abbrev dktX0_feed_0 : List UInt8 := dkwX0_feed_0 ++ dktX0_feed_1
theorem dksX0_feed_0 : cX0_feed.data.toList.drop 0 = dktX0_feed_0 := by decide +kernel
theorem dksX0_feed_1 : cX0_feed.data.toList.drop 24 = dktX0_feed_1 := dk_seg dksX0_feed_0 24 rfl rfl
theorem dksX0_feed_2 : cX0_feed.data.toList.drop 46 = dktX0_feed_2 := dk_seg dksX0_feed_1 22 rfl rfl
theorem dX0_feed_0 : decode cX0_feed 0 = .ok (.aload_n 0, 1) := dk_42 (dk_at dksX0_feed_0 0 rfl rfl)
theorem dX0_feed_1 : decode cX0_feed 1 = .ok (.getfield 29, 3) := dk_180 0 29 (dk_at dksX0_feed_0 1 rfl rfl)
theorem dX0_feed_4 : decode cX0_feed 4 = .ok (.getfield 171, 3) := dk_180 0 171 (dk_at dksX0_feed_0 4 rfl rfl)
theorem dX0_feed_7 : decode cX0_feed 7 = .ok (.bipush 20, 2) := dk_16 20 (dk_at dksX0_feed_0 7 rfl rfl)
theorem dX0_feed_9 : decode cX0_feed 9 = .ok (.iadd, 1) := dk_96 (dk_at dksX0_feed_0 9 rfl rfl)
theorem dX0_feed_10 : decode cX0_feed 10 = .ok (.sipush 900, 3) := dk_17 3 132 (dk_at dksX0_feed_0 10 rfl rfl)
theorem dX0_feed_13 : decode cX0_feed 13 = .ok (.if_icmp .le 5, 3) := dk_164 0 5 (dk_at dksX0_feed_0 13 rfl rfl)
theorem dX0_feed_16 : decode cX0_feed 16 = .ok (.iconst (-1), 1) := dk_2 (dk_at dksX0_feed_0 16 rfl rfl)
theorem dX0_feed_17 : decode cX0_feed 17 = .ok (.ireturn, 1) := dk_172 (dk_at dksX0_feed_0 17 rfl rfl)
theorem dX0_feed_18 : decode cX0_feed 18 = .ok (.aload_n 0, 1) := dk_42 (dk_at dksX0_feed_0 18 rfl rfl)
theorem dX0_feed_19 : decode cX0_feed 19 = .ok (.iload_n 1, 1) := dk_27 (dk_at dksX0_feed_0 19 rfl rfl)
theorem dX0_feed_20 : decode cX0_feed 20 = .ok (.invokevirtual 174, 3) := dk_182 0 174 (dk_at dksX0_feed_0 20 rfl rfl)
theorem dX0_feed_23 : decode cX0_feed 23 = .ok (.aload_n 0, 1) := dk_42 (dk_at dksX0_feed_0 23 rfl rfl)
theorem dX0_feed_24 : decode cX0_feed 24 = .ok (.iload_n 2, 1) := dk_28 (dk_at dksX0_feed_1 0 rfl rfl)
theorem dX0_feed_25 : decode cX0_feed 25 = .ok (.invokevirtual 174, 3) := dk_182 0 174 (dk_at dksX0_feed_1 1 rfl rfl)
theorem dX0_feed_28 : decode cX0_feed 28 = .ok (.aload_n 0, 1) := dk_42 (dk_at dksX0_feed_1 4 rfl rfl)
theorem dX0_feed_29 : decode cX0_feed 29 = .ok (.iload_n 3, 1) := dk_29 (dk_at dksX0_feed_1 5 rfl rfl)
theorem dX0_feed_30 : decode cX0_feed 30 = .ok (.invokevirtual 174, 3) := dk_182 0 174 (dk_at dksX0_feed_1 6 rfl rfl)
theorem dX0_feed_33 : decode cX0_feed 33 = .ok (.aload_n 0, 1) := dk_42 (dk_at dksX0_feed_1 9 rfl rfl)
theorem dX0_feed_34 : decode cX0_feed 34 = .ok (.iload 4, 2) := dk_21 4 (dk_at dksX0_feed_1 10 rfl rfl)
theorem dX0_feed_36 : decode cX0_feed 36 = .ok (.invokevirtual 174, 3) := dk_182 0 174 (dk_at dksX0_feed_1 12 rfl rfl)
theorem dX0_feed_39 : decode cX0_feed 39 = .ok (.aload_n 0, 1) := dk_42 (dk_at dksX0_feed_1 15 rfl rfl)
theorem dX0_feed_40 : decode cX0_feed 40 = .ok (.iload 5, 2) := dk_21 5 (dk_at dksX0_feed_1 16 rfl rfl)
theorem dX0_feed_42 : decode cX0_feed 42 = .ok (.invokevirtual 174, 3) := dk_182 0 174 (dk_at dksX0_feed_1 18 rfl rfl)
theorem dX0_feed_45 : decode cX0_feed 45 = .ok (.aload_n 0, 1) := dk_42 (dk_at dksX0_feed_1 21 rfl rfl)
theorem dX0_feed_46 : decode cX0_feed 46 = .ok (.getfield 29, 3) := dk_180 0 29 (dk_at dksX0_feed_2 0 rfl rfl)
theorem dX0_feed_49 : decode cX0_feed 49 = .ok (.getfield 171, 3) := dk_180 0 171 (dk_at dksX0_feed_2 3 rfl rfl)
theorem dX0_feed_52 : decode cX0_feed 52 = .ok (.ireturn, 1) := dk_172 (dk_at dksX0_feed_2 6 rfl rfl)
abbrev cX0_four : ByteArray := prog_1_method_20_code
def yX0_four : MethodName := ⟨RX0, "four", "(I)V"⟩
def dkwX0_four_1 : List UInt8 := [145, 84, 42, 180, 0, 29, 89, 180, 0, 171, 4, 96, 181, 0, 171, 132, 2, 248, 167, 255, 217, 177]
abbrev dktX0_four_1 : List UInt8 := dkwX0_four_1 ++ []
def dkwX0_four_0 : List UInt8 := [16, 24, 61, 28, 155, 0, 41, 42, 180, 0, 29, 180, 0, 178, 42, 180, 0, 29, 180, 0, 171, 27, 28, 122]
abbrev dktX0_four_0 : List UInt8 := dkwX0_four_0 ++ dktX0_four_1
theorem dksX0_four_0 : cX0_four.data.toList.drop 0 = dktX0_four_0 := by decide +kernel
theorem dksX0_four_1 : cX0_four.data.toList.drop 24 = dktX0_four_1 := dk_seg dksX0_four_0 24 rfl rfl
theorem dX0_four_0 : decode cX0_four 0 = .ok (.bipush 24, 2) := dk_16 24 (dk_at dksX0_four_0 0 rfl rfl)
theorem dX0_four_2 : decode cX0_four 2 = .ok (.istore_n 2, 1) := dk_61 (dk_at dksX0_four_0 2 rfl rfl)
theorem dX0_four_3 : decode cX0_four 3 = .ok (.iload_n 2, 1) := dk_28 (dk_at dksX0_four_0 3 rfl rfl)
theorem dX0_four_4 : decode cX0_four 4 = .ok (.ifCond .lt 41, 3) := dk_155 0 41 (dk_at dksX0_four_0 4 rfl rfl)
theorem dX0_four_7 : decode cX0_four 7 = .ok (.aload_n 0, 1) := dk_42 (dk_at dksX0_four_0 7 rfl rfl)
theorem dX0_four_8 : decode cX0_four 8 = .ok (.getfield 29, 3) := dk_180 0 29 (dk_at dksX0_four_0 8 rfl rfl)
theorem dX0_four_11 : decode cX0_four 11 = .ok (.getfield 178, 3) := dk_180 0 178 (dk_at dksX0_four_0 11 rfl rfl)
theorem dX0_four_14 : decode cX0_four 14 = .ok (.aload_n 0, 1) := dk_42 (dk_at dksX0_four_0 14 rfl rfl)
theorem dX0_four_15 : decode cX0_four 15 = .ok (.getfield 29, 3) := dk_180 0 29 (dk_at dksX0_four_0 15 rfl rfl)
theorem dX0_four_18 : decode cX0_four 18 = .ok (.getfield 171, 3) := dk_180 0 171 (dk_at dksX0_four_0 18 rfl rfl)
theorem dX0_four_21 : decode cX0_four 21 = .ok (.iload_n 1, 1) := dk_27 (dk_at dksX0_four_0 21 rfl rfl)
theorem dX0_four_22 : decode cX0_four 22 = .ok (.iload_n 2, 1) := dk_28 (dk_at dksX0_four_0 22 rfl rfl)
theorem dX0_four_23 : decode cX0_four 23 = .ok (.ishr, 1) := dk_122 (dk_at dksX0_four_0 23 rfl rfl)
theorem dX0_four_24 : decode cX0_four 24 = .ok (.i2b, 1) := dk_145 (dk_at dksX0_four_1 0 rfl rfl)
theorem dX0_four_25 : decode cX0_four 25 = .ok (.bastore, 1) := dk_84 (dk_at dksX0_four_1 1 rfl rfl)
theorem dX0_four_26 : decode cX0_four 26 = .ok (.aload_n 0, 1) := dk_42 (dk_at dksX0_four_1 2 rfl rfl)
theorem dX0_four_27 : decode cX0_four 27 = .ok (.getfield 29, 3) := dk_180 0 29 (dk_at dksX0_four_1 3 rfl rfl)
theorem dX0_four_30 : decode cX0_four 30 = .ok (.dup, 1) := dk_89 (dk_at dksX0_four_1 6 rfl rfl)
theorem dX0_four_31 : decode cX0_four 31 = .ok (.getfield 171, 3) := dk_180 0 171 (dk_at dksX0_four_1 7 rfl rfl)
theorem dX0_four_34 : decode cX0_four 34 = .ok (.iconst 1, 1) := dk_4 (dk_at dksX0_four_1 10 rfl rfl)
theorem dX0_four_35 : decode cX0_four 35 = .ok (.iadd, 1) := dk_96 (dk_at dksX0_four_1 11 rfl rfl)
theorem dX0_four_36 : decode cX0_four 36 = .ok (.putfield 171, 3) := dk_181 0 171 (dk_at dksX0_four_1 12 rfl rfl)
theorem dX0_four_39 : decode cX0_four 39 = .ok (.iinc 2 (-8), 3) := dk_132 2 248 (dk_at dksX0_four_1 15 rfl rfl)
theorem dX0_four_42 : decode cX0_four 42 = .ok (.goto (-39), 3) := dk_167 255 217 (dk_at dksX0_four_1 18 rfl rfl)
theorem dX0_four_45 : decode cX0_four 45 = .ok (.return_, 1) := dk_177 (dk_at dksX0_four_1 21 rfl rfl)
abbrev cX0_drawer : ByteArray := prog_1_method_23_code
def yX0_drawer : MethodName := ⟨RX0, "drawer", "(I)I"⟩
def dkwX0_drawer_2 : List UInt8 := [181, 0, 203, 42, 42, 180, 0, 38, 180, 0, 152, 182, 0, 101, 172]
abbrev dktX0_drawer_2 : List UInt8 := dkwX0_drawer_2 ++ []
def dkwX0_drawer_1 : List UInt8 := [182, 0, 192, 181, 0, 38, 167, 0, 10, 77, 42, 44, 182, 0, 195, 172, 42, 1, 181, 0, 199, 42, 3]
abbrev dktX0_drawer_1 : List UInt8 := dkwX0_drawer_1 ++ dktX0_drawer_2
def dkwX0_drawer_0 : List UInt8 := [42, 27, 17, 3, 132, 182, 0, 188, 154, 0, 9, 42, 8, 182, 0, 97, 172, 42, 42, 180, 0, 29, 27]
abbrev dktX0_drawer_0 : List UInt8 := dkwX0_drawer_0 ++ dktX0_drawer_1
theorem dksX0_drawer_0 : cX0_drawer.data.toList.drop 0 = dktX0_drawer_0 := by decide +kernel
theorem dksX0_drawer_1 : cX0_drawer.data.toList.drop 23 = dktX0_drawer_1 := dk_seg dksX0_drawer_0 23 rfl rfl
theorem dksX0_drawer_2 : cX0_drawer.data.toList.drop 46 = dktX0_drawer_2 := dk_seg dksX0_drawer_1 23 rfl rfl
theorem dX0_drawer_0 : decode cX0_drawer 0 = .ok (.aload_n 0, 1) := dk_42 (dk_at dksX0_drawer_0 0 rfl rfl)
theorem dX0_drawer_1 : decode cX0_drawer 1 = .ok (.iload_n 1, 1) := dk_27 (dk_at dksX0_drawer_0 1 rfl rfl)
theorem dX0_drawer_2 : decode cX0_drawer 2 = .ok (.sipush 900, 3) := dk_17 3 132 (dk_at dksX0_drawer_0 2 rfl rfl)
theorem dX0_drawer_5 : decode cX0_drawer 5 = .ok (.invokevirtual 188, 3) := dk_182 0 188 (dk_at dksX0_drawer_0 5 rfl rfl)
theorem dX0_drawer_8 : decode cX0_drawer 8 = .ok (.ifCond .ne 9, 3) := dk_154 0 9 (dk_at dksX0_drawer_0 8 rfl rfl)
theorem dX0_drawer_11 : decode cX0_drawer 11 = .ok (.aload_n 0, 1) := dk_42 (dk_at dksX0_drawer_0 11 rfl rfl)
theorem dX0_drawer_12 : decode cX0_drawer 12 = .ok (.iconst 5, 1) := dk_8 (dk_at dksX0_drawer_0 12 rfl rfl)
theorem dX0_drawer_13 : decode cX0_drawer 13 = .ok (.invokevirtual 97, 3) := dk_182 0 97 (dk_at dksX0_drawer_0 13 rfl rfl)
theorem dX0_drawer_16 : decode cX0_drawer 16 = .ok (.ireturn, 1) := dk_172 (dk_at dksX0_drawer_0 16 rfl rfl)
theorem dX0_drawer_17 : decode cX0_drawer 17 = .ok (.aload_n 0, 1) := dk_42 (dk_at dksX0_drawer_0 17 rfl rfl)
theorem dX0_drawer_18 : decode cX0_drawer 18 = .ok (.aload_n 0, 1) := dk_42 (dk_at dksX0_drawer_0 18 rfl rfl)
theorem dX0_drawer_19 : decode cX0_drawer 19 = .ok (.getfield 29, 3) := dk_180 0 29 (dk_at dksX0_drawer_0 19 rfl rfl)
theorem dX0_drawer_22 : decode cX0_drawer 22 = .ok (.iload_n 1, 1) := dk_27 (dk_at dksX0_drawer_0 22 rfl rfl)
theorem dX0_drawer_23 : decode cX0_drawer 23 = .ok (.invokevirtual 192, 3) := dk_182 0 192 (dk_at dksX0_drawer_1 0 rfl rfl)
theorem dX0_drawer_26 : decode cX0_drawer 26 = .ok (.putfield 38, 3) := dk_181 0 38 (dk_at dksX0_drawer_1 3 rfl rfl)
theorem dX0_drawer_29 : decode cX0_drawer 29 = .ok (.goto 10, 3) := dk_167 0 10 (dk_at dksX0_drawer_1 6 rfl rfl)
theorem dX0_drawer_32 : decode cX0_drawer 32 = .ok (.astore_n 2, 1) := dk_77 (dk_at dksX0_drawer_1 9 rfl rfl)
theorem dX0_drawer_33 : decode cX0_drawer 33 = .ok (.aload_n 0, 1) := dk_42 (dk_at dksX0_drawer_1 10 rfl rfl)
theorem dX0_drawer_34 : decode cX0_drawer 34 = .ok (.aload_n 2, 1) := dk_44 (dk_at dksX0_drawer_1 11 rfl rfl)
theorem dX0_drawer_35 : decode cX0_drawer 35 = .ok (.invokevirtual 195, 3) := dk_182 0 195 (dk_at dksX0_drawer_1 12 rfl rfl)
theorem dX0_drawer_38 : decode cX0_drawer 38 = .ok (.ireturn, 1) := dk_172 (dk_at dksX0_drawer_1 15 rfl rfl)
theorem dX0_drawer_39 : decode cX0_drawer 39 = .ok (.aload_n 0, 1) := dk_42 (dk_at dksX0_drawer_1 16 rfl rfl)
theorem dX0_drawer_40 : decode cX0_drawer 40 = .ok (.aconst_null, 1) := dk_1 (dk_at dksX0_drawer_1 17 rfl rfl)
theorem dX0_drawer_41 : decode cX0_drawer 41 = .ok (.putfield 199, 3) := dk_181 0 199 (dk_at dksX0_drawer_1 18 rfl rfl)
theorem dX0_drawer_44 : decode cX0_drawer 44 = .ok (.aload_n 0, 1) := dk_42 (dk_at dksX0_drawer_1 21 rfl rfl)
theorem dX0_drawer_45 : decode cX0_drawer 45 = .ok (.iconst 0, 1) := dk_3 (dk_at dksX0_drawer_1 22 rfl rfl)
theorem dX0_drawer_46 : decode cX0_drawer 46 = .ok (.putfield 203, 3) := dk_181 0 203 (dk_at dksX0_drawer_2 0 rfl rfl)
theorem dX0_drawer_49 : decode cX0_drawer 49 = .ok (.aload_n 0, 1) := dk_42 (dk_at dksX0_drawer_2 3 rfl rfl)
theorem dX0_drawer_50 : decode cX0_drawer 50 = .ok (.aload_n 0, 1) := dk_42 (dk_at dksX0_drawer_2 4 rfl rfl)
theorem dX0_drawer_51 : decode cX0_drawer 51 = .ok (.getfield 38, 3) := dk_180 0 38 (dk_at dksX0_drawer_2 5 rfl rfl)
theorem dX0_drawer_54 : decode cX0_drawer 54 = .ok (.getfield 152, 3) := dk_180 0 152 (dk_at dksX0_drawer_2 8 rfl rfl)
theorem dX0_drawer_57 : decode cX0_drawer 57 = .ok (.invokevirtual 101, 3) := dk_182 0 101 (dk_at dksX0_drawer_2 11 rfl rfl)
theorem dX0_drawer_60 : decode cX0_drawer 60 = .ok (.ireturn, 1) := dk_172 (dk_at dksX0_drawer_2 14 rfl rfl)
abbrev cX0_takes : ByteArray := prog_1_method_21_code
def yX0_takes : MethodName := ⟨RX0, "takes", "(II)Z"⟩
def dkwX0_takes_1 : List UInt8 := [180, 0, 29, 3, 181, 0, 171, 42, 3, 181, 0, 42, 42, 2, 181, 0, 46, 4, 172]
abbrev dktX0_takes_1 : List UInt8 := dkwX0_takes_1 ++ []
def dkwX0_takes_0 : List UInt8 := [27, 155, 0, 19, 27, 42, 180, 0, 29, 180, 0, 171, 163, 0, 8, 27, 28, 164, 0, 5, 3, 172, 42]
abbrev dktX0_takes_0 : List UInt8 := dkwX0_takes_0 ++ dktX0_takes_1
theorem dksX0_takes_0 : cX0_takes.data.toList.drop 0 = dktX0_takes_0 := by decide +kernel
theorem dksX0_takes_1 : cX0_takes.data.toList.drop 23 = dktX0_takes_1 := dk_seg dksX0_takes_0 23 rfl rfl
theorem dX0_takes_0 : decode cX0_takes 0 = .ok (.iload_n 1, 1) := dk_27 (dk_at dksX0_takes_0 0 rfl rfl)
theorem dX0_takes_1 : decode cX0_takes 1 = .ok (.ifCond .lt 19, 3) := dk_155 0 19 (dk_at dksX0_takes_0 1 rfl rfl)
theorem dX0_takes_4 : decode cX0_takes 4 = .ok (.iload_n 1, 1) := dk_27 (dk_at dksX0_takes_0 4 rfl rfl)
theorem dX0_takes_5 : decode cX0_takes 5 = .ok (.aload_n 0, 1) := dk_42 (dk_at dksX0_takes_0 5 rfl rfl)
theorem dX0_takes_6 : decode cX0_takes 6 = .ok (.getfield 29, 3) := dk_180 0 29 (dk_at dksX0_takes_0 6 rfl rfl)
theorem dX0_takes_9 : decode cX0_takes 9 = .ok (.getfield 171, 3) := dk_180 0 171 (dk_at dksX0_takes_0 9 rfl rfl)
theorem dX0_takes_12 : decode cX0_takes 12 = .ok (.if_icmp .gt 8, 3) := dk_163 0 8 (dk_at dksX0_takes_0 12 rfl rfl)
theorem dX0_takes_15 : decode cX0_takes 15 = .ok (.iload_n 1, 1) := dk_27 (dk_at dksX0_takes_0 15 rfl rfl)
theorem dX0_takes_16 : decode cX0_takes 16 = .ok (.iload_n 2, 1) := dk_28 (dk_at dksX0_takes_0 16 rfl rfl)
theorem dX0_takes_17 : decode cX0_takes 17 = .ok (.if_icmp .le 5, 3) := dk_164 0 5 (dk_at dksX0_takes_0 17 rfl rfl)
theorem dX0_takes_20 : decode cX0_takes 20 = .ok (.iconst 0, 1) := dk_3 (dk_at dksX0_takes_0 20 rfl rfl)
theorem dX0_takes_21 : decode cX0_takes 21 = .ok (.ireturn, 1) := dk_172 (dk_at dksX0_takes_0 21 rfl rfl)
theorem dX0_takes_22 : decode cX0_takes 22 = .ok (.aload_n 0, 1) := dk_42 (dk_at dksX0_takes_0 22 rfl rfl)
theorem dX0_takes_23 : decode cX0_takes 23 = .ok (.getfield 29, 3) := dk_180 0 29 (dk_at dksX0_takes_1 0 rfl rfl)
theorem dX0_takes_26 : decode cX0_takes 26 = .ok (.iconst 0, 1) := dk_3 (dk_at dksX0_takes_1 3 rfl rfl)
theorem dX0_takes_27 : decode cX0_takes 27 = .ok (.putfield 171, 3) := dk_181 0 171 (dk_at dksX0_takes_1 4 rfl rfl)
theorem dX0_takes_30 : decode cX0_takes 30 = .ok (.aload_n 0, 1) := dk_42 (dk_at dksX0_takes_1 7 rfl rfl)
theorem dX0_takes_31 : decode cX0_takes 31 = .ok (.iconst 0, 1) := dk_3 (dk_at dksX0_takes_1 8 rfl rfl)
theorem dX0_takes_32 : decode cX0_takes 32 = .ok (.putfield 42, 3) := dk_181 0 42 (dk_at dksX0_takes_1 9 rfl rfl)
theorem dX0_takes_35 : decode cX0_takes 35 = .ok (.aload_n 0, 1) := dk_42 (dk_at dksX0_takes_1 12 rfl rfl)
theorem dX0_takes_36 : decode cX0_takes 36 = .ok (.iconst (-1), 1) := dk_2 (dk_at dksX0_takes_1 13 rfl rfl)
theorem dX0_takes_37 : decode cX0_takes 37 = .ok (.putfield 46, 3) := dk_181 0 46 (dk_at dksX0_takes_1 14 rfl rfl)
theorem dX0_takes_40 : decode cX0_takes 40 = .ok (.iconst 1, 1) := dk_4 (dk_at dksX0_takes_1 17 rfl rfl)
theorem dX0_takes_41 : decode cX0_takes 41 = .ok (.ireturn, 1) := dk_172 (dk_at dksX0_takes_1 18 rfl rfl)
abbrev cX0_refused : ByteArray := prog_1_method_22_code
def yX0_refused : MethodName := ⟨RX0, "refused", "(LCableDrawer$Wrong;)I"⟩
def dkwX0_refused_0 : List UInt8 := [42, 43, 180, 0, 182, 181, 0, 42, 42, 43, 180, 0, 185, 181, 0, 46, 42, 16, 10, 182, 0, 97, 172]
abbrev dktX0_refused_0 : List UInt8 := dkwX0_refused_0 ++ []
theorem dksX0_refused_0 : cX0_refused.data.toList.drop 0 = dktX0_refused_0 := by decide +kernel
theorem dX0_refused_0 : decode cX0_refused 0 = .ok (.aload_n 0, 1) := dk_42 (dk_at dksX0_refused_0 0 rfl rfl)
theorem dX0_refused_1 : decode cX0_refused 1 = .ok (.aload_n 1, 1) := dk_43 (dk_at dksX0_refused_0 1 rfl rfl)
theorem dX0_refused_2 : decode cX0_refused 2 = .ok (.getfield 182, 3) := dk_180 0 182 (dk_at dksX0_refused_0 2 rfl rfl)
theorem dX0_refused_5 : decode cX0_refused 5 = .ok (.putfield 42, 3) := dk_181 0 42 (dk_at dksX0_refused_0 5 rfl rfl)
theorem dX0_refused_8 : decode cX0_refused 8 = .ok (.aload_n 0, 1) := dk_42 (dk_at dksX0_refused_0 8 rfl rfl)
theorem dX0_refused_9 : decode cX0_refused 9 = .ok (.aload_n 1, 1) := dk_43 (dk_at dksX0_refused_0 9 rfl rfl)
theorem dX0_refused_10 : decode cX0_refused 10 = .ok (.getfield 185, 3) := dk_180 0 185 (dk_at dksX0_refused_0 10 rfl rfl)
theorem dX0_refused_13 : decode cX0_refused 13 = .ok (.putfield 46, 3) := dk_181 0 46 (dk_at dksX0_refused_0 13 rfl rfl)
theorem dX0_refused_16 : decode cX0_refused 16 = .ok (.aload_n 0, 1) := dk_42 (dk_at dksX0_refused_0 16 rfl rfl)
theorem dX0_refused_17 : decode cX0_refused 17 = .ok (.bipush 10, 2) := dk_16 10 (dk_at dksX0_refused_0 17 rfl rfl)
theorem dX0_refused_19 : decode cX0_refused 19 = .ok (.invokevirtual 97, 3) := dk_182 0 97 (dk_at dksX0_refused_0 19 rfl rfl)
theorem dX0_refused_22 : decode cX0_refused 22 = .ok (.ireturn, 1) := dk_172 (dk_at dksX0_refused_0 22 rfl rfl)
abbrev cX0_gives : ByteArray := prog_1_method_7_code
def yX0_gives : MethodName := ⟨RX0, "gives", "(I)I"⟩
def dkwX0_gives_0 : List UInt8 := [42, 3, 181, 0, 91, 27, 172]
abbrev dktX0_gives_0 : List UInt8 := dkwX0_gives_0 ++ []
theorem dksX0_gives_0 : cX0_gives.data.toList.drop 0 = dktX0_gives_0 := by decide +kernel
theorem dX0_gives_0 : decode cX0_gives 0 = .ok (.aload_n 0, 1) := dk_42 (dk_at dksX0_gives_0 0 rfl rfl)
theorem dX0_gives_1 : decode cX0_gives 1 = .ok (.iconst 0, 1) := dk_3 (dk_at dksX0_gives_0 1 rfl rfl)
theorem dX0_gives_2 : decode cX0_gives 2 = .ok (.putfield 91, 3) := dk_181 0 91 (dk_at dksX0_gives_0 2 rfl rfl)
theorem dX0_gives_5 : decode cX0_gives 5 = .ok (.iload_n 1, 1) := dk_27 (dk_at dksX0_gives_0 5 rfl rfl)
theorem dX0_gives_6 : decode cX0_gives 6 = .ok (.ireturn, 1) := dk_172 (dk_at dksX0_gives_0 6 rfl rfl)
abbrev cX0_years : ByteArray := prog_1_method_24_code
def yX0_years : MethodName := ⟨RX0, "years", "(I)I"⟩
def dkwX0_years_2 : List UInt8 := [180, 0, 210, 181, 0, 203, 42, 42, 180, 0, 29, 180, 0, 211, 182, 0, 101, 172]
abbrev dktX0_years_2 : List UInt8 := dkwX0_years_2 ++ []
def dkwX0_years_1 : List UInt8 := [180, 0, 38, 182, 0, 206, 181, 0, 199, 167, 0, 10, 77, 42, 44, 182, 0, 195, 172, 42, 42, 180, 0, 29]
abbrev dktX0_years_1 : List UInt8 := dkwX0_years_1 ++ dktX0_years_2
def dkwX0_years_0 : List UInt8 := [42, 27, 17, 1, 44, 182, 0, 188, 154, 0, 9, 42, 8, 182, 0, 97, 172, 42, 42, 180, 0, 29, 27, 42]
abbrev dktX0_years_0 : List UInt8 := dkwX0_years_0 ++ dktX0_years_1
theorem dksX0_years_0 : cX0_years.data.toList.drop 0 = dktX0_years_0 := by decide +kernel
theorem dksX0_years_1 : cX0_years.data.toList.drop 24 = dktX0_years_1 := dk_seg dksX0_years_0 24 rfl rfl
theorem dksX0_years_2 : cX0_years.data.toList.drop 48 = dktX0_years_2 := dk_seg dksX0_years_1 24 rfl rfl
theorem dX0_years_0 : decode cX0_years 0 = .ok (.aload_n 0, 1) := dk_42 (dk_at dksX0_years_0 0 rfl rfl)
theorem dX0_years_1 : decode cX0_years 1 = .ok (.iload_n 1, 1) := dk_27 (dk_at dksX0_years_0 1 rfl rfl)
theorem dX0_years_2 : decode cX0_years 2 = .ok (.sipush 300, 3) := dk_17 1 44 (dk_at dksX0_years_0 2 rfl rfl)
theorem dX0_years_5 : decode cX0_years 5 = .ok (.invokevirtual 188, 3) := dk_182 0 188 (dk_at dksX0_years_0 5 rfl rfl)
theorem dX0_years_8 : decode cX0_years 8 = .ok (.ifCond .ne 9, 3) := dk_154 0 9 (dk_at dksX0_years_0 8 rfl rfl)
theorem dX0_years_11 : decode cX0_years 11 = .ok (.aload_n 0, 1) := dk_42 (dk_at dksX0_years_0 11 rfl rfl)
theorem dX0_years_12 : decode cX0_years 12 = .ok (.iconst 5, 1) := dk_8 (dk_at dksX0_years_0 12 rfl rfl)
theorem dX0_years_13 : decode cX0_years 13 = .ok (.invokevirtual 97, 3) := dk_182 0 97 (dk_at dksX0_years_0 13 rfl rfl)
theorem dX0_years_16 : decode cX0_years 16 = .ok (.ireturn, 1) := dk_172 (dk_at dksX0_years_0 16 rfl rfl)
theorem dX0_years_17 : decode cX0_years 17 = .ok (.aload_n 0, 1) := dk_42 (dk_at dksX0_years_0 17 rfl rfl)
theorem dX0_years_18 : decode cX0_years 18 = .ok (.aload_n 0, 1) := dk_42 (dk_at dksX0_years_0 18 rfl rfl)
theorem dX0_years_19 : decode cX0_years 19 = .ok (.getfield 29, 3) := dk_180 0 29 (dk_at dksX0_years_0 19 rfl rfl)
theorem dX0_years_22 : decode cX0_years 22 = .ok (.iload_n 1, 1) := dk_27 (dk_at dksX0_years_0 22 rfl rfl)
theorem dX0_years_23 : decode cX0_years 23 = .ok (.aload_n 0, 1) := dk_42 (dk_at dksX0_years_0 23 rfl rfl)
theorem dX0_years_24 : decode cX0_years 24 = .ok (.getfield 38, 3) := dk_180 0 38 (dk_at dksX0_years_1 0 rfl rfl)
theorem dX0_years_27 : decode cX0_years 27 = .ok (.invokevirtual 206, 3) := dk_182 0 206 (dk_at dksX0_years_1 3 rfl rfl)
theorem dX0_years_30 : decode cX0_years 30 = .ok (.putfield 199, 3) := dk_181 0 199 (dk_at dksX0_years_1 6 rfl rfl)
theorem dX0_years_33 : decode cX0_years 33 = .ok (.goto 10, 3) := dk_167 0 10 (dk_at dksX0_years_1 9 rfl rfl)
theorem dX0_years_36 : decode cX0_years 36 = .ok (.astore_n 2, 1) := dk_77 (dk_at dksX0_years_1 12 rfl rfl)
theorem dX0_years_37 : decode cX0_years 37 = .ok (.aload_n 0, 1) := dk_42 (dk_at dksX0_years_1 13 rfl rfl)
theorem dX0_years_38 : decode cX0_years 38 = .ok (.aload_n 2, 1) := dk_44 (dk_at dksX0_years_1 14 rfl rfl)
theorem dX0_years_39 : decode cX0_years 39 = .ok (.invokevirtual 195, 3) := dk_182 0 195 (dk_at dksX0_years_1 15 rfl rfl)
theorem dX0_years_42 : decode cX0_years 42 = .ok (.ireturn, 1) := dk_172 (dk_at dksX0_years_1 18 rfl rfl)
theorem dX0_years_43 : decode cX0_years 43 = .ok (.aload_n 0, 1) := dk_42 (dk_at dksX0_years_1 19 rfl rfl)
theorem dX0_years_44 : decode cX0_years 44 = .ok (.aload_n 0, 1) := dk_42 (dk_at dksX0_years_1 20 rfl rfl)
theorem dX0_years_45 : decode cX0_years 45 = .ok (.getfield 29, 3) := dk_180 0 29 (dk_at dksX0_years_1 21 rfl rfl)
theorem dX0_years_48 : decode cX0_years 48 = .ok (.getfield 210, 3) := dk_180 0 210 (dk_at dksX0_years_2 0 rfl rfl)
theorem dX0_years_51 : decode cX0_years 51 = .ok (.putfield 203, 3) := dk_181 0 203 (dk_at dksX0_years_2 3 rfl rfl)
theorem dX0_years_54 : decode cX0_years 54 = .ok (.aload_n 0, 1) := dk_42 (dk_at dksX0_years_2 6 rfl rfl)
theorem dX0_years_55 : decode cX0_years 55 = .ok (.aload_n 0, 1) := dk_42 (dk_at dksX0_years_2 7 rfl rfl)
theorem dX0_years_56 : decode cX0_years 56 = .ok (.getfield 29, 3) := dk_180 0 29 (dk_at dksX0_years_2 8 rfl rfl)
theorem dX0_years_59 : decode cX0_years 59 = .ok (.getfield 211, 3) := dk_180 0 211 (dk_at dksX0_years_2 11 rfl rfl)
theorem dX0_years_62 : decode cX0_years 62 = .ok (.invokevirtual 101, 3) := dk_182 0 101 (dk_at dksX0_years_2 14 rfl rfl)
theorem dX0_years_65 : decode cX0_years 65 = .ok (.ireturn, 1) := dk_172 (dk_at dksX0_years_2 17 rfl rfl)
abbrev cX0_fault : ByteArray := prog_1_method_25_code
def yX0_fault : MethodName := ⟨RX0, "fault", "(I)I"⟩
def dkwX0_fault_1 : List UInt8 := [172]
abbrev dktX0_fault_1 : List UInt8 := dkwX0_fault_1 ++ []
def dkwX0_fault_0 : List UInt8 := [27, 154, 0, 10, 42, 180, 0, 42, 167, 0, 16, 27, 4, 160, 0, 10, 42, 180, 0, 46, 167, 0, 4, 2]
abbrev dktX0_fault_0 : List UInt8 := dkwX0_fault_0 ++ dktX0_fault_1
theorem dksX0_fault_0 : cX0_fault.data.toList.drop 0 = dktX0_fault_0 := by decide +kernel
theorem dksX0_fault_1 : cX0_fault.data.toList.drop 24 = dktX0_fault_1 := dk_seg dksX0_fault_0 24 rfl rfl
theorem dX0_fault_0 : decode cX0_fault 0 = .ok (.iload_n 1, 1) := dk_27 (dk_at dksX0_fault_0 0 rfl rfl)
theorem dX0_fault_1 : decode cX0_fault 1 = .ok (.ifCond .ne 10, 3) := dk_154 0 10 (dk_at dksX0_fault_0 1 rfl rfl)
theorem dX0_fault_4 : decode cX0_fault 4 = .ok (.aload_n 0, 1) := dk_42 (dk_at dksX0_fault_0 4 rfl rfl)
theorem dX0_fault_5 : decode cX0_fault 5 = .ok (.getfield 42, 3) := dk_180 0 42 (dk_at dksX0_fault_0 5 rfl rfl)
theorem dX0_fault_8 : decode cX0_fault 8 = .ok (.goto 16, 3) := dk_167 0 16 (dk_at dksX0_fault_0 8 rfl rfl)
theorem dX0_fault_11 : decode cX0_fault 11 = .ok (.iload_n 1, 1) := dk_27 (dk_at dksX0_fault_0 11 rfl rfl)
theorem dX0_fault_12 : decode cX0_fault 12 = .ok (.iconst 1, 1) := dk_4 (dk_at dksX0_fault_0 12 rfl rfl)
theorem dX0_fault_13 : decode cX0_fault 13 = .ok (.if_icmp .ne 10, 3) := dk_160 0 10 (dk_at dksX0_fault_0 13 rfl rfl)
theorem dX0_fault_16 : decode cX0_fault 16 = .ok (.aload_n 0, 1) := dk_42 (dk_at dksX0_fault_0 16 rfl rfl)
theorem dX0_fault_17 : decode cX0_fault 17 = .ok (.getfield 46, 3) := dk_180 0 46 (dk_at dksX0_fault_0 17 rfl rfl)
theorem dX0_fault_20 : decode cX0_fault 20 = .ok (.goto 4, 3) := dk_167 0 4 (dk_at dksX0_fault_0 20 rfl rfl)
theorem dX0_fault_23 : decode cX0_fault 23 = .ok (.iconst (-1), 1) := dk_2 (dk_at dksX0_fault_0 23 rfl rfl)
theorem dX0_fault_24 : decode cX0_fault 24 = .ok (.ireturn, 1) := dk_172 (dk_at dksX0_fault_1 0 rfl rfl)
abbrev cX0_many : ByteArray := prog_1_method_27_code
def yX0_many : MethodName := ⟨RX0, "many", "(I)I"⟩
def dkwX0_many_6 : List UInt8 := [182, 0, 97, 172]
abbrev dktX0_many_6 : List UInt8 := dkwX0_many_6 ++ []
def dkwX0_many_5 : List UInt8 := [180, 0, 38, 180, 0, 230, 182, 0, 101, 172, 42, 42, 180, 0, 38, 180, 0, 233, 182, 0, 101, 172, 42, 8]
abbrev dktX0_many_5 : List UInt8 := dkwX0_many_5 ++ dktX0_many_6
def dkwX0_many_4 : List UInt8 := [42, 42, 182, 0, 224, 182, 0, 101, 172, 42, 42, 180, 0, 38, 180, 0, 227, 182, 0, 101, 172, 42, 42]
abbrev dktX0_many_4 : List UInt8 := dkwX0_many_4 ++ dktX0_many_5
def dkwX0_many_3 : List UInt8 := [42, 42, 180, 0, 38, 180, 0, 155, 182, 0, 101, 172, 42, 42, 180, 0, 38, 182, 0, 220, 182, 0, 101, 172]
abbrev dktX0_many_3 : List UInt8 := dkwX0_many_3 ++ dktX0_many_4
def dkwX0_many_2 : List UInt8 := [42, 42, 180, 0, 38, 180, 0, 152, 182, 0, 101, 172, 42, 42, 180, 0, 38, 180, 0, 217, 182, 0, 101, 172]
abbrev dktX0_many_2 : List UInt8 := dkwX0_many_2 ++ dktX0_many_3
def dkwX0_many_1 : List UInt8 := [170, 0, 0, 0, 0, 0, 140, 0, 0, 0, 0, 0, 0, 0, 7, 0, 0, 0, 47, 0, 0, 0, 59, 0, 0, 0, 71, 0, 0, 0, 83, 0, 0, 0, 95, 0, 0, 0, 104, 0, 0, 0, 116, 0, 0, 0, 128]
abbrev dktX0_many_1 : List UInt8 := dkwX0_many_1 ++ dktX0_many_2
def dkwX0_many_0 : List UInt8 := [27]
abbrev dktX0_many_0 : List UInt8 := dkwX0_many_0 ++ dktX0_many_1
theorem dksX0_many_0 : cX0_many.data.toList.drop 0 = dktX0_many_0 := by decide +kernel
theorem dksX0_many_1 : cX0_many.data.toList.drop 1 = dktX0_many_1 := dk_seg dksX0_many_0 1 rfl rfl
theorem dksX0_many_2 : cX0_many.data.toList.drop 48 = dktX0_many_2 := dk_seg dksX0_many_1 47 rfl rfl
theorem dksX0_many_3 : cX0_many.data.toList.drop 72 = dktX0_many_3 := dk_seg dksX0_many_2 24 rfl rfl
theorem dksX0_many_4 : cX0_many.data.toList.drop 96 = dktX0_many_4 := dk_seg dksX0_many_3 24 rfl rfl
theorem dksX0_many_5 : cX0_many.data.toList.drop 119 = dktX0_many_5 := dk_seg dksX0_many_4 23 rfl rfl
theorem dksX0_many_6 : cX0_many.data.toList.drop 143 = dktX0_many_6 := dk_seg dksX0_many_5 24 rfl rfl
theorem dX0_many_0 : decode cX0_many 0 = .ok (.iload_n 1, 1) := dk_27 (dk_at dksX0_many_0 0 rfl rfl)
theorem dX0_many_1 : decode cX0_many 1 = .ok (.tableswitch 140 0 7 #[47, 59, 71, 83, 95, 104, 116, 128], 47) := by decide +kernel
theorem dX0_many_48 : decode cX0_many 48 = .ok (.aload_n 0, 1) := dk_42 (dk_at dksX0_many_2 0 rfl rfl)
theorem dX0_many_49 : decode cX0_many 49 = .ok (.aload_n 0, 1) := dk_42 (dk_at dksX0_many_2 1 rfl rfl)
theorem dX0_many_50 : decode cX0_many 50 = .ok (.getfield 38, 3) := dk_180 0 38 (dk_at dksX0_many_2 2 rfl rfl)
theorem dX0_many_53 : decode cX0_many 53 = .ok (.getfield 152, 3) := dk_180 0 152 (dk_at dksX0_many_2 5 rfl rfl)
theorem dX0_many_56 : decode cX0_many 56 = .ok (.invokevirtual 101, 3) := dk_182 0 101 (dk_at dksX0_many_2 8 rfl rfl)
theorem dX0_many_59 : decode cX0_many 59 = .ok (.ireturn, 1) := dk_172 (dk_at dksX0_many_2 11 rfl rfl)
theorem dX0_many_60 : decode cX0_many 60 = .ok (.aload_n 0, 1) := dk_42 (dk_at dksX0_many_2 12 rfl rfl)
theorem dX0_many_61 : decode cX0_many 61 = .ok (.aload_n 0, 1) := dk_42 (dk_at dksX0_many_2 13 rfl rfl)
theorem dX0_many_62 : decode cX0_many 62 = .ok (.getfield 38, 3) := dk_180 0 38 (dk_at dksX0_many_2 14 rfl rfl)
theorem dX0_many_65 : decode cX0_many 65 = .ok (.getfield 217, 3) := dk_180 0 217 (dk_at dksX0_many_2 17 rfl rfl)
theorem dX0_many_68 : decode cX0_many 68 = .ok (.invokevirtual 101, 3) := dk_182 0 101 (dk_at dksX0_many_2 20 rfl rfl)
theorem dX0_many_71 : decode cX0_many 71 = .ok (.ireturn, 1) := dk_172 (dk_at dksX0_many_2 23 rfl rfl)
theorem dX0_many_72 : decode cX0_many 72 = .ok (.aload_n 0, 1) := dk_42 (dk_at dksX0_many_3 0 rfl rfl)
theorem dX0_many_73 : decode cX0_many 73 = .ok (.aload_n 0, 1) := dk_42 (dk_at dksX0_many_3 1 rfl rfl)
theorem dX0_many_74 : decode cX0_many 74 = .ok (.getfield 38, 3) := dk_180 0 38 (dk_at dksX0_many_3 2 rfl rfl)
theorem dX0_many_77 : decode cX0_many 77 = .ok (.getfield 155, 3) := dk_180 0 155 (dk_at dksX0_many_3 5 rfl rfl)
theorem dX0_many_80 : decode cX0_many 80 = .ok (.invokevirtual 101, 3) := dk_182 0 101 (dk_at dksX0_many_3 8 rfl rfl)
theorem dX0_many_83 : decode cX0_many 83 = .ok (.ireturn, 1) := dk_172 (dk_at dksX0_many_3 11 rfl rfl)
theorem dX0_many_84 : decode cX0_many 84 = .ok (.aload_n 0, 1) := dk_42 (dk_at dksX0_many_3 12 rfl rfl)
theorem dX0_many_85 : decode cX0_many 85 = .ok (.aload_n 0, 1) := dk_42 (dk_at dksX0_many_3 13 rfl rfl)
theorem dX0_many_86 : decode cX0_many 86 = .ok (.getfield 38, 3) := dk_180 0 38 (dk_at dksX0_many_3 14 rfl rfl)
theorem dX0_many_89 : decode cX0_many 89 = .ok (.invokevirtual 220, 3) := dk_182 0 220 (dk_at dksX0_many_3 17 rfl rfl)
theorem dX0_many_92 : decode cX0_many 92 = .ok (.invokevirtual 101, 3) := dk_182 0 101 (dk_at dksX0_many_3 20 rfl rfl)
theorem dX0_many_95 : decode cX0_many 95 = .ok (.ireturn, 1) := dk_172 (dk_at dksX0_many_3 23 rfl rfl)
theorem dX0_many_96 : decode cX0_many 96 = .ok (.aload_n 0, 1) := dk_42 (dk_at dksX0_many_4 0 rfl rfl)
theorem dX0_many_97 : decode cX0_many 97 = .ok (.aload_n 0, 1) := dk_42 (dk_at dksX0_many_4 1 rfl rfl)
theorem dX0_many_98 : decode cX0_many 98 = .ok (.invokevirtual 224, 3) := dk_182 0 224 (dk_at dksX0_many_4 2 rfl rfl)
theorem dX0_many_101 : decode cX0_many 101 = .ok (.invokevirtual 101, 3) := dk_182 0 101 (dk_at dksX0_many_4 5 rfl rfl)
theorem dX0_many_104 : decode cX0_many 104 = .ok (.ireturn, 1) := dk_172 (dk_at dksX0_many_4 8 rfl rfl)
theorem dX0_many_105 : decode cX0_many 105 = .ok (.aload_n 0, 1) := dk_42 (dk_at dksX0_many_4 9 rfl rfl)
theorem dX0_many_106 : decode cX0_many 106 = .ok (.aload_n 0, 1) := dk_42 (dk_at dksX0_many_4 10 rfl rfl)
theorem dX0_many_107 : decode cX0_many 107 = .ok (.getfield 38, 3) := dk_180 0 38 (dk_at dksX0_many_4 11 rfl rfl)
theorem dX0_many_110 : decode cX0_many 110 = .ok (.getfield 227, 3) := dk_180 0 227 (dk_at dksX0_many_4 14 rfl rfl)
theorem dX0_many_113 : decode cX0_many 113 = .ok (.invokevirtual 101, 3) := dk_182 0 101 (dk_at dksX0_many_4 17 rfl rfl)
theorem dX0_many_116 : decode cX0_many 116 = .ok (.ireturn, 1) := dk_172 (dk_at dksX0_many_4 20 rfl rfl)
theorem dX0_many_117 : decode cX0_many 117 = .ok (.aload_n 0, 1) := dk_42 (dk_at dksX0_many_4 21 rfl rfl)
theorem dX0_many_118 : decode cX0_many 118 = .ok (.aload_n 0, 1) := dk_42 (dk_at dksX0_many_4 22 rfl rfl)
theorem dX0_many_119 : decode cX0_many 119 = .ok (.getfield 38, 3) := dk_180 0 38 (dk_at dksX0_many_5 0 rfl rfl)
theorem dX0_many_122 : decode cX0_many 122 = .ok (.getfield 230, 3) := dk_180 0 230 (dk_at dksX0_many_5 3 rfl rfl)
theorem dX0_many_125 : decode cX0_many 125 = .ok (.invokevirtual 101, 3) := dk_182 0 101 (dk_at dksX0_many_5 6 rfl rfl)
theorem dX0_many_128 : decode cX0_many 128 = .ok (.ireturn, 1) := dk_172 (dk_at dksX0_many_5 9 rfl rfl)
theorem dX0_many_129 : decode cX0_many 129 = .ok (.aload_n 0, 1) := dk_42 (dk_at dksX0_many_5 10 rfl rfl)
theorem dX0_many_130 : decode cX0_many 130 = .ok (.aload_n 0, 1) := dk_42 (dk_at dksX0_many_5 11 rfl rfl)
theorem dX0_many_131 : decode cX0_many 131 = .ok (.getfield 38, 3) := dk_180 0 38 (dk_at dksX0_many_5 12 rfl rfl)
theorem dX0_many_134 : decode cX0_many 134 = .ok (.getfield 233, 3) := dk_180 0 233 (dk_at dksX0_many_5 15 rfl rfl)
theorem dX0_many_137 : decode cX0_many 137 = .ok (.invokevirtual 101, 3) := dk_182 0 101 (dk_at dksX0_many_5 18 rfl rfl)
theorem dX0_many_140 : decode cX0_many 140 = .ok (.ireturn, 1) := dk_172 (dk_at dksX0_many_5 21 rfl rfl)
theorem dX0_many_141 : decode cX0_many 141 = .ok (.aload_n 0, 1) := dk_42 (dk_at dksX0_many_5 22 rfl rfl)
theorem dX0_many_142 : decode cX0_many 142 = .ok (.iconst 5, 1) := dk_8 (dk_at dksX0_many_5 23 rfl rfl)
theorem dX0_many_143 : decode cX0_many 143 = .ok (.invokevirtual 97, 3) := dk_182 0 97 (dk_at dksX0_many_6 0 rfl rfl)
theorem dX0_many_146 : decode cX0_many 146 = .ok (.ireturn, 1) := dk_172 (dk_at dksX0_many_6 3 rfl rfl)
abbrev cX0_clipped : ByteArray := prog_1_method_26_code
def yX0_clipped : MethodName := ⟨RX0, "clipped", "()I"⟩
def dkwX0_clipped_2 : List UInt8 := [120, 167, 0, 4, 3, 128, 60, 132, 2, 1, 167, 255, 202, 27, 172]
abbrev dktX0_clipped_2 : List UInt8 := dkwX0_clipped_2 ++ []
def dkwX0_clipped_1 : List UInt8 := [50, 180, 0, 214, 153, 0, 24, 42, 180, 0, 38, 180, 0, 161, 28, 50, 180, 0, 165, 154, 0, 9, 4, 28]
abbrev dktX0_clipped_1 : List UInt8 := dkwX0_clipped_1 ++ dktX0_clipped_2
def dkwX0_clipped_0 : List UInt8 := [3, 60, 3, 61, 28, 42, 180, 0, 38, 180, 0, 152, 162, 0, 49, 27, 42, 180, 0, 38, 180, 0, 161, 28]
abbrev dktX0_clipped_0 : List UInt8 := dkwX0_clipped_0 ++ dktX0_clipped_1
theorem dksX0_clipped_0 : cX0_clipped.data.toList.drop 0 = dktX0_clipped_0 := by decide +kernel
theorem dksX0_clipped_1 : cX0_clipped.data.toList.drop 24 = dktX0_clipped_1 := dk_seg dksX0_clipped_0 24 rfl rfl
theorem dksX0_clipped_2 : cX0_clipped.data.toList.drop 48 = dktX0_clipped_2 := dk_seg dksX0_clipped_1 24 rfl rfl
theorem dX0_clipped_0 : decode cX0_clipped 0 = .ok (.iconst 0, 1) := dk_3 (dk_at dksX0_clipped_0 0 rfl rfl)
theorem dX0_clipped_1 : decode cX0_clipped 1 = .ok (.istore_n 1, 1) := dk_60 (dk_at dksX0_clipped_0 1 rfl rfl)
theorem dX0_clipped_2 : decode cX0_clipped 2 = .ok (.iconst 0, 1) := dk_3 (dk_at dksX0_clipped_0 2 rfl rfl)
theorem dX0_clipped_3 : decode cX0_clipped 3 = .ok (.istore_n 2, 1) := dk_61 (dk_at dksX0_clipped_0 3 rfl rfl)
theorem dX0_clipped_4 : decode cX0_clipped 4 = .ok (.iload_n 2, 1) := dk_28 (dk_at dksX0_clipped_0 4 rfl rfl)
theorem dX0_clipped_5 : decode cX0_clipped 5 = .ok (.aload_n 0, 1) := dk_42 (dk_at dksX0_clipped_0 5 rfl rfl)
theorem dX0_clipped_6 : decode cX0_clipped 6 = .ok (.getfield 38, 3) := dk_180 0 38 (dk_at dksX0_clipped_0 6 rfl rfl)
theorem dX0_clipped_9 : decode cX0_clipped 9 = .ok (.getfield 152, 3) := dk_180 0 152 (dk_at dksX0_clipped_0 9 rfl rfl)
theorem dX0_clipped_12 : decode cX0_clipped 12 = .ok (.if_icmp .ge 49, 3) := dk_162 0 49 (dk_at dksX0_clipped_0 12 rfl rfl)
theorem dX0_clipped_15 : decode cX0_clipped 15 = .ok (.iload_n 1, 1) := dk_27 (dk_at dksX0_clipped_0 15 rfl rfl)
theorem dX0_clipped_16 : decode cX0_clipped 16 = .ok (.aload_n 0, 1) := dk_42 (dk_at dksX0_clipped_0 16 rfl rfl)
theorem dX0_clipped_17 : decode cX0_clipped 17 = .ok (.getfield 38, 3) := dk_180 0 38 (dk_at dksX0_clipped_0 17 rfl rfl)
theorem dX0_clipped_20 : decode cX0_clipped 20 = .ok (.getfield 161, 3) := dk_180 0 161 (dk_at dksX0_clipped_0 20 rfl rfl)
theorem dX0_clipped_23 : decode cX0_clipped 23 = .ok (.iload_n 2, 1) := dk_28 (dk_at dksX0_clipped_0 23 rfl rfl)
theorem dX0_clipped_24 : decode cX0_clipped 24 = .ok (.aaload, 1) := dk_50 (dk_at dksX0_clipped_1 0 rfl rfl)
theorem dX0_clipped_25 : decode cX0_clipped 25 = .ok (.getfield 214, 3) := dk_180 0 214 (dk_at dksX0_clipped_1 1 rfl rfl)
theorem dX0_clipped_28 : decode cX0_clipped 28 = .ok (.ifCond .eq 24, 3) := dk_153 0 24 (dk_at dksX0_clipped_1 4 rfl rfl)
theorem dX0_clipped_31 : decode cX0_clipped 31 = .ok (.aload_n 0, 1) := dk_42 (dk_at dksX0_clipped_1 7 rfl rfl)
theorem dX0_clipped_32 : decode cX0_clipped 32 = .ok (.getfield 38, 3) := dk_180 0 38 (dk_at dksX0_clipped_1 8 rfl rfl)
theorem dX0_clipped_35 : decode cX0_clipped 35 = .ok (.getfield 161, 3) := dk_180 0 161 (dk_at dksX0_clipped_1 11 rfl rfl)
theorem dX0_clipped_38 : decode cX0_clipped 38 = .ok (.iload_n 2, 1) := dk_28 (dk_at dksX0_clipped_1 14 rfl rfl)
theorem dX0_clipped_39 : decode cX0_clipped 39 = .ok (.aaload, 1) := dk_50 (dk_at dksX0_clipped_1 15 rfl rfl)
theorem dX0_clipped_40 : decode cX0_clipped 40 = .ok (.getfield 165, 3) := dk_180 0 165 (dk_at dksX0_clipped_1 16 rfl rfl)
theorem dX0_clipped_43 : decode cX0_clipped 43 = .ok (.ifCond .ne 9, 3) := dk_154 0 9 (dk_at dksX0_clipped_1 19 rfl rfl)
theorem dX0_clipped_46 : decode cX0_clipped 46 = .ok (.iconst 1, 1) := dk_4 (dk_at dksX0_clipped_1 22 rfl rfl)
theorem dX0_clipped_47 : decode cX0_clipped 47 = .ok (.iload_n 2, 1) := dk_28 (dk_at dksX0_clipped_1 23 rfl rfl)
theorem dX0_clipped_48 : decode cX0_clipped 48 = .ok (.ishl, 1) := dk_120 (dk_at dksX0_clipped_2 0 rfl rfl)
theorem dX0_clipped_49 : decode cX0_clipped 49 = .ok (.goto 4, 3) := dk_167 0 4 (dk_at dksX0_clipped_2 1 rfl rfl)
theorem dX0_clipped_52 : decode cX0_clipped 52 = .ok (.iconst 0, 1) := dk_3 (dk_at dksX0_clipped_2 4 rfl rfl)
theorem dX0_clipped_53 : decode cX0_clipped 53 = .ok (.ior, 1) := dk_128 (dk_at dksX0_clipped_2 5 rfl rfl)
theorem dX0_clipped_54 : decode cX0_clipped 54 = .ok (.istore_n 1, 1) := dk_60 (dk_at dksX0_clipped_2 6 rfl rfl)
theorem dX0_clipped_55 : decode cX0_clipped 55 = .ok (.iinc 2 1, 3) := dk_132 2 1 (dk_at dksX0_clipped_2 7 rfl rfl)
theorem dX0_clipped_58 : decode cX0_clipped 58 = .ok (.goto (-54), 3) := dk_167 255 202 (dk_at dksX0_clipped_2 10 rfl rfl)
theorem dX0_clipped_61 : decode cX0_clipped 61 = .ok (.iload_n 1, 1) := dk_27 (dk_at dksX0_clipped_2 13 rfl rfl)
theorem dX0_clipped_62 : decode cX0_clipped 62 = .ok (.ireturn, 1) := dk_172 (dk_at dksX0_clipped_2 14 rfl rfl)
abbrev cX0_lead : ByteArray := prog_1_method_28_code
def yX0_lead : MethodName := ⟨RX0, "lead", "(II)I"⟩
def dkwX0_lead_6 : List UInt8 := [182, 1, 1, 182, 0, 101, 172, 42, 8, 182, 0, 97, 172]
abbrev dktX0_lead_6 : List UInt8 := dkwX0_lead_6 ++ []
def dkwX0_lead_5 : List UInt8 := [180, 0, 251, 182, 0, 101, 172, 42, 42, 180, 0, 38, 27, 182, 0, 254, 182, 0, 101, 172, 42, 45]
abbrev dktX0_lead_5 : List UInt8 := dkwX0_lead_5 ++ dktX0_lead_6
def dkwX0_lead_4 : List UInt8 := [182, 0, 101, 172, 42, 45, 180, 0, 245, 182, 0, 101, 172, 42, 45, 180, 0, 248, 182, 0, 101, 172, 42, 45]
abbrev dktX0_lead_4 : List UInt8 := dkwX0_lead_4 ++ dktX0_lead_5
def dkwX0_lead_3 : List UInt8 := [42, 45, 180, 0, 236, 182, 0, 101, 172, 42, 45, 180, 0, 239, 182, 0, 101, 172, 42, 45, 180, 0, 242]
abbrev dktX0_lead_3 : List UInt8 := dkwX0_lead_3 ++ dktX0_lead_4
def dkwX0_lead_2 : List UInt8 := [170, 0, 0, 0, 0, 0, 123, 0, 0, 0, 0, 0, 0, 0, 7, 0, 0, 0, 47, 0, 0, 0, 56, 0, 0, 0, 65, 0, 0, 0, 74, 0, 0, 0, 83, 0, 0, 0, 92, 0, 0, 0, 101, 0, 0, 0, 114]
abbrev dktX0_lead_2 : List UInt8 := dkwX0_lead_2 ++ dktX0_lead_3
def dkwX0_lead_1 : List UInt8 := [28]
abbrev dktX0_lead_1 : List UInt8 := dkwX0_lead_1 ++ dktX0_lead_2
def dkwX0_lead_0 : List UInt8 := [42, 27, 182, 0, 158, 154, 0, 9, 42, 5, 182, 0, 97, 172, 42, 180, 0, 38, 180, 0, 161, 27, 50, 78]
abbrev dktX0_lead_0 : List UInt8 := dkwX0_lead_0 ++ dktX0_lead_1
theorem dksX0_lead_0 : cX0_lead.data.toList.drop 0 = dktX0_lead_0 := by decide +kernel
theorem dksX0_lead_1 : cX0_lead.data.toList.drop 24 = dktX0_lead_1 := dk_seg dksX0_lead_0 24 rfl rfl
theorem dksX0_lead_2 : cX0_lead.data.toList.drop 25 = dktX0_lead_2 := dk_seg dksX0_lead_1 1 rfl rfl
theorem dksX0_lead_3 : cX0_lead.data.toList.drop 72 = dktX0_lead_3 := dk_seg dksX0_lead_2 47 rfl rfl
theorem dksX0_lead_4 : cX0_lead.data.toList.drop 95 = dktX0_lead_4 := dk_seg dksX0_lead_3 23 rfl rfl
theorem dksX0_lead_5 : cX0_lead.data.toList.drop 119 = dktX0_lead_5 := dk_seg dksX0_lead_4 24 rfl rfl
theorem dksX0_lead_6 : cX0_lead.data.toList.drop 141 = dktX0_lead_6 := dk_seg dksX0_lead_5 22 rfl rfl
theorem dX0_lead_0 : decode cX0_lead 0 = .ok (.aload_n 0, 1) := dk_42 (dk_at dksX0_lead_0 0 rfl rfl)
theorem dX0_lead_1 : decode cX0_lead 1 = .ok (.iload_n 1, 1) := dk_27 (dk_at dksX0_lead_0 1 rfl rfl)
theorem dX0_lead_2 : decode cX0_lead 2 = .ok (.invokevirtual 158, 3) := dk_182 0 158 (dk_at dksX0_lead_0 2 rfl rfl)
theorem dX0_lead_5 : decode cX0_lead 5 = .ok (.ifCond .ne 9, 3) := dk_154 0 9 (dk_at dksX0_lead_0 5 rfl rfl)
theorem dX0_lead_8 : decode cX0_lead 8 = .ok (.aload_n 0, 1) := dk_42 (dk_at dksX0_lead_0 8 rfl rfl)
theorem dX0_lead_9 : decode cX0_lead 9 = .ok (.iconst 2, 1) := dk_5 (dk_at dksX0_lead_0 9 rfl rfl)
theorem dX0_lead_10 : decode cX0_lead 10 = .ok (.invokevirtual 97, 3) := dk_182 0 97 (dk_at dksX0_lead_0 10 rfl rfl)
theorem dX0_lead_13 : decode cX0_lead 13 = .ok (.ireturn, 1) := dk_172 (dk_at dksX0_lead_0 13 rfl rfl)
theorem dX0_lead_14 : decode cX0_lead 14 = .ok (.aload_n 0, 1) := dk_42 (dk_at dksX0_lead_0 14 rfl rfl)
theorem dX0_lead_15 : decode cX0_lead 15 = .ok (.getfield 38, 3) := dk_180 0 38 (dk_at dksX0_lead_0 15 rfl rfl)
theorem dX0_lead_18 : decode cX0_lead 18 = .ok (.getfield 161, 3) := dk_180 0 161 (dk_at dksX0_lead_0 18 rfl rfl)
theorem dX0_lead_21 : decode cX0_lead 21 = .ok (.iload_n 1, 1) := dk_27 (dk_at dksX0_lead_0 21 rfl rfl)
theorem dX0_lead_22 : decode cX0_lead 22 = .ok (.aaload, 1) := dk_50 (dk_at dksX0_lead_0 22 rfl rfl)
theorem dX0_lead_23 : decode cX0_lead 23 = .ok (.astore_n 3, 1) := dk_78 (dk_at dksX0_lead_0 23 rfl rfl)
theorem dX0_lead_24 : decode cX0_lead 24 = .ok (.iload_n 2, 1) := dk_28 (dk_at dksX0_lead_1 0 rfl rfl)
theorem dX0_lead_25 : decode cX0_lead 25 = .ok (.tableswitch 123 0 7 #[47, 56, 65, 74, 83, 92, 101, 114], 47) := by decide +kernel
theorem dX0_lead_72 : decode cX0_lead 72 = .ok (.aload_n 0, 1) := dk_42 (dk_at dksX0_lead_3 0 rfl rfl)
theorem dX0_lead_73 : decode cX0_lead 73 = .ok (.aload_n 3, 1) := dk_45 (dk_at dksX0_lead_3 1 rfl rfl)
theorem dX0_lead_74 : decode cX0_lead 74 = .ok (.getfield 236, 3) := dk_180 0 236 (dk_at dksX0_lead_3 2 rfl rfl)
theorem dX0_lead_77 : decode cX0_lead 77 = .ok (.invokevirtual 101, 3) := dk_182 0 101 (dk_at dksX0_lead_3 5 rfl rfl)
theorem dX0_lead_80 : decode cX0_lead 80 = .ok (.ireturn, 1) := dk_172 (dk_at dksX0_lead_3 8 rfl rfl)
theorem dX0_lead_81 : decode cX0_lead 81 = .ok (.aload_n 0, 1) := dk_42 (dk_at dksX0_lead_3 9 rfl rfl)
theorem dX0_lead_82 : decode cX0_lead 82 = .ok (.aload_n 3, 1) := dk_45 (dk_at dksX0_lead_3 10 rfl rfl)
theorem dX0_lead_83 : decode cX0_lead 83 = .ok (.getfield 239, 3) := dk_180 0 239 (dk_at dksX0_lead_3 11 rfl rfl)
theorem dX0_lead_86 : decode cX0_lead 86 = .ok (.invokevirtual 101, 3) := dk_182 0 101 (dk_at dksX0_lead_3 14 rfl rfl)
theorem dX0_lead_89 : decode cX0_lead 89 = .ok (.ireturn, 1) := dk_172 (dk_at dksX0_lead_3 17 rfl rfl)
theorem dX0_lead_90 : decode cX0_lead 90 = .ok (.aload_n 0, 1) := dk_42 (dk_at dksX0_lead_3 18 rfl rfl)
theorem dX0_lead_91 : decode cX0_lead 91 = .ok (.aload_n 3, 1) := dk_45 (dk_at dksX0_lead_3 19 rfl rfl)
theorem dX0_lead_92 : decode cX0_lead 92 = .ok (.getfield 242, 3) := dk_180 0 242 (dk_at dksX0_lead_3 20 rfl rfl)
theorem dX0_lead_95 : decode cX0_lead 95 = .ok (.invokevirtual 101, 3) := dk_182 0 101 (dk_at dksX0_lead_4 0 rfl rfl)
theorem dX0_lead_98 : decode cX0_lead 98 = .ok (.ireturn, 1) := dk_172 (dk_at dksX0_lead_4 3 rfl rfl)
theorem dX0_lead_99 : decode cX0_lead 99 = .ok (.aload_n 0, 1) := dk_42 (dk_at dksX0_lead_4 4 rfl rfl)
theorem dX0_lead_100 : decode cX0_lead 100 = .ok (.aload_n 3, 1) := dk_45 (dk_at dksX0_lead_4 5 rfl rfl)
theorem dX0_lead_101 : decode cX0_lead 101 = .ok (.getfield 245, 3) := dk_180 0 245 (dk_at dksX0_lead_4 6 rfl rfl)
theorem dX0_lead_104 : decode cX0_lead 104 = .ok (.invokevirtual 101, 3) := dk_182 0 101 (dk_at dksX0_lead_4 9 rfl rfl)
theorem dX0_lead_107 : decode cX0_lead 107 = .ok (.ireturn, 1) := dk_172 (dk_at dksX0_lead_4 12 rfl rfl)
theorem dX0_lead_108 : decode cX0_lead 108 = .ok (.aload_n 0, 1) := dk_42 (dk_at dksX0_lead_4 13 rfl rfl)
theorem dX0_lead_109 : decode cX0_lead 109 = .ok (.aload_n 3, 1) := dk_45 (dk_at dksX0_lead_4 14 rfl rfl)
theorem dX0_lead_110 : decode cX0_lead 110 = .ok (.getfield 248, 3) := dk_180 0 248 (dk_at dksX0_lead_4 15 rfl rfl)
theorem dX0_lead_113 : decode cX0_lead 113 = .ok (.invokevirtual 101, 3) := dk_182 0 101 (dk_at dksX0_lead_4 18 rfl rfl)
theorem dX0_lead_116 : decode cX0_lead 116 = .ok (.ireturn, 1) := dk_172 (dk_at dksX0_lead_4 21 rfl rfl)
theorem dX0_lead_117 : decode cX0_lead 117 = .ok (.aload_n 0, 1) := dk_42 (dk_at dksX0_lead_4 22 rfl rfl)
theorem dX0_lead_118 : decode cX0_lead 118 = .ok (.aload_n 3, 1) := dk_45 (dk_at dksX0_lead_4 23 rfl rfl)
theorem dX0_lead_119 : decode cX0_lead 119 = .ok (.getfield 251, 3) := dk_180 0 251 (dk_at dksX0_lead_5 0 rfl rfl)
theorem dX0_lead_122 : decode cX0_lead 122 = .ok (.invokevirtual 101, 3) := dk_182 0 101 (dk_at dksX0_lead_5 3 rfl rfl)
theorem dX0_lead_125 : decode cX0_lead 125 = .ok (.ireturn, 1) := dk_172 (dk_at dksX0_lead_5 6 rfl rfl)
theorem dX0_lead_126 : decode cX0_lead 126 = .ok (.aload_n 0, 1) := dk_42 (dk_at dksX0_lead_5 7 rfl rfl)
theorem dX0_lead_127 : decode cX0_lead 127 = .ok (.aload_n 0, 1) := dk_42 (dk_at dksX0_lead_5 8 rfl rfl)
theorem dX0_lead_128 : decode cX0_lead 128 = .ok (.getfield 38, 3) := dk_180 0 38 (dk_at dksX0_lead_5 9 rfl rfl)
theorem dX0_lead_131 : decode cX0_lead 131 = .ok (.iload_n 1, 1) := dk_27 (dk_at dksX0_lead_5 12 rfl rfl)
theorem dX0_lead_132 : decode cX0_lead 132 = .ok (.invokevirtual 254, 3) := dk_182 0 254 (dk_at dksX0_lead_5 13 rfl rfl)
theorem dX0_lead_135 : decode cX0_lead 135 = .ok (.invokevirtual 101, 3) := dk_182 0 101 (dk_at dksX0_lead_5 16 rfl rfl)
theorem dX0_lead_138 : decode cX0_lead 138 = .ok (.ireturn, 1) := dk_172 (dk_at dksX0_lead_5 19 rfl rfl)
theorem dX0_lead_139 : decode cX0_lead 139 = .ok (.aload_n 0, 1) := dk_42 (dk_at dksX0_lead_5 20 rfl rfl)
theorem dX0_lead_140 : decode cX0_lead 140 = .ok (.aload_n 3, 1) := dk_45 (dk_at dksX0_lead_5 21 rfl rfl)
theorem dX0_lead_141 : decode cX0_lead 141 = .ok (.invokevirtual 257, 3) := dk_182 1 1 (dk_at dksX0_lead_6 0 rfl rfl)
theorem dX0_lead_144 : decode cX0_lead 144 = .ok (.invokevirtual 101, 3) := dk_182 0 101 (dk_at dksX0_lead_6 3 rfl rfl)
theorem dX0_lead_147 : decode cX0_lead 147 = .ok (.ireturn, 1) := dk_172 (dk_at dksX0_lead_6 6 rfl rfl)
theorem dX0_lead_148 : decode cX0_lead 148 = .ok (.aload_n 0, 1) := dk_42 (dk_at dksX0_lead_6 7 rfl rfl)
theorem dX0_lead_149 : decode cX0_lead 149 = .ok (.iconst 5, 1) := dk_8 (dk_at dksX0_lead_6 8 rfl rfl)
theorem dX0_lead_150 : decode cX0_lead 150 = .ok (.invokevirtual 97, 3) := dk_182 0 97 (dk_at dksX0_lead_6 9 rfl rfl)
theorem dX0_lead_153 : decode cX0_lead 153 = .ok (.ireturn, 1) := dk_172 (dk_at dksX0_lead_6 12 rfl rfl)
abbrev cX0_isLead : ByteArray := prog_1_method_16_code
def yX0_isLead : MethodName := ⟨RX0, "isLead", "(I)Z"⟩
def dkwX0_isLead_0 : List UInt8 := [27, 155, 0, 18, 27, 42, 180, 0, 38, 180, 0, 152, 162, 0, 7, 4, 167, 0, 4, 3, 172]
abbrev dktX0_isLead_0 : List UInt8 := dkwX0_isLead_0 ++ []
theorem dksX0_isLead_0 : cX0_isLead.data.toList.drop 0 = dktX0_isLead_0 := by decide +kernel
theorem dX0_isLead_0 : decode cX0_isLead 0 = .ok (.iload_n 1, 1) := dk_27 (dk_at dksX0_isLead_0 0 rfl rfl)
theorem dX0_isLead_1 : decode cX0_isLead 1 = .ok (.ifCond .lt 18, 3) := dk_155 0 18 (dk_at dksX0_isLead_0 1 rfl rfl)
theorem dX0_isLead_4 : decode cX0_isLead 4 = .ok (.iload_n 1, 1) := dk_27 (dk_at dksX0_isLead_0 4 rfl rfl)
theorem dX0_isLead_5 : decode cX0_isLead 5 = .ok (.aload_n 0, 1) := dk_42 (dk_at dksX0_isLead_0 5 rfl rfl)
theorem dX0_isLead_6 : decode cX0_isLead 6 = .ok (.getfield 38, 3) := dk_180 0 38 (dk_at dksX0_isLead_0 6 rfl rfl)
theorem dX0_isLead_9 : decode cX0_isLead 9 = .ok (.getfield 152, 3) := dk_180 0 152 (dk_at dksX0_isLead_0 9 rfl rfl)
theorem dX0_isLead_12 : decode cX0_isLead 12 = .ok (.if_icmp .ge 7, 3) := dk_162 0 7 (dk_at dksX0_isLead_0 12 rfl rfl)
theorem dX0_isLead_15 : decode cX0_isLead 15 = .ok (.iconst 1, 1) := dk_4 (dk_at dksX0_isLead_0 15 rfl rfl)
theorem dX0_isLead_16 : decode cX0_isLead 16 = .ok (.goto 4, 3) := dk_167 0 4 (dk_at dksX0_isLead_0 16 rfl rfl)
theorem dX0_isLead_19 : decode cX0_isLead 19 = .ok (.iconst 0, 1) := dk_3 (dk_at dksX0_isLead_0 19 rfl rfl)
theorem dX0_isLead_20 : decode cX0_isLead 20 = .ok (.ireturn, 1) := dk_172 (dk_at dksX0_isLead_0 20 rfl rfl)
abbrev cX0_crossing : ByteArray := prog_1_method_29_code
def yX0_crossing : MethodName := ⟨RX0, "crossing", "(II)I"⟩
def dkwX0_crossing_3 : List UInt8 := [182, 1, 12, 182, 0, 101, 172]
abbrev dktX0_crossing_3 : List UInt8 := dkwX0_crossing_3 ++ []
def dkwX0_crossing_2 : List UInt8 := [28, 154, 0, 10, 45, 180, 1, 6, 167, 0, 19, 28, 4, 160, 0, 10, 45, 180, 1, 9, 167, 0, 7, 45]
abbrev dktX0_crossing_2 : List UInt8 := dkwX0_crossing_2 ++ dktX0_crossing_3
def dkwX0_crossing_1 : List UInt8 := [180, 0, 217, 161, 0, 10, 42, 16, 8, 182, 0, 97, 172, 42, 180, 0, 38, 180, 1, 4, 27, 50, 78, 42]
abbrev dktX0_crossing_1 : List UInt8 := dkwX0_crossing_1 ++ dktX0_crossing_2
def dkwX0_crossing_0 : List UInt8 := [28, 155, 0, 8, 28, 5, 164, 0, 9, 42, 8, 182, 0, 97, 172, 27, 155, 0, 14, 27, 42, 180, 0, 38]
abbrev dktX0_crossing_0 : List UInt8 := dkwX0_crossing_0 ++ dktX0_crossing_1
theorem dksX0_crossing_0 : cX0_crossing.data.toList.drop 0 = dktX0_crossing_0 := by decide +kernel
theorem dksX0_crossing_1 : cX0_crossing.data.toList.drop 24 = dktX0_crossing_1 := dk_seg dksX0_crossing_0 24 rfl rfl
theorem dksX0_crossing_2 : cX0_crossing.data.toList.drop 48 = dktX0_crossing_2 := dk_seg dksX0_crossing_1 24 rfl rfl
theorem dksX0_crossing_3 : cX0_crossing.data.toList.drop 72 = dktX0_crossing_3 := dk_seg dksX0_crossing_2 24 rfl rfl
theorem dX0_crossing_0 : decode cX0_crossing 0 = .ok (.iload_n 2, 1) := dk_28 (dk_at dksX0_crossing_0 0 rfl rfl)
theorem dX0_crossing_1 : decode cX0_crossing 1 = .ok (.ifCond .lt 8, 3) := dk_155 0 8 (dk_at dksX0_crossing_0 1 rfl rfl)
theorem dX0_crossing_4 : decode cX0_crossing 4 = .ok (.iload_n 2, 1) := dk_28 (dk_at dksX0_crossing_0 4 rfl rfl)
theorem dX0_crossing_5 : decode cX0_crossing 5 = .ok (.iconst 2, 1) := dk_5 (dk_at dksX0_crossing_0 5 rfl rfl)
theorem dX0_crossing_6 : decode cX0_crossing 6 = .ok (.if_icmp .le 9, 3) := dk_164 0 9 (dk_at dksX0_crossing_0 6 rfl rfl)
theorem dX0_crossing_9 : decode cX0_crossing 9 = .ok (.aload_n 0, 1) := dk_42 (dk_at dksX0_crossing_0 9 rfl rfl)
theorem dX0_crossing_10 : decode cX0_crossing 10 = .ok (.iconst 5, 1) := dk_8 (dk_at dksX0_crossing_0 10 rfl rfl)
theorem dX0_crossing_11 : decode cX0_crossing 11 = .ok (.invokevirtual 97, 3) := dk_182 0 97 (dk_at dksX0_crossing_0 11 rfl rfl)
theorem dX0_crossing_14 : decode cX0_crossing 14 = .ok (.ireturn, 1) := dk_172 (dk_at dksX0_crossing_0 14 rfl rfl)
theorem dX0_crossing_15 : decode cX0_crossing 15 = .ok (.iload_n 1, 1) := dk_27 (dk_at dksX0_crossing_0 15 rfl rfl)
theorem dX0_crossing_16 : decode cX0_crossing 16 = .ok (.ifCond .lt 14, 3) := dk_155 0 14 (dk_at dksX0_crossing_0 16 rfl rfl)
theorem dX0_crossing_19 : decode cX0_crossing 19 = .ok (.iload_n 1, 1) := dk_27 (dk_at dksX0_crossing_0 19 rfl rfl)
theorem dX0_crossing_20 : decode cX0_crossing 20 = .ok (.aload_n 0, 1) := dk_42 (dk_at dksX0_crossing_0 20 rfl rfl)
theorem dX0_crossing_21 : decode cX0_crossing 21 = .ok (.getfield 38, 3) := dk_180 0 38 (dk_at dksX0_crossing_0 21 rfl rfl)
theorem dX0_crossing_24 : decode cX0_crossing 24 = .ok (.getfield 217, 3) := dk_180 0 217 (dk_at dksX0_crossing_1 0 rfl rfl)
theorem dX0_crossing_27 : decode cX0_crossing 27 = .ok (.if_icmp .lt 10, 3) := dk_161 0 10 (dk_at dksX0_crossing_1 3 rfl rfl)
theorem dX0_crossing_30 : decode cX0_crossing 30 = .ok (.aload_n 0, 1) := dk_42 (dk_at dksX0_crossing_1 6 rfl rfl)
theorem dX0_crossing_31 : decode cX0_crossing 31 = .ok (.bipush 8, 2) := dk_16 8 (dk_at dksX0_crossing_1 7 rfl rfl)
theorem dX0_crossing_33 : decode cX0_crossing 33 = .ok (.invokevirtual 97, 3) := dk_182 0 97 (dk_at dksX0_crossing_1 9 rfl rfl)
theorem dX0_crossing_36 : decode cX0_crossing 36 = .ok (.ireturn, 1) := dk_172 (dk_at dksX0_crossing_1 12 rfl rfl)
theorem dX0_crossing_37 : decode cX0_crossing 37 = .ok (.aload_n 0, 1) := dk_42 (dk_at dksX0_crossing_1 13 rfl rfl)
theorem dX0_crossing_38 : decode cX0_crossing 38 = .ok (.getfield 38, 3) := dk_180 0 38 (dk_at dksX0_crossing_1 14 rfl rfl)
theorem dX0_crossing_41 : decode cX0_crossing 41 = .ok (.getfield 260, 3) := dk_180 1 4 (dk_at dksX0_crossing_1 17 rfl rfl)
theorem dX0_crossing_44 : decode cX0_crossing 44 = .ok (.iload_n 1, 1) := dk_27 (dk_at dksX0_crossing_1 20 rfl rfl)
theorem dX0_crossing_45 : decode cX0_crossing 45 = .ok (.aaload, 1) := dk_50 (dk_at dksX0_crossing_1 21 rfl rfl)
theorem dX0_crossing_46 : decode cX0_crossing 46 = .ok (.astore_n 3, 1) := dk_78 (dk_at dksX0_crossing_1 22 rfl rfl)
theorem dX0_crossing_47 : decode cX0_crossing 47 = .ok (.aload_n 0, 1) := dk_42 (dk_at dksX0_crossing_1 23 rfl rfl)
theorem dX0_crossing_48 : decode cX0_crossing 48 = .ok (.iload_n 2, 1) := dk_28 (dk_at dksX0_crossing_2 0 rfl rfl)
theorem dX0_crossing_49 : decode cX0_crossing 49 = .ok (.ifCond .ne 10, 3) := dk_154 0 10 (dk_at dksX0_crossing_2 1 rfl rfl)
theorem dX0_crossing_52 : decode cX0_crossing 52 = .ok (.aload_n 3, 1) := dk_45 (dk_at dksX0_crossing_2 4 rfl rfl)
theorem dX0_crossing_53 : decode cX0_crossing 53 = .ok (.getfield 262, 3) := dk_180 1 6 (dk_at dksX0_crossing_2 5 rfl rfl)
theorem dX0_crossing_56 : decode cX0_crossing 56 = .ok (.goto 19, 3) := dk_167 0 19 (dk_at dksX0_crossing_2 8 rfl rfl)
theorem dX0_crossing_59 : decode cX0_crossing 59 = .ok (.iload_n 2, 1) := dk_28 (dk_at dksX0_crossing_2 11 rfl rfl)
theorem dX0_crossing_60 : decode cX0_crossing 60 = .ok (.iconst 1, 1) := dk_4 (dk_at dksX0_crossing_2 12 rfl rfl)
theorem dX0_crossing_61 : decode cX0_crossing 61 = .ok (.if_icmp .ne 10, 3) := dk_160 0 10 (dk_at dksX0_crossing_2 13 rfl rfl)
theorem dX0_crossing_64 : decode cX0_crossing 64 = .ok (.aload_n 3, 1) := dk_45 (dk_at dksX0_crossing_2 16 rfl rfl)
theorem dX0_crossing_65 : decode cX0_crossing 65 = .ok (.getfield 265, 3) := dk_180 1 9 (dk_at dksX0_crossing_2 17 rfl rfl)
theorem dX0_crossing_68 : decode cX0_crossing 68 = .ok (.goto 7, 3) := dk_167 0 7 (dk_at dksX0_crossing_2 20 rfl rfl)
theorem dX0_crossing_71 : decode cX0_crossing 71 = .ok (.aload_n 3, 1) := dk_45 (dk_at dksX0_crossing_2 23 rfl rfl)
theorem dX0_crossing_72 : decode cX0_crossing 72 = .ok (.invokevirtual 268, 3) := dk_182 1 12 (dk_at dksX0_crossing_3 0 rfl rfl)
theorem dX0_crossing_75 : decode cX0_crossing 75 = .ok (.invokevirtual 101, 3) := dk_182 0 101 (dk_at dksX0_crossing_3 3 rfl rfl)
theorem dX0_crossing_78 : decode cX0_crossing 78 = .ok (.ireturn, 1) := dk_172 (dk_at dksX0_crossing_3 6 rfl rfl)
abbrev cX0_along : ByteArray := prog_1_method_30_code
def yX0_along : MethodName := ⟨RX0, "along", "(II)I"⟩
def dkwX0_along_1 : List UInt8 := [42, 5, 182, 0, 97, 172]
abbrev dktX0_along_1 : List UInt8 := dkwX0_along_1 ++ []
def dkwX0_along_0 : List UInt8 := [42, 27, 182, 0, 158, 153, 0, 19, 42, 42, 180, 0, 38, 27, 28, 182, 1, 15, 182, 1, 19, 167, 0, 8]
abbrev dktX0_along_0 : List UInt8 := dkwX0_along_0 ++ dktX0_along_1
theorem dksX0_along_0 : cX0_along.data.toList.drop 0 = dktX0_along_0 := by decide +kernel
theorem dksX0_along_1 : cX0_along.data.toList.drop 24 = dktX0_along_1 := dk_seg dksX0_along_0 24 rfl rfl
theorem dX0_along_0 : decode cX0_along 0 = .ok (.aload_n 0, 1) := dk_42 (dk_at dksX0_along_0 0 rfl rfl)
theorem dX0_along_1 : decode cX0_along 1 = .ok (.iload_n 1, 1) := dk_27 (dk_at dksX0_along_0 1 rfl rfl)
theorem dX0_along_2 : decode cX0_along 2 = .ok (.invokevirtual 158, 3) := dk_182 0 158 (dk_at dksX0_along_0 2 rfl rfl)
theorem dX0_along_5 : decode cX0_along 5 = .ok (.ifCond .eq 19, 3) := dk_153 0 19 (dk_at dksX0_along_0 5 rfl rfl)
theorem dX0_along_8 : decode cX0_along 8 = .ok (.aload_n 0, 1) := dk_42 (dk_at dksX0_along_0 8 rfl rfl)
theorem dX0_along_9 : decode cX0_along 9 = .ok (.aload_n 0, 1) := dk_42 (dk_at dksX0_along_0 9 rfl rfl)
theorem dX0_along_10 : decode cX0_along 10 = .ok (.getfield 38, 3) := dk_180 0 38 (dk_at dksX0_along_0 10 rfl rfl)
theorem dX0_along_13 : decode cX0_along 13 = .ok (.iload_n 1, 1) := dk_27 (dk_at dksX0_along_0 13 rfl rfl)
theorem dX0_along_14 : decode cX0_along 14 = .ok (.iload_n 2, 1) := dk_28 (dk_at dksX0_along_0 14 rfl rfl)
theorem dX0_along_15 : decode cX0_along 15 = .ok (.invokevirtual 271, 3) := dk_182 1 15 (dk_at dksX0_along_0 15 rfl rfl)
theorem dX0_along_18 : decode cX0_along 18 = .ok (.invokevirtual 275, 3) := dk_182 1 19 (dk_at dksX0_along_0 18 rfl rfl)
theorem dX0_along_21 : decode cX0_along 21 = .ok (.goto 8, 3) := dk_167 0 8 (dk_at dksX0_along_0 21 rfl rfl)
theorem dX0_along_24 : decode cX0_along 24 = .ok (.aload_n 0, 1) := dk_42 (dk_at dksX0_along_1 0 rfl rfl)
theorem dX0_along_25 : decode cX0_along 25 = .ok (.iconst 2, 1) := dk_5 (dk_at dksX0_along_1 1 rfl rfl)
theorem dX0_along_26 : decode cX0_along 26 = .ok (.invokevirtual 97, 3) := dk_182 0 97 (dk_at dksX0_along_1 2 rfl rfl)
theorem dX0_along_29 : decode cX0_along 29 = .ok (.ireturn, 1) := dk_172 (dk_at dksX0_along_1 5 rfl rfl)
abbrev cX0_orNothing : ByteArray := prog_1_method_8_code
def yX0_orNothing : MethodName := ⟨RX0, "orNothing", "(I)I"⟩
def dkwX0_orNothing_0 : List UInt8 := [27, 2, 160, 0, 12, 42, 16, 8, 182, 0, 97, 167, 0, 8, 42, 27, 182, 0, 101, 172]
abbrev dktX0_orNothing_0 : List UInt8 := dkwX0_orNothing_0 ++ []
theorem dksX0_orNothing_0 : cX0_orNothing.data.toList.drop 0 = dktX0_orNothing_0 := by decide +kernel
theorem dX0_orNothing_0 : decode cX0_orNothing 0 = .ok (.iload_n 1, 1) := dk_27 (dk_at dksX0_orNothing_0 0 rfl rfl)
theorem dX0_orNothing_1 : decode cX0_orNothing 1 = .ok (.iconst (-1), 1) := dk_2 (dk_at dksX0_orNothing_0 1 rfl rfl)
theorem dX0_orNothing_2 : decode cX0_orNothing 2 = .ok (.if_icmp .ne 12, 3) := dk_160 0 12 (dk_at dksX0_orNothing_0 2 rfl rfl)
theorem dX0_orNothing_5 : decode cX0_orNothing 5 = .ok (.aload_n 0, 1) := dk_42 (dk_at dksX0_orNothing_0 5 rfl rfl)
theorem dX0_orNothing_6 : decode cX0_orNothing 6 = .ok (.bipush 8, 2) := dk_16 8 (dk_at dksX0_orNothing_0 6 rfl rfl)
theorem dX0_orNothing_8 : decode cX0_orNothing 8 = .ok (.invokevirtual 97, 3) := dk_182 0 97 (dk_at dksX0_orNothing_0 8 rfl rfl)
theorem dX0_orNothing_11 : decode cX0_orNothing 11 = .ok (.goto 8, 3) := dk_167 0 8 (dk_at dksX0_orNothing_0 11 rfl rfl)
theorem dX0_orNothing_14 : decode cX0_orNothing 14 = .ok (.aload_n 0, 1) := dk_42 (dk_at dksX0_orNothing_0 14 rfl rfl)
theorem dX0_orNothing_15 : decode cX0_orNothing 15 = .ok (.iload_n 1, 1) := dk_27 (dk_at dksX0_orNothing_0 15 rfl rfl)
theorem dX0_orNothing_16 : decode cX0_orNothing 16 = .ok (.invokevirtual 101, 3) := dk_182 0 101 (dk_at dksX0_orNothing_0 16 rfl rfl)
theorem dX0_orNothing_19 : decode cX0_orNothing 19 = .ok (.ireturn, 1) := dk_172 (dk_at dksX0_orNothing_0 19 rfl rfl)
abbrev cX0_look : ByteArray := prog_1_method_31_code
def yX0_look : MethodName := ⟨RX0, "look", "(I)I"⟩
def dkwX0_look_1 : List UInt8 := [42, 5, 182, 0, 97, 172]
abbrev dktX0_look_1 : List UInt8 := dkwX0_look_1 ++ []
def dkwX0_look_0 : List UInt8 := [42, 27, 182, 1, 22, 153, 0, 19, 42, 42, 180, 0, 38, 180, 1, 25, 27, 46, 182, 0, 101, 167, 0, 8]
abbrev dktX0_look_0 : List UInt8 := dkwX0_look_0 ++ dktX0_look_1
theorem dksX0_look_0 : cX0_look.data.toList.drop 0 = dktX0_look_0 := by decide +kernel
theorem dksX0_look_1 : cX0_look.data.toList.drop 24 = dktX0_look_1 := dk_seg dksX0_look_0 24 rfl rfl
theorem dX0_look_0 : decode cX0_look 0 = .ok (.aload_n 0, 1) := dk_42 (dk_at dksX0_look_0 0 rfl rfl)
theorem dX0_look_1 : decode cX0_look 1 = .ok (.iload_n 1, 1) := dk_27 (dk_at dksX0_look_0 1 rfl rfl)
theorem dX0_look_2 : decode cX0_look 2 = .ok (.invokevirtual 278, 3) := dk_182 1 22 (dk_at dksX0_look_0 2 rfl rfl)
theorem dX0_look_5 : decode cX0_look 5 = .ok (.ifCond .eq 19, 3) := dk_153 0 19 (dk_at dksX0_look_0 5 rfl rfl)
theorem dX0_look_8 : decode cX0_look 8 = .ok (.aload_n 0, 1) := dk_42 (dk_at dksX0_look_0 8 rfl rfl)
theorem dX0_look_9 : decode cX0_look 9 = .ok (.aload_n 0, 1) := dk_42 (dk_at dksX0_look_0 9 rfl rfl)
theorem dX0_look_10 : decode cX0_look 10 = .ok (.getfield 38, 3) := dk_180 0 38 (dk_at dksX0_look_0 10 rfl rfl)
theorem dX0_look_13 : decode cX0_look 13 = .ok (.getfield 281, 3) := dk_180 1 25 (dk_at dksX0_look_0 13 rfl rfl)
theorem dX0_look_16 : decode cX0_look 16 = .ok (.iload_n 1, 1) := dk_27 (dk_at dksX0_look_0 16 rfl rfl)
theorem dX0_look_17 : decode cX0_look 17 = .ok (.iaload, 1) := dk_46 (dk_at dksX0_look_0 17 rfl rfl)
theorem dX0_look_18 : decode cX0_look 18 = .ok (.invokevirtual 101, 3) := dk_182 0 101 (dk_at dksX0_look_0 18 rfl rfl)
theorem dX0_look_21 : decode cX0_look 21 = .ok (.goto 8, 3) := dk_167 0 8 (dk_at dksX0_look_0 21 rfl rfl)
theorem dX0_look_24 : decode cX0_look 24 = .ok (.aload_n 0, 1) := dk_42 (dk_at dksX0_look_1 0 rfl rfl)
theorem dX0_look_25 : decode cX0_look 25 = .ok (.iconst 2, 1) := dk_5 (dk_at dksX0_look_1 1 rfl rfl)
theorem dX0_look_26 : decode cX0_look 26 = .ok (.invokevirtual 97, 3) := dk_182 0 97 (dk_at dksX0_look_1 2 rfl rfl)
theorem dX0_look_29 : decode cX0_look 29 = .ok (.ireturn, 1) := dk_172 (dk_at dksX0_look_1 5 rfl rfl)
abbrev cX0_isLook : ByteArray := prog_1_method_17_code
def yX0_isLook : MethodName := ⟨RX0, "isLook", "(I)Z"⟩
def dkwX0_isLook_0 : List UInt8 := [27, 155, 0, 18, 27, 42, 180, 0, 38, 180, 0, 155, 162, 0, 7, 4, 167, 0, 4, 3, 172]
abbrev dktX0_isLook_0 : List UInt8 := dkwX0_isLook_0 ++ []
theorem dksX0_isLook_0 : cX0_isLook.data.toList.drop 0 = dktX0_isLook_0 := by decide +kernel
theorem dX0_isLook_0 : decode cX0_isLook 0 = .ok (.iload_n 1, 1) := dk_27 (dk_at dksX0_isLook_0 0 rfl rfl)
theorem dX0_isLook_1 : decode cX0_isLook 1 = .ok (.ifCond .lt 18, 3) := dk_155 0 18 (dk_at dksX0_isLook_0 1 rfl rfl)
theorem dX0_isLook_4 : decode cX0_isLook 4 = .ok (.iload_n 1, 1) := dk_27 (dk_at dksX0_isLook_0 4 rfl rfl)
theorem dX0_isLook_5 : decode cX0_isLook 5 = .ok (.aload_n 0, 1) := dk_42 (dk_at dksX0_isLook_0 5 rfl rfl)
theorem dX0_isLook_6 : decode cX0_isLook 6 = .ok (.getfield 38, 3) := dk_180 0 38 (dk_at dksX0_isLook_0 6 rfl rfl)
theorem dX0_isLook_9 : decode cX0_isLook 9 = .ok (.getfield 155, 3) := dk_180 0 155 (dk_at dksX0_isLook_0 9 rfl rfl)
theorem dX0_isLook_12 : decode cX0_isLook 12 = .ok (.if_icmp .ge 7, 3) := dk_162 0 7 (dk_at dksX0_isLook_0 12 rfl rfl)
theorem dX0_isLook_15 : decode cX0_isLook 15 = .ok (.iconst 1, 1) := dk_4 (dk_at dksX0_isLook_0 15 rfl rfl)
theorem dX0_isLook_16 : decode cX0_isLook 16 = .ok (.goto 4, 3) := dk_167 0 4 (dk_at dksX0_isLook_0 16 rfl rfl)
theorem dX0_isLook_19 : decode cX0_isLook 19 = .ok (.iconst 0, 1) := dk_3 (dk_at dksX0_isLook_0 19 rfl rfl)
theorem dX0_isLook_20 : decode cX0_isLook 20 = .ok (.ireturn, 1) := dk_172 (dk_at dksX0_isLook_0 20 rfl rfl)
abbrev cX0_between : ByteArray := prog_1_method_32_code
def yX0_between : MethodName := ⟨RX0, "between", "(II)I"⟩
def dkwX0_between_4 : List UInt8 := [132, 4, 1, 167, 255, 199, 42, 29, 182, 0, 101, 172]
abbrev dktX0_between_4 : List UInt8 := dkwX0_between_4 ++ []
def dkwX0_between_3 : List UInt8 := [180, 0, 38, 180, 1, 4, 21, 4, 50, 28, 182, 1, 28, 153, 0, 7, 4, 167, 0, 4, 3, 96, 62]
abbrev dktX0_between_3 : List UInt8 := dkwX0_between_3 ++ dktX0_between_4
def dkwX0_between_2 : List UInt8 := [162, 0, 51, 29, 42, 180, 0, 38, 180, 1, 4, 21, 4, 50, 27, 182, 1, 28, 153, 0, 24, 42]
abbrev dktX0_between_2 : List UInt8 := dkwX0_between_2 ++ dktX0_between_3
def dkwX0_between_1 : List UInt8 := [160, 0, 9, 42, 8, 182, 0, 97, 172, 3, 62, 3, 54, 4, 21, 4, 42, 180, 0, 38, 180, 0, 217]
abbrev dktX0_between_1 : List UInt8 := dkwX0_between_1 ++ dktX0_between_2
def dkwX0_between_0 : List UInt8 := [42, 27, 182, 0, 158, 153, 0, 11, 42, 28, 182, 0, 158, 154, 0, 9, 42, 5, 182, 0, 97, 172, 27, 28]
abbrev dktX0_between_0 : List UInt8 := dkwX0_between_0 ++ dktX0_between_1
theorem dksX0_between_0 : cX0_between.data.toList.drop 0 = dktX0_between_0 := by decide +kernel
theorem dksX0_between_1 : cX0_between.data.toList.drop 24 = dktX0_between_1 := dk_seg dksX0_between_0 24 rfl rfl
theorem dksX0_between_2 : cX0_between.data.toList.drop 47 = dktX0_between_2 := dk_seg dksX0_between_1 23 rfl rfl
theorem dksX0_between_3 : cX0_between.data.toList.drop 69 = dktX0_between_3 := dk_seg dksX0_between_2 22 rfl rfl
theorem dksX0_between_4 : cX0_between.data.toList.drop 92 = dktX0_between_4 := dk_seg dksX0_between_3 23 rfl rfl
theorem dX0_between_0 : decode cX0_between 0 = .ok (.aload_n 0, 1) := dk_42 (dk_at dksX0_between_0 0 rfl rfl)
theorem dX0_between_1 : decode cX0_between 1 = .ok (.iload_n 1, 1) := dk_27 (dk_at dksX0_between_0 1 rfl rfl)
theorem dX0_between_2 : decode cX0_between 2 = .ok (.invokevirtual 158, 3) := dk_182 0 158 (dk_at dksX0_between_0 2 rfl rfl)
theorem dX0_between_5 : decode cX0_between 5 = .ok (.ifCond .eq 11, 3) := dk_153 0 11 (dk_at dksX0_between_0 5 rfl rfl)
theorem dX0_between_8 : decode cX0_between 8 = .ok (.aload_n 0, 1) := dk_42 (dk_at dksX0_between_0 8 rfl rfl)
theorem dX0_between_9 : decode cX0_between 9 = .ok (.iload_n 2, 1) := dk_28 (dk_at dksX0_between_0 9 rfl rfl)
theorem dX0_between_10 : decode cX0_between 10 = .ok (.invokevirtual 158, 3) := dk_182 0 158 (dk_at dksX0_between_0 10 rfl rfl)
theorem dX0_between_13 : decode cX0_between 13 = .ok (.ifCond .ne 9, 3) := dk_154 0 9 (dk_at dksX0_between_0 13 rfl rfl)
theorem dX0_between_16 : decode cX0_between 16 = .ok (.aload_n 0, 1) := dk_42 (dk_at dksX0_between_0 16 rfl rfl)
theorem dX0_between_17 : decode cX0_between 17 = .ok (.iconst 2, 1) := dk_5 (dk_at dksX0_between_0 17 rfl rfl)
theorem dX0_between_18 : decode cX0_between 18 = .ok (.invokevirtual 97, 3) := dk_182 0 97 (dk_at dksX0_between_0 18 rfl rfl)
theorem dX0_between_21 : decode cX0_between 21 = .ok (.ireturn, 1) := dk_172 (dk_at dksX0_between_0 21 rfl rfl)
theorem dX0_between_22 : decode cX0_between 22 = .ok (.iload_n 1, 1) := dk_27 (dk_at dksX0_between_0 22 rfl rfl)
theorem dX0_between_23 : decode cX0_between 23 = .ok (.iload_n 2, 1) := dk_28 (dk_at dksX0_between_0 23 rfl rfl)
theorem dX0_between_24 : decode cX0_between 24 = .ok (.if_icmp .ne 9, 3) := dk_160 0 9 (dk_at dksX0_between_1 0 rfl rfl)
theorem dX0_between_27 : decode cX0_between 27 = .ok (.aload_n 0, 1) := dk_42 (dk_at dksX0_between_1 3 rfl rfl)
theorem dX0_between_28 : decode cX0_between 28 = .ok (.iconst 5, 1) := dk_8 (dk_at dksX0_between_1 4 rfl rfl)
theorem dX0_between_29 : decode cX0_between 29 = .ok (.invokevirtual 97, 3) := dk_182 0 97 (dk_at dksX0_between_1 5 rfl rfl)
theorem dX0_between_32 : decode cX0_between 32 = .ok (.ireturn, 1) := dk_172 (dk_at dksX0_between_1 8 rfl rfl)
theorem dX0_between_33 : decode cX0_between 33 = .ok (.iconst 0, 1) := dk_3 (dk_at dksX0_between_1 9 rfl rfl)
theorem dX0_between_34 : decode cX0_between 34 = .ok (.istore_n 3, 1) := dk_62 (dk_at dksX0_between_1 10 rfl rfl)
theorem dX0_between_35 : decode cX0_between 35 = .ok (.iconst 0, 1) := dk_3 (dk_at dksX0_between_1 11 rfl rfl)
theorem dX0_between_36 : decode cX0_between 36 = .ok (.istore 4, 2) := dk_54 4 (dk_at dksX0_between_1 12 rfl rfl)
theorem dX0_between_38 : decode cX0_between 38 = .ok (.iload 4, 2) := dk_21 4 (dk_at dksX0_between_1 14 rfl rfl)
theorem dX0_between_40 : decode cX0_between 40 = .ok (.aload_n 0, 1) := dk_42 (dk_at dksX0_between_1 16 rfl rfl)
theorem dX0_between_41 : decode cX0_between 41 = .ok (.getfield 38, 3) := dk_180 0 38 (dk_at dksX0_between_1 17 rfl rfl)
theorem dX0_between_44 : decode cX0_between 44 = .ok (.getfield 217, 3) := dk_180 0 217 (dk_at dksX0_between_1 20 rfl rfl)
theorem dX0_between_47 : decode cX0_between 47 = .ok (.if_icmp .ge 51, 3) := dk_162 0 51 (dk_at dksX0_between_2 0 rfl rfl)
theorem dX0_between_50 : decode cX0_between 50 = .ok (.iload_n 3, 1) := dk_29 (dk_at dksX0_between_2 3 rfl rfl)
theorem dX0_between_51 : decode cX0_between 51 = .ok (.aload_n 0, 1) := dk_42 (dk_at dksX0_between_2 4 rfl rfl)
theorem dX0_between_52 : decode cX0_between 52 = .ok (.getfield 38, 3) := dk_180 0 38 (dk_at dksX0_between_2 5 rfl rfl)
theorem dX0_between_55 : decode cX0_between 55 = .ok (.getfield 260, 3) := dk_180 1 4 (dk_at dksX0_between_2 8 rfl rfl)
theorem dX0_between_58 : decode cX0_between 58 = .ok (.iload 4, 2) := dk_21 4 (dk_at dksX0_between_2 11 rfl rfl)
theorem dX0_between_60 : decode cX0_between 60 = .ok (.aaload, 1) := dk_50 (dk_at dksX0_between_2 13 rfl rfl)
theorem dX0_between_61 : decode cX0_between 61 = .ok (.iload_n 1, 1) := dk_27 (dk_at dksX0_between_2 14 rfl rfl)
theorem dX0_between_62 : decode cX0_between 62 = .ok (.invokevirtual 284, 3) := dk_182 1 28 (dk_at dksX0_between_2 15 rfl rfl)
theorem dX0_between_65 : decode cX0_between 65 = .ok (.ifCond .eq 24, 3) := dk_153 0 24 (dk_at dksX0_between_2 18 rfl rfl)
theorem dX0_between_68 : decode cX0_between 68 = .ok (.aload_n 0, 1) := dk_42 (dk_at dksX0_between_2 21 rfl rfl)
theorem dX0_between_69 : decode cX0_between 69 = .ok (.getfield 38, 3) := dk_180 0 38 (dk_at dksX0_between_3 0 rfl rfl)
theorem dX0_between_72 : decode cX0_between 72 = .ok (.getfield 260, 3) := dk_180 1 4 (dk_at dksX0_between_3 3 rfl rfl)
theorem dX0_between_75 : decode cX0_between 75 = .ok (.iload 4, 2) := dk_21 4 (dk_at dksX0_between_3 6 rfl rfl)
theorem dX0_between_77 : decode cX0_between 77 = .ok (.aaload, 1) := dk_50 (dk_at dksX0_between_3 8 rfl rfl)
theorem dX0_between_78 : decode cX0_between 78 = .ok (.iload_n 2, 1) := dk_28 (dk_at dksX0_between_3 9 rfl rfl)
theorem dX0_between_79 : decode cX0_between 79 = .ok (.invokevirtual 284, 3) := dk_182 1 28 (dk_at dksX0_between_3 10 rfl rfl)
theorem dX0_between_82 : decode cX0_between 82 = .ok (.ifCond .eq 7, 3) := dk_153 0 7 (dk_at dksX0_between_3 13 rfl rfl)
theorem dX0_between_85 : decode cX0_between 85 = .ok (.iconst 1, 1) := dk_4 (dk_at dksX0_between_3 16 rfl rfl)
theorem dX0_between_86 : decode cX0_between 86 = .ok (.goto 4, 3) := dk_167 0 4 (dk_at dksX0_between_3 17 rfl rfl)
theorem dX0_between_89 : decode cX0_between 89 = .ok (.iconst 0, 1) := dk_3 (dk_at dksX0_between_3 20 rfl rfl)
theorem dX0_between_90 : decode cX0_between 90 = .ok (.iadd, 1) := dk_96 (dk_at dksX0_between_3 21 rfl rfl)
theorem dX0_between_91 : decode cX0_between 91 = .ok (.istore_n 3, 1) := dk_62 (dk_at dksX0_between_3 22 rfl rfl)
theorem dX0_between_92 : decode cX0_between 92 = .ok (.iinc 4 1, 3) := dk_132 4 1 (dk_at dksX0_between_4 0 rfl rfl)
theorem dX0_between_95 : decode cX0_between 95 = .ok (.goto (-57), 3) := dk_167 255 199 (dk_at dksX0_between_4 3 rfl rfl)
theorem dX0_between_98 : decode cX0_between 98 = .ok (.aload_n 0, 1) := dk_42 (dk_at dksX0_between_4 6 rfl rfl)
theorem dX0_between_99 : decode cX0_between 99 = .ok (.iload_n 3, 1) := dk_29 (dk_at dksX0_between_4 7 rfl rfl)
theorem dX0_between_100 : decode cX0_between 100 = .ok (.invokevirtual 101, 3) := dk_182 0 101 (dk_at dksX0_between_4 8 rfl rfl)
theorem dX0_between_103 : decode cX0_between 103 = .ok (.ireturn, 1) := dk_172 (dk_at dksX0_between_4 11 rfl rfl)
abbrev cX0_copyStates : ByteArray := prog_1_method_33_code
def yX0_copyStates : MethodName := ⟨RX0, "copyStates", "(I)I"⟩
def dkwX0_copyStates_4 : List UInt8 := [180, 0, 217, 182, 0, 101, 172]
abbrev dktX0_copyStates_4 : List UInt8 := dkwX0_copyStates_4 ++ []
def dkwX0_copyStates_3 : List UInt8 := [180, 1, 4, 29, 50, 182, 1, 12, 133, 182, 0, 123, 132, 3, 1, 167, 255, 224, 42, 42, 180, 0, 38]
abbrev dktX0_copyStates_3 : List UInt8 := dkwX0_copyStates_3 ++ dktX0_copyStates_4
def dkwX0_copyStates_2 : List UInt8 := [7, 182, 0, 97, 172, 3, 62, 29, 42, 180, 0, 38, 180, 0, 217, 162, 0, 27, 44, 29, 42, 180, 0, 38]
abbrev dktX0_copyStates_2 : List UInt8 := dkwX0_copyStates_2 ++ dktX0_copyStates_3
def dkwX0_copyStates_1 : List UInt8 := [199, 0, 9, 42, 6, 182, 0, 97, 172, 44, 182, 1, 31, 42, 180, 0, 38, 180, 0, 217, 162, 0, 9, 42]
abbrev dktX0_copyStates_1 : List UInt8 := dkwX0_copyStates_1 ++ dktX0_copyStates_2
def dkwX0_copyStates_0 : List UInt8 := [27, 184, 0, 114, 154, 0, 9, 42, 4, 182, 0, 97, 172, 42, 180, 0, 11, 27, 50, 77, 44, 180, 0, 137]
abbrev dktX0_copyStates_0 : List UInt8 := dkwX0_copyStates_0 ++ dktX0_copyStates_1
theorem dksX0_copyStates_0 : cX0_copyStates.data.toList.drop 0 = dktX0_copyStates_0 := by decide +kernel
theorem dksX0_copyStates_1 : cX0_copyStates.data.toList.drop 24 = dktX0_copyStates_1 := dk_seg dksX0_copyStates_0 24 rfl rfl
theorem dksX0_copyStates_2 : cX0_copyStates.data.toList.drop 48 = dktX0_copyStates_2 := dk_seg dksX0_copyStates_1 24 rfl rfl
theorem dksX0_copyStates_3 : cX0_copyStates.data.toList.drop 72 = dktX0_copyStates_3 := dk_seg dksX0_copyStates_2 24 rfl rfl
theorem dksX0_copyStates_4 : cX0_copyStates.data.toList.drop 95 = dktX0_copyStates_4 := dk_seg dksX0_copyStates_3 23 rfl rfl
theorem dX0_copyStates_0 : decode cX0_copyStates 0 = .ok (.iload_n 1, 1) := dk_27 (dk_at dksX0_copyStates_0 0 rfl rfl)
theorem dX0_copyStates_1 : decode cX0_copyStates 1 = .ok (.invokestatic 114, 3) := dk_184 0 114 (dk_at dksX0_copyStates_0 1 rfl rfl)
theorem dX0_copyStates_4 : decode cX0_copyStates 4 = .ok (.ifCond .ne 9, 3) := dk_154 0 9 (dk_at dksX0_copyStates_0 4 rfl rfl)
theorem dX0_copyStates_7 : decode cX0_copyStates 7 = .ok (.aload_n 0, 1) := dk_42 (dk_at dksX0_copyStates_0 7 rfl rfl)
theorem dX0_copyStates_8 : decode cX0_copyStates 8 = .ok (.iconst 1, 1) := dk_4 (dk_at dksX0_copyStates_0 8 rfl rfl)
theorem dX0_copyStates_9 : decode cX0_copyStates 9 = .ok (.invokevirtual 97, 3) := dk_182 0 97 (dk_at dksX0_copyStates_0 9 rfl rfl)
theorem dX0_copyStates_12 : decode cX0_copyStates 12 = .ok (.ireturn, 1) := dk_172 (dk_at dksX0_copyStates_0 12 rfl rfl)
theorem dX0_copyStates_13 : decode cX0_copyStates 13 = .ok (.aload_n 0, 1) := dk_42 (dk_at dksX0_copyStates_0 13 rfl rfl)
theorem dX0_copyStates_14 : decode cX0_copyStates 14 = .ok (.getfield 11, 3) := dk_180 0 11 (dk_at dksX0_copyStates_0 14 rfl rfl)
theorem dX0_copyStates_17 : decode cX0_copyStates 17 = .ok (.iload_n 1, 1) := dk_27 (dk_at dksX0_copyStates_0 17 rfl rfl)
theorem dX0_copyStates_18 : decode cX0_copyStates 18 = .ok (.aaload, 1) := dk_50 (dk_at dksX0_copyStates_0 18 rfl rfl)
theorem dX0_copyStates_19 : decode cX0_copyStates 19 = .ok (.astore_n 2, 1) := dk_77 (dk_at dksX0_copyStates_0 19 rfl rfl)
theorem dX0_copyStates_20 : decode cX0_copyStates 20 = .ok (.aload_n 2, 1) := dk_44 (dk_at dksX0_copyStates_0 20 rfl rfl)
theorem dX0_copyStates_21 : decode cX0_copyStates 21 = .ok (.getfield 137, 3) := dk_180 0 137 (dk_at dksX0_copyStates_0 21 rfl rfl)
theorem dX0_copyStates_24 : decode cX0_copyStates 24 = .ok (.ifnonnull 9, 3) := dk_199 0 9 (dk_at dksX0_copyStates_1 0 rfl rfl)
theorem dX0_copyStates_27 : decode cX0_copyStates 27 = .ok (.aload_n 0, 1) := dk_42 (dk_at dksX0_copyStates_1 3 rfl rfl)
theorem dX0_copyStates_28 : decode cX0_copyStates 28 = .ok (.iconst 3, 1) := dk_6 (dk_at dksX0_copyStates_1 4 rfl rfl)
theorem dX0_copyStates_29 : decode cX0_copyStates 29 = .ok (.invokevirtual 97, 3) := dk_182 0 97 (dk_at dksX0_copyStates_1 5 rfl rfl)
theorem dX0_copyStates_32 : decode cX0_copyStates 32 = .ok (.ireturn, 1) := dk_172 (dk_at dksX0_copyStates_1 8 rfl rfl)
theorem dX0_copyStates_33 : decode cX0_copyStates 33 = .ok (.aload_n 2, 1) := dk_44 (dk_at dksX0_copyStates_1 9 rfl rfl)
theorem dX0_copyStates_34 : decode cX0_copyStates 34 = .ok (.invokevirtual 287, 3) := dk_182 1 31 (dk_at dksX0_copyStates_1 10 rfl rfl)
theorem dX0_copyStates_37 : decode cX0_copyStates 37 = .ok (.aload_n 0, 1) := dk_42 (dk_at dksX0_copyStates_1 13 rfl rfl)
theorem dX0_copyStates_38 : decode cX0_copyStates 38 = .ok (.getfield 38, 3) := dk_180 0 38 (dk_at dksX0_copyStates_1 14 rfl rfl)
theorem dX0_copyStates_41 : decode cX0_copyStates 41 = .ok (.getfield 217, 3) := dk_180 0 217 (dk_at dksX0_copyStates_1 17 rfl rfl)
theorem dX0_copyStates_44 : decode cX0_copyStates 44 = .ok (.if_icmp .ge 9, 3) := dk_162 0 9 (dk_at dksX0_copyStates_1 20 rfl rfl)
theorem dX0_copyStates_47 : decode cX0_copyStates 47 = .ok (.aload_n 0, 1) := dk_42 (dk_at dksX0_copyStates_1 23 rfl rfl)
theorem dX0_copyStates_48 : decode cX0_copyStates 48 = .ok (.iconst 4, 1) := dk_7 (dk_at dksX0_copyStates_2 0 rfl rfl)
theorem dX0_copyStates_49 : decode cX0_copyStates 49 = .ok (.invokevirtual 97, 3) := dk_182 0 97 (dk_at dksX0_copyStates_2 1 rfl rfl)
theorem dX0_copyStates_52 : decode cX0_copyStates 52 = .ok (.ireturn, 1) := dk_172 (dk_at dksX0_copyStates_2 4 rfl rfl)
theorem dX0_copyStates_53 : decode cX0_copyStates 53 = .ok (.iconst 0, 1) := dk_3 (dk_at dksX0_copyStates_2 5 rfl rfl)
theorem dX0_copyStates_54 : decode cX0_copyStates 54 = .ok (.istore_n 3, 1) := dk_62 (dk_at dksX0_copyStates_2 6 rfl rfl)
theorem dX0_copyStates_55 : decode cX0_copyStates 55 = .ok (.iload_n 3, 1) := dk_29 (dk_at dksX0_copyStates_2 7 rfl rfl)
theorem dX0_copyStates_56 : decode cX0_copyStates 56 = .ok (.aload_n 0, 1) := dk_42 (dk_at dksX0_copyStates_2 8 rfl rfl)
theorem dX0_copyStates_57 : decode cX0_copyStates 57 = .ok (.getfield 38, 3) := dk_180 0 38 (dk_at dksX0_copyStates_2 9 rfl rfl)
theorem dX0_copyStates_60 : decode cX0_copyStates 60 = .ok (.getfield 217, 3) := dk_180 0 217 (dk_at dksX0_copyStates_2 12 rfl rfl)
theorem dX0_copyStates_63 : decode cX0_copyStates 63 = .ok (.if_icmp .ge 27, 3) := dk_162 0 27 (dk_at dksX0_copyStates_2 15 rfl rfl)
theorem dX0_copyStates_66 : decode cX0_copyStates 66 = .ok (.aload_n 2, 1) := dk_44 (dk_at dksX0_copyStates_2 18 rfl rfl)
theorem dX0_copyStates_67 : decode cX0_copyStates 67 = .ok (.iload_n 3, 1) := dk_29 (dk_at dksX0_copyStates_2 19 rfl rfl)
theorem dX0_copyStates_68 : decode cX0_copyStates 68 = .ok (.aload_n 0, 1) := dk_42 (dk_at dksX0_copyStates_2 20 rfl rfl)
theorem dX0_copyStates_69 : decode cX0_copyStates 69 = .ok (.getfield 38, 3) := dk_180 0 38 (dk_at dksX0_copyStates_2 21 rfl rfl)
theorem dX0_copyStates_72 : decode cX0_copyStates 72 = .ok (.getfield 260, 3) := dk_180 1 4 (dk_at dksX0_copyStates_3 0 rfl rfl)
theorem dX0_copyStates_75 : decode cX0_copyStates 75 = .ok (.iload_n 3, 1) := dk_29 (dk_at dksX0_copyStates_3 3 rfl rfl)
theorem dX0_copyStates_76 : decode cX0_copyStates 76 = .ok (.aaload, 1) := dk_50 (dk_at dksX0_copyStates_3 4 rfl rfl)
theorem dX0_copyStates_77 : decode cX0_copyStates 77 = .ok (.invokevirtual 268, 3) := dk_182 1 12 (dk_at dksX0_copyStates_3 5 rfl rfl)
theorem dX0_copyStates_80 : decode cX0_copyStates 80 = .ok (.i2l, 1) := dk_133 (dk_at dksX0_copyStates_3 8 rfl rfl)
theorem dX0_copyStates_81 : decode cX0_copyStates 81 = .ok (.invokevirtual 123, 3) := dk_182 0 123 (dk_at dksX0_copyStates_3 9 rfl rfl)
theorem dX0_copyStates_84 : decode cX0_copyStates 84 = .ok (.iinc 3 1, 3) := dk_132 3 1 (dk_at dksX0_copyStates_3 12 rfl rfl)
theorem dX0_copyStates_87 : decode cX0_copyStates 87 = .ok (.goto (-32), 3) := dk_167 255 224 (dk_at dksX0_copyStates_3 15 rfl rfl)
theorem dX0_copyStates_90 : decode cX0_copyStates 90 = .ok (.aload_n 0, 1) := dk_42 (dk_at dksX0_copyStates_3 18 rfl rfl)
theorem dX0_copyStates_91 : decode cX0_copyStates 91 = .ok (.aload_n 0, 1) := dk_42 (dk_at dksX0_copyStates_3 19 rfl rfl)
theorem dX0_copyStates_92 : decode cX0_copyStates 92 = .ok (.getfield 38, 3) := dk_180 0 38 (dk_at dksX0_copyStates_3 20 rfl rfl)
theorem dX0_copyStates_95 : decode cX0_copyStates 95 = .ok (.getfield 217, 3) := dk_180 0 217 (dk_at dksX0_copyStates_4 0 rfl rfl)
theorem dX0_copyStates_98 : decode cX0_copyStates 98 = .ok (.invokevirtual 101, 3) := dk_182 0 101 (dk_at dksX0_copyStates_4 3 rfl rfl)
theorem dX0_copyStates_101 : decode cX0_copyStates 101 = .ok (.ireturn, 1) := dk_172 (dk_at dksX0_copyStates_4 6 rfl rfl)
abbrev cX0_follow : ByteArray := prog_1_method_34_code
def yX0_follow : MethodName := ⟨RX0, "follow", "(II)I"⟩
def dkwX0_follow_3 : List UInt8 := [42, 42, 180, 0, 38, 27, 28, 182, 1, 37, 182, 0, 101, 172]
abbrev dktX0_follow_3 : List UInt8 := dkwX0_follow_3 ++ []
def dkwX0_follow_2 : List UInt8 := [182, 0, 97, 172, 42, 180, 0, 38, 27, 182, 0, 254, 154, 0, 12, 42, 16, 8, 182, 0, 97, 167, 0, 16]
abbrev dktX0_follow_2 : List UInt8 := dkwX0_follow_2 ++ dktX0_follow_3
def dkwX0_follow_1 : List UInt8 := [42, 8, 182, 0, 97, 172, 42, 180, 0, 38, 180, 0, 161, 27, 50, 180, 0, 165, 153, 0, 10, 42, 16, 9]
abbrev dktX0_follow_1 : List UInt8 := dkwX0_follow_1 ++ dktX0_follow_2
def dkwX0_follow_0 : List UInt8 := [42, 27, 182, 0, 158, 154, 0, 9, 42, 5, 182, 0, 97, 172, 28, 133, 9, 10, 184, 1, 33, 154, 0, 9]
abbrev dktX0_follow_0 : List UInt8 := dkwX0_follow_0 ++ dktX0_follow_1
theorem dksX0_follow_0 : cX0_follow.data.toList.drop 0 = dktX0_follow_0 := by decide +kernel
theorem dksX0_follow_1 : cX0_follow.data.toList.drop 24 = dktX0_follow_1 := dk_seg dksX0_follow_0 24 rfl rfl
theorem dksX0_follow_2 : cX0_follow.data.toList.drop 48 = dktX0_follow_2 := dk_seg dksX0_follow_1 24 rfl rfl
theorem dksX0_follow_3 : cX0_follow.data.toList.drop 72 = dktX0_follow_3 := dk_seg dksX0_follow_2 24 rfl rfl
theorem dX0_follow_0 : decode cX0_follow 0 = .ok (.aload_n 0, 1) := dk_42 (dk_at dksX0_follow_0 0 rfl rfl)
theorem dX0_follow_1 : decode cX0_follow 1 = .ok (.iload_n 1, 1) := dk_27 (dk_at dksX0_follow_0 1 rfl rfl)
theorem dX0_follow_2 : decode cX0_follow 2 = .ok (.invokevirtual 158, 3) := dk_182 0 158 (dk_at dksX0_follow_0 2 rfl rfl)
theorem dX0_follow_5 : decode cX0_follow 5 = .ok (.ifCond .ne 9, 3) := dk_154 0 9 (dk_at dksX0_follow_0 5 rfl rfl)
theorem dX0_follow_8 : decode cX0_follow 8 = .ok (.aload_n 0, 1) := dk_42 (dk_at dksX0_follow_0 8 rfl rfl)
theorem dX0_follow_9 : decode cX0_follow 9 = .ok (.iconst 2, 1) := dk_5 (dk_at dksX0_follow_0 9 rfl rfl)
theorem dX0_follow_10 : decode cX0_follow 10 = .ok (.invokevirtual 97, 3) := dk_182 0 97 (dk_at dksX0_follow_0 10 rfl rfl)
theorem dX0_follow_13 : decode cX0_follow 13 = .ok (.ireturn, 1) := dk_172 (dk_at dksX0_follow_0 13 rfl rfl)
theorem dX0_follow_14 : decode cX0_follow 14 = .ok (.iload_n 2, 1) := dk_28 (dk_at dksX0_follow_0 14 rfl rfl)
theorem dX0_follow_15 : decode cX0_follow 15 = .ok (.i2l, 1) := dk_133 (dk_at dksX0_follow_0 15 rfl rfl)
theorem dX0_follow_16 : decode cX0_follow 16 = .ok (.lconst 0, 1) := dk_9 (dk_at dksX0_follow_0 16 rfl rfl)
theorem dX0_follow_17 : decode cX0_follow 17 = .ok (.lconst 1, 1) := dk_10 (dk_at dksX0_follow_0 17 rfl rfl)
theorem dX0_follow_18 : decode cX0_follow 18 = .ok (.invokestatic 289, 3) := dk_184 1 33 (dk_at dksX0_follow_0 18 rfl rfl)
theorem dX0_follow_21 : decode cX0_follow 21 = .ok (.ifCond .ne 9, 3) := dk_154 0 9 (dk_at dksX0_follow_0 21 rfl rfl)
theorem dX0_follow_24 : decode cX0_follow 24 = .ok (.aload_n 0, 1) := dk_42 (dk_at dksX0_follow_1 0 rfl rfl)
theorem dX0_follow_25 : decode cX0_follow 25 = .ok (.iconst 5, 1) := dk_8 (dk_at dksX0_follow_1 1 rfl rfl)
theorem dX0_follow_26 : decode cX0_follow 26 = .ok (.invokevirtual 97, 3) := dk_182 0 97 (dk_at dksX0_follow_1 2 rfl rfl)
theorem dX0_follow_29 : decode cX0_follow 29 = .ok (.ireturn, 1) := dk_172 (dk_at dksX0_follow_1 5 rfl rfl)
theorem dX0_follow_30 : decode cX0_follow 30 = .ok (.aload_n 0, 1) := dk_42 (dk_at dksX0_follow_1 6 rfl rfl)
theorem dX0_follow_31 : decode cX0_follow 31 = .ok (.getfield 38, 3) := dk_180 0 38 (dk_at dksX0_follow_1 7 rfl rfl)
theorem dX0_follow_34 : decode cX0_follow 34 = .ok (.getfield 161, 3) := dk_180 0 161 (dk_at dksX0_follow_1 10 rfl rfl)
theorem dX0_follow_37 : decode cX0_follow 37 = .ok (.iload_n 1, 1) := dk_27 (dk_at dksX0_follow_1 13 rfl rfl)
theorem dX0_follow_38 : decode cX0_follow 38 = .ok (.aaload, 1) := dk_50 (dk_at dksX0_follow_1 14 rfl rfl)
theorem dX0_follow_39 : decode cX0_follow 39 = .ok (.getfield 165, 3) := dk_180 0 165 (dk_at dksX0_follow_1 15 rfl rfl)
theorem dX0_follow_42 : decode cX0_follow 42 = .ok (.ifCond .eq 10, 3) := dk_153 0 10 (dk_at dksX0_follow_1 18 rfl rfl)
theorem dX0_follow_45 : decode cX0_follow 45 = .ok (.aload_n 0, 1) := dk_42 (dk_at dksX0_follow_1 21 rfl rfl)
theorem dX0_follow_46 : decode cX0_follow 46 = .ok (.bipush 9, 2) := dk_16 9 (dk_at dksX0_follow_1 22 rfl rfl)
theorem dX0_follow_48 : decode cX0_follow 48 = .ok (.invokevirtual 97, 3) := dk_182 0 97 (dk_at dksX0_follow_2 0 rfl rfl)
theorem dX0_follow_51 : decode cX0_follow 51 = .ok (.ireturn, 1) := dk_172 (dk_at dksX0_follow_2 3 rfl rfl)
theorem dX0_follow_52 : decode cX0_follow 52 = .ok (.aload_n 0, 1) := dk_42 (dk_at dksX0_follow_2 4 rfl rfl)
theorem dX0_follow_53 : decode cX0_follow 53 = .ok (.getfield 38, 3) := dk_180 0 38 (dk_at dksX0_follow_2 5 rfl rfl)
theorem dX0_follow_56 : decode cX0_follow 56 = .ok (.iload_n 1, 1) := dk_27 (dk_at dksX0_follow_2 8 rfl rfl)
theorem dX0_follow_57 : decode cX0_follow 57 = .ok (.invokevirtual 254, 3) := dk_182 0 254 (dk_at dksX0_follow_2 9 rfl rfl)
theorem dX0_follow_60 : decode cX0_follow 60 = .ok (.ifCond .ne 12, 3) := dk_154 0 12 (dk_at dksX0_follow_2 12 rfl rfl)
theorem dX0_follow_63 : decode cX0_follow 63 = .ok (.aload_n 0, 1) := dk_42 (dk_at dksX0_follow_2 15 rfl rfl)
theorem dX0_follow_64 : decode cX0_follow 64 = .ok (.bipush 8, 2) := dk_16 8 (dk_at dksX0_follow_2 16 rfl rfl)
theorem dX0_follow_66 : decode cX0_follow 66 = .ok (.invokevirtual 97, 3) := dk_182 0 97 (dk_at dksX0_follow_2 18 rfl rfl)
theorem dX0_follow_69 : decode cX0_follow 69 = .ok (.goto 16, 3) := dk_167 0 16 (dk_at dksX0_follow_2 21 rfl rfl)
theorem dX0_follow_72 : decode cX0_follow 72 = .ok (.aload_n 0, 1) := dk_42 (dk_at dksX0_follow_3 0 rfl rfl)
theorem dX0_follow_73 : decode cX0_follow 73 = .ok (.aload_n 0, 1) := dk_42 (dk_at dksX0_follow_3 1 rfl rfl)
theorem dX0_follow_74 : decode cX0_follow 74 = .ok (.getfield 38, 3) := dk_180 0 38 (dk_at dksX0_follow_3 2 rfl rfl)
theorem dX0_follow_77 : decode cX0_follow 77 = .ok (.iload_n 1, 1) := dk_27 (dk_at dksX0_follow_3 5 rfl rfl)
theorem dX0_follow_78 : decode cX0_follow 78 = .ok (.iload_n 2, 1) := dk_28 (dk_at dksX0_follow_3 6 rfl rfl)
theorem dX0_follow_79 : decode cX0_follow 79 = .ok (.invokevirtual 293, 3) := dk_182 1 37 (dk_at dksX0_follow_3 7 rfl rfl)
theorem dX0_follow_82 : decode cX0_follow 82 = .ok (.invokevirtual 101, 3) := dk_182 0 101 (dk_at dksX0_follow_3 10 rfl rfl)
theorem dX0_follow_85 : decode cX0_follow 85 = .ok (.ireturn, 1) := dk_172 (dk_at dksX0_follow_3 13 rfl rfl)
abbrev cX0_isFrom : ByteArray := prog_1_method_15_code
def yX0_isFrom : MethodName := ⟨RX0, "isFrom", "(JJJ)Z"⟩
def dkwX0_isFrom_0 : List UInt8 := [30, 32, 148, 155, 0, 14, 30, 22, 4, 148, 157, 0, 7, 4, 167, 0, 4, 3, 172]
abbrev dktX0_isFrom_0 : List UInt8 := dkwX0_isFrom_0 ++ []
theorem dksX0_isFrom_0 : cX0_isFrom.data.toList.drop 0 = dktX0_isFrom_0 := by decide +kernel
theorem dX0_isFrom_0 : decode cX0_isFrom 0 = .ok (.lload_n 0, 1) := dk_30 (dk_at dksX0_isFrom_0 0 rfl rfl)
theorem dX0_isFrom_1 : decode cX0_isFrom 1 = .ok (.lload_n 2, 1) := dk_32 (dk_at dksX0_isFrom_0 1 rfl rfl)
theorem dX0_isFrom_2 : decode cX0_isFrom 2 = .ok (.lcmp, 1) := dk_148 (dk_at dksX0_isFrom_0 2 rfl rfl)
theorem dX0_isFrom_3 : decode cX0_isFrom 3 = .ok (.ifCond .lt 14, 3) := dk_155 0 14 (dk_at dksX0_isFrom_0 3 rfl rfl)
theorem dX0_isFrom_6 : decode cX0_isFrom 6 = .ok (.lload_n 0, 1) := dk_30 (dk_at dksX0_isFrom_0 6 rfl rfl)
theorem dX0_isFrom_7 : decode cX0_isFrom 7 = .ok (.lload 4, 2) := dk_22 4 (dk_at dksX0_isFrom_0 7 rfl rfl)
theorem dX0_isFrom_9 : decode cX0_isFrom 9 = .ok (.lcmp, 1) := dk_148 (dk_at dksX0_isFrom_0 9 rfl rfl)
theorem dX0_isFrom_10 : decode cX0_isFrom 10 = .ok (.ifCond .gt 7, 3) := dk_157 0 7 (dk_at dksX0_isFrom_0 10 rfl rfl)
theorem dX0_isFrom_13 : decode cX0_isFrom 13 = .ok (.iconst 1, 1) := dk_4 (dk_at dksX0_isFrom_0 13 rfl rfl)
theorem dX0_isFrom_14 : decode cX0_isFrom 14 = .ok (.goto 4, 3) := dk_167 0 4 (dk_at dksX0_isFrom_0 14 rfl rfl)
theorem dX0_isFrom_17 : decode cX0_isFrom 17 = .ok (.iconst 0, 1) := dk_3 (dk_at dksX0_isFrom_0 17 rfl rfl)
theorem dX0_isFrom_18 : decode cX0_isFrom 18 = .ok (.ireturn, 1) := dk_172 (dk_at dksX0_isFrom_0 18 rfl rfl)
abbrev cX0_loosen : ByteArray := prog_1_method_35_code
def yX0_loosen : MethodName := ⟨RX0, "loosen", "()I"⟩
def dkwX0_loosen_0 : List UInt8 := [42, 42, 180, 0, 38, 182, 1, 40, 182, 0, 101, 172]
abbrev dktX0_loosen_0 : List UInt8 := dkwX0_loosen_0 ++ []
theorem dksX0_loosen_0 : cX0_loosen.data.toList.drop 0 = dktX0_loosen_0 := by decide +kernel
theorem dX0_loosen_0 : decode cX0_loosen 0 = .ok (.aload_n 0, 1) := dk_42 (dk_at dksX0_loosen_0 0 rfl rfl)
theorem dX0_loosen_1 : decode cX0_loosen 1 = .ok (.aload_n 0, 1) := dk_42 (dk_at dksX0_loosen_0 1 rfl rfl)
theorem dX0_loosen_2 : decode cX0_loosen 2 = .ok (.getfield 38, 3) := dk_180 0 38 (dk_at dksX0_loosen_0 2 rfl rfl)
theorem dX0_loosen_5 : decode cX0_loosen 5 = .ok (.invokevirtual 296, 3) := dk_182 1 40 (dk_at dksX0_loosen_0 5 rfl rfl)
theorem dX0_loosen_8 : decode cX0_loosen 8 = .ok (.invokevirtual 101, 3) := dk_182 0 101 (dk_at dksX0_loosen_0 8 rfl rfl)
theorem dX0_loosen_11 : decode cX0_loosen 11 = .ok (.ireturn, 1) := dk_172 (dk_at dksX0_loosen_0 11 rfl rfl)
abbrev cX0_pull : ByteArray := prog_1_method_36_code
def yX0_pull : MethodName := ⟨RX0, "pull", "(I)I"⟩
def dkwX0_pull_1 : List UInt8 := [182, 1, 46, 182, 0, 101, 172]
abbrev dktX0_pull_1 : List UInt8 := dkwX0_pull_1 ++ []
def dkwX0_pull_0 : List UInt8 := [42, 27, 182, 1, 43, 61, 28, 158, 0, 11, 42, 28, 182, 0, 97, 167, 0, 15, 42, 42, 180, 0, 38, 27]
abbrev dktX0_pull_0 : List UInt8 := dkwX0_pull_0 ++ dktX0_pull_1
theorem dksX0_pull_0 : cX0_pull.data.toList.drop 0 = dktX0_pull_0 := by decide +kernel
theorem dksX0_pull_1 : cX0_pull.data.toList.drop 24 = dktX0_pull_1 := dk_seg dksX0_pull_0 24 rfl rfl
theorem dX0_pull_0 : decode cX0_pull 0 = .ok (.aload_n 0, 1) := dk_42 (dk_at dksX0_pull_0 0 rfl rfl)
theorem dX0_pull_1 : decode cX0_pull 1 = .ok (.iload_n 1, 1) := dk_27 (dk_at dksX0_pull_0 1 rfl rfl)
theorem dX0_pull_2 : decode cX0_pull 2 = .ok (.invokevirtual 299, 3) := dk_182 1 43 (dk_at dksX0_pull_0 2 rfl rfl)
theorem dX0_pull_5 : decode cX0_pull 5 = .ok (.istore_n 2, 1) := dk_61 (dk_at dksX0_pull_0 5 rfl rfl)
theorem dX0_pull_6 : decode cX0_pull 6 = .ok (.iload_n 2, 1) := dk_28 (dk_at dksX0_pull_0 6 rfl rfl)
theorem dX0_pull_7 : decode cX0_pull 7 = .ok (.ifCond .le 11, 3) := dk_158 0 11 (dk_at dksX0_pull_0 7 rfl rfl)
theorem dX0_pull_10 : decode cX0_pull 10 = .ok (.aload_n 0, 1) := dk_42 (dk_at dksX0_pull_0 10 rfl rfl)
theorem dX0_pull_11 : decode cX0_pull 11 = .ok (.iload_n 2, 1) := dk_28 (dk_at dksX0_pull_0 11 rfl rfl)
theorem dX0_pull_12 : decode cX0_pull 12 = .ok (.invokevirtual 97, 3) := dk_182 0 97 (dk_at dksX0_pull_0 12 rfl rfl)
theorem dX0_pull_15 : decode cX0_pull 15 = .ok (.goto 15, 3) := dk_167 0 15 (dk_at dksX0_pull_0 15 rfl rfl)
theorem dX0_pull_18 : decode cX0_pull 18 = .ok (.aload_n 0, 1) := dk_42 (dk_at dksX0_pull_0 18 rfl rfl)
theorem dX0_pull_19 : decode cX0_pull 19 = .ok (.aload_n 0, 1) := dk_42 (dk_at dksX0_pull_0 19 rfl rfl)
theorem dX0_pull_20 : decode cX0_pull 20 = .ok (.getfield 38, 3) := dk_180 0 38 (dk_at dksX0_pull_0 20 rfl rfl)
theorem dX0_pull_23 : decode cX0_pull 23 = .ok (.iload_n 1, 1) := dk_27 (dk_at dksX0_pull_0 23 rfl rfl)
theorem dX0_pull_24 : decode cX0_pull 24 = .ok (.invokevirtual 302, 3) := dk_182 1 46 (dk_at dksX0_pull_1 0 rfl rfl)
theorem dX0_pull_27 : decode cX0_pull 27 = .ok (.invokevirtual 101, 3) := dk_182 0 101 (dk_at dksX0_pull_1 3 rfl rfl)
theorem dX0_pull_30 : decode cX0_pull 30 = .ok (.ireturn, 1) := dk_172 (dk_at dksX0_pull_1 6 rfl rfl)
abbrev cX0_wrongLead : ByteArray := prog_1_method_18_code
def yX0_wrongLead : MethodName := ⟨RX0, "wrongLead", "(I)I"⟩
def dkwX0_wrongLead_1 : List UInt8 := [153, 0, 8, 16, 9, 167, 0, 4, 3, 172]
abbrev dktX0_wrongLead_1 : List UInt8 := dkwX0_wrongLead_1 ++ []
def dkwX0_wrongLead_0 : List UInt8 := [42, 27, 182, 0, 158, 154, 0, 7, 5, 167, 0, 24, 42, 180, 0, 38, 180, 0, 161, 27, 50, 180, 0, 165]
abbrev dktX0_wrongLead_0 : List UInt8 := dkwX0_wrongLead_0 ++ dktX0_wrongLead_1
theorem dksX0_wrongLead_0 : cX0_wrongLead.data.toList.drop 0 = dktX0_wrongLead_0 := by decide +kernel
theorem dksX0_wrongLead_1 : cX0_wrongLead.data.toList.drop 24 = dktX0_wrongLead_1 := dk_seg dksX0_wrongLead_0 24 rfl rfl
theorem dX0_wrongLead_0 : decode cX0_wrongLead 0 = .ok (.aload_n 0, 1) := dk_42 (dk_at dksX0_wrongLead_0 0 rfl rfl)
theorem dX0_wrongLead_1 : decode cX0_wrongLead 1 = .ok (.iload_n 1, 1) := dk_27 (dk_at dksX0_wrongLead_0 1 rfl rfl)
theorem dX0_wrongLead_2 : decode cX0_wrongLead 2 = .ok (.invokevirtual 158, 3) := dk_182 0 158 (dk_at dksX0_wrongLead_0 2 rfl rfl)
theorem dX0_wrongLead_5 : decode cX0_wrongLead 5 = .ok (.ifCond .ne 7, 3) := dk_154 0 7 (dk_at dksX0_wrongLead_0 5 rfl rfl)
theorem dX0_wrongLead_8 : decode cX0_wrongLead 8 = .ok (.iconst 2, 1) := dk_5 (dk_at dksX0_wrongLead_0 8 rfl rfl)
theorem dX0_wrongLead_9 : decode cX0_wrongLead 9 = .ok (.goto 24, 3) := dk_167 0 24 (dk_at dksX0_wrongLead_0 9 rfl rfl)
theorem dX0_wrongLead_12 : decode cX0_wrongLead 12 = .ok (.aload_n 0, 1) := dk_42 (dk_at dksX0_wrongLead_0 12 rfl rfl)
theorem dX0_wrongLead_13 : decode cX0_wrongLead 13 = .ok (.getfield 38, 3) := dk_180 0 38 (dk_at dksX0_wrongLead_0 13 rfl rfl)
theorem dX0_wrongLead_16 : decode cX0_wrongLead 16 = .ok (.getfield 161, 3) := dk_180 0 161 (dk_at dksX0_wrongLead_0 16 rfl rfl)
theorem dX0_wrongLead_19 : decode cX0_wrongLead 19 = .ok (.iload_n 1, 1) := dk_27 (dk_at dksX0_wrongLead_0 19 rfl rfl)
theorem dX0_wrongLead_20 : decode cX0_wrongLead 20 = .ok (.aaload, 1) := dk_50 (dk_at dksX0_wrongLead_0 20 rfl rfl)
theorem dX0_wrongLead_21 : decode cX0_wrongLead 21 = .ok (.getfield 165, 3) := dk_180 0 165 (dk_at dksX0_wrongLead_0 21 rfl rfl)
theorem dX0_wrongLead_24 : decode cX0_wrongLead 24 = .ok (.ifCond .eq 8, 3) := dk_153 0 8 (dk_at dksX0_wrongLead_1 0 rfl rfl)
theorem dX0_wrongLead_27 : decode cX0_wrongLead 27 = .ok (.bipush 9, 2) := dk_16 9 (dk_at dksX0_wrongLead_1 3 rfl rfl)
theorem dX0_wrongLead_29 : decode cX0_wrongLead 29 = .ok (.goto 4, 3) := dk_167 0 4 (dk_at dksX0_wrongLead_1 5 rfl rfl)
theorem dX0_wrongLead_32 : decode cX0_wrongLead 32 = .ok (.iconst 0, 1) := dk_3 (dk_at dksX0_wrongLead_1 8 rfl rfl)
theorem dX0_wrongLead_33 : decode cX0_wrongLead 33 = .ok (.ireturn, 1) := dk_172 (dk_at dksX0_wrongLead_1 9 rfl rfl)
abbrev cX0_cut : ByteArray := prog_1_method_37_code
def yX0_cut : MethodName := ⟨RX0, "cut", "(I)I"⟩
def dkwX0_cut_1 : List UInt8 := [182, 1, 49, 182, 0, 101, 172]
abbrev dktX0_cut_1 : List UInt8 := dkwX0_cut_1 ++ []
def dkwX0_cut_0 : List UInt8 := [42, 27, 182, 1, 43, 61, 28, 158, 0, 11, 42, 28, 182, 0, 97, 167, 0, 15, 42, 42, 180, 0, 38, 27]
abbrev dktX0_cut_0 : List UInt8 := dkwX0_cut_0 ++ dktX0_cut_1
theorem dksX0_cut_0 : cX0_cut.data.toList.drop 0 = dktX0_cut_0 := by decide +kernel
theorem dksX0_cut_1 : cX0_cut.data.toList.drop 24 = dktX0_cut_1 := dk_seg dksX0_cut_0 24 rfl rfl
theorem dX0_cut_0 : decode cX0_cut 0 = .ok (.aload_n 0, 1) := dk_42 (dk_at dksX0_cut_0 0 rfl rfl)
theorem dX0_cut_1 : decode cX0_cut 1 = .ok (.iload_n 1, 1) := dk_27 (dk_at dksX0_cut_0 1 rfl rfl)
theorem dX0_cut_2 : decode cX0_cut 2 = .ok (.invokevirtual 299, 3) := dk_182 1 43 (dk_at dksX0_cut_0 2 rfl rfl)
theorem dX0_cut_5 : decode cX0_cut 5 = .ok (.istore_n 2, 1) := dk_61 (dk_at dksX0_cut_0 5 rfl rfl)
theorem dX0_cut_6 : decode cX0_cut 6 = .ok (.iload_n 2, 1) := dk_28 (dk_at dksX0_cut_0 6 rfl rfl)
theorem dX0_cut_7 : decode cX0_cut 7 = .ok (.ifCond .le 11, 3) := dk_158 0 11 (dk_at dksX0_cut_0 7 rfl rfl)
theorem dX0_cut_10 : decode cX0_cut 10 = .ok (.aload_n 0, 1) := dk_42 (dk_at dksX0_cut_0 10 rfl rfl)
theorem dX0_cut_11 : decode cX0_cut 11 = .ok (.iload_n 2, 1) := dk_28 (dk_at dksX0_cut_0 11 rfl rfl)
theorem dX0_cut_12 : decode cX0_cut 12 = .ok (.invokevirtual 97, 3) := dk_182 0 97 (dk_at dksX0_cut_0 12 rfl rfl)
theorem dX0_cut_15 : decode cX0_cut 15 = .ok (.goto 15, 3) := dk_167 0 15 (dk_at dksX0_cut_0 15 rfl rfl)
theorem dX0_cut_18 : decode cX0_cut 18 = .ok (.aload_n 0, 1) := dk_42 (dk_at dksX0_cut_0 18 rfl rfl)
theorem dX0_cut_19 : decode cX0_cut 19 = .ok (.aload_n 0, 1) := dk_42 (dk_at dksX0_cut_0 19 rfl rfl)
theorem dX0_cut_20 : decode cX0_cut 20 = .ok (.getfield 38, 3) := dk_180 0 38 (dk_at dksX0_cut_0 20 rfl rfl)
theorem dX0_cut_23 : decode cX0_cut 23 = .ok (.iload_n 1, 1) := dk_27 (dk_at dksX0_cut_0 23 rfl rfl)
theorem dX0_cut_24 : decode cX0_cut 24 = .ok (.invokevirtual 305, 3) := dk_182 1 49 (dk_at dksX0_cut_1 0 rfl rfl)
theorem dX0_cut_27 : decode cX0_cut 27 = .ok (.invokevirtual 101, 3) := dk_182 0 101 (dk_at dksX0_cut_1 3 rfl rfl)
theorem dX0_cut_30 : decode cX0_cut 30 = .ok (.ireturn, 1) := dk_172 (dk_at dksX0_cut_1 6 rfl rfl)
abbrev cX0_clip : ByteArray := prog_1_method_38_code
def yX0_clip : MethodName := ⟨RX0, "clip", "(I)Z"⟩
def dkwX0_clip_1 : List UInt8 := [3, 167, 0, 5, 16, 9, 182, 0, 110, 172]
abbrev dktX0_clip_1 : List UInt8 := dkwX0_clip_1 ++ []
def dkwX0_clip_0 : List UInt8 := [42, 42, 27, 182, 0, 158, 154, 0, 7, 5, 167, 0, 20, 42, 180, 0, 38, 27, 182, 1, 52, 153, 0, 7]
abbrev dktX0_clip_0 : List UInt8 := dkwX0_clip_0 ++ dktX0_clip_1
theorem dksX0_clip_0 : cX0_clip.data.toList.drop 0 = dktX0_clip_0 := by decide +kernel
theorem dksX0_clip_1 : cX0_clip.data.toList.drop 24 = dktX0_clip_1 := dk_seg dksX0_clip_0 24 rfl rfl
theorem dX0_clip_0 : decode cX0_clip 0 = .ok (.aload_n 0, 1) := dk_42 (dk_at dksX0_clip_0 0 rfl rfl)
theorem dX0_clip_1 : decode cX0_clip 1 = .ok (.aload_n 0, 1) := dk_42 (dk_at dksX0_clip_0 1 rfl rfl)
theorem dX0_clip_2 : decode cX0_clip 2 = .ok (.iload_n 1, 1) := dk_27 (dk_at dksX0_clip_0 2 rfl rfl)
theorem dX0_clip_3 : decode cX0_clip 3 = .ok (.invokevirtual 158, 3) := dk_182 0 158 (dk_at dksX0_clip_0 3 rfl rfl)
theorem dX0_clip_6 : decode cX0_clip 6 = .ok (.ifCond .ne 7, 3) := dk_154 0 7 (dk_at dksX0_clip_0 6 rfl rfl)
theorem dX0_clip_9 : decode cX0_clip 9 = .ok (.iconst 2, 1) := dk_5 (dk_at dksX0_clip_0 9 rfl rfl)
theorem dX0_clip_10 : decode cX0_clip 10 = .ok (.goto 20, 3) := dk_167 0 20 (dk_at dksX0_clip_0 10 rfl rfl)
theorem dX0_clip_13 : decode cX0_clip 13 = .ok (.aload_n 0, 1) := dk_42 (dk_at dksX0_clip_0 13 rfl rfl)
theorem dX0_clip_14 : decode cX0_clip 14 = .ok (.getfield 38, 3) := dk_180 0 38 (dk_at dksX0_clip_0 14 rfl rfl)
theorem dX0_clip_17 : decode cX0_clip 17 = .ok (.iload_n 1, 1) := dk_27 (dk_at dksX0_clip_0 17 rfl rfl)
theorem dX0_clip_18 : decode cX0_clip 18 = .ok (.invokevirtual 308, 3) := dk_182 1 52 (dk_at dksX0_clip_0 18 rfl rfl)
theorem dX0_clip_21 : decode cX0_clip 21 = .ok (.ifCond .eq 7, 3) := dk_153 0 7 (dk_at dksX0_clip_0 21 rfl rfl)
theorem dX0_clip_24 : decode cX0_clip 24 = .ok (.iconst 0, 1) := dk_3 (dk_at dksX0_clip_1 0 rfl rfl)
theorem dX0_clip_25 : decode cX0_clip 25 = .ok (.goto 5, 3) := dk_167 0 5 (dk_at dksX0_clip_1 1 rfl rfl)
theorem dX0_clip_28 : decode cX0_clip 28 = .ok (.bipush 9, 2) := dk_16 9 (dk_at dksX0_clip_1 4 rfl rfl)
theorem dX0_clip_30 : decode cX0_clip 30 = .ok (.invokevirtual 110, 3) := dk_182 0 110 (dk_at dksX0_clip_1 6 rfl rfl)
theorem dX0_clip_33 : decode cX0_clip 33 = .ok (.ireturn, 1) := dk_172 (dk_at dksX0_clip_1 9 rfl rfl)
abbrev cX0_unclip : ByteArray := prog_1_method_39_code
def yX0_unclip : MethodName := ⟨RX0, "unclip", "(I)Z"⟩
def dkwX0_unclip_2 : List UInt8 := [28, 182, 0, 110, 172]
abbrev dktX0_unclip_2 : List UInt8 := dkwX0_unclip_2 ++ []
def dkwX0_unclip_1 : List UInt8 := [154, 0, 6, 16, 9, 61, 28, 154, 0, 16, 42, 180, 0, 38, 180, 0, 161, 27, 50, 3, 181, 0, 214, 42]
abbrev dktX0_unclip_1 : List UInt8 := dkwX0_unclip_1 ++ dktX0_unclip_2
def dkwX0_unclip_0 : List UInt8 := [42, 27, 182, 1, 43, 61, 28, 154, 0, 21, 42, 180, 0, 38, 180, 0, 161, 27, 50, 180, 0, 214]
abbrev dktX0_unclip_0 : List UInt8 := dkwX0_unclip_0 ++ dktX0_unclip_1
theorem dksX0_unclip_0 : cX0_unclip.data.toList.drop 0 = dktX0_unclip_0 := by decide +kernel
theorem dksX0_unclip_1 : cX0_unclip.data.toList.drop 22 = dktX0_unclip_1 := dk_seg dksX0_unclip_0 22 rfl rfl
theorem dksX0_unclip_2 : cX0_unclip.data.toList.drop 46 = dktX0_unclip_2 := dk_seg dksX0_unclip_1 24 rfl rfl
theorem dX0_unclip_0 : decode cX0_unclip 0 = .ok (.aload_n 0, 1) := dk_42 (dk_at dksX0_unclip_0 0 rfl rfl)
theorem dX0_unclip_1 : decode cX0_unclip 1 = .ok (.iload_n 1, 1) := dk_27 (dk_at dksX0_unclip_0 1 rfl rfl)
theorem dX0_unclip_2 : decode cX0_unclip 2 = .ok (.invokevirtual 299, 3) := dk_182 1 43 (dk_at dksX0_unclip_0 2 rfl rfl)
theorem dX0_unclip_5 : decode cX0_unclip 5 = .ok (.istore_n 2, 1) := dk_61 (dk_at dksX0_unclip_0 5 rfl rfl)
theorem dX0_unclip_6 : decode cX0_unclip 6 = .ok (.iload_n 2, 1) := dk_28 (dk_at dksX0_unclip_0 6 rfl rfl)
theorem dX0_unclip_7 : decode cX0_unclip 7 = .ok (.ifCond .ne 21, 3) := dk_154 0 21 (dk_at dksX0_unclip_0 7 rfl rfl)
theorem dX0_unclip_10 : decode cX0_unclip 10 = .ok (.aload_n 0, 1) := dk_42 (dk_at dksX0_unclip_0 10 rfl rfl)
theorem dX0_unclip_11 : decode cX0_unclip 11 = .ok (.getfield 38, 3) := dk_180 0 38 (dk_at dksX0_unclip_0 11 rfl rfl)
theorem dX0_unclip_14 : decode cX0_unclip 14 = .ok (.getfield 161, 3) := dk_180 0 161 (dk_at dksX0_unclip_0 14 rfl rfl)
theorem dX0_unclip_17 : decode cX0_unclip 17 = .ok (.iload_n 1, 1) := dk_27 (dk_at dksX0_unclip_0 17 rfl rfl)
theorem dX0_unclip_18 : decode cX0_unclip 18 = .ok (.aaload, 1) := dk_50 (dk_at dksX0_unclip_0 18 rfl rfl)
theorem dX0_unclip_19 : decode cX0_unclip 19 = .ok (.getfield 214, 3) := dk_180 0 214 (dk_at dksX0_unclip_0 19 rfl rfl)
theorem dX0_unclip_22 : decode cX0_unclip 22 = .ok (.ifCond .ne 6, 3) := dk_154 0 6 (dk_at dksX0_unclip_1 0 rfl rfl)
theorem dX0_unclip_25 : decode cX0_unclip 25 = .ok (.bipush 9, 2) := dk_16 9 (dk_at dksX0_unclip_1 3 rfl rfl)
theorem dX0_unclip_27 : decode cX0_unclip 27 = .ok (.istore_n 2, 1) := dk_61 (dk_at dksX0_unclip_1 5 rfl rfl)
theorem dX0_unclip_28 : decode cX0_unclip 28 = .ok (.iload_n 2, 1) := dk_28 (dk_at dksX0_unclip_1 6 rfl rfl)
theorem dX0_unclip_29 : decode cX0_unclip 29 = .ok (.ifCond .ne 16, 3) := dk_154 0 16 (dk_at dksX0_unclip_1 7 rfl rfl)
theorem dX0_unclip_32 : decode cX0_unclip 32 = .ok (.aload_n 0, 1) := dk_42 (dk_at dksX0_unclip_1 10 rfl rfl)
theorem dX0_unclip_33 : decode cX0_unclip 33 = .ok (.getfield 38, 3) := dk_180 0 38 (dk_at dksX0_unclip_1 11 rfl rfl)
theorem dX0_unclip_36 : decode cX0_unclip 36 = .ok (.getfield 161, 3) := dk_180 0 161 (dk_at dksX0_unclip_1 14 rfl rfl)
theorem dX0_unclip_39 : decode cX0_unclip 39 = .ok (.iload_n 1, 1) := dk_27 (dk_at dksX0_unclip_1 17 rfl rfl)
theorem dX0_unclip_40 : decode cX0_unclip 40 = .ok (.aaload, 1) := dk_50 (dk_at dksX0_unclip_1 18 rfl rfl)
theorem dX0_unclip_41 : decode cX0_unclip 41 = .ok (.iconst 0, 1) := dk_3 (dk_at dksX0_unclip_1 19 rfl rfl)
theorem dX0_unclip_42 : decode cX0_unclip 42 = .ok (.putfield 214, 3) := dk_181 0 214 (dk_at dksX0_unclip_1 20 rfl rfl)
theorem dX0_unclip_45 : decode cX0_unclip 45 = .ok (.aload_n 0, 1) := dk_42 (dk_at dksX0_unclip_1 23 rfl rfl)
theorem dX0_unclip_46 : decode cX0_unclip 46 = .ok (.iload_n 2, 1) := dk_28 (dk_at dksX0_unclip_2 0 rfl rfl)
theorem dX0_unclip_47 : decode cX0_unclip 47 = .ok (.invokevirtual 110, 3) := dk_182 0 110 (dk_at dksX0_unclip_2 1 rfl rfl)
theorem dX0_unclip_50 : decode cX0_unclip 50 = .ok (.ireturn, 1) := dk_172 (dk_at dksX0_unclip_2 4 rfl rfl)
abbrev cX0_cross : ByteArray := prog_1_method_40_code
def yX0_cross : MethodName := ⟨RX0, "cross", "(III)I"⟩
def dkwX0_cross_5 : List UInt8 := [180, 0, 38, 180, 0, 217, 182, 0, 101, 172]
abbrev dktX0_cross_5 : List UInt8 := dkwX0_cross_5 ++ []
def dkwX0_cross_4 : List UInt8 := [154, 0, 10, 42, 16, 9, 182, 0, 97, 172, 42, 180, 0, 38, 27, 28, 29, 182, 1, 61, 42, 42]
abbrev dktX0_cross_4 : List UInt8 := dkwX0_cross_4 ++ dktX0_cross_5
def dkwX0_cross_3 : List UInt8 := [180, 0, 161, 27, 50, 182, 1, 57, 153, 0, 18, 42, 180, 0, 38, 180, 0, 161, 28, 50, 182, 1, 57]
abbrev dktX0_cross_3 : List UInt8 := dkwX0_cross_3 ++ dktX0_cross_4
def dkwX0_cross_2 : List UInt8 := [180, 0, 38, 180, 0, 217, 16, 24, 160, 0, 10, 42, 16, 7, 182, 0, 97, 172, 42, 180, 0, 38]
abbrev dktX0_cross_2 : List UInt8 := dkwX0_cross_2 ++ dktX0_cross_3
def dkwX0_cross_1 : List UInt8 := [159, 0, 15, 29, 133, 9, 20, 1, 55, 184, 1, 33, 154, 0, 9, 42, 8, 182, 0, 97, 172, 42]
abbrev dktX0_cross_1 : List UInt8 := dkwX0_cross_1 ++ dktX0_cross_2
def dkwX0_cross_0 : List UInt8 := [42, 27, 182, 0, 158, 153, 0, 11, 42, 28, 182, 0, 158, 154, 0, 9, 42, 5, 182, 0, 97, 172, 27, 28]
abbrev dktX0_cross_0 : List UInt8 := dkwX0_cross_0 ++ dktX0_cross_1
theorem dksX0_cross_0 : cX0_cross.data.toList.drop 0 = dktX0_cross_0 := by decide +kernel
theorem dksX0_cross_1 : cX0_cross.data.toList.drop 24 = dktX0_cross_1 := dk_seg dksX0_cross_0 24 rfl rfl
theorem dksX0_cross_2 : cX0_cross.data.toList.drop 46 = dktX0_cross_2 := dk_seg dksX0_cross_1 22 rfl rfl
theorem dksX0_cross_3 : cX0_cross.data.toList.drop 68 = dktX0_cross_3 := dk_seg dksX0_cross_2 22 rfl rfl
theorem dksX0_cross_4 : cX0_cross.data.toList.drop 91 = dktX0_cross_4 := dk_seg dksX0_cross_3 23 rfl rfl
theorem dksX0_cross_5 : cX0_cross.data.toList.drop 113 = dktX0_cross_5 := dk_seg dksX0_cross_4 22 rfl rfl
theorem dX0_cross_0 : decode cX0_cross 0 = .ok (.aload_n 0, 1) := dk_42 (dk_at dksX0_cross_0 0 rfl rfl)
theorem dX0_cross_1 : decode cX0_cross 1 = .ok (.iload_n 1, 1) := dk_27 (dk_at dksX0_cross_0 1 rfl rfl)
theorem dX0_cross_2 : decode cX0_cross 2 = .ok (.invokevirtual 158, 3) := dk_182 0 158 (dk_at dksX0_cross_0 2 rfl rfl)
theorem dX0_cross_5 : decode cX0_cross 5 = .ok (.ifCond .eq 11, 3) := dk_153 0 11 (dk_at dksX0_cross_0 5 rfl rfl)
theorem dX0_cross_8 : decode cX0_cross 8 = .ok (.aload_n 0, 1) := dk_42 (dk_at dksX0_cross_0 8 rfl rfl)
theorem dX0_cross_9 : decode cX0_cross 9 = .ok (.iload_n 2, 1) := dk_28 (dk_at dksX0_cross_0 9 rfl rfl)
theorem dX0_cross_10 : decode cX0_cross 10 = .ok (.invokevirtual 158, 3) := dk_182 0 158 (dk_at dksX0_cross_0 10 rfl rfl)
theorem dX0_cross_13 : decode cX0_cross 13 = .ok (.ifCond .ne 9, 3) := dk_154 0 9 (dk_at dksX0_cross_0 13 rfl rfl)
theorem dX0_cross_16 : decode cX0_cross 16 = .ok (.aload_n 0, 1) := dk_42 (dk_at dksX0_cross_0 16 rfl rfl)
theorem dX0_cross_17 : decode cX0_cross 17 = .ok (.iconst 2, 1) := dk_5 (dk_at dksX0_cross_0 17 rfl rfl)
theorem dX0_cross_18 : decode cX0_cross 18 = .ok (.invokevirtual 97, 3) := dk_182 0 97 (dk_at dksX0_cross_0 18 rfl rfl)
theorem dX0_cross_21 : decode cX0_cross 21 = .ok (.ireturn, 1) := dk_172 (dk_at dksX0_cross_0 21 rfl rfl)
theorem dX0_cross_22 : decode cX0_cross 22 = .ok (.iload_n 1, 1) := dk_27 (dk_at dksX0_cross_0 22 rfl rfl)
theorem dX0_cross_23 : decode cX0_cross 23 = .ok (.iload_n 2, 1) := dk_28 (dk_at dksX0_cross_0 23 rfl rfl)
theorem dX0_cross_24 : decode cX0_cross 24 = .ok (.if_icmp .eq 15, 3) := dk_159 0 15 (dk_at dksX0_cross_1 0 rfl rfl)
theorem dX0_cross_27 : decode cX0_cross 27 = .ok (.iload_n 3, 1) := dk_29 (dk_at dksX0_cross_1 3 rfl rfl)
theorem dX0_cross_28 : decode cX0_cross 28 = .ok (.i2l, 1) := dk_133 (dk_at dksX0_cross_1 4 rfl rfl)
theorem dX0_cross_29 : decode cX0_cross 29 = .ok (.lconst 0, 1) := dk_9 (dk_at dksX0_cross_1 5 rfl rfl)
theorem dX0_cross_30 : decode cX0_cross 30 = .ok (.ldc2_w 311, 3) := dk_20 1 55 (dk_at dksX0_cross_1 6 rfl rfl)
theorem dX0_cross_33 : decode cX0_cross 33 = .ok (.invokestatic 289, 3) := dk_184 1 33 (dk_at dksX0_cross_1 9 rfl rfl)
theorem dX0_cross_36 : decode cX0_cross 36 = .ok (.ifCond .ne 9, 3) := dk_154 0 9 (dk_at dksX0_cross_1 12 rfl rfl)
theorem dX0_cross_39 : decode cX0_cross 39 = .ok (.aload_n 0, 1) := dk_42 (dk_at dksX0_cross_1 15 rfl rfl)
theorem dX0_cross_40 : decode cX0_cross 40 = .ok (.iconst 5, 1) := dk_8 (dk_at dksX0_cross_1 16 rfl rfl)
theorem dX0_cross_41 : decode cX0_cross 41 = .ok (.invokevirtual 97, 3) := dk_182 0 97 (dk_at dksX0_cross_1 17 rfl rfl)
theorem dX0_cross_44 : decode cX0_cross 44 = .ok (.ireturn, 1) := dk_172 (dk_at dksX0_cross_1 20 rfl rfl)
theorem dX0_cross_45 : decode cX0_cross 45 = .ok (.aload_n 0, 1) := dk_42 (dk_at dksX0_cross_1 21 rfl rfl)
theorem dX0_cross_46 : decode cX0_cross 46 = .ok (.getfield 38, 3) := dk_180 0 38 (dk_at dksX0_cross_2 0 rfl rfl)
theorem dX0_cross_49 : decode cX0_cross 49 = .ok (.getfield 217, 3) := dk_180 0 217 (dk_at dksX0_cross_2 3 rfl rfl)
theorem dX0_cross_52 : decode cX0_cross 52 = .ok (.bipush 24, 2) := dk_16 24 (dk_at dksX0_cross_2 6 rfl rfl)
theorem dX0_cross_54 : decode cX0_cross 54 = .ok (.if_icmp .ne 10, 3) := dk_160 0 10 (dk_at dksX0_cross_2 8 rfl rfl)
theorem dX0_cross_57 : decode cX0_cross 57 = .ok (.aload_n 0, 1) := dk_42 (dk_at dksX0_cross_2 11 rfl rfl)
theorem dX0_cross_58 : decode cX0_cross 58 = .ok (.bipush 7, 2) := dk_16 7 (dk_at dksX0_cross_2 12 rfl rfl)
theorem dX0_cross_60 : decode cX0_cross 60 = .ok (.invokevirtual 97, 3) := dk_182 0 97 (dk_at dksX0_cross_2 14 rfl rfl)
theorem dX0_cross_63 : decode cX0_cross 63 = .ok (.ireturn, 1) := dk_172 (dk_at dksX0_cross_2 17 rfl rfl)
theorem dX0_cross_64 : decode cX0_cross 64 = .ok (.aload_n 0, 1) := dk_42 (dk_at dksX0_cross_2 18 rfl rfl)
theorem dX0_cross_65 : decode cX0_cross 65 = .ok (.getfield 38, 3) := dk_180 0 38 (dk_at dksX0_cross_2 19 rfl rfl)
theorem dX0_cross_68 : decode cX0_cross 68 = .ok (.getfield 161, 3) := dk_180 0 161 (dk_at dksX0_cross_3 0 rfl rfl)
theorem dX0_cross_71 : decode cX0_cross 71 = .ok (.iload_n 1, 1) := dk_27 (dk_at dksX0_cross_3 3 rfl rfl)
theorem dX0_cross_72 : decode cX0_cross 72 = .ok (.aaload, 1) := dk_50 (dk_at dksX0_cross_3 4 rfl rfl)
theorem dX0_cross_73 : decode cX0_cross 73 = .ok (.invokevirtual 313, 3) := dk_182 1 57 (dk_at dksX0_cross_3 5 rfl rfl)
theorem dX0_cross_76 : decode cX0_cross 76 = .ok (.ifCond .eq 18, 3) := dk_153 0 18 (dk_at dksX0_cross_3 8 rfl rfl)
theorem dX0_cross_79 : decode cX0_cross 79 = .ok (.aload_n 0, 1) := dk_42 (dk_at dksX0_cross_3 11 rfl rfl)
theorem dX0_cross_80 : decode cX0_cross 80 = .ok (.getfield 38, 3) := dk_180 0 38 (dk_at dksX0_cross_3 12 rfl rfl)
theorem dX0_cross_83 : decode cX0_cross 83 = .ok (.getfield 161, 3) := dk_180 0 161 (dk_at dksX0_cross_3 15 rfl rfl)
theorem dX0_cross_86 : decode cX0_cross 86 = .ok (.iload_n 2, 1) := dk_28 (dk_at dksX0_cross_3 18 rfl rfl)
theorem dX0_cross_87 : decode cX0_cross 87 = .ok (.aaload, 1) := dk_50 (dk_at dksX0_cross_3 19 rfl rfl)
theorem dX0_cross_88 : decode cX0_cross 88 = .ok (.invokevirtual 313, 3) := dk_182 1 57 (dk_at dksX0_cross_3 20 rfl rfl)
theorem dX0_cross_91 : decode cX0_cross 91 = .ok (.ifCond .ne 10, 3) := dk_154 0 10 (dk_at dksX0_cross_4 0 rfl rfl)
theorem dX0_cross_94 : decode cX0_cross 94 = .ok (.aload_n 0, 1) := dk_42 (dk_at dksX0_cross_4 3 rfl rfl)
theorem dX0_cross_95 : decode cX0_cross 95 = .ok (.bipush 9, 2) := dk_16 9 (dk_at dksX0_cross_4 4 rfl rfl)
theorem dX0_cross_97 : decode cX0_cross 97 = .ok (.invokevirtual 97, 3) := dk_182 0 97 (dk_at dksX0_cross_4 6 rfl rfl)
theorem dX0_cross_100 : decode cX0_cross 100 = .ok (.ireturn, 1) := dk_172 (dk_at dksX0_cross_4 9 rfl rfl)
theorem dX0_cross_101 : decode cX0_cross 101 = .ok (.aload_n 0, 1) := dk_42 (dk_at dksX0_cross_4 10 rfl rfl)
theorem dX0_cross_102 : decode cX0_cross 102 = .ok (.getfield 38, 3) := dk_180 0 38 (dk_at dksX0_cross_4 11 rfl rfl)
theorem dX0_cross_105 : decode cX0_cross 105 = .ok (.iload_n 1, 1) := dk_27 (dk_at dksX0_cross_4 14 rfl rfl)
theorem dX0_cross_106 : decode cX0_cross 106 = .ok (.iload_n 2, 1) := dk_28 (dk_at dksX0_cross_4 15 rfl rfl)
theorem dX0_cross_107 : decode cX0_cross 107 = .ok (.iload_n 3, 1) := dk_29 (dk_at dksX0_cross_4 16 rfl rfl)
theorem dX0_cross_108 : decode cX0_cross 108 = .ok (.invokevirtual 317, 3) := dk_182 1 61 (dk_at dksX0_cross_4 17 rfl rfl)
theorem dX0_cross_111 : decode cX0_cross 111 = .ok (.aload_n 0, 1) := dk_42 (dk_at dksX0_cross_4 20 rfl rfl)
theorem dX0_cross_112 : decode cX0_cross 112 = .ok (.aload_n 0, 1) := dk_42 (dk_at dksX0_cross_4 21 rfl rfl)
theorem dX0_cross_113 : decode cX0_cross 113 = .ok (.getfield 38, 3) := dk_180 0 38 (dk_at dksX0_cross_5 0 rfl rfl)
theorem dX0_cross_116 : decode cX0_cross 116 = .ok (.getfield 217, 3) := dk_180 0 217 (dk_at dksX0_cross_5 3 rfl rfl)
theorem dX0_cross_119 : decode cX0_cross 119 = .ok (.invokevirtual 101, 3) := dk_182 0 101 (dk_at dksX0_cross_5 6 rfl rfl)
theorem dX0_cross_122 : decode cX0_cross 122 = .ok (.ireturn, 1) := dk_172 (dk_at dksX0_cross_5 9 rfl rfl)
abbrev cX0_open : ByteArray := prog_1_method_45_code
def yX0_open : MethodName := ⟨RX0, "open", "(I)I"⟩
def dkwX0_open_1 : List UInt8 := [42, 182, 1, 83, 182, 0, 101, 172]
abbrev dktX0_open_1 : List UInt8 := dkwX0_open_1 ++ []
def dkwX0_open_0 : List UInt8 := [27, 133, 9, 20, 1, 81, 184, 1, 33, 154, 0, 9, 42, 8, 182, 0, 97, 172, 42, 27, 181, 1, 65, 42]
abbrev dktX0_open_0 : List UInt8 := dkwX0_open_0 ++ dktX0_open_1
theorem dksX0_open_0 : cX0_open.data.toList.drop 0 = dktX0_open_0 := by decide +kernel
theorem dksX0_open_1 : cX0_open.data.toList.drop 24 = dktX0_open_1 := dk_seg dksX0_open_0 24 rfl rfl
theorem dX0_open_0 : decode cX0_open 0 = .ok (.iload_n 1, 1) := dk_27 (dk_at dksX0_open_0 0 rfl rfl)
theorem dX0_open_1 : decode cX0_open 1 = .ok (.i2l, 1) := dk_133 (dk_at dksX0_open_0 1 rfl rfl)
theorem dX0_open_2 : decode cX0_open 2 = .ok (.lconst 0, 1) := dk_9 (dk_at dksX0_open_0 2 rfl rfl)
theorem dX0_open_3 : decode cX0_open 3 = .ok (.ldc2_w 337, 3) := dk_20 1 81 (dk_at dksX0_open_0 3 rfl rfl)
theorem dX0_open_6 : decode cX0_open 6 = .ok (.invokestatic 289, 3) := dk_184 1 33 (dk_at dksX0_open_0 6 rfl rfl)
theorem dX0_open_9 : decode cX0_open 9 = .ok (.ifCond .ne 9, 3) := dk_154 0 9 (dk_at dksX0_open_0 9 rfl rfl)
theorem dX0_open_12 : decode cX0_open 12 = .ok (.aload_n 0, 1) := dk_42 (dk_at dksX0_open_0 12 rfl rfl)
theorem dX0_open_13 : decode cX0_open 13 = .ok (.iconst 5, 1) := dk_8 (dk_at dksX0_open_0 13 rfl rfl)
theorem dX0_open_14 : decode cX0_open 14 = .ok (.invokevirtual 97, 3) := dk_182 0 97 (dk_at dksX0_open_0 14 rfl rfl)
theorem dX0_open_17 : decode cX0_open 17 = .ok (.ireturn, 1) := dk_172 (dk_at dksX0_open_0 17 rfl rfl)
theorem dX0_open_18 : decode cX0_open 18 = .ok (.aload_n 0, 1) := dk_42 (dk_at dksX0_open_0 18 rfl rfl)
theorem dX0_open_19 : decode cX0_open 19 = .ok (.iload_n 1, 1) := dk_27 (dk_at dksX0_open_0 19 rfl rfl)
theorem dX0_open_20 : decode cX0_open 20 = .ok (.putfield 321, 3) := dk_181 1 65 (dk_at dksX0_open_0 20 rfl rfl)
theorem dX0_open_23 : decode cX0_open 23 = .ok (.aload_n 0, 1) := dk_42 (dk_at dksX0_open_0 23 rfl rfl)
theorem dX0_open_24 : decode cX0_open 24 = .ok (.aload_n 0, 1) := dk_42 (dk_at dksX0_open_1 0 rfl rfl)
theorem dX0_open_25 : decode cX0_open 25 = .ok (.invokevirtual 339, 3) := dk_182 1 83 (dk_at dksX0_open_1 1 rfl rfl)
theorem dX0_open_28 : decode cX0_open 28 = .ok (.invokevirtual 101, 3) := dk_182 0 101 (dk_at dksX0_open_1 4 rfl rfl)
theorem dX0_open_31 : decode cX0_open 31 = .ok (.ireturn, 1) := dk_172 (dk_at dksX0_open_1 7 rfl rfl)
abbrev cX0_opens : ByteArray := prog_1_method_44_code
def yX0_opens : MethodName := ⟨RX0, "opens", "()I"⟩
def dkwX0_opens_7 : List UInt8 := [182, 1, 61, 132, 1, 1, 132, 2, 1, 167, 255, 102, 27, 172]
abbrev dktX0_opens_7 : List UInt8 := dkwX0_opens_7 ++ []
def dkwX0_opens_6 : List UInt8 := [167, 0, 4, 3, 54, 6, 42, 180, 0, 38, 28, 21, 5, 21, 6, 153, 0, 7, 4, 167, 0, 4, 3]
abbrev dktX0_opens_6 : List UInt8 := dkwX0_opens_6 ++ dktX0_opens_7
def dkwX0_opens_5 : List UInt8 := [42, 180, 0, 38, 180, 0, 161, 21, 5, 50, 180, 0, 239, 5, 96, 184, 1, 78, 162, 0, 7, 4]
abbrev dktX0_opens_5 : List UInt8 := dkwX0_opens_5 ++ dktX0_opens_6
def dkwX0_opens_4 : List UInt8 := [180, 0, 217, 16, 24, 160, 0, 6, 167, 0, 67, 45, 180, 0, 242, 45, 180, 0, 245, 184, 1, 78, 16, 9]
abbrev dktX0_opens_4 : List UInt8 := dkwX0_opens_4 ++ dktX0_opens_5
def dkwX0_opens_3 : List UInt8 := [154, 0, 6, 167, 0, 95, 42, 28, 42, 21, 4, 182, 1, 69, 182, 1, 75, 54, 5, 42, 180, 0, 38]
abbrev dktX0_opens_3 : List UInt8 := dkwX0_opens_3 ++ dktX0_opens_4
def dkwX0_opens_2 : List UInt8 := [16, 16, 182, 1, 69, 45, 182, 1, 1, 161, 0, 6, 167, 0, 110, 42, 28, 182, 1, 72, 54, 4, 21, 4]
abbrev dktX0_opens_2 : List UInt8 := dkwX0_opens_2 ++ dktX0_opens_3
def dkwX0_opens_1 : List UInt8 := [180, 0, 152, 162, 0, 149, 42, 180, 0, 38, 180, 0, 161, 28, 50, 78, 45, 182, 1, 57, 153, 0, 126, 42]
abbrev dktX0_opens_1 : List UInt8 := dkwX0_opens_1 ++ dktX0_opens_2
def dkwX0_opens_0 : List UInt8 := [3, 60, 42, 180, 0, 38, 89, 180, 0, 233, 4, 96, 181, 0, 233, 3, 61, 28, 42, 180, 0, 38]
abbrev dktX0_opens_0 : List UInt8 := dkwX0_opens_0 ++ dktX0_opens_1
theorem dksX0_opens_0 : cX0_opens.data.toList.drop 0 = dktX0_opens_0 := by decide +kernel
theorem dksX0_opens_1 : cX0_opens.data.toList.drop 22 = dktX0_opens_1 := dk_seg dksX0_opens_0 22 rfl rfl
theorem dksX0_opens_2 : cX0_opens.data.toList.drop 46 = dktX0_opens_2 := dk_seg dksX0_opens_1 24 rfl rfl
theorem dksX0_opens_3 : cX0_opens.data.toList.drop 70 = dktX0_opens_3 := dk_seg dksX0_opens_2 24 rfl rfl
theorem dksX0_opens_4 : cX0_opens.data.toList.drop 93 = dktX0_opens_4 := dk_seg dksX0_opens_3 23 rfl rfl
theorem dksX0_opens_5 : cX0_opens.data.toList.drop 117 = dktX0_opens_5 := dk_seg dksX0_opens_4 24 rfl rfl
theorem dksX0_opens_6 : cX0_opens.data.toList.drop 139 = dktX0_opens_6 := dk_seg dksX0_opens_5 22 rfl rfl
theorem dksX0_opens_7 : cX0_opens.data.toList.drop 162 = dktX0_opens_7 := dk_seg dksX0_opens_6 23 rfl rfl
theorem dX0_opens_0 : decode cX0_opens 0 = .ok (.iconst 0, 1) := dk_3 (dk_at dksX0_opens_0 0 rfl rfl)
theorem dX0_opens_1 : decode cX0_opens 1 = .ok (.istore_n 1, 1) := dk_60 (dk_at dksX0_opens_0 1 rfl rfl)
theorem dX0_opens_2 : decode cX0_opens 2 = .ok (.aload_n 0, 1) := dk_42 (dk_at dksX0_opens_0 2 rfl rfl)
theorem dX0_opens_3 : decode cX0_opens 3 = .ok (.getfield 38, 3) := dk_180 0 38 (dk_at dksX0_opens_0 3 rfl rfl)
theorem dX0_opens_6 : decode cX0_opens 6 = .ok (.dup, 1) := dk_89 (dk_at dksX0_opens_0 6 rfl rfl)
theorem dX0_opens_7 : decode cX0_opens 7 = .ok (.getfield 233, 3) := dk_180 0 233 (dk_at dksX0_opens_0 7 rfl rfl)
theorem dX0_opens_10 : decode cX0_opens 10 = .ok (.iconst 1, 1) := dk_4 (dk_at dksX0_opens_0 10 rfl rfl)
theorem dX0_opens_11 : decode cX0_opens 11 = .ok (.iadd, 1) := dk_96 (dk_at dksX0_opens_0 11 rfl rfl)
theorem dX0_opens_12 : decode cX0_opens 12 = .ok (.putfield 233, 3) := dk_181 0 233 (dk_at dksX0_opens_0 12 rfl rfl)
theorem dX0_opens_15 : decode cX0_opens 15 = .ok (.iconst 0, 1) := dk_3 (dk_at dksX0_opens_0 15 rfl rfl)
theorem dX0_opens_16 : decode cX0_opens 16 = .ok (.istore_n 2, 1) := dk_61 (dk_at dksX0_opens_0 16 rfl rfl)
theorem dX0_opens_17 : decode cX0_opens 17 = .ok (.iload_n 2, 1) := dk_28 (dk_at dksX0_opens_0 17 rfl rfl)
theorem dX0_opens_18 : decode cX0_opens 18 = .ok (.aload_n 0, 1) := dk_42 (dk_at dksX0_opens_0 18 rfl rfl)
theorem dX0_opens_19 : decode cX0_opens 19 = .ok (.getfield 38, 3) := dk_180 0 38 (dk_at dksX0_opens_0 19 rfl rfl)
theorem dX0_opens_22 : decode cX0_opens 22 = .ok (.getfield 152, 3) := dk_180 0 152 (dk_at dksX0_opens_1 0 rfl rfl)
theorem dX0_opens_25 : decode cX0_opens 25 = .ok (.if_icmp .ge 149, 3) := dk_162 0 149 (dk_at dksX0_opens_1 3 rfl rfl)
theorem dX0_opens_28 : decode cX0_opens 28 = .ok (.aload_n 0, 1) := dk_42 (dk_at dksX0_opens_1 6 rfl rfl)
theorem dX0_opens_29 : decode cX0_opens 29 = .ok (.getfield 38, 3) := dk_180 0 38 (dk_at dksX0_opens_1 7 rfl rfl)
theorem dX0_opens_32 : decode cX0_opens 32 = .ok (.getfield 161, 3) := dk_180 0 161 (dk_at dksX0_opens_1 10 rfl rfl)
theorem dX0_opens_35 : decode cX0_opens 35 = .ok (.iload_n 2, 1) := dk_28 (dk_at dksX0_opens_1 13 rfl rfl)
theorem dX0_opens_36 : decode cX0_opens 36 = .ok (.aaload, 1) := dk_50 (dk_at dksX0_opens_1 14 rfl rfl)
theorem dX0_opens_37 : decode cX0_opens 37 = .ok (.astore_n 3, 1) := dk_78 (dk_at dksX0_opens_1 15 rfl rfl)
theorem dX0_opens_38 : decode cX0_opens 38 = .ok (.aload_n 3, 1) := dk_45 (dk_at dksX0_opens_1 16 rfl rfl)
theorem dX0_opens_39 : decode cX0_opens 39 = .ok (.invokevirtual 313, 3) := dk_182 1 57 (dk_at dksX0_opens_1 17 rfl rfl)
theorem dX0_opens_42 : decode cX0_opens 42 = .ok (.ifCond .eq 126, 3) := dk_153 0 126 (dk_at dksX0_opens_1 20 rfl rfl)
theorem dX0_opens_45 : decode cX0_opens 45 = .ok (.aload_n 0, 1) := dk_42 (dk_at dksX0_opens_1 23 rfl rfl)
theorem dX0_opens_46 : decode cX0_opens 46 = .ok (.bipush 16, 2) := dk_16 16 (dk_at dksX0_opens_2 0 rfl rfl)
theorem dX0_opens_48 : decode cX0_opens 48 = .ok (.invokevirtual 325, 3) := dk_182 1 69 (dk_at dksX0_opens_2 2 rfl rfl)
theorem dX0_opens_51 : decode cX0_opens 51 = .ok (.aload_n 3, 1) := dk_45 (dk_at dksX0_opens_2 5 rfl rfl)
theorem dX0_opens_52 : decode cX0_opens 52 = .ok (.invokevirtual 257, 3) := dk_182 1 1 (dk_at dksX0_opens_2 6 rfl rfl)
theorem dX0_opens_55 : decode cX0_opens 55 = .ok (.if_icmp .lt 6, 3) := dk_161 0 6 (dk_at dksX0_opens_2 9 rfl rfl)
theorem dX0_opens_58 : decode cX0_opens 58 = .ok (.goto 110, 3) := dk_167 0 110 (dk_at dksX0_opens_2 12 rfl rfl)
theorem dX0_opens_61 : decode cX0_opens 61 = .ok (.aload_n 0, 1) := dk_42 (dk_at dksX0_opens_2 15 rfl rfl)
theorem dX0_opens_62 : decode cX0_opens 62 = .ok (.iload_n 2, 1) := dk_28 (dk_at dksX0_opens_2 16 rfl rfl)
theorem dX0_opens_63 : decode cX0_opens 63 = .ok (.invokevirtual 328, 3) := dk_182 1 72 (dk_at dksX0_opens_2 17 rfl rfl)
theorem dX0_opens_66 : decode cX0_opens 66 = .ok (.istore 4, 2) := dk_54 4 (dk_at dksX0_opens_2 20 rfl rfl)
theorem dX0_opens_68 : decode cX0_opens 68 = .ok (.iload 4, 2) := dk_21 4 (dk_at dksX0_opens_2 22 rfl rfl)
theorem dX0_opens_70 : decode cX0_opens 70 = .ok (.ifCond .ne 6, 3) := dk_154 0 6 (dk_at dksX0_opens_3 0 rfl rfl)
theorem dX0_opens_73 : decode cX0_opens 73 = .ok (.goto 95, 3) := dk_167 0 95 (dk_at dksX0_opens_3 3 rfl rfl)
theorem dX0_opens_76 : decode cX0_opens 76 = .ok (.aload_n 0, 1) := dk_42 (dk_at dksX0_opens_3 6 rfl rfl)
theorem dX0_opens_77 : decode cX0_opens 77 = .ok (.iload_n 2, 1) := dk_28 (dk_at dksX0_opens_3 7 rfl rfl)
theorem dX0_opens_78 : decode cX0_opens 78 = .ok (.aload_n 0, 1) := dk_42 (dk_at dksX0_opens_3 8 rfl rfl)
theorem dX0_opens_79 : decode cX0_opens 79 = .ok (.iload 4, 2) := dk_21 4 (dk_at dksX0_opens_3 9 rfl rfl)
theorem dX0_opens_81 : decode cX0_opens 81 = .ok (.invokevirtual 325, 3) := dk_182 1 69 (dk_at dksX0_opens_3 11 rfl rfl)
theorem dX0_opens_84 : decode cX0_opens 84 = .ok (.invokevirtual 331, 3) := dk_182 1 75 (dk_at dksX0_opens_3 14 rfl rfl)
theorem dX0_opens_87 : decode cX0_opens 87 = .ok (.istore 5, 2) := dk_54 5 (dk_at dksX0_opens_3 17 rfl rfl)
theorem dX0_opens_89 : decode cX0_opens 89 = .ok (.aload_n 0, 1) := dk_42 (dk_at dksX0_opens_3 19 rfl rfl)
theorem dX0_opens_90 : decode cX0_opens 90 = .ok (.getfield 38, 3) := dk_180 0 38 (dk_at dksX0_opens_3 20 rfl rfl)
theorem dX0_opens_93 : decode cX0_opens 93 = .ok (.getfield 217, 3) := dk_180 0 217 (dk_at dksX0_opens_4 0 rfl rfl)
theorem dX0_opens_96 : decode cX0_opens 96 = .ok (.bipush 24, 2) := dk_16 24 (dk_at dksX0_opens_4 3 rfl rfl)
theorem dX0_opens_98 : decode cX0_opens 98 = .ok (.if_icmp .ne 6, 3) := dk_160 0 6 (dk_at dksX0_opens_4 5 rfl rfl)
theorem dX0_opens_101 : decode cX0_opens 101 = .ok (.goto 67, 3) := dk_167 0 67 (dk_at dksX0_opens_4 8 rfl rfl)
theorem dX0_opens_104 : decode cX0_opens 104 = .ok (.aload_n 3, 1) := dk_45 (dk_at dksX0_opens_4 11 rfl rfl)
theorem dX0_opens_105 : decode cX0_opens 105 = .ok (.getfield 242, 3) := dk_180 0 242 (dk_at dksX0_opens_4 12 rfl rfl)
theorem dX0_opens_108 : decode cX0_opens 108 = .ok (.aload_n 3, 1) := dk_45 (dk_at dksX0_opens_4 15 rfl rfl)
theorem dX0_opens_109 : decode cX0_opens 109 = .ok (.getfield 245, 3) := dk_180 0 245 (dk_at dksX0_opens_4 16 rfl rfl)
theorem dX0_opens_112 : decode cX0_opens 112 = .ok (.invokestatic 334, 3) := dk_184 1 78 (dk_at dksX0_opens_4 19 rfl rfl)
theorem dX0_opens_115 : decode cX0_opens 115 = .ok (.bipush 9, 2) := dk_16 9 (dk_at dksX0_opens_4 22 rfl rfl)
theorem dX0_opens_117 : decode cX0_opens 117 = .ok (.aload_n 0, 1) := dk_42 (dk_at dksX0_opens_5 0 rfl rfl)
theorem dX0_opens_118 : decode cX0_opens 118 = .ok (.getfield 38, 3) := dk_180 0 38 (dk_at dksX0_opens_5 1 rfl rfl)
theorem dX0_opens_121 : decode cX0_opens 121 = .ok (.getfield 161, 3) := dk_180 0 161 (dk_at dksX0_opens_5 4 rfl rfl)
theorem dX0_opens_124 : decode cX0_opens 124 = .ok (.iload 5, 2) := dk_21 5 (dk_at dksX0_opens_5 7 rfl rfl)
theorem dX0_opens_126 : decode cX0_opens 126 = .ok (.aaload, 1) := dk_50 (dk_at dksX0_opens_5 9 rfl rfl)
theorem dX0_opens_127 : decode cX0_opens 127 = .ok (.getfield 239, 3) := dk_180 0 239 (dk_at dksX0_opens_5 10 rfl rfl)
theorem dX0_opens_130 : decode cX0_opens 130 = .ok (.iconst 2, 1) := dk_5 (dk_at dksX0_opens_5 13 rfl rfl)
theorem dX0_opens_131 : decode cX0_opens 131 = .ok (.iadd, 1) := dk_96 (dk_at dksX0_opens_5 14 rfl rfl)
theorem dX0_opens_132 : decode cX0_opens 132 = .ok (.invokestatic 334, 3) := dk_184 1 78 (dk_at dksX0_opens_5 15 rfl rfl)
theorem dX0_opens_135 : decode cX0_opens 135 = .ok (.if_icmp .ge 7, 3) := dk_162 0 7 (dk_at dksX0_opens_5 18 rfl rfl)
theorem dX0_opens_138 : decode cX0_opens 138 = .ok (.iconst 1, 1) := dk_4 (dk_at dksX0_opens_5 21 rfl rfl)
theorem dX0_opens_139 : decode cX0_opens 139 = .ok (.goto 4, 3) := dk_167 0 4 (dk_at dksX0_opens_6 0 rfl rfl)
theorem dX0_opens_142 : decode cX0_opens 142 = .ok (.iconst 0, 1) := dk_3 (dk_at dksX0_opens_6 3 rfl rfl)
theorem dX0_opens_143 : decode cX0_opens 143 = .ok (.istore 6, 2) := dk_54 6 (dk_at dksX0_opens_6 4 rfl rfl)
theorem dX0_opens_145 : decode cX0_opens 145 = .ok (.aload_n 0, 1) := dk_42 (dk_at dksX0_opens_6 6 rfl rfl)
theorem dX0_opens_146 : decode cX0_opens 146 = .ok (.getfield 38, 3) := dk_180 0 38 (dk_at dksX0_opens_6 7 rfl rfl)
theorem dX0_opens_149 : decode cX0_opens 149 = .ok (.iload_n 2, 1) := dk_28 (dk_at dksX0_opens_6 10 rfl rfl)
theorem dX0_opens_150 : decode cX0_opens 150 = .ok (.iload 5, 2) := dk_21 5 (dk_at dksX0_opens_6 11 rfl rfl)
theorem dX0_opens_152 : decode cX0_opens 152 = .ok (.iload 6, 2) := dk_21 6 (dk_at dksX0_opens_6 13 rfl rfl)
theorem dX0_opens_154 : decode cX0_opens 154 = .ok (.ifCond .eq 7, 3) := dk_153 0 7 (dk_at dksX0_opens_6 15 rfl rfl)
theorem dX0_opens_157 : decode cX0_opens 157 = .ok (.iconst 1, 1) := dk_4 (dk_at dksX0_opens_6 18 rfl rfl)
theorem dX0_opens_158 : decode cX0_opens 158 = .ok (.goto 4, 3) := dk_167 0 4 (dk_at dksX0_opens_6 19 rfl rfl)
theorem dX0_opens_161 : decode cX0_opens 161 = .ok (.iconst 0, 1) := dk_3 (dk_at dksX0_opens_6 22 rfl rfl)
theorem dX0_opens_162 : decode cX0_opens 162 = .ok (.invokevirtual 317, 3) := dk_182 1 61 (dk_at dksX0_opens_7 0 rfl rfl)
theorem dX0_opens_165 : decode cX0_opens 165 = .ok (.iinc 1 1, 3) := dk_132 1 1 (dk_at dksX0_opens_7 3 rfl rfl)
theorem dX0_opens_168 : decode cX0_opens 168 = .ok (.iinc 2 1, 3) := dk_132 2 1 (dk_at dksX0_opens_7 6 rfl rfl)
theorem dX0_opens_171 : decode cX0_opens 171 = .ok (.goto (-154), 3) := dk_167 255 102 (dk_at dksX0_opens_7 9 rfl rfl)
theorem dX0_opens_174 : decode cX0_opens 174 = .ok (.iload_n 1, 1) := dk_27 (dk_at dksX0_opens_7 12 rfl rfl)
theorem dX0_opens_175 : decode cX0_opens 175 = .ok (.ireturn, 1) := dk_172 (dk_at dksX0_opens_7 13 rfl rfl)
abbrev cX0_draw : ByteArray := prog_1_method_41_code
def yX0_draw : MethodName := ⟨RX0, "draw", "(I)I"⟩
def dkwX0_draw_1 : List UInt8 := [16, 8, 108, 27, 112, 172]
abbrev dktX0_draw_1 : List UInt8 := dkwX0_draw_1 ++ []
def dkwX0_draw_0 : List UInt8 := [42, 42, 180, 1, 65, 17, 11, 81, 104, 17, 41, 33, 96, 19, 1, 68, 112, 181, 1, 65, 42, 180, 1, 65]
abbrev dktX0_draw_0 : List UInt8 := dkwX0_draw_0 ++ dktX0_draw_1
theorem dksX0_draw_0 : cX0_draw.data.toList.drop 0 = dktX0_draw_0 := by decide +kernel
theorem dksX0_draw_1 : cX0_draw.data.toList.drop 24 = dktX0_draw_1 := dk_seg dksX0_draw_0 24 rfl rfl
theorem dX0_draw_0 : decode cX0_draw 0 = .ok (.aload_n 0, 1) := dk_42 (dk_at dksX0_draw_0 0 rfl rfl)
theorem dX0_draw_1 : decode cX0_draw 1 = .ok (.aload_n 0, 1) := dk_42 (dk_at dksX0_draw_0 1 rfl rfl)
theorem dX0_draw_2 : decode cX0_draw 2 = .ok (.getfield 321, 3) := dk_180 1 65 (dk_at dksX0_draw_0 2 rfl rfl)
theorem dX0_draw_5 : decode cX0_draw 5 = .ok (.sipush 2897, 3) := dk_17 11 81 (dk_at dksX0_draw_0 5 rfl rfl)
theorem dX0_draw_8 : decode cX0_draw 8 = .ok (.imul, 1) := dk_104 (dk_at dksX0_draw_0 8 rfl rfl)
theorem dX0_draw_9 : decode cX0_draw 9 = .ok (.sipush 10529, 3) := dk_17 41 33 (dk_at dksX0_draw_0 9 rfl rfl)
theorem dX0_draw_12 : decode cX0_draw 12 = .ok (.iadd, 1) := dk_96 (dk_at dksX0_draw_0 12 rfl rfl)
theorem dX0_draw_13 : decode cX0_draw 13 = .ok (.ldc_w 324, 3) := dk_19 1 68 (dk_at dksX0_draw_0 13 rfl rfl)
theorem dX0_draw_16 : decode cX0_draw 16 = .ok (.irem, 1) := dk_112 (dk_at dksX0_draw_0 16 rfl rfl)
theorem dX0_draw_17 : decode cX0_draw 17 = .ok (.putfield 321, 3) := dk_181 1 65 (dk_at dksX0_draw_0 17 rfl rfl)
theorem dX0_draw_20 : decode cX0_draw 20 = .ok (.aload_n 0, 1) := dk_42 (dk_at dksX0_draw_0 20 rfl rfl)
theorem dX0_draw_21 : decode cX0_draw 21 = .ok (.getfield 321, 3) := dk_180 1 65 (dk_at dksX0_draw_0 21 rfl rfl)
theorem dX0_draw_24 : decode cX0_draw 24 = .ok (.bipush 8, 2) := dk_16 8 (dk_at dksX0_draw_1 0 rfl rfl)
theorem dX0_draw_26 : decode cX0_draw 26 = .ok (.idiv, 1) := dk_108 (dk_at dksX0_draw_1 2 rfl rfl)
theorem dX0_draw_27 : decode cX0_draw 27 = .ok (.iload_n 1, 1) := dk_27 (dk_at dksX0_draw_1 3 rfl rfl)
theorem dX0_draw_28 : decode cX0_draw 28 = .ok (.irem, 1) := dk_112 (dk_at dksX0_draw_1 4 rfl rfl)
theorem dX0_draw_29 : decode cX0_draw 29 = .ok (.ireturn, 1) := dk_172 (dk_at dksX0_draw_1 5 rfl rfl)
abbrev cX0_others : ByteArray := prog_1_method_42_code
def yX0_others : MethodName := ⟨RX0, "others", "(I)I"⟩
def dkwX0_others_2 : List UInt8 := [167, 255, 214, 28, 172]
abbrev dktX0_others_2 : List UInt8 := dkwX0_others_2 ++ []
def dkwX0_others_1 : List UInt8 := [180, 0, 38, 180, 0, 161, 29, 50, 182, 1, 57, 153, 0, 7, 4, 167, 0, 4, 3, 96, 61, 132, 3, 1]
abbrev dktX0_others_1 : List UInt8 := dkwX0_others_1 ++ dktX0_others_2
def dkwX0_others_0 : List UInt8 := [3, 61, 3, 62, 29, 42, 180, 0, 38, 180, 0, 152, 162, 0, 37, 28, 29, 27, 159, 0, 22, 42]
abbrev dktX0_others_0 : List UInt8 := dkwX0_others_0 ++ dktX0_others_1
theorem dksX0_others_0 : cX0_others.data.toList.drop 0 = dktX0_others_0 := by decide +kernel
theorem dksX0_others_1 : cX0_others.data.toList.drop 22 = dktX0_others_1 := dk_seg dksX0_others_0 22 rfl rfl
theorem dksX0_others_2 : cX0_others.data.toList.drop 46 = dktX0_others_2 := dk_seg dksX0_others_1 24 rfl rfl
theorem dX0_others_0 : decode cX0_others 0 = .ok (.iconst 0, 1) := dk_3 (dk_at dksX0_others_0 0 rfl rfl)
theorem dX0_others_1 : decode cX0_others 1 = .ok (.istore_n 2, 1) := dk_61 (dk_at dksX0_others_0 1 rfl rfl)
theorem dX0_others_2 : decode cX0_others 2 = .ok (.iconst 0, 1) := dk_3 (dk_at dksX0_others_0 2 rfl rfl)
theorem dX0_others_3 : decode cX0_others 3 = .ok (.istore_n 3, 1) := dk_62 (dk_at dksX0_others_0 3 rfl rfl)
theorem dX0_others_4 : decode cX0_others 4 = .ok (.iload_n 3, 1) := dk_29 (dk_at dksX0_others_0 4 rfl rfl)
theorem dX0_others_5 : decode cX0_others 5 = .ok (.aload_n 0, 1) := dk_42 (dk_at dksX0_others_0 5 rfl rfl)
theorem dX0_others_6 : decode cX0_others 6 = .ok (.getfield 38, 3) := dk_180 0 38 (dk_at dksX0_others_0 6 rfl rfl)
theorem dX0_others_9 : decode cX0_others 9 = .ok (.getfield 152, 3) := dk_180 0 152 (dk_at dksX0_others_0 9 rfl rfl)
theorem dX0_others_12 : decode cX0_others 12 = .ok (.if_icmp .ge 37, 3) := dk_162 0 37 (dk_at dksX0_others_0 12 rfl rfl)
theorem dX0_others_15 : decode cX0_others 15 = .ok (.iload_n 2, 1) := dk_28 (dk_at dksX0_others_0 15 rfl rfl)
theorem dX0_others_16 : decode cX0_others 16 = .ok (.iload_n 3, 1) := dk_29 (dk_at dksX0_others_0 16 rfl rfl)
theorem dX0_others_17 : decode cX0_others 17 = .ok (.iload_n 1, 1) := dk_27 (dk_at dksX0_others_0 17 rfl rfl)
theorem dX0_others_18 : decode cX0_others 18 = .ok (.if_icmp .eq 22, 3) := dk_159 0 22 (dk_at dksX0_others_0 18 rfl rfl)
theorem dX0_others_21 : decode cX0_others 21 = .ok (.aload_n 0, 1) := dk_42 (dk_at dksX0_others_0 21 rfl rfl)
theorem dX0_others_22 : decode cX0_others 22 = .ok (.getfield 38, 3) := dk_180 0 38 (dk_at dksX0_others_1 0 rfl rfl)
theorem dX0_others_25 : decode cX0_others 25 = .ok (.getfield 161, 3) := dk_180 0 161 (dk_at dksX0_others_1 3 rfl rfl)
theorem dX0_others_28 : decode cX0_others 28 = .ok (.iload_n 3, 1) := dk_29 (dk_at dksX0_others_1 6 rfl rfl)
theorem dX0_others_29 : decode cX0_others 29 = .ok (.aaload, 1) := dk_50 (dk_at dksX0_others_1 7 rfl rfl)
theorem dX0_others_30 : decode cX0_others 30 = .ok (.invokevirtual 313, 3) := dk_182 1 57 (dk_at dksX0_others_1 8 rfl rfl)
theorem dX0_others_33 : decode cX0_others 33 = .ok (.ifCond .eq 7, 3) := dk_153 0 7 (dk_at dksX0_others_1 11 rfl rfl)
theorem dX0_others_36 : decode cX0_others 36 = .ok (.iconst 1, 1) := dk_4 (dk_at dksX0_others_1 14 rfl rfl)
theorem dX0_others_37 : decode cX0_others 37 = .ok (.goto 4, 3) := dk_167 0 4 (dk_at dksX0_others_1 15 rfl rfl)
theorem dX0_others_40 : decode cX0_others 40 = .ok (.iconst 0, 1) := dk_3 (dk_at dksX0_others_1 18 rfl rfl)
theorem dX0_others_41 : decode cX0_others 41 = .ok (.iadd, 1) := dk_96 (dk_at dksX0_others_1 19 rfl rfl)
theorem dX0_others_42 : decode cX0_others 42 = .ok (.istore_n 2, 1) := dk_61 (dk_at dksX0_others_1 20 rfl rfl)
theorem dX0_others_43 : decode cX0_others 43 = .ok (.iinc 3 1, 3) := dk_132 3 1 (dk_at dksX0_others_1 21 rfl rfl)
theorem dX0_others_46 : decode cX0_others 46 = .ok (.goto (-42), 3) := dk_167 255 214 (dk_at dksX0_others_2 0 rfl rfl)
theorem dX0_others_49 : decode cX0_others 49 = .ok (.iload_n 2, 1) := dk_28 (dk_at dksX0_others_2 3 rfl rfl)
theorem dX0_others_50 : decode cX0_others 50 = .ok (.ireturn, 1) := dk_172 (dk_at dksX0_others_2 4 rfl rfl)
abbrev cX0_other : ByteArray := prog_1_method_43_code
def yX0_other : MethodName := ⟨RX0, "other", "(II)I"⟩
def dkwX0_other_2 : List UInt8 := [182, 1, 57, 153, 0, 7, 4, 167, 0, 4, 3, 100, 62, 132, 4, 1, 167, 255, 197, 21, 4, 172]
abbrev dktX0_other_2 : List UInt8 := dkwX0_other_2 ++ []
def dkwX0_other_1 : List UInt8 := [153, 0, 7, 29, 158, 0, 39, 29, 21, 4, 27, 159, 0, 23, 42, 180, 0, 38, 180, 0, 161, 21, 4, 50]
abbrev dktX0_other_1 : List UInt8 := dkwX0_other_1 ++ dktX0_other_2
def dkwX0_other_0 : List UInt8 := [28, 62, 3, 54, 4, 21, 4, 27, 159, 0, 23, 42, 180, 0, 38, 180, 0, 161, 21, 4, 50, 182, 1, 57]
abbrev dktX0_other_0 : List UInt8 := dkwX0_other_0 ++ dktX0_other_1
theorem dksX0_other_0 : cX0_other.data.toList.drop 0 = dktX0_other_0 := by decide +kernel
theorem dksX0_other_1 : cX0_other.data.toList.drop 24 = dktX0_other_1 := dk_seg dksX0_other_0 24 rfl rfl
theorem dksX0_other_2 : cX0_other.data.toList.drop 48 = dktX0_other_2 := dk_seg dksX0_other_1 24 rfl rfl
theorem dX0_other_0 : decode cX0_other 0 = .ok (.iload_n 2, 1) := dk_28 (dk_at dksX0_other_0 0 rfl rfl)
theorem dX0_other_1 : decode cX0_other 1 = .ok (.istore_n 3, 1) := dk_62 (dk_at dksX0_other_0 1 rfl rfl)
theorem dX0_other_2 : decode cX0_other 2 = .ok (.iconst 0, 1) := dk_3 (dk_at dksX0_other_0 2 rfl rfl)
theorem dX0_other_3 : decode cX0_other 3 = .ok (.istore 4, 2) := dk_54 4 (dk_at dksX0_other_0 3 rfl rfl)
theorem dX0_other_5 : decode cX0_other 5 = .ok (.iload 4, 2) := dk_21 4 (dk_at dksX0_other_0 5 rfl rfl)
theorem dX0_other_7 : decode cX0_other 7 = .ok (.iload_n 1, 1) := dk_27 (dk_at dksX0_other_0 7 rfl rfl)
theorem dX0_other_8 : decode cX0_other 8 = .ok (.if_icmp .eq 23, 3) := dk_159 0 23 (dk_at dksX0_other_0 8 rfl rfl)
theorem dX0_other_11 : decode cX0_other 11 = .ok (.aload_n 0, 1) := dk_42 (dk_at dksX0_other_0 11 rfl rfl)
theorem dX0_other_12 : decode cX0_other 12 = .ok (.getfield 38, 3) := dk_180 0 38 (dk_at dksX0_other_0 12 rfl rfl)
theorem dX0_other_15 : decode cX0_other 15 = .ok (.getfield 161, 3) := dk_180 0 161 (dk_at dksX0_other_0 15 rfl rfl)
theorem dX0_other_18 : decode cX0_other 18 = .ok (.iload 4, 2) := dk_21 4 (dk_at dksX0_other_0 18 rfl rfl)
theorem dX0_other_20 : decode cX0_other 20 = .ok (.aaload, 1) := dk_50 (dk_at dksX0_other_0 20 rfl rfl)
theorem dX0_other_21 : decode cX0_other 21 = .ok (.invokevirtual 313, 3) := dk_182 1 57 (dk_at dksX0_other_0 21 rfl rfl)
theorem dX0_other_24 : decode cX0_other 24 = .ok (.ifCond .eq 7, 3) := dk_153 0 7 (dk_at dksX0_other_1 0 rfl rfl)
theorem dX0_other_27 : decode cX0_other 27 = .ok (.iload_n 3, 1) := dk_29 (dk_at dksX0_other_1 3 rfl rfl)
theorem dX0_other_28 : decode cX0_other 28 = .ok (.ifCond .le 39, 3) := dk_158 0 39 (dk_at dksX0_other_1 4 rfl rfl)
theorem dX0_other_31 : decode cX0_other 31 = .ok (.iload_n 3, 1) := dk_29 (dk_at dksX0_other_1 7 rfl rfl)
theorem dX0_other_32 : decode cX0_other 32 = .ok (.iload 4, 2) := dk_21 4 (dk_at dksX0_other_1 8 rfl rfl)
theorem dX0_other_34 : decode cX0_other 34 = .ok (.iload_n 1, 1) := dk_27 (dk_at dksX0_other_1 10 rfl rfl)
theorem dX0_other_35 : decode cX0_other 35 = .ok (.if_icmp .eq 23, 3) := dk_159 0 23 (dk_at dksX0_other_1 11 rfl rfl)
theorem dX0_other_38 : decode cX0_other 38 = .ok (.aload_n 0, 1) := dk_42 (dk_at dksX0_other_1 14 rfl rfl)
theorem dX0_other_39 : decode cX0_other 39 = .ok (.getfield 38, 3) := dk_180 0 38 (dk_at dksX0_other_1 15 rfl rfl)
theorem dX0_other_42 : decode cX0_other 42 = .ok (.getfield 161, 3) := dk_180 0 161 (dk_at dksX0_other_1 18 rfl rfl)
theorem dX0_other_45 : decode cX0_other 45 = .ok (.iload 4, 2) := dk_21 4 (dk_at dksX0_other_1 21 rfl rfl)
theorem dX0_other_47 : decode cX0_other 47 = .ok (.aaload, 1) := dk_50 (dk_at dksX0_other_1 23 rfl rfl)
theorem dX0_other_48 : decode cX0_other 48 = .ok (.invokevirtual 313, 3) := dk_182 1 57 (dk_at dksX0_other_2 0 rfl rfl)
theorem dX0_other_51 : decode cX0_other 51 = .ok (.ifCond .eq 7, 3) := dk_153 0 7 (dk_at dksX0_other_2 3 rfl rfl)
theorem dX0_other_54 : decode cX0_other 54 = .ok (.iconst 1, 1) := dk_4 (dk_at dksX0_other_2 6 rfl rfl)
theorem dX0_other_55 : decode cX0_other 55 = .ok (.goto 4, 3) := dk_167 0 4 (dk_at dksX0_other_2 7 rfl rfl)
theorem dX0_other_58 : decode cX0_other 58 = .ok (.iconst 0, 1) := dk_3 (dk_at dksX0_other_2 10 rfl rfl)
theorem dX0_other_59 : decode cX0_other 59 = .ok (.isub, 1) := dk_100 (dk_at dksX0_other_2 11 rfl rfl)
theorem dX0_other_60 : decode cX0_other 60 = .ok (.istore_n 3, 1) := dk_62 (dk_at dksX0_other_2 12 rfl rfl)
theorem dX0_other_61 : decode cX0_other 61 = .ok (.iinc 4 1, 3) := dk_132 4 1 (dk_at dksX0_other_2 13 rfl rfl)
theorem dX0_other_64 : decode cX0_other 64 = .ok (.goto (-59), 3) := dk_167 255 197 (dk_at dksX0_other_2 16 rfl rfl)
theorem dX0_other_67 : decode cX0_other 67 = .ok (.iload 4, 2) := dk_21 4 (dk_at dksX0_other_2 19 rfl rfl)
theorem dX0_other_69 : decode cX0_other 69 = .ok (.ireturn, 1) := dk_172 (dk_at dksX0_other_2 21 rfl rfl)
abbrev cX0_lump : ByteArray := prog_1_method_46_code
def yX0_lump : MethodName := ⟨RX0, "lump", "(I)I"⟩
def dkwX0_lump_1 : List UInt8 := [182, 1, 86, 182, 0, 101, 172]
abbrev dktX0_lump_1 : List UInt8 := dkwX0_lump_1 ++ []
def dkwX0_lump_0 : List UInt8 := [42, 27, 182, 1, 43, 61, 28, 158, 0, 11, 42, 28, 182, 0, 97, 167, 0, 15, 42, 42, 180, 0, 38, 27]
abbrev dktX0_lump_0 : List UInt8 := dkwX0_lump_0 ++ dktX0_lump_1
theorem dksX0_lump_0 : cX0_lump.data.toList.drop 0 = dktX0_lump_0 := by decide +kernel
theorem dksX0_lump_1 : cX0_lump.data.toList.drop 24 = dktX0_lump_1 := dk_seg dksX0_lump_0 24 rfl rfl
theorem dX0_lump_0 : decode cX0_lump 0 = .ok (.aload_n 0, 1) := dk_42 (dk_at dksX0_lump_0 0 rfl rfl)
theorem dX0_lump_1 : decode cX0_lump 1 = .ok (.iload_n 1, 1) := dk_27 (dk_at dksX0_lump_0 1 rfl rfl)
theorem dX0_lump_2 : decode cX0_lump 2 = .ok (.invokevirtual 299, 3) := dk_182 1 43 (dk_at dksX0_lump_0 2 rfl rfl)
theorem dX0_lump_5 : decode cX0_lump 5 = .ok (.istore_n 2, 1) := dk_61 (dk_at dksX0_lump_0 5 rfl rfl)
theorem dX0_lump_6 : decode cX0_lump 6 = .ok (.iload_n 2, 1) := dk_28 (dk_at dksX0_lump_0 6 rfl rfl)
theorem dX0_lump_7 : decode cX0_lump 7 = .ok (.ifCond .le 11, 3) := dk_158 0 11 (dk_at dksX0_lump_0 7 rfl rfl)
theorem dX0_lump_10 : decode cX0_lump 10 = .ok (.aload_n 0, 1) := dk_42 (dk_at dksX0_lump_0 10 rfl rfl)
theorem dX0_lump_11 : decode cX0_lump 11 = .ok (.iload_n 2, 1) := dk_28 (dk_at dksX0_lump_0 11 rfl rfl)
theorem dX0_lump_12 : decode cX0_lump 12 = .ok (.invokevirtual 97, 3) := dk_182 0 97 (dk_at dksX0_lump_0 12 rfl rfl)
theorem dX0_lump_15 : decode cX0_lump 15 = .ok (.goto 15, 3) := dk_167 0 15 (dk_at dksX0_lump_0 15 rfl rfl)
theorem dX0_lump_18 : decode cX0_lump 18 = .ok (.aload_n 0, 1) := dk_42 (dk_at dksX0_lump_0 18 rfl rfl)
theorem dX0_lump_19 : decode cX0_lump 19 = .ok (.aload_n 0, 1) := dk_42 (dk_at dksX0_lump_0 19 rfl rfl)
theorem dX0_lump_20 : decode cX0_lump 20 = .ok (.getfield 38, 3) := dk_180 0 38 (dk_at dksX0_lump_0 20 rfl rfl)
theorem dX0_lump_23 : decode cX0_lump 23 = .ok (.iload_n 1, 1) := dk_27 (dk_at dksX0_lump_0 23 rfl rfl)
theorem dX0_lump_24 : decode cX0_lump 24 = .ok (.invokevirtual 342, 3) := dk_182 1 86 (dk_at dksX0_lump_1 0 rfl rfl)
theorem dX0_lump_27 : decode cX0_lump 27 = .ok (.invokevirtual 101, 3) := dk_182 0 101 (dk_at dksX0_lump_1 3 rfl rfl)
theorem dX0_lump_30 : decode cX0_lump 30 = .ok (.ireturn, 1) := dk_172 (dk_at dksX0_lump_1 6 rfl rfl)
abbrev cX0_lumps : ByteArray := prog_1_method_47_code
def yX0_lumps : MethodName := ⟨RX0, "lumps", "(I)I"⟩
def dkwX0_lumps_4 : List UInt8 := [154, 0, 7, 4, 167, 0, 4, 3, 96, 61, 132, 3, 1, 167, 255, 188, 42, 28, 182, 0, 101, 172]
abbrev dktX0_lumps_4 : List UInt8 := dkwX0_lumps_4 ++ []
def dkwX0_lumps_3 : List UInt8 := [182, 1, 92, 153, 0, 6, 167, 0, 28, 28, 42, 180, 0, 38, 29, 182, 1, 86, 4, 29, 120, 4, 100, 126]
abbrev dktX0_lumps_3 : List UInt8 := dkwX0_lumps_3 ++ dktX0_lumps_4
def dkwX0_lumps_2 : List UInt8 := [162, 0, 63, 42, 180, 0, 38, 180, 0, 161, 29, 50, 180, 0, 165, 154, 0, 42, 42, 180, 0, 38, 29]
abbrev dktX0_lumps_2 : List UInt8 := dkwX0_lumps_2 ++ dktX0_lumps_3
def dkwX0_lumps_1 : List UInt8 := [180, 0, 38, 182, 1, 89, 182, 0, 101, 172, 3, 61, 3, 62, 29, 42, 180, 0, 38, 180, 0, 152]
abbrev dktX0_lumps_1 : List UInt8 := dkwX0_lumps_1 ++ dktX0_lumps_2
def dkwX0_lumps_0 : List UInt8 := [27, 133, 9, 10, 184, 1, 33, 154, 0, 9, 42, 8, 182, 0, 97, 172, 27, 4, 160, 0, 15, 42, 42]
abbrev dktX0_lumps_0 : List UInt8 := dkwX0_lumps_0 ++ dktX0_lumps_1
theorem dksX0_lumps_0 : cX0_lumps.data.toList.drop 0 = dktX0_lumps_0 := by decide +kernel
theorem dksX0_lumps_1 : cX0_lumps.data.toList.drop 23 = dktX0_lumps_1 := dk_seg dksX0_lumps_0 23 rfl rfl
theorem dksX0_lumps_2 : cX0_lumps.data.toList.drop 45 = dktX0_lumps_2 := dk_seg dksX0_lumps_1 22 rfl rfl
theorem dksX0_lumps_3 : cX0_lumps.data.toList.drop 68 = dktX0_lumps_3 := dk_seg dksX0_lumps_2 23 rfl rfl
theorem dksX0_lumps_4 : cX0_lumps.data.toList.drop 92 = dktX0_lumps_4 := dk_seg dksX0_lumps_3 24 rfl rfl
theorem dX0_lumps_0 : decode cX0_lumps 0 = .ok (.iload_n 1, 1) := dk_27 (dk_at dksX0_lumps_0 0 rfl rfl)
theorem dX0_lumps_1 : decode cX0_lumps 1 = .ok (.i2l, 1) := dk_133 (dk_at dksX0_lumps_0 1 rfl rfl)
theorem dX0_lumps_2 : decode cX0_lumps 2 = .ok (.lconst 0, 1) := dk_9 (dk_at dksX0_lumps_0 2 rfl rfl)
theorem dX0_lumps_3 : decode cX0_lumps 3 = .ok (.lconst 1, 1) := dk_10 (dk_at dksX0_lumps_0 3 rfl rfl)
theorem dX0_lumps_4 : decode cX0_lumps 4 = .ok (.invokestatic 289, 3) := dk_184 1 33 (dk_at dksX0_lumps_0 4 rfl rfl)
theorem dX0_lumps_7 : decode cX0_lumps 7 = .ok (.ifCond .ne 9, 3) := dk_154 0 9 (dk_at dksX0_lumps_0 7 rfl rfl)
theorem dX0_lumps_10 : decode cX0_lumps 10 = .ok (.aload_n 0, 1) := dk_42 (dk_at dksX0_lumps_0 10 rfl rfl)
theorem dX0_lumps_11 : decode cX0_lumps 11 = .ok (.iconst 5, 1) := dk_8 (dk_at dksX0_lumps_0 11 rfl rfl)
theorem dX0_lumps_12 : decode cX0_lumps 12 = .ok (.invokevirtual 97, 3) := dk_182 0 97 (dk_at dksX0_lumps_0 12 rfl rfl)
theorem dX0_lumps_15 : decode cX0_lumps 15 = .ok (.ireturn, 1) := dk_172 (dk_at dksX0_lumps_0 15 rfl rfl)
theorem dX0_lumps_16 : decode cX0_lumps 16 = .ok (.iload_n 1, 1) := dk_27 (dk_at dksX0_lumps_0 16 rfl rfl)
theorem dX0_lumps_17 : decode cX0_lumps 17 = .ok (.iconst 1, 1) := dk_4 (dk_at dksX0_lumps_0 17 rfl rfl)
theorem dX0_lumps_18 : decode cX0_lumps 18 = .ok (.if_icmp .ne 15, 3) := dk_160 0 15 (dk_at dksX0_lumps_0 18 rfl rfl)
theorem dX0_lumps_21 : decode cX0_lumps 21 = .ok (.aload_n 0, 1) := dk_42 (dk_at dksX0_lumps_0 21 rfl rfl)
theorem dX0_lumps_22 : decode cX0_lumps 22 = .ok (.aload_n 0, 1) := dk_42 (dk_at dksX0_lumps_0 22 rfl rfl)
theorem dX0_lumps_23 : decode cX0_lumps 23 = .ok (.getfield 38, 3) := dk_180 0 38 (dk_at dksX0_lumps_1 0 rfl rfl)
theorem dX0_lumps_26 : decode cX0_lumps 26 = .ok (.invokevirtual 345, 3) := dk_182 1 89 (dk_at dksX0_lumps_1 3 rfl rfl)
theorem dX0_lumps_29 : decode cX0_lumps 29 = .ok (.invokevirtual 101, 3) := dk_182 0 101 (dk_at dksX0_lumps_1 6 rfl rfl)
theorem dX0_lumps_32 : decode cX0_lumps 32 = .ok (.ireturn, 1) := dk_172 (dk_at dksX0_lumps_1 9 rfl rfl)
theorem dX0_lumps_33 : decode cX0_lumps 33 = .ok (.iconst 0, 1) := dk_3 (dk_at dksX0_lumps_1 10 rfl rfl)
theorem dX0_lumps_34 : decode cX0_lumps 34 = .ok (.istore_n 2, 1) := dk_61 (dk_at dksX0_lumps_1 11 rfl rfl)
theorem dX0_lumps_35 : decode cX0_lumps 35 = .ok (.iconst 0, 1) := dk_3 (dk_at dksX0_lumps_1 12 rfl rfl)
theorem dX0_lumps_36 : decode cX0_lumps 36 = .ok (.istore_n 3, 1) := dk_62 (dk_at dksX0_lumps_1 13 rfl rfl)
theorem dX0_lumps_37 : decode cX0_lumps 37 = .ok (.iload_n 3, 1) := dk_29 (dk_at dksX0_lumps_1 14 rfl rfl)
theorem dX0_lumps_38 : decode cX0_lumps 38 = .ok (.aload_n 0, 1) := dk_42 (dk_at dksX0_lumps_1 15 rfl rfl)
theorem dX0_lumps_39 : decode cX0_lumps 39 = .ok (.getfield 38, 3) := dk_180 0 38 (dk_at dksX0_lumps_1 16 rfl rfl)
theorem dX0_lumps_42 : decode cX0_lumps 42 = .ok (.getfield 152, 3) := dk_180 0 152 (dk_at dksX0_lumps_1 19 rfl rfl)
theorem dX0_lumps_45 : decode cX0_lumps 45 = .ok (.if_icmp .ge 63, 3) := dk_162 0 63 (dk_at dksX0_lumps_2 0 rfl rfl)
theorem dX0_lumps_48 : decode cX0_lumps 48 = .ok (.aload_n 0, 1) := dk_42 (dk_at dksX0_lumps_2 3 rfl rfl)
theorem dX0_lumps_49 : decode cX0_lumps 49 = .ok (.getfield 38, 3) := dk_180 0 38 (dk_at dksX0_lumps_2 4 rfl rfl)
theorem dX0_lumps_52 : decode cX0_lumps 52 = .ok (.getfield 161, 3) := dk_180 0 161 (dk_at dksX0_lumps_2 7 rfl rfl)
theorem dX0_lumps_55 : decode cX0_lumps 55 = .ok (.iload_n 3, 1) := dk_29 (dk_at dksX0_lumps_2 10 rfl rfl)
theorem dX0_lumps_56 : decode cX0_lumps 56 = .ok (.aaload, 1) := dk_50 (dk_at dksX0_lumps_2 11 rfl rfl)
theorem dX0_lumps_57 : decode cX0_lumps 57 = .ok (.getfield 165, 3) := dk_180 0 165 (dk_at dksX0_lumps_2 12 rfl rfl)
theorem dX0_lumps_60 : decode cX0_lumps 60 = .ok (.ifCond .ne 42, 3) := dk_154 0 42 (dk_at dksX0_lumps_2 15 rfl rfl)
theorem dX0_lumps_63 : decode cX0_lumps 63 = .ok (.aload_n 0, 1) := dk_42 (dk_at dksX0_lumps_2 18 rfl rfl)
theorem dX0_lumps_64 : decode cX0_lumps 64 = .ok (.getfield 38, 3) := dk_180 0 38 (dk_at dksX0_lumps_2 19 rfl rfl)
theorem dX0_lumps_67 : decode cX0_lumps 67 = .ok (.iload_n 3, 1) := dk_29 (dk_at dksX0_lumps_2 22 rfl rfl)
theorem dX0_lumps_68 : decode cX0_lumps 68 = .ok (.invokevirtual 348, 3) := dk_182 1 92 (dk_at dksX0_lumps_3 0 rfl rfl)
theorem dX0_lumps_71 : decode cX0_lumps 71 = .ok (.ifCond .eq 6, 3) := dk_153 0 6 (dk_at dksX0_lumps_3 3 rfl rfl)
theorem dX0_lumps_74 : decode cX0_lumps 74 = .ok (.goto 28, 3) := dk_167 0 28 (dk_at dksX0_lumps_3 6 rfl rfl)
theorem dX0_lumps_77 : decode cX0_lumps 77 = .ok (.iload_n 2, 1) := dk_28 (dk_at dksX0_lumps_3 9 rfl rfl)
theorem dX0_lumps_78 : decode cX0_lumps 78 = .ok (.aload_n 0, 1) := dk_42 (dk_at dksX0_lumps_3 10 rfl rfl)
theorem dX0_lumps_79 : decode cX0_lumps 79 = .ok (.getfield 38, 3) := dk_180 0 38 (dk_at dksX0_lumps_3 11 rfl rfl)
theorem dX0_lumps_82 : decode cX0_lumps 82 = .ok (.iload_n 3, 1) := dk_29 (dk_at dksX0_lumps_3 14 rfl rfl)
theorem dX0_lumps_83 : decode cX0_lumps 83 = .ok (.invokevirtual 342, 3) := dk_182 1 86 (dk_at dksX0_lumps_3 15 rfl rfl)
theorem dX0_lumps_86 : decode cX0_lumps 86 = .ok (.iconst 1, 1) := dk_4 (dk_at dksX0_lumps_3 18 rfl rfl)
theorem dX0_lumps_87 : decode cX0_lumps 87 = .ok (.iload_n 3, 1) := dk_29 (dk_at dksX0_lumps_3 19 rfl rfl)
theorem dX0_lumps_88 : decode cX0_lumps 88 = .ok (.ishl, 1) := dk_120 (dk_at dksX0_lumps_3 20 rfl rfl)
theorem dX0_lumps_89 : decode cX0_lumps 89 = .ok (.iconst 1, 1) := dk_4 (dk_at dksX0_lumps_3 21 rfl rfl)
theorem dX0_lumps_90 : decode cX0_lumps 90 = .ok (.isub, 1) := dk_100 (dk_at dksX0_lumps_3 22 rfl rfl)
theorem dX0_lumps_91 : decode cX0_lumps 91 = .ok (.iand, 1) := dk_126 (dk_at dksX0_lumps_3 23 rfl rfl)
theorem dX0_lumps_92 : decode cX0_lumps 92 = .ok (.ifCond .ne 7, 3) := dk_154 0 7 (dk_at dksX0_lumps_4 0 rfl rfl)
theorem dX0_lumps_95 : decode cX0_lumps 95 = .ok (.iconst 1, 1) := dk_4 (dk_at dksX0_lumps_4 3 rfl rfl)
theorem dX0_lumps_96 : decode cX0_lumps 96 = .ok (.goto 4, 3) := dk_167 0 4 (dk_at dksX0_lumps_4 4 rfl rfl)
theorem dX0_lumps_99 : decode cX0_lumps 99 = .ok (.iconst 0, 1) := dk_3 (dk_at dksX0_lumps_4 7 rfl rfl)
theorem dX0_lumps_100 : decode cX0_lumps 100 = .ok (.iadd, 1) := dk_96 (dk_at dksX0_lumps_4 8 rfl rfl)
theorem dX0_lumps_101 : decode cX0_lumps 101 = .ok (.istore_n 2, 1) := dk_61 (dk_at dksX0_lumps_4 9 rfl rfl)
theorem dX0_lumps_102 : decode cX0_lumps 102 = .ok (.iinc 3 1, 3) := dk_132 3 1 (dk_at dksX0_lumps_4 10 rfl rfl)
theorem dX0_lumps_105 : decode cX0_lumps 105 = .ok (.goto (-68), 3) := dk_167 255 188 (dk_at dksX0_lumps_4 13 rfl rfl)
theorem dX0_lumps_108 : decode cX0_lumps 108 = .ok (.aload_n 0, 1) := dk_42 (dk_at dksX0_lumps_4 16 rfl rfl)
theorem dX0_lumps_109 : decode cX0_lumps 109 = .ok (.iload_n 2, 1) := dk_28 (dk_at dksX0_lumps_4 17 rfl rfl)
theorem dX0_lumps_110 : decode cX0_lumps 110 = .ok (.invokevirtual 101, 3) := dk_182 0 101 (dk_at dksX0_lumps_4 18 rfl rfl)
theorem dX0_lumps_113 : decode cX0_lumps 113 = .ok (.ireturn, 1) := dk_172 (dk_at dksX0_lumps_4 21 rfl rfl)
abbrev cX0_comes : ByteArray := prog_1_method_48_code
def yX0_comes : MethodName := ⟨RX0, "comes", "(I)I"⟩
def dkwX0_comes_1 : List UInt8 := [182, 1, 92, 153, 0, 7, 4, 167, 0, 4, 3, 182, 0, 101, 172]
abbrev dktX0_comes_1 : List UInt8 := dkwX0_comes_1 ++ []
def dkwX0_comes_0 : List UInt8 := [42, 27, 182, 1, 43, 61, 28, 158, 0, 11, 42, 28, 182, 0, 97, 167, 0, 23, 42, 42, 180, 0, 38, 27]
abbrev dktX0_comes_0 : List UInt8 := dkwX0_comes_0 ++ dktX0_comes_1
theorem dksX0_comes_0 : cX0_comes.data.toList.drop 0 = dktX0_comes_0 := by decide +kernel
theorem dksX0_comes_1 : cX0_comes.data.toList.drop 24 = dktX0_comes_1 := dk_seg dksX0_comes_0 24 rfl rfl
theorem dX0_comes_0 : decode cX0_comes 0 = .ok (.aload_n 0, 1) := dk_42 (dk_at dksX0_comes_0 0 rfl rfl)
theorem dX0_comes_1 : decode cX0_comes 1 = .ok (.iload_n 1, 1) := dk_27 (dk_at dksX0_comes_0 1 rfl rfl)
theorem dX0_comes_2 : decode cX0_comes 2 = .ok (.invokevirtual 299, 3) := dk_182 1 43 (dk_at dksX0_comes_0 2 rfl rfl)
theorem dX0_comes_5 : decode cX0_comes 5 = .ok (.istore_n 2, 1) := dk_61 (dk_at dksX0_comes_0 5 rfl rfl)
theorem dX0_comes_6 : decode cX0_comes 6 = .ok (.iload_n 2, 1) := dk_28 (dk_at dksX0_comes_0 6 rfl rfl)
theorem dX0_comes_7 : decode cX0_comes 7 = .ok (.ifCond .le 11, 3) := dk_158 0 11 (dk_at dksX0_comes_0 7 rfl rfl)
theorem dX0_comes_10 : decode cX0_comes 10 = .ok (.aload_n 0, 1) := dk_42 (dk_at dksX0_comes_0 10 rfl rfl)
theorem dX0_comes_11 : decode cX0_comes 11 = .ok (.iload_n 2, 1) := dk_28 (dk_at dksX0_comes_0 11 rfl rfl)
theorem dX0_comes_12 : decode cX0_comes 12 = .ok (.invokevirtual 97, 3) := dk_182 0 97 (dk_at dksX0_comes_0 12 rfl rfl)
theorem dX0_comes_15 : decode cX0_comes 15 = .ok (.goto 23, 3) := dk_167 0 23 (dk_at dksX0_comes_0 15 rfl rfl)
theorem dX0_comes_18 : decode cX0_comes 18 = .ok (.aload_n 0, 1) := dk_42 (dk_at dksX0_comes_0 18 rfl rfl)
theorem dX0_comes_19 : decode cX0_comes 19 = .ok (.aload_n 0, 1) := dk_42 (dk_at dksX0_comes_0 19 rfl rfl)
theorem dX0_comes_20 : decode cX0_comes 20 = .ok (.getfield 38, 3) := dk_180 0 38 (dk_at dksX0_comes_0 20 rfl rfl)
theorem dX0_comes_23 : decode cX0_comes 23 = .ok (.iload_n 1, 1) := dk_27 (dk_at dksX0_comes_0 23 rfl rfl)
theorem dX0_comes_24 : decode cX0_comes 24 = .ok (.invokevirtual 348, 3) := dk_182 1 92 (dk_at dksX0_comes_1 0 rfl rfl)
theorem dX0_comes_27 : decode cX0_comes 27 = .ok (.ifCond .eq 7, 3) := dk_153 0 7 (dk_at dksX0_comes_1 3 rfl rfl)
theorem dX0_comes_30 : decode cX0_comes 30 = .ok (.iconst 1, 1) := dk_4 (dk_at dksX0_comes_1 6 rfl rfl)
theorem dX0_comes_31 : decode cX0_comes 31 = .ok (.goto 4, 3) := dk_167 0 4 (dk_at dksX0_comes_1 7 rfl rfl)
theorem dX0_comes_34 : decode cX0_comes 34 = .ok (.iconst 0, 1) := dk_3 (dk_at dksX0_comes_1 10 rfl rfl)
theorem dX0_comes_35 : decode cX0_comes 35 = .ok (.invokevirtual 101, 3) := dk_182 0 101 (dk_at dksX0_comes_1 11 rfl rfl)
theorem dX0_comes_38 : decode cX0_comes 38 = .ok (.ireturn, 1) := dk_172 (dk_at dksX0_comes_1 14 rfl rfl)
abbrev cX0_easy : ByteArray := prog_1_method_49_code
def yX0_easy : MethodName := ⟨RX0, "easy", "()I"⟩
def dkwX0_easy_2 : List UInt8 := [3, 128, 60, 132, 2, 1, 167, 255, 206, 42, 27, 182, 0, 101, 172]
abbrev dktX0_easy_2 : List UInt8 := dkwX0_easy_2 ++ []
def dkwX0_easy_1 : List UInt8 := [50, 180, 0, 165, 154, 0, 20, 42, 180, 0, 38, 28, 182, 1, 92, 153, 0, 9, 4, 28, 120, 167, 0, 4]
abbrev dktX0_easy_1 : List UInt8 := dkwX0_easy_1 ++ dktX0_easy_2
def dkwX0_easy_0 : List UInt8 := [3, 60, 3, 61, 28, 42, 180, 0, 38, 180, 0, 152, 162, 0, 45, 27, 42, 180, 0, 38, 180, 0, 161, 28]
abbrev dktX0_easy_0 : List UInt8 := dkwX0_easy_0 ++ dktX0_easy_1
theorem dksX0_easy_0 : cX0_easy.data.toList.drop 0 = dktX0_easy_0 := by decide +kernel
theorem dksX0_easy_1 : cX0_easy.data.toList.drop 24 = dktX0_easy_1 := dk_seg dksX0_easy_0 24 rfl rfl
theorem dksX0_easy_2 : cX0_easy.data.toList.drop 48 = dktX0_easy_2 := dk_seg dksX0_easy_1 24 rfl rfl
theorem dX0_easy_0 : decode cX0_easy 0 = .ok (.iconst 0, 1) := dk_3 (dk_at dksX0_easy_0 0 rfl rfl)
theorem dX0_easy_1 : decode cX0_easy 1 = .ok (.istore_n 1, 1) := dk_60 (dk_at dksX0_easy_0 1 rfl rfl)
theorem dX0_easy_2 : decode cX0_easy 2 = .ok (.iconst 0, 1) := dk_3 (dk_at dksX0_easy_0 2 rfl rfl)
theorem dX0_easy_3 : decode cX0_easy 3 = .ok (.istore_n 2, 1) := dk_61 (dk_at dksX0_easy_0 3 rfl rfl)
theorem dX0_easy_4 : decode cX0_easy 4 = .ok (.iload_n 2, 1) := dk_28 (dk_at dksX0_easy_0 4 rfl rfl)
theorem dX0_easy_5 : decode cX0_easy 5 = .ok (.aload_n 0, 1) := dk_42 (dk_at dksX0_easy_0 5 rfl rfl)
theorem dX0_easy_6 : decode cX0_easy 6 = .ok (.getfield 38, 3) := dk_180 0 38 (dk_at dksX0_easy_0 6 rfl rfl)
theorem dX0_easy_9 : decode cX0_easy 9 = .ok (.getfield 152, 3) := dk_180 0 152 (dk_at dksX0_easy_0 9 rfl rfl)
theorem dX0_easy_12 : decode cX0_easy 12 = .ok (.if_icmp .ge 45, 3) := dk_162 0 45 (dk_at dksX0_easy_0 12 rfl rfl)
theorem dX0_easy_15 : decode cX0_easy 15 = .ok (.iload_n 1, 1) := dk_27 (dk_at dksX0_easy_0 15 rfl rfl)
theorem dX0_easy_16 : decode cX0_easy 16 = .ok (.aload_n 0, 1) := dk_42 (dk_at dksX0_easy_0 16 rfl rfl)
theorem dX0_easy_17 : decode cX0_easy 17 = .ok (.getfield 38, 3) := dk_180 0 38 (dk_at dksX0_easy_0 17 rfl rfl)
theorem dX0_easy_20 : decode cX0_easy 20 = .ok (.getfield 161, 3) := dk_180 0 161 (dk_at dksX0_easy_0 20 rfl rfl)
theorem dX0_easy_23 : decode cX0_easy 23 = .ok (.iload_n 2, 1) := dk_28 (dk_at dksX0_easy_0 23 rfl rfl)
theorem dX0_easy_24 : decode cX0_easy 24 = .ok (.aaload, 1) := dk_50 (dk_at dksX0_easy_1 0 rfl rfl)
theorem dX0_easy_25 : decode cX0_easy 25 = .ok (.getfield 165, 3) := dk_180 0 165 (dk_at dksX0_easy_1 1 rfl rfl)
theorem dX0_easy_28 : decode cX0_easy 28 = .ok (.ifCond .ne 20, 3) := dk_154 0 20 (dk_at dksX0_easy_1 4 rfl rfl)
theorem dX0_easy_31 : decode cX0_easy 31 = .ok (.aload_n 0, 1) := dk_42 (dk_at dksX0_easy_1 7 rfl rfl)
theorem dX0_easy_32 : decode cX0_easy 32 = .ok (.getfield 38, 3) := dk_180 0 38 (dk_at dksX0_easy_1 8 rfl rfl)
theorem dX0_easy_35 : decode cX0_easy 35 = .ok (.iload_n 2, 1) := dk_28 (dk_at dksX0_easy_1 11 rfl rfl)
theorem dX0_easy_36 : decode cX0_easy 36 = .ok (.invokevirtual 348, 3) := dk_182 1 92 (dk_at dksX0_easy_1 12 rfl rfl)
theorem dX0_easy_39 : decode cX0_easy 39 = .ok (.ifCond .eq 9, 3) := dk_153 0 9 (dk_at dksX0_easy_1 15 rfl rfl)
theorem dX0_easy_42 : decode cX0_easy 42 = .ok (.iconst 1, 1) := dk_4 (dk_at dksX0_easy_1 18 rfl rfl)
theorem dX0_easy_43 : decode cX0_easy 43 = .ok (.iload_n 2, 1) := dk_28 (dk_at dksX0_easy_1 19 rfl rfl)
theorem dX0_easy_44 : decode cX0_easy 44 = .ok (.ishl, 1) := dk_120 (dk_at dksX0_easy_1 20 rfl rfl)
theorem dX0_easy_45 : decode cX0_easy 45 = .ok (.goto 4, 3) := dk_167 0 4 (dk_at dksX0_easy_1 21 rfl rfl)
theorem dX0_easy_48 : decode cX0_easy 48 = .ok (.iconst 0, 1) := dk_3 (dk_at dksX0_easy_2 0 rfl rfl)
theorem dX0_easy_49 : decode cX0_easy 49 = .ok (.ior, 1) := dk_128 (dk_at dksX0_easy_2 1 rfl rfl)
theorem dX0_easy_50 : decode cX0_easy 50 = .ok (.istore_n 1, 1) := dk_60 (dk_at dksX0_easy_2 2 rfl rfl)
theorem dX0_easy_51 : decode cX0_easy 51 = .ok (.iinc 2 1, 3) := dk_132 2 1 (dk_at dksX0_easy_2 3 rfl rfl)
theorem dX0_easy_54 : decode cX0_easy 54 = .ok (.goto (-50), 3) := dk_167 255 206 (dk_at dksX0_easy_2 6 rfl rfl)
theorem dX0_easy_57 : decode cX0_easy 57 = .ok (.aload_n 0, 1) := dk_42 (dk_at dksX0_easy_2 9 rfl rfl)
theorem dX0_easy_58 : decode cX0_easy 58 = .ok (.iload_n 1, 1) := dk_27 (dk_at dksX0_easy_2 10 rfl rfl)
theorem dX0_easy_59 : decode cX0_easy 59 = .ok (.invokevirtual 101, 3) := dk_182 0 101 (dk_at dksX0_easy_2 11 rfl rfl)
theorem dX0_easy_62 : decode cX0_easy 62 = .ok (.ireturn, 1) := dk_172 (dk_at dksX0_easy_2 14 rfl rfl)
abbrev cX0_free : ByteArray := prog_1_method_50_code
def yX0_free : MethodName := ⟨RX0, "free", "(I)I"⟩
def dkwX0_free_1 : List UInt8 := [3, 182, 0, 101, 167, 0, 8, 42, 5, 182, 0, 97, 172]
abbrev dktX0_free_1 : List UInt8 := dkwX0_free_1 ++ []
def dkwX0_free_0 : List UInt8 := [42, 27, 182, 0, 158, 153, 0, 26, 42, 42, 180, 0, 38, 27, 182, 1, 95, 153, 0, 7, 4, 167, 0, 4]
abbrev dktX0_free_0 : List UInt8 := dkwX0_free_0 ++ dktX0_free_1
theorem dksX0_free_0 : cX0_free.data.toList.drop 0 = dktX0_free_0 := by decide +kernel
theorem dksX0_free_1 : cX0_free.data.toList.drop 24 = dktX0_free_1 := dk_seg dksX0_free_0 24 rfl rfl
theorem dX0_free_0 : decode cX0_free 0 = .ok (.aload_n 0, 1) := dk_42 (dk_at dksX0_free_0 0 rfl rfl)
theorem dX0_free_1 : decode cX0_free 1 = .ok (.iload_n 1, 1) := dk_27 (dk_at dksX0_free_0 1 rfl rfl)
theorem dX0_free_2 : decode cX0_free 2 = .ok (.invokevirtual 158, 3) := dk_182 0 158 (dk_at dksX0_free_0 2 rfl rfl)
theorem dX0_free_5 : decode cX0_free 5 = .ok (.ifCond .eq 26, 3) := dk_153 0 26 (dk_at dksX0_free_0 5 rfl rfl)
theorem dX0_free_8 : decode cX0_free 8 = .ok (.aload_n 0, 1) := dk_42 (dk_at dksX0_free_0 8 rfl rfl)
theorem dX0_free_9 : decode cX0_free 9 = .ok (.aload_n 0, 1) := dk_42 (dk_at dksX0_free_0 9 rfl rfl)
theorem dX0_free_10 : decode cX0_free 10 = .ok (.getfield 38, 3) := dk_180 0 38 (dk_at dksX0_free_0 10 rfl rfl)
theorem dX0_free_13 : decode cX0_free 13 = .ok (.iload_n 1, 1) := dk_27 (dk_at dksX0_free_0 13 rfl rfl)
theorem dX0_free_14 : decode cX0_free 14 = .ok (.invokevirtual 351, 3) := dk_182 1 95 (dk_at dksX0_free_0 14 rfl rfl)
theorem dX0_free_17 : decode cX0_free 17 = .ok (.ifCond .eq 7, 3) := dk_153 0 7 (dk_at dksX0_free_0 17 rfl rfl)
theorem dX0_free_20 : decode cX0_free 20 = .ok (.iconst 1, 1) := dk_4 (dk_at dksX0_free_0 20 rfl rfl)
theorem dX0_free_21 : decode cX0_free 21 = .ok (.goto 4, 3) := dk_167 0 4 (dk_at dksX0_free_0 21 rfl rfl)
theorem dX0_free_24 : decode cX0_free 24 = .ok (.iconst 0, 1) := dk_3 (dk_at dksX0_free_1 0 rfl rfl)
theorem dX0_free_25 : decode cX0_free 25 = .ok (.invokevirtual 101, 3) := dk_182 0 101 (dk_at dksX0_free_1 1 rfl rfl)
theorem dX0_free_28 : decode cX0_free 28 = .ok (.goto 8, 3) := dk_167 0 8 (dk_at dksX0_free_1 4 rfl rfl)
theorem dX0_free_31 : decode cX0_free 31 = .ok (.aload_n 0, 1) := dk_42 (dk_at dksX0_free_1 7 rfl rfl)
theorem dX0_free_32 : decode cX0_free 32 = .ok (.iconst 2, 1) := dk_5 (dk_at dksX0_free_1 8 rfl rfl)
theorem dX0_free_33 : decode cX0_free 33 = .ok (.invokevirtual 97, 3) := dk_182 0 97 (dk_at dksX0_free_1 9 rfl rfl)
theorem dX0_free_36 : decode cX0_free 36 = .ok (.ireturn, 1) := dk_172 (dk_at dksX0_free_1 12 rfl rfl)
abbrev cX0_inState : ByteArray := prog_1_method_52_code
def yX0_inState : MethodName := ⟨RX0, "inState", "(I)I"⟩
def dkwX0_inState_1 : List UInt8 := [42, 8, 182, 0, 97, 172]
abbrev dktX0_inState_1 : List UInt8 := dkwX0_inState_1 ++ []
def dkwX0_inState_0 : List UInt8 := [27, 133, 9, 20, 1, 55, 184, 1, 33, 153, 0, 15, 42, 42, 27, 182, 1, 98, 182, 0, 101, 167, 0, 8]
abbrev dktX0_inState_0 : List UInt8 := dkwX0_inState_0 ++ dktX0_inState_1
theorem dksX0_inState_0 : cX0_inState.data.toList.drop 0 = dktX0_inState_0 := by decide +kernel
theorem dksX0_inState_1 : cX0_inState.data.toList.drop 24 = dktX0_inState_1 := dk_seg dksX0_inState_0 24 rfl rfl
theorem dX0_inState_0 : decode cX0_inState 0 = .ok (.iload_n 1, 1) := dk_27 (dk_at dksX0_inState_0 0 rfl rfl)
theorem dX0_inState_1 : decode cX0_inState 1 = .ok (.i2l, 1) := dk_133 (dk_at dksX0_inState_0 1 rfl rfl)
theorem dX0_inState_2 : decode cX0_inState 2 = .ok (.lconst 0, 1) := dk_9 (dk_at dksX0_inState_0 2 rfl rfl)
theorem dX0_inState_3 : decode cX0_inState 3 = .ok (.ldc2_w 311, 3) := dk_20 1 55 (dk_at dksX0_inState_0 3 rfl rfl)
theorem dX0_inState_6 : decode cX0_inState 6 = .ok (.invokestatic 289, 3) := dk_184 1 33 (dk_at dksX0_inState_0 6 rfl rfl)
theorem dX0_inState_9 : decode cX0_inState 9 = .ok (.ifCond .eq 15, 3) := dk_153 0 15 (dk_at dksX0_inState_0 9 rfl rfl)
theorem dX0_inState_12 : decode cX0_inState 12 = .ok (.aload_n 0, 1) := dk_42 (dk_at dksX0_inState_0 12 rfl rfl)
theorem dX0_inState_13 : decode cX0_inState 13 = .ok (.aload_n 0, 1) := dk_42 (dk_at dksX0_inState_0 13 rfl rfl)
theorem dX0_inState_14 : decode cX0_inState 14 = .ok (.iload_n 1, 1) := dk_27 (dk_at dksX0_inState_0 14 rfl rfl)
theorem dX0_inState_15 : decode cX0_inState 15 = .ok (.invokevirtual 354, 3) := dk_182 1 98 (dk_at dksX0_inState_0 15 rfl rfl)
theorem dX0_inState_18 : decode cX0_inState 18 = .ok (.invokevirtual 101, 3) := dk_182 0 101 (dk_at dksX0_inState_0 18 rfl rfl)
theorem dX0_inState_21 : decode cX0_inState 21 = .ok (.goto 8, 3) := dk_167 0 8 (dk_at dksX0_inState_0 21 rfl rfl)
theorem dX0_inState_24 : decode cX0_inState 24 = .ok (.aload_n 0, 1) := dk_42 (dk_at dksX0_inState_1 0 rfl rfl)
theorem dX0_inState_25 : decode cX0_inState 25 = .ok (.iconst 5, 1) := dk_8 (dk_at dksX0_inState_1 1 rfl rfl)
theorem dX0_inState_26 : decode cX0_inState 26 = .ok (.invokevirtual 97, 3) := dk_182 0 97 (dk_at dksX0_inState_1 2 rfl rfl)
theorem dX0_inState_29 : decode cX0_inState 29 = .ok (.ireturn, 1) := dk_172 (dk_at dksX0_inState_1 5 rfl rfl)
abbrev cX0_stateMany : ByteArray := prog_1_method_51_code
def yX0_stateMany : MethodName := ⟨RX0, "stateMany", "(I)I"⟩
def dkwX0_stateMany_1 : List UInt8 := [50, 182, 1, 12, 27, 160, 0, 7, 4, 167, 0, 4, 3, 96, 61, 132, 3, 1, 167, 255, 218, 28, 172]
abbrev dktX0_stateMany_1 : List UInt8 := dkwX0_stateMany_1 ++ []
def dkwX0_stateMany_0 : List UInt8 := [3, 61, 3, 62, 29, 42, 180, 0, 38, 180, 0, 217, 162, 0, 33, 28, 42, 180, 0, 38, 180, 1, 4, 29]
abbrev dktX0_stateMany_0 : List UInt8 := dkwX0_stateMany_0 ++ dktX0_stateMany_1
theorem dksX0_stateMany_0 : cX0_stateMany.data.toList.drop 0 = dktX0_stateMany_0 := by decide +kernel
theorem dksX0_stateMany_1 : cX0_stateMany.data.toList.drop 24 = dktX0_stateMany_1 := dk_seg dksX0_stateMany_0 24 rfl rfl
theorem dX0_stateMany_0 : decode cX0_stateMany 0 = .ok (.iconst 0, 1) := dk_3 (dk_at dksX0_stateMany_0 0 rfl rfl)
theorem dX0_stateMany_1 : decode cX0_stateMany 1 = .ok (.istore_n 2, 1) := dk_61 (dk_at dksX0_stateMany_0 1 rfl rfl)
theorem dX0_stateMany_2 : decode cX0_stateMany 2 = .ok (.iconst 0, 1) := dk_3 (dk_at dksX0_stateMany_0 2 rfl rfl)
theorem dX0_stateMany_3 : decode cX0_stateMany 3 = .ok (.istore_n 3, 1) := dk_62 (dk_at dksX0_stateMany_0 3 rfl rfl)
theorem dX0_stateMany_4 : decode cX0_stateMany 4 = .ok (.iload_n 3, 1) := dk_29 (dk_at dksX0_stateMany_0 4 rfl rfl)
theorem dX0_stateMany_5 : decode cX0_stateMany 5 = .ok (.aload_n 0, 1) := dk_42 (dk_at dksX0_stateMany_0 5 rfl rfl)
theorem dX0_stateMany_6 : decode cX0_stateMany 6 = .ok (.getfield 38, 3) := dk_180 0 38 (dk_at dksX0_stateMany_0 6 rfl rfl)
theorem dX0_stateMany_9 : decode cX0_stateMany 9 = .ok (.getfield 217, 3) := dk_180 0 217 (dk_at dksX0_stateMany_0 9 rfl rfl)
theorem dX0_stateMany_12 : decode cX0_stateMany 12 = .ok (.if_icmp .ge 33, 3) := dk_162 0 33 (dk_at dksX0_stateMany_0 12 rfl rfl)
theorem dX0_stateMany_15 : decode cX0_stateMany 15 = .ok (.iload_n 2, 1) := dk_28 (dk_at dksX0_stateMany_0 15 rfl rfl)
theorem dX0_stateMany_16 : decode cX0_stateMany 16 = .ok (.aload_n 0, 1) := dk_42 (dk_at dksX0_stateMany_0 16 rfl rfl)
theorem dX0_stateMany_17 : decode cX0_stateMany 17 = .ok (.getfield 38, 3) := dk_180 0 38 (dk_at dksX0_stateMany_0 17 rfl rfl)
theorem dX0_stateMany_20 : decode cX0_stateMany 20 = .ok (.getfield 260, 3) := dk_180 1 4 (dk_at dksX0_stateMany_0 20 rfl rfl)
theorem dX0_stateMany_23 : decode cX0_stateMany 23 = .ok (.iload_n 3, 1) := dk_29 (dk_at dksX0_stateMany_0 23 rfl rfl)
theorem dX0_stateMany_24 : decode cX0_stateMany 24 = .ok (.aaload, 1) := dk_50 (dk_at dksX0_stateMany_1 0 rfl rfl)
theorem dX0_stateMany_25 : decode cX0_stateMany 25 = .ok (.invokevirtual 268, 3) := dk_182 1 12 (dk_at dksX0_stateMany_1 1 rfl rfl)
theorem dX0_stateMany_28 : decode cX0_stateMany 28 = .ok (.iload_n 1, 1) := dk_27 (dk_at dksX0_stateMany_1 4 rfl rfl)
theorem dX0_stateMany_29 : decode cX0_stateMany 29 = .ok (.if_icmp .ne 7, 3) := dk_160 0 7 (dk_at dksX0_stateMany_1 5 rfl rfl)
theorem dX0_stateMany_32 : decode cX0_stateMany 32 = .ok (.iconst 1, 1) := dk_4 (dk_at dksX0_stateMany_1 8 rfl rfl)
theorem dX0_stateMany_33 : decode cX0_stateMany 33 = .ok (.goto 4, 3) := dk_167 0 4 (dk_at dksX0_stateMany_1 9 rfl rfl)
theorem dX0_stateMany_36 : decode cX0_stateMany 36 = .ok (.iconst 0, 1) := dk_3 (dk_at dksX0_stateMany_1 12 rfl rfl)
theorem dX0_stateMany_37 : decode cX0_stateMany 37 = .ok (.iadd, 1) := dk_96 (dk_at dksX0_stateMany_1 13 rfl rfl)
theorem dX0_stateMany_38 : decode cX0_stateMany 38 = .ok (.istore_n 2, 1) := dk_61 (dk_at dksX0_stateMany_1 14 rfl rfl)
theorem dX0_stateMany_39 : decode cX0_stateMany 39 = .ok (.iinc 3 1, 3) := dk_132 3 1 (dk_at dksX0_stateMany_1 15 rfl rfl)
theorem dX0_stateMany_42 : decode cX0_stateMany 42 = .ok (.goto (-38), 3) := dk_167 255 218 (dk_at dksX0_stateMany_1 18 rfl rfl)
theorem dX0_stateMany_45 : decode cX0_stateMany 45 = .ok (.iload_n 2, 1) := dk_28 (dk_at dksX0_stateMany_1 21 rfl rfl)
theorem dX0_stateMany_46 : decode cX0_stateMany 46 = .ok (.ireturn, 1) := dk_172 (dk_at dksX0_stateMany_1 22 rfl rfl)
abbrev cX0_worse : ByteArray := prog_1_method_53_code
def yX0_worse : MethodName := ⟨RX0, "worse", "(II)I"⟩
def dkwX0_worse_4 : List UInt8 := [42, 21, 5, 21, 4, 100, 182, 0, 101, 172]
abbrev dktX0_worse_4 : List UInt8 := dkwX0_worse_4 ++ []
def dkwX0_worse_3 : List UInt8 := [181, 0, 38, 42, 180, 0, 38, 27, 182, 1, 46, 87, 42, 28, 182, 1, 98, 54, 5, 42, 45, 181, 0, 38]
abbrev dktX0_worse_3 : List UInt8 := dkwX0_worse_3 ++ dktX0_worse_4
def dkwX0_worse_2 : List UInt8 := [42, 16, 9, 182, 0, 97, 172, 42, 180, 0, 38, 78, 42, 28, 182, 1, 98, 54, 4, 42, 45, 182, 1, 101]
abbrev dktX0_worse_2 : List UInt8 := dkwX0_worse_2 ++ dktX0_worse_3
def dkwX0_worse_1 : List UInt8 := [154, 0, 9, 42, 8, 182, 0, 97, 172, 42, 180, 0, 38, 180, 0, 161, 27, 50, 180, 0, 165, 153, 0, 10]
abbrev dktX0_worse_1 : List UInt8 := dkwX0_worse_1 ++ dktX0_worse_2
def dkwX0_worse_0 : List UInt8 := [42, 27, 182, 0, 158, 154, 0, 9, 42, 5, 182, 0, 97, 172, 28, 133, 9, 20, 1, 55, 184, 1, 33]
abbrev dktX0_worse_0 : List UInt8 := dkwX0_worse_0 ++ dktX0_worse_1
theorem dksX0_worse_0 : cX0_worse.data.toList.drop 0 = dktX0_worse_0 := by decide +kernel
theorem dksX0_worse_1 : cX0_worse.data.toList.drop 23 = dktX0_worse_1 := dk_seg dksX0_worse_0 23 rfl rfl
theorem dksX0_worse_2 : cX0_worse.data.toList.drop 47 = dktX0_worse_2 := dk_seg dksX0_worse_1 24 rfl rfl
theorem dksX0_worse_3 : cX0_worse.data.toList.drop 71 = dktX0_worse_3 := dk_seg dksX0_worse_2 24 rfl rfl
theorem dksX0_worse_4 : cX0_worse.data.toList.drop 95 = dktX0_worse_4 := dk_seg dksX0_worse_3 24 rfl rfl
theorem dX0_worse_0 : decode cX0_worse 0 = .ok (.aload_n 0, 1) := dk_42 (dk_at dksX0_worse_0 0 rfl rfl)
theorem dX0_worse_1 : decode cX0_worse 1 = .ok (.iload_n 1, 1) := dk_27 (dk_at dksX0_worse_0 1 rfl rfl)
theorem dX0_worse_2 : decode cX0_worse 2 = .ok (.invokevirtual 158, 3) := dk_182 0 158 (dk_at dksX0_worse_0 2 rfl rfl)
theorem dX0_worse_5 : decode cX0_worse 5 = .ok (.ifCond .ne 9, 3) := dk_154 0 9 (dk_at dksX0_worse_0 5 rfl rfl)
theorem dX0_worse_8 : decode cX0_worse 8 = .ok (.aload_n 0, 1) := dk_42 (dk_at dksX0_worse_0 8 rfl rfl)
theorem dX0_worse_9 : decode cX0_worse 9 = .ok (.iconst 2, 1) := dk_5 (dk_at dksX0_worse_0 9 rfl rfl)
theorem dX0_worse_10 : decode cX0_worse 10 = .ok (.invokevirtual 97, 3) := dk_182 0 97 (dk_at dksX0_worse_0 10 rfl rfl)
theorem dX0_worse_13 : decode cX0_worse 13 = .ok (.ireturn, 1) := dk_172 (dk_at dksX0_worse_0 13 rfl rfl)
theorem dX0_worse_14 : decode cX0_worse 14 = .ok (.iload_n 2, 1) := dk_28 (dk_at dksX0_worse_0 14 rfl rfl)
theorem dX0_worse_15 : decode cX0_worse 15 = .ok (.i2l, 1) := dk_133 (dk_at dksX0_worse_0 15 rfl rfl)
theorem dX0_worse_16 : decode cX0_worse 16 = .ok (.lconst 0, 1) := dk_9 (dk_at dksX0_worse_0 16 rfl rfl)
theorem dX0_worse_17 : decode cX0_worse 17 = .ok (.ldc2_w 311, 3) := dk_20 1 55 (dk_at dksX0_worse_0 17 rfl rfl)
theorem dX0_worse_20 : decode cX0_worse 20 = .ok (.invokestatic 289, 3) := dk_184 1 33 (dk_at dksX0_worse_0 20 rfl rfl)
theorem dX0_worse_23 : decode cX0_worse 23 = .ok (.ifCond .ne 9, 3) := dk_154 0 9 (dk_at dksX0_worse_1 0 rfl rfl)
theorem dX0_worse_26 : decode cX0_worse 26 = .ok (.aload_n 0, 1) := dk_42 (dk_at dksX0_worse_1 3 rfl rfl)
theorem dX0_worse_27 : decode cX0_worse 27 = .ok (.iconst 5, 1) := dk_8 (dk_at dksX0_worse_1 4 rfl rfl)
theorem dX0_worse_28 : decode cX0_worse 28 = .ok (.invokevirtual 97, 3) := dk_182 0 97 (dk_at dksX0_worse_1 5 rfl rfl)
theorem dX0_worse_31 : decode cX0_worse 31 = .ok (.ireturn, 1) := dk_172 (dk_at dksX0_worse_1 8 rfl rfl)
theorem dX0_worse_32 : decode cX0_worse 32 = .ok (.aload_n 0, 1) := dk_42 (dk_at dksX0_worse_1 9 rfl rfl)
theorem dX0_worse_33 : decode cX0_worse 33 = .ok (.getfield 38, 3) := dk_180 0 38 (dk_at dksX0_worse_1 10 rfl rfl)
theorem dX0_worse_36 : decode cX0_worse 36 = .ok (.getfield 161, 3) := dk_180 0 161 (dk_at dksX0_worse_1 13 rfl rfl)
theorem dX0_worse_39 : decode cX0_worse 39 = .ok (.iload_n 1, 1) := dk_27 (dk_at dksX0_worse_1 16 rfl rfl)
theorem dX0_worse_40 : decode cX0_worse 40 = .ok (.aaload, 1) := dk_50 (dk_at dksX0_worse_1 17 rfl rfl)
theorem dX0_worse_41 : decode cX0_worse 41 = .ok (.getfield 165, 3) := dk_180 0 165 (dk_at dksX0_worse_1 18 rfl rfl)
theorem dX0_worse_44 : decode cX0_worse 44 = .ok (.ifCond .eq 10, 3) := dk_153 0 10 (dk_at dksX0_worse_1 21 rfl rfl)
theorem dX0_worse_47 : decode cX0_worse 47 = .ok (.aload_n 0, 1) := dk_42 (dk_at dksX0_worse_2 0 rfl rfl)
theorem dX0_worse_48 : decode cX0_worse 48 = .ok (.bipush 9, 2) := dk_16 9 (dk_at dksX0_worse_2 1 rfl rfl)
theorem dX0_worse_50 : decode cX0_worse 50 = .ok (.invokevirtual 97, 3) := dk_182 0 97 (dk_at dksX0_worse_2 3 rfl rfl)
theorem dX0_worse_53 : decode cX0_worse 53 = .ok (.ireturn, 1) := dk_172 (dk_at dksX0_worse_2 6 rfl rfl)
theorem dX0_worse_54 : decode cX0_worse 54 = .ok (.aload_n 0, 1) := dk_42 (dk_at dksX0_worse_2 7 rfl rfl)
theorem dX0_worse_55 : decode cX0_worse 55 = .ok (.getfield 38, 3) := dk_180 0 38 (dk_at dksX0_worse_2 8 rfl rfl)
theorem dX0_worse_58 : decode cX0_worse 58 = .ok (.astore_n 3, 1) := dk_78 (dk_at dksX0_worse_2 11 rfl rfl)
theorem dX0_worse_59 : decode cX0_worse 59 = .ok (.aload_n 0, 1) := dk_42 (dk_at dksX0_worse_2 12 rfl rfl)
theorem dX0_worse_60 : decode cX0_worse 60 = .ok (.iload_n 2, 1) := dk_28 (dk_at dksX0_worse_2 13 rfl rfl)
theorem dX0_worse_61 : decode cX0_worse 61 = .ok (.invokevirtual 354, 3) := dk_182 1 98 (dk_at dksX0_worse_2 14 rfl rfl)
theorem dX0_worse_64 : decode cX0_worse 64 = .ok (.istore 4, 2) := dk_54 4 (dk_at dksX0_worse_2 17 rfl rfl)
theorem dX0_worse_66 : decode cX0_worse 66 = .ok (.aload_n 0, 1) := dk_42 (dk_at dksX0_worse_2 19 rfl rfl)
theorem dX0_worse_67 : decode cX0_worse 67 = .ok (.aload_n 3, 1) := dk_45 (dk_at dksX0_worse_2 20 rfl rfl)
theorem dX0_worse_68 : decode cX0_worse 68 = .ok (.invokevirtual 357, 3) := dk_182 1 101 (dk_at dksX0_worse_2 21 rfl rfl)
theorem dX0_worse_71 : decode cX0_worse 71 = .ok (.putfield 38, 3) := dk_181 0 38 (dk_at dksX0_worse_3 0 rfl rfl)
theorem dX0_worse_74 : decode cX0_worse 74 = .ok (.aload_n 0, 1) := dk_42 (dk_at dksX0_worse_3 3 rfl rfl)
theorem dX0_worse_75 : decode cX0_worse 75 = .ok (.getfield 38, 3) := dk_180 0 38 (dk_at dksX0_worse_3 4 rfl rfl)
theorem dX0_worse_78 : decode cX0_worse 78 = .ok (.iload_n 1, 1) := dk_27 (dk_at dksX0_worse_3 7 rfl rfl)
theorem dX0_worse_79 : decode cX0_worse 79 = .ok (.invokevirtual 302, 3) := dk_182 1 46 (dk_at dksX0_worse_3 8 rfl rfl)
theorem dX0_worse_82 : decode cX0_worse 82 = .ok (.pop, 1) := dk_87 (dk_at dksX0_worse_3 11 rfl rfl)
theorem dX0_worse_83 : decode cX0_worse 83 = .ok (.aload_n 0, 1) := dk_42 (dk_at dksX0_worse_3 12 rfl rfl)
theorem dX0_worse_84 : decode cX0_worse 84 = .ok (.iload_n 2, 1) := dk_28 (dk_at dksX0_worse_3 13 rfl rfl)
theorem dX0_worse_85 : decode cX0_worse 85 = .ok (.invokevirtual 354, 3) := dk_182 1 98 (dk_at dksX0_worse_3 14 rfl rfl)
theorem dX0_worse_88 : decode cX0_worse 88 = .ok (.istore 5, 2) := dk_54 5 (dk_at dksX0_worse_3 17 rfl rfl)
theorem dX0_worse_90 : decode cX0_worse 90 = .ok (.aload_n 0, 1) := dk_42 (dk_at dksX0_worse_3 19 rfl rfl)
theorem dX0_worse_91 : decode cX0_worse 91 = .ok (.aload_n 3, 1) := dk_45 (dk_at dksX0_worse_3 20 rfl rfl)
theorem dX0_worse_92 : decode cX0_worse 92 = .ok (.putfield 38, 3) := dk_181 0 38 (dk_at dksX0_worse_3 21 rfl rfl)
theorem dX0_worse_95 : decode cX0_worse 95 = .ok (.aload_n 0, 1) := dk_42 (dk_at dksX0_worse_4 0 rfl rfl)
theorem dX0_worse_96 : decode cX0_worse 96 = .ok (.iload 5, 2) := dk_21 5 (dk_at dksX0_worse_4 1 rfl rfl)
theorem dX0_worse_98 : decode cX0_worse 98 = .ok (.iload 4, 2) := dk_21 4 (dk_at dksX0_worse_4 3 rfl rfl)
theorem dX0_worse_100 : decode cX0_worse 100 = .ok (.isub, 1) := dk_100 (dk_at dksX0_worse_4 5 rfl rfl)
theorem dX0_worse_101 : decode cX0_worse 101 = .ok (.invokevirtual 101, 3) := dk_182 0 101 (dk_at dksX0_worse_4 6 rfl rfl)
theorem dX0_worse_104 : decode cX0_worse 104 = .ok (.ireturn, 1) := dk_172 (dk_at dksX0_worse_4 9 rfl rfl)
abbrev cX0_worst : ByteArray := prog_1_method_54_code
def yX0_worst : MethodName := ⟨RX0, "worst", "()I"⟩
def dkwX0_worst_2 : List UInt8 := [182, 0, 254, 164, 0, 5, 28, 60, 132, 2, 1, 167, 255, 201, 42, 27, 182, 1, 19, 172]
abbrev dktX0_worst_2 : List UInt8 := dkwX0_worst_2 ++ []
def dkwX0_worst_1 : List UInt8 := [180, 0, 165, 154, 0, 29, 27, 2, 159, 0, 22, 42, 180, 0, 38, 28, 182, 0, 254, 42, 180, 0, 38, 27]
abbrev dktX0_worst_1 : List UInt8 := dkwX0_worst_1 ++ dktX0_worst_2
def dkwX0_worst_0 : List UInt8 := [2, 60, 3, 61, 28, 42, 180, 0, 38, 180, 0, 152, 162, 0, 50, 42, 180, 0, 38, 180, 0, 161, 28, 50]
abbrev dktX0_worst_0 : List UInt8 := dkwX0_worst_0 ++ dktX0_worst_1
theorem dksX0_worst_0 : cX0_worst.data.toList.drop 0 = dktX0_worst_0 := by decide +kernel
theorem dksX0_worst_1 : cX0_worst.data.toList.drop 24 = dktX0_worst_1 := dk_seg dksX0_worst_0 24 rfl rfl
theorem dksX0_worst_2 : cX0_worst.data.toList.drop 48 = dktX0_worst_2 := dk_seg dksX0_worst_1 24 rfl rfl
theorem dX0_worst_0 : decode cX0_worst 0 = .ok (.iconst (-1), 1) := dk_2 (dk_at dksX0_worst_0 0 rfl rfl)
theorem dX0_worst_1 : decode cX0_worst 1 = .ok (.istore_n 1, 1) := dk_60 (dk_at dksX0_worst_0 1 rfl rfl)
theorem dX0_worst_2 : decode cX0_worst 2 = .ok (.iconst 0, 1) := dk_3 (dk_at dksX0_worst_0 2 rfl rfl)
theorem dX0_worst_3 : decode cX0_worst 3 = .ok (.istore_n 2, 1) := dk_61 (dk_at dksX0_worst_0 3 rfl rfl)
theorem dX0_worst_4 : decode cX0_worst 4 = .ok (.iload_n 2, 1) := dk_28 (dk_at dksX0_worst_0 4 rfl rfl)
theorem dX0_worst_5 : decode cX0_worst 5 = .ok (.aload_n 0, 1) := dk_42 (dk_at dksX0_worst_0 5 rfl rfl)
theorem dX0_worst_6 : decode cX0_worst 6 = .ok (.getfield 38, 3) := dk_180 0 38 (dk_at dksX0_worst_0 6 rfl rfl)
theorem dX0_worst_9 : decode cX0_worst 9 = .ok (.getfield 152, 3) := dk_180 0 152 (dk_at dksX0_worst_0 9 rfl rfl)
theorem dX0_worst_12 : decode cX0_worst 12 = .ok (.if_icmp .ge 50, 3) := dk_162 0 50 (dk_at dksX0_worst_0 12 rfl rfl)
theorem dX0_worst_15 : decode cX0_worst 15 = .ok (.aload_n 0, 1) := dk_42 (dk_at dksX0_worst_0 15 rfl rfl)
theorem dX0_worst_16 : decode cX0_worst 16 = .ok (.getfield 38, 3) := dk_180 0 38 (dk_at dksX0_worst_0 16 rfl rfl)
theorem dX0_worst_19 : decode cX0_worst 19 = .ok (.getfield 161, 3) := dk_180 0 161 (dk_at dksX0_worst_0 19 rfl rfl)
theorem dX0_worst_22 : decode cX0_worst 22 = .ok (.iload_n 2, 1) := dk_28 (dk_at dksX0_worst_0 22 rfl rfl)
theorem dX0_worst_23 : decode cX0_worst 23 = .ok (.aaload, 1) := dk_50 (dk_at dksX0_worst_0 23 rfl rfl)
theorem dX0_worst_24 : decode cX0_worst 24 = .ok (.getfield 165, 3) := dk_180 0 165 (dk_at dksX0_worst_1 0 rfl rfl)
theorem dX0_worst_27 : decode cX0_worst 27 = .ok (.ifCond .ne 29, 3) := dk_154 0 29 (dk_at dksX0_worst_1 3 rfl rfl)
theorem dX0_worst_30 : decode cX0_worst 30 = .ok (.iload_n 1, 1) := dk_27 (dk_at dksX0_worst_1 6 rfl rfl)
theorem dX0_worst_31 : decode cX0_worst 31 = .ok (.iconst (-1), 1) := dk_2 (dk_at dksX0_worst_1 7 rfl rfl)
theorem dX0_worst_32 : decode cX0_worst 32 = .ok (.if_icmp .eq 22, 3) := dk_159 0 22 (dk_at dksX0_worst_1 8 rfl rfl)
theorem dX0_worst_35 : decode cX0_worst 35 = .ok (.aload_n 0, 1) := dk_42 (dk_at dksX0_worst_1 11 rfl rfl)
theorem dX0_worst_36 : decode cX0_worst 36 = .ok (.getfield 38, 3) := dk_180 0 38 (dk_at dksX0_worst_1 12 rfl rfl)
theorem dX0_worst_39 : decode cX0_worst 39 = .ok (.iload_n 2, 1) := dk_28 (dk_at dksX0_worst_1 15 rfl rfl)
theorem dX0_worst_40 : decode cX0_worst 40 = .ok (.invokevirtual 254, 3) := dk_182 0 254 (dk_at dksX0_worst_1 16 rfl rfl)
theorem dX0_worst_43 : decode cX0_worst 43 = .ok (.aload_n 0, 1) := dk_42 (dk_at dksX0_worst_1 19 rfl rfl)
theorem dX0_worst_44 : decode cX0_worst 44 = .ok (.getfield 38, 3) := dk_180 0 38 (dk_at dksX0_worst_1 20 rfl rfl)
theorem dX0_worst_47 : decode cX0_worst 47 = .ok (.iload_n 1, 1) := dk_27 (dk_at dksX0_worst_1 23 rfl rfl)
theorem dX0_worst_48 : decode cX0_worst 48 = .ok (.invokevirtual 254, 3) := dk_182 0 254 (dk_at dksX0_worst_2 0 rfl rfl)
theorem dX0_worst_51 : decode cX0_worst 51 = .ok (.if_icmp .le 5, 3) := dk_164 0 5 (dk_at dksX0_worst_2 3 rfl rfl)
theorem dX0_worst_54 : decode cX0_worst 54 = .ok (.iload_n 2, 1) := dk_28 (dk_at dksX0_worst_2 6 rfl rfl)
theorem dX0_worst_55 : decode cX0_worst 55 = .ok (.istore_n 1, 1) := dk_60 (dk_at dksX0_worst_2 7 rfl rfl)
theorem dX0_worst_56 : decode cX0_worst 56 = .ok (.iinc 2 1, 3) := dk_132 2 1 (dk_at dksX0_worst_2 8 rfl rfl)
theorem dX0_worst_59 : decode cX0_worst 59 = .ok (.goto (-55), 3) := dk_167 255 201 (dk_at dksX0_worst_2 11 rfl rfl)
theorem dX0_worst_62 : decode cX0_worst 62 = .ok (.aload_n 0, 1) := dk_42 (dk_at dksX0_worst_2 14 rfl rfl)
theorem dX0_worst_63 : decode cX0_worst 63 = .ok (.iload_n 1, 1) := dk_27 (dk_at dksX0_worst_2 15 rfl rfl)
theorem dX0_worst_64 : decode cX0_worst 64 = .ok (.invokevirtual 275, 3) := dk_182 1 19 (dk_at dksX0_worst_2 16 rfl rfl)
theorem dX0_worst_67 : decode cX0_worst 67 = .ok (.ireturn, 1) := dk_172 (dk_at dksX0_worst_2 19 rfl rfl)
abbrev cX0_key : ByteArray := prog_1_method_55_code
def yX0_key : MethodName := ⟨RX0, "key", "()I"⟩
def dkwX0_key_4 : List UInt8 := [43, 181, 0, 38, 42, 28, 182, 1, 19, 172]
abbrev dktX0_key_4 : List UInt8 := dkwX0_key_4 ++ []
def dkwX0_key_3 : List UInt8 := [161, 0, 6, 167, 0, 14, 21, 4, 61, 42, 180, 0, 38, 182, 1, 89, 62, 132, 4, 1, 167, 255, 180, 42]
abbrev dktX0_key_3 : List UInt8 := dkwX0_key_3 ++ dktX0_key_4
def dkwX0_key_2 : List UInt8 := [180, 0, 38, 21, 4, 182, 1, 49, 87, 28, 2, 159, 0, 17, 42, 180, 0, 38, 182, 1, 89, 29]
abbrev dktX0_key_2 : List UInt8 := dkwX0_key_2 ++ dktX0_key_3
def dkwX0_key_1 : List UInt8 := [180, 0, 161, 21, 4, 50, 180, 0, 165, 153, 0, 6, 167, 0, 51, 42, 43, 182, 1, 101, 181, 0, 38, 42]
abbrev dktX0_key_1 : List UInt8 := dkwX0_key_1 ++ dktX0_key_2
def dkwX0_key_0 : List UInt8 := [42, 180, 0, 38, 76, 2, 61, 3, 62, 3, 54, 4, 21, 4, 43, 180, 0, 152, 162, 0, 73, 43]
abbrev dktX0_key_0 : List UInt8 := dkwX0_key_0 ++ dktX0_key_1
theorem dksX0_key_0 : cX0_key.data.toList.drop 0 = dktX0_key_0 := by decide +kernel
theorem dksX0_key_1 : cX0_key.data.toList.drop 22 = dktX0_key_1 := dk_seg dksX0_key_0 22 rfl rfl
theorem dksX0_key_2 : cX0_key.data.toList.drop 46 = dktX0_key_2 := dk_seg dksX0_key_1 24 rfl rfl
theorem dksX0_key_3 : cX0_key.data.toList.drop 68 = dktX0_key_3 := dk_seg dksX0_key_2 22 rfl rfl
theorem dksX0_key_4 : cX0_key.data.toList.drop 92 = dktX0_key_4 := dk_seg dksX0_key_3 24 rfl rfl
theorem dX0_key_0 : decode cX0_key 0 = .ok (.aload_n 0, 1) := dk_42 (dk_at dksX0_key_0 0 rfl rfl)
theorem dX0_key_1 : decode cX0_key 1 = .ok (.getfield 38, 3) := dk_180 0 38 (dk_at dksX0_key_0 1 rfl rfl)
theorem dX0_key_4 : decode cX0_key 4 = .ok (.astore_n 1, 1) := dk_76 (dk_at dksX0_key_0 4 rfl rfl)
theorem dX0_key_5 : decode cX0_key 5 = .ok (.iconst (-1), 1) := dk_2 (dk_at dksX0_key_0 5 rfl rfl)
theorem dX0_key_6 : decode cX0_key 6 = .ok (.istore_n 2, 1) := dk_61 (dk_at dksX0_key_0 6 rfl rfl)
theorem dX0_key_7 : decode cX0_key 7 = .ok (.iconst 0, 1) := dk_3 (dk_at dksX0_key_0 7 rfl rfl)
theorem dX0_key_8 : decode cX0_key 8 = .ok (.istore_n 3, 1) := dk_62 (dk_at dksX0_key_0 8 rfl rfl)
theorem dX0_key_9 : decode cX0_key 9 = .ok (.iconst 0, 1) := dk_3 (dk_at dksX0_key_0 9 rfl rfl)
theorem dX0_key_10 : decode cX0_key 10 = .ok (.istore 4, 2) := dk_54 4 (dk_at dksX0_key_0 10 rfl rfl)
theorem dX0_key_12 : decode cX0_key 12 = .ok (.iload 4, 2) := dk_21 4 (dk_at dksX0_key_0 12 rfl rfl)
theorem dX0_key_14 : decode cX0_key 14 = .ok (.aload_n 1, 1) := dk_43 (dk_at dksX0_key_0 14 rfl rfl)
theorem dX0_key_15 : decode cX0_key 15 = .ok (.getfield 152, 3) := dk_180 0 152 (dk_at dksX0_key_0 15 rfl rfl)
theorem dX0_key_18 : decode cX0_key 18 = .ok (.if_icmp .ge 73, 3) := dk_162 0 73 (dk_at dksX0_key_0 18 rfl rfl)
theorem dX0_key_21 : decode cX0_key 21 = .ok (.aload_n 1, 1) := dk_43 (dk_at dksX0_key_0 21 rfl rfl)
theorem dX0_key_22 : decode cX0_key 22 = .ok (.getfield 161, 3) := dk_180 0 161 (dk_at dksX0_key_1 0 rfl rfl)
theorem dX0_key_25 : decode cX0_key 25 = .ok (.iload 4, 2) := dk_21 4 (dk_at dksX0_key_1 3 rfl rfl)
theorem dX0_key_27 : decode cX0_key 27 = .ok (.aaload, 1) := dk_50 (dk_at dksX0_key_1 5 rfl rfl)
theorem dX0_key_28 : decode cX0_key 28 = .ok (.getfield 165, 3) := dk_180 0 165 (dk_at dksX0_key_1 6 rfl rfl)
theorem dX0_key_31 : decode cX0_key 31 = .ok (.ifCond .eq 6, 3) := dk_153 0 6 (dk_at dksX0_key_1 9 rfl rfl)
theorem dX0_key_34 : decode cX0_key 34 = .ok (.goto 51, 3) := dk_167 0 51 (dk_at dksX0_key_1 12 rfl rfl)
theorem dX0_key_37 : decode cX0_key 37 = .ok (.aload_n 0, 1) := dk_42 (dk_at dksX0_key_1 15 rfl rfl)
theorem dX0_key_38 : decode cX0_key 38 = .ok (.aload_n 1, 1) := dk_43 (dk_at dksX0_key_1 16 rfl rfl)
theorem dX0_key_39 : decode cX0_key 39 = .ok (.invokevirtual 357, 3) := dk_182 1 101 (dk_at dksX0_key_1 17 rfl rfl)
theorem dX0_key_42 : decode cX0_key 42 = .ok (.putfield 38, 3) := dk_181 0 38 (dk_at dksX0_key_1 20 rfl rfl)
theorem dX0_key_45 : decode cX0_key 45 = .ok (.aload_n 0, 1) := dk_42 (dk_at dksX0_key_1 23 rfl rfl)
theorem dX0_key_46 : decode cX0_key 46 = .ok (.getfield 38, 3) := dk_180 0 38 (dk_at dksX0_key_2 0 rfl rfl)
theorem dX0_key_49 : decode cX0_key 49 = .ok (.iload 4, 2) := dk_21 4 (dk_at dksX0_key_2 3 rfl rfl)
theorem dX0_key_51 : decode cX0_key 51 = .ok (.invokevirtual 305, 3) := dk_182 1 49 (dk_at dksX0_key_2 5 rfl rfl)
theorem dX0_key_54 : decode cX0_key 54 = .ok (.pop, 1) := dk_87 (dk_at dksX0_key_2 8 rfl rfl)
theorem dX0_key_55 : decode cX0_key 55 = .ok (.iload_n 2, 1) := dk_28 (dk_at dksX0_key_2 9 rfl rfl)
theorem dX0_key_56 : decode cX0_key 56 = .ok (.iconst (-1), 1) := dk_2 (dk_at dksX0_key_2 10 rfl rfl)
theorem dX0_key_57 : decode cX0_key 57 = .ok (.if_icmp .eq 17, 3) := dk_159 0 17 (dk_at dksX0_key_2 11 rfl rfl)
theorem dX0_key_60 : decode cX0_key 60 = .ok (.aload_n 0, 1) := dk_42 (dk_at dksX0_key_2 14 rfl rfl)
theorem dX0_key_61 : decode cX0_key 61 = .ok (.getfield 38, 3) := dk_180 0 38 (dk_at dksX0_key_2 15 rfl rfl)
theorem dX0_key_64 : decode cX0_key 64 = .ok (.invokevirtual 345, 3) := dk_182 1 89 (dk_at dksX0_key_2 18 rfl rfl)
theorem dX0_key_67 : decode cX0_key 67 = .ok (.iload_n 3, 1) := dk_29 (dk_at dksX0_key_2 21 rfl rfl)
theorem dX0_key_68 : decode cX0_key 68 = .ok (.if_icmp .lt 6, 3) := dk_161 0 6 (dk_at dksX0_key_3 0 rfl rfl)
theorem dX0_key_71 : decode cX0_key 71 = .ok (.goto 14, 3) := dk_167 0 14 (dk_at dksX0_key_3 3 rfl rfl)
theorem dX0_key_74 : decode cX0_key 74 = .ok (.iload 4, 2) := dk_21 4 (dk_at dksX0_key_3 6 rfl rfl)
theorem dX0_key_76 : decode cX0_key 76 = .ok (.istore_n 2, 1) := dk_61 (dk_at dksX0_key_3 8 rfl rfl)
theorem dX0_key_77 : decode cX0_key 77 = .ok (.aload_n 0, 1) := dk_42 (dk_at dksX0_key_3 9 rfl rfl)
theorem dX0_key_78 : decode cX0_key 78 = .ok (.getfield 38, 3) := dk_180 0 38 (dk_at dksX0_key_3 10 rfl rfl)
theorem dX0_key_81 : decode cX0_key 81 = .ok (.invokevirtual 345, 3) := dk_182 1 89 (dk_at dksX0_key_3 13 rfl rfl)
theorem dX0_key_84 : decode cX0_key 84 = .ok (.istore_n 3, 1) := dk_62 (dk_at dksX0_key_3 16 rfl rfl)
theorem dX0_key_85 : decode cX0_key 85 = .ok (.iinc 4 1, 3) := dk_132 4 1 (dk_at dksX0_key_3 17 rfl rfl)
theorem dX0_key_88 : decode cX0_key 88 = .ok (.goto (-76), 3) := dk_167 255 180 (dk_at dksX0_key_3 20 rfl rfl)
theorem dX0_key_91 : decode cX0_key 91 = .ok (.aload_n 0, 1) := dk_42 (dk_at dksX0_key_3 23 rfl rfl)
theorem dX0_key_92 : decode cX0_key 92 = .ok (.aload_n 1, 1) := dk_43 (dk_at dksX0_key_4 0 rfl rfl)
theorem dX0_key_93 : decode cX0_key 93 = .ok (.putfield 38, 3) := dk_181 0 38 (dk_at dksX0_key_4 1 rfl rfl)
theorem dX0_key_96 : decode cX0_key 96 = .ok (.aload_n 0, 1) := dk_42 (dk_at dksX0_key_4 4 rfl rfl)
theorem dX0_key_97 : decode cX0_key 97 = .ok (.iload_n 2, 1) := dk_28 (dk_at dksX0_key_4 5 rfl rfl)
theorem dX0_key_98 : decode cX0_key 98 = .ok (.invokevirtual 275, 3) := dk_182 1 19 (dk_at dksX0_key_4 6 rfl rfl)
theorem dX0_key_101 : decode cX0_key 101 = .ok (.ireturn, 1) := dk_172 (dk_at dksX0_key_4 9 rfl rfl)
abbrev cX0_alone : ByteArray := prog_1_method_63_code
def yX0_alone : MethodName := ⟨RX0, "alone", "(I)I"⟩
def dkwX0_alone_1 : List UInt8 := [180, 0, 60, 3, 42, 180, 0, 63, 3, 7, 184, 0, 144, 42, 4, 181, 1, 142, 42, 29, 182, 0, 101, 172]
abbrev dktX0_alone_1 : List UInt8 := dkwX0_alone_1 ++ []
def dkwX0_alone_0 : List UInt8 := [42, 27, 182, 1, 43, 61, 28, 158, 0, 9, 42, 28, 182, 0, 97, 172, 42, 27, 182, 1, 139, 62, 42]
abbrev dktX0_alone_0 : List UInt8 := dkwX0_alone_0 ++ dktX0_alone_1
theorem dksX0_alone_0 : cX0_alone.data.toList.drop 0 = dktX0_alone_0 := by decide +kernel
theorem dksX0_alone_1 : cX0_alone.data.toList.drop 23 = dktX0_alone_1 := dk_seg dksX0_alone_0 23 rfl rfl
theorem dX0_alone_0 : decode cX0_alone 0 = .ok (.aload_n 0, 1) := dk_42 (dk_at dksX0_alone_0 0 rfl rfl)
theorem dX0_alone_1 : decode cX0_alone 1 = .ok (.iload_n 1, 1) := dk_27 (dk_at dksX0_alone_0 1 rfl rfl)
theorem dX0_alone_2 : decode cX0_alone 2 = .ok (.invokevirtual 299, 3) := dk_182 1 43 (dk_at dksX0_alone_0 2 rfl rfl)
theorem dX0_alone_5 : decode cX0_alone 5 = .ok (.istore_n 2, 1) := dk_61 (dk_at dksX0_alone_0 5 rfl rfl)
theorem dX0_alone_6 : decode cX0_alone 6 = .ok (.iload_n 2, 1) := dk_28 (dk_at dksX0_alone_0 6 rfl rfl)
theorem dX0_alone_7 : decode cX0_alone 7 = .ok (.ifCond .le 9, 3) := dk_158 0 9 (dk_at dksX0_alone_0 7 rfl rfl)
theorem dX0_alone_10 : decode cX0_alone 10 = .ok (.aload_n 0, 1) := dk_42 (dk_at dksX0_alone_0 10 rfl rfl)
theorem dX0_alone_11 : decode cX0_alone 11 = .ok (.iload_n 2, 1) := dk_28 (dk_at dksX0_alone_0 11 rfl rfl)
theorem dX0_alone_12 : decode cX0_alone 12 = .ok (.invokevirtual 97, 3) := dk_182 0 97 (dk_at dksX0_alone_0 12 rfl rfl)
theorem dX0_alone_15 : decode cX0_alone 15 = .ok (.ireturn, 1) := dk_172 (dk_at dksX0_alone_0 15 rfl rfl)
theorem dX0_alone_16 : decode cX0_alone 16 = .ok (.aload_n 0, 1) := dk_42 (dk_at dksX0_alone_0 16 rfl rfl)
theorem dX0_alone_17 : decode cX0_alone 17 = .ok (.iload_n 1, 1) := dk_27 (dk_at dksX0_alone_0 17 rfl rfl)
theorem dX0_alone_18 : decode cX0_alone 18 = .ok (.invokevirtual 395, 3) := dk_182 1 139 (dk_at dksX0_alone_0 18 rfl rfl)
theorem dX0_alone_21 : decode cX0_alone 21 = .ok (.istore_n 3, 1) := dk_62 (dk_at dksX0_alone_0 21 rfl rfl)
theorem dX0_alone_22 : decode cX0_alone 22 = .ok (.aload_n 0, 1) := dk_42 (dk_at dksX0_alone_0 22 rfl rfl)
theorem dX0_alone_23 : decode cX0_alone 23 = .ok (.getfield 60, 3) := dk_180 0 60 (dk_at dksX0_alone_1 0 rfl rfl)
theorem dX0_alone_26 : decode cX0_alone 26 = .ok (.iconst 0, 1) := dk_3 (dk_at dksX0_alone_1 3 rfl rfl)
theorem dX0_alone_27 : decode cX0_alone 27 = .ok (.aload_n 0, 1) := dk_42 (dk_at dksX0_alone_1 4 rfl rfl)
theorem dX0_alone_28 : decode cX0_alone 28 = .ok (.getfield 63, 3) := dk_180 0 63 (dk_at dksX0_alone_1 5 rfl rfl)
theorem dX0_alone_31 : decode cX0_alone 31 = .ok (.iconst 0, 1) := dk_3 (dk_at dksX0_alone_1 8 rfl rfl)
theorem dX0_alone_32 : decode cX0_alone 32 = .ok (.iconst 4, 1) := dk_7 (dk_at dksX0_alone_1 9 rfl rfl)
theorem dX0_alone_33 : decode cX0_alone 33 = .ok (.invokestatic 144, 3) := dk_184 0 144 (dk_at dksX0_alone_1 10 rfl rfl)
theorem dX0_alone_36 : decode cX0_alone 36 = .ok (.aload_n 0, 1) := dk_42 (dk_at dksX0_alone_1 13 rfl rfl)
theorem dX0_alone_37 : decode cX0_alone 37 = .ok (.iconst 1, 1) := dk_4 (dk_at dksX0_alone_1 14 rfl rfl)
theorem dX0_alone_38 : decode cX0_alone 38 = .ok (.putfield 398, 3) := dk_181 1 142 (dk_at dksX0_alone_1 15 rfl rfl)
theorem dX0_alone_41 : decode cX0_alone 41 = .ok (.aload_n 0, 1) := dk_42 (dk_at dksX0_alone_1 18 rfl rfl)
theorem dX0_alone_42 : decode cX0_alone 42 = .ok (.iload_n 3, 1) := dk_29 (dk_at dksX0_alone_1 19 rfl rfl)
theorem dX0_alone_43 : decode cX0_alone 43 = .ok (.invokevirtual 101, 3) := dk_182 0 101 (dk_at dksX0_alone_1 20 rfl rfl)
theorem dX0_alone_46 : decode cX0_alone 46 = .ok (.ireturn, 1) := dk_172 (dk_at dksX0_alone_1 23 rfl rfl)
abbrev cX0_aloneOf : ByteArray := prog_1_method_62_code
def yX0_aloneOf : MethodName := ⟨RX0, "aloneOf", "(I)I"⟩
def dkwX0_aloneOf_4 : List UInt8 := [162, 0, 7, 4, 167, 0, 4, 3, 79, 132, 4, 1, 167, 255, 159, 28, 172]
abbrev dktX0_aloneOf_4 : List UInt8 := dkwX0_aloneOf_4 ++ []
def dkwX0_aloneOf_3 : List UInt8 := [180, 1, 129, 79, 42, 180, 0, 60, 6, 42, 180, 1, 126, 42, 180, 1, 129, 96, 42, 180, 1, 108]
abbrev dktX0_aloneOf_3 : List UInt8 := dkwX0_aloneOf_3 ++ dktX0_aloneOf_4
def dkwX0_aloneOf_2 : List UInt8 := [42, 180, 0, 60, 3, 21, 4, 79, 42, 180, 0, 60, 4, 42, 180, 1, 126, 79, 42, 180, 0, 60, 5, 42]
abbrev dktX0_aloneOf_2 : List UInt8 := dkwX0_aloneOf_2 ++ dktX0_aloneOf_3
def dkwX0_aloneOf_1 : List UInt8 := [96, 54, 5, 29, 42, 21, 4, 182, 1, 136, 96, 62, 21, 5, 28, 161, 0, 6, 167, 0, 61, 21, 5, 61]
abbrev dktX0_aloneOf_1 : List UInt8 := dkwX0_aloneOf_1 ++ dktX0_aloneOf_2
def dkwX0_aloneOf_0 : List UInt8 := [19, 1, 119, 61, 3, 62, 3, 54, 4, 21, 4, 7, 162, 0, 97, 29, 42, 27, 3, 21, 4, 182, 1, 132]
abbrev dktX0_aloneOf_0 : List UInt8 := dkwX0_aloneOf_0 ++ dktX0_aloneOf_1
theorem dksX0_aloneOf_0 : cX0_aloneOf.data.toList.drop 0 = dktX0_aloneOf_0 := by decide +kernel
theorem dksX0_aloneOf_1 : cX0_aloneOf.data.toList.drop 24 = dktX0_aloneOf_1 := dk_seg dksX0_aloneOf_0 24 rfl rfl
theorem dksX0_aloneOf_2 : cX0_aloneOf.data.toList.drop 48 = dktX0_aloneOf_2 := dk_seg dksX0_aloneOf_1 24 rfl rfl
theorem dksX0_aloneOf_3 : cX0_aloneOf.data.toList.drop 72 = dktX0_aloneOf_3 := dk_seg dksX0_aloneOf_2 24 rfl rfl
theorem dksX0_aloneOf_4 : cX0_aloneOf.data.toList.drop 94 = dktX0_aloneOf_4 := dk_seg dksX0_aloneOf_3 22 rfl rfl
theorem dX0_aloneOf_0 : decode cX0_aloneOf 0 = .ok (.ldc_w 375, 3) := dk_19 1 119 (dk_at dksX0_aloneOf_0 0 rfl rfl)
theorem dX0_aloneOf_3 : decode cX0_aloneOf 3 = .ok (.istore_n 2, 1) := dk_61 (dk_at dksX0_aloneOf_0 3 rfl rfl)
theorem dX0_aloneOf_4 : decode cX0_aloneOf 4 = .ok (.iconst 0, 1) := dk_3 (dk_at dksX0_aloneOf_0 4 rfl rfl)
theorem dX0_aloneOf_5 : decode cX0_aloneOf 5 = .ok (.istore_n 3, 1) := dk_62 (dk_at dksX0_aloneOf_0 5 rfl rfl)
theorem dX0_aloneOf_6 : decode cX0_aloneOf 6 = .ok (.iconst 0, 1) := dk_3 (dk_at dksX0_aloneOf_0 6 rfl rfl)
theorem dX0_aloneOf_7 : decode cX0_aloneOf 7 = .ok (.istore 4, 2) := dk_54 4 (dk_at dksX0_aloneOf_0 7 rfl rfl)
theorem dX0_aloneOf_9 : decode cX0_aloneOf 9 = .ok (.iload 4, 2) := dk_21 4 (dk_at dksX0_aloneOf_0 9 rfl rfl)
theorem dX0_aloneOf_11 : decode cX0_aloneOf 11 = .ok (.iconst 4, 1) := dk_7 (dk_at dksX0_aloneOf_0 11 rfl rfl)
theorem dX0_aloneOf_12 : decode cX0_aloneOf 12 = .ok (.if_icmp .ge 97, 3) := dk_162 0 97 (dk_at dksX0_aloneOf_0 12 rfl rfl)
theorem dX0_aloneOf_15 : decode cX0_aloneOf 15 = .ok (.iload_n 3, 1) := dk_29 (dk_at dksX0_aloneOf_0 15 rfl rfl)
theorem dX0_aloneOf_16 : decode cX0_aloneOf 16 = .ok (.aload_n 0, 1) := dk_42 (dk_at dksX0_aloneOf_0 16 rfl rfl)
theorem dX0_aloneOf_17 : decode cX0_aloneOf 17 = .ok (.iload_n 1, 1) := dk_27 (dk_at dksX0_aloneOf_0 17 rfl rfl)
theorem dX0_aloneOf_18 : decode cX0_aloneOf 18 = .ok (.iconst 0, 1) := dk_3 (dk_at dksX0_aloneOf_0 18 rfl rfl)
theorem dX0_aloneOf_19 : decode cX0_aloneOf 19 = .ok (.iload 4, 2) := dk_21 4 (dk_at dksX0_aloneOf_0 19 rfl rfl)
theorem dX0_aloneOf_21 : decode cX0_aloneOf 21 = .ok (.invokevirtual 388, 3) := dk_182 1 132 (dk_at dksX0_aloneOf_0 21 rfl rfl)
theorem dX0_aloneOf_24 : decode cX0_aloneOf 24 = .ok (.iadd, 1) := dk_96 (dk_at dksX0_aloneOf_1 0 rfl rfl)
theorem dX0_aloneOf_25 : decode cX0_aloneOf 25 = .ok (.istore 5, 2) := dk_54 5 (dk_at dksX0_aloneOf_1 1 rfl rfl)
theorem dX0_aloneOf_27 : decode cX0_aloneOf 27 = .ok (.iload_n 3, 1) := dk_29 (dk_at dksX0_aloneOf_1 3 rfl rfl)
theorem dX0_aloneOf_28 : decode cX0_aloneOf 28 = .ok (.aload_n 0, 1) := dk_42 (dk_at dksX0_aloneOf_1 4 rfl rfl)
theorem dX0_aloneOf_29 : decode cX0_aloneOf 29 = .ok (.iload 4, 2) := dk_21 4 (dk_at dksX0_aloneOf_1 5 rfl rfl)
theorem dX0_aloneOf_31 : decode cX0_aloneOf 31 = .ok (.invokevirtual 392, 3) := dk_182 1 136 (dk_at dksX0_aloneOf_1 7 rfl rfl)
theorem dX0_aloneOf_34 : decode cX0_aloneOf 34 = .ok (.iadd, 1) := dk_96 (dk_at dksX0_aloneOf_1 10 rfl rfl)
theorem dX0_aloneOf_35 : decode cX0_aloneOf 35 = .ok (.istore_n 3, 1) := dk_62 (dk_at dksX0_aloneOf_1 11 rfl rfl)
theorem dX0_aloneOf_36 : decode cX0_aloneOf 36 = .ok (.iload 5, 2) := dk_21 5 (dk_at dksX0_aloneOf_1 12 rfl rfl)
theorem dX0_aloneOf_38 : decode cX0_aloneOf 38 = .ok (.iload_n 2, 1) := dk_28 (dk_at dksX0_aloneOf_1 14 rfl rfl)
theorem dX0_aloneOf_39 : decode cX0_aloneOf 39 = .ok (.if_icmp .lt 6, 3) := dk_161 0 6 (dk_at dksX0_aloneOf_1 15 rfl rfl)
theorem dX0_aloneOf_42 : decode cX0_aloneOf 42 = .ok (.goto 61, 3) := dk_167 0 61 (dk_at dksX0_aloneOf_1 18 rfl rfl)
theorem dX0_aloneOf_45 : decode cX0_aloneOf 45 = .ok (.iload 5, 2) := dk_21 5 (dk_at dksX0_aloneOf_1 21 rfl rfl)
theorem dX0_aloneOf_47 : decode cX0_aloneOf 47 = .ok (.istore_n 2, 1) := dk_61 (dk_at dksX0_aloneOf_1 23 rfl rfl)
theorem dX0_aloneOf_48 : decode cX0_aloneOf 48 = .ok (.aload_n 0, 1) := dk_42 (dk_at dksX0_aloneOf_2 0 rfl rfl)
theorem dX0_aloneOf_49 : decode cX0_aloneOf 49 = .ok (.getfield 60, 3) := dk_180 0 60 (dk_at dksX0_aloneOf_2 1 rfl rfl)
theorem dX0_aloneOf_52 : decode cX0_aloneOf 52 = .ok (.iconst 0, 1) := dk_3 (dk_at dksX0_aloneOf_2 4 rfl rfl)
theorem dX0_aloneOf_53 : decode cX0_aloneOf 53 = .ok (.iload 4, 2) := dk_21 4 (dk_at dksX0_aloneOf_2 5 rfl rfl)
theorem dX0_aloneOf_55 : decode cX0_aloneOf 55 = .ok (.iastore, 1) := dk_79 (dk_at dksX0_aloneOf_2 7 rfl rfl)
theorem dX0_aloneOf_56 : decode cX0_aloneOf 56 = .ok (.aload_n 0, 1) := dk_42 (dk_at dksX0_aloneOf_2 8 rfl rfl)
theorem dX0_aloneOf_57 : decode cX0_aloneOf 57 = .ok (.getfield 60, 3) := dk_180 0 60 (dk_at dksX0_aloneOf_2 9 rfl rfl)
theorem dX0_aloneOf_60 : decode cX0_aloneOf 60 = .ok (.iconst 1, 1) := dk_4 (dk_at dksX0_aloneOf_2 12 rfl rfl)
theorem dX0_aloneOf_61 : decode cX0_aloneOf 61 = .ok (.aload_n 0, 1) := dk_42 (dk_at dksX0_aloneOf_2 13 rfl rfl)
theorem dX0_aloneOf_62 : decode cX0_aloneOf 62 = .ok (.getfield 382, 3) := dk_180 1 126 (dk_at dksX0_aloneOf_2 14 rfl rfl)
theorem dX0_aloneOf_65 : decode cX0_aloneOf 65 = .ok (.iastore, 1) := dk_79 (dk_at dksX0_aloneOf_2 17 rfl rfl)
theorem dX0_aloneOf_66 : decode cX0_aloneOf 66 = .ok (.aload_n 0, 1) := dk_42 (dk_at dksX0_aloneOf_2 18 rfl rfl)
theorem dX0_aloneOf_67 : decode cX0_aloneOf 67 = .ok (.getfield 60, 3) := dk_180 0 60 (dk_at dksX0_aloneOf_2 19 rfl rfl)
theorem dX0_aloneOf_70 : decode cX0_aloneOf 70 = .ok (.iconst 2, 1) := dk_5 (dk_at dksX0_aloneOf_2 22 rfl rfl)
theorem dX0_aloneOf_71 : decode cX0_aloneOf 71 = .ok (.aload_n 0, 1) := dk_42 (dk_at dksX0_aloneOf_2 23 rfl rfl)
theorem dX0_aloneOf_72 : decode cX0_aloneOf 72 = .ok (.getfield 385, 3) := dk_180 1 129 (dk_at dksX0_aloneOf_3 0 rfl rfl)
theorem dX0_aloneOf_75 : decode cX0_aloneOf 75 = .ok (.iastore, 1) := dk_79 (dk_at dksX0_aloneOf_3 3 rfl rfl)
theorem dX0_aloneOf_76 : decode cX0_aloneOf 76 = .ok (.aload_n 0, 1) := dk_42 (dk_at dksX0_aloneOf_3 4 rfl rfl)
theorem dX0_aloneOf_77 : decode cX0_aloneOf 77 = .ok (.getfield 60, 3) := dk_180 0 60 (dk_at dksX0_aloneOf_3 5 rfl rfl)
theorem dX0_aloneOf_80 : decode cX0_aloneOf 80 = .ok (.iconst 3, 1) := dk_6 (dk_at dksX0_aloneOf_3 8 rfl rfl)
theorem dX0_aloneOf_81 : decode cX0_aloneOf 81 = .ok (.aload_n 0, 1) := dk_42 (dk_at dksX0_aloneOf_3 9 rfl rfl)
theorem dX0_aloneOf_82 : decode cX0_aloneOf 82 = .ok (.getfield 382, 3) := dk_180 1 126 (dk_at dksX0_aloneOf_3 10 rfl rfl)
theorem dX0_aloneOf_85 : decode cX0_aloneOf 85 = .ok (.aload_n 0, 1) := dk_42 (dk_at dksX0_aloneOf_3 13 rfl rfl)
theorem dX0_aloneOf_86 : decode cX0_aloneOf 86 = .ok (.getfield 385, 3) := dk_180 1 129 (dk_at dksX0_aloneOf_3 14 rfl rfl)
theorem dX0_aloneOf_89 : decode cX0_aloneOf 89 = .ok (.iadd, 1) := dk_96 (dk_at dksX0_aloneOf_3 17 rfl rfl)
theorem dX0_aloneOf_90 : decode cX0_aloneOf 90 = .ok (.aload_n 0, 1) := dk_42 (dk_at dksX0_aloneOf_3 18 rfl rfl)
theorem dX0_aloneOf_91 : decode cX0_aloneOf 91 = .ok (.getfield 364, 3) := dk_180 1 108 (dk_at dksX0_aloneOf_3 19 rfl rfl)
theorem dX0_aloneOf_94 : decode cX0_aloneOf 94 = .ok (.if_icmp .ge 7, 3) := dk_162 0 7 (dk_at dksX0_aloneOf_4 0 rfl rfl)
theorem dX0_aloneOf_97 : decode cX0_aloneOf 97 = .ok (.iconst 1, 1) := dk_4 (dk_at dksX0_aloneOf_4 3 rfl rfl)
theorem dX0_aloneOf_98 : decode cX0_aloneOf 98 = .ok (.goto 4, 3) := dk_167 0 4 (dk_at dksX0_aloneOf_4 4 rfl rfl)
theorem dX0_aloneOf_101 : decode cX0_aloneOf 101 = .ok (.iconst 0, 1) := dk_3 (dk_at dksX0_aloneOf_4 7 rfl rfl)
theorem dX0_aloneOf_102 : decode cX0_aloneOf 102 = .ok (.iastore, 1) := dk_79 (dk_at dksX0_aloneOf_4 8 rfl rfl)
theorem dX0_aloneOf_103 : decode cX0_aloneOf 103 = .ok (.iinc 4 1, 3) := dk_132 4 1 (dk_at dksX0_aloneOf_4 9 rfl rfl)
theorem dX0_aloneOf_106 : decode cX0_aloneOf 106 = .ok (.goto (-97), 3) := dk_167 255 159 (dk_at dksX0_aloneOf_4 12 rfl rfl)
theorem dX0_aloneOf_109 : decode cX0_aloneOf 109 = .ok (.iload_n 2, 1) := dk_28 (dk_at dksX0_aloneOf_4 15 rfl rfl)
theorem dX0_aloneOf_110 : decode cX0_aloneOf 110 = .ok (.ireturn, 1) := dk_172 (dk_at dksX0_aloneOf_4 16 rfl rfl)
abbrev cX0_least : ByteArray := prog_1_method_60_code
def yX0_least : MethodName := ⟨RX0, "least", "(III)I"⟩
def dkwX0_least_3 : List UInt8 := [21, 6, 181, 1, 129, 132, 6, 1, 167, 255, 205, 132, 5, 1, 167, 255, 187, 21, 4, 172]
abbrev dktX0_least_3 : List UInt8 := dkwX0_least_3 ++ []
def dkwX0_least_2 : List UInt8 := [54, 7, 21, 7, 21, 4, 161, 0, 6, 167, 0, 19, 21, 7, 54, 4, 42, 21, 5, 181, 1, 126, 42]
abbrev dktX0_least_2 : List UInt8 := dkwX0_least_2 ++ dktX0_least_3
def dkwX0_least_1 : List UInt8 := [3, 54, 6, 21, 5, 21, 6, 96, 42, 180, 1, 108, 163, 0, 45, 42, 21, 5, 21, 6, 182, 1, 123]
abbrev dktX0_least_1 : List UInt8 := dkwX0_least_1 ++ dktX0_least_2
def dkwX0_least_0 : List UInt8 := [42, 27, 28, 29, 182, 1, 120, 19, 1, 119, 54, 4, 3, 54, 5, 21, 5, 42, 180, 1, 108, 163, 0, 66]
abbrev dktX0_least_0 : List UInt8 := dkwX0_least_0 ++ dktX0_least_1
theorem dksX0_least_0 : cX0_least.data.toList.drop 0 = dktX0_least_0 := by decide +kernel
theorem dksX0_least_1 : cX0_least.data.toList.drop 24 = dktX0_least_1 := dk_seg dksX0_least_0 24 rfl rfl
theorem dksX0_least_2 : cX0_least.data.toList.drop 47 = dktX0_least_2 := dk_seg dksX0_least_1 23 rfl rfl
theorem dksX0_least_3 : cX0_least.data.toList.drop 70 = dktX0_least_3 := dk_seg dksX0_least_2 23 rfl rfl
theorem dX0_least_0 : decode cX0_least 0 = .ok (.aload_n 0, 1) := dk_42 (dk_at dksX0_least_0 0 rfl rfl)
theorem dX0_least_1 : decode cX0_least 1 = .ok (.iload_n 1, 1) := dk_27 (dk_at dksX0_least_0 1 rfl rfl)
theorem dX0_least_2 : decode cX0_least 2 = .ok (.iload_n 2, 1) := dk_28 (dk_at dksX0_least_0 2 rfl rfl)
theorem dX0_least_3 : decode cX0_least 3 = .ok (.iload_n 3, 1) := dk_29 (dk_at dksX0_least_0 3 rfl rfl)
theorem dX0_least_4 : decode cX0_least 4 = .ok (.invokevirtual 376, 3) := dk_182 1 120 (dk_at dksX0_least_0 4 rfl rfl)
theorem dX0_least_7 : decode cX0_least 7 = .ok (.ldc_w 375, 3) := dk_19 1 119 (dk_at dksX0_least_0 7 rfl rfl)
theorem dX0_least_10 : decode cX0_least 10 = .ok (.istore 4, 2) := dk_54 4 (dk_at dksX0_least_0 10 rfl rfl)
theorem dX0_least_12 : decode cX0_least 12 = .ok (.iconst 0, 1) := dk_3 (dk_at dksX0_least_0 12 rfl rfl)
theorem dX0_least_13 : decode cX0_least 13 = .ok (.istore 5, 2) := dk_54 5 (dk_at dksX0_least_0 13 rfl rfl)
theorem dX0_least_15 : decode cX0_least 15 = .ok (.iload 5, 2) := dk_21 5 (dk_at dksX0_least_0 15 rfl rfl)
theorem dX0_least_17 : decode cX0_least 17 = .ok (.aload_n 0, 1) := dk_42 (dk_at dksX0_least_0 17 rfl rfl)
theorem dX0_least_18 : decode cX0_least 18 = .ok (.getfield 364, 3) := dk_180 1 108 (dk_at dksX0_least_0 18 rfl rfl)
theorem dX0_least_21 : decode cX0_least 21 = .ok (.if_icmp .gt 66, 3) := dk_163 0 66 (dk_at dksX0_least_0 21 rfl rfl)
theorem dX0_least_24 : decode cX0_least 24 = .ok (.iconst 0, 1) := dk_3 (dk_at dksX0_least_1 0 rfl rfl)
theorem dX0_least_25 : decode cX0_least 25 = .ok (.istore 6, 2) := dk_54 6 (dk_at dksX0_least_1 1 rfl rfl)
theorem dX0_least_27 : decode cX0_least 27 = .ok (.iload 5, 2) := dk_21 5 (dk_at dksX0_least_1 3 rfl rfl)
theorem dX0_least_29 : decode cX0_least 29 = .ok (.iload 6, 2) := dk_21 6 (dk_at dksX0_least_1 5 rfl rfl)
theorem dX0_least_31 : decode cX0_least 31 = .ok (.iadd, 1) := dk_96 (dk_at dksX0_least_1 7 rfl rfl)
theorem dX0_least_32 : decode cX0_least 32 = .ok (.aload_n 0, 1) := dk_42 (dk_at dksX0_least_1 8 rfl rfl)
theorem dX0_least_33 : decode cX0_least 33 = .ok (.getfield 364, 3) := dk_180 1 108 (dk_at dksX0_least_1 9 rfl rfl)
theorem dX0_least_36 : decode cX0_least 36 = .ok (.if_icmp .gt 45, 3) := dk_163 0 45 (dk_at dksX0_least_1 12 rfl rfl)
theorem dX0_least_39 : decode cX0_least 39 = .ok (.aload_n 0, 1) := dk_42 (dk_at dksX0_least_1 15 rfl rfl)
theorem dX0_least_40 : decode cX0_least 40 = .ok (.iload 5, 2) := dk_21 5 (dk_at dksX0_least_1 16 rfl rfl)
theorem dX0_least_42 : decode cX0_least 42 = .ok (.iload 6, 2) := dk_21 6 (dk_at dksX0_least_1 18 rfl rfl)
theorem dX0_least_44 : decode cX0_least 44 = .ok (.invokevirtual 379, 3) := dk_182 1 123 (dk_at dksX0_least_1 20 rfl rfl)
theorem dX0_least_47 : decode cX0_least 47 = .ok (.istore 7, 2) := dk_54 7 (dk_at dksX0_least_2 0 rfl rfl)
theorem dX0_least_49 : decode cX0_least 49 = .ok (.iload 7, 2) := dk_21 7 (dk_at dksX0_least_2 2 rfl rfl)
theorem dX0_least_51 : decode cX0_least 51 = .ok (.iload 4, 2) := dk_21 4 (dk_at dksX0_least_2 4 rfl rfl)
theorem dX0_least_53 : decode cX0_least 53 = .ok (.if_icmp .lt 6, 3) := dk_161 0 6 (dk_at dksX0_least_2 6 rfl rfl)
theorem dX0_least_56 : decode cX0_least 56 = .ok (.goto 19, 3) := dk_167 0 19 (dk_at dksX0_least_2 9 rfl rfl)
theorem dX0_least_59 : decode cX0_least 59 = .ok (.iload 7, 2) := dk_21 7 (dk_at dksX0_least_2 12 rfl rfl)
theorem dX0_least_61 : decode cX0_least 61 = .ok (.istore 4, 2) := dk_54 4 (dk_at dksX0_least_2 14 rfl rfl)
theorem dX0_least_63 : decode cX0_least 63 = .ok (.aload_n 0, 1) := dk_42 (dk_at dksX0_least_2 16 rfl rfl)
theorem dX0_least_64 : decode cX0_least 64 = .ok (.iload 5, 2) := dk_21 5 (dk_at dksX0_least_2 17 rfl rfl)
theorem dX0_least_66 : decode cX0_least 66 = .ok (.putfield 382, 3) := dk_181 1 126 (dk_at dksX0_least_2 19 rfl rfl)
theorem dX0_least_69 : decode cX0_least 69 = .ok (.aload_n 0, 1) := dk_42 (dk_at dksX0_least_2 22 rfl rfl)
theorem dX0_least_70 : decode cX0_least 70 = .ok (.iload 6, 2) := dk_21 6 (dk_at dksX0_least_3 0 rfl rfl)
theorem dX0_least_72 : decode cX0_least 72 = .ok (.putfield 385, 3) := dk_181 1 129 (dk_at dksX0_least_3 2 rfl rfl)
theorem dX0_least_75 : decode cX0_least 75 = .ok (.iinc 6 1, 3) := dk_132 6 1 (dk_at dksX0_least_3 5 rfl rfl)
theorem dX0_least_78 : decode cX0_least 78 = .ok (.goto (-51), 3) := dk_167 255 205 (dk_at dksX0_least_3 8 rfl rfl)
theorem dX0_least_81 : decode cX0_least 81 = .ok (.iinc 5 1, 3) := dk_132 5 1 (dk_at dksX0_least_3 11 rfl rfl)
theorem dX0_least_84 : decode cX0_least 84 = .ok (.goto (-69), 3) := dk_167 255 187 (dk_at dksX0_least_3 14 rfl rfl)
theorem dX0_least_87 : decode cX0_least 87 = .ok (.iload 4, 2) := dk_21 4 (dk_at dksX0_least_3 17 rfl rfl)
theorem dX0_least_89 : decode cX0_least 89 = .ok (.ireturn, 1) := dk_172 (dk_at dksX0_least_3 19 rfl rfl)
abbrev cX0_lays : ByteArray := prog_1_method_57_code
def yX0_lays : MethodName := ⟨RX0, "lays", "(III)V"⟩
def dkwX0_lays_5 : List UInt8 := [167, 255, 150, 177]
abbrev dktX0_lays_5 : List UInt8 := dkwX0_lays_5 ++ []
def dkwX0_lays_4 : List UInt8 := [180, 1, 108, 25, 5, 27, 182, 1, 114, 79, 42, 89, 180, 1, 108, 4, 96, 181, 1, 108, 132, 4, 1]
abbrev dktX0_lays_4 : List UInt8 := dkwX0_lays_4 ++ dktX0_lays_5
def dkwX0_lays_3 : List UInt8 := [160, 0, 6, 167, 0, 39, 42, 180, 0, 53, 42, 180, 1, 108, 21, 6, 79, 42, 180, 0, 57, 42]
abbrev dktX0_lays_3 : List UInt8 := dkwX0_lays_3 ++ dktX0_lays_4
def dkwX0_lays_2 : List UInt8 := [159, 0, 65, 25, 5, 27, 182, 1, 28, 153, 0, 56, 28, 25, 5, 27, 182, 1, 114, 122, 4, 126, 4]
abbrev dktX0_lays_2 : List UInt8 := dkwX0_lays_2 ++ dktX0_lays_3
def dkwX0_lays_1 : List UInt8 := [180, 1, 4, 21, 4, 50, 58, 5, 25, 5, 182, 1, 12, 29, 184, 1, 111, 54, 6, 21, 6, 2]
abbrev dktX0_lays_1 : List UInt8 := dkwX0_lays_1 ++ dktX0_lays_2
def dkwX0_lays_0 : List UInt8 := [42, 3, 181, 1, 108, 3, 54, 4, 21, 4, 42, 180, 0, 38, 180, 0, 217, 162, 0, 100, 42, 180, 0, 38]
abbrev dktX0_lays_0 : List UInt8 := dkwX0_lays_0 ++ dktX0_lays_1
theorem dksX0_lays_0 : cX0_lays.data.toList.drop 0 = dktX0_lays_0 := by decide +kernel
theorem dksX0_lays_1 : cX0_lays.data.toList.drop 24 = dktX0_lays_1 := dk_seg dksX0_lays_0 24 rfl rfl
theorem dksX0_lays_2 : cX0_lays.data.toList.drop 46 = dktX0_lays_2 := dk_seg dksX0_lays_1 22 rfl rfl
theorem dksX0_lays_3 : cX0_lays.data.toList.drop 69 = dktX0_lays_3 := dk_seg dksX0_lays_2 23 rfl rfl
theorem dksX0_lays_4 : cX0_lays.data.toList.drop 91 = dktX0_lays_4 := dk_seg dksX0_lays_3 22 rfl rfl
theorem dksX0_lays_5 : cX0_lays.data.toList.drop 114 = dktX0_lays_5 := dk_seg dksX0_lays_4 23 rfl rfl
theorem dX0_lays_0 : decode cX0_lays 0 = .ok (.aload_n 0, 1) := dk_42 (dk_at dksX0_lays_0 0 rfl rfl)
theorem dX0_lays_1 : decode cX0_lays 1 = .ok (.iconst 0, 1) := dk_3 (dk_at dksX0_lays_0 1 rfl rfl)
theorem dX0_lays_2 : decode cX0_lays 2 = .ok (.putfield 364, 3) := dk_181 1 108 (dk_at dksX0_lays_0 2 rfl rfl)
theorem dX0_lays_5 : decode cX0_lays 5 = .ok (.iconst 0, 1) := dk_3 (dk_at dksX0_lays_0 5 rfl rfl)
theorem dX0_lays_6 : decode cX0_lays 6 = .ok (.istore 4, 2) := dk_54 4 (dk_at dksX0_lays_0 6 rfl rfl)
theorem dX0_lays_8 : decode cX0_lays 8 = .ok (.iload 4, 2) := dk_21 4 (dk_at dksX0_lays_0 8 rfl rfl)
theorem dX0_lays_10 : decode cX0_lays 10 = .ok (.aload_n 0, 1) := dk_42 (dk_at dksX0_lays_0 10 rfl rfl)
theorem dX0_lays_11 : decode cX0_lays 11 = .ok (.getfield 38, 3) := dk_180 0 38 (dk_at dksX0_lays_0 11 rfl rfl)
theorem dX0_lays_14 : decode cX0_lays 14 = .ok (.getfield 217, 3) := dk_180 0 217 (dk_at dksX0_lays_0 14 rfl rfl)
theorem dX0_lays_17 : decode cX0_lays 17 = .ok (.if_icmp .ge 100, 3) := dk_162 0 100 (dk_at dksX0_lays_0 17 rfl rfl)
theorem dX0_lays_20 : decode cX0_lays 20 = .ok (.aload_n 0, 1) := dk_42 (dk_at dksX0_lays_0 20 rfl rfl)
theorem dX0_lays_21 : decode cX0_lays 21 = .ok (.getfield 38, 3) := dk_180 0 38 (dk_at dksX0_lays_0 21 rfl rfl)
theorem dX0_lays_24 : decode cX0_lays 24 = .ok (.getfield 260, 3) := dk_180 1 4 (dk_at dksX0_lays_1 0 rfl rfl)
theorem dX0_lays_27 : decode cX0_lays 27 = .ok (.iload 4, 2) := dk_21 4 (dk_at dksX0_lays_1 3 rfl rfl)
theorem dX0_lays_29 : decode cX0_lays 29 = .ok (.aaload, 1) := dk_50 (dk_at dksX0_lays_1 5 rfl rfl)
theorem dX0_lays_30 : decode cX0_lays 30 = .ok (.astore 5, 2) := dk_58 5 (dk_at dksX0_lays_1 6 rfl rfl)
theorem dX0_lays_32 : decode cX0_lays 32 = .ok (.aload 5, 2) := dk_25 5 (dk_at dksX0_lays_1 8 rfl rfl)
theorem dX0_lays_34 : decode cX0_lays 34 = .ok (.invokevirtual 268, 3) := dk_182 1 12 (dk_at dksX0_lays_1 10 rfl rfl)
theorem dX0_lays_37 : decode cX0_lays 37 = .ok (.iload_n 3, 1) := dk_29 (dk_at dksX0_lays_1 13 rfl rfl)
theorem dX0_lays_38 : decode cX0_lays 38 = .ok (.invokestatic 367, 3) := dk_184 1 111 (dk_at dksX0_lays_1 14 rfl rfl)
theorem dX0_lays_41 : decode cX0_lays 41 = .ok (.istore 6, 2) := dk_54 6 (dk_at dksX0_lays_1 17 rfl rfl)
theorem dX0_lays_43 : decode cX0_lays 43 = .ok (.iload 6, 2) := dk_21 6 (dk_at dksX0_lays_1 19 rfl rfl)
theorem dX0_lays_45 : decode cX0_lays 45 = .ok (.iconst (-1), 1) := dk_2 (dk_at dksX0_lays_1 21 rfl rfl)
theorem dX0_lays_46 : decode cX0_lays 46 = .ok (.if_icmp .eq 65, 3) := dk_159 0 65 (dk_at dksX0_lays_2 0 rfl rfl)
theorem dX0_lays_49 : decode cX0_lays 49 = .ok (.aload 5, 2) := dk_25 5 (dk_at dksX0_lays_2 3 rfl rfl)
theorem dX0_lays_51 : decode cX0_lays 51 = .ok (.iload_n 1, 1) := dk_27 (dk_at dksX0_lays_2 5 rfl rfl)
theorem dX0_lays_52 : decode cX0_lays 52 = .ok (.invokevirtual 284, 3) := dk_182 1 28 (dk_at dksX0_lays_2 6 rfl rfl)
theorem dX0_lays_55 : decode cX0_lays 55 = .ok (.ifCond .eq 56, 3) := dk_153 0 56 (dk_at dksX0_lays_2 9 rfl rfl)
theorem dX0_lays_58 : decode cX0_lays 58 = .ok (.iload_n 2, 1) := dk_28 (dk_at dksX0_lays_2 12 rfl rfl)
theorem dX0_lays_59 : decode cX0_lays 59 = .ok (.aload 5, 2) := dk_25 5 (dk_at dksX0_lays_2 13 rfl rfl)
theorem dX0_lays_61 : decode cX0_lays 61 = .ok (.iload_n 1, 1) := dk_27 (dk_at dksX0_lays_2 15 rfl rfl)
theorem dX0_lays_62 : decode cX0_lays 62 = .ok (.invokevirtual 370, 3) := dk_182 1 114 (dk_at dksX0_lays_2 16 rfl rfl)
theorem dX0_lays_65 : decode cX0_lays 65 = .ok (.ishr, 1) := dk_122 (dk_at dksX0_lays_2 19 rfl rfl)
theorem dX0_lays_66 : decode cX0_lays 66 = .ok (.iconst 1, 1) := dk_4 (dk_at dksX0_lays_2 20 rfl rfl)
theorem dX0_lays_67 : decode cX0_lays 67 = .ok (.iand, 1) := dk_126 (dk_at dksX0_lays_2 21 rfl rfl)
theorem dX0_lays_68 : decode cX0_lays 68 = .ok (.iconst 1, 1) := dk_4 (dk_at dksX0_lays_2 22 rfl rfl)
theorem dX0_lays_69 : decode cX0_lays 69 = .ok (.if_icmp .ne 6, 3) := dk_160 0 6 (dk_at dksX0_lays_3 0 rfl rfl)
theorem dX0_lays_72 : decode cX0_lays 72 = .ok (.goto 39, 3) := dk_167 0 39 (dk_at dksX0_lays_3 3 rfl rfl)
theorem dX0_lays_75 : decode cX0_lays 75 = .ok (.aload_n 0, 1) := dk_42 (dk_at dksX0_lays_3 6 rfl rfl)
theorem dX0_lays_76 : decode cX0_lays 76 = .ok (.getfield 53, 3) := dk_180 0 53 (dk_at dksX0_lays_3 7 rfl rfl)
theorem dX0_lays_79 : decode cX0_lays 79 = .ok (.aload_n 0, 1) := dk_42 (dk_at dksX0_lays_3 10 rfl rfl)
theorem dX0_lays_80 : decode cX0_lays 80 = .ok (.getfield 364, 3) := dk_180 1 108 (dk_at dksX0_lays_3 11 rfl rfl)
theorem dX0_lays_83 : decode cX0_lays 83 = .ok (.iload 6, 2) := dk_21 6 (dk_at dksX0_lays_3 14 rfl rfl)
theorem dX0_lays_85 : decode cX0_lays 85 = .ok (.iastore, 1) := dk_79 (dk_at dksX0_lays_3 16 rfl rfl)
theorem dX0_lays_86 : decode cX0_lays 86 = .ok (.aload_n 0, 1) := dk_42 (dk_at dksX0_lays_3 17 rfl rfl)
theorem dX0_lays_87 : decode cX0_lays 87 = .ok (.getfield 57, 3) := dk_180 0 57 (dk_at dksX0_lays_3 18 rfl rfl)
theorem dX0_lays_90 : decode cX0_lays 90 = .ok (.aload_n 0, 1) := dk_42 (dk_at dksX0_lays_3 21 rfl rfl)
theorem dX0_lays_91 : decode cX0_lays 91 = .ok (.getfield 364, 3) := dk_180 1 108 (dk_at dksX0_lays_4 0 rfl rfl)
theorem dX0_lays_94 : decode cX0_lays 94 = .ok (.aload 5, 2) := dk_25 5 (dk_at dksX0_lays_4 3 rfl rfl)
theorem dX0_lays_96 : decode cX0_lays 96 = .ok (.iload_n 1, 1) := dk_27 (dk_at dksX0_lays_4 5 rfl rfl)
theorem dX0_lays_97 : decode cX0_lays 97 = .ok (.invokevirtual 370, 3) := dk_182 1 114 (dk_at dksX0_lays_4 6 rfl rfl)
theorem dX0_lays_100 : decode cX0_lays 100 = .ok (.iastore, 1) := dk_79 (dk_at dksX0_lays_4 9 rfl rfl)
theorem dX0_lays_101 : decode cX0_lays 101 = .ok (.aload_n 0, 1) := dk_42 (dk_at dksX0_lays_4 10 rfl rfl)
theorem dX0_lays_102 : decode cX0_lays 102 = .ok (.dup, 1) := dk_89 (dk_at dksX0_lays_4 11 rfl rfl)
theorem dX0_lays_103 : decode cX0_lays 103 = .ok (.getfield 364, 3) := dk_180 1 108 (dk_at dksX0_lays_4 12 rfl rfl)
theorem dX0_lays_106 : decode cX0_lays 106 = .ok (.iconst 1, 1) := dk_4 (dk_at dksX0_lays_4 15 rfl rfl)
theorem dX0_lays_107 : decode cX0_lays 107 = .ok (.iadd, 1) := dk_96 (dk_at dksX0_lays_4 16 rfl rfl)
theorem dX0_lays_108 : decode cX0_lays 108 = .ok (.putfield 364, 3) := dk_181 1 108 (dk_at dksX0_lays_4 17 rfl rfl)
theorem dX0_lays_111 : decode cX0_lays 111 = .ok (.iinc 4 1, 3) := dk_132 4 1 (dk_at dksX0_lays_4 20 rfl rfl)
theorem dX0_lays_114 : decode cX0_lays 114 = .ok (.goto (-106), 3) := dk_167 255 150 (dk_at dksX0_lays_5 0 rfl rfl)
theorem dX0_lays_117 : decode cX0_lays 117 = .ok (.return_, 1) := dk_177 (dk_at dksX0_lays_5 3 rfl rfl)
abbrev cX0_loosened : ByteArray := prog_1_method_56_code
def yX0_loosened : MethodName := ⟨RX0, "loosened", "(II)I"⟩
def dkwX0_loosened_0 : List UInt8 := [26, 6, 160, 0, 7, 26, 167, 0, 10, 2, 26, 27, 100, 184, 1, 105, 172]
abbrev dktX0_loosened_0 : List UInt8 := dkwX0_loosened_0 ++ []
theorem dksX0_loosened_0 : cX0_loosened.data.toList.drop 0 = dktX0_loosened_0 := by decide +kernel
theorem dX0_loosened_0 : decode cX0_loosened 0 = .ok (.iload_n 0, 1) := dk_26 (dk_at dksX0_loosened_0 0 rfl rfl)
theorem dX0_loosened_1 : decode cX0_loosened 1 = .ok (.iconst 3, 1) := dk_6 (dk_at dksX0_loosened_0 1 rfl rfl)
theorem dX0_loosened_2 : decode cX0_loosened 2 = .ok (.if_icmp .ne 7, 3) := dk_160 0 7 (dk_at dksX0_loosened_0 2 rfl rfl)
theorem dX0_loosened_5 : decode cX0_loosened 5 = .ok (.iload_n 0, 1) := dk_26 (dk_at dksX0_loosened_0 5 rfl rfl)
theorem dX0_loosened_6 : decode cX0_loosened 6 = .ok (.goto 10, 3) := dk_167 0 10 (dk_at dksX0_loosened_0 6 rfl rfl)
theorem dX0_loosened_9 : decode cX0_loosened 9 = .ok (.iconst (-1), 1) := dk_2 (dk_at dksX0_loosened_0 9 rfl rfl)
theorem dX0_loosened_10 : decode cX0_loosened 10 = .ok (.iload_n 0, 1) := dk_26 (dk_at dksX0_loosened_0 10 rfl rfl)
theorem dX0_loosened_11 : decode cX0_loosened 11 = .ok (.iload_n 1, 1) := dk_27 (dk_at dksX0_loosened_0 11 rfl rfl)
theorem dX0_loosened_12 : decode cX0_loosened 12 = .ok (.isub, 1) := dk_100 (dk_at dksX0_loosened_0 12 rfl rfl)
theorem dX0_loosened_13 : decode cX0_loosened 13 = .ok (.invokestatic 361, 3) := dk_184 1 105 (dk_at dksX0_loosened_0 13 rfl rfl)
theorem dX0_loosened_16 : decode cX0_loosened 16 = .ok (.ireturn, 1) := dk_172 (dk_at dksX0_loosened_0 16 rfl rfl)
abbrev cX0_secondsBy : ByteArray := prog_1_method_59_code
def yX0_secondsBy : MethodName := ⟨RX0, "secondsBy", "(II)I"⟩
def dkwX0_secondsBy_3 : List UInt8 := [172, 132, 4, 1, 167, 255, 201, 29, 172]
abbrev dktX0_secondsBy_3 : List UInt8 := dkwX0_secondsBy_3 ++ []
def dkwX0_secondsBy_2 : List UInt8 := [42, 21, 4, 182, 1, 116, 96, 62, 167, 0, 17, 42, 180, 0, 53, 21, 4, 46, 158, 0, 7, 19, 1, 119]
abbrev dktX0_secondsBy_2 : List UInt8 := dkwX0_secondsBy_2 ++ dktX0_secondsBy_3
def dkwX0_secondsBy_1 : List UInt8 := [180, 1, 108, 162, 0, 52, 21, 4, 27, 161, 0, 14, 21, 4, 42, 180, 1, 108, 28, 100, 161, 0, 15, 29]
abbrev dktX0_secondsBy_1 : List UInt8 := dkwX0_secondsBy_1 ++ dktX0_secondsBy_2
def dkwX0_secondsBy_0 : List UInt8 := [27, 28, 96, 42, 180, 1, 108, 162, 0, 7, 5, 167, 0, 4, 3, 62, 3, 54, 4, 21, 4, 42]
abbrev dktX0_secondsBy_0 : List UInt8 := dkwX0_secondsBy_0 ++ dktX0_secondsBy_1
theorem dksX0_secondsBy_0 : cX0_secondsBy.data.toList.drop 0 = dktX0_secondsBy_0 := by decide +kernel
theorem dksX0_secondsBy_1 : cX0_secondsBy.data.toList.drop 22 = dktX0_secondsBy_1 := dk_seg dksX0_secondsBy_0 22 rfl rfl
theorem dksX0_secondsBy_2 : cX0_secondsBy.data.toList.drop 46 = dktX0_secondsBy_2 := dk_seg dksX0_secondsBy_1 24 rfl rfl
theorem dksX0_secondsBy_3 : cX0_secondsBy.data.toList.drop 70 = dktX0_secondsBy_3 := dk_seg dksX0_secondsBy_2 24 rfl rfl
theorem dX0_secondsBy_0 : decode cX0_secondsBy 0 = .ok (.iload_n 1, 1) := dk_27 (dk_at dksX0_secondsBy_0 0 rfl rfl)
theorem dX0_secondsBy_1 : decode cX0_secondsBy 1 = .ok (.iload_n 2, 1) := dk_28 (dk_at dksX0_secondsBy_0 1 rfl rfl)
theorem dX0_secondsBy_2 : decode cX0_secondsBy 2 = .ok (.iadd, 1) := dk_96 (dk_at dksX0_secondsBy_0 2 rfl rfl)
theorem dX0_secondsBy_3 : decode cX0_secondsBy 3 = .ok (.aload_n 0, 1) := dk_42 (dk_at dksX0_secondsBy_0 3 rfl rfl)
theorem dX0_secondsBy_4 : decode cX0_secondsBy 4 = .ok (.getfield 364, 3) := dk_180 1 108 (dk_at dksX0_secondsBy_0 4 rfl rfl)
theorem dX0_secondsBy_7 : decode cX0_secondsBy 7 = .ok (.if_icmp .ge 7, 3) := dk_162 0 7 (dk_at dksX0_secondsBy_0 7 rfl rfl)
theorem dX0_secondsBy_10 : decode cX0_secondsBy 10 = .ok (.iconst 2, 1) := dk_5 (dk_at dksX0_secondsBy_0 10 rfl rfl)
theorem dX0_secondsBy_11 : decode cX0_secondsBy 11 = .ok (.goto 4, 3) := dk_167 0 4 (dk_at dksX0_secondsBy_0 11 rfl rfl)
theorem dX0_secondsBy_14 : decode cX0_secondsBy 14 = .ok (.iconst 0, 1) := dk_3 (dk_at dksX0_secondsBy_0 14 rfl rfl)
theorem dX0_secondsBy_15 : decode cX0_secondsBy 15 = .ok (.istore_n 3, 1) := dk_62 (dk_at dksX0_secondsBy_0 15 rfl rfl)
theorem dX0_secondsBy_16 : decode cX0_secondsBy 16 = .ok (.iconst 0, 1) := dk_3 (dk_at dksX0_secondsBy_0 16 rfl rfl)
theorem dX0_secondsBy_17 : decode cX0_secondsBy 17 = .ok (.istore 4, 2) := dk_54 4 (dk_at dksX0_secondsBy_0 17 rfl rfl)
theorem dX0_secondsBy_19 : decode cX0_secondsBy 19 = .ok (.iload 4, 2) := dk_21 4 (dk_at dksX0_secondsBy_0 19 rfl rfl)
theorem dX0_secondsBy_21 : decode cX0_secondsBy 21 = .ok (.aload_n 0, 1) := dk_42 (dk_at dksX0_secondsBy_0 21 rfl rfl)
theorem dX0_secondsBy_22 : decode cX0_secondsBy 22 = .ok (.getfield 364, 3) := dk_180 1 108 (dk_at dksX0_secondsBy_1 0 rfl rfl)
theorem dX0_secondsBy_25 : decode cX0_secondsBy 25 = .ok (.if_icmp .ge 52, 3) := dk_162 0 52 (dk_at dksX0_secondsBy_1 3 rfl rfl)
theorem dX0_secondsBy_28 : decode cX0_secondsBy 28 = .ok (.iload 4, 2) := dk_21 4 (dk_at dksX0_secondsBy_1 6 rfl rfl)
theorem dX0_secondsBy_30 : decode cX0_secondsBy 30 = .ok (.iload_n 1, 1) := dk_27 (dk_at dksX0_secondsBy_1 8 rfl rfl)
theorem dX0_secondsBy_31 : decode cX0_secondsBy 31 = .ok (.if_icmp .lt 14, 3) := dk_161 0 14 (dk_at dksX0_secondsBy_1 9 rfl rfl)
theorem dX0_secondsBy_34 : decode cX0_secondsBy 34 = .ok (.iload 4, 2) := dk_21 4 (dk_at dksX0_secondsBy_1 12 rfl rfl)
theorem dX0_secondsBy_36 : decode cX0_secondsBy 36 = .ok (.aload_n 0, 1) := dk_42 (dk_at dksX0_secondsBy_1 14 rfl rfl)
theorem dX0_secondsBy_37 : decode cX0_secondsBy 37 = .ok (.getfield 364, 3) := dk_180 1 108 (dk_at dksX0_secondsBy_1 15 rfl rfl)
theorem dX0_secondsBy_40 : decode cX0_secondsBy 40 = .ok (.iload_n 2, 1) := dk_28 (dk_at dksX0_secondsBy_1 18 rfl rfl)
theorem dX0_secondsBy_41 : decode cX0_secondsBy 41 = .ok (.isub, 1) := dk_100 (dk_at dksX0_secondsBy_1 19 rfl rfl)
theorem dX0_secondsBy_42 : decode cX0_secondsBy 42 = .ok (.if_icmp .lt 15, 3) := dk_161 0 15 (dk_at dksX0_secondsBy_1 20 rfl rfl)
theorem dX0_secondsBy_45 : decode cX0_secondsBy 45 = .ok (.iload_n 3, 1) := dk_29 (dk_at dksX0_secondsBy_1 23 rfl rfl)
theorem dX0_secondsBy_46 : decode cX0_secondsBy 46 = .ok (.aload_n 0, 1) := dk_42 (dk_at dksX0_secondsBy_2 0 rfl rfl)
theorem dX0_secondsBy_47 : decode cX0_secondsBy 47 = .ok (.iload 4, 2) := dk_21 4 (dk_at dksX0_secondsBy_2 1 rfl rfl)
theorem dX0_secondsBy_49 : decode cX0_secondsBy 49 = .ok (.invokevirtual 372, 3) := dk_182 1 116 (dk_at dksX0_secondsBy_2 3 rfl rfl)
theorem dX0_secondsBy_52 : decode cX0_secondsBy 52 = .ok (.iadd, 1) := dk_96 (dk_at dksX0_secondsBy_2 6 rfl rfl)
theorem dX0_secondsBy_53 : decode cX0_secondsBy 53 = .ok (.istore_n 3, 1) := dk_62 (dk_at dksX0_secondsBy_2 7 rfl rfl)
theorem dX0_secondsBy_54 : decode cX0_secondsBy 54 = .ok (.goto 17, 3) := dk_167 0 17 (dk_at dksX0_secondsBy_2 8 rfl rfl)
theorem dX0_secondsBy_57 : decode cX0_secondsBy 57 = .ok (.aload_n 0, 1) := dk_42 (dk_at dksX0_secondsBy_2 11 rfl rfl)
theorem dX0_secondsBy_58 : decode cX0_secondsBy 58 = .ok (.getfield 53, 3) := dk_180 0 53 (dk_at dksX0_secondsBy_2 12 rfl rfl)
theorem dX0_secondsBy_61 : decode cX0_secondsBy 61 = .ok (.iload 4, 2) := dk_21 4 (dk_at dksX0_secondsBy_2 15 rfl rfl)
theorem dX0_secondsBy_63 : decode cX0_secondsBy 63 = .ok (.iaload, 1) := dk_46 (dk_at dksX0_secondsBy_2 17 rfl rfl)
theorem dX0_secondsBy_64 : decode cX0_secondsBy 64 = .ok (.ifCond .le 7, 3) := dk_158 0 7 (dk_at dksX0_secondsBy_2 18 rfl rfl)
theorem dX0_secondsBy_67 : decode cX0_secondsBy 67 = .ok (.ldc_w 375, 3) := dk_19 1 119 (dk_at dksX0_secondsBy_2 21 rfl rfl)
theorem dX0_secondsBy_70 : decode cX0_secondsBy 70 = .ok (.ireturn, 1) := dk_172 (dk_at dksX0_secondsBy_3 0 rfl rfl)
theorem dX0_secondsBy_71 : decode cX0_secondsBy 71 = .ok (.iinc 4 1, 3) := dk_132 4 1 (dk_at dksX0_secondsBy_3 1 rfl rfl)
theorem dX0_secondsBy_74 : decode cX0_secondsBy 74 = .ok (.goto (-55), 3) := dk_167 255 201 (dk_at dksX0_secondsBy_3 4 rfl rfl)
theorem dX0_secondsBy_77 : decode cX0_secondsBy 77 = .ok (.iload_n 3, 1) := dk_29 (dk_at dksX0_secondsBy_3 7 rfl rfl)
theorem dX0_secondsBy_78 : decode cX0_secondsBy 78 = .ok (.ireturn, 1) := dk_172 (dk_at dksX0_secondsBy_3 8 rfl rfl)
abbrev cX0_secondsAt : ByteArray := prog_1_method_58_code
def yX0_secondsAt : MethodName := ⟨RX0, "secondsAt", "(I)I"⟩
def dkwX0_secondsAt_2 : List UInt8 := [180, 0, 161, 42, 180, 0, 57, 27, 46, 50, 180, 0, 239, 96, 172]
abbrev dktX0_secondsAt_2 : List UInt8 := dkwX0_secondsAt_2 ++ []
def dkwX0_secondsAt_1 : List UInt8 := [167, 0, 20, 42, 180, 0, 53, 27, 46, 5, 160, 0, 8, 16, 6, 167, 0, 5, 16, 15, 42, 180, 0, 38]
abbrev dktX0_secondsAt_1 : List UInt8 := dkwX0_secondsAt_1 ++ dktX0_secondsAt_2
def dkwX0_secondsAt_0 : List UInt8 := [42, 180, 0, 53, 27, 46, 154, 0, 7, 4, 167, 0, 34, 42, 180, 0, 53, 27, 46, 4, 160, 0, 7, 6]
abbrev dktX0_secondsAt_0 : List UInt8 := dkwX0_secondsAt_0 ++ dktX0_secondsAt_1
theorem dksX0_secondsAt_0 : cX0_secondsAt.data.toList.drop 0 = dktX0_secondsAt_0 := by decide +kernel
theorem dksX0_secondsAt_1 : cX0_secondsAt.data.toList.drop 24 = dktX0_secondsAt_1 := dk_seg dksX0_secondsAt_0 24 rfl rfl
theorem dksX0_secondsAt_2 : cX0_secondsAt.data.toList.drop 48 = dktX0_secondsAt_2 := dk_seg dksX0_secondsAt_1 24 rfl rfl
theorem dX0_secondsAt_0 : decode cX0_secondsAt 0 = .ok (.aload_n 0, 1) := dk_42 (dk_at dksX0_secondsAt_0 0 rfl rfl)
theorem dX0_secondsAt_1 : decode cX0_secondsAt 1 = .ok (.getfield 53, 3) := dk_180 0 53 (dk_at dksX0_secondsAt_0 1 rfl rfl)
theorem dX0_secondsAt_4 : decode cX0_secondsAt 4 = .ok (.iload_n 1, 1) := dk_27 (dk_at dksX0_secondsAt_0 4 rfl rfl)
theorem dX0_secondsAt_5 : decode cX0_secondsAt 5 = .ok (.iaload, 1) := dk_46 (dk_at dksX0_secondsAt_0 5 rfl rfl)
theorem dX0_secondsAt_6 : decode cX0_secondsAt 6 = .ok (.ifCond .ne 7, 3) := dk_154 0 7 (dk_at dksX0_secondsAt_0 6 rfl rfl)
theorem dX0_secondsAt_9 : decode cX0_secondsAt 9 = .ok (.iconst 1, 1) := dk_4 (dk_at dksX0_secondsAt_0 9 rfl rfl)
theorem dX0_secondsAt_10 : decode cX0_secondsAt 10 = .ok (.goto 34, 3) := dk_167 0 34 (dk_at dksX0_secondsAt_0 10 rfl rfl)
theorem dX0_secondsAt_13 : decode cX0_secondsAt 13 = .ok (.aload_n 0, 1) := dk_42 (dk_at dksX0_secondsAt_0 13 rfl rfl)
theorem dX0_secondsAt_14 : decode cX0_secondsAt 14 = .ok (.getfield 53, 3) := dk_180 0 53 (dk_at dksX0_secondsAt_0 14 rfl rfl)
theorem dX0_secondsAt_17 : decode cX0_secondsAt 17 = .ok (.iload_n 1, 1) := dk_27 (dk_at dksX0_secondsAt_0 17 rfl rfl)
theorem dX0_secondsAt_18 : decode cX0_secondsAt 18 = .ok (.iaload, 1) := dk_46 (dk_at dksX0_secondsAt_0 18 rfl rfl)
theorem dX0_secondsAt_19 : decode cX0_secondsAt 19 = .ok (.iconst 1, 1) := dk_4 (dk_at dksX0_secondsAt_0 19 rfl rfl)
theorem dX0_secondsAt_20 : decode cX0_secondsAt 20 = .ok (.if_icmp .ne 7, 3) := dk_160 0 7 (dk_at dksX0_secondsAt_0 20 rfl rfl)
theorem dX0_secondsAt_23 : decode cX0_secondsAt 23 = .ok (.iconst 3, 1) := dk_6 (dk_at dksX0_secondsAt_0 23 rfl rfl)
theorem dX0_secondsAt_24 : decode cX0_secondsAt 24 = .ok (.goto 20, 3) := dk_167 0 20 (dk_at dksX0_secondsAt_1 0 rfl rfl)
theorem dX0_secondsAt_27 : decode cX0_secondsAt 27 = .ok (.aload_n 0, 1) := dk_42 (dk_at dksX0_secondsAt_1 3 rfl rfl)
theorem dX0_secondsAt_28 : decode cX0_secondsAt 28 = .ok (.getfield 53, 3) := dk_180 0 53 (dk_at dksX0_secondsAt_1 4 rfl rfl)
theorem dX0_secondsAt_31 : decode cX0_secondsAt 31 = .ok (.iload_n 1, 1) := dk_27 (dk_at dksX0_secondsAt_1 7 rfl rfl)
theorem dX0_secondsAt_32 : decode cX0_secondsAt 32 = .ok (.iaload, 1) := dk_46 (dk_at dksX0_secondsAt_1 8 rfl rfl)
theorem dX0_secondsAt_33 : decode cX0_secondsAt 33 = .ok (.iconst 2, 1) := dk_5 (dk_at dksX0_secondsAt_1 9 rfl rfl)
theorem dX0_secondsAt_34 : decode cX0_secondsAt 34 = .ok (.if_icmp .ne 8, 3) := dk_160 0 8 (dk_at dksX0_secondsAt_1 10 rfl rfl)
theorem dX0_secondsAt_37 : decode cX0_secondsAt 37 = .ok (.bipush 6, 2) := dk_16 6 (dk_at dksX0_secondsAt_1 13 rfl rfl)
theorem dX0_secondsAt_39 : decode cX0_secondsAt 39 = .ok (.goto 5, 3) := dk_167 0 5 (dk_at dksX0_secondsAt_1 15 rfl rfl)
theorem dX0_secondsAt_42 : decode cX0_secondsAt 42 = .ok (.bipush 15, 2) := dk_16 15 (dk_at dksX0_secondsAt_1 18 rfl rfl)
theorem dX0_secondsAt_44 : decode cX0_secondsAt 44 = .ok (.aload_n 0, 1) := dk_42 (dk_at dksX0_secondsAt_1 20 rfl rfl)
theorem dX0_secondsAt_45 : decode cX0_secondsAt 45 = .ok (.getfield 38, 3) := dk_180 0 38 (dk_at dksX0_secondsAt_1 21 rfl rfl)
theorem dX0_secondsAt_48 : decode cX0_secondsAt 48 = .ok (.getfield 161, 3) := dk_180 0 161 (dk_at dksX0_secondsAt_2 0 rfl rfl)
theorem dX0_secondsAt_51 : decode cX0_secondsAt 51 = .ok (.aload_n 0, 1) := dk_42 (dk_at dksX0_secondsAt_2 3 rfl rfl)
theorem dX0_secondsAt_52 : decode cX0_secondsAt 52 = .ok (.getfield 57, 3) := dk_180 0 57 (dk_at dksX0_secondsAt_2 4 rfl rfl)
theorem dX0_secondsAt_55 : decode cX0_secondsAt 55 = .ok (.iload_n 1, 1) := dk_27 (dk_at dksX0_secondsAt_2 7 rfl rfl)
theorem dX0_secondsAt_56 : decode cX0_secondsAt 56 = .ok (.iaload, 1) := dk_46 (dk_at dksX0_secondsAt_2 8 rfl rfl)
theorem dX0_secondsAt_57 : decode cX0_secondsAt 57 = .ok (.aaload, 1) := dk_50 (dk_at dksX0_secondsAt_2 9 rfl rfl)
theorem dX0_secondsAt_58 : decode cX0_secondsAt 58 = .ok (.getfield 239, 3) := dk_180 0 239 (dk_at dksX0_secondsAt_2 10 rfl rfl)
theorem dX0_secondsAt_61 : decode cX0_secondsAt 61 = .ok (.iadd, 1) := dk_96 (dk_at dksX0_secondsAt_2 13 rfl rfl)
theorem dX0_secondsAt_62 : decode cX0_secondsAt 62 = .ok (.ireturn, 1) := dk_172 (dk_at dksX0_secondsAt_2 14 rfl rfl)
abbrev cX0_leftBy : ByteArray := prog_1_method_61_code
def yX0_leftBy : MethodName := ⟨RX0, "leftBy", "(I)I"⟩
def dkwX0_leftBy_2 : List UInt8 := [167, 255, 214, 28, 172]
abbrev dktX0_leftBy_2 : List UInt8 := dkwX0_leftBy_2 ++ []
def dkwX0_leftBy_1 : List UInt8 := [50, 182, 1, 12, 27, 184, 1, 111, 2, 160, 0, 7, 3, 167, 0, 4, 4, 96, 61, 132, 3, 1]
abbrev dktX0_leftBy_1 : List UInt8 := dkwX0_leftBy_1 ++ dktX0_leftBy_2
def dkwX0_leftBy_0 : List UInt8 := [3, 61, 3, 62, 29, 42, 180, 0, 38, 180, 0, 217, 162, 0, 37, 28, 42, 180, 0, 38, 180, 1, 4, 29]
abbrev dktX0_leftBy_0 : List UInt8 := dkwX0_leftBy_0 ++ dktX0_leftBy_1
theorem dksX0_leftBy_0 : cX0_leftBy.data.toList.drop 0 = dktX0_leftBy_0 := by decide +kernel
theorem dksX0_leftBy_1 : cX0_leftBy.data.toList.drop 24 = dktX0_leftBy_1 := dk_seg dksX0_leftBy_0 24 rfl rfl
theorem dksX0_leftBy_2 : cX0_leftBy.data.toList.drop 46 = dktX0_leftBy_2 := dk_seg dksX0_leftBy_1 22 rfl rfl
theorem dX0_leftBy_0 : decode cX0_leftBy 0 = .ok (.iconst 0, 1) := dk_3 (dk_at dksX0_leftBy_0 0 rfl rfl)
theorem dX0_leftBy_1 : decode cX0_leftBy 1 = .ok (.istore_n 2, 1) := dk_61 (dk_at dksX0_leftBy_0 1 rfl rfl)
theorem dX0_leftBy_2 : decode cX0_leftBy 2 = .ok (.iconst 0, 1) := dk_3 (dk_at dksX0_leftBy_0 2 rfl rfl)
theorem dX0_leftBy_3 : decode cX0_leftBy 3 = .ok (.istore_n 3, 1) := dk_62 (dk_at dksX0_leftBy_0 3 rfl rfl)
theorem dX0_leftBy_4 : decode cX0_leftBy 4 = .ok (.iload_n 3, 1) := dk_29 (dk_at dksX0_leftBy_0 4 rfl rfl)
theorem dX0_leftBy_5 : decode cX0_leftBy 5 = .ok (.aload_n 0, 1) := dk_42 (dk_at dksX0_leftBy_0 5 rfl rfl)
theorem dX0_leftBy_6 : decode cX0_leftBy 6 = .ok (.getfield 38, 3) := dk_180 0 38 (dk_at dksX0_leftBy_0 6 rfl rfl)
theorem dX0_leftBy_9 : decode cX0_leftBy 9 = .ok (.getfield 217, 3) := dk_180 0 217 (dk_at dksX0_leftBy_0 9 rfl rfl)
theorem dX0_leftBy_12 : decode cX0_leftBy 12 = .ok (.if_icmp .ge 37, 3) := dk_162 0 37 (dk_at dksX0_leftBy_0 12 rfl rfl)
theorem dX0_leftBy_15 : decode cX0_leftBy 15 = .ok (.iload_n 2, 1) := dk_28 (dk_at dksX0_leftBy_0 15 rfl rfl)
theorem dX0_leftBy_16 : decode cX0_leftBy 16 = .ok (.aload_n 0, 1) := dk_42 (dk_at dksX0_leftBy_0 16 rfl rfl)
theorem dX0_leftBy_17 : decode cX0_leftBy 17 = .ok (.getfield 38, 3) := dk_180 0 38 (dk_at dksX0_leftBy_0 17 rfl rfl)
theorem dX0_leftBy_20 : decode cX0_leftBy 20 = .ok (.getfield 260, 3) := dk_180 1 4 (dk_at dksX0_leftBy_0 20 rfl rfl)
theorem dX0_leftBy_23 : decode cX0_leftBy 23 = .ok (.iload_n 3, 1) := dk_29 (dk_at dksX0_leftBy_0 23 rfl rfl)
theorem dX0_leftBy_24 : decode cX0_leftBy 24 = .ok (.aaload, 1) := dk_50 (dk_at dksX0_leftBy_1 0 rfl rfl)
theorem dX0_leftBy_25 : decode cX0_leftBy 25 = .ok (.invokevirtual 268, 3) := dk_182 1 12 (dk_at dksX0_leftBy_1 1 rfl rfl)
theorem dX0_leftBy_28 : decode cX0_leftBy 28 = .ok (.iload_n 1, 1) := dk_27 (dk_at dksX0_leftBy_1 4 rfl rfl)
theorem dX0_leftBy_29 : decode cX0_leftBy 29 = .ok (.invokestatic 367, 3) := dk_184 1 111 (dk_at dksX0_leftBy_1 5 rfl rfl)
theorem dX0_leftBy_32 : decode cX0_leftBy 32 = .ok (.iconst (-1), 1) := dk_2 (dk_at dksX0_leftBy_1 8 rfl rfl)
theorem dX0_leftBy_33 : decode cX0_leftBy 33 = .ok (.if_icmp .ne 7, 3) := dk_160 0 7 (dk_at dksX0_leftBy_1 9 rfl rfl)
theorem dX0_leftBy_36 : decode cX0_leftBy 36 = .ok (.iconst 0, 1) := dk_3 (dk_at dksX0_leftBy_1 12 rfl rfl)
theorem dX0_leftBy_37 : decode cX0_leftBy 37 = .ok (.goto 4, 3) := dk_167 0 4 (dk_at dksX0_leftBy_1 13 rfl rfl)
theorem dX0_leftBy_40 : decode cX0_leftBy 40 = .ok (.iconst 1, 1) := dk_4 (dk_at dksX0_leftBy_1 16 rfl rfl)
theorem dX0_leftBy_41 : decode cX0_leftBy 41 = .ok (.iadd, 1) := dk_96 (dk_at dksX0_leftBy_1 17 rfl rfl)
theorem dX0_leftBy_42 : decode cX0_leftBy 42 = .ok (.istore_n 2, 1) := dk_61 (dk_at dksX0_leftBy_1 18 rfl rfl)
theorem dX0_leftBy_43 : decode cX0_leftBy 43 = .ok (.iinc 3 1, 3) := dk_132 3 1 (dk_at dksX0_leftBy_1 19 rfl rfl)
theorem dX0_leftBy_46 : decode cX0_leftBy 46 = .ok (.goto (-42), 3) := dk_167 255 214 (dk_at dksX0_leftBy_2 0 rfl rfl)
theorem dX0_leftBy_49 : decode cX0_leftBy 49 = .ok (.iload_n 2, 1) := dk_28 (dk_at dksX0_leftBy_2 3 rfl rfl)
theorem dX0_leftBy_50 : decode cX0_leftBy 50 = .ok (.ireturn, 1) := dk_172 (dk_at dksX0_leftBy_2 4 rfl rfl)
abbrev cX0_way : ByteArray := prog_1_method_64_code
def yX0_way : MethodName := ⟨RX0, "way", "(I)I"⟩
def dkwX0_way_1 : List UInt8 := [153, 0, 16, 42, 42, 180, 0, 63, 27, 46, 182, 0, 101, 167, 0, 9, 42, 16, 8, 182, 0, 97, 172]
abbrev dktX0_way_1 : List UInt8 := dkwX0_way_1 ++ []
def dkwX0_way_0 : List UInt8 := [27, 133, 9, 20, 1, 55, 184, 1, 33, 154, 0, 9, 42, 8, 182, 0, 97, 172, 42, 180, 1, 142]
abbrev dktX0_way_0 : List UInt8 := dkwX0_way_0 ++ dktX0_way_1
theorem dksX0_way_0 : cX0_way.data.toList.drop 0 = dktX0_way_0 := by decide +kernel
theorem dksX0_way_1 : cX0_way.data.toList.drop 22 = dktX0_way_1 := dk_seg dksX0_way_0 22 rfl rfl
theorem dX0_way_0 : decode cX0_way 0 = .ok (.iload_n 1, 1) := dk_27 (dk_at dksX0_way_0 0 rfl rfl)
theorem dX0_way_1 : decode cX0_way 1 = .ok (.i2l, 1) := dk_133 (dk_at dksX0_way_0 1 rfl rfl)
theorem dX0_way_2 : decode cX0_way 2 = .ok (.lconst 0, 1) := dk_9 (dk_at dksX0_way_0 2 rfl rfl)
theorem dX0_way_3 : decode cX0_way 3 = .ok (.ldc2_w 311, 3) := dk_20 1 55 (dk_at dksX0_way_0 3 rfl rfl)
theorem dX0_way_6 : decode cX0_way 6 = .ok (.invokestatic 289, 3) := dk_184 1 33 (dk_at dksX0_way_0 6 rfl rfl)
theorem dX0_way_9 : decode cX0_way 9 = .ok (.ifCond .ne 9, 3) := dk_154 0 9 (dk_at dksX0_way_0 9 rfl rfl)
theorem dX0_way_12 : decode cX0_way 12 = .ok (.aload_n 0, 1) := dk_42 (dk_at dksX0_way_0 12 rfl rfl)
theorem dX0_way_13 : decode cX0_way 13 = .ok (.iconst 5, 1) := dk_8 (dk_at dksX0_way_0 13 rfl rfl)
theorem dX0_way_14 : decode cX0_way 14 = .ok (.invokevirtual 97, 3) := dk_182 0 97 (dk_at dksX0_way_0 14 rfl rfl)
theorem dX0_way_17 : decode cX0_way 17 = .ok (.ireturn, 1) := dk_172 (dk_at dksX0_way_0 17 rfl rfl)
theorem dX0_way_18 : decode cX0_way 18 = .ok (.aload_n 0, 1) := dk_42 (dk_at dksX0_way_0 18 rfl rfl)
theorem dX0_way_19 : decode cX0_way 19 = .ok (.getfield 398, 3) := dk_180 1 142 (dk_at dksX0_way_0 19 rfl rfl)
theorem dX0_way_22 : decode cX0_way 22 = .ok (.ifCond .eq 16, 3) := dk_153 0 16 (dk_at dksX0_way_1 0 rfl rfl)
theorem dX0_way_25 : decode cX0_way 25 = .ok (.aload_n 0, 1) := dk_42 (dk_at dksX0_way_1 3 rfl rfl)
theorem dX0_way_26 : decode cX0_way 26 = .ok (.aload_n 0, 1) := dk_42 (dk_at dksX0_way_1 4 rfl rfl)
theorem dX0_way_27 : decode cX0_way 27 = .ok (.getfield 63, 3) := dk_180 0 63 (dk_at dksX0_way_1 5 rfl rfl)
theorem dX0_way_30 : decode cX0_way 30 = .ok (.iload_n 1, 1) := dk_27 (dk_at dksX0_way_1 8 rfl rfl)
theorem dX0_way_31 : decode cX0_way 31 = .ok (.iaload, 1) := dk_46 (dk_at dksX0_way_1 9 rfl rfl)
theorem dX0_way_32 : decode cX0_way 32 = .ok (.invokevirtual 101, 3) := dk_182 0 101 (dk_at dksX0_way_1 10 rfl rfl)
theorem dX0_way_35 : decode cX0_way 35 = .ok (.goto 9, 3) := dk_167 0 9 (dk_at dksX0_way_1 13 rfl rfl)
theorem dX0_way_38 : decode cX0_way 38 = .ok (.aload_n 0, 1) := dk_42 (dk_at dksX0_way_1 16 rfl rfl)
theorem dX0_way_39 : decode cX0_way 39 = .ok (.bipush 8, 2) := dk_16 8 (dk_at dksX0_way_1 17 rfl rfl)
theorem dX0_way_41 : decode cX0_way 41 = .ok (.invokevirtual 97, 3) := dk_182 0 97 (dk_at dksX0_way_1 19 rfl rfl)
theorem dX0_way_44 : decode cX0_way 44 = .ok (.ireturn, 1) := dk_172 (dk_at dksX0_way_1 22 rfl rfl)
abbrev cX0_follows : ByteArray := prog_1_method_65_code
def yX0_follows : MethodName := ⟨RX0, "follows", "(III)I"⟩
def dkwX0_follows_5 : List UInt8 := [21, 5, 182, 0, 101, 172]
abbrev dktX0_follows_5 : List UInt8 := dkwX0_follows_5 ++ []
def dkwX0_follows_4 : List UInt8 := [161, 0, 12, 42, 21, 6, 182, 1, 116, 167, 0, 4, 3, 96, 54, 5, 132, 6, 1, 167, 255, 212, 42]
abbrev dktX0_follows_4 : List UInt8 := dkwX0_follows_4 ++ dktX0_follows_5
def dkwX0_follows_3 : List UInt8 := [180, 1, 108, 162, 0, 41, 21, 5, 21, 6, 28, 161, 0, 14, 21, 6, 42, 180, 1, 108, 29, 100]
abbrev dktX0_follows_3 : List UInt8 := dkwX0_follows_3 ++ dktX0_follows_4
def dkwX0_follows_2 : List UInt8 := [28, 100, 133, 184, 1, 33, 154, 0, 9, 42, 8, 182, 0, 97, 172, 3, 54, 5, 3, 54, 6, 21, 6, 42]
abbrev dktX0_follows_2 : List UInt8 := dkwX0_follows_2 ++ dktX0_follows_3
def dkwX0_follows_1 : List UInt8 := [182, 1, 120, 28, 133, 9, 42, 180, 1, 108, 133, 184, 1, 33, 153, 0, 19, 29, 133, 9, 42, 180, 1, 108]
abbrev dktX0_follows_1 : List UInt8 := dkwX0_follows_1 ++ dktX0_follows_2
def dkwX0_follows_0 : List UInt8 := [42, 27, 182, 1, 43, 54, 4, 21, 4, 158, 0, 10, 42, 21, 4, 182, 0, 97, 172, 42, 27, 3, 3]
abbrev dktX0_follows_0 : List UInt8 := dkwX0_follows_0 ++ dktX0_follows_1
theorem dksX0_follows_0 : cX0_follows.data.toList.drop 0 = dktX0_follows_0 := by decide +kernel
theorem dksX0_follows_1 : cX0_follows.data.toList.drop 23 = dktX0_follows_1 := dk_seg dksX0_follows_0 23 rfl rfl
theorem dksX0_follows_2 : cX0_follows.data.toList.drop 47 = dktX0_follows_2 := dk_seg dksX0_follows_1 24 rfl rfl
theorem dksX0_follows_3 : cX0_follows.data.toList.drop 71 = dktX0_follows_3 := dk_seg dksX0_follows_2 24 rfl rfl
theorem dksX0_follows_4 : cX0_follows.data.toList.drop 93 = dktX0_follows_4 := dk_seg dksX0_follows_3 22 rfl rfl
theorem dksX0_follows_5 : cX0_follows.data.toList.drop 116 = dktX0_follows_5 := dk_seg dksX0_follows_4 23 rfl rfl
theorem dX0_follows_0 : decode cX0_follows 0 = .ok (.aload_n 0, 1) := dk_42 (dk_at dksX0_follows_0 0 rfl rfl)
theorem dX0_follows_1 : decode cX0_follows 1 = .ok (.iload_n 1, 1) := dk_27 (dk_at dksX0_follows_0 1 rfl rfl)
theorem dX0_follows_2 : decode cX0_follows 2 = .ok (.invokevirtual 299, 3) := dk_182 1 43 (dk_at dksX0_follows_0 2 rfl rfl)
theorem dX0_follows_5 : decode cX0_follows 5 = .ok (.istore 4, 2) := dk_54 4 (dk_at dksX0_follows_0 5 rfl rfl)
theorem dX0_follows_7 : decode cX0_follows 7 = .ok (.iload 4, 2) := dk_21 4 (dk_at dksX0_follows_0 7 rfl rfl)
theorem dX0_follows_9 : decode cX0_follows 9 = .ok (.ifCond .le 10, 3) := dk_158 0 10 (dk_at dksX0_follows_0 9 rfl rfl)
theorem dX0_follows_12 : decode cX0_follows 12 = .ok (.aload_n 0, 1) := dk_42 (dk_at dksX0_follows_0 12 rfl rfl)
theorem dX0_follows_13 : decode cX0_follows 13 = .ok (.iload 4, 2) := dk_21 4 (dk_at dksX0_follows_0 13 rfl rfl)
theorem dX0_follows_15 : decode cX0_follows 15 = .ok (.invokevirtual 97, 3) := dk_182 0 97 (dk_at dksX0_follows_0 15 rfl rfl)
theorem dX0_follows_18 : decode cX0_follows 18 = .ok (.ireturn, 1) := dk_172 (dk_at dksX0_follows_0 18 rfl rfl)
theorem dX0_follows_19 : decode cX0_follows 19 = .ok (.aload_n 0, 1) := dk_42 (dk_at dksX0_follows_0 19 rfl rfl)
theorem dX0_follows_20 : decode cX0_follows 20 = .ok (.iload_n 1, 1) := dk_27 (dk_at dksX0_follows_0 20 rfl rfl)
theorem dX0_follows_21 : decode cX0_follows 21 = .ok (.iconst 0, 1) := dk_3 (dk_at dksX0_follows_0 21 rfl rfl)
theorem dX0_follows_22 : decode cX0_follows 22 = .ok (.iconst 0, 1) := dk_3 (dk_at dksX0_follows_0 22 rfl rfl)
theorem dX0_follows_23 : decode cX0_follows 23 = .ok (.invokevirtual 376, 3) := dk_182 1 120 (dk_at dksX0_follows_1 0 rfl rfl)
theorem dX0_follows_26 : decode cX0_follows 26 = .ok (.iload_n 2, 1) := dk_28 (dk_at dksX0_follows_1 3 rfl rfl)
theorem dX0_follows_27 : decode cX0_follows 27 = .ok (.i2l, 1) := dk_133 (dk_at dksX0_follows_1 4 rfl rfl)
theorem dX0_follows_28 : decode cX0_follows 28 = .ok (.lconst 0, 1) := dk_9 (dk_at dksX0_follows_1 5 rfl rfl)
theorem dX0_follows_29 : decode cX0_follows 29 = .ok (.aload_n 0, 1) := dk_42 (dk_at dksX0_follows_1 6 rfl rfl)
theorem dX0_follows_30 : decode cX0_follows 30 = .ok (.getfield 364, 3) := dk_180 1 108 (dk_at dksX0_follows_1 7 rfl rfl)
theorem dX0_follows_33 : decode cX0_follows 33 = .ok (.i2l, 1) := dk_133 (dk_at dksX0_follows_1 10 rfl rfl)
theorem dX0_follows_34 : decode cX0_follows 34 = .ok (.invokestatic 289, 3) := dk_184 1 33 (dk_at dksX0_follows_1 11 rfl rfl)
theorem dX0_follows_37 : decode cX0_follows 37 = .ok (.ifCond .eq 19, 3) := dk_153 0 19 (dk_at dksX0_follows_1 14 rfl rfl)
theorem dX0_follows_40 : decode cX0_follows 40 = .ok (.iload_n 3, 1) := dk_29 (dk_at dksX0_follows_1 17 rfl rfl)
theorem dX0_follows_41 : decode cX0_follows 41 = .ok (.i2l, 1) := dk_133 (dk_at dksX0_follows_1 18 rfl rfl)
theorem dX0_follows_42 : decode cX0_follows 42 = .ok (.lconst 0, 1) := dk_9 (dk_at dksX0_follows_1 19 rfl rfl)
theorem dX0_follows_43 : decode cX0_follows 43 = .ok (.aload_n 0, 1) := dk_42 (dk_at dksX0_follows_1 20 rfl rfl)
theorem dX0_follows_44 : decode cX0_follows 44 = .ok (.getfield 364, 3) := dk_180 1 108 (dk_at dksX0_follows_1 21 rfl rfl)
theorem dX0_follows_47 : decode cX0_follows 47 = .ok (.iload_n 2, 1) := dk_28 (dk_at dksX0_follows_2 0 rfl rfl)
theorem dX0_follows_48 : decode cX0_follows 48 = .ok (.isub, 1) := dk_100 (dk_at dksX0_follows_2 1 rfl rfl)
theorem dX0_follows_49 : decode cX0_follows 49 = .ok (.i2l, 1) := dk_133 (dk_at dksX0_follows_2 2 rfl rfl)
theorem dX0_follows_50 : decode cX0_follows 50 = .ok (.invokestatic 289, 3) := dk_184 1 33 (dk_at dksX0_follows_2 3 rfl rfl)
theorem dX0_follows_53 : decode cX0_follows 53 = .ok (.ifCond .ne 9, 3) := dk_154 0 9 (dk_at dksX0_follows_2 6 rfl rfl)
theorem dX0_follows_56 : decode cX0_follows 56 = .ok (.aload_n 0, 1) := dk_42 (dk_at dksX0_follows_2 9 rfl rfl)
theorem dX0_follows_57 : decode cX0_follows 57 = .ok (.iconst 5, 1) := dk_8 (dk_at dksX0_follows_2 10 rfl rfl)
theorem dX0_follows_58 : decode cX0_follows 58 = .ok (.invokevirtual 97, 3) := dk_182 0 97 (dk_at dksX0_follows_2 11 rfl rfl)
theorem dX0_follows_61 : decode cX0_follows 61 = .ok (.ireturn, 1) := dk_172 (dk_at dksX0_follows_2 14 rfl rfl)
theorem dX0_follows_62 : decode cX0_follows 62 = .ok (.iconst 0, 1) := dk_3 (dk_at dksX0_follows_2 15 rfl rfl)
theorem dX0_follows_63 : decode cX0_follows 63 = .ok (.istore 5, 2) := dk_54 5 (dk_at dksX0_follows_2 16 rfl rfl)
theorem dX0_follows_65 : decode cX0_follows 65 = .ok (.iconst 0, 1) := dk_3 (dk_at dksX0_follows_2 18 rfl rfl)
theorem dX0_follows_66 : decode cX0_follows 66 = .ok (.istore 6, 2) := dk_54 6 (dk_at dksX0_follows_2 19 rfl rfl)
theorem dX0_follows_68 : decode cX0_follows 68 = .ok (.iload 6, 2) := dk_21 6 (dk_at dksX0_follows_2 21 rfl rfl)
theorem dX0_follows_70 : decode cX0_follows 70 = .ok (.aload_n 0, 1) := dk_42 (dk_at dksX0_follows_2 23 rfl rfl)
theorem dX0_follows_71 : decode cX0_follows 71 = .ok (.getfield 364, 3) := dk_180 1 108 (dk_at dksX0_follows_3 0 rfl rfl)
theorem dX0_follows_74 : decode cX0_follows 74 = .ok (.if_icmp .ge 41, 3) := dk_162 0 41 (dk_at dksX0_follows_3 3 rfl rfl)
theorem dX0_follows_77 : decode cX0_follows 77 = .ok (.iload 5, 2) := dk_21 5 (dk_at dksX0_follows_3 6 rfl rfl)
theorem dX0_follows_79 : decode cX0_follows 79 = .ok (.iload 6, 2) := dk_21 6 (dk_at dksX0_follows_3 8 rfl rfl)
theorem dX0_follows_81 : decode cX0_follows 81 = .ok (.iload_n 2, 1) := dk_28 (dk_at dksX0_follows_3 10 rfl rfl)
theorem dX0_follows_82 : decode cX0_follows 82 = .ok (.if_icmp .lt 14, 3) := dk_161 0 14 (dk_at dksX0_follows_3 11 rfl rfl)
theorem dX0_follows_85 : decode cX0_follows 85 = .ok (.iload 6, 2) := dk_21 6 (dk_at dksX0_follows_3 14 rfl rfl)
theorem dX0_follows_87 : decode cX0_follows 87 = .ok (.aload_n 0, 1) := dk_42 (dk_at dksX0_follows_3 16 rfl rfl)
theorem dX0_follows_88 : decode cX0_follows 88 = .ok (.getfield 364, 3) := dk_180 1 108 (dk_at dksX0_follows_3 17 rfl rfl)
theorem dX0_follows_91 : decode cX0_follows 91 = .ok (.iload_n 3, 1) := dk_29 (dk_at dksX0_follows_3 20 rfl rfl)
theorem dX0_follows_92 : decode cX0_follows 92 = .ok (.isub, 1) := dk_100 (dk_at dksX0_follows_3 21 rfl rfl)
theorem dX0_follows_93 : decode cX0_follows 93 = .ok (.if_icmp .lt 12, 3) := dk_161 0 12 (dk_at dksX0_follows_4 0 rfl rfl)
theorem dX0_follows_96 : decode cX0_follows 96 = .ok (.aload_n 0, 1) := dk_42 (dk_at dksX0_follows_4 3 rfl rfl)
theorem dX0_follows_97 : decode cX0_follows 97 = .ok (.iload 6, 2) := dk_21 6 (dk_at dksX0_follows_4 4 rfl rfl)
theorem dX0_follows_99 : decode cX0_follows 99 = .ok (.invokevirtual 372, 3) := dk_182 1 116 (dk_at dksX0_follows_4 6 rfl rfl)
theorem dX0_follows_102 : decode cX0_follows 102 = .ok (.goto 4, 3) := dk_167 0 4 (dk_at dksX0_follows_4 9 rfl rfl)
theorem dX0_follows_105 : decode cX0_follows 105 = .ok (.iconst 0, 1) := dk_3 (dk_at dksX0_follows_4 12 rfl rfl)
theorem dX0_follows_106 : decode cX0_follows 106 = .ok (.iadd, 1) := dk_96 (dk_at dksX0_follows_4 13 rfl rfl)
theorem dX0_follows_107 : decode cX0_follows 107 = .ok (.istore 5, 2) := dk_54 5 (dk_at dksX0_follows_4 14 rfl rfl)
theorem dX0_follows_109 : decode cX0_follows 109 = .ok (.iinc 6 1, 3) := dk_132 6 1 (dk_at dksX0_follows_4 16 rfl rfl)
theorem dX0_follows_112 : decode cX0_follows 112 = .ok (.goto (-44), 3) := dk_167 255 212 (dk_at dksX0_follows_4 19 rfl rfl)
theorem dX0_follows_115 : decode cX0_follows 115 = .ok (.aload_n 0, 1) := dk_42 (dk_at dksX0_follows_4 22 rfl rfl)
theorem dX0_follows_116 : decode cX0_follows 116 = .ok (.iload 5, 2) := dk_21 5 (dk_at dksX0_follows_5 0 rfl rfl)
theorem dX0_follows_118 : decode cX0_follows 118 = .ok (.invokevirtual 101, 3) := dk_182 0 101 (dk_at dksX0_follows_5 2 rfl rfl)
theorem dX0_follows_121 : decode cX0_follows 121 = .ok (.ireturn, 1) := dk_172 (dk_at dksX0_follows_5 5 rfl rfl)
abbrev cX0_all : ByteArray := prog_1_method_67_code
def yX0_all : MethodName := ⟨RX0, "all", "()I"⟩
def dkwX0_all_2 : List UInt8 := [29, 182, 1, 148, 132, 3, 1, 167, 255, 209, 42, 27, 182, 0, 101, 172]
abbrev dktX0_all_2 : List UInt8 := dkwX0_all_2 ++ []
def dkwX0_all_1 : List UInt8 := [29, 182, 1, 136, 96, 61, 21, 4, 27, 161, 0, 6, 167, 0, 16, 21, 4, 60, 42, 29, 181, 0, 72, 42]
abbrev dktX0_all_1 : List UInt8 := dkwX0_all_1 ++ dktX0_all_2
def dkwX0_all_0 : List UInt8 := [19, 1, 119, 60, 3, 61, 3, 62, 29, 7, 162, 0, 48, 28, 42, 29, 182, 1, 145, 96, 54, 4, 28, 42]
abbrev dktX0_all_0 : List UInt8 := dkwX0_all_0 ++ dktX0_all_1
theorem dksX0_all_0 : cX0_all.data.toList.drop 0 = dktX0_all_0 := by decide +kernel
theorem dksX0_all_1 : cX0_all.data.toList.drop 24 = dktX0_all_1 := dk_seg dksX0_all_0 24 rfl rfl
theorem dksX0_all_2 : cX0_all.data.toList.drop 48 = dktX0_all_2 := dk_seg dksX0_all_1 24 rfl rfl
theorem dX0_all_0 : decode cX0_all 0 = .ok (.ldc_w 375, 3) := dk_19 1 119 (dk_at dksX0_all_0 0 rfl rfl)
theorem dX0_all_3 : decode cX0_all 3 = .ok (.istore_n 1, 1) := dk_60 (dk_at dksX0_all_0 3 rfl rfl)
theorem dX0_all_4 : decode cX0_all 4 = .ok (.iconst 0, 1) := dk_3 (dk_at dksX0_all_0 4 rfl rfl)
theorem dX0_all_5 : decode cX0_all 5 = .ok (.istore_n 2, 1) := dk_61 (dk_at dksX0_all_0 5 rfl rfl)
theorem dX0_all_6 : decode cX0_all 6 = .ok (.iconst 0, 1) := dk_3 (dk_at dksX0_all_0 6 rfl rfl)
theorem dX0_all_7 : decode cX0_all 7 = .ok (.istore_n 3, 1) := dk_62 (dk_at dksX0_all_0 7 rfl rfl)
theorem dX0_all_8 : decode cX0_all 8 = .ok (.iload_n 3, 1) := dk_29 (dk_at dksX0_all_0 8 rfl rfl)
theorem dX0_all_9 : decode cX0_all 9 = .ok (.iconst 4, 1) := dk_7 (dk_at dksX0_all_0 9 rfl rfl)
theorem dX0_all_10 : decode cX0_all 10 = .ok (.if_icmp .ge 48, 3) := dk_162 0 48 (dk_at dksX0_all_0 10 rfl rfl)
theorem dX0_all_13 : decode cX0_all 13 = .ok (.iload_n 2, 1) := dk_28 (dk_at dksX0_all_0 13 rfl rfl)
theorem dX0_all_14 : decode cX0_all 14 = .ok (.aload_n 0, 1) := dk_42 (dk_at dksX0_all_0 14 rfl rfl)
theorem dX0_all_15 : decode cX0_all 15 = .ok (.iload_n 3, 1) := dk_29 (dk_at dksX0_all_0 15 rfl rfl)
theorem dX0_all_16 : decode cX0_all 16 = .ok (.invokevirtual 401, 3) := dk_182 1 145 (dk_at dksX0_all_0 16 rfl rfl)
theorem dX0_all_19 : decode cX0_all 19 = .ok (.iadd, 1) := dk_96 (dk_at dksX0_all_0 19 rfl rfl)
theorem dX0_all_20 : decode cX0_all 20 = .ok (.istore 4, 2) := dk_54 4 (dk_at dksX0_all_0 20 rfl rfl)
theorem dX0_all_22 : decode cX0_all 22 = .ok (.iload_n 2, 1) := dk_28 (dk_at dksX0_all_0 22 rfl rfl)
theorem dX0_all_23 : decode cX0_all 23 = .ok (.aload_n 0, 1) := dk_42 (dk_at dksX0_all_0 23 rfl rfl)
theorem dX0_all_24 : decode cX0_all 24 = .ok (.iload_n 3, 1) := dk_29 (dk_at dksX0_all_1 0 rfl rfl)
theorem dX0_all_25 : decode cX0_all 25 = .ok (.invokevirtual 392, 3) := dk_182 1 136 (dk_at dksX0_all_1 1 rfl rfl)
theorem dX0_all_28 : decode cX0_all 28 = .ok (.iadd, 1) := dk_96 (dk_at dksX0_all_1 4 rfl rfl)
theorem dX0_all_29 : decode cX0_all 29 = .ok (.istore_n 2, 1) := dk_61 (dk_at dksX0_all_1 5 rfl rfl)
theorem dX0_all_30 : decode cX0_all 30 = .ok (.iload 4, 2) := dk_21 4 (dk_at dksX0_all_1 6 rfl rfl)
theorem dX0_all_32 : decode cX0_all 32 = .ok (.iload_n 1, 1) := dk_27 (dk_at dksX0_all_1 8 rfl rfl)
theorem dX0_all_33 : decode cX0_all 33 = .ok (.if_icmp .lt 6, 3) := dk_161 0 6 (dk_at dksX0_all_1 9 rfl rfl)
theorem dX0_all_36 : decode cX0_all 36 = .ok (.goto 16, 3) := dk_167 0 16 (dk_at dksX0_all_1 12 rfl rfl)
theorem dX0_all_39 : decode cX0_all 39 = .ok (.iload 4, 2) := dk_21 4 (dk_at dksX0_all_1 15 rfl rfl)
theorem dX0_all_41 : decode cX0_all 41 = .ok (.istore_n 1, 1) := dk_60 (dk_at dksX0_all_1 17 rfl rfl)
theorem dX0_all_42 : decode cX0_all 42 = .ok (.aload_n 0, 1) := dk_42 (dk_at dksX0_all_1 18 rfl rfl)
theorem dX0_all_43 : decode cX0_all 43 = .ok (.iload_n 3, 1) := dk_29 (dk_at dksX0_all_1 19 rfl rfl)
theorem dX0_all_44 : decode cX0_all 44 = .ok (.putfield 72, 3) := dk_181 0 72 (dk_at dksX0_all_1 20 rfl rfl)
theorem dX0_all_47 : decode cX0_all 47 = .ok (.aload_n 0, 1) := dk_42 (dk_at dksX0_all_1 23 rfl rfl)
theorem dX0_all_48 : decode cX0_all 48 = .ok (.iload_n 3, 1) := dk_29 (dk_at dksX0_all_2 0 rfl rfl)
theorem dX0_all_49 : decode cX0_all 49 = .ok (.invokevirtual 404, 3) := dk_182 1 148 (dk_at dksX0_all_2 1 rfl rfl)
theorem dX0_all_52 : decode cX0_all 52 = .ok (.iinc 3 1, 3) := dk_132 3 1 (dk_at dksX0_all_2 4 rfl rfl)
theorem dX0_all_55 : decode cX0_all 55 = .ok (.goto (-47), 3) := dk_167 255 209 (dk_at dksX0_all_2 7 rfl rfl)
theorem dX0_all_58 : decode cX0_all 58 = .ok (.aload_n 0, 1) := dk_42 (dk_at dksX0_all_2 10 rfl rfl)
theorem dX0_all_59 : decode cX0_all 59 = .ok (.iload_n 1, 1) := dk_27 (dk_at dksX0_all_2 11 rfl rfl)
theorem dX0_all_60 : decode cX0_all 60 = .ok (.invokevirtual 101, 3) := dk_182 0 101 (dk_at dksX0_all_2 12 rfl rfl)
theorem dX0_all_63 : decode cX0_all 63 = .ok (.ireturn, 1) := dk_172 (dk_at dksX0_all_2 15 rfl rfl)
abbrev cX0_restOf : ByteArray := prog_1_method_66_code
def yX0_restOf : MethodName := ⟨RX0, "restOf", "(I)I"⟩
def dkwX0_restOf_5 : List UInt8 := [167, 255, 154, 42, 180, 0, 66, 3, 46, 172]
abbrev dktX0_restOf_5 : List UInt8 := dkwX0_restOf_5 ++ []
def dkwX0_restOf_4 : List UInt8 := [184, 1, 78, 54, 4, 132, 5, 1, 167, 255, 200, 42, 180, 0, 66, 29, 21, 4, 79, 132, 3, 255]
abbrev dktX0_restOf_4 : List UInt8 := dkwX0_restOf_4 ++ dktX0_restOf_5
def dkwX0_restOf_3 : List UInt8 := [21, 4, 42, 21, 5, 29, 27, 182, 1, 132, 42, 180, 0, 66, 29, 4, 21, 5, 120, 128, 46, 96]
abbrev dktX0_restOf_3 : List UInt8 := dkwX0_restOf_3 ++ dktX0_restOf_4
def dkwX0_restOf_2 : List UInt8 := [180, 0, 38, 180, 0, 152, 162, 0, 50, 28, 29, 2, 130, 126, 21, 5, 122, 4, 126, 4, 160, 0, 30]
abbrev dktX0_restOf_2 : List UInt8 := dkwX0_restOf_2 ++ dktX0_restOf_3
def dkwX0_restOf_1 : List UInt8 := [167, 0, 87, 29, 28, 160, 0, 7, 3, 167, 0, 6, 19, 1, 119, 54, 4, 3, 54, 5, 21, 5, 42]
abbrev dktX0_restOf_1 : List UInt8 := dkwX0_restOf_1 ++ dktX0_restOf_2
def dkwX0_restOf_0 : List UInt8 := [42, 180, 0, 38, 182, 0, 220, 61, 28, 62, 29, 155, 0, 104, 29, 28, 2, 130, 126, 153, 0, 6]
abbrev dktX0_restOf_0 : List UInt8 := dkwX0_restOf_0 ++ dktX0_restOf_1
theorem dksX0_restOf_0 : cX0_restOf.data.toList.drop 0 = dktX0_restOf_0 := by decide +kernel
theorem dksX0_restOf_1 : cX0_restOf.data.toList.drop 22 = dktX0_restOf_1 := dk_seg dksX0_restOf_0 22 rfl rfl
theorem dksX0_restOf_2 : cX0_restOf.data.toList.drop 45 = dktX0_restOf_2 := dk_seg dksX0_restOf_1 23 rfl rfl
theorem dksX0_restOf_3 : cX0_restOf.data.toList.drop 68 = dktX0_restOf_3 := dk_seg dksX0_restOf_2 23 rfl rfl
theorem dksX0_restOf_4 : cX0_restOf.data.toList.drop 90 = dktX0_restOf_4 := dk_seg dksX0_restOf_3 22 rfl rfl
theorem dksX0_restOf_5 : cX0_restOf.data.toList.drop 112 = dktX0_restOf_5 := dk_seg dksX0_restOf_4 22 rfl rfl
theorem dX0_restOf_0 : decode cX0_restOf 0 = .ok (.aload_n 0, 1) := dk_42 (dk_at dksX0_restOf_0 0 rfl rfl)
theorem dX0_restOf_1 : decode cX0_restOf 1 = .ok (.getfield 38, 3) := dk_180 0 38 (dk_at dksX0_restOf_0 1 rfl rfl)
theorem dX0_restOf_4 : decode cX0_restOf 4 = .ok (.invokevirtual 220, 3) := dk_182 0 220 (dk_at dksX0_restOf_0 4 rfl rfl)
theorem dX0_restOf_7 : decode cX0_restOf 7 = .ok (.istore_n 2, 1) := dk_61 (dk_at dksX0_restOf_0 7 rfl rfl)
theorem dX0_restOf_8 : decode cX0_restOf 8 = .ok (.iload_n 2, 1) := dk_28 (dk_at dksX0_restOf_0 8 rfl rfl)
theorem dX0_restOf_9 : decode cX0_restOf 9 = .ok (.istore_n 3, 1) := dk_62 (dk_at dksX0_restOf_0 9 rfl rfl)
theorem dX0_restOf_10 : decode cX0_restOf 10 = .ok (.iload_n 3, 1) := dk_29 (dk_at dksX0_restOf_0 10 rfl rfl)
theorem dX0_restOf_11 : decode cX0_restOf 11 = .ok (.ifCond .lt 104, 3) := dk_155 0 104 (dk_at dksX0_restOf_0 11 rfl rfl)
theorem dX0_restOf_14 : decode cX0_restOf 14 = .ok (.iload_n 3, 1) := dk_29 (dk_at dksX0_restOf_0 14 rfl rfl)
theorem dX0_restOf_15 : decode cX0_restOf 15 = .ok (.iload_n 2, 1) := dk_28 (dk_at dksX0_restOf_0 15 rfl rfl)
theorem dX0_restOf_16 : decode cX0_restOf 16 = .ok (.iconst (-1), 1) := dk_2 (dk_at dksX0_restOf_0 16 rfl rfl)
theorem dX0_restOf_17 : decode cX0_restOf 17 = .ok (.ixor, 1) := dk_130 (dk_at dksX0_restOf_0 17 rfl rfl)
theorem dX0_restOf_18 : decode cX0_restOf 18 = .ok (.iand, 1) := dk_126 (dk_at dksX0_restOf_0 18 rfl rfl)
theorem dX0_restOf_19 : decode cX0_restOf 19 = .ok (.ifCond .eq 6, 3) := dk_153 0 6 (dk_at dksX0_restOf_0 19 rfl rfl)
theorem dX0_restOf_22 : decode cX0_restOf 22 = .ok (.goto 87, 3) := dk_167 0 87 (dk_at dksX0_restOf_1 0 rfl rfl)
theorem dX0_restOf_25 : decode cX0_restOf 25 = .ok (.iload_n 3, 1) := dk_29 (dk_at dksX0_restOf_1 3 rfl rfl)
theorem dX0_restOf_26 : decode cX0_restOf 26 = .ok (.iload_n 2, 1) := dk_28 (dk_at dksX0_restOf_1 4 rfl rfl)
theorem dX0_restOf_27 : decode cX0_restOf 27 = .ok (.if_icmp .ne 7, 3) := dk_160 0 7 (dk_at dksX0_restOf_1 5 rfl rfl)
theorem dX0_restOf_30 : decode cX0_restOf 30 = .ok (.iconst 0, 1) := dk_3 (dk_at dksX0_restOf_1 8 rfl rfl)
theorem dX0_restOf_31 : decode cX0_restOf 31 = .ok (.goto 6, 3) := dk_167 0 6 (dk_at dksX0_restOf_1 9 rfl rfl)
theorem dX0_restOf_34 : decode cX0_restOf 34 = .ok (.ldc_w 375, 3) := dk_19 1 119 (dk_at dksX0_restOf_1 12 rfl rfl)
theorem dX0_restOf_37 : decode cX0_restOf 37 = .ok (.istore 4, 2) := dk_54 4 (dk_at dksX0_restOf_1 15 rfl rfl)
theorem dX0_restOf_39 : decode cX0_restOf 39 = .ok (.iconst 0, 1) := dk_3 (dk_at dksX0_restOf_1 17 rfl rfl)
theorem dX0_restOf_40 : decode cX0_restOf 40 = .ok (.istore 5, 2) := dk_54 5 (dk_at dksX0_restOf_1 18 rfl rfl)
theorem dX0_restOf_42 : decode cX0_restOf 42 = .ok (.iload 5, 2) := dk_21 5 (dk_at dksX0_restOf_1 20 rfl rfl)
theorem dX0_restOf_44 : decode cX0_restOf 44 = .ok (.aload_n 0, 1) := dk_42 (dk_at dksX0_restOf_1 22 rfl rfl)
theorem dX0_restOf_45 : decode cX0_restOf 45 = .ok (.getfield 38, 3) := dk_180 0 38 (dk_at dksX0_restOf_2 0 rfl rfl)
theorem dX0_restOf_48 : decode cX0_restOf 48 = .ok (.getfield 152, 3) := dk_180 0 152 (dk_at dksX0_restOf_2 3 rfl rfl)
theorem dX0_restOf_51 : decode cX0_restOf 51 = .ok (.if_icmp .ge 50, 3) := dk_162 0 50 (dk_at dksX0_restOf_2 6 rfl rfl)
theorem dX0_restOf_54 : decode cX0_restOf 54 = .ok (.iload_n 2, 1) := dk_28 (dk_at dksX0_restOf_2 9 rfl rfl)
theorem dX0_restOf_55 : decode cX0_restOf 55 = .ok (.iload_n 3, 1) := dk_29 (dk_at dksX0_restOf_2 10 rfl rfl)
theorem dX0_restOf_56 : decode cX0_restOf 56 = .ok (.iconst (-1), 1) := dk_2 (dk_at dksX0_restOf_2 11 rfl rfl)
theorem dX0_restOf_57 : decode cX0_restOf 57 = .ok (.ixor, 1) := dk_130 (dk_at dksX0_restOf_2 12 rfl rfl)
theorem dX0_restOf_58 : decode cX0_restOf 58 = .ok (.iand, 1) := dk_126 (dk_at dksX0_restOf_2 13 rfl rfl)
theorem dX0_restOf_59 : decode cX0_restOf 59 = .ok (.iload 5, 2) := dk_21 5 (dk_at dksX0_restOf_2 14 rfl rfl)
theorem dX0_restOf_61 : decode cX0_restOf 61 = .ok (.ishr, 1) := dk_122 (dk_at dksX0_restOf_2 16 rfl rfl)
theorem dX0_restOf_62 : decode cX0_restOf 62 = .ok (.iconst 1, 1) := dk_4 (dk_at dksX0_restOf_2 17 rfl rfl)
theorem dX0_restOf_63 : decode cX0_restOf 63 = .ok (.iand, 1) := dk_126 (dk_at dksX0_restOf_2 18 rfl rfl)
theorem dX0_restOf_64 : decode cX0_restOf 64 = .ok (.iconst 1, 1) := dk_4 (dk_at dksX0_restOf_2 19 rfl rfl)
theorem dX0_restOf_65 : decode cX0_restOf 65 = .ok (.if_icmp .ne 30, 3) := dk_160 0 30 (dk_at dksX0_restOf_2 20 rfl rfl)
theorem dX0_restOf_68 : decode cX0_restOf 68 = .ok (.iload 4, 2) := dk_21 4 (dk_at dksX0_restOf_3 0 rfl rfl)
theorem dX0_restOf_70 : decode cX0_restOf 70 = .ok (.aload_n 0, 1) := dk_42 (dk_at dksX0_restOf_3 2 rfl rfl)
theorem dX0_restOf_71 : decode cX0_restOf 71 = .ok (.iload 5, 2) := dk_21 5 (dk_at dksX0_restOf_3 3 rfl rfl)
theorem dX0_restOf_73 : decode cX0_restOf 73 = .ok (.iload_n 3, 1) := dk_29 (dk_at dksX0_restOf_3 5 rfl rfl)
theorem dX0_restOf_74 : decode cX0_restOf 74 = .ok (.iload_n 1, 1) := dk_27 (dk_at dksX0_restOf_3 6 rfl rfl)
theorem dX0_restOf_75 : decode cX0_restOf 75 = .ok (.invokevirtual 388, 3) := dk_182 1 132 (dk_at dksX0_restOf_3 7 rfl rfl)
theorem dX0_restOf_78 : decode cX0_restOf 78 = .ok (.aload_n 0, 1) := dk_42 (dk_at dksX0_restOf_3 10 rfl rfl)
theorem dX0_restOf_79 : decode cX0_restOf 79 = .ok (.getfield 66, 3) := dk_180 0 66 (dk_at dksX0_restOf_3 11 rfl rfl)
theorem dX0_restOf_82 : decode cX0_restOf 82 = .ok (.iload_n 3, 1) := dk_29 (dk_at dksX0_restOf_3 14 rfl rfl)
theorem dX0_restOf_83 : decode cX0_restOf 83 = .ok (.iconst 1, 1) := dk_4 (dk_at dksX0_restOf_3 15 rfl rfl)
theorem dX0_restOf_84 : decode cX0_restOf 84 = .ok (.iload 5, 2) := dk_21 5 (dk_at dksX0_restOf_3 16 rfl rfl)
theorem dX0_restOf_86 : decode cX0_restOf 86 = .ok (.ishl, 1) := dk_120 (dk_at dksX0_restOf_3 18 rfl rfl)
theorem dX0_restOf_87 : decode cX0_restOf 87 = .ok (.ior, 1) := dk_128 (dk_at dksX0_restOf_3 19 rfl rfl)
theorem dX0_restOf_88 : decode cX0_restOf 88 = .ok (.iaload, 1) := dk_46 (dk_at dksX0_restOf_3 20 rfl rfl)
theorem dX0_restOf_89 : decode cX0_restOf 89 = .ok (.iadd, 1) := dk_96 (dk_at dksX0_restOf_3 21 rfl rfl)
theorem dX0_restOf_90 : decode cX0_restOf 90 = .ok (.invokestatic 334, 3) := dk_184 1 78 (dk_at dksX0_restOf_4 0 rfl rfl)
theorem dX0_restOf_93 : decode cX0_restOf 93 = .ok (.istore 4, 2) := dk_54 4 (dk_at dksX0_restOf_4 3 rfl rfl)
theorem dX0_restOf_95 : decode cX0_restOf 95 = .ok (.iinc 5 1, 3) := dk_132 5 1 (dk_at dksX0_restOf_4 5 rfl rfl)
theorem dX0_restOf_98 : decode cX0_restOf 98 = .ok (.goto (-56), 3) := dk_167 255 200 (dk_at dksX0_restOf_4 8 rfl rfl)
theorem dX0_restOf_101 : decode cX0_restOf 101 = .ok (.aload_n 0, 1) := dk_42 (dk_at dksX0_restOf_4 11 rfl rfl)
theorem dX0_restOf_102 : decode cX0_restOf 102 = .ok (.getfield 66, 3) := dk_180 0 66 (dk_at dksX0_restOf_4 12 rfl rfl)
theorem dX0_restOf_105 : decode cX0_restOf 105 = .ok (.iload_n 3, 1) := dk_29 (dk_at dksX0_restOf_4 15 rfl rfl)
theorem dX0_restOf_106 : decode cX0_restOf 106 = .ok (.iload 4, 2) := dk_21 4 (dk_at dksX0_restOf_4 16 rfl rfl)
theorem dX0_restOf_108 : decode cX0_restOf 108 = .ok (.iastore, 1) := dk_79 (dk_at dksX0_restOf_4 18 rfl rfl)
theorem dX0_restOf_109 : decode cX0_restOf 109 = .ok (.iinc 3 (-1), 3) := dk_132 3 255 (dk_at dksX0_restOf_4 19 rfl rfl)
theorem dX0_restOf_112 : decode cX0_restOf 112 = .ok (.goto (-102), 3) := dk_167 255 154 (dk_at dksX0_restOf_5 0 rfl rfl)
theorem dX0_restOf_115 : decode cX0_restOf 115 = .ok (.aload_n 0, 1) := dk_42 (dk_at dksX0_restOf_5 3 rfl rfl)
theorem dX0_restOf_116 : decode cX0_restOf 116 = .ok (.getfield 66, 3) := dk_180 0 66 (dk_at dksX0_restOf_5 4 rfl rfl)
theorem dX0_restOf_119 : decode cX0_restOf 119 = .ok (.iconst 0, 1) := dk_3 (dk_at dksX0_restOf_5 7 rfl rfl)
theorem dX0_restOf_120 : decode cX0_restOf 120 = .ok (.iaload, 1) := dk_46 (dk_at dksX0_restOf_5 8 rfl rfl)
theorem dX0_restOf_121 : decode cX0_restOf 121 = .ok (.ireturn, 1) := dk_172 (dk_at dksX0_restOf_5 9 rfl rfl)
abbrev cX0_ordersBy : ByteArray := prog_1_method_68_code
def yX0_ordersBy : MethodName := ⟨RX0, "ordersBy", "(I)V"⟩
def dkwX0_ordersBy_4 : List UInt8 := [120, 128, 62, 167, 255, 172, 177]
abbrev dktX0_ordersBy_4 : List UInt8 := dkwX0_ordersBy_4 ++ []
def dkwX0_ordersBy_3 : List UInt8 := [180, 0, 69, 42, 180, 1, 151, 21, 4, 79, 42, 89, 180, 1, 151, 4, 96, 181, 1, 151, 29, 4, 21, 4]
abbrev dktX0_ordersBy_3 : List UInt8 := dkwX0_ordersBy_3 ++ dktX0_ordersBy_4
def dkwX0_ordersBy_2 : List UInt8 := [29, 4, 21, 4, 120, 128, 46, 96, 42, 180, 0, 66, 29, 46, 159, 0, 9, 132, 4, 1, 167, 255, 211, 42]
abbrev dktX0_ordersBy_2 : List UInt8 := dkwX0_ordersBy_2 ++ dktX0_ordersBy_3
def dkwX0_ordersBy_1 : List UInt8 := [29, 2, 130, 126, 21, 4, 122, 4, 126, 153, 0, 32, 42, 21, 4, 29, 27, 182, 1, 132, 42, 180, 0, 66]
abbrev dktX0_ordersBy_1 : List UInt8 := dkwX0_ordersBy_1 ++ dktX0_ordersBy_2
def dkwX0_ordersBy_0 : List UInt8 := [42, 180, 0, 38, 182, 0, 220, 61, 3, 62, 42, 3, 181, 1, 151, 29, 28, 159, 0, 85, 3, 54, 4, 28]
abbrev dktX0_ordersBy_0 : List UInt8 := dkwX0_ordersBy_0 ++ dktX0_ordersBy_1
theorem dksX0_ordersBy_0 : cX0_ordersBy.data.toList.drop 0 = dktX0_ordersBy_0 := by decide +kernel
theorem dksX0_ordersBy_1 : cX0_ordersBy.data.toList.drop 24 = dktX0_ordersBy_1 := dk_seg dksX0_ordersBy_0 24 rfl rfl
theorem dksX0_ordersBy_2 : cX0_ordersBy.data.toList.drop 48 = dktX0_ordersBy_2 := dk_seg dksX0_ordersBy_1 24 rfl rfl
theorem dksX0_ordersBy_3 : cX0_ordersBy.data.toList.drop 72 = dktX0_ordersBy_3 := dk_seg dksX0_ordersBy_2 24 rfl rfl
theorem dksX0_ordersBy_4 : cX0_ordersBy.data.toList.drop 96 = dktX0_ordersBy_4 := dk_seg dksX0_ordersBy_3 24 rfl rfl
theorem dX0_ordersBy_0 : decode cX0_ordersBy 0 = .ok (.aload_n 0, 1) := dk_42 (dk_at dksX0_ordersBy_0 0 rfl rfl)
theorem dX0_ordersBy_1 : decode cX0_ordersBy 1 = .ok (.getfield 38, 3) := dk_180 0 38 (dk_at dksX0_ordersBy_0 1 rfl rfl)
theorem dX0_ordersBy_4 : decode cX0_ordersBy 4 = .ok (.invokevirtual 220, 3) := dk_182 0 220 (dk_at dksX0_ordersBy_0 4 rfl rfl)
theorem dX0_ordersBy_7 : decode cX0_ordersBy 7 = .ok (.istore_n 2, 1) := dk_61 (dk_at dksX0_ordersBy_0 7 rfl rfl)
theorem dX0_ordersBy_8 : decode cX0_ordersBy 8 = .ok (.iconst 0, 1) := dk_3 (dk_at dksX0_ordersBy_0 8 rfl rfl)
theorem dX0_ordersBy_9 : decode cX0_ordersBy 9 = .ok (.istore_n 3, 1) := dk_62 (dk_at dksX0_ordersBy_0 9 rfl rfl)
theorem dX0_ordersBy_10 : decode cX0_ordersBy 10 = .ok (.aload_n 0, 1) := dk_42 (dk_at dksX0_ordersBy_0 10 rfl rfl)
theorem dX0_ordersBy_11 : decode cX0_ordersBy 11 = .ok (.iconst 0, 1) := dk_3 (dk_at dksX0_ordersBy_0 11 rfl rfl)
theorem dX0_ordersBy_12 : decode cX0_ordersBy 12 = .ok (.putfield 407, 3) := dk_181 1 151 (dk_at dksX0_ordersBy_0 12 rfl rfl)
theorem dX0_ordersBy_15 : decode cX0_ordersBy 15 = .ok (.iload_n 3, 1) := dk_29 (dk_at dksX0_ordersBy_0 15 rfl rfl)
theorem dX0_ordersBy_16 : decode cX0_ordersBy 16 = .ok (.iload_n 2, 1) := dk_28 (dk_at dksX0_ordersBy_0 16 rfl rfl)
theorem dX0_ordersBy_17 : decode cX0_ordersBy 17 = .ok (.if_icmp .eq 85, 3) := dk_159 0 85 (dk_at dksX0_ordersBy_0 17 rfl rfl)
theorem dX0_ordersBy_20 : decode cX0_ordersBy 20 = .ok (.iconst 0, 1) := dk_3 (dk_at dksX0_ordersBy_0 20 rfl rfl)
theorem dX0_ordersBy_21 : decode cX0_ordersBy 21 = .ok (.istore 4, 2) := dk_54 4 (dk_at dksX0_ordersBy_0 21 rfl rfl)
theorem dX0_ordersBy_23 : decode cX0_ordersBy 23 = .ok (.iload_n 2, 1) := dk_28 (dk_at dksX0_ordersBy_0 23 rfl rfl)
theorem dX0_ordersBy_24 : decode cX0_ordersBy 24 = .ok (.iload_n 3, 1) := dk_29 (dk_at dksX0_ordersBy_1 0 rfl rfl)
theorem dX0_ordersBy_25 : decode cX0_ordersBy 25 = .ok (.iconst (-1), 1) := dk_2 (dk_at dksX0_ordersBy_1 1 rfl rfl)
theorem dX0_ordersBy_26 : decode cX0_ordersBy 26 = .ok (.ixor, 1) := dk_130 (dk_at dksX0_ordersBy_1 2 rfl rfl)
theorem dX0_ordersBy_27 : decode cX0_ordersBy 27 = .ok (.iand, 1) := dk_126 (dk_at dksX0_ordersBy_1 3 rfl rfl)
theorem dX0_ordersBy_28 : decode cX0_ordersBy 28 = .ok (.iload 4, 2) := dk_21 4 (dk_at dksX0_ordersBy_1 4 rfl rfl)
theorem dX0_ordersBy_30 : decode cX0_ordersBy 30 = .ok (.ishr, 1) := dk_122 (dk_at dksX0_ordersBy_1 6 rfl rfl)
theorem dX0_ordersBy_31 : decode cX0_ordersBy 31 = .ok (.iconst 1, 1) := dk_4 (dk_at dksX0_ordersBy_1 7 rfl rfl)
theorem dX0_ordersBy_32 : decode cX0_ordersBy 32 = .ok (.iand, 1) := dk_126 (dk_at dksX0_ordersBy_1 8 rfl rfl)
theorem dX0_ordersBy_33 : decode cX0_ordersBy 33 = .ok (.ifCond .eq 32, 3) := dk_153 0 32 (dk_at dksX0_ordersBy_1 9 rfl rfl)
theorem dX0_ordersBy_36 : decode cX0_ordersBy 36 = .ok (.aload_n 0, 1) := dk_42 (dk_at dksX0_ordersBy_1 12 rfl rfl)
theorem dX0_ordersBy_37 : decode cX0_ordersBy 37 = .ok (.iload 4, 2) := dk_21 4 (dk_at dksX0_ordersBy_1 13 rfl rfl)
theorem dX0_ordersBy_39 : decode cX0_ordersBy 39 = .ok (.iload_n 3, 1) := dk_29 (dk_at dksX0_ordersBy_1 15 rfl rfl)
theorem dX0_ordersBy_40 : decode cX0_ordersBy 40 = .ok (.iload_n 1, 1) := dk_27 (dk_at dksX0_ordersBy_1 16 rfl rfl)
theorem dX0_ordersBy_41 : decode cX0_ordersBy 41 = .ok (.invokevirtual 388, 3) := dk_182 1 132 (dk_at dksX0_ordersBy_1 17 rfl rfl)
theorem dX0_ordersBy_44 : decode cX0_ordersBy 44 = .ok (.aload_n 0, 1) := dk_42 (dk_at dksX0_ordersBy_1 20 rfl rfl)
theorem dX0_ordersBy_45 : decode cX0_ordersBy 45 = .ok (.getfield 66, 3) := dk_180 0 66 (dk_at dksX0_ordersBy_1 21 rfl rfl)
theorem dX0_ordersBy_48 : decode cX0_ordersBy 48 = .ok (.iload_n 3, 1) := dk_29 (dk_at dksX0_ordersBy_2 0 rfl rfl)
theorem dX0_ordersBy_49 : decode cX0_ordersBy 49 = .ok (.iconst 1, 1) := dk_4 (dk_at dksX0_ordersBy_2 1 rfl rfl)
theorem dX0_ordersBy_50 : decode cX0_ordersBy 50 = .ok (.iload 4, 2) := dk_21 4 (dk_at dksX0_ordersBy_2 2 rfl rfl)
theorem dX0_ordersBy_52 : decode cX0_ordersBy 52 = .ok (.ishl, 1) := dk_120 (dk_at dksX0_ordersBy_2 4 rfl rfl)
theorem dX0_ordersBy_53 : decode cX0_ordersBy 53 = .ok (.ior, 1) := dk_128 (dk_at dksX0_ordersBy_2 5 rfl rfl)
theorem dX0_ordersBy_54 : decode cX0_ordersBy 54 = .ok (.iaload, 1) := dk_46 (dk_at dksX0_ordersBy_2 6 rfl rfl)
theorem dX0_ordersBy_55 : decode cX0_ordersBy 55 = .ok (.iadd, 1) := dk_96 (dk_at dksX0_ordersBy_2 7 rfl rfl)
theorem dX0_ordersBy_56 : decode cX0_ordersBy 56 = .ok (.aload_n 0, 1) := dk_42 (dk_at dksX0_ordersBy_2 8 rfl rfl)
theorem dX0_ordersBy_57 : decode cX0_ordersBy 57 = .ok (.getfield 66, 3) := dk_180 0 66 (dk_at dksX0_ordersBy_2 9 rfl rfl)
theorem dX0_ordersBy_60 : decode cX0_ordersBy 60 = .ok (.iload_n 3, 1) := dk_29 (dk_at dksX0_ordersBy_2 12 rfl rfl)
theorem dX0_ordersBy_61 : decode cX0_ordersBy 61 = .ok (.iaload, 1) := dk_46 (dk_at dksX0_ordersBy_2 13 rfl rfl)
theorem dX0_ordersBy_62 : decode cX0_ordersBy 62 = .ok (.if_icmp .eq 9, 3) := dk_159 0 9 (dk_at dksX0_ordersBy_2 14 rfl rfl)
theorem dX0_ordersBy_65 : decode cX0_ordersBy 65 = .ok (.iinc 4 1, 3) := dk_132 4 1 (dk_at dksX0_ordersBy_2 17 rfl rfl)
theorem dX0_ordersBy_68 : decode cX0_ordersBy 68 = .ok (.goto (-45), 3) := dk_167 255 211 (dk_at dksX0_ordersBy_2 20 rfl rfl)
theorem dX0_ordersBy_71 : decode cX0_ordersBy 71 = .ok (.aload_n 0, 1) := dk_42 (dk_at dksX0_ordersBy_2 23 rfl rfl)
theorem dX0_ordersBy_72 : decode cX0_ordersBy 72 = .ok (.getfield 69, 3) := dk_180 0 69 (dk_at dksX0_ordersBy_3 0 rfl rfl)
theorem dX0_ordersBy_75 : decode cX0_ordersBy 75 = .ok (.aload_n 0, 1) := dk_42 (dk_at dksX0_ordersBy_3 3 rfl rfl)
theorem dX0_ordersBy_76 : decode cX0_ordersBy 76 = .ok (.getfield 407, 3) := dk_180 1 151 (dk_at dksX0_ordersBy_3 4 rfl rfl)
theorem dX0_ordersBy_79 : decode cX0_ordersBy 79 = .ok (.iload 4, 2) := dk_21 4 (dk_at dksX0_ordersBy_3 7 rfl rfl)
theorem dX0_ordersBy_81 : decode cX0_ordersBy 81 = .ok (.iastore, 1) := dk_79 (dk_at dksX0_ordersBy_3 9 rfl rfl)
theorem dX0_ordersBy_82 : decode cX0_ordersBy 82 = .ok (.aload_n 0, 1) := dk_42 (dk_at dksX0_ordersBy_3 10 rfl rfl)
theorem dX0_ordersBy_83 : decode cX0_ordersBy 83 = .ok (.dup, 1) := dk_89 (dk_at dksX0_ordersBy_3 11 rfl rfl)
theorem dX0_ordersBy_84 : decode cX0_ordersBy 84 = .ok (.getfield 407, 3) := dk_180 1 151 (dk_at dksX0_ordersBy_3 12 rfl rfl)
theorem dX0_ordersBy_87 : decode cX0_ordersBy 87 = .ok (.iconst 1, 1) := dk_4 (dk_at dksX0_ordersBy_3 15 rfl rfl)
theorem dX0_ordersBy_88 : decode cX0_ordersBy 88 = .ok (.iadd, 1) := dk_96 (dk_at dksX0_ordersBy_3 16 rfl rfl)
theorem dX0_ordersBy_89 : decode cX0_ordersBy 89 = .ok (.putfield 407, 3) := dk_181 1 151 (dk_at dksX0_ordersBy_3 17 rfl rfl)
theorem dX0_ordersBy_92 : decode cX0_ordersBy 92 = .ok (.iload_n 3, 1) := dk_29 (dk_at dksX0_ordersBy_3 20 rfl rfl)
theorem dX0_ordersBy_93 : decode cX0_ordersBy 93 = .ok (.iconst 1, 1) := dk_4 (dk_at dksX0_ordersBy_3 21 rfl rfl)
theorem dX0_ordersBy_94 : decode cX0_ordersBy 94 = .ok (.iload 4, 2) := dk_21 4 (dk_at dksX0_ordersBy_3 22 rfl rfl)
theorem dX0_ordersBy_96 : decode cX0_ordersBy 96 = .ok (.ishl, 1) := dk_120 (dk_at dksX0_ordersBy_4 0 rfl rfl)
theorem dX0_ordersBy_97 : decode cX0_ordersBy 97 = .ok (.ior, 1) := dk_128 (dk_at dksX0_ordersBy_4 1 rfl rfl)
theorem dX0_ordersBy_98 : decode cX0_ordersBy 98 = .ok (.istore_n 3, 1) := dk_62 (dk_at dksX0_ordersBy_4 2 rfl rfl)
theorem dX0_ordersBy_99 : decode cX0_ordersBy 99 = .ok (.goto (-84), 3) := dk_167 255 172 (dk_at dksX0_ordersBy_4 3 rfl rfl)
theorem dX0_ordersBy_102 : decode cX0_ordersBy 102 = .ok (.return_, 1) := dk_177 (dk_at dksX0_ordersBy_4 6 rfl rfl)
abbrev cX0_order : ByteArray := prog_1_method_69_code
def yX0_order : MethodName := ⟨RX0, "order", "(I)I"⟩
def dkwX0_order_1 : List UInt8 := [180, 0, 69, 27, 46, 182, 0, 101, 172]
abbrev dktX0_order_1 : List UInt8 := dkwX0_order_1 ++ []
def dkwX0_order_0 : List UInt8 := [27, 155, 0, 11, 27, 42, 180, 1, 151, 161, 0, 12, 42, 16, 8, 182, 0, 97, 167, 0, 13, 42, 42]
abbrev dktX0_order_0 : List UInt8 := dkwX0_order_0 ++ dktX0_order_1
theorem dksX0_order_0 : cX0_order.data.toList.drop 0 = dktX0_order_0 := by decide +kernel
theorem dksX0_order_1 : cX0_order.data.toList.drop 23 = dktX0_order_1 := dk_seg dksX0_order_0 23 rfl rfl
theorem dX0_order_0 : decode cX0_order 0 = .ok (.iload_n 1, 1) := dk_27 (dk_at dksX0_order_0 0 rfl rfl)
theorem dX0_order_1 : decode cX0_order 1 = .ok (.ifCond .lt 11, 3) := dk_155 0 11 (dk_at dksX0_order_0 1 rfl rfl)
theorem dX0_order_4 : decode cX0_order 4 = .ok (.iload_n 1, 1) := dk_27 (dk_at dksX0_order_0 4 rfl rfl)
theorem dX0_order_5 : decode cX0_order 5 = .ok (.aload_n 0, 1) := dk_42 (dk_at dksX0_order_0 5 rfl rfl)
theorem dX0_order_6 : decode cX0_order 6 = .ok (.getfield 407, 3) := dk_180 1 151 (dk_at dksX0_order_0 6 rfl rfl)
theorem dX0_order_9 : decode cX0_order 9 = .ok (.if_icmp .lt 12, 3) := dk_161 0 12 (dk_at dksX0_order_0 9 rfl rfl)
theorem dX0_order_12 : decode cX0_order 12 = .ok (.aload_n 0, 1) := dk_42 (dk_at dksX0_order_0 12 rfl rfl)
theorem dX0_order_13 : decode cX0_order 13 = .ok (.bipush 8, 2) := dk_16 8 (dk_at dksX0_order_0 13 rfl rfl)
theorem dX0_order_15 : decode cX0_order 15 = .ok (.invokevirtual 97, 3) := dk_182 0 97 (dk_at dksX0_order_0 15 rfl rfl)
theorem dX0_order_18 : decode cX0_order 18 = .ok (.goto 13, 3) := dk_167 0 13 (dk_at dksX0_order_0 18 rfl rfl)
theorem dX0_order_21 : decode cX0_order 21 = .ok (.aload_n 0, 1) := dk_42 (dk_at dksX0_order_0 21 rfl rfl)
theorem dX0_order_22 : decode cX0_order 22 = .ok (.aload_n 0, 1) := dk_42 (dk_at dksX0_order_0 22 rfl rfl)
theorem dX0_order_23 : decode cX0_order 23 = .ok (.getfield 69, 3) := dk_180 0 69 (dk_at dksX0_order_1 0 rfl rfl)
theorem dX0_order_26 : decode cX0_order 26 = .ok (.iload_n 1, 1) := dk_27 (dk_at dksX0_order_1 3 rfl rfl)
theorem dX0_order_27 : decode cX0_order 27 = .ok (.iaload, 1) := dk_46 (dk_at dksX0_order_1 4 rfl rfl)
theorem dX0_order_28 : decode cX0_order 28 = .ok (.invokevirtual 101, 3) := dk_182 0 101 (dk_at dksX0_order_1 5 rfl rfl)
theorem dX0_order_31 : decode cX0_order 31 = .ok (.ireturn, 1) := dk_172 (dk_at dksX0_order_1 8 rfl rfl)
abbrev cX0_loosens : ByteArray := prog_1_method_70_code
def yX0_loosens : MethodName := ⟨RX0, "loosens", "()I"⟩
def dkwX0_loosens_0 : List UInt8 := [42, 42, 180, 0, 72, 182, 1, 19, 172]
abbrev dktX0_loosens_0 : List UInt8 := dkwX0_loosens_0 ++ []
theorem dksX0_loosens_0 : cX0_loosens.data.toList.drop 0 = dktX0_loosens_0 := by decide +kernel
theorem dX0_loosens_0 : decode cX0_loosens 0 = .ok (.aload_n 0, 1) := dk_42 (dk_at dksX0_loosens_0 0 rfl rfl)
theorem dX0_loosens_1 : decode cX0_loosens 1 = .ok (.aload_n 0, 1) := dk_42 (dk_at dksX0_loosens_0 1 rfl rfl)
theorem dX0_loosens_2 : decode cX0_loosens 2 = .ok (.getfield 72, 3) := dk_180 0 72 (dk_at dksX0_loosens_0 2 rfl rfl)
theorem dX0_loosens_5 : decode cX0_loosens 5 = .ok (.invokevirtual 275, 3) := dk_182 1 19 (dk_at dksX0_loosens_0 5 rfl rfl)
theorem dX0_loosens_8 : decode cX0_loosens 8 = .ok (.ireturn, 1) := dk_172 (dk_at dksX0_loosens_0 8 rfl rfl)
abbrev cX0_soonest : ByteArray := prog_1_method_71_code
def yX0_soonest : MethodName := ⟨RX0, "soonest", "()I"⟩
def dkwX0_soonest_3 : List UInt8 := [182, 1, 19, 172]
abbrev dktX0_soonest_3 : List UInt8 := dkwX0_soonest_3 ++ []
def dkwX0_soonest_2 : List UInt8 := [21, 4, 28, 161, 0, 6, 167, 0, 8, 29, 60, 21, 4, 61, 132, 3, 1, 167, 255, 198, 42, 27]
abbrev dktX0_soonest_2 : List UInt8 := dkwX0_soonest_2 ++ dktX0_soonest_3
def dkwX0_soonest_1 : List UInt8 := [29, 50, 180, 0, 165, 153, 0, 6, 167, 0, 29, 42, 29, 182, 1, 139, 54, 4, 27, 2, 159, 0, 12]
abbrev dktX0_soonest_1 : List UInt8 := dkwX0_soonest_1 ++ dktX0_soonest_2
def dkwX0_soonest_0 : List UInt8 := [2, 60, 3, 61, 3, 62, 29, 42, 180, 0, 38, 180, 0, 152, 162, 0, 53, 42, 180, 0, 38, 180, 0, 161]
abbrev dktX0_soonest_0 : List UInt8 := dkwX0_soonest_0 ++ dktX0_soonest_1
theorem dksX0_soonest_0 : cX0_soonest.data.toList.drop 0 = dktX0_soonest_0 := by decide +kernel
theorem dksX0_soonest_1 : cX0_soonest.data.toList.drop 24 = dktX0_soonest_1 := dk_seg dksX0_soonest_0 24 rfl rfl
theorem dksX0_soonest_2 : cX0_soonest.data.toList.drop 47 = dktX0_soonest_2 := dk_seg dksX0_soonest_1 23 rfl rfl
theorem dksX0_soonest_3 : cX0_soonest.data.toList.drop 69 = dktX0_soonest_3 := dk_seg dksX0_soonest_2 22 rfl rfl
theorem dX0_soonest_0 : decode cX0_soonest 0 = .ok (.iconst (-1), 1) := dk_2 (dk_at dksX0_soonest_0 0 rfl rfl)
theorem dX0_soonest_1 : decode cX0_soonest 1 = .ok (.istore_n 1, 1) := dk_60 (dk_at dksX0_soonest_0 1 rfl rfl)
theorem dX0_soonest_2 : decode cX0_soonest 2 = .ok (.iconst 0, 1) := dk_3 (dk_at dksX0_soonest_0 2 rfl rfl)
theorem dX0_soonest_3 : decode cX0_soonest 3 = .ok (.istore_n 2, 1) := dk_61 (dk_at dksX0_soonest_0 3 rfl rfl)
theorem dX0_soonest_4 : decode cX0_soonest 4 = .ok (.iconst 0, 1) := dk_3 (dk_at dksX0_soonest_0 4 rfl rfl)
theorem dX0_soonest_5 : decode cX0_soonest 5 = .ok (.istore_n 3, 1) := dk_62 (dk_at dksX0_soonest_0 5 rfl rfl)
theorem dX0_soonest_6 : decode cX0_soonest 6 = .ok (.iload_n 3, 1) := dk_29 (dk_at dksX0_soonest_0 6 rfl rfl)
theorem dX0_soonest_7 : decode cX0_soonest 7 = .ok (.aload_n 0, 1) := dk_42 (dk_at dksX0_soonest_0 7 rfl rfl)
theorem dX0_soonest_8 : decode cX0_soonest 8 = .ok (.getfield 38, 3) := dk_180 0 38 (dk_at dksX0_soonest_0 8 rfl rfl)
theorem dX0_soonest_11 : decode cX0_soonest 11 = .ok (.getfield 152, 3) := dk_180 0 152 (dk_at dksX0_soonest_0 11 rfl rfl)
theorem dX0_soonest_14 : decode cX0_soonest 14 = .ok (.if_icmp .ge 53, 3) := dk_162 0 53 (dk_at dksX0_soonest_0 14 rfl rfl)
theorem dX0_soonest_17 : decode cX0_soonest 17 = .ok (.aload_n 0, 1) := dk_42 (dk_at dksX0_soonest_0 17 rfl rfl)
theorem dX0_soonest_18 : decode cX0_soonest 18 = .ok (.getfield 38, 3) := dk_180 0 38 (dk_at dksX0_soonest_0 18 rfl rfl)
theorem dX0_soonest_21 : decode cX0_soonest 21 = .ok (.getfield 161, 3) := dk_180 0 161 (dk_at dksX0_soonest_0 21 rfl rfl)
theorem dX0_soonest_24 : decode cX0_soonest 24 = .ok (.iload_n 3, 1) := dk_29 (dk_at dksX0_soonest_1 0 rfl rfl)
theorem dX0_soonest_25 : decode cX0_soonest 25 = .ok (.aaload, 1) := dk_50 (dk_at dksX0_soonest_1 1 rfl rfl)
theorem dX0_soonest_26 : decode cX0_soonest 26 = .ok (.getfield 165, 3) := dk_180 0 165 (dk_at dksX0_soonest_1 2 rfl rfl)
theorem dX0_soonest_29 : decode cX0_soonest 29 = .ok (.ifCond .eq 6, 3) := dk_153 0 6 (dk_at dksX0_soonest_1 5 rfl rfl)
theorem dX0_soonest_32 : decode cX0_soonest 32 = .ok (.goto 29, 3) := dk_167 0 29 (dk_at dksX0_soonest_1 8 rfl rfl)
theorem dX0_soonest_35 : decode cX0_soonest 35 = .ok (.aload_n 0, 1) := dk_42 (dk_at dksX0_soonest_1 11 rfl rfl)
theorem dX0_soonest_36 : decode cX0_soonest 36 = .ok (.iload_n 3, 1) := dk_29 (dk_at dksX0_soonest_1 12 rfl rfl)
theorem dX0_soonest_37 : decode cX0_soonest 37 = .ok (.invokevirtual 395, 3) := dk_182 1 139 (dk_at dksX0_soonest_1 13 rfl rfl)
theorem dX0_soonest_40 : decode cX0_soonest 40 = .ok (.istore 4, 2) := dk_54 4 (dk_at dksX0_soonest_1 16 rfl rfl)
theorem dX0_soonest_42 : decode cX0_soonest 42 = .ok (.iload_n 1, 1) := dk_27 (dk_at dksX0_soonest_1 18 rfl rfl)
theorem dX0_soonest_43 : decode cX0_soonest 43 = .ok (.iconst (-1), 1) := dk_2 (dk_at dksX0_soonest_1 19 rfl rfl)
theorem dX0_soonest_44 : decode cX0_soonest 44 = .ok (.if_icmp .eq 12, 3) := dk_159 0 12 (dk_at dksX0_soonest_1 20 rfl rfl)
theorem dX0_soonest_47 : decode cX0_soonest 47 = .ok (.iload 4, 2) := dk_21 4 (dk_at dksX0_soonest_2 0 rfl rfl)
theorem dX0_soonest_49 : decode cX0_soonest 49 = .ok (.iload_n 2, 1) := dk_28 (dk_at dksX0_soonest_2 2 rfl rfl)
theorem dX0_soonest_50 : decode cX0_soonest 50 = .ok (.if_icmp .lt 6, 3) := dk_161 0 6 (dk_at dksX0_soonest_2 3 rfl rfl)
theorem dX0_soonest_53 : decode cX0_soonest 53 = .ok (.goto 8, 3) := dk_167 0 8 (dk_at dksX0_soonest_2 6 rfl rfl)
theorem dX0_soonest_56 : decode cX0_soonest 56 = .ok (.iload_n 3, 1) := dk_29 (dk_at dksX0_soonest_2 9 rfl rfl)
theorem dX0_soonest_57 : decode cX0_soonest 57 = .ok (.istore_n 1, 1) := dk_60 (dk_at dksX0_soonest_2 10 rfl rfl)
theorem dX0_soonest_58 : decode cX0_soonest 58 = .ok (.iload 4, 2) := dk_21 4 (dk_at dksX0_soonest_2 11 rfl rfl)
theorem dX0_soonest_60 : decode cX0_soonest 60 = .ok (.istore_n 2, 1) := dk_61 (dk_at dksX0_soonest_2 13 rfl rfl)
theorem dX0_soonest_61 : decode cX0_soonest 61 = .ok (.iinc 3 1, 3) := dk_132 3 1 (dk_at dksX0_soonest_2 14 rfl rfl)
theorem dX0_soonest_64 : decode cX0_soonest 64 = .ok (.goto (-58), 3) := dk_167 255 198 (dk_at dksX0_soonest_2 17 rfl rfl)
theorem dX0_soonest_67 : decode cX0_soonest 67 = .ok (.aload_n 0, 1) := dk_42 (dk_at dksX0_soonest_2 20 rfl rfl)
theorem dX0_soonest_68 : decode cX0_soonest 68 = .ok (.iload_n 1, 1) := dk_27 (dk_at dksX0_soonest_2 21 rfl rfl)
theorem dX0_soonest_69 : decode cX0_soonest 69 = .ok (.invokevirtual 275, 3) := dk_182 1 19 (dk_at dksX0_soonest_3 0 rfl rfl)
theorem dX0_soonest_72 : decode cX0_soonest 72 = .ok (.ireturn, 1) := dk_172 (dk_at dksX0_soonest_3 3 rfl rfl)
abbrev cX0_fresh : ByteArray := prog_1_method_72_code
def yX0_fresh : MethodName := ⟨RX0, "fresh", "(II)Z"⟩
def dkwX0_fresh_3 : List UInt8 := [172]
abbrev dktX0_fresh_3 : List UInt8 := dkwX0_fresh_3 ++ []
def dkwX0_fresh_2 : List UInt8 := [20, 1, 156, 42, 180, 0, 38, 180, 0, 161, 27, 50, 180, 0, 248, 133, 105, 101, 20, 1, 156, 182, 1, 158]
abbrev dktX0_fresh_2 : List UInt8 := dkwX0_fresh_2 ++ dktX0_fresh_3
def dkwX0_fresh_1 : List UInt8 := [184, 1, 33, 154, 0, 9, 42, 8, 182, 0, 110, 172, 42, 42, 27, 182, 1, 139, 133, 28, 133, 105]
abbrev dktX0_fresh_1 : List UInt8 := dkwX0_fresh_1 ++ dktX0_fresh_2
def dkwX0_fresh_0 : List UInt8 := [42, 27, 182, 1, 43, 62, 29, 158, 0, 9, 42, 29, 182, 0, 110, 172, 28, 133, 9, 20, 1, 154]
abbrev dktX0_fresh_0 : List UInt8 := dkwX0_fresh_0 ++ dktX0_fresh_1
theorem dksX0_fresh_0 : cX0_fresh.data.toList.drop 0 = dktX0_fresh_0 := by decide +kernel
theorem dksX0_fresh_1 : cX0_fresh.data.toList.drop 22 = dktX0_fresh_1 := dk_seg dksX0_fresh_0 22 rfl rfl
theorem dksX0_fresh_2 : cX0_fresh.data.toList.drop 44 = dktX0_fresh_2 := dk_seg dksX0_fresh_1 22 rfl rfl
theorem dksX0_fresh_3 : cX0_fresh.data.toList.drop 68 = dktX0_fresh_3 := dk_seg dksX0_fresh_2 24 rfl rfl
theorem dX0_fresh_0 : decode cX0_fresh 0 = .ok (.aload_n 0, 1) := dk_42 (dk_at dksX0_fresh_0 0 rfl rfl)
theorem dX0_fresh_1 : decode cX0_fresh 1 = .ok (.iload_n 1, 1) := dk_27 (dk_at dksX0_fresh_0 1 rfl rfl)
theorem dX0_fresh_2 : decode cX0_fresh 2 = .ok (.invokevirtual 299, 3) := dk_182 1 43 (dk_at dksX0_fresh_0 2 rfl rfl)
theorem dX0_fresh_5 : decode cX0_fresh 5 = .ok (.istore_n 3, 1) := dk_62 (dk_at dksX0_fresh_0 5 rfl rfl)
theorem dX0_fresh_6 : decode cX0_fresh 6 = .ok (.iload_n 3, 1) := dk_29 (dk_at dksX0_fresh_0 6 rfl rfl)
theorem dX0_fresh_7 : decode cX0_fresh 7 = .ok (.ifCond .le 9, 3) := dk_158 0 9 (dk_at dksX0_fresh_0 7 rfl rfl)
theorem dX0_fresh_10 : decode cX0_fresh 10 = .ok (.aload_n 0, 1) := dk_42 (dk_at dksX0_fresh_0 10 rfl rfl)
theorem dX0_fresh_11 : decode cX0_fresh 11 = .ok (.iload_n 3, 1) := dk_29 (dk_at dksX0_fresh_0 11 rfl rfl)
theorem dX0_fresh_12 : decode cX0_fresh 12 = .ok (.invokevirtual 110, 3) := dk_182 0 110 (dk_at dksX0_fresh_0 12 rfl rfl)
theorem dX0_fresh_15 : decode cX0_fresh 15 = .ok (.ireturn, 1) := dk_172 (dk_at dksX0_fresh_0 15 rfl rfl)
theorem dX0_fresh_16 : decode cX0_fresh 16 = .ok (.iload_n 2, 1) := dk_28 (dk_at dksX0_fresh_0 16 rfl rfl)
theorem dX0_fresh_17 : decode cX0_fresh 17 = .ok (.i2l, 1) := dk_133 (dk_at dksX0_fresh_0 17 rfl rfl)
theorem dX0_fresh_18 : decode cX0_fresh 18 = .ok (.lconst 0, 1) := dk_9 (dk_at dksX0_fresh_0 18 rfl rfl)
theorem dX0_fresh_19 : decode cX0_fresh 19 = .ok (.ldc2_w 410, 3) := dk_20 1 154 (dk_at dksX0_fresh_0 19 rfl rfl)
theorem dX0_fresh_22 : decode cX0_fresh 22 = .ok (.invokestatic 289, 3) := dk_184 1 33 (dk_at dksX0_fresh_1 0 rfl rfl)
theorem dX0_fresh_25 : decode cX0_fresh 25 = .ok (.ifCond .ne 9, 3) := dk_154 0 9 (dk_at dksX0_fresh_1 3 rfl rfl)
theorem dX0_fresh_28 : decode cX0_fresh 28 = .ok (.aload_n 0, 1) := dk_42 (dk_at dksX0_fresh_1 6 rfl rfl)
theorem dX0_fresh_29 : decode cX0_fresh 29 = .ok (.iconst 5, 1) := dk_8 (dk_at dksX0_fresh_1 7 rfl rfl)
theorem dX0_fresh_30 : decode cX0_fresh 30 = .ok (.invokevirtual 110, 3) := dk_182 0 110 (dk_at dksX0_fresh_1 8 rfl rfl)
theorem dX0_fresh_33 : decode cX0_fresh 33 = .ok (.ireturn, 1) := dk_172 (dk_at dksX0_fresh_1 11 rfl rfl)
theorem dX0_fresh_34 : decode cX0_fresh 34 = .ok (.aload_n 0, 1) := dk_42 (dk_at dksX0_fresh_1 12 rfl rfl)
theorem dX0_fresh_35 : decode cX0_fresh 35 = .ok (.aload_n 0, 1) := dk_42 (dk_at dksX0_fresh_1 13 rfl rfl)
theorem dX0_fresh_36 : decode cX0_fresh 36 = .ok (.iload_n 1, 1) := dk_27 (dk_at dksX0_fresh_1 14 rfl rfl)
theorem dX0_fresh_37 : decode cX0_fresh 37 = .ok (.invokevirtual 395, 3) := dk_182 1 139 (dk_at dksX0_fresh_1 15 rfl rfl)
theorem dX0_fresh_40 : decode cX0_fresh 40 = .ok (.i2l, 1) := dk_133 (dk_at dksX0_fresh_1 18 rfl rfl)
theorem dX0_fresh_41 : decode cX0_fresh 41 = .ok (.iload_n 2, 1) := dk_28 (dk_at dksX0_fresh_1 19 rfl rfl)
theorem dX0_fresh_42 : decode cX0_fresh 42 = .ok (.i2l, 1) := dk_133 (dk_at dksX0_fresh_1 20 rfl rfl)
theorem dX0_fresh_43 : decode cX0_fresh 43 = .ok (.lmul, 1) := dk_105 (dk_at dksX0_fresh_1 21 rfl rfl)
theorem dX0_fresh_44 : decode cX0_fresh 44 = .ok (.ldc2_w 412, 3) := dk_20 1 156 (dk_at dksX0_fresh_2 0 rfl rfl)
theorem dX0_fresh_47 : decode cX0_fresh 47 = .ok (.aload_n 0, 1) := dk_42 (dk_at dksX0_fresh_2 3 rfl rfl)
theorem dX0_fresh_48 : decode cX0_fresh 48 = .ok (.getfield 38, 3) := dk_180 0 38 (dk_at dksX0_fresh_2 4 rfl rfl)
theorem dX0_fresh_51 : decode cX0_fresh 51 = .ok (.getfield 161, 3) := dk_180 0 161 (dk_at dksX0_fresh_2 7 rfl rfl)
theorem dX0_fresh_54 : decode cX0_fresh 54 = .ok (.iload_n 1, 1) := dk_27 (dk_at dksX0_fresh_2 10 rfl rfl)
theorem dX0_fresh_55 : decode cX0_fresh 55 = .ok (.aaload, 1) := dk_50 (dk_at dksX0_fresh_2 11 rfl rfl)
theorem dX0_fresh_56 : decode cX0_fresh 56 = .ok (.getfield 248, 3) := dk_180 0 248 (dk_at dksX0_fresh_2 12 rfl rfl)
theorem dX0_fresh_59 : decode cX0_fresh 59 = .ok (.i2l, 1) := dk_133 (dk_at dksX0_fresh_2 15 rfl rfl)
theorem dX0_fresh_60 : decode cX0_fresh 60 = .ok (.lmul, 1) := dk_105 (dk_at dksX0_fresh_2 16 rfl rfl)
theorem dX0_fresh_61 : decode cX0_fresh 61 = .ok (.lsub, 1) := dk_101 (dk_at dksX0_fresh_2 17 rfl rfl)
theorem dX0_fresh_62 : decode cX0_fresh 62 = .ok (.ldc2_w 412, 3) := dk_20 1 156 (dk_at dksX0_fresh_2 18 rfl rfl)
theorem dX0_fresh_65 : decode cX0_fresh 65 = .ok (.invokevirtual 414, 3) := dk_182 1 158 (dk_at dksX0_fresh_2 21 rfl rfl)
theorem dX0_fresh_68 : decode cX0_fresh 68 = .ok (.ireturn, 1) := dk_172 (dk_at dksX0_fresh_3 0 rfl rfl)
abbrev cX0_tell : ByteArray := prog_1_method_9_code
def yX0_tell : MethodName := ⟨RX0, "tell", "(JJ)Z"⟩
def dkwX0_tell_2 : List UInt8 := [181, 0, 49, 42, 3, 182, 0, 110, 172]
abbrev dktX0_tell_2 : List UInt8 := dkwX0_tell_2 ++ []
def dkwX0_tell_1 : List UInt8 := [22, 7, 55, 5, 22, 9, 55, 7, 167, 255, 234, 42, 31, 22, 5, 109, 181, 0, 94, 42, 33, 22, 5, 109]
abbrev dktX0_tell_1 : List UInt8 := dkwX0_tell_1 ++ dktX0_tell_2
def dkwX0_tell_0 : List UInt8 := [31, 184, 0, 104, 55, 5, 33, 55, 7, 22, 7, 9, 148, 153, 0, 21, 22, 5, 22, 7, 113, 55, 9]
abbrev dktX0_tell_0 : List UInt8 := dkwX0_tell_0 ++ dktX0_tell_1
theorem dksX0_tell_0 : cX0_tell.data.toList.drop 0 = dktX0_tell_0 := by decide +kernel
theorem dksX0_tell_1 : cX0_tell.data.toList.drop 23 = dktX0_tell_1 := dk_seg dksX0_tell_0 23 rfl rfl
theorem dksX0_tell_2 : cX0_tell.data.toList.drop 47 = dktX0_tell_2 := dk_seg dksX0_tell_1 24 rfl rfl
theorem dX0_tell_0 : decode cX0_tell 0 = .ok (.lload_n 1, 1) := dk_31 (dk_at dksX0_tell_0 0 rfl rfl)
theorem dX0_tell_1 : decode cX0_tell 1 = .ok (.invokestatic 104, 3) := dk_184 0 104 (dk_at dksX0_tell_0 1 rfl rfl)
theorem dX0_tell_4 : decode cX0_tell 4 = .ok (.lstore 5, 2) := dk_55 5 (dk_at dksX0_tell_0 4 rfl rfl)
theorem dX0_tell_6 : decode cX0_tell 6 = .ok (.lload_n 3, 1) := dk_33 (dk_at dksX0_tell_0 6 rfl rfl)
theorem dX0_tell_7 : decode cX0_tell 7 = .ok (.lstore 7, 2) := dk_55 7 (dk_at dksX0_tell_0 7 rfl rfl)
theorem dX0_tell_9 : decode cX0_tell 9 = .ok (.lload 7, 2) := dk_22 7 (dk_at dksX0_tell_0 9 rfl rfl)
theorem dX0_tell_11 : decode cX0_tell 11 = .ok (.lconst 0, 1) := dk_9 (dk_at dksX0_tell_0 11 rfl rfl)
theorem dX0_tell_12 : decode cX0_tell 12 = .ok (.lcmp, 1) := dk_148 (dk_at dksX0_tell_0 12 rfl rfl)
theorem dX0_tell_13 : decode cX0_tell 13 = .ok (.ifCond .eq 21, 3) := dk_153 0 21 (dk_at dksX0_tell_0 13 rfl rfl)
theorem dX0_tell_16 : decode cX0_tell 16 = .ok (.lload 5, 2) := dk_22 5 (dk_at dksX0_tell_0 16 rfl rfl)
theorem dX0_tell_18 : decode cX0_tell 18 = .ok (.lload 7, 2) := dk_22 7 (dk_at dksX0_tell_0 18 rfl rfl)
theorem dX0_tell_20 : decode cX0_tell 20 = .ok (.lrem, 1) := dk_113 (dk_at dksX0_tell_0 20 rfl rfl)
theorem dX0_tell_21 : decode cX0_tell 21 = .ok (.lstore 9, 2) := dk_55 9 (dk_at dksX0_tell_0 21 rfl rfl)
theorem dX0_tell_23 : decode cX0_tell 23 = .ok (.lload 7, 2) := dk_22 7 (dk_at dksX0_tell_1 0 rfl rfl)
theorem dX0_tell_25 : decode cX0_tell 25 = .ok (.lstore 5, 2) := dk_55 5 (dk_at dksX0_tell_1 2 rfl rfl)
theorem dX0_tell_27 : decode cX0_tell 27 = .ok (.lload 9, 2) := dk_22 9 (dk_at dksX0_tell_1 4 rfl rfl)
theorem dX0_tell_29 : decode cX0_tell 29 = .ok (.lstore 7, 2) := dk_55 7 (dk_at dksX0_tell_1 6 rfl rfl)
theorem dX0_tell_31 : decode cX0_tell 31 = .ok (.goto (-22), 3) := dk_167 255 234 (dk_at dksX0_tell_1 8 rfl rfl)
theorem dX0_tell_34 : decode cX0_tell 34 = .ok (.aload_n 0, 1) := dk_42 (dk_at dksX0_tell_1 11 rfl rfl)
theorem dX0_tell_35 : decode cX0_tell 35 = .ok (.lload_n 1, 1) := dk_31 (dk_at dksX0_tell_1 12 rfl rfl)
theorem dX0_tell_36 : decode cX0_tell 36 = .ok (.lload 5, 2) := dk_22 5 (dk_at dksX0_tell_1 13 rfl rfl)
theorem dX0_tell_38 : decode cX0_tell 38 = .ok (.ldiv, 1) := dk_109 (dk_at dksX0_tell_1 15 rfl rfl)
theorem dX0_tell_39 : decode cX0_tell 39 = .ok (.putfield 94, 3) := dk_181 0 94 (dk_at dksX0_tell_1 16 rfl rfl)
theorem dX0_tell_42 : decode cX0_tell 42 = .ok (.aload_n 0, 1) := dk_42 (dk_at dksX0_tell_1 19 rfl rfl)
theorem dX0_tell_43 : decode cX0_tell 43 = .ok (.lload_n 3, 1) := dk_33 (dk_at dksX0_tell_1 20 rfl rfl)
theorem dX0_tell_44 : decode cX0_tell 44 = .ok (.lload 5, 2) := dk_22 5 (dk_at dksX0_tell_1 21 rfl rfl)
theorem dX0_tell_46 : decode cX0_tell 46 = .ok (.ldiv, 1) := dk_109 (dk_at dksX0_tell_1 23 rfl rfl)
theorem dX0_tell_47 : decode cX0_tell 47 = .ok (.putfield 49, 3) := dk_181 0 49 (dk_at dksX0_tell_2 0 rfl rfl)
theorem dX0_tell_50 : decode cX0_tell 50 = .ok (.aload_n 0, 1) := dk_42 (dk_at dksX0_tell_2 3 rfl rfl)
theorem dX0_tell_51 : decode cX0_tell 51 = .ok (.iconst 0, 1) := dk_3 (dk_at dksX0_tell_2 4 rfl rfl)
theorem dX0_tell_52 : decode cX0_tell 52 = .ok (.invokevirtual 110, 3) := dk_182 0 110 (dk_at dksX0_tell_2 5 rfl rfl)
theorem dX0_tell_55 : decode cX0_tell 55 = .ok (.ireturn, 1) := dk_172 (dk_at dksX0_tell_2 8 rfl rfl)
abbrev cX0_grows : ByteArray := prog_1_method_74_code
def yX0_grows : MethodName := ⟨RX0, "grows", "()Z"⟩
def dkwX0_grows_0 : List UInt8 := [42, 42, 182, 1, 162, 133, 20, 1, 165, 182, 1, 158, 172]
abbrev dktX0_grows_0 : List UInt8 := dkwX0_grows_0 ++ []
theorem dksX0_grows_0 : cX0_grows.data.toList.drop 0 = dktX0_grows_0 := by decide +kernel
theorem dX0_grows_0 : decode cX0_grows 0 = .ok (.aload_n 0, 1) := dk_42 (dk_at dksX0_grows_0 0 rfl rfl)
theorem dX0_grows_1 : decode cX0_grows 1 = .ok (.aload_n 0, 1) := dk_42 (dk_at dksX0_grows_0 1 rfl rfl)
theorem dX0_grows_2 : decode cX0_grows 2 = .ok (.invokevirtual 418, 3) := dk_182 1 162 (dk_at dksX0_grows_0 2 rfl rfl)
theorem dX0_grows_5 : decode cX0_grows 5 = .ok (.i2l, 1) := dk_133 (dk_at dksX0_grows_0 5 rfl rfl)
theorem dX0_grows_6 : decode cX0_grows 6 = .ok (.ldc2_w 421, 3) := dk_20 1 165 (dk_at dksX0_grows_0 6 rfl rfl)
theorem dX0_grows_9 : decode cX0_grows 9 = .ok (.invokevirtual 414, 3) := dk_182 1 158 (dk_at dksX0_grows_0 9 rfl rfl)
theorem dX0_grows_12 : decode cX0_grows 12 = .ok (.ireturn, 1) := dk_172 (dk_at dksX0_grows_0 12 rfl rfl)
abbrev cX0_risks : ByteArray := prog_1_method_73_code
def yX0_risks : MethodName := ⟨RX0, "risks", "()I"⟩
def dkwX0_risks_2 : List UInt8 := [182, 1, 1, 167, 0, 4, 3, 96, 60, 132, 2, 1, 167, 255, 200, 27, 172]
abbrev dktX0_risks_2 : List UInt8 := dkwX0_risks_2 ++ []
def dkwX0_risks_1 : List UInt8 := [50, 182, 1, 57, 153, 0, 26, 42, 28, 182, 1, 72, 158, 0, 18, 42, 180, 0, 38, 180, 0, 161, 28, 50]
abbrev dktX0_risks_1 : List UInt8 := dkwX0_risks_1 ++ dktX0_risks_2
def dkwX0_risks_0 : List UInt8 := [3, 60, 3, 61, 28, 42, 180, 0, 38, 180, 0, 152, 162, 0, 51, 27, 42, 180, 0, 38, 180, 0, 161, 28]
abbrev dktX0_risks_0 : List UInt8 := dkwX0_risks_0 ++ dktX0_risks_1
theorem dksX0_risks_0 : cX0_risks.data.toList.drop 0 = dktX0_risks_0 := by decide +kernel
theorem dksX0_risks_1 : cX0_risks.data.toList.drop 24 = dktX0_risks_1 := dk_seg dksX0_risks_0 24 rfl rfl
theorem dksX0_risks_2 : cX0_risks.data.toList.drop 48 = dktX0_risks_2 := dk_seg dksX0_risks_1 24 rfl rfl
theorem dX0_risks_0 : decode cX0_risks 0 = .ok (.iconst 0, 1) := dk_3 (dk_at dksX0_risks_0 0 rfl rfl)
theorem dX0_risks_1 : decode cX0_risks 1 = .ok (.istore_n 1, 1) := dk_60 (dk_at dksX0_risks_0 1 rfl rfl)
theorem dX0_risks_2 : decode cX0_risks 2 = .ok (.iconst 0, 1) := dk_3 (dk_at dksX0_risks_0 2 rfl rfl)
theorem dX0_risks_3 : decode cX0_risks 3 = .ok (.istore_n 2, 1) := dk_61 (dk_at dksX0_risks_0 3 rfl rfl)
theorem dX0_risks_4 : decode cX0_risks 4 = .ok (.iload_n 2, 1) := dk_28 (dk_at dksX0_risks_0 4 rfl rfl)
theorem dX0_risks_5 : decode cX0_risks 5 = .ok (.aload_n 0, 1) := dk_42 (dk_at dksX0_risks_0 5 rfl rfl)
theorem dX0_risks_6 : decode cX0_risks 6 = .ok (.getfield 38, 3) := dk_180 0 38 (dk_at dksX0_risks_0 6 rfl rfl)
theorem dX0_risks_9 : decode cX0_risks 9 = .ok (.getfield 152, 3) := dk_180 0 152 (dk_at dksX0_risks_0 9 rfl rfl)
theorem dX0_risks_12 : decode cX0_risks 12 = .ok (.if_icmp .ge 51, 3) := dk_162 0 51 (dk_at dksX0_risks_0 12 rfl rfl)
theorem dX0_risks_15 : decode cX0_risks 15 = .ok (.iload_n 1, 1) := dk_27 (dk_at dksX0_risks_0 15 rfl rfl)
theorem dX0_risks_16 : decode cX0_risks 16 = .ok (.aload_n 0, 1) := dk_42 (dk_at dksX0_risks_0 16 rfl rfl)
theorem dX0_risks_17 : decode cX0_risks 17 = .ok (.getfield 38, 3) := dk_180 0 38 (dk_at dksX0_risks_0 17 rfl rfl)
theorem dX0_risks_20 : decode cX0_risks 20 = .ok (.getfield 161, 3) := dk_180 0 161 (dk_at dksX0_risks_0 20 rfl rfl)
theorem dX0_risks_23 : decode cX0_risks 23 = .ok (.iload_n 2, 1) := dk_28 (dk_at dksX0_risks_0 23 rfl rfl)
theorem dX0_risks_24 : decode cX0_risks 24 = .ok (.aaload, 1) := dk_50 (dk_at dksX0_risks_1 0 rfl rfl)
theorem dX0_risks_25 : decode cX0_risks 25 = .ok (.invokevirtual 313, 3) := dk_182 1 57 (dk_at dksX0_risks_1 1 rfl rfl)
theorem dX0_risks_28 : decode cX0_risks 28 = .ok (.ifCond .eq 26, 3) := dk_153 0 26 (dk_at dksX0_risks_1 4 rfl rfl)
theorem dX0_risks_31 : decode cX0_risks 31 = .ok (.aload_n 0, 1) := dk_42 (dk_at dksX0_risks_1 7 rfl rfl)
theorem dX0_risks_32 : decode cX0_risks 32 = .ok (.iload_n 2, 1) := dk_28 (dk_at dksX0_risks_1 8 rfl rfl)
theorem dX0_risks_33 : decode cX0_risks 33 = .ok (.invokevirtual 328, 3) := dk_182 1 72 (dk_at dksX0_risks_1 9 rfl rfl)
theorem dX0_risks_36 : decode cX0_risks 36 = .ok (.ifCond .le 18, 3) := dk_158 0 18 (dk_at dksX0_risks_1 12 rfl rfl)
theorem dX0_risks_39 : decode cX0_risks 39 = .ok (.aload_n 0, 1) := dk_42 (dk_at dksX0_risks_1 15 rfl rfl)
theorem dX0_risks_40 : decode cX0_risks 40 = .ok (.getfield 38, 3) := dk_180 0 38 (dk_at dksX0_risks_1 16 rfl rfl)
theorem dX0_risks_43 : decode cX0_risks 43 = .ok (.getfield 161, 3) := dk_180 0 161 (dk_at dksX0_risks_1 19 rfl rfl)
theorem dX0_risks_46 : decode cX0_risks 46 = .ok (.iload_n 2, 1) := dk_28 (dk_at dksX0_risks_1 22 rfl rfl)
theorem dX0_risks_47 : decode cX0_risks 47 = .ok (.aaload, 1) := dk_50 (dk_at dksX0_risks_1 23 rfl rfl)
theorem dX0_risks_48 : decode cX0_risks 48 = .ok (.invokevirtual 257, 3) := dk_182 1 1 (dk_at dksX0_risks_2 0 rfl rfl)
theorem dX0_risks_51 : decode cX0_risks 51 = .ok (.goto 4, 3) := dk_167 0 4 (dk_at dksX0_risks_2 3 rfl rfl)
theorem dX0_risks_54 : decode cX0_risks 54 = .ok (.iconst 0, 1) := dk_3 (dk_at dksX0_risks_2 6 rfl rfl)
theorem dX0_risks_55 : decode cX0_risks 55 = .ok (.iadd, 1) := dk_96 (dk_at dksX0_risks_2 7 rfl rfl)
theorem dX0_risks_56 : decode cX0_risks 56 = .ok (.istore_n 1, 1) := dk_60 (dk_at dksX0_risks_2 8 rfl rfl)
theorem dX0_risks_57 : decode cX0_risks 57 = .ok (.iinc 2 1, 3) := dk_132 2 1 (dk_at dksX0_risks_2 9 rfl rfl)
theorem dX0_risks_60 : decode cX0_risks 60 = .ok (.goto (-56), 3) := dk_167 255 200 (dk_at dksX0_risks_2 12 rfl rfl)
theorem dX0_risks_63 : decode cX0_risks 63 = .ok (.iload_n 1, 1) := dk_27 (dk_at dksX0_risks_2 15 rfl rfl)
theorem dX0_risks_64 : decode cX0_risks 64 = .ok (.ireturn, 1) := dk_172 (dk_at dksX0_risks_2 16 rfl rfl)
abbrev cX0_clips : ByteArray := prog_1_method_75_code
def yX0_clips : MethodName := ⟨RX0, "clips", "()I"⟩
def dkwX0_clips_2 : List UInt8 := [182, 0, 101, 172, 132, 2, 1, 167, 255, 222, 42, 16, 8, 182, 0, 97, 172]
abbrev dktX0_clips_2 : List UInt8 := dkwX0_clips_2 ++ []
def dkwX0_clips_1 : List UInt8 := [163, 0, 33, 28, 42, 182, 1, 162, 104, 8, 104, 16, 12, 27, 104, 16, 16, 104, 164, 0, 9, 42, 28]
abbrev dktX0_clips_1 : List UInt8 := dkwX0_clips_1 ++ dktX0_clips_2
def dkwX0_clips_0 : List UInt8 := [42, 180, 0, 38, 182, 0, 220, 42, 182, 0, 224, 2, 130, 126, 184, 1, 167, 60, 4, 61, 28, 17, 3, 231]
abbrev dktX0_clips_0 : List UInt8 := dkwX0_clips_0 ++ dktX0_clips_1
theorem dksX0_clips_0 : cX0_clips.data.toList.drop 0 = dktX0_clips_0 := by decide +kernel
theorem dksX0_clips_1 : cX0_clips.data.toList.drop 24 = dktX0_clips_1 := dk_seg dksX0_clips_0 24 rfl rfl
theorem dksX0_clips_2 : cX0_clips.data.toList.drop 47 = dktX0_clips_2 := dk_seg dksX0_clips_1 23 rfl rfl
theorem dX0_clips_0 : decode cX0_clips 0 = .ok (.aload_n 0, 1) := dk_42 (dk_at dksX0_clips_0 0 rfl rfl)
theorem dX0_clips_1 : decode cX0_clips 1 = .ok (.getfield 38, 3) := dk_180 0 38 (dk_at dksX0_clips_0 1 rfl rfl)
theorem dX0_clips_4 : decode cX0_clips 4 = .ok (.invokevirtual 220, 3) := dk_182 0 220 (dk_at dksX0_clips_0 4 rfl rfl)
theorem dX0_clips_7 : decode cX0_clips 7 = .ok (.aload_n 0, 1) := dk_42 (dk_at dksX0_clips_0 7 rfl rfl)
theorem dX0_clips_8 : decode cX0_clips 8 = .ok (.invokevirtual 224, 3) := dk_182 0 224 (dk_at dksX0_clips_0 8 rfl rfl)
theorem dX0_clips_11 : decode cX0_clips 11 = .ok (.iconst (-1), 1) := dk_2 (dk_at dksX0_clips_0 11 rfl rfl)
theorem dX0_clips_12 : decode cX0_clips 12 = .ok (.ixor, 1) := dk_130 (dk_at dksX0_clips_0 12 rfl rfl)
theorem dX0_clips_13 : decode cX0_clips 13 = .ok (.iand, 1) := dk_126 (dk_at dksX0_clips_0 13 rfl rfl)
theorem dX0_clips_14 : decode cX0_clips 14 = .ok (.invokestatic 423, 3) := dk_184 1 167 (dk_at dksX0_clips_0 14 rfl rfl)
theorem dX0_clips_17 : decode cX0_clips 17 = .ok (.istore_n 1, 1) := dk_60 (dk_at dksX0_clips_0 17 rfl rfl)
theorem dX0_clips_18 : decode cX0_clips 18 = .ok (.iconst 1, 1) := dk_4 (dk_at dksX0_clips_0 18 rfl rfl)
theorem dX0_clips_19 : decode cX0_clips 19 = .ok (.istore_n 2, 1) := dk_61 (dk_at dksX0_clips_0 19 rfl rfl)
theorem dX0_clips_20 : decode cX0_clips 20 = .ok (.iload_n 2, 1) := dk_28 (dk_at dksX0_clips_0 20 rfl rfl)
theorem dX0_clips_21 : decode cX0_clips 21 = .ok (.sipush 999, 3) := dk_17 3 231 (dk_at dksX0_clips_0 21 rfl rfl)
theorem dX0_clips_24 : decode cX0_clips 24 = .ok (.if_icmp .gt 33, 3) := dk_163 0 33 (dk_at dksX0_clips_1 0 rfl rfl)
theorem dX0_clips_27 : decode cX0_clips 27 = .ok (.iload_n 2, 1) := dk_28 (dk_at dksX0_clips_1 3 rfl rfl)
theorem dX0_clips_28 : decode cX0_clips 28 = .ok (.aload_n 0, 1) := dk_42 (dk_at dksX0_clips_1 4 rfl rfl)
theorem dX0_clips_29 : decode cX0_clips 29 = .ok (.invokevirtual 418, 3) := dk_182 1 162 (dk_at dksX0_clips_1 5 rfl rfl)
theorem dX0_clips_32 : decode cX0_clips 32 = .ok (.imul, 1) := dk_104 (dk_at dksX0_clips_1 8 rfl rfl)
theorem dX0_clips_33 : decode cX0_clips 33 = .ok (.iconst 5, 1) := dk_8 (dk_at dksX0_clips_1 9 rfl rfl)
theorem dX0_clips_34 : decode cX0_clips 34 = .ok (.imul, 1) := dk_104 (dk_at dksX0_clips_1 10 rfl rfl)
theorem dX0_clips_35 : decode cX0_clips 35 = .ok (.bipush 12, 2) := dk_16 12 (dk_at dksX0_clips_1 11 rfl rfl)
theorem dX0_clips_37 : decode cX0_clips 37 = .ok (.iload_n 1, 1) := dk_27 (dk_at dksX0_clips_1 13 rfl rfl)
theorem dX0_clips_38 : decode cX0_clips 38 = .ok (.imul, 1) := dk_104 (dk_at dksX0_clips_1 14 rfl rfl)
theorem dX0_clips_39 : decode cX0_clips 39 = .ok (.bipush 16, 2) := dk_16 16 (dk_at dksX0_clips_1 15 rfl rfl)
theorem dX0_clips_41 : decode cX0_clips 41 = .ok (.imul, 1) := dk_104 (dk_at dksX0_clips_1 17 rfl rfl)
theorem dX0_clips_42 : decode cX0_clips 42 = .ok (.if_icmp .le 9, 3) := dk_164 0 9 (dk_at dksX0_clips_1 18 rfl rfl)
theorem dX0_clips_45 : decode cX0_clips 45 = .ok (.aload_n 0, 1) := dk_42 (dk_at dksX0_clips_1 21 rfl rfl)
theorem dX0_clips_46 : decode cX0_clips 46 = .ok (.iload_n 2, 1) := dk_28 (dk_at dksX0_clips_1 22 rfl rfl)
theorem dX0_clips_47 : decode cX0_clips 47 = .ok (.invokevirtual 101, 3) := dk_182 0 101 (dk_at dksX0_clips_2 0 rfl rfl)
theorem dX0_clips_50 : decode cX0_clips 50 = .ok (.ireturn, 1) := dk_172 (dk_at dksX0_clips_2 3 rfl rfl)
theorem dX0_clips_51 : decode cX0_clips 51 = .ok (.iinc 2 1, 3) := dk_132 2 1 (dk_at dksX0_clips_2 4 rfl rfl)
theorem dX0_clips_54 : decode cX0_clips 54 = .ok (.goto (-34), 3) := dk_167 255 222 (dk_at dksX0_clips_2 7 rfl rfl)
theorem dX0_clips_57 : decode cX0_clips 57 = .ok (.aload_n 0, 1) := dk_42 (dk_at dksX0_clips_2 10 rfl rfl)
theorem dX0_clips_58 : decode cX0_clips 58 = .ok (.bipush 8, 2) := dk_16 8 (dk_at dksX0_clips_2 11 rfl rfl)
theorem dX0_clips_60 : decode cX0_clips 60 = .ok (.invokevirtual 97, 3) := dk_182 0 97 (dk_at dksX0_clips_2 13 rfl rfl)
theorem dX0_clips_63 : decode cX0_clips 63 = .ok (.ireturn, 1) := dk_172 (dk_at dksX0_clips_2 16 rfl rfl)
abbrev cX0_tries : ByteArray := prog_1_method_77_code
def yX0_tries : MethodName := ⟨RX0, "tries", "(I)Z"⟩
def dkwX0_tries_4 : List UInt8 := [42, 16, 9, 182, 0, 110, 167, 0, 11, 42, 29, 133, 28, 133, 182, 1, 158, 172]
abbrev dktX0_tries_4 : List UInt8 := dkwX0_tries_4 ++ []
def dkwX0_tries_3 : List UInt8 := [21, 5, 96, 61, 29, 21, 4, 4, 96, 21, 5, 104, 96, 62, 132, 4, 1, 167, 255, 207, 28, 154, 0, 12]
abbrev dktX0_tries_3 : List UInt8 := dkwX0_tries_3 ++ dktX0_tries_4
def dkwX0_tries_2 : List UInt8 := [159, 0, 44, 42, 180, 0, 38, 180, 0, 161, 42, 27, 21, 4, 182, 1, 172, 50, 180, 0, 251, 54, 5, 28]
abbrev dktX0_tries_2 : List UInt8 := dkwX0_tries_2 ++ dktX0_tries_3
def dkwX0_tries_1 : List UInt8 := [42, 16, 8, 182, 0, 110, 172, 3, 61, 3, 62, 3, 54, 4, 42, 27, 21, 4, 182, 1, 172, 2]
abbrev dktX0_tries_1 : List UInt8 := dkwX0_tries_1 ++ dktX0_tries_2
def dkwX0_tries_0 : List UInt8 := [42, 27, 182, 1, 22, 154, 0, 9, 42, 5, 182, 0, 110, 172, 42, 27, 3, 182, 1, 172, 2, 160, 0, 10]
abbrev dktX0_tries_0 : List UInt8 := dkwX0_tries_0 ++ dktX0_tries_1
theorem dksX0_tries_0 : cX0_tries.data.toList.drop 0 = dktX0_tries_0 := by decide +kernel
theorem dksX0_tries_1 : cX0_tries.data.toList.drop 24 = dktX0_tries_1 := dk_seg dksX0_tries_0 24 rfl rfl
theorem dksX0_tries_2 : cX0_tries.data.toList.drop 46 = dktX0_tries_2 := dk_seg dksX0_tries_1 22 rfl rfl
theorem dksX0_tries_3 : cX0_tries.data.toList.drop 70 = dktX0_tries_3 := dk_seg dksX0_tries_2 24 rfl rfl
theorem dksX0_tries_4 : cX0_tries.data.toList.drop 94 = dktX0_tries_4 := dk_seg dksX0_tries_3 24 rfl rfl
theorem dX0_tries_0 : decode cX0_tries 0 = .ok (.aload_n 0, 1) := dk_42 (dk_at dksX0_tries_0 0 rfl rfl)
theorem dX0_tries_1 : decode cX0_tries 1 = .ok (.iload_n 1, 1) := dk_27 (dk_at dksX0_tries_0 1 rfl rfl)
theorem dX0_tries_2 : decode cX0_tries 2 = .ok (.invokevirtual 278, 3) := dk_182 1 22 (dk_at dksX0_tries_0 2 rfl rfl)
theorem dX0_tries_5 : decode cX0_tries 5 = .ok (.ifCond .ne 9, 3) := dk_154 0 9 (dk_at dksX0_tries_0 5 rfl rfl)
theorem dX0_tries_8 : decode cX0_tries 8 = .ok (.aload_n 0, 1) := dk_42 (dk_at dksX0_tries_0 8 rfl rfl)
theorem dX0_tries_9 : decode cX0_tries 9 = .ok (.iconst 2, 1) := dk_5 (dk_at dksX0_tries_0 9 rfl rfl)
theorem dX0_tries_10 : decode cX0_tries 10 = .ok (.invokevirtual 110, 3) := dk_182 0 110 (dk_at dksX0_tries_0 10 rfl rfl)
theorem dX0_tries_13 : decode cX0_tries 13 = .ok (.ireturn, 1) := dk_172 (dk_at dksX0_tries_0 13 rfl rfl)
theorem dX0_tries_14 : decode cX0_tries 14 = .ok (.aload_n 0, 1) := dk_42 (dk_at dksX0_tries_0 14 rfl rfl)
theorem dX0_tries_15 : decode cX0_tries 15 = .ok (.iload_n 1, 1) := dk_27 (dk_at dksX0_tries_0 15 rfl rfl)
theorem dX0_tries_16 : decode cX0_tries 16 = .ok (.iconst 0, 1) := dk_3 (dk_at dksX0_tries_0 16 rfl rfl)
theorem dX0_tries_17 : decode cX0_tries 17 = .ok (.invokevirtual 428, 3) := dk_182 1 172 (dk_at dksX0_tries_0 17 rfl rfl)
theorem dX0_tries_20 : decode cX0_tries 20 = .ok (.iconst (-1), 1) := dk_2 (dk_at dksX0_tries_0 20 rfl rfl)
theorem dX0_tries_21 : decode cX0_tries 21 = .ok (.if_icmp .ne 10, 3) := dk_160 0 10 (dk_at dksX0_tries_0 21 rfl rfl)
theorem dX0_tries_24 : decode cX0_tries 24 = .ok (.aload_n 0, 1) := dk_42 (dk_at dksX0_tries_1 0 rfl rfl)
theorem dX0_tries_25 : decode cX0_tries 25 = .ok (.bipush 8, 2) := dk_16 8 (dk_at dksX0_tries_1 1 rfl rfl)
theorem dX0_tries_27 : decode cX0_tries 27 = .ok (.invokevirtual 110, 3) := dk_182 0 110 (dk_at dksX0_tries_1 3 rfl rfl)
theorem dX0_tries_30 : decode cX0_tries 30 = .ok (.ireturn, 1) := dk_172 (dk_at dksX0_tries_1 6 rfl rfl)
theorem dX0_tries_31 : decode cX0_tries 31 = .ok (.iconst 0, 1) := dk_3 (dk_at dksX0_tries_1 7 rfl rfl)
theorem dX0_tries_32 : decode cX0_tries 32 = .ok (.istore_n 2, 1) := dk_61 (dk_at dksX0_tries_1 8 rfl rfl)
theorem dX0_tries_33 : decode cX0_tries 33 = .ok (.iconst 0, 1) := dk_3 (dk_at dksX0_tries_1 9 rfl rfl)
theorem dX0_tries_34 : decode cX0_tries 34 = .ok (.istore_n 3, 1) := dk_62 (dk_at dksX0_tries_1 10 rfl rfl)
theorem dX0_tries_35 : decode cX0_tries 35 = .ok (.iconst 0, 1) := dk_3 (dk_at dksX0_tries_1 11 rfl rfl)
theorem dX0_tries_36 : decode cX0_tries 36 = .ok (.istore 4, 2) := dk_54 4 (dk_at dksX0_tries_1 12 rfl rfl)
theorem dX0_tries_38 : decode cX0_tries 38 = .ok (.aload_n 0, 1) := dk_42 (dk_at dksX0_tries_1 14 rfl rfl)
theorem dX0_tries_39 : decode cX0_tries 39 = .ok (.iload_n 1, 1) := dk_27 (dk_at dksX0_tries_1 15 rfl rfl)
theorem dX0_tries_40 : decode cX0_tries 40 = .ok (.iload 4, 2) := dk_21 4 (dk_at dksX0_tries_1 16 rfl rfl)
theorem dX0_tries_42 : decode cX0_tries 42 = .ok (.invokevirtual 428, 3) := dk_182 1 172 (dk_at dksX0_tries_1 18 rfl rfl)
theorem dX0_tries_45 : decode cX0_tries 45 = .ok (.iconst (-1), 1) := dk_2 (dk_at dksX0_tries_1 21 rfl rfl)
theorem dX0_tries_46 : decode cX0_tries 46 = .ok (.if_icmp .eq 44, 3) := dk_159 0 44 (dk_at dksX0_tries_2 0 rfl rfl)
theorem dX0_tries_49 : decode cX0_tries 49 = .ok (.aload_n 0, 1) := dk_42 (dk_at dksX0_tries_2 3 rfl rfl)
theorem dX0_tries_50 : decode cX0_tries 50 = .ok (.getfield 38, 3) := dk_180 0 38 (dk_at dksX0_tries_2 4 rfl rfl)
theorem dX0_tries_53 : decode cX0_tries 53 = .ok (.getfield 161, 3) := dk_180 0 161 (dk_at dksX0_tries_2 7 rfl rfl)
theorem dX0_tries_56 : decode cX0_tries 56 = .ok (.aload_n 0, 1) := dk_42 (dk_at dksX0_tries_2 10 rfl rfl)
theorem dX0_tries_57 : decode cX0_tries 57 = .ok (.iload_n 1, 1) := dk_27 (dk_at dksX0_tries_2 11 rfl rfl)
theorem dX0_tries_58 : decode cX0_tries 58 = .ok (.iload 4, 2) := dk_21 4 (dk_at dksX0_tries_2 12 rfl rfl)
theorem dX0_tries_60 : decode cX0_tries 60 = .ok (.invokevirtual 428, 3) := dk_182 1 172 (dk_at dksX0_tries_2 14 rfl rfl)
theorem dX0_tries_63 : decode cX0_tries 63 = .ok (.aaload, 1) := dk_50 (dk_at dksX0_tries_2 17 rfl rfl)
theorem dX0_tries_64 : decode cX0_tries 64 = .ok (.getfield 251, 3) := dk_180 0 251 (dk_at dksX0_tries_2 18 rfl rfl)
theorem dX0_tries_67 : decode cX0_tries 67 = .ok (.istore 5, 2) := dk_54 5 (dk_at dksX0_tries_2 21 rfl rfl)
theorem dX0_tries_69 : decode cX0_tries 69 = .ok (.iload_n 2, 1) := dk_28 (dk_at dksX0_tries_2 23 rfl rfl)
theorem dX0_tries_70 : decode cX0_tries 70 = .ok (.iload 5, 2) := dk_21 5 (dk_at dksX0_tries_3 0 rfl rfl)
theorem dX0_tries_72 : decode cX0_tries 72 = .ok (.iadd, 1) := dk_96 (dk_at dksX0_tries_3 2 rfl rfl)
theorem dX0_tries_73 : decode cX0_tries 73 = .ok (.istore_n 2, 1) := dk_61 (dk_at dksX0_tries_3 3 rfl rfl)
theorem dX0_tries_74 : decode cX0_tries 74 = .ok (.iload_n 3, 1) := dk_29 (dk_at dksX0_tries_3 4 rfl rfl)
theorem dX0_tries_75 : decode cX0_tries 75 = .ok (.iload 4, 2) := dk_21 4 (dk_at dksX0_tries_3 5 rfl rfl)
theorem dX0_tries_77 : decode cX0_tries 77 = .ok (.iconst 1, 1) := dk_4 (dk_at dksX0_tries_3 7 rfl rfl)
theorem dX0_tries_78 : decode cX0_tries 78 = .ok (.iadd, 1) := dk_96 (dk_at dksX0_tries_3 8 rfl rfl)
theorem dX0_tries_79 : decode cX0_tries 79 = .ok (.iload 5, 2) := dk_21 5 (dk_at dksX0_tries_3 9 rfl rfl)
theorem dX0_tries_81 : decode cX0_tries 81 = .ok (.imul, 1) := dk_104 (dk_at dksX0_tries_3 11 rfl rfl)
theorem dX0_tries_82 : decode cX0_tries 82 = .ok (.iadd, 1) := dk_96 (dk_at dksX0_tries_3 12 rfl rfl)
theorem dX0_tries_83 : decode cX0_tries 83 = .ok (.istore_n 3, 1) := dk_62 (dk_at dksX0_tries_3 13 rfl rfl)
theorem dX0_tries_84 : decode cX0_tries 84 = .ok (.iinc 4 1, 3) := dk_132 4 1 (dk_at dksX0_tries_3 14 rfl rfl)
theorem dX0_tries_87 : decode cX0_tries 87 = .ok (.goto (-49), 3) := dk_167 255 207 (dk_at dksX0_tries_3 17 rfl rfl)
theorem dX0_tries_90 : decode cX0_tries 90 = .ok (.iload_n 2, 1) := dk_28 (dk_at dksX0_tries_3 20 rfl rfl)
theorem dX0_tries_91 : decode cX0_tries 91 = .ok (.ifCond .ne 12, 3) := dk_154 0 12 (dk_at dksX0_tries_3 21 rfl rfl)
theorem dX0_tries_94 : decode cX0_tries 94 = .ok (.aload_n 0, 1) := dk_42 (dk_at dksX0_tries_4 0 rfl rfl)
theorem dX0_tries_95 : decode cX0_tries 95 = .ok (.bipush 9, 2) := dk_16 9 (dk_at dksX0_tries_4 1 rfl rfl)
theorem dX0_tries_97 : decode cX0_tries 97 = .ok (.invokevirtual 110, 3) := dk_182 0 110 (dk_at dksX0_tries_4 3 rfl rfl)
theorem dX0_tries_100 : decode cX0_tries 100 = .ok (.goto 11, 3) := dk_167 0 11 (dk_at dksX0_tries_4 6 rfl rfl)
theorem dX0_tries_103 : decode cX0_tries 103 = .ok (.aload_n 0, 1) := dk_42 (dk_at dksX0_tries_4 9 rfl rfl)
theorem dX0_tries_104 : decode cX0_tries 104 = .ok (.iload_n 3, 1) := dk_29 (dk_at dksX0_tries_4 10 rfl rfl)
theorem dX0_tries_105 : decode cX0_tries 105 = .ok (.i2l, 1) := dk_133 (dk_at dksX0_tries_4 11 rfl rfl)
theorem dX0_tries_106 : decode cX0_tries 106 = .ok (.iload_n 2, 1) := dk_28 (dk_at dksX0_tries_4 12 rfl rfl)
theorem dX0_tries_107 : decode cX0_tries 107 = .ok (.i2l, 1) := dk_133 (dk_at dksX0_tries_4 13 rfl rfl)
theorem dX0_tries_108 : decode cX0_tries 108 = .ok (.invokevirtual 414, 3) := dk_182 1 158 (dk_at dksX0_tries_4 14 rfl rfl)
theorem dX0_tries_111 : decode cX0_tries 111 = .ok (.ireturn, 1) := dk_172 (dk_at dksX0_tries_4 17 rfl rfl)
abbrev cX0_tryOf : ByteArray := prog_1_method_76_code
def yX0_tryOf : MethodName := ⟨RX0, "tryOf", "(II)I"⟩
def dkwX0_tryOf_7 : List UInt8 := [167, 255, 113, 2, 172]
abbrev dktX0_tryOf_7 : List UInt8 := dkwX0_tryOf_7 ++ []
def dkwX0_tryOf_6 : List UInt8 := [29, 21, 4, 122, 4, 126, 4, 160, 0, 12, 21, 5, 28, 160, 0, 6, 21, 4, 172, 132, 4, 1]
abbrev dktX0_tryOf_6 : List UInt8 := dkwX0_tryOf_6 ++ dktX0_tryOf_7
def dkwX0_tryOf_5 : List UInt8 := [160, 0, 14, 21, 6, 21, 4, 162, 0, 7, 4, 167, 0, 4, 3, 96, 54, 5, 132, 6, 1, 167, 255, 156]
abbrev dktX0_tryOf_5 : List UInt8 := dkwX0_tryOf_5 ++ dktX0_tryOf_6
def dkwX0_tryOf_4 : List UInt8 := [180, 0, 161, 21, 6, 50, 180, 0, 251, 42, 180, 0, 38, 180, 0, 161, 21, 4, 50, 180, 0, 251]
abbrev dktX0_tryOf_4 : List UInt8 := dkwX0_tryOf_4 ++ dktX0_tryOf_5
def dkwX0_tryOf_3 : List UInt8 := [50, 180, 0, 251, 42, 180, 0, 38, 180, 0, 161, 21, 4, 50, 180, 0, 251, 163, 0, 39, 42, 180, 0, 38]
abbrev dktX0_tryOf_3 : List UInt8 := dkwX0_tryOf_3 ++ dktX0_tryOf_4
def dkwX0_tryOf_2 : List UInt8 := [162, 0, 94, 21, 5, 29, 21, 6, 122, 4, 126, 4, 160, 0, 72, 42, 180, 0, 38, 180, 0, 161, 21, 6]
abbrev dktX0_tryOf_2 : List UInt8 := dkwX0_tryOf_2 ++ dktX0_tryOf_3
def dkwX0_tryOf_1 : List UInt8 := [180, 0, 38, 180, 0, 152, 162, 0, 137, 3, 54, 5, 3, 54, 6, 21, 6, 42, 180, 0, 38, 180, 0, 152]
abbrev dktX0_tryOf_1 : List UInt8 := dkwX0_tryOf_1 ++ dktX0_tryOf_2
def dkwX0_tryOf_0 : List UInt8 := [42, 180, 0, 38, 180, 1, 25, 27, 46, 42, 180, 0, 38, 182, 0, 220, 126, 62, 3, 54, 4, 21, 4, 42]
abbrev dktX0_tryOf_0 : List UInt8 := dkwX0_tryOf_0 ++ dktX0_tryOf_1
theorem dksX0_tryOf_0 : cX0_tryOf.data.toList.drop 0 = dktX0_tryOf_0 := by decide +kernel
theorem dksX0_tryOf_1 : cX0_tryOf.data.toList.drop 24 = dktX0_tryOf_1 := dk_seg dksX0_tryOf_0 24 rfl rfl
theorem dksX0_tryOf_2 : cX0_tryOf.data.toList.drop 48 = dktX0_tryOf_2 := dk_seg dksX0_tryOf_1 24 rfl rfl
theorem dksX0_tryOf_3 : cX0_tryOf.data.toList.drop 72 = dktX0_tryOf_3 := dk_seg dksX0_tryOf_2 24 rfl rfl
theorem dksX0_tryOf_4 : cX0_tryOf.data.toList.drop 96 = dktX0_tryOf_4 := dk_seg dksX0_tryOf_3 24 rfl rfl
theorem dksX0_tryOf_5 : cX0_tryOf.data.toList.drop 118 = dktX0_tryOf_5 := dk_seg dksX0_tryOf_4 22 rfl rfl
theorem dksX0_tryOf_6 : cX0_tryOf.data.toList.drop 142 = dktX0_tryOf_6 := dk_seg dksX0_tryOf_5 24 rfl rfl
theorem dksX0_tryOf_7 : cX0_tryOf.data.toList.drop 164 = dktX0_tryOf_7 := dk_seg dksX0_tryOf_6 22 rfl rfl
theorem dX0_tryOf_0 : decode cX0_tryOf 0 = .ok (.aload_n 0, 1) := dk_42 (dk_at dksX0_tryOf_0 0 rfl rfl)
theorem dX0_tryOf_1 : decode cX0_tryOf 1 = .ok (.getfield 38, 3) := dk_180 0 38 (dk_at dksX0_tryOf_0 1 rfl rfl)
theorem dX0_tryOf_4 : decode cX0_tryOf 4 = .ok (.getfield 281, 3) := dk_180 1 25 (dk_at dksX0_tryOf_0 4 rfl rfl)
theorem dX0_tryOf_7 : decode cX0_tryOf 7 = .ok (.iload_n 1, 1) := dk_27 (dk_at dksX0_tryOf_0 7 rfl rfl)
theorem dX0_tryOf_8 : decode cX0_tryOf 8 = .ok (.iaload, 1) := dk_46 (dk_at dksX0_tryOf_0 8 rfl rfl)
theorem dX0_tryOf_9 : decode cX0_tryOf 9 = .ok (.aload_n 0, 1) := dk_42 (dk_at dksX0_tryOf_0 9 rfl rfl)
theorem dX0_tryOf_10 : decode cX0_tryOf 10 = .ok (.getfield 38, 3) := dk_180 0 38 (dk_at dksX0_tryOf_0 10 rfl rfl)
theorem dX0_tryOf_13 : decode cX0_tryOf 13 = .ok (.invokevirtual 220, 3) := dk_182 0 220 (dk_at dksX0_tryOf_0 13 rfl rfl)
theorem dX0_tryOf_16 : decode cX0_tryOf 16 = .ok (.iand, 1) := dk_126 (dk_at dksX0_tryOf_0 16 rfl rfl)
theorem dX0_tryOf_17 : decode cX0_tryOf 17 = .ok (.istore_n 3, 1) := dk_62 (dk_at dksX0_tryOf_0 17 rfl rfl)
theorem dX0_tryOf_18 : decode cX0_tryOf 18 = .ok (.iconst 0, 1) := dk_3 (dk_at dksX0_tryOf_0 18 rfl rfl)
theorem dX0_tryOf_19 : decode cX0_tryOf 19 = .ok (.istore 4, 2) := dk_54 4 (dk_at dksX0_tryOf_0 19 rfl rfl)
theorem dX0_tryOf_21 : decode cX0_tryOf 21 = .ok (.iload 4, 2) := dk_21 4 (dk_at dksX0_tryOf_0 21 rfl rfl)
theorem dX0_tryOf_23 : decode cX0_tryOf 23 = .ok (.aload_n 0, 1) := dk_42 (dk_at dksX0_tryOf_0 23 rfl rfl)
theorem dX0_tryOf_24 : decode cX0_tryOf 24 = .ok (.getfield 38, 3) := dk_180 0 38 (dk_at dksX0_tryOf_1 0 rfl rfl)
theorem dX0_tryOf_27 : decode cX0_tryOf 27 = .ok (.getfield 152, 3) := dk_180 0 152 (dk_at dksX0_tryOf_1 3 rfl rfl)
theorem dX0_tryOf_30 : decode cX0_tryOf 30 = .ok (.if_icmp .ge 137, 3) := dk_162 0 137 (dk_at dksX0_tryOf_1 6 rfl rfl)
theorem dX0_tryOf_33 : decode cX0_tryOf 33 = .ok (.iconst 0, 1) := dk_3 (dk_at dksX0_tryOf_1 9 rfl rfl)
theorem dX0_tryOf_34 : decode cX0_tryOf 34 = .ok (.istore 5, 2) := dk_54 5 (dk_at dksX0_tryOf_1 10 rfl rfl)
theorem dX0_tryOf_36 : decode cX0_tryOf 36 = .ok (.iconst 0, 1) := dk_3 (dk_at dksX0_tryOf_1 12 rfl rfl)
theorem dX0_tryOf_37 : decode cX0_tryOf 37 = .ok (.istore 6, 2) := dk_54 6 (dk_at dksX0_tryOf_1 13 rfl rfl)
theorem dX0_tryOf_39 : decode cX0_tryOf 39 = .ok (.iload 6, 2) := dk_21 6 (dk_at dksX0_tryOf_1 15 rfl rfl)
theorem dX0_tryOf_41 : decode cX0_tryOf 41 = .ok (.aload_n 0, 1) := dk_42 (dk_at dksX0_tryOf_1 17 rfl rfl)
theorem dX0_tryOf_42 : decode cX0_tryOf 42 = .ok (.getfield 38, 3) := dk_180 0 38 (dk_at dksX0_tryOf_1 18 rfl rfl)
theorem dX0_tryOf_45 : decode cX0_tryOf 45 = .ok (.getfield 152, 3) := dk_180 0 152 (dk_at dksX0_tryOf_1 21 rfl rfl)
theorem dX0_tryOf_48 : decode cX0_tryOf 48 = .ok (.if_icmp .ge 94, 3) := dk_162 0 94 (dk_at dksX0_tryOf_2 0 rfl rfl)
theorem dX0_tryOf_51 : decode cX0_tryOf 51 = .ok (.iload 5, 2) := dk_21 5 (dk_at dksX0_tryOf_2 3 rfl rfl)
theorem dX0_tryOf_53 : decode cX0_tryOf 53 = .ok (.iload_n 3, 1) := dk_29 (dk_at dksX0_tryOf_2 5 rfl rfl)
theorem dX0_tryOf_54 : decode cX0_tryOf 54 = .ok (.iload 6, 2) := dk_21 6 (dk_at dksX0_tryOf_2 6 rfl rfl)
theorem dX0_tryOf_56 : decode cX0_tryOf 56 = .ok (.ishr, 1) := dk_122 (dk_at dksX0_tryOf_2 8 rfl rfl)
theorem dX0_tryOf_57 : decode cX0_tryOf 57 = .ok (.iconst 1, 1) := dk_4 (dk_at dksX0_tryOf_2 9 rfl rfl)
theorem dX0_tryOf_58 : decode cX0_tryOf 58 = .ok (.iand, 1) := dk_126 (dk_at dksX0_tryOf_2 10 rfl rfl)
theorem dX0_tryOf_59 : decode cX0_tryOf 59 = .ok (.iconst 1, 1) := dk_4 (dk_at dksX0_tryOf_2 11 rfl rfl)
theorem dX0_tryOf_60 : decode cX0_tryOf 60 = .ok (.if_icmp .ne 72, 3) := dk_160 0 72 (dk_at dksX0_tryOf_2 12 rfl rfl)
theorem dX0_tryOf_63 : decode cX0_tryOf 63 = .ok (.aload_n 0, 1) := dk_42 (dk_at dksX0_tryOf_2 15 rfl rfl)
theorem dX0_tryOf_64 : decode cX0_tryOf 64 = .ok (.getfield 38, 3) := dk_180 0 38 (dk_at dksX0_tryOf_2 16 rfl rfl)
theorem dX0_tryOf_67 : decode cX0_tryOf 67 = .ok (.getfield 161, 3) := dk_180 0 161 (dk_at dksX0_tryOf_2 19 rfl rfl)
theorem dX0_tryOf_70 : decode cX0_tryOf 70 = .ok (.iload 6, 2) := dk_21 6 (dk_at dksX0_tryOf_2 22 rfl rfl)
theorem dX0_tryOf_72 : decode cX0_tryOf 72 = .ok (.aaload, 1) := dk_50 (dk_at dksX0_tryOf_3 0 rfl rfl)
theorem dX0_tryOf_73 : decode cX0_tryOf 73 = .ok (.getfield 251, 3) := dk_180 0 251 (dk_at dksX0_tryOf_3 1 rfl rfl)
theorem dX0_tryOf_76 : decode cX0_tryOf 76 = .ok (.aload_n 0, 1) := dk_42 (dk_at dksX0_tryOf_3 4 rfl rfl)
theorem dX0_tryOf_77 : decode cX0_tryOf 77 = .ok (.getfield 38, 3) := dk_180 0 38 (dk_at dksX0_tryOf_3 5 rfl rfl)
theorem dX0_tryOf_80 : decode cX0_tryOf 80 = .ok (.getfield 161, 3) := dk_180 0 161 (dk_at dksX0_tryOf_3 8 rfl rfl)
theorem dX0_tryOf_83 : decode cX0_tryOf 83 = .ok (.iload 4, 2) := dk_21 4 (dk_at dksX0_tryOf_3 11 rfl rfl)
theorem dX0_tryOf_85 : decode cX0_tryOf 85 = .ok (.aaload, 1) := dk_50 (dk_at dksX0_tryOf_3 13 rfl rfl)
theorem dX0_tryOf_86 : decode cX0_tryOf 86 = .ok (.getfield 251, 3) := dk_180 0 251 (dk_at dksX0_tryOf_3 14 rfl rfl)
theorem dX0_tryOf_89 : decode cX0_tryOf 89 = .ok (.if_icmp .gt 39, 3) := dk_163 0 39 (dk_at dksX0_tryOf_3 17 rfl rfl)
theorem dX0_tryOf_92 : decode cX0_tryOf 92 = .ok (.aload_n 0, 1) := dk_42 (dk_at dksX0_tryOf_3 20 rfl rfl)
theorem dX0_tryOf_93 : decode cX0_tryOf 93 = .ok (.getfield 38, 3) := dk_180 0 38 (dk_at dksX0_tryOf_3 21 rfl rfl)
theorem dX0_tryOf_96 : decode cX0_tryOf 96 = .ok (.getfield 161, 3) := dk_180 0 161 (dk_at dksX0_tryOf_4 0 rfl rfl)
theorem dX0_tryOf_99 : decode cX0_tryOf 99 = .ok (.iload 6, 2) := dk_21 6 (dk_at dksX0_tryOf_4 3 rfl rfl)
theorem dX0_tryOf_101 : decode cX0_tryOf 101 = .ok (.aaload, 1) := dk_50 (dk_at dksX0_tryOf_4 5 rfl rfl)
theorem dX0_tryOf_102 : decode cX0_tryOf 102 = .ok (.getfield 251, 3) := dk_180 0 251 (dk_at dksX0_tryOf_4 6 rfl rfl)
theorem dX0_tryOf_105 : decode cX0_tryOf 105 = .ok (.aload_n 0, 1) := dk_42 (dk_at dksX0_tryOf_4 9 rfl rfl)
theorem dX0_tryOf_106 : decode cX0_tryOf 106 = .ok (.getfield 38, 3) := dk_180 0 38 (dk_at dksX0_tryOf_4 10 rfl rfl)
theorem dX0_tryOf_109 : decode cX0_tryOf 109 = .ok (.getfield 161, 3) := dk_180 0 161 (dk_at dksX0_tryOf_4 13 rfl rfl)
theorem dX0_tryOf_112 : decode cX0_tryOf 112 = .ok (.iload 4, 2) := dk_21 4 (dk_at dksX0_tryOf_4 16 rfl rfl)
theorem dX0_tryOf_114 : decode cX0_tryOf 114 = .ok (.aaload, 1) := dk_50 (dk_at dksX0_tryOf_4 18 rfl rfl)
theorem dX0_tryOf_115 : decode cX0_tryOf 115 = .ok (.getfield 251, 3) := dk_180 0 251 (dk_at dksX0_tryOf_4 19 rfl rfl)
theorem dX0_tryOf_118 : decode cX0_tryOf 118 = .ok (.if_icmp .ne 14, 3) := dk_160 0 14 (dk_at dksX0_tryOf_5 0 rfl rfl)
theorem dX0_tryOf_121 : decode cX0_tryOf 121 = .ok (.iload 6, 2) := dk_21 6 (dk_at dksX0_tryOf_5 3 rfl rfl)
theorem dX0_tryOf_123 : decode cX0_tryOf 123 = .ok (.iload 4, 2) := dk_21 4 (dk_at dksX0_tryOf_5 5 rfl rfl)
theorem dX0_tryOf_125 : decode cX0_tryOf 125 = .ok (.if_icmp .ge 7, 3) := dk_162 0 7 (dk_at dksX0_tryOf_5 7 rfl rfl)
theorem dX0_tryOf_128 : decode cX0_tryOf 128 = .ok (.iconst 1, 1) := dk_4 (dk_at dksX0_tryOf_5 10 rfl rfl)
theorem dX0_tryOf_129 : decode cX0_tryOf 129 = .ok (.goto 4, 3) := dk_167 0 4 (dk_at dksX0_tryOf_5 11 rfl rfl)
theorem dX0_tryOf_132 : decode cX0_tryOf 132 = .ok (.iconst 0, 1) := dk_3 (dk_at dksX0_tryOf_5 14 rfl rfl)
theorem dX0_tryOf_133 : decode cX0_tryOf 133 = .ok (.iadd, 1) := dk_96 (dk_at dksX0_tryOf_5 15 rfl rfl)
theorem dX0_tryOf_134 : decode cX0_tryOf 134 = .ok (.istore 5, 2) := dk_54 5 (dk_at dksX0_tryOf_5 16 rfl rfl)
theorem dX0_tryOf_136 : decode cX0_tryOf 136 = .ok (.iinc 6 1, 3) := dk_132 6 1 (dk_at dksX0_tryOf_5 18 rfl rfl)
theorem dX0_tryOf_139 : decode cX0_tryOf 139 = .ok (.goto (-100), 3) := dk_167 255 156 (dk_at dksX0_tryOf_5 21 rfl rfl)
theorem dX0_tryOf_142 : decode cX0_tryOf 142 = .ok (.iload_n 3, 1) := dk_29 (dk_at dksX0_tryOf_6 0 rfl rfl)
theorem dX0_tryOf_143 : decode cX0_tryOf 143 = .ok (.iload 4, 2) := dk_21 4 (dk_at dksX0_tryOf_6 1 rfl rfl)
theorem dX0_tryOf_145 : decode cX0_tryOf 145 = .ok (.ishr, 1) := dk_122 (dk_at dksX0_tryOf_6 3 rfl rfl)
theorem dX0_tryOf_146 : decode cX0_tryOf 146 = .ok (.iconst 1, 1) := dk_4 (dk_at dksX0_tryOf_6 4 rfl rfl)
theorem dX0_tryOf_147 : decode cX0_tryOf 147 = .ok (.iand, 1) := dk_126 (dk_at dksX0_tryOf_6 5 rfl rfl)
theorem dX0_tryOf_148 : decode cX0_tryOf 148 = .ok (.iconst 1, 1) := dk_4 (dk_at dksX0_tryOf_6 6 rfl rfl)
theorem dX0_tryOf_149 : decode cX0_tryOf 149 = .ok (.if_icmp .ne 12, 3) := dk_160 0 12 (dk_at dksX0_tryOf_6 7 rfl rfl)
theorem dX0_tryOf_152 : decode cX0_tryOf 152 = .ok (.iload 5, 2) := dk_21 5 (dk_at dksX0_tryOf_6 10 rfl rfl)
theorem dX0_tryOf_154 : decode cX0_tryOf 154 = .ok (.iload_n 2, 1) := dk_28 (dk_at dksX0_tryOf_6 12 rfl rfl)
theorem dX0_tryOf_155 : decode cX0_tryOf 155 = .ok (.if_icmp .ne 6, 3) := dk_160 0 6 (dk_at dksX0_tryOf_6 13 rfl rfl)
theorem dX0_tryOf_158 : decode cX0_tryOf 158 = .ok (.iload 4, 2) := dk_21 4 (dk_at dksX0_tryOf_6 16 rfl rfl)
theorem dX0_tryOf_160 : decode cX0_tryOf 160 = .ok (.ireturn, 1) := dk_172 (dk_at dksX0_tryOf_6 18 rfl rfl)
theorem dX0_tryOf_161 : decode cX0_tryOf 161 = .ok (.iinc 4 1, 3) := dk_132 4 1 (dk_at dksX0_tryOf_6 19 rfl rfl)
theorem dX0_tryOf_164 : decode cX0_tryOf 164 = .ok (.goto (-143), 3) := dk_167 255 113 (dk_at dksX0_tryOf_7 0 rfl rfl)
theorem dX0_tryOf_167 : decode cX0_tryOf 167 = .ok (.iconst (-1), 1) := dk_2 (dk_at dksX0_tryOf_7 3 rfl rfl)
theorem dX0_tryOf_168 : decode cX0_tryOf 168 = .ok (.ireturn, 1) := dk_172 (dk_at dksX0_tryOf_7 4 rfl rfl)
abbrev cX0_nextTry : ByteArray := prog_1_method_78_code
def yX0_nextTry : MethodName := ⟨RX0, "nextTry", "(II)I"⟩
def dkwX0_nextTry_1 : List UInt8 := [182, 0, 97, 172]
abbrev dktX0_nextTry_1 : List UInt8 := dkwX0_nextTry_1 ++ []
def dkwX0_nextTry_0 : List UInt8 := [42, 27, 182, 1, 22, 153, 0, 16, 42, 42, 27, 28, 182, 1, 172, 182, 1, 19, 167, 0, 8, 42, 5]
abbrev dktX0_nextTry_0 : List UInt8 := dkwX0_nextTry_0 ++ dktX0_nextTry_1
theorem dksX0_nextTry_0 : cX0_nextTry.data.toList.drop 0 = dktX0_nextTry_0 := by decide +kernel
theorem dksX0_nextTry_1 : cX0_nextTry.data.toList.drop 23 = dktX0_nextTry_1 := dk_seg dksX0_nextTry_0 23 rfl rfl
theorem dX0_nextTry_0 : decode cX0_nextTry 0 = .ok (.aload_n 0, 1) := dk_42 (dk_at dksX0_nextTry_0 0 rfl rfl)
theorem dX0_nextTry_1 : decode cX0_nextTry 1 = .ok (.iload_n 1, 1) := dk_27 (dk_at dksX0_nextTry_0 1 rfl rfl)
theorem dX0_nextTry_2 : decode cX0_nextTry 2 = .ok (.invokevirtual 278, 3) := dk_182 1 22 (dk_at dksX0_nextTry_0 2 rfl rfl)
theorem dX0_nextTry_5 : decode cX0_nextTry 5 = .ok (.ifCond .eq 16, 3) := dk_153 0 16 (dk_at dksX0_nextTry_0 5 rfl rfl)
theorem dX0_nextTry_8 : decode cX0_nextTry 8 = .ok (.aload_n 0, 1) := dk_42 (dk_at dksX0_nextTry_0 8 rfl rfl)
theorem dX0_nextTry_9 : decode cX0_nextTry 9 = .ok (.aload_n 0, 1) := dk_42 (dk_at dksX0_nextTry_0 9 rfl rfl)
theorem dX0_nextTry_10 : decode cX0_nextTry 10 = .ok (.iload_n 1, 1) := dk_27 (dk_at dksX0_nextTry_0 10 rfl rfl)
theorem dX0_nextTry_11 : decode cX0_nextTry 11 = .ok (.iload_n 2, 1) := dk_28 (dk_at dksX0_nextTry_0 11 rfl rfl)
theorem dX0_nextTry_12 : decode cX0_nextTry 12 = .ok (.invokevirtual 428, 3) := dk_182 1 172 (dk_at dksX0_nextTry_0 12 rfl rfl)
theorem dX0_nextTry_15 : decode cX0_nextTry 15 = .ok (.invokevirtual 275, 3) := dk_182 1 19 (dk_at dksX0_nextTry_0 15 rfl rfl)
theorem dX0_nextTry_18 : decode cX0_nextTry 18 = .ok (.goto 8, 3) := dk_167 0 8 (dk_at dksX0_nextTry_0 18 rfl rfl)
theorem dX0_nextTry_21 : decode cX0_nextTry 21 = .ok (.aload_n 0, 1) := dk_42 (dk_at dksX0_nextTry_0 21 rfl rfl)
theorem dX0_nextTry_22 : decode cX0_nextTry 22 = .ok (.iconst 2, 1) := dk_5 (dk_at dksX0_nextTry_0 22 rfl rfl)
theorem dX0_nextTry_23 : decode cX0_nextTry 23 = .ok (.invokevirtual 97, 3) := dk_182 0 97 (dk_at dksX0_nextTry_1 0 rfl rfl)
theorem dX0_nextTry_26 : decode cX0_nextTry 26 = .ok (.ireturn, 1) := dk_172 (dk_at dksX0_nextTry_1 3 rfl rfl)
abbrev cX0_boxes : ByteArray := prog_1_method_79_code
def yX0_boxes : MethodName := ⟨RX0, "boxes", "(I)I"⟩
def dkwX0_boxes_10 : List UInt8 := [180, 0, 75, 28, 46, 16, 100, 108, 182, 0, 101, 172]
abbrev dktX0_boxes_10 : List UInt8 := dkwX0_boxes_10 ++ []
def dkwX0_boxes_9 : List UInt8 := [132, 5, 1, 167, 255, 158, 42, 180, 0, 75, 29, 21, 4, 79, 132, 3, 1, 167, 255, 120, 42, 42]
abbrev dktX0_boxes_9 : List UInt8 := dkwX0_boxes_9 ++ dktX0_boxes_10
def dkwX0_boxes_8 : List UInt8 := [167, 0, 17, 21, 6, 16, 100, 108, 16, 100, 104, 16, 100, 96, 21, 7, 96, 184, 1, 78, 54, 4]
abbrev dktX0_boxes_8 : List UInt8 := dkwX0_boxes_8 ++ dktX0_boxes_9
def dkwX0_boxes_7 : List UInt8 := [180, 0, 236, 54, 7, 21, 4, 21, 6, 16, 100, 112, 21, 7, 96, 27, 163, 0, 11, 21, 6, 21, 7, 96]
abbrev dktX0_boxes_7 : List UInt8 := dkwX0_boxes_7 ++ dktX0_boxes_8
def dkwX0_boxes_6 : List UInt8 := [180, 0, 75, 29, 4, 21, 5, 120, 2, 130, 126, 46, 54, 6, 42, 180, 0, 38, 180, 0, 161, 21, 5, 50]
abbrev dktX0_boxes_6 : List UInt8 := dkwX0_boxes_6 ++ dktX0_boxes_7
def dkwX0_boxes_5 : List UInt8 := [180, 0, 38, 180, 0, 152, 162, 0, 92, 29, 21, 5, 122, 4, 126, 154, 0, 6, 167, 0, 74, 42]
abbrev dktX0_boxes_5 : List UInt8 := dkwX0_boxes_5 ++ dktX0_boxes_6
def dkwX0_boxes_4 : List UInt8 := [29, 28, 2, 130, 126, 153, 0, 6, 167, 0, 120, 19, 1, 119, 54, 4, 3, 54, 5, 21, 5, 42]
abbrev dktX0_boxes_4 : List UInt8 := dkwX0_boxes_4 ++ dktX0_boxes_5
def dkwX0_boxes_3 : List UInt8 := [182, 0, 97, 172, 132, 3, 1, 167, 255, 210, 42, 180, 0, 75, 3, 27, 79, 4, 62, 29, 28, 163, 0, 137]
abbrev dktX0_boxes_3 : List UInt8 := dkwX0_boxes_3 ++ dktX0_boxes_4
def dkwX0_boxes_2 : List UInt8 := [160, 0, 26, 42, 180, 0, 38, 180, 0, 161, 29, 50, 180, 0, 236, 27, 164, 0, 10, 42, 16, 9]
abbrev dktX0_boxes_2 : List UInt8 := dkwX0_boxes_2 ++ dktX0_boxes_3
def dkwX0_boxes_1 : List UInt8 := [182, 0, 220, 61, 3, 62, 29, 42, 180, 0, 38, 180, 0, 152, 162, 0, 41, 28, 29, 122, 4, 126, 4]
abbrev dktX0_boxes_1 : List UInt8 := dkwX0_boxes_1 ++ dktX0_boxes_2
def dkwX0_boxes_0 : List UInt8 := [27, 133, 10, 20, 1, 175, 184, 1, 33, 154, 0, 9, 42, 8, 182, 0, 97, 172, 42, 180, 0, 38]
abbrev dktX0_boxes_0 : List UInt8 := dkwX0_boxes_0 ++ dktX0_boxes_1
theorem dksX0_boxes_0 : cX0_boxes.data.toList.drop 0 = dktX0_boxes_0 := by decide +kernel
theorem dksX0_boxes_1 : cX0_boxes.data.toList.drop 22 = dktX0_boxes_1 := dk_seg dksX0_boxes_0 22 rfl rfl
theorem dksX0_boxes_2 : cX0_boxes.data.toList.drop 45 = dktX0_boxes_2 := dk_seg dksX0_boxes_1 23 rfl rfl
theorem dksX0_boxes_3 : cX0_boxes.data.toList.drop 67 = dktX0_boxes_3 := dk_seg dksX0_boxes_2 22 rfl rfl
theorem dksX0_boxes_4 : cX0_boxes.data.toList.drop 91 = dktX0_boxes_4 := dk_seg dksX0_boxes_3 24 rfl rfl
theorem dksX0_boxes_5 : cX0_boxes.data.toList.drop 113 = dktX0_boxes_5 := dk_seg dksX0_boxes_4 22 rfl rfl
theorem dksX0_boxes_6 : cX0_boxes.data.toList.drop 135 = dktX0_boxes_6 := dk_seg dksX0_boxes_5 22 rfl rfl
theorem dksX0_boxes_7 : cX0_boxes.data.toList.drop 159 = dktX0_boxes_7 := dk_seg dksX0_boxes_6 24 rfl rfl
theorem dksX0_boxes_8 : cX0_boxes.data.toList.drop 183 = dktX0_boxes_8 := dk_seg dksX0_boxes_7 24 rfl rfl
theorem dksX0_boxes_9 : cX0_boxes.data.toList.drop 205 = dktX0_boxes_9 := dk_seg dksX0_boxes_8 22 rfl rfl
theorem dksX0_boxes_10 : cX0_boxes.data.toList.drop 227 = dktX0_boxes_10 := dk_seg dksX0_boxes_9 22 rfl rfl
theorem dX0_boxes_0 : decode cX0_boxes 0 = .ok (.iload_n 1, 1) := dk_27 (dk_at dksX0_boxes_0 0 rfl rfl)
theorem dX0_boxes_1 : decode cX0_boxes 1 = .ok (.i2l, 1) := dk_133 (dk_at dksX0_boxes_0 1 rfl rfl)
theorem dX0_boxes_2 : decode cX0_boxes 2 = .ok (.lconst 1, 1) := dk_10 (dk_at dksX0_boxes_0 2 rfl rfl)
theorem dX0_boxes_3 : decode cX0_boxes 3 = .ok (.ldc2_w 431, 3) := dk_20 1 175 (dk_at dksX0_boxes_0 3 rfl rfl)
theorem dX0_boxes_6 : decode cX0_boxes 6 = .ok (.invokestatic 289, 3) := dk_184 1 33 (dk_at dksX0_boxes_0 6 rfl rfl)
theorem dX0_boxes_9 : decode cX0_boxes 9 = .ok (.ifCond .ne 9, 3) := dk_154 0 9 (dk_at dksX0_boxes_0 9 rfl rfl)
theorem dX0_boxes_12 : decode cX0_boxes 12 = .ok (.aload_n 0, 1) := dk_42 (dk_at dksX0_boxes_0 12 rfl rfl)
theorem dX0_boxes_13 : decode cX0_boxes 13 = .ok (.iconst 5, 1) := dk_8 (dk_at dksX0_boxes_0 13 rfl rfl)
theorem dX0_boxes_14 : decode cX0_boxes 14 = .ok (.invokevirtual 97, 3) := dk_182 0 97 (dk_at dksX0_boxes_0 14 rfl rfl)
theorem dX0_boxes_17 : decode cX0_boxes 17 = .ok (.ireturn, 1) := dk_172 (dk_at dksX0_boxes_0 17 rfl rfl)
theorem dX0_boxes_18 : decode cX0_boxes 18 = .ok (.aload_n 0, 1) := dk_42 (dk_at dksX0_boxes_0 18 rfl rfl)
theorem dX0_boxes_19 : decode cX0_boxes 19 = .ok (.getfield 38, 3) := dk_180 0 38 (dk_at dksX0_boxes_0 19 rfl rfl)
theorem dX0_boxes_22 : decode cX0_boxes 22 = .ok (.invokevirtual 220, 3) := dk_182 0 220 (dk_at dksX0_boxes_1 0 rfl rfl)
theorem dX0_boxes_25 : decode cX0_boxes 25 = .ok (.istore_n 2, 1) := dk_61 (dk_at dksX0_boxes_1 3 rfl rfl)
theorem dX0_boxes_26 : decode cX0_boxes 26 = .ok (.iconst 0, 1) := dk_3 (dk_at dksX0_boxes_1 4 rfl rfl)
theorem dX0_boxes_27 : decode cX0_boxes 27 = .ok (.istore_n 3, 1) := dk_62 (dk_at dksX0_boxes_1 5 rfl rfl)
theorem dX0_boxes_28 : decode cX0_boxes 28 = .ok (.iload_n 3, 1) := dk_29 (dk_at dksX0_boxes_1 6 rfl rfl)
theorem dX0_boxes_29 : decode cX0_boxes 29 = .ok (.aload_n 0, 1) := dk_42 (dk_at dksX0_boxes_1 7 rfl rfl)
theorem dX0_boxes_30 : decode cX0_boxes 30 = .ok (.getfield 38, 3) := dk_180 0 38 (dk_at dksX0_boxes_1 8 rfl rfl)
theorem dX0_boxes_33 : decode cX0_boxes 33 = .ok (.getfield 152, 3) := dk_180 0 152 (dk_at dksX0_boxes_1 11 rfl rfl)
theorem dX0_boxes_36 : decode cX0_boxes 36 = .ok (.if_icmp .ge 41, 3) := dk_162 0 41 (dk_at dksX0_boxes_1 14 rfl rfl)
theorem dX0_boxes_39 : decode cX0_boxes 39 = .ok (.iload_n 2, 1) := dk_28 (dk_at dksX0_boxes_1 17 rfl rfl)
theorem dX0_boxes_40 : decode cX0_boxes 40 = .ok (.iload_n 3, 1) := dk_29 (dk_at dksX0_boxes_1 18 rfl rfl)
theorem dX0_boxes_41 : decode cX0_boxes 41 = .ok (.ishr, 1) := dk_122 (dk_at dksX0_boxes_1 19 rfl rfl)
theorem dX0_boxes_42 : decode cX0_boxes 42 = .ok (.iconst 1, 1) := dk_4 (dk_at dksX0_boxes_1 20 rfl rfl)
theorem dX0_boxes_43 : decode cX0_boxes 43 = .ok (.iand, 1) := dk_126 (dk_at dksX0_boxes_1 21 rfl rfl)
theorem dX0_boxes_44 : decode cX0_boxes 44 = .ok (.iconst 1, 1) := dk_4 (dk_at dksX0_boxes_1 22 rfl rfl)
theorem dX0_boxes_45 : decode cX0_boxes 45 = .ok (.if_icmp .ne 26, 3) := dk_160 0 26 (dk_at dksX0_boxes_2 0 rfl rfl)
theorem dX0_boxes_48 : decode cX0_boxes 48 = .ok (.aload_n 0, 1) := dk_42 (dk_at dksX0_boxes_2 3 rfl rfl)
theorem dX0_boxes_49 : decode cX0_boxes 49 = .ok (.getfield 38, 3) := dk_180 0 38 (dk_at dksX0_boxes_2 4 rfl rfl)
theorem dX0_boxes_52 : decode cX0_boxes 52 = .ok (.getfield 161, 3) := dk_180 0 161 (dk_at dksX0_boxes_2 7 rfl rfl)
theorem dX0_boxes_55 : decode cX0_boxes 55 = .ok (.iload_n 3, 1) := dk_29 (dk_at dksX0_boxes_2 10 rfl rfl)
theorem dX0_boxes_56 : decode cX0_boxes 56 = .ok (.aaload, 1) := dk_50 (dk_at dksX0_boxes_2 11 rfl rfl)
theorem dX0_boxes_57 : decode cX0_boxes 57 = .ok (.getfield 236, 3) := dk_180 0 236 (dk_at dksX0_boxes_2 12 rfl rfl)
theorem dX0_boxes_60 : decode cX0_boxes 60 = .ok (.iload_n 1, 1) := dk_27 (dk_at dksX0_boxes_2 15 rfl rfl)
theorem dX0_boxes_61 : decode cX0_boxes 61 = .ok (.if_icmp .le 10, 3) := dk_164 0 10 (dk_at dksX0_boxes_2 16 rfl rfl)
theorem dX0_boxes_64 : decode cX0_boxes 64 = .ok (.aload_n 0, 1) := dk_42 (dk_at dksX0_boxes_2 19 rfl rfl)
theorem dX0_boxes_65 : decode cX0_boxes 65 = .ok (.bipush 9, 2) := dk_16 9 (dk_at dksX0_boxes_2 20 rfl rfl)
theorem dX0_boxes_67 : decode cX0_boxes 67 = .ok (.invokevirtual 97, 3) := dk_182 0 97 (dk_at dksX0_boxes_3 0 rfl rfl)
theorem dX0_boxes_70 : decode cX0_boxes 70 = .ok (.ireturn, 1) := dk_172 (dk_at dksX0_boxes_3 3 rfl rfl)
theorem dX0_boxes_71 : decode cX0_boxes 71 = .ok (.iinc 3 1, 3) := dk_132 3 1 (dk_at dksX0_boxes_3 4 rfl rfl)
theorem dX0_boxes_74 : decode cX0_boxes 74 = .ok (.goto (-46), 3) := dk_167 255 210 (dk_at dksX0_boxes_3 7 rfl rfl)
theorem dX0_boxes_77 : decode cX0_boxes 77 = .ok (.aload_n 0, 1) := dk_42 (dk_at dksX0_boxes_3 10 rfl rfl)
theorem dX0_boxes_78 : decode cX0_boxes 78 = .ok (.getfield 75, 3) := dk_180 0 75 (dk_at dksX0_boxes_3 11 rfl rfl)
theorem dX0_boxes_81 : decode cX0_boxes 81 = .ok (.iconst 0, 1) := dk_3 (dk_at dksX0_boxes_3 14 rfl rfl)
theorem dX0_boxes_82 : decode cX0_boxes 82 = .ok (.iload_n 1, 1) := dk_27 (dk_at dksX0_boxes_3 15 rfl rfl)
theorem dX0_boxes_83 : decode cX0_boxes 83 = .ok (.iastore, 1) := dk_79 (dk_at dksX0_boxes_3 16 rfl rfl)
theorem dX0_boxes_84 : decode cX0_boxes 84 = .ok (.iconst 1, 1) := dk_4 (dk_at dksX0_boxes_3 17 rfl rfl)
theorem dX0_boxes_85 : decode cX0_boxes 85 = .ok (.istore_n 3, 1) := dk_62 (dk_at dksX0_boxes_3 18 rfl rfl)
theorem dX0_boxes_86 : decode cX0_boxes 86 = .ok (.iload_n 3, 1) := dk_29 (dk_at dksX0_boxes_3 19 rfl rfl)
theorem dX0_boxes_87 : decode cX0_boxes 87 = .ok (.iload_n 2, 1) := dk_28 (dk_at dksX0_boxes_3 20 rfl rfl)
theorem dX0_boxes_88 : decode cX0_boxes 88 = .ok (.if_icmp .gt 137, 3) := dk_163 0 137 (dk_at dksX0_boxes_3 21 rfl rfl)
theorem dX0_boxes_91 : decode cX0_boxes 91 = .ok (.iload_n 3, 1) := dk_29 (dk_at dksX0_boxes_4 0 rfl rfl)
theorem dX0_boxes_92 : decode cX0_boxes 92 = .ok (.iload_n 2, 1) := dk_28 (dk_at dksX0_boxes_4 1 rfl rfl)
theorem dX0_boxes_93 : decode cX0_boxes 93 = .ok (.iconst (-1), 1) := dk_2 (dk_at dksX0_boxes_4 2 rfl rfl)
theorem dX0_boxes_94 : decode cX0_boxes 94 = .ok (.ixor, 1) := dk_130 (dk_at dksX0_boxes_4 3 rfl rfl)
theorem dX0_boxes_95 : decode cX0_boxes 95 = .ok (.iand, 1) := dk_126 (dk_at dksX0_boxes_4 4 rfl rfl)
theorem dX0_boxes_96 : decode cX0_boxes 96 = .ok (.ifCond .eq 6, 3) := dk_153 0 6 (dk_at dksX0_boxes_4 5 rfl rfl)
theorem dX0_boxes_99 : decode cX0_boxes 99 = .ok (.goto 120, 3) := dk_167 0 120 (dk_at dksX0_boxes_4 8 rfl rfl)
theorem dX0_boxes_102 : decode cX0_boxes 102 = .ok (.ldc_w 375, 3) := dk_19 1 119 (dk_at dksX0_boxes_4 11 rfl rfl)
theorem dX0_boxes_105 : decode cX0_boxes 105 = .ok (.istore 4, 2) := dk_54 4 (dk_at dksX0_boxes_4 14 rfl rfl)
theorem dX0_boxes_107 : decode cX0_boxes 107 = .ok (.iconst 0, 1) := dk_3 (dk_at dksX0_boxes_4 16 rfl rfl)
theorem dX0_boxes_108 : decode cX0_boxes 108 = .ok (.istore 5, 2) := dk_54 5 (dk_at dksX0_boxes_4 17 rfl rfl)
theorem dX0_boxes_110 : decode cX0_boxes 110 = .ok (.iload 5, 2) := dk_21 5 (dk_at dksX0_boxes_4 19 rfl rfl)
theorem dX0_boxes_112 : decode cX0_boxes 112 = .ok (.aload_n 0, 1) := dk_42 (dk_at dksX0_boxes_4 21 rfl rfl)
theorem dX0_boxes_113 : decode cX0_boxes 113 = .ok (.getfield 38, 3) := dk_180 0 38 (dk_at dksX0_boxes_5 0 rfl rfl)
theorem dX0_boxes_116 : decode cX0_boxes 116 = .ok (.getfield 152, 3) := dk_180 0 152 (dk_at dksX0_boxes_5 3 rfl rfl)
theorem dX0_boxes_119 : decode cX0_boxes 119 = .ok (.if_icmp .ge 92, 3) := dk_162 0 92 (dk_at dksX0_boxes_5 6 rfl rfl)
theorem dX0_boxes_122 : decode cX0_boxes 122 = .ok (.iload_n 3, 1) := dk_29 (dk_at dksX0_boxes_5 9 rfl rfl)
theorem dX0_boxes_123 : decode cX0_boxes 123 = .ok (.iload 5, 2) := dk_21 5 (dk_at dksX0_boxes_5 10 rfl rfl)
theorem dX0_boxes_125 : decode cX0_boxes 125 = .ok (.ishr, 1) := dk_122 (dk_at dksX0_boxes_5 12 rfl rfl)
theorem dX0_boxes_126 : decode cX0_boxes 126 = .ok (.iconst 1, 1) := dk_4 (dk_at dksX0_boxes_5 13 rfl rfl)
theorem dX0_boxes_127 : decode cX0_boxes 127 = .ok (.iand, 1) := dk_126 (dk_at dksX0_boxes_5 14 rfl rfl)
theorem dX0_boxes_128 : decode cX0_boxes 128 = .ok (.ifCond .ne 6, 3) := dk_154 0 6 (dk_at dksX0_boxes_5 15 rfl rfl)
theorem dX0_boxes_131 : decode cX0_boxes 131 = .ok (.goto 74, 3) := dk_167 0 74 (dk_at dksX0_boxes_5 18 rfl rfl)
theorem dX0_boxes_134 : decode cX0_boxes 134 = .ok (.aload_n 0, 1) := dk_42 (dk_at dksX0_boxes_5 21 rfl rfl)
theorem dX0_boxes_135 : decode cX0_boxes 135 = .ok (.getfield 75, 3) := dk_180 0 75 (dk_at dksX0_boxes_6 0 rfl rfl)
theorem dX0_boxes_138 : decode cX0_boxes 138 = .ok (.iload_n 3, 1) := dk_29 (dk_at dksX0_boxes_6 3 rfl rfl)
theorem dX0_boxes_139 : decode cX0_boxes 139 = .ok (.iconst 1, 1) := dk_4 (dk_at dksX0_boxes_6 4 rfl rfl)
theorem dX0_boxes_140 : decode cX0_boxes 140 = .ok (.iload 5, 2) := dk_21 5 (dk_at dksX0_boxes_6 5 rfl rfl)
theorem dX0_boxes_142 : decode cX0_boxes 142 = .ok (.ishl, 1) := dk_120 (dk_at dksX0_boxes_6 7 rfl rfl)
theorem dX0_boxes_143 : decode cX0_boxes 143 = .ok (.iconst (-1), 1) := dk_2 (dk_at dksX0_boxes_6 8 rfl rfl)
theorem dX0_boxes_144 : decode cX0_boxes 144 = .ok (.ixor, 1) := dk_130 (dk_at dksX0_boxes_6 9 rfl rfl)
theorem dX0_boxes_145 : decode cX0_boxes 145 = .ok (.iand, 1) := dk_126 (dk_at dksX0_boxes_6 10 rfl rfl)
theorem dX0_boxes_146 : decode cX0_boxes 146 = .ok (.iaload, 1) := dk_46 (dk_at dksX0_boxes_6 11 rfl rfl)
theorem dX0_boxes_147 : decode cX0_boxes 147 = .ok (.istore 6, 2) := dk_54 6 (dk_at dksX0_boxes_6 12 rfl rfl)
theorem dX0_boxes_149 : decode cX0_boxes 149 = .ok (.aload_n 0, 1) := dk_42 (dk_at dksX0_boxes_6 14 rfl rfl)
theorem dX0_boxes_150 : decode cX0_boxes 150 = .ok (.getfield 38, 3) := dk_180 0 38 (dk_at dksX0_boxes_6 15 rfl rfl)
theorem dX0_boxes_153 : decode cX0_boxes 153 = .ok (.getfield 161, 3) := dk_180 0 161 (dk_at dksX0_boxes_6 18 rfl rfl)
theorem dX0_boxes_156 : decode cX0_boxes 156 = .ok (.iload 5, 2) := dk_21 5 (dk_at dksX0_boxes_6 21 rfl rfl)
theorem dX0_boxes_158 : decode cX0_boxes 158 = .ok (.aaload, 1) := dk_50 (dk_at dksX0_boxes_6 23 rfl rfl)
theorem dX0_boxes_159 : decode cX0_boxes 159 = .ok (.getfield 236, 3) := dk_180 0 236 (dk_at dksX0_boxes_7 0 rfl rfl)
theorem dX0_boxes_162 : decode cX0_boxes 162 = .ok (.istore 7, 2) := dk_54 7 (dk_at dksX0_boxes_7 3 rfl rfl)
theorem dX0_boxes_164 : decode cX0_boxes 164 = .ok (.iload 4, 2) := dk_21 4 (dk_at dksX0_boxes_7 5 rfl rfl)
theorem dX0_boxes_166 : decode cX0_boxes 166 = .ok (.iload 6, 2) := dk_21 6 (dk_at dksX0_boxes_7 7 rfl rfl)
theorem dX0_boxes_168 : decode cX0_boxes 168 = .ok (.bipush 100, 2) := dk_16 100 (dk_at dksX0_boxes_7 9 rfl rfl)
theorem dX0_boxes_170 : decode cX0_boxes 170 = .ok (.irem, 1) := dk_112 (dk_at dksX0_boxes_7 11 rfl rfl)
theorem dX0_boxes_171 : decode cX0_boxes 171 = .ok (.iload 7, 2) := dk_21 7 (dk_at dksX0_boxes_7 12 rfl rfl)
theorem dX0_boxes_173 : decode cX0_boxes 173 = .ok (.iadd, 1) := dk_96 (dk_at dksX0_boxes_7 14 rfl rfl)
theorem dX0_boxes_174 : decode cX0_boxes 174 = .ok (.iload_n 1, 1) := dk_27 (dk_at dksX0_boxes_7 15 rfl rfl)
theorem dX0_boxes_175 : decode cX0_boxes 175 = .ok (.if_icmp .gt 11, 3) := dk_163 0 11 (dk_at dksX0_boxes_7 16 rfl rfl)
theorem dX0_boxes_178 : decode cX0_boxes 178 = .ok (.iload 6, 2) := dk_21 6 (dk_at dksX0_boxes_7 19 rfl rfl)
theorem dX0_boxes_180 : decode cX0_boxes 180 = .ok (.iload 7, 2) := dk_21 7 (dk_at dksX0_boxes_7 21 rfl rfl)
theorem dX0_boxes_182 : decode cX0_boxes 182 = .ok (.iadd, 1) := dk_96 (dk_at dksX0_boxes_7 23 rfl rfl)
theorem dX0_boxes_183 : decode cX0_boxes 183 = .ok (.goto 17, 3) := dk_167 0 17 (dk_at dksX0_boxes_8 0 rfl rfl)
theorem dX0_boxes_186 : decode cX0_boxes 186 = .ok (.iload 6, 2) := dk_21 6 (dk_at dksX0_boxes_8 3 rfl rfl)
theorem dX0_boxes_188 : decode cX0_boxes 188 = .ok (.bipush 100, 2) := dk_16 100 (dk_at dksX0_boxes_8 5 rfl rfl)
theorem dX0_boxes_190 : decode cX0_boxes 190 = .ok (.idiv, 1) := dk_108 (dk_at dksX0_boxes_8 7 rfl rfl)
theorem dX0_boxes_191 : decode cX0_boxes 191 = .ok (.bipush 100, 2) := dk_16 100 (dk_at dksX0_boxes_8 8 rfl rfl)
theorem dX0_boxes_193 : decode cX0_boxes 193 = .ok (.imul, 1) := dk_104 (dk_at dksX0_boxes_8 10 rfl rfl)
theorem dX0_boxes_194 : decode cX0_boxes 194 = .ok (.bipush 100, 2) := dk_16 100 (dk_at dksX0_boxes_8 11 rfl rfl)
theorem dX0_boxes_196 : decode cX0_boxes 196 = .ok (.iadd, 1) := dk_96 (dk_at dksX0_boxes_8 13 rfl rfl)
theorem dX0_boxes_197 : decode cX0_boxes 197 = .ok (.iload 7, 2) := dk_21 7 (dk_at dksX0_boxes_8 14 rfl rfl)
theorem dX0_boxes_199 : decode cX0_boxes 199 = .ok (.iadd, 1) := dk_96 (dk_at dksX0_boxes_8 16 rfl rfl)
theorem dX0_boxes_200 : decode cX0_boxes 200 = .ok (.invokestatic 334, 3) := dk_184 1 78 (dk_at dksX0_boxes_8 17 rfl rfl)
theorem dX0_boxes_203 : decode cX0_boxes 203 = .ok (.istore 4, 2) := dk_54 4 (dk_at dksX0_boxes_8 20 rfl rfl)
theorem dX0_boxes_205 : decode cX0_boxes 205 = .ok (.iinc 5 1, 3) := dk_132 5 1 (dk_at dksX0_boxes_9 0 rfl rfl)
theorem dX0_boxes_208 : decode cX0_boxes 208 = .ok (.goto (-98), 3) := dk_167 255 158 (dk_at dksX0_boxes_9 3 rfl rfl)
theorem dX0_boxes_211 : decode cX0_boxes 211 = .ok (.aload_n 0, 1) := dk_42 (dk_at dksX0_boxes_9 6 rfl rfl)
theorem dX0_boxes_212 : decode cX0_boxes 212 = .ok (.getfield 75, 3) := dk_180 0 75 (dk_at dksX0_boxes_9 7 rfl rfl)
theorem dX0_boxes_215 : decode cX0_boxes 215 = .ok (.iload_n 3, 1) := dk_29 (dk_at dksX0_boxes_9 10 rfl rfl)
theorem dX0_boxes_216 : decode cX0_boxes 216 = .ok (.iload 4, 2) := dk_21 4 (dk_at dksX0_boxes_9 11 rfl rfl)
theorem dX0_boxes_218 : decode cX0_boxes 218 = .ok (.iastore, 1) := dk_79 (dk_at dksX0_boxes_9 13 rfl rfl)
theorem dX0_boxes_219 : decode cX0_boxes 219 = .ok (.iinc 3 1, 3) := dk_132 3 1 (dk_at dksX0_boxes_9 14 rfl rfl)
theorem dX0_boxes_222 : decode cX0_boxes 222 = .ok (.goto (-136), 3) := dk_167 255 120 (dk_at dksX0_boxes_9 17 rfl rfl)
theorem dX0_boxes_225 : decode cX0_boxes 225 = .ok (.aload_n 0, 1) := dk_42 (dk_at dksX0_boxes_9 20 rfl rfl)
theorem dX0_boxes_226 : decode cX0_boxes 226 = .ok (.aload_n 0, 1) := dk_42 (dk_at dksX0_boxes_9 21 rfl rfl)
theorem dX0_boxes_227 : decode cX0_boxes 227 = .ok (.getfield 75, 3) := dk_180 0 75 (dk_at dksX0_boxes_10 0 rfl rfl)
theorem dX0_boxes_230 : decode cX0_boxes 230 = .ok (.iload_n 2, 1) := dk_28 (dk_at dksX0_boxes_10 3 rfl rfl)
theorem dX0_boxes_231 : decode cX0_boxes 231 = .ok (.iaload, 1) := dk_46 (dk_at dksX0_boxes_10 4 rfl rfl)
theorem dX0_boxes_232 : decode cX0_boxes 232 = .ok (.bipush 100, 2) := dk_16 100 (dk_at dksX0_boxes_10 5 rfl rfl)
theorem dX0_boxes_234 : decode cX0_boxes 234 = .ok (.idiv, 1) := dk_108 (dk_at dksX0_boxes_10 7 rfl rfl)
theorem dX0_boxes_235 : decode cX0_boxes 235 = .ok (.invokevirtual 101, 3) := dk_182 0 101 (dk_at dksX0_boxes_10 8 rfl rfl)
theorem dX0_boxes_238 : decode cX0_boxes 238 = .ok (.ireturn, 1) := dk_172 (dk_at dksX0_boxes_10 11 rfl rfl)
abbrev cX0_waste : ByteArray := prog_1_method_80_code
def yX0_waste : MethodName := ⟨RX0, "waste", "(I)I"⟩
def dkwX0_waste_4 : List UInt8 := [167, 0, 4, 3, 128, 61, 132, 3, 1, 167, 255, 176, 42, 28, 182, 0, 101, 172]
abbrev dktX0_waste_4 : List UInt8 := dkwX0_waste_4 ++ []
def dkwX0_waste_3 : List UInt8 := [180, 0, 251, 104, 16, 16, 27, 104, 42, 180, 0, 38, 29, 182, 0, 254, 104, 162, 0, 9, 4, 29, 120]
abbrev dktX0_waste_3 : List UInt8 := dkwX0_waste_3 ++ dktX0_waste_4
def dkwX0_waste_2 : List UInt8 := [154, 0, 50, 42, 180, 0, 38, 180, 0, 161, 29, 50, 180, 0, 248, 42, 180, 0, 38, 180, 0, 161, 29, 50]
abbrev dktX0_waste_2 : List UInt8 := dkwX0_waste_2 ++ dktX0_waste_3
def dkwX0_waste_1 : List UInt8 := [180, 0, 38, 180, 0, 152, 162, 0, 75, 28, 42, 180, 0, 38, 180, 0, 161, 29, 50, 180, 0, 165]
abbrev dktX0_waste_1 : List UInt8 := dkwX0_waste_1 ++ dktX0_waste_2
def dkwX0_waste_0 : List UInt8 := [27, 133, 9, 20, 1, 154, 184, 1, 33, 154, 0, 9, 42, 8, 182, 0, 97, 172, 3, 61, 3, 62, 29, 42]
abbrev dktX0_waste_0 : List UInt8 := dkwX0_waste_0 ++ dktX0_waste_1
theorem dksX0_waste_0 : cX0_waste.data.toList.drop 0 = dktX0_waste_0 := by decide +kernel
theorem dksX0_waste_1 : cX0_waste.data.toList.drop 24 = dktX0_waste_1 := dk_seg dksX0_waste_0 24 rfl rfl
theorem dksX0_waste_2 : cX0_waste.data.toList.drop 46 = dktX0_waste_2 := dk_seg dksX0_waste_1 22 rfl rfl
theorem dksX0_waste_3 : cX0_waste.data.toList.drop 70 = dktX0_waste_3 := dk_seg dksX0_waste_2 24 rfl rfl
theorem dksX0_waste_4 : cX0_waste.data.toList.drop 93 = dktX0_waste_4 := dk_seg dksX0_waste_3 23 rfl rfl
theorem dX0_waste_0 : decode cX0_waste 0 = .ok (.iload_n 1, 1) := dk_27 (dk_at dksX0_waste_0 0 rfl rfl)
theorem dX0_waste_1 : decode cX0_waste 1 = .ok (.i2l, 1) := dk_133 (dk_at dksX0_waste_0 1 rfl rfl)
theorem dX0_waste_2 : decode cX0_waste 2 = .ok (.lconst 0, 1) := dk_9 (dk_at dksX0_waste_0 2 rfl rfl)
theorem dX0_waste_3 : decode cX0_waste 3 = .ok (.ldc2_w 410, 3) := dk_20 1 154 (dk_at dksX0_waste_0 3 rfl rfl)
theorem dX0_waste_6 : decode cX0_waste 6 = .ok (.invokestatic 289, 3) := dk_184 1 33 (dk_at dksX0_waste_0 6 rfl rfl)
theorem dX0_waste_9 : decode cX0_waste 9 = .ok (.ifCond .ne 9, 3) := dk_154 0 9 (dk_at dksX0_waste_0 9 rfl rfl)
theorem dX0_waste_12 : decode cX0_waste 12 = .ok (.aload_n 0, 1) := dk_42 (dk_at dksX0_waste_0 12 rfl rfl)
theorem dX0_waste_13 : decode cX0_waste 13 = .ok (.iconst 5, 1) := dk_8 (dk_at dksX0_waste_0 13 rfl rfl)
theorem dX0_waste_14 : decode cX0_waste 14 = .ok (.invokevirtual 97, 3) := dk_182 0 97 (dk_at dksX0_waste_0 14 rfl rfl)
theorem dX0_waste_17 : decode cX0_waste 17 = .ok (.ireturn, 1) := dk_172 (dk_at dksX0_waste_0 17 rfl rfl)
theorem dX0_waste_18 : decode cX0_waste 18 = .ok (.iconst 0, 1) := dk_3 (dk_at dksX0_waste_0 18 rfl rfl)
theorem dX0_waste_19 : decode cX0_waste 19 = .ok (.istore_n 2, 1) := dk_61 (dk_at dksX0_waste_0 19 rfl rfl)
theorem dX0_waste_20 : decode cX0_waste 20 = .ok (.iconst 0, 1) := dk_3 (dk_at dksX0_waste_0 20 rfl rfl)
theorem dX0_waste_21 : decode cX0_waste 21 = .ok (.istore_n 3, 1) := dk_62 (dk_at dksX0_waste_0 21 rfl rfl)
theorem dX0_waste_22 : decode cX0_waste 22 = .ok (.iload_n 3, 1) := dk_29 (dk_at dksX0_waste_0 22 rfl rfl)
theorem dX0_waste_23 : decode cX0_waste 23 = .ok (.aload_n 0, 1) := dk_42 (dk_at dksX0_waste_0 23 rfl rfl)
theorem dX0_waste_24 : decode cX0_waste 24 = .ok (.getfield 38, 3) := dk_180 0 38 (dk_at dksX0_waste_1 0 rfl rfl)
theorem dX0_waste_27 : decode cX0_waste 27 = .ok (.getfield 152, 3) := dk_180 0 152 (dk_at dksX0_waste_1 3 rfl rfl)
theorem dX0_waste_30 : decode cX0_waste 30 = .ok (.if_icmp .ge 75, 3) := dk_162 0 75 (dk_at dksX0_waste_1 6 rfl rfl)
theorem dX0_waste_33 : decode cX0_waste 33 = .ok (.iload_n 2, 1) := dk_28 (dk_at dksX0_waste_1 9 rfl rfl)
theorem dX0_waste_34 : decode cX0_waste 34 = .ok (.aload_n 0, 1) := dk_42 (dk_at dksX0_waste_1 10 rfl rfl)
theorem dX0_waste_35 : decode cX0_waste 35 = .ok (.getfield 38, 3) := dk_180 0 38 (dk_at dksX0_waste_1 11 rfl rfl)
theorem dX0_waste_38 : decode cX0_waste 38 = .ok (.getfield 161, 3) := dk_180 0 161 (dk_at dksX0_waste_1 14 rfl rfl)
theorem dX0_waste_41 : decode cX0_waste 41 = .ok (.iload_n 3, 1) := dk_29 (dk_at dksX0_waste_1 17 rfl rfl)
theorem dX0_waste_42 : decode cX0_waste 42 = .ok (.aaload, 1) := dk_50 (dk_at dksX0_waste_1 18 rfl rfl)
theorem dX0_waste_43 : decode cX0_waste 43 = .ok (.getfield 165, 3) := dk_180 0 165 (dk_at dksX0_waste_1 19 rfl rfl)
theorem dX0_waste_46 : decode cX0_waste 46 = .ok (.ifCond .ne 50, 3) := dk_154 0 50 (dk_at dksX0_waste_2 0 rfl rfl)
theorem dX0_waste_49 : decode cX0_waste 49 = .ok (.aload_n 0, 1) := dk_42 (dk_at dksX0_waste_2 3 rfl rfl)
theorem dX0_waste_50 : decode cX0_waste 50 = .ok (.getfield 38, 3) := dk_180 0 38 (dk_at dksX0_waste_2 4 rfl rfl)
theorem dX0_waste_53 : decode cX0_waste 53 = .ok (.getfield 161, 3) := dk_180 0 161 (dk_at dksX0_waste_2 7 rfl rfl)
theorem dX0_waste_56 : decode cX0_waste 56 = .ok (.iload_n 3, 1) := dk_29 (dk_at dksX0_waste_2 10 rfl rfl)
theorem dX0_waste_57 : decode cX0_waste 57 = .ok (.aaload, 1) := dk_50 (dk_at dksX0_waste_2 11 rfl rfl)
theorem dX0_waste_58 : decode cX0_waste 58 = .ok (.getfield 248, 3) := dk_180 0 248 (dk_at dksX0_waste_2 12 rfl rfl)
theorem dX0_waste_61 : decode cX0_waste 61 = .ok (.aload_n 0, 1) := dk_42 (dk_at dksX0_waste_2 15 rfl rfl)
theorem dX0_waste_62 : decode cX0_waste 62 = .ok (.getfield 38, 3) := dk_180 0 38 (dk_at dksX0_waste_2 16 rfl rfl)
theorem dX0_waste_65 : decode cX0_waste 65 = .ok (.getfield 161, 3) := dk_180 0 161 (dk_at dksX0_waste_2 19 rfl rfl)
theorem dX0_waste_68 : decode cX0_waste 68 = .ok (.iload_n 3, 1) := dk_29 (dk_at dksX0_waste_2 22 rfl rfl)
theorem dX0_waste_69 : decode cX0_waste 69 = .ok (.aaload, 1) := dk_50 (dk_at dksX0_waste_2 23 rfl rfl)
theorem dX0_waste_70 : decode cX0_waste 70 = .ok (.getfield 251, 3) := dk_180 0 251 (dk_at dksX0_waste_3 0 rfl rfl)
theorem dX0_waste_73 : decode cX0_waste 73 = .ok (.imul, 1) := dk_104 (dk_at dksX0_waste_3 3 rfl rfl)
theorem dX0_waste_74 : decode cX0_waste 74 = .ok (.bipush 16, 2) := dk_16 16 (dk_at dksX0_waste_3 4 rfl rfl)
theorem dX0_waste_76 : decode cX0_waste 76 = .ok (.iload_n 1, 1) := dk_27 (dk_at dksX0_waste_3 6 rfl rfl)
theorem dX0_waste_77 : decode cX0_waste 77 = .ok (.imul, 1) := dk_104 (dk_at dksX0_waste_3 7 rfl rfl)
theorem dX0_waste_78 : decode cX0_waste 78 = .ok (.aload_n 0, 1) := dk_42 (dk_at dksX0_waste_3 8 rfl rfl)
theorem dX0_waste_79 : decode cX0_waste 79 = .ok (.getfield 38, 3) := dk_180 0 38 (dk_at dksX0_waste_3 9 rfl rfl)
theorem dX0_waste_82 : decode cX0_waste 82 = .ok (.iload_n 3, 1) := dk_29 (dk_at dksX0_waste_3 12 rfl rfl)
theorem dX0_waste_83 : decode cX0_waste 83 = .ok (.invokevirtual 254, 3) := dk_182 0 254 (dk_at dksX0_waste_3 13 rfl rfl)
theorem dX0_waste_86 : decode cX0_waste 86 = .ok (.imul, 1) := dk_104 (dk_at dksX0_waste_3 16 rfl rfl)
theorem dX0_waste_87 : decode cX0_waste 87 = .ok (.if_icmp .ge 9, 3) := dk_162 0 9 (dk_at dksX0_waste_3 17 rfl rfl)
theorem dX0_waste_90 : decode cX0_waste 90 = .ok (.iconst 1, 1) := dk_4 (dk_at dksX0_waste_3 20 rfl rfl)
theorem dX0_waste_91 : decode cX0_waste 91 = .ok (.iload_n 3, 1) := dk_29 (dk_at dksX0_waste_3 21 rfl rfl)
theorem dX0_waste_92 : decode cX0_waste 92 = .ok (.ishl, 1) := dk_120 (dk_at dksX0_waste_3 22 rfl rfl)
theorem dX0_waste_93 : decode cX0_waste 93 = .ok (.goto 4, 3) := dk_167 0 4 (dk_at dksX0_waste_4 0 rfl rfl)
theorem dX0_waste_96 : decode cX0_waste 96 = .ok (.iconst 0, 1) := dk_3 (dk_at dksX0_waste_4 3 rfl rfl)
theorem dX0_waste_97 : decode cX0_waste 97 = .ok (.ior, 1) := dk_128 (dk_at dksX0_waste_4 4 rfl rfl)
theorem dX0_waste_98 : decode cX0_waste 98 = .ok (.istore_n 2, 1) := dk_61 (dk_at dksX0_waste_4 5 rfl rfl)
theorem dX0_waste_99 : decode cX0_waste 99 = .ok (.iinc 3 1, 3) := dk_132 3 1 (dk_at dksX0_waste_4 6 rfl rfl)
theorem dX0_waste_102 : decode cX0_waste 102 = .ok (.goto (-80), 3) := dk_167 255 176 (dk_at dksX0_waste_4 9 rfl rfl)
theorem dX0_waste_105 : decode cX0_waste 105 = .ok (.aload_n 0, 1) := dk_42 (dk_at dksX0_waste_4 12 rfl rfl)
theorem dX0_waste_106 : decode cX0_waste 106 = .ok (.iload_n 2, 1) := dk_28 (dk_at dksX0_waste_4 13 rfl rfl)
theorem dX0_waste_107 : decode cX0_waste 107 = .ok (.invokevirtual 101, 3) := dk_182 0 101 (dk_at dksX0_waste_4 14 rfl rfl)
theorem dX0_waste_110 : decode cX0_waste 110 = .ok (.ireturn, 1) := dk_172 (dk_at dksX0_waste_4 17 rfl rfl)
abbrev cX0_live : ByteArray := prog_1_method_86_code
def yX0_live : MethodName := ⟨RX0, "live", "(I)I"⟩
def dkwX0_live_2 : List UInt8 := [3, 8, 184, 0, 144, 42, 4, 181, 1, 213, 42, 42, 180, 1, 197, 182, 0, 101, 172]
abbrev dktX0_live_2 : List UInt8 := dkwX0_live_2 ++ []
def dkwX0_live_1 : List UInt8 := [199, 0, 10, 42, 16, 8, 182, 0, 97, 172, 42, 27, 182, 1, 210, 42, 180, 0, 78, 3, 42, 180, 0, 81]
abbrev dktX0_live_1 : List UInt8 := dkwX0_live_1 ++ dktX0_live_2
def dkwX0_live_0 : List UInt8 := [27, 133, 9, 20, 1, 81, 184, 1, 33, 154, 0, 9, 42, 8, 182, 0, 97, 172, 42, 180, 0, 199]
abbrev dktX0_live_0 : List UInt8 := dkwX0_live_0 ++ dktX0_live_1
theorem dksX0_live_0 : cX0_live.data.toList.drop 0 = dktX0_live_0 := by decide +kernel
theorem dksX0_live_1 : cX0_live.data.toList.drop 22 = dktX0_live_1 := dk_seg dksX0_live_0 22 rfl rfl
theorem dksX0_live_2 : cX0_live.data.toList.drop 46 = dktX0_live_2 := dk_seg dksX0_live_1 24 rfl rfl
theorem dX0_live_0 : decode cX0_live 0 = .ok (.iload_n 1, 1) := dk_27 (dk_at dksX0_live_0 0 rfl rfl)
theorem dX0_live_1 : decode cX0_live 1 = .ok (.i2l, 1) := dk_133 (dk_at dksX0_live_0 1 rfl rfl)
theorem dX0_live_2 : decode cX0_live 2 = .ok (.lconst 0, 1) := dk_9 (dk_at dksX0_live_0 2 rfl rfl)
theorem dX0_live_3 : decode cX0_live 3 = .ok (.ldc2_w 337, 3) := dk_20 1 81 (dk_at dksX0_live_0 3 rfl rfl)
theorem dX0_live_6 : decode cX0_live 6 = .ok (.invokestatic 289, 3) := dk_184 1 33 (dk_at dksX0_live_0 6 rfl rfl)
theorem dX0_live_9 : decode cX0_live 9 = .ok (.ifCond .ne 9, 3) := dk_154 0 9 (dk_at dksX0_live_0 9 rfl rfl)
theorem dX0_live_12 : decode cX0_live 12 = .ok (.aload_n 0, 1) := dk_42 (dk_at dksX0_live_0 12 rfl rfl)
theorem dX0_live_13 : decode cX0_live 13 = .ok (.iconst 5, 1) := dk_8 (dk_at dksX0_live_0 13 rfl rfl)
theorem dX0_live_14 : decode cX0_live 14 = .ok (.invokevirtual 97, 3) := dk_182 0 97 (dk_at dksX0_live_0 14 rfl rfl)
theorem dX0_live_17 : decode cX0_live 17 = .ok (.ireturn, 1) := dk_172 (dk_at dksX0_live_0 17 rfl rfl)
theorem dX0_live_18 : decode cX0_live 18 = .ok (.aload_n 0, 1) := dk_42 (dk_at dksX0_live_0 18 rfl rfl)
theorem dX0_live_19 : decode cX0_live 19 = .ok (.getfield 199, 3) := dk_180 0 199 (dk_at dksX0_live_0 19 rfl rfl)
theorem dX0_live_22 : decode cX0_live 22 = .ok (.ifnonnull 10, 3) := dk_199 0 10 (dk_at dksX0_live_1 0 rfl rfl)
theorem dX0_live_25 : decode cX0_live 25 = .ok (.aload_n 0, 1) := dk_42 (dk_at dksX0_live_1 3 rfl rfl)
theorem dX0_live_26 : decode cX0_live 26 = .ok (.bipush 8, 2) := dk_16 8 (dk_at dksX0_live_1 4 rfl rfl)
theorem dX0_live_28 : decode cX0_live 28 = .ok (.invokevirtual 97, 3) := dk_182 0 97 (dk_at dksX0_live_1 6 rfl rfl)
theorem dX0_live_31 : decode cX0_live 31 = .ok (.ireturn, 1) := dk_172 (dk_at dksX0_live_1 9 rfl rfl)
theorem dX0_live_32 : decode cX0_live 32 = .ok (.aload_n 0, 1) := dk_42 (dk_at dksX0_live_1 10 rfl rfl)
theorem dX0_live_33 : decode cX0_live 33 = .ok (.iload_n 1, 1) := dk_27 (dk_at dksX0_live_1 11 rfl rfl)
theorem dX0_live_34 : decode cX0_live 34 = .ok (.invokevirtual 466, 3) := dk_182 1 210 (dk_at dksX0_live_1 12 rfl rfl)
theorem dX0_live_37 : decode cX0_live 37 = .ok (.aload_n 0, 1) := dk_42 (dk_at dksX0_live_1 15 rfl rfl)
theorem dX0_live_38 : decode cX0_live 38 = .ok (.getfield 78, 3) := dk_180 0 78 (dk_at dksX0_live_1 16 rfl rfl)
theorem dX0_live_41 : decode cX0_live 41 = .ok (.iconst 0, 1) := dk_3 (dk_at dksX0_live_1 19 rfl rfl)
theorem dX0_live_42 : decode cX0_live 42 = .ok (.aload_n 0, 1) := dk_42 (dk_at dksX0_live_1 20 rfl rfl)
theorem dX0_live_43 : decode cX0_live 43 = .ok (.getfield 81, 3) := dk_180 0 81 (dk_at dksX0_live_1 21 rfl rfl)
theorem dX0_live_46 : decode cX0_live 46 = .ok (.iconst 0, 1) := dk_3 (dk_at dksX0_live_2 0 rfl rfl)
theorem dX0_live_47 : decode cX0_live 47 = .ok (.iconst 5, 1) := dk_8 (dk_at dksX0_live_2 1 rfl rfl)
theorem dX0_live_48 : decode cX0_live 48 = .ok (.invokestatic 144, 3) := dk_184 0 144 (dk_at dksX0_live_2 2 rfl rfl)
theorem dX0_live_51 : decode cX0_live 51 = .ok (.aload_n 0, 1) := dk_42 (dk_at dksX0_live_2 5 rfl rfl)
theorem dX0_live_52 : decode cX0_live 52 = .ok (.iconst 1, 1) := dk_4 (dk_at dksX0_live_2 6 rfl rfl)
theorem dX0_live_53 : decode cX0_live 53 = .ok (.putfield 469, 3) := dk_181 1 213 (dk_at dksX0_live_2 7 rfl rfl)
theorem dX0_live_56 : decode cX0_live 56 = .ok (.aload_n 0, 1) := dk_42 (dk_at dksX0_live_2 10 rfl rfl)
theorem dX0_live_57 : decode cX0_live 57 = .ok (.aload_n 0, 1) := dk_42 (dk_at dksX0_live_2 11 rfl rfl)
theorem dX0_live_58 : decode cX0_live 58 = .ok (.getfield 453, 3) := dk_180 1 197 (dk_at dksX0_live_2 12 rfl rfl)
theorem dX0_live_61 : decode cX0_live 61 = .ok (.invokevirtual 101, 3) := dk_182 0 101 (dk_at dksX0_live_2 15 rfl rfl)
theorem dX0_live_64 : decode cX0_live 64 = .ok (.ireturn, 1) := dk_172 (dk_at dksX0_live_2 18 rfl rfl)
abbrev cX0_goesBy : ByteArray := prog_1_method_85_code
def yX0_goesBy : MethodName := ⟨RX0, "goesBy", "(I)V"⟩
def dkwX0_goesBy_5 : List UInt8 := [154, 0, 12, 45, 180, 1, 194, 4, 96, 167, 0, 6, 28, 4, 96, 182, 1, 207, 61, 167, 255, 151, 177]
abbrev dktX0_goesBy_5 : List UInt8 := dkwX0_goesBy_5 ++ []
def dkwX0_goesBy_4 : List UInt8 := [180, 0, 78, 3, 92, 46, 4, 96, 79, 42, 45, 180, 1, 177, 16, 18, 160, 0, 20, 42, 45, 182, 1, 204]
abbrev dktX0_goesBy_4 : List UInt8 := dkwX0_goesBy_4 ++ dktX0_goesBy_5
def dkwX0_goesBy_3 : List UInt8 := [96, 181, 1, 197, 45, 180, 1, 177, 16, 20, 160, 0, 4, 177, 42, 45, 182, 1, 200, 154, 0, 13, 42]
abbrev dktX0_goesBy_3 : List UInt8 := dkwX0_goesBy_3 ++ dktX0_goesBy_4
def dkwX0_goesBy_2 : List UInt8 := [160, 0, 11, 42, 180, 0, 78, 7, 4, 79, 177, 42, 180, 0, 199, 28, 50, 78, 42, 89, 180, 1, 197, 4]
abbrev dktX0_goesBy_2 : List UInt8 := dkwX0_goesBy_2 ++ dktX0_goesBy_3
def dkwX0_goesBy_1 : List UInt8 := [132, 2, 1, 167, 255, 241, 3, 61, 28, 42, 180, 0, 203, 162, 0, 103, 42, 180, 1, 197, 17, 1, 44]
abbrev dktX0_goesBy_1 : List UInt8 := dkwX0_goesBy_1 ++ dktX0_goesBy_2
def dkwX0_goesBy_0 : List UInt8 := [42, 27, 181, 1, 65, 42, 3, 181, 1, 197, 3, 61, 28, 8, 162, 0, 16, 42, 180, 0, 78, 28, 3, 79]
abbrev dktX0_goesBy_0 : List UInt8 := dkwX0_goesBy_0 ++ dktX0_goesBy_1
theorem dksX0_goesBy_0 : cX0_goesBy.data.toList.drop 0 = dktX0_goesBy_0 := by decide +kernel
theorem dksX0_goesBy_1 : cX0_goesBy.data.toList.drop 24 = dktX0_goesBy_1 := dk_seg dksX0_goesBy_0 24 rfl rfl
theorem dksX0_goesBy_2 : cX0_goesBy.data.toList.drop 47 = dktX0_goesBy_2 := dk_seg dksX0_goesBy_1 23 rfl rfl
theorem dksX0_goesBy_3 : cX0_goesBy.data.toList.drop 71 = dktX0_goesBy_3 := dk_seg dksX0_goesBy_2 24 rfl rfl
theorem dksX0_goesBy_4 : cX0_goesBy.data.toList.drop 94 = dktX0_goesBy_4 := dk_seg dksX0_goesBy_3 23 rfl rfl
theorem dksX0_goesBy_5 : cX0_goesBy.data.toList.drop 118 = dktX0_goesBy_5 := dk_seg dksX0_goesBy_4 24 rfl rfl
theorem dX0_goesBy_0 : decode cX0_goesBy 0 = .ok (.aload_n 0, 1) := dk_42 (dk_at dksX0_goesBy_0 0 rfl rfl)
theorem dX0_goesBy_1 : decode cX0_goesBy 1 = .ok (.iload_n 1, 1) := dk_27 (dk_at dksX0_goesBy_0 1 rfl rfl)
theorem dX0_goesBy_2 : decode cX0_goesBy 2 = .ok (.putfield 321, 3) := dk_181 1 65 (dk_at dksX0_goesBy_0 2 rfl rfl)
theorem dX0_goesBy_5 : decode cX0_goesBy 5 = .ok (.aload_n 0, 1) := dk_42 (dk_at dksX0_goesBy_0 5 rfl rfl)
theorem dX0_goesBy_6 : decode cX0_goesBy 6 = .ok (.iconst 0, 1) := dk_3 (dk_at dksX0_goesBy_0 6 rfl rfl)
theorem dX0_goesBy_7 : decode cX0_goesBy 7 = .ok (.putfield 453, 3) := dk_181 1 197 (dk_at dksX0_goesBy_0 7 rfl rfl)
theorem dX0_goesBy_10 : decode cX0_goesBy 10 = .ok (.iconst 0, 1) := dk_3 (dk_at dksX0_goesBy_0 10 rfl rfl)
theorem dX0_goesBy_11 : decode cX0_goesBy 11 = .ok (.istore_n 2, 1) := dk_61 (dk_at dksX0_goesBy_0 11 rfl rfl)
theorem dX0_goesBy_12 : decode cX0_goesBy 12 = .ok (.iload_n 2, 1) := dk_28 (dk_at dksX0_goesBy_0 12 rfl rfl)
theorem dX0_goesBy_13 : decode cX0_goesBy 13 = .ok (.iconst 5, 1) := dk_8 (dk_at dksX0_goesBy_0 13 rfl rfl)
theorem dX0_goesBy_14 : decode cX0_goesBy 14 = .ok (.if_icmp .ge 16, 3) := dk_162 0 16 (dk_at dksX0_goesBy_0 14 rfl rfl)
theorem dX0_goesBy_17 : decode cX0_goesBy 17 = .ok (.aload_n 0, 1) := dk_42 (dk_at dksX0_goesBy_0 17 rfl rfl)
theorem dX0_goesBy_18 : decode cX0_goesBy 18 = .ok (.getfield 78, 3) := dk_180 0 78 (dk_at dksX0_goesBy_0 18 rfl rfl)
theorem dX0_goesBy_21 : decode cX0_goesBy 21 = .ok (.iload_n 2, 1) := dk_28 (dk_at dksX0_goesBy_0 21 rfl rfl)
theorem dX0_goesBy_22 : decode cX0_goesBy 22 = .ok (.iconst 0, 1) := dk_3 (dk_at dksX0_goesBy_0 22 rfl rfl)
theorem dX0_goesBy_23 : decode cX0_goesBy 23 = .ok (.iastore, 1) := dk_79 (dk_at dksX0_goesBy_0 23 rfl rfl)
theorem dX0_goesBy_24 : decode cX0_goesBy 24 = .ok (.iinc 2 1, 3) := dk_132 2 1 (dk_at dksX0_goesBy_1 0 rfl rfl)
theorem dX0_goesBy_27 : decode cX0_goesBy 27 = .ok (.goto (-15), 3) := dk_167 255 241 (dk_at dksX0_goesBy_1 3 rfl rfl)
theorem dX0_goesBy_30 : decode cX0_goesBy 30 = .ok (.iconst 0, 1) := dk_3 (dk_at dksX0_goesBy_1 6 rfl rfl)
theorem dX0_goesBy_31 : decode cX0_goesBy 31 = .ok (.istore_n 2, 1) := dk_61 (dk_at dksX0_goesBy_1 7 rfl rfl)
theorem dX0_goesBy_32 : decode cX0_goesBy 32 = .ok (.iload_n 2, 1) := dk_28 (dk_at dksX0_goesBy_1 8 rfl rfl)
theorem dX0_goesBy_33 : decode cX0_goesBy 33 = .ok (.aload_n 0, 1) := dk_42 (dk_at dksX0_goesBy_1 9 rfl rfl)
theorem dX0_goesBy_34 : decode cX0_goesBy 34 = .ok (.getfield 203, 3) := dk_180 0 203 (dk_at dksX0_goesBy_1 10 rfl rfl)
theorem dX0_goesBy_37 : decode cX0_goesBy 37 = .ok (.if_icmp .ge 103, 3) := dk_162 0 103 (dk_at dksX0_goesBy_1 13 rfl rfl)
theorem dX0_goesBy_40 : decode cX0_goesBy 40 = .ok (.aload_n 0, 1) := dk_42 (dk_at dksX0_goesBy_1 16 rfl rfl)
theorem dX0_goesBy_41 : decode cX0_goesBy 41 = .ok (.getfield 453, 3) := dk_180 1 197 (dk_at dksX0_goesBy_1 17 rfl rfl)
theorem dX0_goesBy_44 : decode cX0_goesBy 44 = .ok (.sipush 300, 3) := dk_17 1 44 (dk_at dksX0_goesBy_1 20 rfl rfl)
theorem dX0_goesBy_47 : decode cX0_goesBy 47 = .ok (.if_icmp .ne 11, 3) := dk_160 0 11 (dk_at dksX0_goesBy_2 0 rfl rfl)
theorem dX0_goesBy_50 : decode cX0_goesBy 50 = .ok (.aload_n 0, 1) := dk_42 (dk_at dksX0_goesBy_2 3 rfl rfl)
theorem dX0_goesBy_51 : decode cX0_goesBy 51 = .ok (.getfield 78, 3) := dk_180 0 78 (dk_at dksX0_goesBy_2 4 rfl rfl)
theorem dX0_goesBy_54 : decode cX0_goesBy 54 = .ok (.iconst 4, 1) := dk_7 (dk_at dksX0_goesBy_2 7 rfl rfl)
theorem dX0_goesBy_55 : decode cX0_goesBy 55 = .ok (.iconst 1, 1) := dk_4 (dk_at dksX0_goesBy_2 8 rfl rfl)
theorem dX0_goesBy_56 : decode cX0_goesBy 56 = .ok (.iastore, 1) := dk_79 (dk_at dksX0_goesBy_2 9 rfl rfl)
theorem dX0_goesBy_57 : decode cX0_goesBy 57 = .ok (.return_, 1) := dk_177 (dk_at dksX0_goesBy_2 10 rfl rfl)
theorem dX0_goesBy_58 : decode cX0_goesBy 58 = .ok (.aload_n 0, 1) := dk_42 (dk_at dksX0_goesBy_2 11 rfl rfl)
theorem dX0_goesBy_59 : decode cX0_goesBy 59 = .ok (.getfield 199, 3) := dk_180 0 199 (dk_at dksX0_goesBy_2 12 rfl rfl)
theorem dX0_goesBy_62 : decode cX0_goesBy 62 = .ok (.iload_n 2, 1) := dk_28 (dk_at dksX0_goesBy_2 15 rfl rfl)
theorem dX0_goesBy_63 : decode cX0_goesBy 63 = .ok (.aaload, 1) := dk_50 (dk_at dksX0_goesBy_2 16 rfl rfl)
theorem dX0_goesBy_64 : decode cX0_goesBy 64 = .ok (.astore_n 3, 1) := dk_78 (dk_at dksX0_goesBy_2 17 rfl rfl)
theorem dX0_goesBy_65 : decode cX0_goesBy 65 = .ok (.aload_n 0, 1) := dk_42 (dk_at dksX0_goesBy_2 18 rfl rfl)
theorem dX0_goesBy_66 : decode cX0_goesBy 66 = .ok (.dup, 1) := dk_89 (dk_at dksX0_goesBy_2 19 rfl rfl)
theorem dX0_goesBy_67 : decode cX0_goesBy 67 = .ok (.getfield 453, 3) := dk_180 1 197 (dk_at dksX0_goesBy_2 20 rfl rfl)
theorem dX0_goesBy_70 : decode cX0_goesBy 70 = .ok (.iconst 1, 1) := dk_4 (dk_at dksX0_goesBy_2 23 rfl rfl)
theorem dX0_goesBy_71 : decode cX0_goesBy 71 = .ok (.iadd, 1) := dk_96 (dk_at dksX0_goesBy_3 0 rfl rfl)
theorem dX0_goesBy_72 : decode cX0_goesBy 72 = .ok (.putfield 453, 3) := dk_181 1 197 (dk_at dksX0_goesBy_3 1 rfl rfl)
theorem dX0_goesBy_75 : decode cX0_goesBy 75 = .ok (.aload_n 3, 1) := dk_45 (dk_at dksX0_goesBy_3 4 rfl rfl)
theorem dX0_goesBy_76 : decode cX0_goesBy 76 = .ok (.getfield 433, 3) := dk_180 1 177 (dk_at dksX0_goesBy_3 5 rfl rfl)
theorem dX0_goesBy_79 : decode cX0_goesBy 79 = .ok (.bipush 20, 2) := dk_16 20 (dk_at dksX0_goesBy_3 8 rfl rfl)
theorem dX0_goesBy_81 : decode cX0_goesBy 81 = .ok (.if_icmp .ne 4, 3) := dk_160 0 4 (dk_at dksX0_goesBy_3 10 rfl rfl)
theorem dX0_goesBy_84 : decode cX0_goesBy 84 = .ok (.return_, 1) := dk_177 (dk_at dksX0_goesBy_3 13 rfl rfl)
theorem dX0_goesBy_85 : decode cX0_goesBy 85 = .ok (.aload_n 0, 1) := dk_42 (dk_at dksX0_goesBy_3 14 rfl rfl)
theorem dX0_goesBy_86 : decode cX0_goesBy 86 = .ok (.aload_n 3, 1) := dk_45 (dk_at dksX0_goesBy_3 15 rfl rfl)
theorem dX0_goesBy_87 : decode cX0_goesBy 87 = .ok (.invokevirtual 456, 3) := dk_182 1 200 (dk_at dksX0_goesBy_3 16 rfl rfl)
theorem dX0_goesBy_90 : decode cX0_goesBy 90 = .ok (.ifCond .ne 13, 3) := dk_154 0 13 (dk_at dksX0_goesBy_3 19 rfl rfl)
theorem dX0_goesBy_93 : decode cX0_goesBy 93 = .ok (.aload_n 0, 1) := dk_42 (dk_at dksX0_goesBy_3 22 rfl rfl)
theorem dX0_goesBy_94 : decode cX0_goesBy 94 = .ok (.getfield 78, 3) := dk_180 0 78 (dk_at dksX0_goesBy_4 0 rfl rfl)
theorem dX0_goesBy_97 : decode cX0_goesBy 97 = .ok (.iconst 0, 1) := dk_3 (dk_at dksX0_goesBy_4 3 rfl rfl)
theorem dX0_goesBy_98 : decode cX0_goesBy 98 = .ok (.dup2, 1) := dk_92 (dk_at dksX0_goesBy_4 4 rfl rfl)
theorem dX0_goesBy_99 : decode cX0_goesBy 99 = .ok (.iaload, 1) := dk_46 (dk_at dksX0_goesBy_4 5 rfl rfl)
theorem dX0_goesBy_100 : decode cX0_goesBy 100 = .ok (.iconst 1, 1) := dk_4 (dk_at dksX0_goesBy_4 6 rfl rfl)
theorem dX0_goesBy_101 : decode cX0_goesBy 101 = .ok (.iadd, 1) := dk_96 (dk_at dksX0_goesBy_4 7 rfl rfl)
theorem dX0_goesBy_102 : decode cX0_goesBy 102 = .ok (.iastore, 1) := dk_79 (dk_at dksX0_goesBy_4 8 rfl rfl)
theorem dX0_goesBy_103 : decode cX0_goesBy 103 = .ok (.aload_n 0, 1) := dk_42 (dk_at dksX0_goesBy_4 9 rfl rfl)
theorem dX0_goesBy_104 : decode cX0_goesBy 104 = .ok (.aload_n 3, 1) := dk_45 (dk_at dksX0_goesBy_4 10 rfl rfl)
theorem dX0_goesBy_105 : decode cX0_goesBy 105 = .ok (.getfield 433, 3) := dk_180 1 177 (dk_at dksX0_goesBy_4 11 rfl rfl)
theorem dX0_goesBy_108 : decode cX0_goesBy 108 = .ok (.bipush 18, 2) := dk_16 18 (dk_at dksX0_goesBy_4 14 rfl rfl)
theorem dX0_goesBy_110 : decode cX0_goesBy 110 = .ok (.if_icmp .ne 20, 3) := dk_160 0 20 (dk_at dksX0_goesBy_4 16 rfl rfl)
theorem dX0_goesBy_113 : decode cX0_goesBy 113 = .ok (.aload_n 0, 1) := dk_42 (dk_at dksX0_goesBy_4 19 rfl rfl)
theorem dX0_goesBy_114 : decode cX0_goesBy 114 = .ok (.aload_n 3, 1) := dk_45 (dk_at dksX0_goesBy_4 20 rfl rfl)
theorem dX0_goesBy_115 : decode cX0_goesBy 115 = .ok (.invokevirtual 460, 3) := dk_182 1 204 (dk_at dksX0_goesBy_4 21 rfl rfl)
theorem dX0_goesBy_118 : decode cX0_goesBy 118 = .ok (.ifCond .ne 12, 3) := dk_154 0 12 (dk_at dksX0_goesBy_5 0 rfl rfl)
theorem dX0_goesBy_121 : decode cX0_goesBy 121 = .ok (.aload_n 3, 1) := dk_45 (dk_at dksX0_goesBy_5 3 rfl rfl)
theorem dX0_goesBy_122 : decode cX0_goesBy 122 = .ok (.getfield 450, 3) := dk_180 1 194 (dk_at dksX0_goesBy_5 4 rfl rfl)
theorem dX0_goesBy_125 : decode cX0_goesBy 125 = .ok (.iconst 1, 1) := dk_4 (dk_at dksX0_goesBy_5 7 rfl rfl)
theorem dX0_goesBy_126 : decode cX0_goesBy 126 = .ok (.iadd, 1) := dk_96 (dk_at dksX0_goesBy_5 8 rfl rfl)
theorem dX0_goesBy_127 : decode cX0_goesBy 127 = .ok (.goto 6, 3) := dk_167 0 6 (dk_at dksX0_goesBy_5 9 rfl rfl)
theorem dX0_goesBy_130 : decode cX0_goesBy 130 = .ok (.iload_n 2, 1) := dk_28 (dk_at dksX0_goesBy_5 12 rfl rfl)
theorem dX0_goesBy_131 : decode cX0_goesBy 131 = .ok (.iconst 1, 1) := dk_4 (dk_at dksX0_goesBy_5 13 rfl rfl)
theorem dX0_goesBy_132 : decode cX0_goesBy 132 = .ok (.iadd, 1) := dk_96 (dk_at dksX0_goesBy_5 14 rfl rfl)
theorem dX0_goesBy_133 : decode cX0_goesBy 133 = .ok (.invokevirtual 463, 3) := dk_182 1 207 (dk_at dksX0_goesBy_5 15 rfl rfl)
theorem dX0_goesBy_136 : decode cX0_goesBy 136 = .ok (.istore_n 2, 1) := dk_61 (dk_at dksX0_goesBy_5 18 rfl rfl)
theorem dX0_goesBy_137 : decode cX0_goesBy 137 = .ok (.goto (-105), 3) := dk_167 255 151 (dk_at dksX0_goesBy_5 19 rfl rfl)
theorem dX0_goesBy_140 : decode cX0_goesBy 140 = .ok (.return_, 1) := dk_177 (dk_at dksX0_goesBy_5 22 rfl rfl)
abbrev cX0_does : ByteArray := prog_1_method_82_code
def yX0_does : MethodName := ⟨RX0, "does", "(LCableDrawer$Step;)Z"⟩
def dkwX0_does_9 : List UInt8 := [181, 1, 184, 4, 172, 4, 172]
abbrev dktX0_does_9 : List UInt8 := dkwX0_does_9 ++ []
def dkwX0_does_8 : List UInt8 := [4, 167, 0, 4, 3, 172, 42, 180, 0, 38, 43, 180, 1, 180, 182, 1, 52, 172, 43, 43, 180, 1, 180]
abbrev dktX0_does_8 : List UInt8 := dkwX0_does_8 ++ dktX0_does_9
def dkwX0_does_7 : List UInt8 := [180, 1, 180, 50, 180, 0, 165, 154, 0, 21, 42, 180, 0, 38, 43, 180, 1, 180, 182, 1, 49, 155, 0, 7]
abbrev dktX0_does_7 : List UInt8 := dkwX0_does_7 ++ dktX0_does_8
def dkwX0_does_6 : List UInt8 := [180, 1, 180, 182, 1, 46, 158, 0, 7, 4, 167, 0, 4, 3, 172, 42, 180, 0, 38, 180, 0, 161, 43]
abbrev dktX0_does_6 : List UInt8 := dkwX0_does_6 ++ dktX0_does_7
def dkwX0_does_5 : List UInt8 := [180, 0, 38, 180, 0, 161, 43, 180, 1, 180, 50, 180, 0, 165, 154, 0, 21, 42, 180, 0, 38, 43]
abbrev dktX0_does_5 : List UInt8 := dkwX0_does_5 ++ dktX0_does_6
def dkwX0_does_4 : List UInt8 := [180, 1, 180, 182, 1, 181, 172, 42, 180, 0, 38, 182, 1, 40, 155, 0, 7, 4, 167, 0, 4, 3, 172, 42]
abbrev dktX0_does_4 : List UInt8 := dkwX0_does_4 ++ dktX0_does_5
def dkwX0_does_3 : List UInt8 := [132, 2, 1, 167, 255, 232, 42, 180, 0, 78, 4, 92, 46, 43, 180, 1, 180, 96, 79, 4, 172, 42, 43]
abbrev dktX0_does_3 : List UInt8 := dkwX0_does_3 ++ dktX0_does_4
def dkwX0_does_2 : List UInt8 := [3, 61, 28, 43, 180, 1, 180, 162, 0, 22, 42, 180, 0, 78, 5, 92, 46, 42, 182, 1, 83, 96, 79]
abbrev dktX0_does_2 : List UInt8 := dkwX0_does_2 ++ dktX0_does_3
def dkwX0_does_1 : List UInt8 := [170, 0, 0, 0, 0, 0, 0, 215, 0, 0, 0, 12, 0, 0, 0, 19, 0, 0, 0, 48, 0, 0, 0, 92, 0, 0, 0, 101, 0, 0, 0, 117, 0, 0, 0, 155, 0, 0, 0, 193, 0, 0, 0, 215, 0, 0, 0, 205]
abbrev dktX0_does_1 : List UInt8 := dkwX0_does_1 ++ dktX0_does_2
def dkwX0_does_0 : List UInt8 := [43, 180, 1, 177]
abbrev dktX0_does_0 : List UInt8 := dkwX0_does_0 ++ dktX0_does_1
theorem dksX0_does_0 : cX0_does.data.toList.drop 0 = dktX0_does_0 := by decide +kernel
theorem dksX0_does_1 : cX0_does.data.toList.drop 4 = dktX0_does_1 := dk_seg dksX0_does_0 4 rfl rfl
theorem dksX0_does_2 : cX0_does.data.toList.drop 52 = dktX0_does_2 := dk_seg dksX0_does_1 48 rfl rfl
theorem dksX0_does_3 : cX0_does.data.toList.drop 75 = dktX0_does_3 := dk_seg dksX0_does_2 23 rfl rfl
theorem dksX0_does_4 : cX0_does.data.toList.drop 98 = dktX0_does_4 := dk_seg dksX0_does_3 23 rfl rfl
theorem dksX0_does_5 : cX0_does.data.toList.drop 122 = dktX0_does_5 := dk_seg dksX0_does_4 24 rfl rfl
theorem dksX0_does_6 : cX0_does.data.toList.drop 144 = dktX0_does_6 := dk_seg dksX0_does_5 22 rfl rfl
theorem dksX0_does_7 : cX0_does.data.toList.drop 167 = dktX0_does_7 := dk_seg dksX0_does_6 23 rfl rfl
theorem dksX0_does_8 : cX0_does.data.toList.drop 191 = dktX0_does_8 := dk_seg dksX0_does_7 24 rfl rfl
theorem dksX0_does_9 : cX0_does.data.toList.drop 214 = dktX0_does_9 := dk_seg dksX0_does_8 23 rfl rfl
theorem dX0_does_0 : decode cX0_does 0 = .ok (.aload_n 1, 1) := dk_43 (dk_at dksX0_does_0 0 rfl rfl)
theorem dX0_does_1 : decode cX0_does 1 = .ok (.getfield 433, 3) := dk_180 1 177 (dk_at dksX0_does_0 1 rfl rfl)
theorem dX0_does_4 : decode cX0_does 4 = .ok (.tableswitch 215 12 19 #[48, 92, 101, 117, 155, 193, 215, 205], 48) := by decide +kernel
theorem dX0_does_52 : decode cX0_does 52 = .ok (.iconst 0, 1) := dk_3 (dk_at dksX0_does_2 0 rfl rfl)
theorem dX0_does_53 : decode cX0_does 53 = .ok (.istore_n 2, 1) := dk_61 (dk_at dksX0_does_2 1 rfl rfl)
theorem dX0_does_54 : decode cX0_does 54 = .ok (.iload_n 2, 1) := dk_28 (dk_at dksX0_does_2 2 rfl rfl)
theorem dX0_does_55 : decode cX0_does 55 = .ok (.aload_n 1, 1) := dk_43 (dk_at dksX0_does_2 3 rfl rfl)
theorem dX0_does_56 : decode cX0_does 56 = .ok (.getfield 436, 3) := dk_180 1 180 (dk_at dksX0_does_2 4 rfl rfl)
theorem dX0_does_59 : decode cX0_does 59 = .ok (.if_icmp .ge 22, 3) := dk_162 0 22 (dk_at dksX0_does_2 7 rfl rfl)
theorem dX0_does_62 : decode cX0_does 62 = .ok (.aload_n 0, 1) := dk_42 (dk_at dksX0_does_2 10 rfl rfl)
theorem dX0_does_63 : decode cX0_does 63 = .ok (.getfield 78, 3) := dk_180 0 78 (dk_at dksX0_does_2 11 rfl rfl)
theorem dX0_does_66 : decode cX0_does 66 = .ok (.iconst 2, 1) := dk_5 (dk_at dksX0_does_2 14 rfl rfl)
theorem dX0_does_67 : decode cX0_does 67 = .ok (.dup2, 1) := dk_92 (dk_at dksX0_does_2 15 rfl rfl)
theorem dX0_does_68 : decode cX0_does 68 = .ok (.iaload, 1) := dk_46 (dk_at dksX0_does_2 16 rfl rfl)
theorem dX0_does_69 : decode cX0_does 69 = .ok (.aload_n 0, 1) := dk_42 (dk_at dksX0_does_2 17 rfl rfl)
theorem dX0_does_70 : decode cX0_does 70 = .ok (.invokevirtual 339, 3) := dk_182 1 83 (dk_at dksX0_does_2 18 rfl rfl)
theorem dX0_does_73 : decode cX0_does 73 = .ok (.iadd, 1) := dk_96 (dk_at dksX0_does_2 21 rfl rfl)
theorem dX0_does_74 : decode cX0_does 74 = .ok (.iastore, 1) := dk_79 (dk_at dksX0_does_2 22 rfl rfl)
theorem dX0_does_75 : decode cX0_does 75 = .ok (.iinc 2 1, 3) := dk_132 2 1 (dk_at dksX0_does_3 0 rfl rfl)
theorem dX0_does_78 : decode cX0_does 78 = .ok (.goto (-24), 3) := dk_167 255 232 (dk_at dksX0_does_3 3 rfl rfl)
theorem dX0_does_81 : decode cX0_does 81 = .ok (.aload_n 0, 1) := dk_42 (dk_at dksX0_does_3 6 rfl rfl)
theorem dX0_does_82 : decode cX0_does 82 = .ok (.getfield 78, 3) := dk_180 0 78 (dk_at dksX0_does_3 7 rfl rfl)
theorem dX0_does_85 : decode cX0_does 85 = .ok (.iconst 1, 1) := dk_4 (dk_at dksX0_does_3 10 rfl rfl)
theorem dX0_does_86 : decode cX0_does 86 = .ok (.dup2, 1) := dk_92 (dk_at dksX0_does_3 11 rfl rfl)
theorem dX0_does_87 : decode cX0_does 87 = .ok (.iaload, 1) := dk_46 (dk_at dksX0_does_3 12 rfl rfl)
theorem dX0_does_88 : decode cX0_does 88 = .ok (.aload_n 1, 1) := dk_43 (dk_at dksX0_does_3 13 rfl rfl)
theorem dX0_does_89 : decode cX0_does 89 = .ok (.getfield 436, 3) := dk_180 1 180 (dk_at dksX0_does_3 14 rfl rfl)
theorem dX0_does_92 : decode cX0_does 92 = .ok (.iadd, 1) := dk_96 (dk_at dksX0_does_3 17 rfl rfl)
theorem dX0_does_93 : decode cX0_does 93 = .ok (.iastore, 1) := dk_79 (dk_at dksX0_does_3 18 rfl rfl)
theorem dX0_does_94 : decode cX0_does 94 = .ok (.iconst 1, 1) := dk_4 (dk_at dksX0_does_3 19 rfl rfl)
theorem dX0_does_95 : decode cX0_does 95 = .ok (.ireturn, 1) := dk_172 (dk_at dksX0_does_3 20 rfl rfl)
theorem dX0_does_96 : decode cX0_does 96 = .ok (.aload_n 0, 1) := dk_42 (dk_at dksX0_does_3 21 rfl rfl)
theorem dX0_does_97 : decode cX0_does 97 = .ok (.aload_n 1, 1) := dk_43 (dk_at dksX0_does_3 22 rfl rfl)
theorem dX0_does_98 : decode cX0_does 98 = .ok (.getfield 436, 3) := dk_180 1 180 (dk_at dksX0_does_4 0 rfl rfl)
theorem dX0_does_101 : decode cX0_does 101 = .ok (.invokevirtual 437, 3) := dk_182 1 181 (dk_at dksX0_does_4 3 rfl rfl)
theorem dX0_does_104 : decode cX0_does 104 = .ok (.ireturn, 1) := dk_172 (dk_at dksX0_does_4 6 rfl rfl)
theorem dX0_does_105 : decode cX0_does 105 = .ok (.aload_n 0, 1) := dk_42 (dk_at dksX0_does_4 7 rfl rfl)
theorem dX0_does_106 : decode cX0_does 106 = .ok (.getfield 38, 3) := dk_180 0 38 (dk_at dksX0_does_4 8 rfl rfl)
theorem dX0_does_109 : decode cX0_does 109 = .ok (.invokevirtual 296, 3) := dk_182 1 40 (dk_at dksX0_does_4 11 rfl rfl)
theorem dX0_does_112 : decode cX0_does 112 = .ok (.ifCond .lt 7, 3) := dk_155 0 7 (dk_at dksX0_does_4 14 rfl rfl)
theorem dX0_does_115 : decode cX0_does 115 = .ok (.iconst 1, 1) := dk_4 (dk_at dksX0_does_4 17 rfl rfl)
theorem dX0_does_116 : decode cX0_does 116 = .ok (.goto 4, 3) := dk_167 0 4 (dk_at dksX0_does_4 18 rfl rfl)
theorem dX0_does_119 : decode cX0_does 119 = .ok (.iconst 0, 1) := dk_3 (dk_at dksX0_does_4 21 rfl rfl)
theorem dX0_does_120 : decode cX0_does 120 = .ok (.ireturn, 1) := dk_172 (dk_at dksX0_does_4 22 rfl rfl)
theorem dX0_does_121 : decode cX0_does 121 = .ok (.aload_n 0, 1) := dk_42 (dk_at dksX0_does_4 23 rfl rfl)
theorem dX0_does_122 : decode cX0_does 122 = .ok (.getfield 38, 3) := dk_180 0 38 (dk_at dksX0_does_5 0 rfl rfl)
theorem dX0_does_125 : decode cX0_does 125 = .ok (.getfield 161, 3) := dk_180 0 161 (dk_at dksX0_does_5 3 rfl rfl)
theorem dX0_does_128 : decode cX0_does 128 = .ok (.aload_n 1, 1) := dk_43 (dk_at dksX0_does_5 6 rfl rfl)
theorem dX0_does_129 : decode cX0_does 129 = .ok (.getfield 436, 3) := dk_180 1 180 (dk_at dksX0_does_5 7 rfl rfl)
theorem dX0_does_132 : decode cX0_does 132 = .ok (.aaload, 1) := dk_50 (dk_at dksX0_does_5 10 rfl rfl)
theorem dX0_does_133 : decode cX0_does 133 = .ok (.getfield 165, 3) := dk_180 0 165 (dk_at dksX0_does_5 11 rfl rfl)
theorem dX0_does_136 : decode cX0_does 136 = .ok (.ifCond .ne 21, 3) := dk_154 0 21 (dk_at dksX0_does_5 14 rfl rfl)
theorem dX0_does_139 : decode cX0_does 139 = .ok (.aload_n 0, 1) := dk_42 (dk_at dksX0_does_5 17 rfl rfl)
theorem dX0_does_140 : decode cX0_does 140 = .ok (.getfield 38, 3) := dk_180 0 38 (dk_at dksX0_does_5 18 rfl rfl)
theorem dX0_does_143 : decode cX0_does 143 = .ok (.aload_n 1, 1) := dk_43 (dk_at dksX0_does_5 21 rfl rfl)
theorem dX0_does_144 : decode cX0_does 144 = .ok (.getfield 436, 3) := dk_180 1 180 (dk_at dksX0_does_6 0 rfl rfl)
theorem dX0_does_147 : decode cX0_does 147 = .ok (.invokevirtual 302, 3) := dk_182 1 46 (dk_at dksX0_does_6 3 rfl rfl)
theorem dX0_does_150 : decode cX0_does 150 = .ok (.ifCond .le 7, 3) := dk_158 0 7 (dk_at dksX0_does_6 6 rfl rfl)
theorem dX0_does_153 : decode cX0_does 153 = .ok (.iconst 1, 1) := dk_4 (dk_at dksX0_does_6 9 rfl rfl)
theorem dX0_does_154 : decode cX0_does 154 = .ok (.goto 4, 3) := dk_167 0 4 (dk_at dksX0_does_6 10 rfl rfl)
theorem dX0_does_157 : decode cX0_does 157 = .ok (.iconst 0, 1) := dk_3 (dk_at dksX0_does_6 13 rfl rfl)
theorem dX0_does_158 : decode cX0_does 158 = .ok (.ireturn, 1) := dk_172 (dk_at dksX0_does_6 14 rfl rfl)
theorem dX0_does_159 : decode cX0_does 159 = .ok (.aload_n 0, 1) := dk_42 (dk_at dksX0_does_6 15 rfl rfl)
theorem dX0_does_160 : decode cX0_does 160 = .ok (.getfield 38, 3) := dk_180 0 38 (dk_at dksX0_does_6 16 rfl rfl)
theorem dX0_does_163 : decode cX0_does 163 = .ok (.getfield 161, 3) := dk_180 0 161 (dk_at dksX0_does_6 19 rfl rfl)
theorem dX0_does_166 : decode cX0_does 166 = .ok (.aload_n 1, 1) := dk_43 (dk_at dksX0_does_6 22 rfl rfl)
theorem dX0_does_167 : decode cX0_does 167 = .ok (.getfield 436, 3) := dk_180 1 180 (dk_at dksX0_does_7 0 rfl rfl)
theorem dX0_does_170 : decode cX0_does 170 = .ok (.aaload, 1) := dk_50 (dk_at dksX0_does_7 3 rfl rfl)
theorem dX0_does_171 : decode cX0_does 171 = .ok (.getfield 165, 3) := dk_180 0 165 (dk_at dksX0_does_7 4 rfl rfl)
theorem dX0_does_174 : decode cX0_does 174 = .ok (.ifCond .ne 21, 3) := dk_154 0 21 (dk_at dksX0_does_7 7 rfl rfl)
theorem dX0_does_177 : decode cX0_does 177 = .ok (.aload_n 0, 1) := dk_42 (dk_at dksX0_does_7 10 rfl rfl)
theorem dX0_does_178 : decode cX0_does 178 = .ok (.getfield 38, 3) := dk_180 0 38 (dk_at dksX0_does_7 11 rfl rfl)
theorem dX0_does_181 : decode cX0_does 181 = .ok (.aload_n 1, 1) := dk_43 (dk_at dksX0_does_7 14 rfl rfl)
theorem dX0_does_182 : decode cX0_does 182 = .ok (.getfield 436, 3) := dk_180 1 180 (dk_at dksX0_does_7 15 rfl rfl)
theorem dX0_does_185 : decode cX0_does 185 = .ok (.invokevirtual 305, 3) := dk_182 1 49 (dk_at dksX0_does_7 18 rfl rfl)
theorem dX0_does_188 : decode cX0_does 188 = .ok (.ifCond .lt 7, 3) := dk_155 0 7 (dk_at dksX0_does_7 21 rfl rfl)
theorem dX0_does_191 : decode cX0_does 191 = .ok (.iconst 1, 1) := dk_4 (dk_at dksX0_does_8 0 rfl rfl)
theorem dX0_does_192 : decode cX0_does 192 = .ok (.goto 4, 3) := dk_167 0 4 (dk_at dksX0_does_8 1 rfl rfl)
theorem dX0_does_195 : decode cX0_does 195 = .ok (.iconst 0, 1) := dk_3 (dk_at dksX0_does_8 4 rfl rfl)
theorem dX0_does_196 : decode cX0_does 196 = .ok (.ireturn, 1) := dk_172 (dk_at dksX0_does_8 5 rfl rfl)
theorem dX0_does_197 : decode cX0_does 197 = .ok (.aload_n 0, 1) := dk_42 (dk_at dksX0_does_8 6 rfl rfl)
theorem dX0_does_198 : decode cX0_does 198 = .ok (.getfield 38, 3) := dk_180 0 38 (dk_at dksX0_does_8 7 rfl rfl)
theorem dX0_does_201 : decode cX0_does 201 = .ok (.aload_n 1, 1) := dk_43 (dk_at dksX0_does_8 10 rfl rfl)
theorem dX0_does_202 : decode cX0_does 202 = .ok (.getfield 436, 3) := dk_180 1 180 (dk_at dksX0_does_8 11 rfl rfl)
theorem dX0_does_205 : decode cX0_does 205 = .ok (.invokevirtual 308, 3) := dk_182 1 52 (dk_at dksX0_does_8 14 rfl rfl)
theorem dX0_does_208 : decode cX0_does 208 = .ok (.ireturn, 1) := dk_172 (dk_at dksX0_does_8 17 rfl rfl)
theorem dX0_does_209 : decode cX0_does 209 = .ok (.aload_n 1, 1) := dk_43 (dk_at dksX0_does_8 18 rfl rfl)
theorem dX0_does_210 : decode cX0_does 210 = .ok (.aload_n 1, 1) := dk_43 (dk_at dksX0_does_8 19 rfl rfl)
theorem dX0_does_211 : decode cX0_does 211 = .ok (.getfield 436, 3) := dk_180 1 180 (dk_at dksX0_does_8 20 rfl rfl)
theorem dX0_does_214 : decode cX0_does 214 = .ok (.putfield 440, 3) := dk_181 1 184 (dk_at dksX0_does_9 0 rfl rfl)
theorem dX0_does_217 : decode cX0_does 217 = .ok (.iconst 1, 1) := dk_4 (dk_at dksX0_does_9 3 rfl rfl)
theorem dX0_does_218 : decode cX0_does 218 = .ok (.ireturn, 1) := dk_172 (dk_at dksX0_does_9 4 rfl rfl)
theorem dX0_does_219 : decode cX0_does 219 = .ok (.iconst 1, 1) := dk_4 (dk_at dksX0_does_9 5 rfl rfl)
theorem dX0_does_220 : decode cX0_does 220 = .ok (.ireturn, 1) := dk_172 (dk_at dksX0_does_9 6 rfl rfl)
abbrev cX0_frees : ByteArray := prog_1_method_81_code
def yX0_frees : MethodName := ⟨RX0, "frees", "(I)Z"⟩
def dkwX0_frees_5 : List UInt8 := [180, 0, 38, 27, 182, 1, 46, 87, 42, 180, 0, 78, 6, 92, 46, 4, 96, 79, 4, 172]
abbrev dktX0_frees_5 : List UInt8 := dkwX0_frees_5 ++ []
def dkwX0_frees_4 : List UInt8 := [4, 182, 1, 37, 87, 132, 2, 1, 167, 255, 233, 42, 180, 0, 60, 6, 46, 4, 160, 0, 12, 42]
abbrev dktX0_frees_4 : List UInt8 := dkwX0_frees_4 ++ dktX0_frees_5
def dkwX0_frees_3 : List UInt8 := [87, 132, 2, 1, 167, 255, 233, 3, 61, 28, 42, 180, 0, 60, 5, 46, 162, 0, 19, 42, 180, 0, 38, 27]
abbrev dktX0_frees_3 : List UInt8 := dkwX0_frees_3 ++ dktX0_frees_4
def dkwX0_frees_2 : List UInt8 := [167, 255, 235, 3, 61, 28, 42, 180, 0, 60, 4, 46, 162, 0, 19, 42, 180, 0, 38, 27, 3, 182, 1, 37]
abbrev dktX0_frees_2 : List UInt8 := dkwX0_frees_2 ++ dktX0_frees_3
def dkwX0_frees_1 : List UInt8 := [61, 28, 42, 180, 0, 60, 3, 46, 162, 0, 17, 42, 180, 0, 38, 182, 1, 40, 87, 132, 2, 1]
abbrev dktX0_frees_1 : List UInt8 := dkwX0_frees_1 ++ dktX0_frees_2
def dkwX0_frees_0 : List UInt8 := [42, 180, 0, 38, 180, 0, 161, 27, 50, 180, 0, 165, 153, 0, 5, 3, 172, 42, 27, 182, 1, 139, 87, 3]
abbrev dktX0_frees_0 : List UInt8 := dkwX0_frees_0 ++ dktX0_frees_1
theorem dksX0_frees_0 : cX0_frees.data.toList.drop 0 = dktX0_frees_0 := by decide +kernel
theorem dksX0_frees_1 : cX0_frees.data.toList.drop 24 = dktX0_frees_1 := dk_seg dksX0_frees_0 24 rfl rfl
theorem dksX0_frees_2 : cX0_frees.data.toList.drop 46 = dktX0_frees_2 := dk_seg dksX0_frees_1 22 rfl rfl
theorem dksX0_frees_3 : cX0_frees.data.toList.drop 70 = dktX0_frees_3 := dk_seg dksX0_frees_2 24 rfl rfl
theorem dksX0_frees_4 : cX0_frees.data.toList.drop 94 = dktX0_frees_4 := dk_seg dksX0_frees_3 24 rfl rfl
theorem dksX0_frees_5 : cX0_frees.data.toList.drop 116 = dktX0_frees_5 := dk_seg dksX0_frees_4 22 rfl rfl
theorem dX0_frees_0 : decode cX0_frees 0 = .ok (.aload_n 0, 1) := dk_42 (dk_at dksX0_frees_0 0 rfl rfl)
theorem dX0_frees_1 : decode cX0_frees 1 = .ok (.getfield 38, 3) := dk_180 0 38 (dk_at dksX0_frees_0 1 rfl rfl)
theorem dX0_frees_4 : decode cX0_frees 4 = .ok (.getfield 161, 3) := dk_180 0 161 (dk_at dksX0_frees_0 4 rfl rfl)
theorem dX0_frees_7 : decode cX0_frees 7 = .ok (.iload_n 1, 1) := dk_27 (dk_at dksX0_frees_0 7 rfl rfl)
theorem dX0_frees_8 : decode cX0_frees 8 = .ok (.aaload, 1) := dk_50 (dk_at dksX0_frees_0 8 rfl rfl)
theorem dX0_frees_9 : decode cX0_frees 9 = .ok (.getfield 165, 3) := dk_180 0 165 (dk_at dksX0_frees_0 9 rfl rfl)
theorem dX0_frees_12 : decode cX0_frees 12 = .ok (.ifCond .eq 5, 3) := dk_153 0 5 (dk_at dksX0_frees_0 12 rfl rfl)
theorem dX0_frees_15 : decode cX0_frees 15 = .ok (.iconst 0, 1) := dk_3 (dk_at dksX0_frees_0 15 rfl rfl)
theorem dX0_frees_16 : decode cX0_frees 16 = .ok (.ireturn, 1) := dk_172 (dk_at dksX0_frees_0 16 rfl rfl)
theorem dX0_frees_17 : decode cX0_frees 17 = .ok (.aload_n 0, 1) := dk_42 (dk_at dksX0_frees_0 17 rfl rfl)
theorem dX0_frees_18 : decode cX0_frees 18 = .ok (.iload_n 1, 1) := dk_27 (dk_at dksX0_frees_0 18 rfl rfl)
theorem dX0_frees_19 : decode cX0_frees 19 = .ok (.invokevirtual 395, 3) := dk_182 1 139 (dk_at dksX0_frees_0 19 rfl rfl)
theorem dX0_frees_22 : decode cX0_frees 22 = .ok (.pop, 1) := dk_87 (dk_at dksX0_frees_0 22 rfl rfl)
theorem dX0_frees_23 : decode cX0_frees 23 = .ok (.iconst 0, 1) := dk_3 (dk_at dksX0_frees_0 23 rfl rfl)
theorem dX0_frees_24 : decode cX0_frees 24 = .ok (.istore_n 2, 1) := dk_61 (dk_at dksX0_frees_1 0 rfl rfl)
theorem dX0_frees_25 : decode cX0_frees 25 = .ok (.iload_n 2, 1) := dk_28 (dk_at dksX0_frees_1 1 rfl rfl)
theorem dX0_frees_26 : decode cX0_frees 26 = .ok (.aload_n 0, 1) := dk_42 (dk_at dksX0_frees_1 2 rfl rfl)
theorem dX0_frees_27 : decode cX0_frees 27 = .ok (.getfield 60, 3) := dk_180 0 60 (dk_at dksX0_frees_1 3 rfl rfl)
theorem dX0_frees_30 : decode cX0_frees 30 = .ok (.iconst 0, 1) := dk_3 (dk_at dksX0_frees_1 6 rfl rfl)
theorem dX0_frees_31 : decode cX0_frees 31 = .ok (.iaload, 1) := dk_46 (dk_at dksX0_frees_1 7 rfl rfl)
theorem dX0_frees_32 : decode cX0_frees 32 = .ok (.if_icmp .ge 17, 3) := dk_162 0 17 (dk_at dksX0_frees_1 8 rfl rfl)
theorem dX0_frees_35 : decode cX0_frees 35 = .ok (.aload_n 0, 1) := dk_42 (dk_at dksX0_frees_1 11 rfl rfl)
theorem dX0_frees_36 : decode cX0_frees 36 = .ok (.getfield 38, 3) := dk_180 0 38 (dk_at dksX0_frees_1 12 rfl rfl)
theorem dX0_frees_39 : decode cX0_frees 39 = .ok (.invokevirtual 296, 3) := dk_182 1 40 (dk_at dksX0_frees_1 15 rfl rfl)
theorem dX0_frees_42 : decode cX0_frees 42 = .ok (.pop, 1) := dk_87 (dk_at dksX0_frees_1 18 rfl rfl)
theorem dX0_frees_43 : decode cX0_frees 43 = .ok (.iinc 2 1, 3) := dk_132 2 1 (dk_at dksX0_frees_1 19 rfl rfl)
theorem dX0_frees_46 : decode cX0_frees 46 = .ok (.goto (-21), 3) := dk_167 255 235 (dk_at dksX0_frees_2 0 rfl rfl)
theorem dX0_frees_49 : decode cX0_frees 49 = .ok (.iconst 0, 1) := dk_3 (dk_at dksX0_frees_2 3 rfl rfl)
theorem dX0_frees_50 : decode cX0_frees 50 = .ok (.istore_n 2, 1) := dk_61 (dk_at dksX0_frees_2 4 rfl rfl)
theorem dX0_frees_51 : decode cX0_frees 51 = .ok (.iload_n 2, 1) := dk_28 (dk_at dksX0_frees_2 5 rfl rfl)
theorem dX0_frees_52 : decode cX0_frees 52 = .ok (.aload_n 0, 1) := dk_42 (dk_at dksX0_frees_2 6 rfl rfl)
theorem dX0_frees_53 : decode cX0_frees 53 = .ok (.getfield 60, 3) := dk_180 0 60 (dk_at dksX0_frees_2 7 rfl rfl)
theorem dX0_frees_56 : decode cX0_frees 56 = .ok (.iconst 1, 1) := dk_4 (dk_at dksX0_frees_2 10 rfl rfl)
theorem dX0_frees_57 : decode cX0_frees 57 = .ok (.iaload, 1) := dk_46 (dk_at dksX0_frees_2 11 rfl rfl)
theorem dX0_frees_58 : decode cX0_frees 58 = .ok (.if_icmp .ge 19, 3) := dk_162 0 19 (dk_at dksX0_frees_2 12 rfl rfl)
theorem dX0_frees_61 : decode cX0_frees 61 = .ok (.aload_n 0, 1) := dk_42 (dk_at dksX0_frees_2 15 rfl rfl)
theorem dX0_frees_62 : decode cX0_frees 62 = .ok (.getfield 38, 3) := dk_180 0 38 (dk_at dksX0_frees_2 16 rfl rfl)
theorem dX0_frees_65 : decode cX0_frees 65 = .ok (.iload_n 1, 1) := dk_27 (dk_at dksX0_frees_2 19 rfl rfl)
theorem dX0_frees_66 : decode cX0_frees 66 = .ok (.iconst 0, 1) := dk_3 (dk_at dksX0_frees_2 20 rfl rfl)
theorem dX0_frees_67 : decode cX0_frees 67 = .ok (.invokevirtual 293, 3) := dk_182 1 37 (dk_at dksX0_frees_2 21 rfl rfl)
theorem dX0_frees_70 : decode cX0_frees 70 = .ok (.pop, 1) := dk_87 (dk_at dksX0_frees_3 0 rfl rfl)
theorem dX0_frees_71 : decode cX0_frees 71 = .ok (.iinc 2 1, 3) := dk_132 2 1 (dk_at dksX0_frees_3 1 rfl rfl)
theorem dX0_frees_74 : decode cX0_frees 74 = .ok (.goto (-23), 3) := dk_167 255 233 (dk_at dksX0_frees_3 4 rfl rfl)
theorem dX0_frees_77 : decode cX0_frees 77 = .ok (.iconst 0, 1) := dk_3 (dk_at dksX0_frees_3 7 rfl rfl)
theorem dX0_frees_78 : decode cX0_frees 78 = .ok (.istore_n 2, 1) := dk_61 (dk_at dksX0_frees_3 8 rfl rfl)
theorem dX0_frees_79 : decode cX0_frees 79 = .ok (.iload_n 2, 1) := dk_28 (dk_at dksX0_frees_3 9 rfl rfl)
theorem dX0_frees_80 : decode cX0_frees 80 = .ok (.aload_n 0, 1) := dk_42 (dk_at dksX0_frees_3 10 rfl rfl)
theorem dX0_frees_81 : decode cX0_frees 81 = .ok (.getfield 60, 3) := dk_180 0 60 (dk_at dksX0_frees_3 11 rfl rfl)
theorem dX0_frees_84 : decode cX0_frees 84 = .ok (.iconst 2, 1) := dk_5 (dk_at dksX0_frees_3 14 rfl rfl)
theorem dX0_frees_85 : decode cX0_frees 85 = .ok (.iaload, 1) := dk_46 (dk_at dksX0_frees_3 15 rfl rfl)
theorem dX0_frees_86 : decode cX0_frees 86 = .ok (.if_icmp .ge 19, 3) := dk_162 0 19 (dk_at dksX0_frees_3 16 rfl rfl)
theorem dX0_frees_89 : decode cX0_frees 89 = .ok (.aload_n 0, 1) := dk_42 (dk_at dksX0_frees_3 19 rfl rfl)
theorem dX0_frees_90 : decode cX0_frees 90 = .ok (.getfield 38, 3) := dk_180 0 38 (dk_at dksX0_frees_3 20 rfl rfl)
theorem dX0_frees_93 : decode cX0_frees 93 = .ok (.iload_n 1, 1) := dk_27 (dk_at dksX0_frees_3 23 rfl rfl)
theorem dX0_frees_94 : decode cX0_frees 94 = .ok (.iconst 1, 1) := dk_4 (dk_at dksX0_frees_4 0 rfl rfl)
theorem dX0_frees_95 : decode cX0_frees 95 = .ok (.invokevirtual 293, 3) := dk_182 1 37 (dk_at dksX0_frees_4 1 rfl rfl)
theorem dX0_frees_98 : decode cX0_frees 98 = .ok (.pop, 1) := dk_87 (dk_at dksX0_frees_4 4 rfl rfl)
theorem dX0_frees_99 : decode cX0_frees 99 = .ok (.iinc 2 1, 3) := dk_132 2 1 (dk_at dksX0_frees_4 5 rfl rfl)
theorem dX0_frees_102 : decode cX0_frees 102 = .ok (.goto (-23), 3) := dk_167 255 233 (dk_at dksX0_frees_4 8 rfl rfl)
theorem dX0_frees_105 : decode cX0_frees 105 = .ok (.aload_n 0, 1) := dk_42 (dk_at dksX0_frees_4 11 rfl rfl)
theorem dX0_frees_106 : decode cX0_frees 106 = .ok (.getfield 60, 3) := dk_180 0 60 (dk_at dksX0_frees_4 12 rfl rfl)
theorem dX0_frees_109 : decode cX0_frees 109 = .ok (.iconst 3, 1) := dk_6 (dk_at dksX0_frees_4 15 rfl rfl)
theorem dX0_frees_110 : decode cX0_frees 110 = .ok (.iaload, 1) := dk_46 (dk_at dksX0_frees_4 16 rfl rfl)
theorem dX0_frees_111 : decode cX0_frees 111 = .ok (.iconst 1, 1) := dk_4 (dk_at dksX0_frees_4 17 rfl rfl)
theorem dX0_frees_112 : decode cX0_frees 112 = .ok (.if_icmp .ne 12, 3) := dk_160 0 12 (dk_at dksX0_frees_4 18 rfl rfl)
theorem dX0_frees_115 : decode cX0_frees 115 = .ok (.aload_n 0, 1) := dk_42 (dk_at dksX0_frees_4 21 rfl rfl)
theorem dX0_frees_116 : decode cX0_frees 116 = .ok (.getfield 38, 3) := dk_180 0 38 (dk_at dksX0_frees_5 0 rfl rfl)
theorem dX0_frees_119 : decode cX0_frees 119 = .ok (.iload_n 1, 1) := dk_27 (dk_at dksX0_frees_5 3 rfl rfl)
theorem dX0_frees_120 : decode cX0_frees 120 = .ok (.invokevirtual 302, 3) := dk_182 1 46 (dk_at dksX0_frees_5 4 rfl rfl)
theorem dX0_frees_123 : decode cX0_frees 123 = .ok (.pop, 1) := dk_87 (dk_at dksX0_frees_5 7 rfl rfl)
theorem dX0_frees_124 : decode cX0_frees 124 = .ok (.aload_n 0, 1) := dk_42 (dk_at dksX0_frees_5 8 rfl rfl)
theorem dX0_frees_125 : decode cX0_frees 125 = .ok (.getfield 78, 3) := dk_180 0 78 (dk_at dksX0_frees_5 9 rfl rfl)
theorem dX0_frees_128 : decode cX0_frees 128 = .ok (.iconst 3, 1) := dk_6 (dk_at dksX0_frees_5 12 rfl rfl)
theorem dX0_frees_129 : decode cX0_frees 129 = .ok (.dup2, 1) := dk_92 (dk_at dksX0_frees_5 13 rfl rfl)
theorem dX0_frees_130 : decode cX0_frees 130 = .ok (.iaload, 1) := dk_46 (dk_at dksX0_frees_5 14 rfl rfl)
theorem dX0_frees_131 : decode cX0_frees 131 = .ok (.iconst 1, 1) := dk_4 (dk_at dksX0_frees_5 15 rfl rfl)
theorem dX0_frees_132 : decode cX0_frees 132 = .ok (.iadd, 1) := dk_96 (dk_at dksX0_frees_5 16 rfl rfl)
theorem dX0_frees_133 : decode cX0_frees 133 = .ok (.iastore, 1) := dk_79 (dk_at dksX0_frees_5 17 rfl rfl)
theorem dX0_frees_134 : decode cX0_frees 134 = .ok (.iconst 1, 1) := dk_4 (dk_at dksX0_frees_5 18 rfl rfl)
theorem dX0_frees_135 : decode cX0_frees 135 = .ok (.ireturn, 1) := dk_172 (dk_at dksX0_frees_5 19 rfl rfl)
abbrev cX0_holds : ByteArray := prog_1_method_83_code
def yX0_holds : MethodName := ⟨RX0, "holds", "(LCableDrawer$Step;)Z"⟩
def dkwX0_holds_4 : List UInt8 := [4, 167, 0, 20, 3, 167, 0, 16, 28, 43, 180, 1, 193, 160, 0, 7, 4, 167, 0, 4, 3, 172]
abbrev dktX0_holds_4 : List UInt8 := dkwX0_holds_4 ++ []
def dkwX0_holds_3 : List UInt8 := [167, 0, 45, 3, 167, 0, 41, 43, 180, 1, 190, 16, 62, 160, 0, 19, 28, 43, 180, 1, 193, 164, 0, 7]
abbrev dktX0_holds_3 : List UInt8 := dkwX0_holds_3 ++ dktX0_holds_4
def dkwX0_holds_2 : List UInt8 := [180, 0, 217, 61, 43, 180, 1, 190, 16, 60, 160, 0, 19, 28, 43, 180, 1, 193, 162, 0, 7, 4]
abbrev dktX0_holds_2 : List UInt8 := dkwX0_holds_2 ++ dktX0_holds_3
def dkwX0_holds_1 : List UInt8 := [180, 1, 187, 16, 22, 160, 0, 13, 42, 180, 0, 38, 182, 1, 89, 167, 0, 10, 42, 180, 0, 38]
abbrev dktX0_holds_1 : List UInt8 := dkwX0_holds_1 ++ dktX0_holds_2
def dkwX0_holds_0 : List UInt8 := [43, 180, 1, 187, 16, 23, 160, 0, 15, 42, 180, 0, 38, 43, 180, 1, 180, 182, 1, 95, 172, 43]
abbrev dktX0_holds_0 : List UInt8 := dkwX0_holds_0 ++ dktX0_holds_1
theorem dksX0_holds_0 : cX0_holds.data.toList.drop 0 = dktX0_holds_0 := by decide +kernel
theorem dksX0_holds_1 : cX0_holds.data.toList.drop 22 = dktX0_holds_1 := dk_seg dksX0_holds_0 22 rfl rfl
theorem dksX0_holds_2 : cX0_holds.data.toList.drop 44 = dktX0_holds_2 := dk_seg dksX0_holds_1 22 rfl rfl
theorem dksX0_holds_3 : cX0_holds.data.toList.drop 66 = dktX0_holds_3 := dk_seg dksX0_holds_2 22 rfl rfl
theorem dksX0_holds_4 : cX0_holds.data.toList.drop 90 = dktX0_holds_4 := dk_seg dksX0_holds_3 24 rfl rfl
theorem dX0_holds_0 : decode cX0_holds 0 = .ok (.aload_n 1, 1) := dk_43 (dk_at dksX0_holds_0 0 rfl rfl)
theorem dX0_holds_1 : decode cX0_holds 1 = .ok (.getfield 443, 3) := dk_180 1 187 (dk_at dksX0_holds_0 1 rfl rfl)
theorem dX0_holds_4 : decode cX0_holds 4 = .ok (.bipush 23, 2) := dk_16 23 (dk_at dksX0_holds_0 4 rfl rfl)
theorem dX0_holds_6 : decode cX0_holds 6 = .ok (.if_icmp .ne 15, 3) := dk_160 0 15 (dk_at dksX0_holds_0 6 rfl rfl)
theorem dX0_holds_9 : decode cX0_holds 9 = .ok (.aload_n 0, 1) := dk_42 (dk_at dksX0_holds_0 9 rfl rfl)
theorem dX0_holds_10 : decode cX0_holds 10 = .ok (.getfield 38, 3) := dk_180 0 38 (dk_at dksX0_holds_0 10 rfl rfl)
theorem dX0_holds_13 : decode cX0_holds 13 = .ok (.aload_n 1, 1) := dk_43 (dk_at dksX0_holds_0 13 rfl rfl)
theorem dX0_holds_14 : decode cX0_holds 14 = .ok (.getfield 436, 3) := dk_180 1 180 (dk_at dksX0_holds_0 14 rfl rfl)
theorem dX0_holds_17 : decode cX0_holds 17 = .ok (.invokevirtual 351, 3) := dk_182 1 95 (dk_at dksX0_holds_0 17 rfl rfl)
theorem dX0_holds_20 : decode cX0_holds 20 = .ok (.ireturn, 1) := dk_172 (dk_at dksX0_holds_0 20 rfl rfl)
theorem dX0_holds_21 : decode cX0_holds 21 = .ok (.aload_n 1, 1) := dk_43 (dk_at dksX0_holds_0 21 rfl rfl)
theorem dX0_holds_22 : decode cX0_holds 22 = .ok (.getfield 443, 3) := dk_180 1 187 (dk_at dksX0_holds_1 0 rfl rfl)
theorem dX0_holds_25 : decode cX0_holds 25 = .ok (.bipush 22, 2) := dk_16 22 (dk_at dksX0_holds_1 3 rfl rfl)
theorem dX0_holds_27 : decode cX0_holds 27 = .ok (.if_icmp .ne 13, 3) := dk_160 0 13 (dk_at dksX0_holds_1 5 rfl rfl)
theorem dX0_holds_30 : decode cX0_holds 30 = .ok (.aload_n 0, 1) := dk_42 (dk_at dksX0_holds_1 8 rfl rfl)
theorem dX0_holds_31 : decode cX0_holds 31 = .ok (.getfield 38, 3) := dk_180 0 38 (dk_at dksX0_holds_1 9 rfl rfl)
theorem dX0_holds_34 : decode cX0_holds 34 = .ok (.invokevirtual 345, 3) := dk_182 1 89 (dk_at dksX0_holds_1 12 rfl rfl)
theorem dX0_holds_37 : decode cX0_holds 37 = .ok (.goto 10, 3) := dk_167 0 10 (dk_at dksX0_holds_1 15 rfl rfl)
theorem dX0_holds_40 : decode cX0_holds 40 = .ok (.aload_n 0, 1) := dk_42 (dk_at dksX0_holds_1 18 rfl rfl)
theorem dX0_holds_41 : decode cX0_holds 41 = .ok (.getfield 38, 3) := dk_180 0 38 (dk_at dksX0_holds_1 19 rfl rfl)
theorem dX0_holds_44 : decode cX0_holds 44 = .ok (.getfield 217, 3) := dk_180 0 217 (dk_at dksX0_holds_2 0 rfl rfl)
theorem dX0_holds_47 : decode cX0_holds 47 = .ok (.istore_n 2, 1) := dk_61 (dk_at dksX0_holds_2 3 rfl rfl)
theorem dX0_holds_48 : decode cX0_holds 48 = .ok (.aload_n 1, 1) := dk_43 (dk_at dksX0_holds_2 4 rfl rfl)
theorem dX0_holds_49 : decode cX0_holds 49 = .ok (.getfield 446, 3) := dk_180 1 190 (dk_at dksX0_holds_2 5 rfl rfl)
theorem dX0_holds_52 : decode cX0_holds 52 = .ok (.bipush 60, 2) := dk_16 60 (dk_at dksX0_holds_2 8 rfl rfl)
theorem dX0_holds_54 : decode cX0_holds 54 = .ok (.if_icmp .ne 19, 3) := dk_160 0 19 (dk_at dksX0_holds_2 10 rfl rfl)
theorem dX0_holds_57 : decode cX0_holds 57 = .ok (.iload_n 2, 1) := dk_28 (dk_at dksX0_holds_2 13 rfl rfl)
theorem dX0_holds_58 : decode cX0_holds 58 = .ok (.aload_n 1, 1) := dk_43 (dk_at dksX0_holds_2 14 rfl rfl)
theorem dX0_holds_59 : decode cX0_holds 59 = .ok (.getfield 449, 3) := dk_180 1 193 (dk_at dksX0_holds_2 15 rfl rfl)
theorem dX0_holds_62 : decode cX0_holds 62 = .ok (.if_icmp .ge 7, 3) := dk_162 0 7 (dk_at dksX0_holds_2 18 rfl rfl)
theorem dX0_holds_65 : decode cX0_holds 65 = .ok (.iconst 1, 1) := dk_4 (dk_at dksX0_holds_2 21 rfl rfl)
theorem dX0_holds_66 : decode cX0_holds 66 = .ok (.goto 45, 3) := dk_167 0 45 (dk_at dksX0_holds_3 0 rfl rfl)
theorem dX0_holds_69 : decode cX0_holds 69 = .ok (.iconst 0, 1) := dk_3 (dk_at dksX0_holds_3 3 rfl rfl)
theorem dX0_holds_70 : decode cX0_holds 70 = .ok (.goto 41, 3) := dk_167 0 41 (dk_at dksX0_holds_3 4 rfl rfl)
theorem dX0_holds_73 : decode cX0_holds 73 = .ok (.aload_n 1, 1) := dk_43 (dk_at dksX0_holds_3 7 rfl rfl)
theorem dX0_holds_74 : decode cX0_holds 74 = .ok (.getfield 446, 3) := dk_180 1 190 (dk_at dksX0_holds_3 8 rfl rfl)
theorem dX0_holds_77 : decode cX0_holds 77 = .ok (.bipush 62, 2) := dk_16 62 (dk_at dksX0_holds_3 11 rfl rfl)
theorem dX0_holds_79 : decode cX0_holds 79 = .ok (.if_icmp .ne 19, 3) := dk_160 0 19 (dk_at dksX0_holds_3 13 rfl rfl)
theorem dX0_holds_82 : decode cX0_holds 82 = .ok (.iload_n 2, 1) := dk_28 (dk_at dksX0_holds_3 16 rfl rfl)
theorem dX0_holds_83 : decode cX0_holds 83 = .ok (.aload_n 1, 1) := dk_43 (dk_at dksX0_holds_3 17 rfl rfl)
theorem dX0_holds_84 : decode cX0_holds 84 = .ok (.getfield 449, 3) := dk_180 1 193 (dk_at dksX0_holds_3 18 rfl rfl)
theorem dX0_holds_87 : decode cX0_holds 87 = .ok (.if_icmp .le 7, 3) := dk_164 0 7 (dk_at dksX0_holds_3 21 rfl rfl)
theorem dX0_holds_90 : decode cX0_holds 90 = .ok (.iconst 1, 1) := dk_4 (dk_at dksX0_holds_4 0 rfl rfl)
theorem dX0_holds_91 : decode cX0_holds 91 = .ok (.goto 20, 3) := dk_167 0 20 (dk_at dksX0_holds_4 1 rfl rfl)
theorem dX0_holds_94 : decode cX0_holds 94 = .ok (.iconst 0, 1) := dk_3 (dk_at dksX0_holds_4 4 rfl rfl)
theorem dX0_holds_95 : decode cX0_holds 95 = .ok (.goto 16, 3) := dk_167 0 16 (dk_at dksX0_holds_4 5 rfl rfl)
theorem dX0_holds_98 : decode cX0_holds 98 = .ok (.iload_n 2, 1) := dk_28 (dk_at dksX0_holds_4 8 rfl rfl)
theorem dX0_holds_99 : decode cX0_holds 99 = .ok (.aload_n 1, 1) := dk_43 (dk_at dksX0_holds_4 9 rfl rfl)
theorem dX0_holds_100 : decode cX0_holds 100 = .ok (.getfield 449, 3) := dk_180 1 193 (dk_at dksX0_holds_4 10 rfl rfl)
theorem dX0_holds_103 : decode cX0_holds 103 = .ok (.if_icmp .ne 7, 3) := dk_160 0 7 (dk_at dksX0_holds_4 13 rfl rfl)
theorem dX0_holds_106 : decode cX0_holds 106 = .ok (.iconst 1, 1) := dk_4 (dk_at dksX0_holds_4 16 rfl rfl)
theorem dX0_holds_107 : decode cX0_holds 107 = .ok (.goto 4, 3) := dk_167 0 4 (dk_at dksX0_holds_4 17 rfl rfl)
theorem dX0_holds_110 : decode cX0_holds 110 = .ok (.iconst 0, 1) := dk_3 (dk_at dksX0_holds_4 20 rfl rfl)
theorem dX0_holds_111 : decode cX0_holds 111 = .ok (.ireturn, 1) := dk_172 (dk_at dksX0_holds_4 21 rfl rfl)
abbrev cX0_behindEnds : ByteArray := prog_1_method_84_code
def yX0_behindEnds : MethodName := ⟨RX0, "behindEnds", "(I)I"⟩
def dkwX0_behindEnds_4 : List UInt8 := [96, 61, 167, 255, 160, 28, 172]
abbrev dktX0_behindEnds_4 : List UInt8 := dkwX0_behindEnds_4 ++ []
def dkwX0_behindEnds_3 : List UInt8 := [3, 54, 4, 21, 4, 153, 0, 17, 42, 180, 0, 199, 28, 50, 180, 1, 194, 4, 96, 167, 0, 6, 28, 4]
abbrev dktX0_behindEnds_3 : List UInt8 := dkwX0_behindEnds_3 ++ dktX0_behindEnds_4
def dkwX0_behindEnds_2 : List UInt8 := [160, 0, 27, 45, 89, 180, 1, 184, 4, 100, 181, 1, 184, 45, 180, 1, 184, 158, 0, 7, 4, 167, 0, 4]
abbrev dktX0_behindEnds_2 : List UInt8 := dkwX0_behindEnds_2 ++ dktX0_behindEnds_3
def dkwX0_behindEnds_1 : List UInt8 := [42, 180, 0, 199, 42, 180, 0, 199, 28, 50, 180, 1, 194, 50, 78, 3, 54, 4, 45, 180, 1, 177, 16, 19]
abbrev dktX0_behindEnds_1 : List UInt8 := dkwX0_behindEnds_1 ++ dktX0_behindEnds_2
def dkwX0_behindEnds_0 : List UInt8 := [27, 61, 28, 42, 180, 0, 203, 162, 0, 94, 42, 180, 0, 199, 28, 50, 180, 1, 177, 16, 21, 160, 0, 80]
abbrev dktX0_behindEnds_0 : List UInt8 := dkwX0_behindEnds_0 ++ dktX0_behindEnds_1
theorem dksX0_behindEnds_0 : cX0_behindEnds.data.toList.drop 0 = dktX0_behindEnds_0 := by decide +kernel
theorem dksX0_behindEnds_1 : cX0_behindEnds.data.toList.drop 24 = dktX0_behindEnds_1 := dk_seg dksX0_behindEnds_0 24 rfl rfl
theorem dksX0_behindEnds_2 : cX0_behindEnds.data.toList.drop 48 = dktX0_behindEnds_2 := dk_seg dksX0_behindEnds_1 24 rfl rfl
theorem dksX0_behindEnds_3 : cX0_behindEnds.data.toList.drop 72 = dktX0_behindEnds_3 := dk_seg dksX0_behindEnds_2 24 rfl rfl
theorem dksX0_behindEnds_4 : cX0_behindEnds.data.toList.drop 96 = dktX0_behindEnds_4 := dk_seg dksX0_behindEnds_3 24 rfl rfl
theorem dX0_behindEnds_0 : decode cX0_behindEnds 0 = .ok (.iload_n 1, 1) := dk_27 (dk_at dksX0_behindEnds_0 0 rfl rfl)
theorem dX0_behindEnds_1 : decode cX0_behindEnds 1 = .ok (.istore_n 2, 1) := dk_61 (dk_at dksX0_behindEnds_0 1 rfl rfl)
theorem dX0_behindEnds_2 : decode cX0_behindEnds 2 = .ok (.iload_n 2, 1) := dk_28 (dk_at dksX0_behindEnds_0 2 rfl rfl)
theorem dX0_behindEnds_3 : decode cX0_behindEnds 3 = .ok (.aload_n 0, 1) := dk_42 (dk_at dksX0_behindEnds_0 3 rfl rfl)
theorem dX0_behindEnds_4 : decode cX0_behindEnds 4 = .ok (.getfield 203, 3) := dk_180 0 203 (dk_at dksX0_behindEnds_0 4 rfl rfl)
theorem dX0_behindEnds_7 : decode cX0_behindEnds 7 = .ok (.if_icmp .ge 94, 3) := dk_162 0 94 (dk_at dksX0_behindEnds_0 7 rfl rfl)
theorem dX0_behindEnds_10 : decode cX0_behindEnds 10 = .ok (.aload_n 0, 1) := dk_42 (dk_at dksX0_behindEnds_0 10 rfl rfl)
theorem dX0_behindEnds_11 : decode cX0_behindEnds 11 = .ok (.getfield 199, 3) := dk_180 0 199 (dk_at dksX0_behindEnds_0 11 rfl rfl)
theorem dX0_behindEnds_14 : decode cX0_behindEnds 14 = .ok (.iload_n 2, 1) := dk_28 (dk_at dksX0_behindEnds_0 14 rfl rfl)
theorem dX0_behindEnds_15 : decode cX0_behindEnds 15 = .ok (.aaload, 1) := dk_50 (dk_at dksX0_behindEnds_0 15 rfl rfl)
theorem dX0_behindEnds_16 : decode cX0_behindEnds 16 = .ok (.getfield 433, 3) := dk_180 1 177 (dk_at dksX0_behindEnds_0 16 rfl rfl)
theorem dX0_behindEnds_19 : decode cX0_behindEnds 19 = .ok (.bipush 21, 2) := dk_16 21 (dk_at dksX0_behindEnds_0 19 rfl rfl)
theorem dX0_behindEnds_21 : decode cX0_behindEnds 21 = .ok (.if_icmp .ne 80, 3) := dk_160 0 80 (dk_at dksX0_behindEnds_0 21 rfl rfl)
theorem dX0_behindEnds_24 : decode cX0_behindEnds 24 = .ok (.aload_n 0, 1) := dk_42 (dk_at dksX0_behindEnds_1 0 rfl rfl)
theorem dX0_behindEnds_25 : decode cX0_behindEnds 25 = .ok (.getfield 199, 3) := dk_180 0 199 (dk_at dksX0_behindEnds_1 1 rfl rfl)
theorem dX0_behindEnds_28 : decode cX0_behindEnds 28 = .ok (.aload_n 0, 1) := dk_42 (dk_at dksX0_behindEnds_1 4 rfl rfl)
theorem dX0_behindEnds_29 : decode cX0_behindEnds 29 = .ok (.getfield 199, 3) := dk_180 0 199 (dk_at dksX0_behindEnds_1 5 rfl rfl)
theorem dX0_behindEnds_32 : decode cX0_behindEnds 32 = .ok (.iload_n 2, 1) := dk_28 (dk_at dksX0_behindEnds_1 8 rfl rfl)
theorem dX0_behindEnds_33 : decode cX0_behindEnds 33 = .ok (.aaload, 1) := dk_50 (dk_at dksX0_behindEnds_1 9 rfl rfl)
theorem dX0_behindEnds_34 : decode cX0_behindEnds 34 = .ok (.getfield 450, 3) := dk_180 1 194 (dk_at dksX0_behindEnds_1 10 rfl rfl)
theorem dX0_behindEnds_37 : decode cX0_behindEnds 37 = .ok (.aaload, 1) := dk_50 (dk_at dksX0_behindEnds_1 13 rfl rfl)
theorem dX0_behindEnds_38 : decode cX0_behindEnds 38 = .ok (.astore_n 3, 1) := dk_78 (dk_at dksX0_behindEnds_1 14 rfl rfl)
theorem dX0_behindEnds_39 : decode cX0_behindEnds 39 = .ok (.iconst 0, 1) := dk_3 (dk_at dksX0_behindEnds_1 15 rfl rfl)
theorem dX0_behindEnds_40 : decode cX0_behindEnds 40 = .ok (.istore 4, 2) := dk_54 4 (dk_at dksX0_behindEnds_1 16 rfl rfl)
theorem dX0_behindEnds_42 : decode cX0_behindEnds 42 = .ok (.aload_n 3, 1) := dk_45 (dk_at dksX0_behindEnds_1 18 rfl rfl)
theorem dX0_behindEnds_43 : decode cX0_behindEnds 43 = .ok (.getfield 433, 3) := dk_180 1 177 (dk_at dksX0_behindEnds_1 19 rfl rfl)
theorem dX0_behindEnds_46 : decode cX0_behindEnds 46 = .ok (.bipush 19, 2) := dk_16 19 (dk_at dksX0_behindEnds_1 22 rfl rfl)
theorem dX0_behindEnds_48 : decode cX0_behindEnds 48 = .ok (.if_icmp .ne 27, 3) := dk_160 0 27 (dk_at dksX0_behindEnds_2 0 rfl rfl)
theorem dX0_behindEnds_51 : decode cX0_behindEnds 51 = .ok (.aload_n 3, 1) := dk_45 (dk_at dksX0_behindEnds_2 3 rfl rfl)
theorem dX0_behindEnds_52 : decode cX0_behindEnds 52 = .ok (.dup, 1) := dk_89 (dk_at dksX0_behindEnds_2 4 rfl rfl)
theorem dX0_behindEnds_53 : decode cX0_behindEnds 53 = .ok (.getfield 440, 3) := dk_180 1 184 (dk_at dksX0_behindEnds_2 5 rfl rfl)
theorem dX0_behindEnds_56 : decode cX0_behindEnds 56 = .ok (.iconst 1, 1) := dk_4 (dk_at dksX0_behindEnds_2 8 rfl rfl)
theorem dX0_behindEnds_57 : decode cX0_behindEnds 57 = .ok (.isub, 1) := dk_100 (dk_at dksX0_behindEnds_2 9 rfl rfl)
theorem dX0_behindEnds_58 : decode cX0_behindEnds 58 = .ok (.putfield 440, 3) := dk_181 1 184 (dk_at dksX0_behindEnds_2 10 rfl rfl)
theorem dX0_behindEnds_61 : decode cX0_behindEnds 61 = .ok (.aload_n 3, 1) := dk_45 (dk_at dksX0_behindEnds_2 13 rfl rfl)
theorem dX0_behindEnds_62 : decode cX0_behindEnds 62 = .ok (.getfield 440, 3) := dk_180 1 184 (dk_at dksX0_behindEnds_2 14 rfl rfl)
theorem dX0_behindEnds_65 : decode cX0_behindEnds 65 = .ok (.ifCond .le 7, 3) := dk_158 0 7 (dk_at dksX0_behindEnds_2 17 rfl rfl)
theorem dX0_behindEnds_68 : decode cX0_behindEnds 68 = .ok (.iconst 1, 1) := dk_4 (dk_at dksX0_behindEnds_2 20 rfl rfl)
theorem dX0_behindEnds_69 : decode cX0_behindEnds 69 = .ok (.goto 4, 3) := dk_167 0 4 (dk_at dksX0_behindEnds_2 21 rfl rfl)
theorem dX0_behindEnds_72 : decode cX0_behindEnds 72 = .ok (.iconst 0, 1) := dk_3 (dk_at dksX0_behindEnds_3 0 rfl rfl)
theorem dX0_behindEnds_73 : decode cX0_behindEnds 73 = .ok (.istore 4, 2) := dk_54 4 (dk_at dksX0_behindEnds_3 1 rfl rfl)
theorem dX0_behindEnds_75 : decode cX0_behindEnds 75 = .ok (.iload 4, 2) := dk_21 4 (dk_at dksX0_behindEnds_3 3 rfl rfl)
theorem dX0_behindEnds_77 : decode cX0_behindEnds 77 = .ok (.ifCond .eq 17, 3) := dk_153 0 17 (dk_at dksX0_behindEnds_3 5 rfl rfl)
theorem dX0_behindEnds_80 : decode cX0_behindEnds 80 = .ok (.aload_n 0, 1) := dk_42 (dk_at dksX0_behindEnds_3 8 rfl rfl)
theorem dX0_behindEnds_81 : decode cX0_behindEnds 81 = .ok (.getfield 199, 3) := dk_180 0 199 (dk_at dksX0_behindEnds_3 9 rfl rfl)
theorem dX0_behindEnds_84 : decode cX0_behindEnds 84 = .ok (.iload_n 2, 1) := dk_28 (dk_at dksX0_behindEnds_3 12 rfl rfl)
theorem dX0_behindEnds_85 : decode cX0_behindEnds 85 = .ok (.aaload, 1) := dk_50 (dk_at dksX0_behindEnds_3 13 rfl rfl)
theorem dX0_behindEnds_86 : decode cX0_behindEnds 86 = .ok (.getfield 450, 3) := dk_180 1 194 (dk_at dksX0_behindEnds_3 14 rfl rfl)
theorem dX0_behindEnds_89 : decode cX0_behindEnds 89 = .ok (.iconst 1, 1) := dk_4 (dk_at dksX0_behindEnds_3 17 rfl rfl)
theorem dX0_behindEnds_90 : decode cX0_behindEnds 90 = .ok (.iadd, 1) := dk_96 (dk_at dksX0_behindEnds_3 18 rfl rfl)
theorem dX0_behindEnds_91 : decode cX0_behindEnds 91 = .ok (.goto 6, 3) := dk_167 0 6 (dk_at dksX0_behindEnds_3 19 rfl rfl)
theorem dX0_behindEnds_94 : decode cX0_behindEnds 94 = .ok (.iload_n 2, 1) := dk_28 (dk_at dksX0_behindEnds_3 22 rfl rfl)
theorem dX0_behindEnds_95 : decode cX0_behindEnds 95 = .ok (.iconst 1, 1) := dk_4 (dk_at dksX0_behindEnds_3 23 rfl rfl)
theorem dX0_behindEnds_96 : decode cX0_behindEnds 96 = .ok (.iadd, 1) := dk_96 (dk_at dksX0_behindEnds_4 0 rfl rfl)
theorem dX0_behindEnds_97 : decode cX0_behindEnds 97 = .ok (.istore_n 2, 1) := dk_61 (dk_at dksX0_behindEnds_4 1 rfl rfl)
theorem dX0_behindEnds_98 : decode cX0_behindEnds 98 = .ok (.goto (-96), 3) := dk_167 255 160 (dk_at dksX0_behindEnds_4 2 rfl rfl)
theorem dX0_behindEnds_101 : decode cX0_behindEnds 101 = .ok (.iload_n 2, 1) := dk_28 (dk_at dksX0_behindEnds_4 5 rfl rfl)
theorem dX0_behindEnds_102 : decode cX0_behindEnds 102 = .ok (.ireturn, 1) := dk_172 (dk_at dksX0_behindEnds_4 6 rfl rfl)
abbrev cX0_lived : ByteArray := prog_1_method_87_code
def yX0_lived : MethodName := ⟨RX0, "lived", "(I)I"⟩
def dkwX0_lived_1 : List UInt8 := [180, 0, 81, 27, 46, 182, 0, 101, 167, 0, 9, 42, 16, 8, 182, 0, 97, 172]
abbrev dktX0_lived_1 : List UInt8 := dkwX0_lived_1 ++ []
def dkwX0_lived_0 : List UInt8 := [27, 155, 0, 8, 27, 7, 164, 0, 9, 42, 8, 182, 0, 97, 172, 42, 180, 1, 213, 153, 0, 16, 42, 42]
abbrev dktX0_lived_0 : List UInt8 := dkwX0_lived_0 ++ dktX0_lived_1
theorem dksX0_lived_0 : cX0_lived.data.toList.drop 0 = dktX0_lived_0 := by decide +kernel
theorem dksX0_lived_1 : cX0_lived.data.toList.drop 24 = dktX0_lived_1 := dk_seg dksX0_lived_0 24 rfl rfl
theorem dX0_lived_0 : decode cX0_lived 0 = .ok (.iload_n 1, 1) := dk_27 (dk_at dksX0_lived_0 0 rfl rfl)
theorem dX0_lived_1 : decode cX0_lived 1 = .ok (.ifCond .lt 8, 3) := dk_155 0 8 (dk_at dksX0_lived_0 1 rfl rfl)
theorem dX0_lived_4 : decode cX0_lived 4 = .ok (.iload_n 1, 1) := dk_27 (dk_at dksX0_lived_0 4 rfl rfl)
theorem dX0_lived_5 : decode cX0_lived 5 = .ok (.iconst 4, 1) := dk_7 (dk_at dksX0_lived_0 5 rfl rfl)
theorem dX0_lived_6 : decode cX0_lived 6 = .ok (.if_icmp .le 9, 3) := dk_164 0 9 (dk_at dksX0_lived_0 6 rfl rfl)
theorem dX0_lived_9 : decode cX0_lived 9 = .ok (.aload_n 0, 1) := dk_42 (dk_at dksX0_lived_0 9 rfl rfl)
theorem dX0_lived_10 : decode cX0_lived 10 = .ok (.iconst 5, 1) := dk_8 (dk_at dksX0_lived_0 10 rfl rfl)
theorem dX0_lived_11 : decode cX0_lived 11 = .ok (.invokevirtual 97, 3) := dk_182 0 97 (dk_at dksX0_lived_0 11 rfl rfl)
theorem dX0_lived_14 : decode cX0_lived 14 = .ok (.ireturn, 1) := dk_172 (dk_at dksX0_lived_0 14 rfl rfl)
theorem dX0_lived_15 : decode cX0_lived 15 = .ok (.aload_n 0, 1) := dk_42 (dk_at dksX0_lived_0 15 rfl rfl)
theorem dX0_lived_16 : decode cX0_lived 16 = .ok (.getfield 469, 3) := dk_180 1 213 (dk_at dksX0_lived_0 16 rfl rfl)
theorem dX0_lived_19 : decode cX0_lived 19 = .ok (.ifCond .eq 16, 3) := dk_153 0 16 (dk_at dksX0_lived_0 19 rfl rfl)
theorem dX0_lived_22 : decode cX0_lived 22 = .ok (.aload_n 0, 1) := dk_42 (dk_at dksX0_lived_0 22 rfl rfl)
theorem dX0_lived_23 : decode cX0_lived 23 = .ok (.aload_n 0, 1) := dk_42 (dk_at dksX0_lived_0 23 rfl rfl)
theorem dX0_lived_24 : decode cX0_lived 24 = .ok (.getfield 81, 3) := dk_180 0 81 (dk_at dksX0_lived_1 0 rfl rfl)
theorem dX0_lived_27 : decode cX0_lived 27 = .ok (.iload_n 1, 1) := dk_27 (dk_at dksX0_lived_1 3 rfl rfl)
theorem dX0_lived_28 : decode cX0_lived 28 = .ok (.iaload, 1) := dk_46 (dk_at dksX0_lived_1 4 rfl rfl)
theorem dX0_lived_29 : decode cX0_lived 29 = .ok (.invokevirtual 101, 3) := dk_182 0 101 (dk_at dksX0_lived_1 5 rfl rfl)
theorem dX0_lived_32 : decode cX0_lived 32 = .ok (.goto 9, 3) := dk_167 0 9 (dk_at dksX0_lived_1 8 rfl rfl)
theorem dX0_lived_35 : decode cX0_lived 35 = .ok (.aload_n 0, 1) := dk_42 (dk_at dksX0_lived_1 11 rfl rfl)
theorem dX0_lived_36 : decode cX0_lived 36 = .ok (.bipush 8, 2) := dk_16 8 (dk_at dksX0_lived_1 12 rfl rfl)
theorem dX0_lived_38 : decode cX0_lived 38 = .ok (.invokevirtual 97, 3) := dk_182 0 97 (dk_at dksX0_lived_1 14 rfl rfl)
theorem dX0_lived_41 : decode cX0_lived 41 = .ok (.ireturn, 1) := dk_172 (dk_at dksX0_lived_1 17 rfl rfl)
abbrev cX0_mean : ByteArray := prog_1_method_90_code
def yX0_mean : MethodName := ⟨RX0, "mean", "(II)Z"⟩
def dkwX0_mean_1 : List UInt8 := [182, 1, 221, 28, 133, 182, 1, 158, 172]
abbrev dktX0_mean_1 : List UInt8 := dkwX0_mean_1 ++ []
def dkwX0_mean_0 : List UInt8 := [42, 27, 28, 182, 1, 218, 62, 29, 158, 0, 11, 42, 29, 182, 0, 110, 167, 0, 16, 42, 42, 2, 27, 28]
abbrev dktX0_mean_0 : List UInt8 := dkwX0_mean_0 ++ dktX0_mean_1
theorem dksX0_mean_0 : cX0_mean.data.toList.drop 0 = dktX0_mean_0 := by decide +kernel
theorem dksX0_mean_1 : cX0_mean.data.toList.drop 24 = dktX0_mean_1 := dk_seg dksX0_mean_0 24 rfl rfl
theorem dX0_mean_0 : decode cX0_mean 0 = .ok (.aload_n 0, 1) := dk_42 (dk_at dksX0_mean_0 0 rfl rfl)
theorem dX0_mean_1 : decode cX0_mean 1 = .ok (.iload_n 1, 1) := dk_27 (dk_at dksX0_mean_0 1 rfl rfl)
theorem dX0_mean_2 : decode cX0_mean 2 = .ok (.iload_n 2, 1) := dk_28 (dk_at dksX0_mean_0 2 rfl rfl)
theorem dX0_mean_3 : decode cX0_mean 3 = .ok (.invokevirtual 474, 3) := dk_182 1 218 (dk_at dksX0_mean_0 3 rfl rfl)
theorem dX0_mean_6 : decode cX0_mean 6 = .ok (.istore_n 3, 1) := dk_62 (dk_at dksX0_mean_0 6 rfl rfl)
theorem dX0_mean_7 : decode cX0_mean 7 = .ok (.iload_n 3, 1) := dk_29 (dk_at dksX0_mean_0 7 rfl rfl)
theorem dX0_mean_8 : decode cX0_mean 8 = .ok (.ifCond .le 11, 3) := dk_158 0 11 (dk_at dksX0_mean_0 8 rfl rfl)
theorem dX0_mean_11 : decode cX0_mean 11 = .ok (.aload_n 0, 1) := dk_42 (dk_at dksX0_mean_0 11 rfl rfl)
theorem dX0_mean_12 : decode cX0_mean 12 = .ok (.iload_n 3, 1) := dk_29 (dk_at dksX0_mean_0 12 rfl rfl)
theorem dX0_mean_13 : decode cX0_mean 13 = .ok (.invokevirtual 110, 3) := dk_182 0 110 (dk_at dksX0_mean_0 13 rfl rfl)
theorem dX0_mean_16 : decode cX0_mean 16 = .ok (.goto 16, 3) := dk_167 0 16 (dk_at dksX0_mean_0 16 rfl rfl)
theorem dX0_mean_19 : decode cX0_mean 19 = .ok (.aload_n 0, 1) := dk_42 (dk_at dksX0_mean_0 19 rfl rfl)
theorem dX0_mean_20 : decode cX0_mean 20 = .ok (.aload_n 0, 1) := dk_42 (dk_at dksX0_mean_0 20 rfl rfl)
theorem dX0_mean_21 : decode cX0_mean 21 = .ok (.iconst (-1), 1) := dk_2 (dk_at dksX0_mean_0 21 rfl rfl)
theorem dX0_mean_22 : decode cX0_mean 22 = .ok (.iload_n 1, 1) := dk_27 (dk_at dksX0_mean_0 22 rfl rfl)
theorem dX0_mean_23 : decode cX0_mean 23 = .ok (.iload_n 2, 1) := dk_28 (dk_at dksX0_mean_0 23 rfl rfl)
theorem dX0_mean_24 : decode cX0_mean 24 = .ok (.invokevirtual 477, 3) := dk_182 1 221 (dk_at dksX0_mean_1 0 rfl rfl)
theorem dX0_mean_27 : decode cX0_mean 27 = .ok (.iload_n 2, 1) := dk_28 (dk_at dksX0_mean_1 3 rfl rfl)
theorem dX0_mean_28 : decode cX0_mean 28 = .ok (.i2l, 1) := dk_133 (dk_at dksX0_mean_1 4 rfl rfl)
theorem dX0_mean_29 : decode cX0_mean 29 = .ok (.invokevirtual 414, 3) := dk_182 1 158 (dk_at dksX0_mean_1 5 rfl rfl)
theorem dX0_mean_32 : decode cX0_mean 32 = .ok (.ireturn, 1) := dk_172 (dk_at dksX0_mean_1 8 rfl rfl)
abbrev cX0_wrongSeeds : ByteArray := prog_1_method_88_code
def yX0_wrongSeeds : MethodName := ⟨RX0, "wrongSeeds", "(II)I"⟩
def dkwX0_wrongSeeds_2 : List UInt8 := [167, 0, 4, 3, 172]
abbrev dktX0_wrongSeeds_2 : List UInt8 := dkwX0_wrongSeeds_2 ++ []
def dkwX0_wrongSeeds_1 : List UInt8 := [27, 28, 96, 4, 100, 17, 39, 15, 164, 0, 5, 8, 172, 42, 180, 0, 199, 199, 0, 8, 16, 8]
abbrev dktX0_wrongSeeds_1 : List UInt8 := dkwX0_wrongSeeds_1 ++ dktX0_wrongSeeds_2
def dkwX0_wrongSeeds_0 : List UInt8 := [27, 133, 9, 20, 1, 81, 184, 1, 33, 153, 0, 26, 28, 133, 10, 20, 1, 216, 184, 1, 33, 153, 0, 14]
abbrev dktX0_wrongSeeds_0 : List UInt8 := dkwX0_wrongSeeds_0 ++ dktX0_wrongSeeds_1
theorem dksX0_wrongSeeds_0 : cX0_wrongSeeds.data.toList.drop 0 = dktX0_wrongSeeds_0 := by decide +kernel
theorem dksX0_wrongSeeds_1 : cX0_wrongSeeds.data.toList.drop 24 = dktX0_wrongSeeds_1 := dk_seg dksX0_wrongSeeds_0 24 rfl rfl
theorem dksX0_wrongSeeds_2 : cX0_wrongSeeds.data.toList.drop 46 = dktX0_wrongSeeds_2 := dk_seg dksX0_wrongSeeds_1 22 rfl rfl
theorem dX0_wrongSeeds_0 : decode cX0_wrongSeeds 0 = .ok (.iload_n 1, 1) := dk_27 (dk_at dksX0_wrongSeeds_0 0 rfl rfl)
theorem dX0_wrongSeeds_1 : decode cX0_wrongSeeds 1 = .ok (.i2l, 1) := dk_133 (dk_at dksX0_wrongSeeds_0 1 rfl rfl)
theorem dX0_wrongSeeds_2 : decode cX0_wrongSeeds 2 = .ok (.lconst 0, 1) := dk_9 (dk_at dksX0_wrongSeeds_0 2 rfl rfl)
theorem dX0_wrongSeeds_3 : decode cX0_wrongSeeds 3 = .ok (.ldc2_w 337, 3) := dk_20 1 81 (dk_at dksX0_wrongSeeds_0 3 rfl rfl)
theorem dX0_wrongSeeds_6 : decode cX0_wrongSeeds 6 = .ok (.invokestatic 289, 3) := dk_184 1 33 (dk_at dksX0_wrongSeeds_0 6 rfl rfl)
theorem dX0_wrongSeeds_9 : decode cX0_wrongSeeds 9 = .ok (.ifCond .eq 26, 3) := dk_153 0 26 (dk_at dksX0_wrongSeeds_0 9 rfl rfl)
theorem dX0_wrongSeeds_12 : decode cX0_wrongSeeds 12 = .ok (.iload_n 2, 1) := dk_28 (dk_at dksX0_wrongSeeds_0 12 rfl rfl)
theorem dX0_wrongSeeds_13 : decode cX0_wrongSeeds 13 = .ok (.i2l, 1) := dk_133 (dk_at dksX0_wrongSeeds_0 13 rfl rfl)
theorem dX0_wrongSeeds_14 : decode cX0_wrongSeeds 14 = .ok (.lconst 1, 1) := dk_10 (dk_at dksX0_wrongSeeds_0 14 rfl rfl)
theorem dX0_wrongSeeds_15 : decode cX0_wrongSeeds 15 = .ok (.ldc2_w 472, 3) := dk_20 1 216 (dk_at dksX0_wrongSeeds_0 15 rfl rfl)
theorem dX0_wrongSeeds_18 : decode cX0_wrongSeeds 18 = .ok (.invokestatic 289, 3) := dk_184 1 33 (dk_at dksX0_wrongSeeds_0 18 rfl rfl)
theorem dX0_wrongSeeds_21 : decode cX0_wrongSeeds 21 = .ok (.ifCond .eq 14, 3) := dk_153 0 14 (dk_at dksX0_wrongSeeds_0 21 rfl rfl)
theorem dX0_wrongSeeds_24 : decode cX0_wrongSeeds 24 = .ok (.iload_n 1, 1) := dk_27 (dk_at dksX0_wrongSeeds_1 0 rfl rfl)
theorem dX0_wrongSeeds_25 : decode cX0_wrongSeeds 25 = .ok (.iload_n 2, 1) := dk_28 (dk_at dksX0_wrongSeeds_1 1 rfl rfl)
theorem dX0_wrongSeeds_26 : decode cX0_wrongSeeds 26 = .ok (.iadd, 1) := dk_96 (dk_at dksX0_wrongSeeds_1 2 rfl rfl)
theorem dX0_wrongSeeds_27 : decode cX0_wrongSeeds 27 = .ok (.iconst 1, 1) := dk_4 (dk_at dksX0_wrongSeeds_1 3 rfl rfl)
theorem dX0_wrongSeeds_28 : decode cX0_wrongSeeds 28 = .ok (.isub, 1) := dk_100 (dk_at dksX0_wrongSeeds_1 4 rfl rfl)
theorem dX0_wrongSeeds_29 : decode cX0_wrongSeeds 29 = .ok (.sipush 9999, 3) := dk_17 39 15 (dk_at dksX0_wrongSeeds_1 5 rfl rfl)
theorem dX0_wrongSeeds_32 : decode cX0_wrongSeeds 32 = .ok (.if_icmp .le 5, 3) := dk_164 0 5 (dk_at dksX0_wrongSeeds_1 8 rfl rfl)
theorem dX0_wrongSeeds_35 : decode cX0_wrongSeeds 35 = .ok (.iconst 5, 1) := dk_8 (dk_at dksX0_wrongSeeds_1 11 rfl rfl)
theorem dX0_wrongSeeds_36 : decode cX0_wrongSeeds 36 = .ok (.ireturn, 1) := dk_172 (dk_at dksX0_wrongSeeds_1 12 rfl rfl)
theorem dX0_wrongSeeds_37 : decode cX0_wrongSeeds 37 = .ok (.aload_n 0, 1) := dk_42 (dk_at dksX0_wrongSeeds_1 13 rfl rfl)
theorem dX0_wrongSeeds_38 : decode cX0_wrongSeeds 38 = .ok (.getfield 199, 3) := dk_180 0 199 (dk_at dksX0_wrongSeeds_1 14 rfl rfl)
theorem dX0_wrongSeeds_41 : decode cX0_wrongSeeds 41 = .ok (.ifnonnull 8, 3) := dk_199 0 8 (dk_at dksX0_wrongSeeds_1 17 rfl rfl)
theorem dX0_wrongSeeds_44 : decode cX0_wrongSeeds 44 = .ok (.bipush 8, 2) := dk_16 8 (dk_at dksX0_wrongSeeds_1 20 rfl rfl)
theorem dX0_wrongSeeds_46 : decode cX0_wrongSeeds 46 = .ok (.goto 4, 3) := dk_167 0 4 (dk_at dksX0_wrongSeeds_2 0 rfl rfl)
theorem dX0_wrongSeeds_49 : decode cX0_wrongSeeds 49 = .ok (.iconst 0, 1) := dk_3 (dk_at dksX0_wrongSeeds_2 3 rfl rfl)
theorem dX0_wrongSeeds_50 : decode cX0_wrongSeeds 50 = .ok (.ireturn, 1) := dk_172 (dk_at dksX0_wrongSeeds_2 4 rfl rfl)
abbrev cX0_sumsOf : ByteArray := prog_1_method_89_code
def yX0_sumsOf : MethodName := ⟨RX0, "sumsOf", "(III)J"⟩
def dkwX0_sumsOf_3 : List UInt8 := [10, 167, 0, 4, 9, 97, 55, 5, 132, 7, 1, 167, 255, 187, 42, 25, 4, 181, 0, 38, 22, 5, 173]
abbrev dktX0_sumsOf_3 : List UInt8 := dkwX0_sumsOf_3 ++ []
def dkwX0_sumsOf_2 : List UInt8 := [180, 0, 227, 25, 4, 180, 0, 227, 100, 133, 167, 0, 19, 42, 180, 0, 38, 27, 182, 1, 95, 153, 0, 7]
abbrev dktX0_sumsOf_2 : List UInt8 := dkwX0_sumsOf_2 ++ dktX0_sumsOf_3
def dkwX0_sumsOf_1 : List UInt8 := [181, 0, 38, 42, 28, 21, 7, 96, 182, 1, 210, 22, 5, 27, 2, 160, 0, 20, 42, 180, 0, 38]
abbrev dktX0_sumsOf_1 : List UInt8 := dkwX0_sumsOf_1 ++ dktX0_sumsOf_2
def dkwX0_sumsOf_0 : List UInt8 := [42, 180, 0, 38, 58, 4, 9, 55, 5, 3, 54, 7, 21, 7, 29, 162, 0, 69, 42, 25, 4, 182, 1, 101]
abbrev dktX0_sumsOf_0 : List UInt8 := dkwX0_sumsOf_0 ++ dktX0_sumsOf_1
theorem dksX0_sumsOf_0 : cX0_sumsOf.data.toList.drop 0 = dktX0_sumsOf_0 := by decide +kernel
theorem dksX0_sumsOf_1 : cX0_sumsOf.data.toList.drop 24 = dktX0_sumsOf_1 := dk_seg dksX0_sumsOf_0 24 rfl rfl
theorem dksX0_sumsOf_2 : cX0_sumsOf.data.toList.drop 46 = dktX0_sumsOf_2 := dk_seg dksX0_sumsOf_1 22 rfl rfl
theorem dksX0_sumsOf_3 : cX0_sumsOf.data.toList.drop 70 = dktX0_sumsOf_3 := dk_seg dksX0_sumsOf_2 24 rfl rfl
theorem dX0_sumsOf_0 : decode cX0_sumsOf 0 = .ok (.aload_n 0, 1) := dk_42 (dk_at dksX0_sumsOf_0 0 rfl rfl)
theorem dX0_sumsOf_1 : decode cX0_sumsOf 1 = .ok (.getfield 38, 3) := dk_180 0 38 (dk_at dksX0_sumsOf_0 1 rfl rfl)
theorem dX0_sumsOf_4 : decode cX0_sumsOf 4 = .ok (.astore 4, 2) := dk_58 4 (dk_at dksX0_sumsOf_0 4 rfl rfl)
theorem dX0_sumsOf_6 : decode cX0_sumsOf 6 = .ok (.lconst 0, 1) := dk_9 (dk_at dksX0_sumsOf_0 6 rfl rfl)
theorem dX0_sumsOf_7 : decode cX0_sumsOf 7 = .ok (.lstore 5, 2) := dk_55 5 (dk_at dksX0_sumsOf_0 7 rfl rfl)
theorem dX0_sumsOf_9 : decode cX0_sumsOf 9 = .ok (.iconst 0, 1) := dk_3 (dk_at dksX0_sumsOf_0 9 rfl rfl)
theorem dX0_sumsOf_10 : decode cX0_sumsOf 10 = .ok (.istore 7, 2) := dk_54 7 (dk_at dksX0_sumsOf_0 10 rfl rfl)
theorem dX0_sumsOf_12 : decode cX0_sumsOf 12 = .ok (.iload 7, 2) := dk_21 7 (dk_at dksX0_sumsOf_0 12 rfl rfl)
theorem dX0_sumsOf_14 : decode cX0_sumsOf 14 = .ok (.iload_n 3, 1) := dk_29 (dk_at dksX0_sumsOf_0 14 rfl rfl)
theorem dX0_sumsOf_15 : decode cX0_sumsOf 15 = .ok (.if_icmp .ge 69, 3) := dk_162 0 69 (dk_at dksX0_sumsOf_0 15 rfl rfl)
theorem dX0_sumsOf_18 : decode cX0_sumsOf 18 = .ok (.aload_n 0, 1) := dk_42 (dk_at dksX0_sumsOf_0 18 rfl rfl)
theorem dX0_sumsOf_19 : decode cX0_sumsOf 19 = .ok (.aload 4, 2) := dk_25 4 (dk_at dksX0_sumsOf_0 19 rfl rfl)
theorem dX0_sumsOf_21 : decode cX0_sumsOf 21 = .ok (.invokevirtual 357, 3) := dk_182 1 101 (dk_at dksX0_sumsOf_0 21 rfl rfl)
theorem dX0_sumsOf_24 : decode cX0_sumsOf 24 = .ok (.putfield 38, 3) := dk_181 0 38 (dk_at dksX0_sumsOf_1 0 rfl rfl)
theorem dX0_sumsOf_27 : decode cX0_sumsOf 27 = .ok (.aload_n 0, 1) := dk_42 (dk_at dksX0_sumsOf_1 3 rfl rfl)
theorem dX0_sumsOf_28 : decode cX0_sumsOf 28 = .ok (.iload_n 2, 1) := dk_28 (dk_at dksX0_sumsOf_1 4 rfl rfl)
theorem dX0_sumsOf_29 : decode cX0_sumsOf 29 = .ok (.iload 7, 2) := dk_21 7 (dk_at dksX0_sumsOf_1 5 rfl rfl)
theorem dX0_sumsOf_31 : decode cX0_sumsOf 31 = .ok (.iadd, 1) := dk_96 (dk_at dksX0_sumsOf_1 7 rfl rfl)
theorem dX0_sumsOf_32 : decode cX0_sumsOf 32 = .ok (.invokevirtual 466, 3) := dk_182 1 210 (dk_at dksX0_sumsOf_1 8 rfl rfl)
theorem dX0_sumsOf_35 : decode cX0_sumsOf 35 = .ok (.lload 5, 2) := dk_22 5 (dk_at dksX0_sumsOf_1 11 rfl rfl)
theorem dX0_sumsOf_37 : decode cX0_sumsOf 37 = .ok (.iload_n 1, 1) := dk_27 (dk_at dksX0_sumsOf_1 13 rfl rfl)
theorem dX0_sumsOf_38 : decode cX0_sumsOf 38 = .ok (.iconst (-1), 1) := dk_2 (dk_at dksX0_sumsOf_1 14 rfl rfl)
theorem dX0_sumsOf_39 : decode cX0_sumsOf 39 = .ok (.if_icmp .ne 20, 3) := dk_160 0 20 (dk_at dksX0_sumsOf_1 15 rfl rfl)
theorem dX0_sumsOf_42 : decode cX0_sumsOf 42 = .ok (.aload_n 0, 1) := dk_42 (dk_at dksX0_sumsOf_1 18 rfl rfl)
theorem dX0_sumsOf_43 : decode cX0_sumsOf 43 = .ok (.getfield 38, 3) := dk_180 0 38 (dk_at dksX0_sumsOf_1 19 rfl rfl)
theorem dX0_sumsOf_46 : decode cX0_sumsOf 46 = .ok (.getfield 227, 3) := dk_180 0 227 (dk_at dksX0_sumsOf_2 0 rfl rfl)
theorem dX0_sumsOf_49 : decode cX0_sumsOf 49 = .ok (.aload 4, 2) := dk_25 4 (dk_at dksX0_sumsOf_2 3 rfl rfl)
theorem dX0_sumsOf_51 : decode cX0_sumsOf 51 = .ok (.getfield 227, 3) := dk_180 0 227 (dk_at dksX0_sumsOf_2 5 rfl rfl)
theorem dX0_sumsOf_54 : decode cX0_sumsOf 54 = .ok (.isub, 1) := dk_100 (dk_at dksX0_sumsOf_2 8 rfl rfl)
theorem dX0_sumsOf_55 : decode cX0_sumsOf 55 = .ok (.i2l, 1) := dk_133 (dk_at dksX0_sumsOf_2 9 rfl rfl)
theorem dX0_sumsOf_56 : decode cX0_sumsOf 56 = .ok (.goto 19, 3) := dk_167 0 19 (dk_at dksX0_sumsOf_2 10 rfl rfl)
theorem dX0_sumsOf_59 : decode cX0_sumsOf 59 = .ok (.aload_n 0, 1) := dk_42 (dk_at dksX0_sumsOf_2 13 rfl rfl)
theorem dX0_sumsOf_60 : decode cX0_sumsOf 60 = .ok (.getfield 38, 3) := dk_180 0 38 (dk_at dksX0_sumsOf_2 14 rfl rfl)
theorem dX0_sumsOf_63 : decode cX0_sumsOf 63 = .ok (.iload_n 1, 1) := dk_27 (dk_at dksX0_sumsOf_2 17 rfl rfl)
theorem dX0_sumsOf_64 : decode cX0_sumsOf 64 = .ok (.invokevirtual 351, 3) := dk_182 1 95 (dk_at dksX0_sumsOf_2 18 rfl rfl)
theorem dX0_sumsOf_67 : decode cX0_sumsOf 67 = .ok (.ifCond .eq 7, 3) := dk_153 0 7 (dk_at dksX0_sumsOf_2 21 rfl rfl)
theorem dX0_sumsOf_70 : decode cX0_sumsOf 70 = .ok (.lconst 1, 1) := dk_10 (dk_at dksX0_sumsOf_3 0 rfl rfl)
theorem dX0_sumsOf_71 : decode cX0_sumsOf 71 = .ok (.goto 4, 3) := dk_167 0 4 (dk_at dksX0_sumsOf_3 1 rfl rfl)
theorem dX0_sumsOf_74 : decode cX0_sumsOf 74 = .ok (.lconst 0, 1) := dk_9 (dk_at dksX0_sumsOf_3 4 rfl rfl)
theorem dX0_sumsOf_75 : decode cX0_sumsOf 75 = .ok (.ladd, 1) := dk_97 (dk_at dksX0_sumsOf_3 5 rfl rfl)
theorem dX0_sumsOf_76 : decode cX0_sumsOf 76 = .ok (.lstore 5, 2) := dk_55 5 (dk_at dksX0_sumsOf_3 6 rfl rfl)
theorem dX0_sumsOf_78 : decode cX0_sumsOf 78 = .ok (.iinc 7 1, 3) := dk_132 7 1 (dk_at dksX0_sumsOf_3 8 rfl rfl)
theorem dX0_sumsOf_81 : decode cX0_sumsOf 81 = .ok (.goto (-69), 3) := dk_167 255 187 (dk_at dksX0_sumsOf_3 11 rfl rfl)
theorem dX0_sumsOf_84 : decode cX0_sumsOf 84 = .ok (.aload_n 0, 1) := dk_42 (dk_at dksX0_sumsOf_3 14 rfl rfl)
theorem dX0_sumsOf_85 : decode cX0_sumsOf 85 = .ok (.aload 4, 2) := dk_25 4 (dk_at dksX0_sumsOf_3 15 rfl rfl)
theorem dX0_sumsOf_87 : decode cX0_sumsOf 87 = .ok (.putfield 38, 3) := dk_181 0 38 (dk_at dksX0_sumsOf_3 17 rfl rfl)
theorem dX0_sumsOf_90 : decode cX0_sumsOf 90 = .ok (.lload 5, 2) := dk_22 5 (dk_at dksX0_sumsOf_3 20 rfl rfl)
theorem dX0_sumsOf_92 : decode cX0_sumsOf 92 = .ok (.lreturn, 1) := dk_173 (dk_at dksX0_sumsOf_3 22 rfl rfl)
abbrev cX0_odds : ByteArray := prog_1_method_91_code
def yX0_odds : MethodName := ⟨RX0, "odds", "(III)Z"⟩
def dkwX0_odds_2 : List UInt8 := [182, 1, 158, 172]
abbrev dktX0_odds_2 : List UInt8 := dkwX0_odds_2 ++ []
def dkwX0_odds_1 : List UInt8 := [158, 0, 12, 42, 21, 4, 182, 0, 110, 167, 0, 16, 42, 42, 27, 28, 29, 182, 1, 221, 29, 133]
abbrev dktX0_odds_1 : List UInt8 := dkwX0_odds_1 ++ dktX0_odds_2
def dkwX0_odds_0 : List UInt8 := [42, 27, 182, 0, 158, 154, 0, 7, 5, 167, 0, 9, 42, 28, 29, 182, 1, 218, 54, 4, 21, 4]
abbrev dktX0_odds_0 : List UInt8 := dkwX0_odds_0 ++ dktX0_odds_1
theorem dksX0_odds_0 : cX0_odds.data.toList.drop 0 = dktX0_odds_0 := by decide +kernel
theorem dksX0_odds_1 : cX0_odds.data.toList.drop 22 = dktX0_odds_1 := dk_seg dksX0_odds_0 22 rfl rfl
theorem dksX0_odds_2 : cX0_odds.data.toList.drop 44 = dktX0_odds_2 := dk_seg dksX0_odds_1 22 rfl rfl
theorem dX0_odds_0 : decode cX0_odds 0 = .ok (.aload_n 0, 1) := dk_42 (dk_at dksX0_odds_0 0 rfl rfl)
theorem dX0_odds_1 : decode cX0_odds 1 = .ok (.iload_n 1, 1) := dk_27 (dk_at dksX0_odds_0 1 rfl rfl)
theorem dX0_odds_2 : decode cX0_odds 2 = .ok (.invokevirtual 158, 3) := dk_182 0 158 (dk_at dksX0_odds_0 2 rfl rfl)
theorem dX0_odds_5 : decode cX0_odds 5 = .ok (.ifCond .ne 7, 3) := dk_154 0 7 (dk_at dksX0_odds_0 5 rfl rfl)
theorem dX0_odds_8 : decode cX0_odds 8 = .ok (.iconst 2, 1) := dk_5 (dk_at dksX0_odds_0 8 rfl rfl)
theorem dX0_odds_9 : decode cX0_odds 9 = .ok (.goto 9, 3) := dk_167 0 9 (dk_at dksX0_odds_0 9 rfl rfl)
theorem dX0_odds_12 : decode cX0_odds 12 = .ok (.aload_n 0, 1) := dk_42 (dk_at dksX0_odds_0 12 rfl rfl)
theorem dX0_odds_13 : decode cX0_odds 13 = .ok (.iload_n 2, 1) := dk_28 (dk_at dksX0_odds_0 13 rfl rfl)
theorem dX0_odds_14 : decode cX0_odds 14 = .ok (.iload_n 3, 1) := dk_29 (dk_at dksX0_odds_0 14 rfl rfl)
theorem dX0_odds_15 : decode cX0_odds 15 = .ok (.invokevirtual 474, 3) := dk_182 1 218 (dk_at dksX0_odds_0 15 rfl rfl)
theorem dX0_odds_18 : decode cX0_odds 18 = .ok (.istore 4, 2) := dk_54 4 (dk_at dksX0_odds_0 18 rfl rfl)
theorem dX0_odds_20 : decode cX0_odds 20 = .ok (.iload 4, 2) := dk_21 4 (dk_at dksX0_odds_0 20 rfl rfl)
theorem dX0_odds_22 : decode cX0_odds 22 = .ok (.ifCond .le 12, 3) := dk_158 0 12 (dk_at dksX0_odds_1 0 rfl rfl)
theorem dX0_odds_25 : decode cX0_odds 25 = .ok (.aload_n 0, 1) := dk_42 (dk_at dksX0_odds_1 3 rfl rfl)
theorem dX0_odds_26 : decode cX0_odds 26 = .ok (.iload 4, 2) := dk_21 4 (dk_at dksX0_odds_1 4 rfl rfl)
theorem dX0_odds_28 : decode cX0_odds 28 = .ok (.invokevirtual 110, 3) := dk_182 0 110 (dk_at dksX0_odds_1 6 rfl rfl)
theorem dX0_odds_31 : decode cX0_odds 31 = .ok (.goto 16, 3) := dk_167 0 16 (dk_at dksX0_odds_1 9 rfl rfl)
theorem dX0_odds_34 : decode cX0_odds 34 = .ok (.aload_n 0, 1) := dk_42 (dk_at dksX0_odds_1 12 rfl rfl)
theorem dX0_odds_35 : decode cX0_odds 35 = .ok (.aload_n 0, 1) := dk_42 (dk_at dksX0_odds_1 13 rfl rfl)
theorem dX0_odds_36 : decode cX0_odds 36 = .ok (.iload_n 1, 1) := dk_27 (dk_at dksX0_odds_1 14 rfl rfl)
theorem dX0_odds_37 : decode cX0_odds 37 = .ok (.iload_n 2, 1) := dk_28 (dk_at dksX0_odds_1 15 rfl rfl)
theorem dX0_odds_38 : decode cX0_odds 38 = .ok (.iload_n 3, 1) := dk_29 (dk_at dksX0_odds_1 16 rfl rfl)
theorem dX0_odds_39 : decode cX0_odds 39 = .ok (.invokevirtual 477, 3) := dk_182 1 221 (dk_at dksX0_odds_1 17 rfl rfl)
theorem dX0_odds_42 : decode cX0_odds 42 = .ok (.iload_n 3, 1) := dk_29 (dk_at dksX0_odds_1 20 rfl rfl)
theorem dX0_odds_43 : decode cX0_odds 43 = .ok (.i2l, 1) := dk_133 (dk_at dksX0_odds_1 21 rfl rfl)
theorem dX0_odds_44 : decode cX0_odds 44 = .ok (.invokevirtual 414, 3) := dk_182 1 158 (dk_at dksX0_odds_2 0 rfl rfl)
theorem dX0_odds_47 : decode cX0_odds 47 = .ok (.ireturn, 1) := dk_172 (dk_at dksX0_odds_2 3 rfl rfl)
abbrev cX0_mark : ByteArray := prog_1_method_92_code
def yX0_mark : MethodName := ⟨RX0, "mark", "()I"⟩
def dkwX0_mark_2 : List UInt8 := [89, 180, 1, 225, 4, 96, 181, 1, 225, 42, 42, 180, 1, 225, 182, 0, 101, 172]
abbrev dktX0_mark_2 : List UInt8 := dkwX0_mark_2 ++ []
def dkwX0_mark_1 : List UInt8 := [187, 0, 84, 89, 42, 180, 0, 38, 182, 1, 101, 42, 180, 0, 199, 42, 180, 0, 203, 183, 1, 228, 83, 42]
abbrev dktX0_mark_1 : List UInt8 := dkwX0_mark_1 ++ dktX0_mark_2
def dkwX0_mark_0 : List UInt8 := [42, 180, 1, 225, 6, 160, 0, 10, 42, 16, 7, 182, 0, 97, 172, 42, 180, 0, 86, 42, 180, 1, 225]
abbrev dktX0_mark_0 : List UInt8 := dkwX0_mark_0 ++ dktX0_mark_1
theorem dksX0_mark_0 : cX0_mark.data.toList.drop 0 = dktX0_mark_0 := by decide +kernel
theorem dksX0_mark_1 : cX0_mark.data.toList.drop 23 = dktX0_mark_1 := dk_seg dksX0_mark_0 23 rfl rfl
theorem dksX0_mark_2 : cX0_mark.data.toList.drop 47 = dktX0_mark_2 := dk_seg dksX0_mark_1 24 rfl rfl
theorem dX0_mark_0 : decode cX0_mark 0 = .ok (.aload_n 0, 1) := dk_42 (dk_at dksX0_mark_0 0 rfl rfl)
theorem dX0_mark_1 : decode cX0_mark 1 = .ok (.getfield 481, 3) := dk_180 1 225 (dk_at dksX0_mark_0 1 rfl rfl)
theorem dX0_mark_4 : decode cX0_mark 4 = .ok (.iconst 3, 1) := dk_6 (dk_at dksX0_mark_0 4 rfl rfl)
theorem dX0_mark_5 : decode cX0_mark 5 = .ok (.if_icmp .ne 10, 3) := dk_160 0 10 (dk_at dksX0_mark_0 5 rfl rfl)
theorem dX0_mark_8 : decode cX0_mark 8 = .ok (.aload_n 0, 1) := dk_42 (dk_at dksX0_mark_0 8 rfl rfl)
theorem dX0_mark_9 : decode cX0_mark 9 = .ok (.bipush 7, 2) := dk_16 7 (dk_at dksX0_mark_0 9 rfl rfl)
theorem dX0_mark_11 : decode cX0_mark 11 = .ok (.invokevirtual 97, 3) := dk_182 0 97 (dk_at dksX0_mark_0 11 rfl rfl)
theorem dX0_mark_14 : decode cX0_mark 14 = .ok (.ireturn, 1) := dk_172 (dk_at dksX0_mark_0 14 rfl rfl)
theorem dX0_mark_15 : decode cX0_mark 15 = .ok (.aload_n 0, 1) := dk_42 (dk_at dksX0_mark_0 15 rfl rfl)
theorem dX0_mark_16 : decode cX0_mark 16 = .ok (.getfield 86, 3) := dk_180 0 86 (dk_at dksX0_mark_0 16 rfl rfl)
theorem dX0_mark_19 : decode cX0_mark 19 = .ok (.aload_n 0, 1) := dk_42 (dk_at dksX0_mark_0 19 rfl rfl)
theorem dX0_mark_20 : decode cX0_mark 20 = .ok (.getfield 481, 3) := dk_180 1 225 (dk_at dksX0_mark_0 20 rfl rfl)
theorem dX0_mark_23 : decode cX0_mark 23 = .ok (.new 84, 3) := dk_187 0 84 (dk_at dksX0_mark_1 0 rfl rfl)
theorem dX0_mark_26 : decode cX0_mark 26 = .ok (.dup, 1) := dk_89 (dk_at dksX0_mark_1 3 rfl rfl)
theorem dX0_mark_27 : decode cX0_mark 27 = .ok (.aload_n 0, 1) := dk_42 (dk_at dksX0_mark_1 4 rfl rfl)
theorem dX0_mark_28 : decode cX0_mark 28 = .ok (.getfield 38, 3) := dk_180 0 38 (dk_at dksX0_mark_1 5 rfl rfl)
theorem dX0_mark_31 : decode cX0_mark 31 = .ok (.invokevirtual 357, 3) := dk_182 1 101 (dk_at dksX0_mark_1 8 rfl rfl)
theorem dX0_mark_34 : decode cX0_mark 34 = .ok (.aload_n 0, 1) := dk_42 (dk_at dksX0_mark_1 11 rfl rfl)
theorem dX0_mark_35 : decode cX0_mark 35 = .ok (.getfield 199, 3) := dk_180 0 199 (dk_at dksX0_mark_1 12 rfl rfl)
theorem dX0_mark_38 : decode cX0_mark 38 = .ok (.aload_n 0, 1) := dk_42 (dk_at dksX0_mark_1 15 rfl rfl)
theorem dX0_mark_39 : decode cX0_mark 39 = .ok (.getfield 203, 3) := dk_180 0 203 (dk_at dksX0_mark_1 16 rfl rfl)
theorem dX0_mark_42 : decode cX0_mark 42 = .ok (.invokespecial 484, 3) := dk_183 1 228 (dk_at dksX0_mark_1 19 rfl rfl)
theorem dX0_mark_45 : decode cX0_mark 45 = .ok (.aastore, 1) := dk_83 (dk_at dksX0_mark_1 22 rfl rfl)
theorem dX0_mark_46 : decode cX0_mark 46 = .ok (.aload_n 0, 1) := dk_42 (dk_at dksX0_mark_1 23 rfl rfl)
theorem dX0_mark_47 : decode cX0_mark 47 = .ok (.dup, 1) := dk_89 (dk_at dksX0_mark_2 0 rfl rfl)
theorem dX0_mark_48 : decode cX0_mark 48 = .ok (.getfield 481, 3) := dk_180 1 225 (dk_at dksX0_mark_2 1 rfl rfl)
theorem dX0_mark_51 : decode cX0_mark 51 = .ok (.iconst 1, 1) := dk_4 (dk_at dksX0_mark_2 4 rfl rfl)
theorem dX0_mark_52 : decode cX0_mark 52 = .ok (.iadd, 1) := dk_96 (dk_at dksX0_mark_2 5 rfl rfl)
theorem dX0_mark_53 : decode cX0_mark 53 = .ok (.putfield 481, 3) := dk_181 1 225 (dk_at dksX0_mark_2 6 rfl rfl)
theorem dX0_mark_56 : decode cX0_mark 56 = .ok (.aload_n 0, 1) := dk_42 (dk_at dksX0_mark_2 9 rfl rfl)
theorem dX0_mark_57 : decode cX0_mark 57 = .ok (.aload_n 0, 1) := dk_42 (dk_at dksX0_mark_2 10 rfl rfl)
theorem dX0_mark_58 : decode cX0_mark 58 = .ok (.getfield 481, 3) := dk_180 1 225 (dk_at dksX0_mark_2 11 rfl rfl)
theorem dX0_mark_61 : decode cX0_mark 61 = .ok (.invokevirtual 101, 3) := dk_182 0 101 (dk_at dksX0_mark_2 14 rfl rfl)
theorem dX0_mark_64 : decode cX0_mark 64 = .ok (.ireturn, 1) := dk_172 (dk_at dksX0_mark_2 17 rfl rfl)
abbrev cX0_back : ByteArray := prog_1_method_93_code
def yX0_back : MethodName := ⟨RX0, "back", "()I"⟩
def dkwX0_back_2 : List UInt8 := [181, 0, 199, 42, 43, 180, 1, 233, 181, 0, 203, 42, 42, 180, 1, 225, 182, 0, 101, 172]
abbrev dktX0_back_2 : List UInt8 := dkwX0_back_2 ++ []
def dkwX0_back_1 : List UInt8 := [42, 180, 0, 86, 42, 180, 1, 225, 50, 76, 42, 43, 180, 1, 231, 181, 0, 38, 42, 43, 180, 1, 232]
abbrev dktX0_back_1 : List UInt8 := dkwX0_back_1 ++ dktX0_back_2
def dkwX0_back_0 : List UInt8 := [42, 180, 1, 225, 154, 0, 10, 42, 16, 8, 182, 0, 97, 172, 42, 89, 180, 1, 225, 4, 100, 181, 1, 225]
abbrev dktX0_back_0 : List UInt8 := dkwX0_back_0 ++ dktX0_back_1
theorem dksX0_back_0 : cX0_back.data.toList.drop 0 = dktX0_back_0 := by decide +kernel
theorem dksX0_back_1 : cX0_back.data.toList.drop 24 = dktX0_back_1 := dk_seg dksX0_back_0 24 rfl rfl
theorem dksX0_back_2 : cX0_back.data.toList.drop 47 = dktX0_back_2 := dk_seg dksX0_back_1 23 rfl rfl
theorem dX0_back_0 : decode cX0_back 0 = .ok (.aload_n 0, 1) := dk_42 (dk_at dksX0_back_0 0 rfl rfl)
theorem dX0_back_1 : decode cX0_back 1 = .ok (.getfield 481, 3) := dk_180 1 225 (dk_at dksX0_back_0 1 rfl rfl)
theorem dX0_back_4 : decode cX0_back 4 = .ok (.ifCond .ne 10, 3) := dk_154 0 10 (dk_at dksX0_back_0 4 rfl rfl)
theorem dX0_back_7 : decode cX0_back 7 = .ok (.aload_n 0, 1) := dk_42 (dk_at dksX0_back_0 7 rfl rfl)
theorem dX0_back_8 : decode cX0_back 8 = .ok (.bipush 8, 2) := dk_16 8 (dk_at dksX0_back_0 8 rfl rfl)
theorem dX0_back_10 : decode cX0_back 10 = .ok (.invokevirtual 97, 3) := dk_182 0 97 (dk_at dksX0_back_0 10 rfl rfl)
theorem dX0_back_13 : decode cX0_back 13 = .ok (.ireturn, 1) := dk_172 (dk_at dksX0_back_0 13 rfl rfl)
theorem dX0_back_14 : decode cX0_back 14 = .ok (.aload_n 0, 1) := dk_42 (dk_at dksX0_back_0 14 rfl rfl)
theorem dX0_back_15 : decode cX0_back 15 = .ok (.dup, 1) := dk_89 (dk_at dksX0_back_0 15 rfl rfl)
theorem dX0_back_16 : decode cX0_back 16 = .ok (.getfield 481, 3) := dk_180 1 225 (dk_at dksX0_back_0 16 rfl rfl)
theorem dX0_back_19 : decode cX0_back 19 = .ok (.iconst 1, 1) := dk_4 (dk_at dksX0_back_0 19 rfl rfl)
theorem dX0_back_20 : decode cX0_back 20 = .ok (.isub, 1) := dk_100 (dk_at dksX0_back_0 20 rfl rfl)
theorem dX0_back_21 : decode cX0_back 21 = .ok (.putfield 481, 3) := dk_181 1 225 (dk_at dksX0_back_0 21 rfl rfl)
theorem dX0_back_24 : decode cX0_back 24 = .ok (.aload_n 0, 1) := dk_42 (dk_at dksX0_back_1 0 rfl rfl)
theorem dX0_back_25 : decode cX0_back 25 = .ok (.getfield 86, 3) := dk_180 0 86 (dk_at dksX0_back_1 1 rfl rfl)
theorem dX0_back_28 : decode cX0_back 28 = .ok (.aload_n 0, 1) := dk_42 (dk_at dksX0_back_1 4 rfl rfl)
theorem dX0_back_29 : decode cX0_back 29 = .ok (.getfield 481, 3) := dk_180 1 225 (dk_at dksX0_back_1 5 rfl rfl)
theorem dX0_back_32 : decode cX0_back 32 = .ok (.aaload, 1) := dk_50 (dk_at dksX0_back_1 8 rfl rfl)
theorem dX0_back_33 : decode cX0_back 33 = .ok (.astore_n 1, 1) := dk_76 (dk_at dksX0_back_1 9 rfl rfl)
theorem dX0_back_34 : decode cX0_back 34 = .ok (.aload_n 0, 1) := dk_42 (dk_at dksX0_back_1 10 rfl rfl)
theorem dX0_back_35 : decode cX0_back 35 = .ok (.aload_n 1, 1) := dk_43 (dk_at dksX0_back_1 11 rfl rfl)
theorem dX0_back_36 : decode cX0_back 36 = .ok (.getfield 487, 3) := dk_180 1 231 (dk_at dksX0_back_1 12 rfl rfl)
theorem dX0_back_39 : decode cX0_back 39 = .ok (.putfield 38, 3) := dk_181 0 38 (dk_at dksX0_back_1 15 rfl rfl)
theorem dX0_back_42 : decode cX0_back 42 = .ok (.aload_n 0, 1) := dk_42 (dk_at dksX0_back_1 18 rfl rfl)
theorem dX0_back_43 : decode cX0_back 43 = .ok (.aload_n 1, 1) := dk_43 (dk_at dksX0_back_1 19 rfl rfl)
theorem dX0_back_44 : decode cX0_back 44 = .ok (.getfield 488, 3) := dk_180 1 232 (dk_at dksX0_back_1 20 rfl rfl)
theorem dX0_back_47 : decode cX0_back 47 = .ok (.putfield 199, 3) := dk_181 0 199 (dk_at dksX0_back_2 0 rfl rfl)
theorem dX0_back_50 : decode cX0_back 50 = .ok (.aload_n 0, 1) := dk_42 (dk_at dksX0_back_2 3 rfl rfl)
theorem dX0_back_51 : decode cX0_back 51 = .ok (.aload_n 1, 1) := dk_43 (dk_at dksX0_back_2 4 rfl rfl)
theorem dX0_back_52 : decode cX0_back 52 = .ok (.getfield 489, 3) := dk_180 1 233 (dk_at dksX0_back_2 5 rfl rfl)
theorem dX0_back_55 : decode cX0_back 55 = .ok (.putfield 203, 3) := dk_181 0 203 (dk_at dksX0_back_2 8 rfl rfl)
theorem dX0_back_58 : decode cX0_back 58 = .ok (.aload_n 0, 1) := dk_42 (dk_at dksX0_back_2 11 rfl rfl)
theorem dX0_back_59 : decode cX0_back 59 = .ok (.aload_n 0, 1) := dk_42 (dk_at dksX0_back_2 12 rfl rfl)
theorem dX0_back_60 : decode cX0_back 60 = .ok (.getfield 481, 3) := dk_180 1 225 (dk_at dksX0_back_2 13 rfl rfl)
theorem dX0_back_63 : decode cX0_back 63 = .ok (.invokevirtual 101, 3) := dk_182 0 101 (dk_at dksX0_back_2 16 rfl rfl)
theorem dX0_back_66 : decode cX0_back 66 = .ok (.ireturn, 1) := dk_172 (dk_at dksX0_back_2 19 rfl rfl)
theorem q134 : (Jvm.Cond.initialized "CableDrawer") ∈ lw_all := lw_g (lw_at lw_m1 1 rfl) rfl
theorem q164 : (Jvm.Cond.instantiable "CableDrawer" (31 : Nat)) ∈ lw_all := lw_g (lw_at lw_m1 31 rfl) rfl
theorem q166 : (Jvm.Cond.instanceMethod ({ cls := "CableDrawer", name := "<init>", desc := "()V" } : Jvm.MethodName)) ∈ lw_all := lw_g (lw_at lw_m1 33 rfl) rfl
theorem q167 : (Jvm.Cond.code ({ cls := "CableDrawer", name := "<init>", desc := "()V" } : Jvm.MethodName) prog_1_method_1_code (2 : Nat) (Option.none : Option Jvm.ClassFile.FieldType)) ∈ lw_all := lw_g (lw_at lw_m1 34 rfl) rfl
theorem q168 : (Jvm.Cond.methodLink "CableDrawer" (1 : Nat) ({ cls := "java/lang/Object", name := "<init>", desc := "()V" } : Jvm.MethodName)) ∈ lw_all := lw_g (lw_at lw_m1 35 rfl) rfl
theorem q171 : (Jvm.Cond.classLink "CableDrawer" (9 : Nat) "CableDrawer$Tray") ∈ lw_all := lw_g (lw_at lw_m1 38 rfl) rfl
theorem q173 : (Jvm.Cond.classLink "CableDrawer" (15 : Nat) "CableDrawer$Crossing") ∈ lw_all := lw_g (lw_at lw_m1 40 rfl) rfl
theorem q175 : (Jvm.Cond.classLink "CableDrawer" (21 : Nat) "CableDrawer$Reader") ∈ lw_all := lw_g (lw_at lw_m1 42 rfl) rfl
theorem q177 : (Jvm.Cond.classLink "CableDrawer" (23 : Nat) "CableDrawer$Wrong") ∈ lw_all := lw_g (lw_at lw_m1 44 rfl) rfl
theorem q232 : (Jvm.Cond.methodLink "CableDrawer" (25 : Nat) ({ cls := "CableDrawer$Wrong", name := "<init>", desc := "()V" } : Jvm.MethodName)) ∈ lw_all := lw_g (lw_at lw_m1 99 rfl) rfl
theorem q245 : (Jvm.Cond.fieldLinkNest "CableDrawer" (182 : Nat) "CableDrawer$Wrong" "kind" "I" "CableDrawer") ∈ lw_tbl := lw_at lw_m1 112 rfl
theorem q247 : (Jvm.Cond.fieldLinkNest "CableDrawer" (185 : Nat) "CableDrawer$Wrong" "place" "I" "CableDrawer") ∈ lw_tbl := lw_at lw_m1 114 rfl
theorem q265 : (Jvm.Cond.methodLink "CableDrawer" (26 : Nat) ({ cls := "CableDrawer$Reader", name := "<init>", desc := "(LCableDrawer$Wrong;[LCableDrawer$Crossing;)V" } : Jvm.MethodName)) ∈ lw_all := lw_g (lw_at lw_m1 132 rfl) rfl
theorem q274 : (Jvm.Cond.fieldLinkNest "CableDrawer" (171 : Nat) "CableDrawer$Reader" "taped" "I" "CableDrawer") ∈ lw_tbl := lw_at lw_m1 141 rfl
theorem q276 : (Jvm.Cond.fieldLinkNest "CableDrawer" (210 : Nat) "CableDrawer$Reader" "stepMany" "I" "CableDrawer") ∈ lw_tbl := lw_at lw_m1 143 rfl
theorem q278 : (Jvm.Cond.fieldLinkNest "CableDrawer" (211 : Nat) "CableDrawer$Reader" "counted" "I" "CableDrawer") ∈ lw_tbl := lw_at lw_m1 145 rfl
theorem q285 : (Jvm.Cond.fieldLink "CableDrawer" (178 : Nat) "CableDrawer$Reader" "tape" "[B") ∈ lw_all := lw_g (lw_at lw_m1 152 rfl) rfl
theorem q336 : (Jvm.Cond.classLink "CableDrawer" (33 : Nat) "CableDrawer$Drawer") ∈ lw_all := lw_g (lw_at lw_m1 203 rfl) rfl
theorem q338 : (Jvm.Cond.methodLink "CableDrawer" (35 : Nat) ({ cls := "CableDrawer$Drawer", name := "<init>", desc := "([LCableDrawer$Crossing;)V" } : Jvm.MethodName)) ∈ lw_all := lw_g (lw_at lw_m1 205 rfl) rfl
theorem q348 : (Jvm.Cond.fieldLink "CableDrawer" (161 : Nat) "CableDrawer$Drawer" "leads" "[LCableDrawer$Lead;") ∈ lw_all := lw_g (lw_at lw_m1 215 rfl) rfl
theorem q350 : (Jvm.Cond.fieldLink "CableDrawer" (260 : Nat) "CableDrawer$Drawer" "row" "[LCableDrawer$Crossing;") ∈ lw_all := lw_g (lw_at lw_m1 217 rfl) rfl
theorem q355 : (Jvm.Cond.fieldLink "CableDrawer" (281 : Nat) "CableDrawer$Drawer" "looks" "[I") ∈ lw_all := lw_g (lw_at lw_m1 222 rfl) rfl
theorem q358 : (Jvm.Cond.fieldLinkNest "CableDrawer" (152 : Nat) "CableDrawer$Drawer" "leadMany" "I" "CableDrawer") ∈ lw_tbl := lw_at lw_m1 225 rfl
theorem q361 : (Jvm.Cond.fieldLinkNest "CableDrawer" (217 : Nat) "CableDrawer$Drawer" "many" "I" "CableDrawer") ∈ lw_tbl := lw_at lw_m1 228 rfl
theorem q364 : (Jvm.Cond.fieldLinkNest "CableDrawer" (155 : Nat) "CableDrawer$Drawer" "lookMany" "I" "CableDrawer") ∈ lw_tbl := lw_at lw_m1 231 rfl
theorem q366 : (Jvm.Cond.fieldLinkNest "CableDrawer" (227 : Nat) "CableDrawer$Drawer" "seconds" "I" "CableDrawer") ∈ lw_tbl := lw_at lw_m1 233 rfl
theorem q368 : (Jvm.Cond.fieldLinkNest "CableDrawer" (230 : Nat) "CableDrawer$Drawer" "pence" "I" "CableDrawer") ∈ lw_tbl := lw_at lw_m1 235 rfl
theorem q370 : (Jvm.Cond.fieldLinkNest "CableDrawer" (233 : Nat) "CableDrawer$Drawer" "openings" "I" "CableDrawer") ∈ lw_tbl := lw_at lw_m1 237 rfl
theorem q395 : (Jvm.Cond.classLink "CableDrawer" (84 : Nat) "CableDrawer$Kept") ∈ lw_all := lw_g (lw_at lw_m2 22 rfl) rfl
theorem q398 : (Jvm.Cond.methodLinkNest "CableDrawer" (90 : Nat) ({ cls := "CableDrawer$Tray", name := "<init>", desc := "()V" } : Jvm.MethodName) "CableDrawer") ∈ lw_tbl := lw_at lw_m2 25 rfl
theorem q403 : (Jvm.Cond.fieldLinkNest "CableDrawer" (137 : Nat) "CableDrawer$Tray" "row" "Ljava/lang/Object;" "CableDrawer") ∈ lw_tbl := lw_at lw_m2 30 rfl
theorem q405 : (Jvm.Cond.fieldLinkNest "CableDrawer" (141 : Nat) "CableDrawer$Tray" "sort" "I" "CableDrawer") ∈ lw_tbl := lw_at lw_m2 32 rfl
theorem q411 : (Jvm.Cond.fieldLink "CableDrawer" (11 : Nat) "CableDrawer" "trays" "[LCableDrawer$Tray;") ∈ lw_all := lw_g (lw_at lw_m2 38 rfl) rfl
theorem q412 : (Jvm.Cond.fieldLink "CableDrawer" (17 : Nat) "CableDrawer" "kinds" "[LCableDrawer$Crossing;") ∈ lw_all := lw_g (lw_at lw_m2 39 rfl) rfl
theorem q413 : (Jvm.Cond.fieldLink "CableDrawer" (29 : Nat) "CableDrawer" "reader" "LCableDrawer$Reader;") ∈ lw_all := lw_g (lw_at lw_m2 40 rfl) rfl
theorem q414 : (Jvm.Cond.fieldLink "CableDrawer" (38 : Nat) "CableDrawer" "drawer" "LCableDrawer$Drawer;") ∈ lw_all := lw_g (lw_at lw_m2 41 rfl) rfl
theorem q415 : (Jvm.Cond.fieldLink "CableDrawer" (199 : Nat) "CableDrawer" "steps" "[LCableDrawer$Step;") ∈ lw_all := lw_g (lw_at lw_m2 42 rfl) rfl
theorem q416 : (Jvm.Cond.fieldLink "CableDrawer" (203 : Nat) "CableDrawer" "stepMany" "I") ∈ lw_all := lw_g (lw_at lw_m2 43 rfl) rfl
theorem q417 : (Jvm.Cond.fieldLink "CableDrawer" (91 : Nat) "CableDrawer" "status" "I") ∈ lw_all := lw_g (lw_at lw_m2 44 rfl) rfl
theorem q418 : (Jvm.Cond.fieldLink "CableDrawer" (42 : Nat) "CableDrawer" "faultKind" "I") ∈ lw_all := lw_g (lw_at lw_m2 45 rfl) rfl
theorem q419 : (Jvm.Cond.fieldLink "CableDrawer" (46 : Nat) "CableDrawer" "faultPlace" "I") ∈ lw_all := lw_g (lw_at lw_m2 46 rfl) rfl
theorem q420 : (Jvm.Cond.fieldLink "CableDrawer" (94 : Nat) "CableDrawer" "top" "J") ∈ lw_all := lw_g (lw_at lw_m2 47 rfl) rfl
theorem q421 : (Jvm.Cond.fieldLink "CableDrawer" (49 : Nat) "CableDrawer" "bottom" "J") ∈ lw_all := lw_g (lw_at lw_m2 48 rfl) rfl
theorem q422 : (Jvm.Cond.fieldLink "CableDrawer" (321 : Nat) "CableDrawer" "drawn" "I") ∈ lw_all := lw_g (lw_at lw_m2 49 rfl) rfl
theorem q423 : (Jvm.Cond.fieldLink "CableDrawer" (53 : Nat) "CableDrawer" "its" "[I") ∈ lw_all := lw_g (lw_at lw_m2 50 rfl) rfl
theorem q424 : (Jvm.Cond.fieldLink "CableDrawer" (57 : Nat) "CableDrawer" "with" "[I") ∈ lw_all := lw_g (lw_at lw_m2 51 rfl) rfl
theorem q425 : (Jvm.Cond.fieldLink "CableDrawer" (364 : Nat) "CableDrawer" "itsMany" "I") ∈ lw_all := lw_g (lw_at lw_m2 52 rfl) rfl
theorem q426 : (Jvm.Cond.fieldLink "CableDrawer" (382 : Nat) "CableDrawer" "wayFirst" "I") ∈ lw_all := lw_g (lw_at lw_m2 53 rfl) rfl
theorem q427 : (Jvm.Cond.fieldLink "CableDrawer" (385 : Nat) "CableDrawer" "wayLast" "I") ∈ lw_all := lw_g (lw_at lw_m2 54 rfl) rfl
theorem q428 : (Jvm.Cond.fieldLink "CableDrawer" (60 : Nat) "CableDrawer" "way" "[I") ∈ lw_all := lw_g (lw_at lw_m2 55 rfl) rfl
theorem q429 : (Jvm.Cond.fieldLink "CableDrawer" (398 : Nat) "CableDrawer" "isWay" "Z") ∈ lw_all := lw_g (lw_at lw_m2 56 rfl) rfl
theorem q430 : (Jvm.Cond.fieldLink "CableDrawer" (63 : Nat) "CableDrawer" "toldWay" "[I") ∈ lw_all := lw_g (lw_at lw_m2 57 rfl) rfl
theorem q431 : (Jvm.Cond.fieldLink "CableDrawer" (66 : Nat) "CableDrawer" "rest" "[I") ∈ lw_all := lw_g (lw_at lw_m2 58 rfl) rfl
theorem q432 : (Jvm.Cond.fieldLink "CableDrawer" (69 : Nat) "CableDrawer" "toldOrder" "[I") ∈ lw_all := lw_g (lw_at lw_m2 59 rfl) rfl
theorem q433 : (Jvm.Cond.fieldLink "CableDrawer" (407 : Nat) "CableDrawer" "orderMany" "I") ∈ lw_all := lw_g (lw_at lw_m2 60 rfl) rfl
theorem q434 : (Jvm.Cond.fieldLink "CableDrawer" (72 : Nat) "CableDrawer" "toldLoosens" "I") ∈ lw_all := lw_g (lw_at lw_m2 61 rfl) rfl
theorem q435 : (Jvm.Cond.fieldLink "CableDrawer" (75 : Nat) "CableDrawer" "packed" "[I") ∈ lw_all := lw_g (lw_at lw_m2 62 rfl) rfl
theorem q436 : (Jvm.Cond.fieldLink "CableDrawer" (453 : Nat) "CableDrawer" "ranSteps" "I") ∈ lw_all := lw_g (lw_at lw_m2 63 rfl) rfl
theorem q437 : (Jvm.Cond.fieldLink "CableDrawer" (78 : Nat) "CableDrawer" "ran" "[I") ∈ lw_all := lw_g (lw_at lw_m2 64 rfl) rfl
theorem q438 : (Jvm.Cond.fieldLink "CableDrawer" (81 : Nat) "CableDrawer" "told" "[I") ∈ lw_all := lw_g (lw_at lw_m2 65 rfl) rfl
theorem q439 : (Jvm.Cond.fieldLink "CableDrawer" (469 : Nat) "CableDrawer" "isTold" "Z") ∈ lw_all := lw_g (lw_at lw_m2 66 rfl) rfl
theorem q440 : (Jvm.Cond.fieldLink "CableDrawer" (86 : Nat) "CableDrawer" "kept" "[LCableDrawer$Kept;") ∈ lw_all := lw_g (lw_at lw_m2 67 rfl) rfl
theorem q441 : (Jvm.Cond.fieldLink "CableDrawer" (481 : Nat) "CableDrawer" "marks" "I") ∈ lw_all := lw_g (lw_at lw_m2 68 rfl) rfl
theorem q442 : (Jvm.Cond.laysFinal "CableDrawer" "CableDrawer" "trays" "[LCableDrawer$Tray;") ∈ lw_all := lw_g (lw_at lw_m2 69 rfl) rfl
theorem q443 : (Jvm.Cond.soleField "CableDrawer" "trays") ∈ lw_all := lw_g (lw_at lw_m2 70 rfl) rfl
theorem q444 : (Jvm.Cond.laysFinal "CableDrawer" "CableDrawer" "kinds" "[LCableDrawer$Crossing;") ∈ lw_all := lw_g (lw_at lw_m2 71 rfl) rfl
theorem q445 : (Jvm.Cond.soleField "CableDrawer" "kinds") ∈ lw_all := lw_g (lw_at lw_m2 72 rfl) rfl
theorem q446 : (Jvm.Cond.laysFinal "CableDrawer" "CableDrawer" "reader" "LCableDrawer$Reader;") ∈ lw_all := lw_g (lw_at lw_m2 73 rfl) rfl
theorem q447 : (Jvm.Cond.soleField "CableDrawer" "reader") ∈ lw_all := lw_g (lw_at lw_m2 74 rfl) rfl
theorem q448 : (Jvm.Cond.lays "CableDrawer" "CableDrawer" "drawer" "LCableDrawer$Drawer;") ∈ lw_all := lw_g (lw_at lw_m2 75 rfl) rfl
theorem q449 : (Jvm.Cond.soleField "CableDrawer" "drawer") ∈ lw_all := lw_g (lw_at lw_m2 76 rfl) rfl
theorem q450 : (Jvm.Cond.lays "CableDrawer" "CableDrawer" "steps" "[LCableDrawer$Step;") ∈ lw_all := lw_g (lw_at lw_m2 77 rfl) rfl
theorem q451 : (Jvm.Cond.soleField "CableDrawer" "steps") ∈ lw_all := lw_g (lw_at lw_m2 78 rfl) rfl
theorem q452 : (Jvm.Cond.lays "CableDrawer" "CableDrawer" "stepMany" "I") ∈ lw_all := lw_g (lw_at lw_m2 79 rfl) rfl
theorem q453 : (Jvm.Cond.soleField "CableDrawer" "stepMany") ∈ lw_all := lw_g (lw_at lw_m2 80 rfl) rfl
theorem q454 : (Jvm.Cond.lays "CableDrawer" "CableDrawer" "status" "I") ∈ lw_all := lw_g (lw_at lw_m2 81 rfl) rfl
theorem q455 : (Jvm.Cond.soleField "CableDrawer" "status") ∈ lw_all := lw_g (lw_at lw_m2 82 rfl) rfl
theorem q456 : (Jvm.Cond.lays "CableDrawer" "CableDrawer" "faultKind" "I") ∈ lw_all := lw_g (lw_at lw_m2 83 rfl) rfl
theorem q457 : (Jvm.Cond.soleField "CableDrawer" "faultKind") ∈ lw_all := lw_g (lw_at lw_m2 84 rfl) rfl
theorem q458 : (Jvm.Cond.lays "CableDrawer" "CableDrawer" "faultPlace" "I") ∈ lw_all := lw_g (lw_at lw_m2 85 rfl) rfl
theorem q459 : (Jvm.Cond.soleField "CableDrawer" "faultPlace") ∈ lw_all := lw_g (lw_at lw_m2 86 rfl) rfl
theorem q460 : (Jvm.Cond.lays "CableDrawer" "CableDrawer" "top" "J") ∈ lw_all := lw_g (lw_at lw_m2 87 rfl) rfl
theorem q461 : (Jvm.Cond.soleField "CableDrawer" "top") ∈ lw_all := lw_g (lw_at lw_m2 88 rfl) rfl
theorem q462 : (Jvm.Cond.lays "CableDrawer" "CableDrawer" "bottom" "J") ∈ lw_all := lw_g (lw_at lw_m2 89 rfl) rfl
theorem q463 : (Jvm.Cond.soleField "CableDrawer" "bottom") ∈ lw_all := lw_g (lw_at lw_m2 90 rfl) rfl
theorem q464 : (Jvm.Cond.lays "CableDrawer" "CableDrawer" "drawn" "I") ∈ lw_all := lw_g (lw_at lw_m2 91 rfl) rfl
theorem q465 : (Jvm.Cond.soleField "CableDrawer" "drawn") ∈ lw_all := lw_g (lw_at lw_m2 92 rfl) rfl
theorem q466 : (Jvm.Cond.laysFinal "CableDrawer" "CableDrawer" "its" "[I") ∈ lw_all := lw_g (lw_at lw_m2 93 rfl) rfl
theorem q467 : (Jvm.Cond.soleField "CableDrawer" "its") ∈ lw_all := lw_g (lw_at lw_m2 94 rfl) rfl
theorem q468 : (Jvm.Cond.laysFinal "CableDrawer" "CableDrawer" "with" "[I") ∈ lw_all := lw_g (lw_at lw_m2 95 rfl) rfl
theorem q469 : (Jvm.Cond.soleField "CableDrawer" "with") ∈ lw_all := lw_g (lw_at lw_m2 96 rfl) rfl
theorem q470 : (Jvm.Cond.lays "CableDrawer" "CableDrawer" "itsMany" "I") ∈ lw_all := lw_g (lw_at lw_m2 97 rfl) rfl
theorem q471 : (Jvm.Cond.soleField "CableDrawer" "itsMany") ∈ lw_all := lw_g (lw_at lw_m2 98 rfl) rfl
theorem q472 : (Jvm.Cond.lays "CableDrawer" "CableDrawer" "wayFirst" "I") ∈ lw_all := lw_g (lw_at lw_m2 99 rfl) rfl
theorem q473 : (Jvm.Cond.soleField "CableDrawer" "wayFirst") ∈ lw_all := lw_g (lw_at lw_m2 100 rfl) rfl
theorem q474 : (Jvm.Cond.lays "CableDrawer" "CableDrawer" "wayLast" "I") ∈ lw_all := lw_g (lw_at lw_m2 101 rfl) rfl
theorem q475 : (Jvm.Cond.soleField "CableDrawer" "wayLast") ∈ lw_all := lw_g (lw_at lw_m2 102 rfl) rfl
theorem q476 : (Jvm.Cond.laysFinal "CableDrawer" "CableDrawer" "way" "[I") ∈ lw_all := lw_g (lw_at lw_m2 103 rfl) rfl
theorem q477 : (Jvm.Cond.soleField "CableDrawer" "way") ∈ lw_all := lw_g (lw_at lw_m2 104 rfl) rfl
theorem q478 : (Jvm.Cond.lays "CableDrawer" "CableDrawer" "isWay" "Z") ∈ lw_all := lw_g (lw_at lw_m2 105 rfl) rfl
theorem q479 : (Jvm.Cond.soleField "CableDrawer" "isWay") ∈ lw_all := lw_g (lw_at lw_m2 106 rfl) rfl
theorem q480 : (Jvm.Cond.laysFinal "CableDrawer" "CableDrawer" "toldWay" "[I") ∈ lw_all := lw_g (lw_at lw_m2 107 rfl) rfl
theorem q481 : (Jvm.Cond.soleField "CableDrawer" "toldWay") ∈ lw_all := lw_g (lw_at lw_m2 108 rfl) rfl
theorem q482 : (Jvm.Cond.laysFinal "CableDrawer" "CableDrawer" "rest" "[I") ∈ lw_all := lw_g (lw_at lw_m2 109 rfl) rfl
theorem q483 : (Jvm.Cond.soleField "CableDrawer" "rest") ∈ lw_all := lw_g (lw_at lw_m2 110 rfl) rfl
theorem q484 : (Jvm.Cond.laysFinal "CableDrawer" "CableDrawer" "toldOrder" "[I") ∈ lw_all := lw_g (lw_at lw_m2 111 rfl) rfl
theorem q485 : (Jvm.Cond.soleField "CableDrawer" "toldOrder") ∈ lw_all := lw_g (lw_at lw_m2 112 rfl) rfl
theorem q486 : (Jvm.Cond.lays "CableDrawer" "CableDrawer" "orderMany" "I") ∈ lw_all := lw_g (lw_at lw_m2 113 rfl) rfl
theorem q487 : (Jvm.Cond.soleField "CableDrawer" "orderMany") ∈ lw_all := lw_g (lw_at lw_m2 114 rfl) rfl
theorem q488 : (Jvm.Cond.lays "CableDrawer" "CableDrawer" "toldLoosens" "I") ∈ lw_all := lw_g (lw_at lw_m2 115 rfl) rfl
theorem q489 : (Jvm.Cond.soleField "CableDrawer" "toldLoosens") ∈ lw_all := lw_g (lw_at lw_m2 116 rfl) rfl
theorem q490 : (Jvm.Cond.laysFinal "CableDrawer" "CableDrawer" "packed" "[I") ∈ lw_all := lw_g (lw_at lw_m2 117 rfl) rfl
theorem q491 : (Jvm.Cond.soleField "CableDrawer" "packed") ∈ lw_all := lw_g (lw_at lw_m2 118 rfl) rfl
theorem q492 : (Jvm.Cond.lays "CableDrawer" "CableDrawer" "ranSteps" "I") ∈ lw_all := lw_g (lw_at lw_m2 119 rfl) rfl
theorem q493 : (Jvm.Cond.soleField "CableDrawer" "ranSteps") ∈ lw_all := lw_g (lw_at lw_m2 120 rfl) rfl
theorem q494 : (Jvm.Cond.laysFinal "CableDrawer" "CableDrawer" "ran" "[I") ∈ lw_all := lw_g (lw_at lw_m2 121 rfl) rfl
theorem q495 : (Jvm.Cond.soleField "CableDrawer" "ran") ∈ lw_all := lw_g (lw_at lw_m2 122 rfl) rfl
theorem q496 : (Jvm.Cond.laysFinal "CableDrawer" "CableDrawer" "told" "[I") ∈ lw_all := lw_g (lw_at lw_m2 123 rfl) rfl
theorem q497 : (Jvm.Cond.soleField "CableDrawer" "told") ∈ lw_all := lw_g (lw_at lw_m2 124 rfl) rfl
theorem q498 : (Jvm.Cond.lays "CableDrawer" "CableDrawer" "isTold" "Z") ∈ lw_all := lw_g (lw_at lw_m2 125 rfl) rfl
theorem q499 : (Jvm.Cond.soleField "CableDrawer" "isTold") ∈ lw_all := lw_g (lw_at lw_m2 126 rfl) rfl
theorem q500 : (Jvm.Cond.laysFinal "CableDrawer" "CableDrawer" "kept" "[LCableDrawer$Kept;") ∈ lw_all := lw_g (lw_at lw_m2 127 rfl) rfl
theorem q501 : (Jvm.Cond.soleField "CableDrawer" "kept") ∈ lw_all := lw_g (lw_at lw_m2 128 rfl) rfl
theorem q502 : (Jvm.Cond.lays "CableDrawer" "CableDrawer" "marks" "I") ∈ lw_all := lw_g (lw_at lw_m2 129 rfl) rfl
theorem q503 : (Jvm.Cond.soleField "CableDrawer" "marks") ∈ lw_all := lw_g (lw_at lw_m2 130 rfl) rfl
theorem q504 : (Jvm.Cond.superclass "CableDrawer" "java/lang/Object") ∈ lw_all := lw_g (lw_at lw_m2 131 rfl) rfl
theorem q506 : (Jvm.Cond.instanceMethod ({ cls := "CableDrawer", name := "status", desc := "()I" } : Jvm.MethodName)) ∈ lw_all := lw_g (lw_at lw_m2 133 rfl) rfl
theorem q507 : (Jvm.Cond.selects "CableDrawer" ({ cls := "CableDrawer", name := "status", desc := "()I" } : Jvm.MethodName) ({ cls := "CableDrawer", name := "status", desc := "()I" } : Jvm.MethodName)) ∈ lw_all := lw_g (lw_at lw_m2 134 rfl) rfl
theorem q508 : (Jvm.Cond.code ({ cls := "CableDrawer", name := "status", desc := "()I" } : Jvm.MethodName) prog_1_method_2_code (1 : Nat) (Option.some Jvm.ClassFile.FieldType.int)) ∈ lw_all := lw_g (lw_at lw_m2 135 rfl) rfl
theorem q510 : (Jvm.Cond.instanceMethod ({ cls := "CableDrawer", name := "top", desc := "()J" } : Jvm.MethodName)) ∈ lw_all := lw_g (lw_at lw_m2 137 rfl) rfl
theorem q511 : (Jvm.Cond.selects "CableDrawer" ({ cls := "CableDrawer", name := "top", desc := "()J" } : Jvm.MethodName) ({ cls := "CableDrawer", name := "top", desc := "()J" } : Jvm.MethodName)) ∈ lw_all := lw_g (lw_at lw_m2 138 rfl) rfl
theorem q512 : (Jvm.Cond.code ({ cls := "CableDrawer", name := "top", desc := "()J" } : Jvm.MethodName) prog_1_method_3_code (1 : Nat) (Option.some Jvm.ClassFile.FieldType.long)) ∈ lw_all := lw_g (lw_at lw_m2 139 rfl) rfl
theorem q514 : (Jvm.Cond.instanceMethod ({ cls := "CableDrawer", name := "bottom", desc := "()J" } : Jvm.MethodName)) ∈ lw_all := lw_g (lw_at lw_m2 141 rfl) rfl
theorem q515 : (Jvm.Cond.selects "CableDrawer" ({ cls := "CableDrawer", name := "bottom", desc := "()J" } : Jvm.MethodName) ({ cls := "CableDrawer", name := "bottom", desc := "()J" } : Jvm.MethodName)) ∈ lw_all := lw_g (lw_at lw_m2 142 rfl) rfl
theorem q516 : (Jvm.Cond.code ({ cls := "CableDrawer", name := "bottom", desc := "()J" } : Jvm.MethodName) prog_1_method_4_code (1 : Nat) (Option.some Jvm.ClassFile.FieldType.long)) ∈ lw_all := lw_g (lw_at lw_m2 143 rfl) rfl
theorem q518 : (Jvm.Cond.instanceMethod ({ cls := "CableDrawer", name := "tray", desc := "(III)Z" } : Jvm.MethodName)) ∈ lw_all := lw_g (lw_at lw_m2 145 rfl) rfl
theorem q519 : (Jvm.Cond.selects "CableDrawer" ({ cls := "CableDrawer", name := "tray", desc := "(III)Z" } : Jvm.MethodName) ({ cls := "CableDrawer", name := "tray", desc := "(III)Z" } : Jvm.MethodName)) ∈ lw_all := lw_g (lw_at lw_m2 146 rfl) rfl
theorem q520 : (Jvm.Cond.codeWith ({ cls := "CableDrawer", name := "tray", desc := "(III)Z" } : Jvm.MethodName) prog_1_method_11_code (5 : Nat) (Option.some Jvm.ClassFile.FieldType.boolean) [((34 : Nat), (45 : Nat), (48 : Nat), (121 : Nat))]) ∈ lw_all := lw_g (lw_at lw_m2 147 rfl) rfl
theorem q521 : (Jvm.Cond.classLink "CableDrawer" (121 : Nat) "java/lang/NegativeArraySizeException") ∈ lw_all := lw_g (lw_at lw_m2 148 rfl) rfl
theorem q548 : (Jvm.Cond.methodLink "CableDrawer" (114 : Nat) ({ cls := "CableDrawer", name := "isTray", desc := "(I)Z" } : Jvm.MethodName)) ∈ lw_all := lw_g (lw_at lw_m2 175 rfl) rfl
theorem q549 : (Jvm.Cond.static ({ cls := "CableDrawer", name := "isTray", desc := "(I)Z" } : Jvm.MethodName)) ∈ lw_all := lw_g (lw_at lw_m2 176 rfl) rfl
theorem q550 : (Jvm.Cond.code ({ cls := "CableDrawer", name := "isTray", desc := "(I)Z" } : Jvm.MethodName) prog_1_method_10_code (1 : Nat) (Option.some Jvm.ClassFile.FieldType.boolean)) ∈ lw_all := lw_g (lw_at lw_m2 177 rfl) rfl
theorem q551 : (Jvm.Cond.methodLink "CableDrawer" (110 : Nat) ({ cls := "CableDrawer", name := "is", desc := "(I)Z" } : Jvm.MethodName)) ∈ lw_all := lw_g (lw_at lw_m2 178 rfl) rfl
theorem q552 : (Jvm.Cond.privateMethod ({ cls := "CableDrawer", name := "is", desc := "(I)Z" } : Jvm.MethodName)) ∈ lw_tbl := lw_at lw_m2 179 rfl
theorem q553 : (Jvm.Cond.instanceMethod ({ cls := "CableDrawer", name := "is", desc := "(I)Z" } : Jvm.MethodName)) ∈ lw_all := lw_g (lw_at lw_m2 180 rfl) rfl
theorem q554 : (Jvm.Cond.code ({ cls := "CableDrawer", name := "is", desc := "(I)Z" } : Jvm.MethodName) prog_1_method_5_code (2 : Nat) (Option.some Jvm.ClassFile.FieldType.boolean)) ∈ lw_all := lw_g (lw_at lw_m2 181 rfl) rfl
theorem q555 : (Jvm.Cond.methodLink "CableDrawer" (117 : Nat) ({ cls := "CableDrawer$Tray", name := "make", desc := "(II)V" } : Jvm.MethodName)) ∈ lw_all := lw_g (lw_at lw_m2 182 rfl) rfl
theorem q561 : (Jvm.Cond.instanceMethod ({ cls := "CableDrawer", name := "write", desc := "(IIJ)Z" } : Jvm.MethodName)) ∈ lw_all := lw_g (lw_at lw_m2 188 rfl) rfl
theorem q562 : (Jvm.Cond.selects "CableDrawer" ({ cls := "CableDrawer", name := "write", desc := "(IIJ)Z" } : Jvm.MethodName) ({ cls := "CableDrawer", name := "write", desc := "(IIJ)Z" } : Jvm.MethodName)) ∈ lw_all := lw_g (lw_at lw_m2 189 rfl) rfl
theorem q563 : (Jvm.Cond.codeWith ({ cls := "CableDrawer", name := "write", desc := "(IIJ)Z" } : Jvm.MethodName) prog_1_method_12_code (6 : Nat) (Option.some Jvm.ClassFile.FieldType.boolean) [((13 : Nat), (24 : Nat), (27 : Nat), (127 : Nat)), ((13 : Nat), (24 : Nat), (35 : Nat), (129 : Nat))]) ∈ lw_all := lw_g (lw_at lw_m2 190 rfl) rfl
theorem q564 : (Jvm.Cond.classLink "CableDrawer" (127 : Nat) "java/lang/NullPointerException") ∈ lw_all := lw_g (lw_at lw_m2 191 rfl) rfl
theorem q589 : (Jvm.Cond.classLink "CableDrawer" (129 : Nat) "java/lang/ArrayIndexOutOfBoundsException") ∈ lw_all := lw_g (lw_at lw_m2 216 rfl) rfl
theorem q608 : (Jvm.Cond.methodLink "CableDrawer" (123 : Nat) ({ cls := "CableDrawer$Tray", name := "set", desc := "(IJ)V" } : Jvm.MethodName)) ∈ lw_all := lw_g (lw_at lw_m2 235 rfl) rfl
theorem q617 : (Jvm.Cond.instanceMethod ({ cls := "CableDrawer", name := "read", desc := "(II)J" } : Jvm.MethodName)) ∈ lw_all := lw_g (lw_at lw_m3 4 rfl) rfl
theorem q618 : (Jvm.Cond.selects "CableDrawer" ({ cls := "CableDrawer", name := "read", desc := "(II)J" } : Jvm.MethodName) ({ cls := "CableDrawer", name := "read", desc := "(II)J" } : Jvm.MethodName)) ∈ lw_all := lw_g (lw_at lw_m3 5 rfl) rfl
theorem q619 : (Jvm.Cond.codeWith ({ cls := "CableDrawer", name := "read", desc := "(II)J" } : Jvm.MethodName) prog_1_method_13_code (4 : Nat) (Option.some Jvm.ClassFile.FieldType.long) [((19 : Nat), (29 : Nat), (30 : Nat), (127 : Nat)), ((19 : Nat), (29 : Nat), (39 : Nat), (129 : Nat))]) ∈ lw_all := lw_g (lw_at lw_m3 6 rfl) rfl
theorem q620 : (Jvm.Cond.methodLink "CableDrawer" (97 : Nat) ({ cls := "CableDrawer", name := "none", desc := "(I)I" } : Jvm.MethodName)) ∈ lw_all := lw_g (lw_at lw_m3 7 rfl) rfl
theorem q621 : (Jvm.Cond.privateMethod ({ cls := "CableDrawer", name := "none", desc := "(I)I" } : Jvm.MethodName)) ∈ lw_tbl := lw_at lw_m3 8 rfl
theorem q622 : (Jvm.Cond.instanceMethod ({ cls := "CableDrawer", name := "none", desc := "(I)I" } : Jvm.MethodName)) ∈ lw_all := lw_g (lw_at lw_m3 9 rfl) rfl
theorem q623 : (Jvm.Cond.code ({ cls := "CableDrawer", name := "none", desc := "(I)I" } : Jvm.MethodName) prog_1_method_6_code (2 : Nat) (Option.some Jvm.ClassFile.FieldType.int)) ∈ lw_all := lw_g (lw_at lw_m3 10 rfl) rfl
theorem q624 : (Jvm.Cond.methodLink "CableDrawer" (131 : Nat) ({ cls := "CableDrawer$Tray", name := "get", desc := "(I)J" } : Jvm.MethodName)) ∈ lw_all := lw_g (lw_at lw_m3 11 rfl) rfl
theorem q628 : (Jvm.Cond.constantLong "CableDrawer" (135 : Nat) (-1 : Int64)) ∈ lw_all := lw_g (lw_at lw_m3 15 rfl) rfl
theorem q630 : (Jvm.Cond.instanceMethod ({ cls := "CableDrawer", name := "pour", desc := "(IIIII)Z" } : Jvm.MethodName)) ∈ lw_all := lw_g (lw_at lw_m3 17 rfl) rfl
theorem q631 : (Jvm.Cond.selects "CableDrawer" ({ cls := "CableDrawer", name := "pour", desc := "(IIIII)Z" } : Jvm.MethodName) ({ cls := "CableDrawer", name := "pour", desc := "(IIIII)Z" } : Jvm.MethodName)) ∈ lw_all := lw_g (lw_at lw_m3 18 rfl) rfl
theorem q632 : (Jvm.Cond.codeWith ({ cls := "CableDrawer", name := "pour", desc := "(IIIII)Z" } : Jvm.MethodName) prog_1_method_14_code (9 : Nat) (Option.some Jvm.ClassFile.FieldType.boolean) [((80 : Nat), (92 : Nat), (95 : Nat), (127 : Nat)), ((80 : Nat), (92 : Nat), (103 : Nat), (150 : Nat))]) ∈ lw_all := lw_g (lw_at lw_m3 19 rfl) rfl
theorem q633 : (Jvm.Cond.classLink "CableDrawer" (150 : Nat) "java/lang/IndexOutOfBoundsException") ∈ lw_all := lw_g (lw_at lw_m3 20 rfl) rfl
theorem q634 : (Jvm.Cond.methodLink "CableDrawer" (144 : Nat) ({ cls := "java/lang/System", name := "arraycopy", desc := "(Ljava/lang/Object;ILjava/lang/Object;II)V" } : Jvm.MethodName)) ∈ lw_all := lw_g (lw_at lw_m3 21 rfl) rfl
theorem q638 : (Jvm.Cond.instanceMethod ({ cls := "CableDrawer", name := "feed", desc := "(IIIII)I" } : Jvm.MethodName)) ∈ lw_all := lw_g (lw_at lw_m3 25 rfl) rfl
theorem q639 : (Jvm.Cond.selects "CableDrawer" ({ cls := "CableDrawer", name := "feed", desc := "(IIIII)I" } : Jvm.MethodName) ({ cls := "CableDrawer", name := "feed", desc := "(IIIII)I" } : Jvm.MethodName)) ∈ lw_all := lw_g (lw_at lw_m3 26 rfl) rfl
theorem q640 : (Jvm.Cond.code ({ cls := "CableDrawer", name := "feed", desc := "(IIIII)I" } : Jvm.MethodName) prog_1_method_19_code (6 : Nat) (Option.some Jvm.ClassFile.FieldType.int)) ∈ lw_all := lw_g (lw_at lw_m3 27 rfl) rfl
theorem q641 : (Jvm.Cond.methodLink "CableDrawer" (174 : Nat) ({ cls := "CableDrawer", name := "four", desc := "(I)V" } : Jvm.MethodName)) ∈ lw_all := lw_g (lw_at lw_m3 28 rfl) rfl
theorem q642 : (Jvm.Cond.privateMethod ({ cls := "CableDrawer", name := "four", desc := "(I)V" } : Jvm.MethodName)) ∈ lw_tbl := lw_at lw_m3 29 rfl
theorem q643 : (Jvm.Cond.instanceMethod ({ cls := "CableDrawer", name := "four", desc := "(I)V" } : Jvm.MethodName)) ∈ lw_all := lw_g (lw_at lw_m3 30 rfl) rfl
theorem q644 : (Jvm.Cond.code ({ cls := "CableDrawer", name := "four", desc := "(I)V" } : Jvm.MethodName) prog_1_method_20_code (3 : Nat) (Option.none : Option Jvm.ClassFile.FieldType)) ∈ lw_all := lw_g (lw_at lw_m3 31 rfl) rfl
theorem q646 : (Jvm.Cond.instanceMethod ({ cls := "CableDrawer", name := "drawer", desc := "(I)I" } : Jvm.MethodName)) ∈ lw_all := lw_g (lw_at lw_m3 33 rfl) rfl
theorem q647 : (Jvm.Cond.selects "CableDrawer" ({ cls := "CableDrawer", name := "drawer", desc := "(I)I" } : Jvm.MethodName) ({ cls := "CableDrawer", name := "drawer", desc := "(I)I" } : Jvm.MethodName)) ∈ lw_all := lw_g (lw_at lw_m3 34 rfl) rfl
theorem q648 : (Jvm.Cond.codeWith ({ cls := "CableDrawer", name := "drawer", desc := "(I)I" } : Jvm.MethodName) prog_1_method_23_code (3 : Nat) (Option.some Jvm.ClassFile.FieldType.int) [((17 : Nat), (29 : Nat), (32 : Nat), (23 : Nat))]) ∈ lw_all := lw_g (lw_at lw_m3 35 rfl) rfl
theorem q649 : (Jvm.Cond.methodLink "CableDrawer" (188 : Nat) ({ cls := "CableDrawer", name := "takes", desc := "(II)Z" } : Jvm.MethodName)) ∈ lw_all := lw_g (lw_at lw_m3 36 rfl) rfl
theorem q650 : (Jvm.Cond.privateMethod ({ cls := "CableDrawer", name := "takes", desc := "(II)Z" } : Jvm.MethodName)) ∈ lw_tbl := lw_at lw_m3 37 rfl
theorem q651 : (Jvm.Cond.instanceMethod ({ cls := "CableDrawer", name := "takes", desc := "(II)Z" } : Jvm.MethodName)) ∈ lw_all := lw_g (lw_at lw_m3 38 rfl) rfl
theorem q652 : (Jvm.Cond.code ({ cls := "CableDrawer", name := "takes", desc := "(II)Z" } : Jvm.MethodName) prog_1_method_21_code (3 : Nat) (Option.some Jvm.ClassFile.FieldType.boolean)) ∈ lw_all := lw_g (lw_at lw_m3 39 rfl) rfl
theorem q653 : (Jvm.Cond.methodLink "CableDrawer" (192 : Nat) ({ cls := "CableDrawer$Reader", name := "drawer", desc := "(I)LCableDrawer$Drawer;" } : Jvm.MethodName)) ∈ lw_all := lw_g (lw_at lw_m3 40 rfl) rfl
theorem q808 : (Jvm.Cond.fieldLinkNest "CableDrawer" (236 : Nat) "CableDrawer$Lead" "length" "I" "CableDrawer") ∈ lw_tbl := lw_at lw_m3 195 rfl
theorem q812 : (Jvm.Cond.fieldLinkNest "CableDrawer" (239 : Nat) "CableDrawer$Lead" "stiff" "I" "CableDrawer") ∈ lw_tbl := lw_at lw_m3 199 rfl
theorem q815 : (Jvm.Cond.fieldLinkNest "CableDrawer" (242 : Nat) "CableDrawer$Lead" "one" "I" "CableDrawer") ∈ lw_tbl := lw_at lw_m3 202 rfl
theorem q818 : (Jvm.Cond.fieldLinkNest "CableDrawer" (245 : Nat) "CableDrawer$Lead" "two" "I" "CableDrawer") ∈ lw_tbl := lw_at lw_m3 205 rfl
theorem q822 : (Jvm.Cond.fieldLinkNest "CableDrawer" (248 : Nat) "CableDrawer$Lead" "costs" "I" "CableDrawer") ∈ lw_tbl := lw_at lw_m3 209 rfl
theorem q825 : (Jvm.Cond.fieldLinkNest "CableDrawer" (251 : Nat) "CableDrawer$Lead" "used" "I" "CableDrawer") ∈ lw_tbl := lw_at lw_m3 212 rfl
theorem q829 : (Jvm.Cond.fieldLinkNest "CableDrawer" (214 : Nat) "CableDrawer$Lead" "clip" "Z" "CableDrawer") ∈ lw_tbl := lw_at lw_m3 216 rfl
theorem q832 : (Jvm.Cond.fieldLinkNest "CableDrawer" (165 : Nat) "CableDrawer$Lead" "gone" "Z" "CableDrawer") ∈ lw_tbl := lw_at lw_m3 219 rfl
theorem q905 : (Jvm.Cond.fieldLink "CableDrawer" (262 : Nat) "CableDrawer$Crossing" "over" "I") ∈ lw_all := lw_g (lw_at lw_m4 52 rfl) rfl
theorem q908 : (Jvm.Cond.fieldLink "CableDrawer" (265 : Nat) "CableDrawer$Crossing" "under" "I") ∈ lw_all := lw_g (lw_at lw_m4 55 rfl) rfl
theorem q958 : (Jvm.Cond.methodLink "CableDrawer" (195 : Nat) ({ cls := "CableDrawer", name := "refused", desc := "(LCableDrawer$Wrong;)I" } : Jvm.MethodName)) ∈ lw_all := lw_g (lw_at lw_m4 105 rfl) rfl
theorem q959 : (Jvm.Cond.privateMethod ({ cls := "CableDrawer", name := "refused", desc := "(LCableDrawer$Wrong;)I" } : Jvm.MethodName)) ∈ lw_tbl := lw_at lw_m4 106 rfl
theorem q960 : (Jvm.Cond.instanceMethod ({ cls := "CableDrawer", name := "refused", desc := "(LCableDrawer$Wrong;)I" } : Jvm.MethodName)) ∈ lw_all := lw_g (lw_at lw_m4 107 rfl) rfl
theorem q961 : (Jvm.Cond.code ({ cls := "CableDrawer", name := "refused", desc := "(LCableDrawer$Wrong;)I" } : Jvm.MethodName) prog_1_method_22_code (2 : Nat) (Option.some Jvm.ClassFile.FieldType.int)) ∈ lw_all := lw_g (lw_at lw_m4 108 rfl) rfl
theorem q962 : (Jvm.Cond.methodLink "CableDrawer" (101 : Nat) ({ cls := "CableDrawer", name := "gives", desc := "(I)I" } : Jvm.MethodName)) ∈ lw_all := lw_g (lw_at lw_m4 109 rfl) rfl
theorem q963 : (Jvm.Cond.privateMethod ({ cls := "CableDrawer", name := "gives", desc := "(I)I" } : Jvm.MethodName)) ∈ lw_tbl := lw_at lw_m4 110 rfl
theorem q964 : (Jvm.Cond.instanceMethod ({ cls := "CableDrawer", name := "gives", desc := "(I)I" } : Jvm.MethodName)) ∈ lw_all := lw_g (lw_at lw_m4 111 rfl) rfl
theorem q965 : (Jvm.Cond.code ({ cls := "CableDrawer", name := "gives", desc := "(I)I" } : Jvm.MethodName) prog_1_method_7_code (2 : Nat) (Option.some Jvm.ClassFile.FieldType.int)) ∈ lw_all := lw_g (lw_at lw_m4 112 rfl) rfl
theorem q967 : (Jvm.Cond.instanceMethod ({ cls := "CableDrawer", name := "years", desc := "(I)I" } : Jvm.MethodName)) ∈ lw_all := lw_g (lw_at lw_m4 114 rfl) rfl
theorem q968 : (Jvm.Cond.selects "CableDrawer" ({ cls := "CableDrawer", name := "years", desc := "(I)I" } : Jvm.MethodName) ({ cls := "CableDrawer", name := "years", desc := "(I)I" } : Jvm.MethodName)) ∈ lw_all := lw_g (lw_at lw_m4 115 rfl) rfl
theorem q969 : (Jvm.Cond.codeWith ({ cls := "CableDrawer", name := "years", desc := "(I)I" } : Jvm.MethodName) prog_1_method_24_code (3 : Nat) (Option.some Jvm.ClassFile.FieldType.int) [((17 : Nat), (33 : Nat), (36 : Nat), (23 : Nat))]) ∈ lw_all := lw_g (lw_at lw_m4 116 rfl) rfl
theorem q970 : (Jvm.Cond.methodLink "CableDrawer" (206 : Nat) ({ cls := "CableDrawer$Reader", name := "years", desc := "(ILCableDrawer$Drawer;)[LCableDrawer$Step;" } : Jvm.MethodName)) ∈ lw_all := lw_g (lw_at lw_m4 117 rfl) rfl
theorem q986 : (Jvm.Cond.fieldLink "CableDrawer" (433 : Nat) "CableDrawer$Step" "kind" "I") ∈ lw_all := lw_g (lw_at lw_m4 133 rfl) rfl
theorem q988 : (Jvm.Cond.fieldLinkNest "CableDrawer" (436 : Nat) "CableDrawer$Step" "one" "I" "CableDrawer") ∈ lw_tbl := lw_at lw_m4 135 rfl
theorem q990 : (Jvm.Cond.fieldLinkNest "CableDrawer" (449 : Nat) "CableDrawer$Step" "two" "I" "CableDrawer") ∈ lw_tbl := lw_at lw_m4 137 rfl
theorem q992 : (Jvm.Cond.fieldLinkNest "CableDrawer" (443 : Nat) "CableDrawer$Step" "test" "I" "CableDrawer") ∈ lw_tbl := lw_at lw_m4 139 rfl
theorem q994 : (Jvm.Cond.fieldLinkNest "CableDrawer" (446 : Nat) "CableDrawer$Step" "compares" "I" "CableDrawer") ∈ lw_tbl := lw_at lw_m4 141 rfl
theorem q996 : (Jvm.Cond.fieldLinkNest "CableDrawer" (450 : Nat) "CableDrawer$Step" "to" "I" "CableDrawer") ∈ lw_tbl := lw_at lw_m4 143 rfl
theorem q997 : (Jvm.Cond.fieldLinkNest "CableDrawer" (440 : Nat) "CableDrawer$Step" "rounds" "I" "CableDrawer") ∈ lw_tbl := lw_at lw_m4 144 rfl
theorem q1018 : (Jvm.Cond.instanceMethod ({ cls := "CableDrawer", name := "fault", desc := "(I)I" } : Jvm.MethodName)) ∈ lw_all := lw_g (lw_at lw_m4 165 rfl) rfl
theorem q1019 : (Jvm.Cond.selects "CableDrawer" ({ cls := "CableDrawer", name := "fault", desc := "(I)I" } : Jvm.MethodName) ({ cls := "CableDrawer", name := "fault", desc := "(I)I" } : Jvm.MethodName)) ∈ lw_all := lw_g (lw_at lw_m4 166 rfl) rfl
theorem q1020 : (Jvm.Cond.code ({ cls := "CableDrawer", name := "fault", desc := "(I)I" } : Jvm.MethodName) prog_1_method_25_code (2 : Nat) (Option.some Jvm.ClassFile.FieldType.int)) ∈ lw_all := lw_g (lw_at lw_m4 167 rfl) rfl
theorem q1022 : (Jvm.Cond.instanceMethod ({ cls := "CableDrawer", name := "many", desc := "(I)I" } : Jvm.MethodName)) ∈ lw_all := lw_g (lw_at lw_m4 169 rfl) rfl
theorem q1023 : (Jvm.Cond.selects "CableDrawer" ({ cls := "CableDrawer", name := "many", desc := "(I)I" } : Jvm.MethodName) ({ cls := "CableDrawer", name := "many", desc := "(I)I" } : Jvm.MethodName)) ∈ lw_all := lw_g (lw_at lw_m4 170 rfl) rfl
theorem q1024 : (Jvm.Cond.code ({ cls := "CableDrawer", name := "many", desc := "(I)I" } : Jvm.MethodName) prog_1_method_27_code (2 : Nat) (Option.some Jvm.ClassFile.FieldType.int)) ∈ lw_all := lw_g (lw_at lw_m4 171 rfl) rfl
theorem q1025 : (Jvm.Cond.methodLink "CableDrawer" (220 : Nat) ({ cls := "CableDrawer$Drawer", name := "inSet", desc := "()I" } : Jvm.MethodName)) ∈ lw_all := lw_g (lw_at lw_m4 172 rfl) rfl
theorem q1029 : (Jvm.Cond.methodLink "CableDrawer" (224 : Nat) ({ cls := "CableDrawer", name := "clipped", desc := "()I" } : Jvm.MethodName)) ∈ lw_all := lw_g (lw_at lw_m4 176 rfl) rfl
theorem q1030 : (Jvm.Cond.privateMethod ({ cls := "CableDrawer", name := "clipped", desc := "()I" } : Jvm.MethodName)) ∈ lw_tbl := lw_at lw_m4 177 rfl
theorem q1031 : (Jvm.Cond.instanceMethod ({ cls := "CableDrawer", name := "clipped", desc := "()I" } : Jvm.MethodName)) ∈ lw_all := lw_g (lw_at lw_m4 178 rfl) rfl
theorem q1032 : (Jvm.Cond.code ({ cls := "CableDrawer", name := "clipped", desc := "()I" } : Jvm.MethodName) prog_1_method_26_code (3 : Nat) (Option.some Jvm.ClassFile.FieldType.int)) ∈ lw_all := lw_g (lw_at lw_m4 179 rfl) rfl
theorem q1034 : (Jvm.Cond.instanceMethod ({ cls := "CableDrawer", name := "lead", desc := "(II)I" } : Jvm.MethodName)) ∈ lw_all := lw_g (lw_at lw_m4 181 rfl) rfl
theorem q1035 : (Jvm.Cond.selects "CableDrawer" ({ cls := "CableDrawer", name := "lead", desc := "(II)I" } : Jvm.MethodName) ({ cls := "CableDrawer", name := "lead", desc := "(II)I" } : Jvm.MethodName)) ∈ lw_all := lw_g (lw_at lw_m4 182 rfl) rfl
theorem q1036 : (Jvm.Cond.code ({ cls := "CableDrawer", name := "lead", desc := "(II)I" } : Jvm.MethodName) prog_1_method_28_code (4 : Nat) (Option.some Jvm.ClassFile.FieldType.int)) ∈ lw_all := lw_g (lw_at lw_m4 183 rfl) rfl
theorem q1037 : (Jvm.Cond.methodLink "CableDrawer" (158 : Nat) ({ cls := "CableDrawer", name := "isLead", desc := "(I)Z" } : Jvm.MethodName)) ∈ lw_all := lw_g (lw_at lw_m4 184 rfl) rfl
theorem q1038 : (Jvm.Cond.privateMethod ({ cls := "CableDrawer", name := "isLead", desc := "(I)Z" } : Jvm.MethodName)) ∈ lw_tbl := lw_at lw_m4 185 rfl
theorem q1039 : (Jvm.Cond.instanceMethod ({ cls := "CableDrawer", name := "isLead", desc := "(I)Z" } : Jvm.MethodName)) ∈ lw_all := lw_g (lw_at lw_m4 186 rfl) rfl
theorem q1040 : (Jvm.Cond.code ({ cls := "CableDrawer", name := "isLead", desc := "(I)Z" } : Jvm.MethodName) prog_1_method_16_code (2 : Nat) (Option.some Jvm.ClassFile.FieldType.boolean)) ∈ lw_all := lw_g (lw_at lw_m4 187 rfl) rfl
theorem q1041 : (Jvm.Cond.methodLink "CableDrawer" (254 : Nat) ({ cls := "CableDrawer$Drawer", name := "crossings", desc := "(I)I" } : Jvm.MethodName)) ∈ lw_all := lw_g (lw_at lw_m4 188 rfl) rfl
theorem q1053 : (Jvm.Cond.methodLink "CableDrawer" (257 : Nat) ({ cls := "CableDrawer$Lead", name := "risk", desc := "()I" } : Jvm.MethodName)) ∈ lw_all := lw_g (lw_at lw_m4 200 rfl) rfl
theorem q1062 : (Jvm.Cond.instanceMethod ({ cls := "CableDrawer", name := "crossing", desc := "(II)I" } : Jvm.MethodName)) ∈ lw_all := lw_g (lw_at lw_m4 209 rfl) rfl
theorem q1063 : (Jvm.Cond.selects "CableDrawer" ({ cls := "CableDrawer", name := "crossing", desc := "(II)I" } : Jvm.MethodName) ({ cls := "CableDrawer", name := "crossing", desc := "(II)I" } : Jvm.MethodName)) ∈ lw_all := lw_g (lw_at lw_m4 210 rfl) rfl
theorem q1064 : (Jvm.Cond.code ({ cls := "CableDrawer", name := "crossing", desc := "(II)I" } : Jvm.MethodName) prog_1_method_29_code (4 : Nat) (Option.some Jvm.ClassFile.FieldType.int)) ∈ lw_all := lw_g (lw_at lw_m4 211 rfl) rfl
theorem q1065 : (Jvm.Cond.methodLink "CableDrawer" (268 : Nat) ({ cls := "CableDrawer$Crossing", name := "state", desc := "()I" } : Jvm.MethodName)) ∈ lw_all := lw_g (lw_at lw_m4 212 rfl) rfl
theorem q1083 : (Jvm.Cond.instanceMethod ({ cls := "CableDrawer", name := "along", desc := "(II)I" } : Jvm.MethodName)) ∈ lw_all := lw_g (lw_at lw_m4 230 rfl) rfl
theorem q1084 : (Jvm.Cond.selects "CableDrawer" ({ cls := "CableDrawer", name := "along", desc := "(II)I" } : Jvm.MethodName) ({ cls := "CableDrawer", name := "along", desc := "(II)I" } : Jvm.MethodName)) ∈ lw_all := lw_g (lw_at lw_m4 231 rfl) rfl
theorem q1085 : (Jvm.Cond.code ({ cls := "CableDrawer", name := "along", desc := "(II)I" } : Jvm.MethodName) prog_1_method_30_code (3 : Nat) (Option.some Jvm.ClassFile.FieldType.int)) ∈ lw_all := lw_g (lw_at lw_m4 232 rfl) rfl
theorem q1086 : (Jvm.Cond.methodLink "CableDrawer" (271 : Nat) ({ cls := "CableDrawer$Drawer", name := "along", desc := "(II)I" } : Jvm.MethodName)) ∈ lw_all := lw_g (lw_at lw_m4 233 rfl) rfl
theorem q1090 : (Jvm.Cond.methodLink "CableDrawer" (275 : Nat) ({ cls := "CableDrawer", name := "orNothing", desc := "(I)I" } : Jvm.MethodName)) ∈ lw_all := lw_g (lw_at lw_m4 237 rfl) rfl
theorem q1091 : (Jvm.Cond.privateMethod ({ cls := "CableDrawer", name := "orNothing", desc := "(I)I" } : Jvm.MethodName)) ∈ lw_tbl := lw_at lw_m4 238 rfl
theorem q1092 : (Jvm.Cond.instanceMethod ({ cls := "CableDrawer", name := "orNothing", desc := "(I)I" } : Jvm.MethodName)) ∈ lw_all := lw_g (lw_at lw_m4 239 rfl) rfl
theorem q1093 : (Jvm.Cond.code ({ cls := "CableDrawer", name := "orNothing", desc := "(I)I" } : Jvm.MethodName) prog_1_method_8_code (2 : Nat) (Option.some Jvm.ClassFile.FieldType.int)) ∈ lw_all := lw_g (lw_at lw_m5 0 rfl) rfl
theorem q1095 : (Jvm.Cond.instanceMethod ({ cls := "CableDrawer", name := "look", desc := "(I)I" } : Jvm.MethodName)) ∈ lw_all := lw_g (lw_at lw_m5 2 rfl) rfl
theorem q1096 : (Jvm.Cond.selects "CableDrawer" ({ cls := "CableDrawer", name := "look", desc := "(I)I" } : Jvm.MethodName) ({ cls := "CableDrawer", name := "look", desc := "(I)I" } : Jvm.MethodName)) ∈ lw_all := lw_g (lw_at lw_m5 3 rfl) rfl
theorem q1097 : (Jvm.Cond.code ({ cls := "CableDrawer", name := "look", desc := "(I)I" } : Jvm.MethodName) prog_1_method_31_code (2 : Nat) (Option.some Jvm.ClassFile.FieldType.int)) ∈ lw_all := lw_g (lw_at lw_m5 4 rfl) rfl
theorem q1098 : (Jvm.Cond.methodLink "CableDrawer" (278 : Nat) ({ cls := "CableDrawer", name := "isLook", desc := "(I)Z" } : Jvm.MethodName)) ∈ lw_all := lw_g (lw_at lw_m5 5 rfl) rfl
theorem q1099 : (Jvm.Cond.privateMethod ({ cls := "CableDrawer", name := "isLook", desc := "(I)Z" } : Jvm.MethodName)) ∈ lw_tbl := lw_at lw_m5 6 rfl
theorem q1100 : (Jvm.Cond.instanceMethod ({ cls := "CableDrawer", name := "isLook", desc := "(I)Z" } : Jvm.MethodName)) ∈ lw_all := lw_g (lw_at lw_m5 7 rfl) rfl
theorem q1101 : (Jvm.Cond.code ({ cls := "CableDrawer", name := "isLook", desc := "(I)Z" } : Jvm.MethodName) prog_1_method_17_code (2 : Nat) (Option.some Jvm.ClassFile.FieldType.boolean)) ∈ lw_all := lw_g (lw_at lw_m5 8 rfl) rfl
theorem q1103 : (Jvm.Cond.instanceMethod ({ cls := "CableDrawer", name := "between", desc := "(II)I" } : Jvm.MethodName)) ∈ lw_all := lw_g (lw_at lw_m5 10 rfl) rfl
theorem q1104 : (Jvm.Cond.selects "CableDrawer" ({ cls := "CableDrawer", name := "between", desc := "(II)I" } : Jvm.MethodName) ({ cls := "CableDrawer", name := "between", desc := "(II)I" } : Jvm.MethodName)) ∈ lw_all := lw_g (lw_at lw_m5 11 rfl) rfl
theorem q1105 : (Jvm.Cond.code ({ cls := "CableDrawer", name := "between", desc := "(II)I" } : Jvm.MethodName) prog_1_method_32_code (5 : Nat) (Option.some Jvm.ClassFile.FieldType.int)) ∈ lw_all := lw_g (lw_at lw_m5 12 rfl) rfl
theorem q1106 : (Jvm.Cond.methodLink "CableDrawer" (284 : Nat) ({ cls := "CableDrawer$Crossing", name := "isOf", desc := "(I)Z" } : Jvm.MethodName)) ∈ lw_all := lw_g (lw_at lw_m5 13 rfl) rfl
theorem q1108 : (Jvm.Cond.instanceMethod ({ cls := "CableDrawer", name := "copyStates", desc := "(I)I" } : Jvm.MethodName)) ∈ lw_all := lw_g (lw_at lw_m5 15 rfl) rfl
theorem q1109 : (Jvm.Cond.selects "CableDrawer" ({ cls := "CableDrawer", name := "copyStates", desc := "(I)I" } : Jvm.MethodName) ({ cls := "CableDrawer", name := "copyStates", desc := "(I)I" } : Jvm.MethodName)) ∈ lw_all := lw_g (lw_at lw_m5 16 rfl) rfl
theorem q1110 : (Jvm.Cond.code ({ cls := "CableDrawer", name := "copyStates", desc := "(I)I" } : Jvm.MethodName) prog_1_method_33_code (4 : Nat) (Option.some Jvm.ClassFile.FieldType.int)) ∈ lw_all := lw_g (lw_at lw_m5 17 rfl) rfl
theorem q1111 : (Jvm.Cond.methodLink "CableDrawer" (287 : Nat) ({ cls := "CableDrawer$Tray", name := "many", desc := "()I" } : Jvm.MethodName)) ∈ lw_all := lw_g (lw_at lw_m5 18 rfl) rfl
theorem q1116 : (Jvm.Cond.instanceMethod ({ cls := "CableDrawer", name := "follow", desc := "(II)I" } : Jvm.MethodName)) ∈ lw_all := lw_g (lw_at lw_m5 23 rfl) rfl
theorem q1117 : (Jvm.Cond.selects "CableDrawer" ({ cls := "CableDrawer", name := "follow", desc := "(II)I" } : Jvm.MethodName) ({ cls := "CableDrawer", name := "follow", desc := "(II)I" } : Jvm.MethodName)) ∈ lw_all := lw_g (lw_at lw_m5 24 rfl) rfl
theorem q1118 : (Jvm.Cond.code ({ cls := "CableDrawer", name := "follow", desc := "(II)I" } : Jvm.MethodName) prog_1_method_34_code (3 : Nat) (Option.some Jvm.ClassFile.FieldType.int)) ∈ lw_all := lw_g (lw_at lw_m5 25 rfl) rfl
theorem q1119 : (Jvm.Cond.methodLink "CableDrawer" (289 : Nat) ({ cls := "CableDrawer", name := "isFrom", desc := "(JJJ)Z" } : Jvm.MethodName)) ∈ lw_all := lw_g (lw_at lw_m5 26 rfl) rfl
theorem q1120 : (Jvm.Cond.static ({ cls := "CableDrawer", name := "isFrom", desc := "(JJJ)Z" } : Jvm.MethodName)) ∈ lw_all := lw_g (lw_at lw_m5 27 rfl) rfl
theorem q1121 : (Jvm.Cond.code ({ cls := "CableDrawer", name := "isFrom", desc := "(JJJ)Z" } : Jvm.MethodName) prog_1_method_15_code (6 : Nat) (Option.some Jvm.ClassFile.FieldType.boolean)) ∈ lw_all := lw_g (lw_at lw_m5 28 rfl) rfl
theorem q1122 : (Jvm.Cond.methodLink "CableDrawer" (293 : Nat) ({ cls := "CableDrawer$Drawer", name := "follows", desc := "(II)I" } : Jvm.MethodName)) ∈ lw_all := lw_g (lw_at lw_m5 29 rfl) rfl
theorem q1162 : (Jvm.Cond.instanceMethod ({ cls := "CableDrawer", name := "loosen", desc := "()I" } : Jvm.MethodName)) ∈ lw_all := lw_g (lw_at lw_m5 69 rfl) rfl
theorem q1163 : (Jvm.Cond.selects "CableDrawer" ({ cls := "CableDrawer", name := "loosen", desc := "()I" } : Jvm.MethodName) ({ cls := "CableDrawer", name := "loosen", desc := "()I" } : Jvm.MethodName)) ∈ lw_all := lw_g (lw_at lw_m5 70 rfl) rfl
theorem q1164 : (Jvm.Cond.code ({ cls := "CableDrawer", name := "loosen", desc := "()I" } : Jvm.MethodName) prog_1_method_35_code (1 : Nat) (Option.some Jvm.ClassFile.FieldType.int)) ∈ lw_all := lw_g (lw_at lw_m5 71 rfl) rfl
theorem q1165 : (Jvm.Cond.methodLink "CableDrawer" (296 : Nat) ({ cls := "CableDrawer$Drawer", name := "loosens", desc := "()I" } : Jvm.MethodName)) ∈ lw_all := lw_g (lw_at lw_m5 72 rfl) rfl
theorem q1190 : (Jvm.Cond.instanceMethod ({ cls := "CableDrawer", name := "pull", desc := "(I)I" } : Jvm.MethodName)) ∈ lw_all := lw_g (lw_at lw_m5 97 rfl) rfl
theorem q1191 : (Jvm.Cond.selects "CableDrawer" ({ cls := "CableDrawer", name := "pull", desc := "(I)I" } : Jvm.MethodName) ({ cls := "CableDrawer", name := "pull", desc := "(I)I" } : Jvm.MethodName)) ∈ lw_all := lw_g (lw_at lw_m5 98 rfl) rfl
theorem q1192 : (Jvm.Cond.code ({ cls := "CableDrawer", name := "pull", desc := "(I)I" } : Jvm.MethodName) prog_1_method_36_code (3 : Nat) (Option.some Jvm.ClassFile.FieldType.int)) ∈ lw_all := lw_g (lw_at lw_m5 99 rfl) rfl
theorem q1193 : (Jvm.Cond.methodLink "CableDrawer" (299 : Nat) ({ cls := "CableDrawer", name := "wrongLead", desc := "(I)I" } : Jvm.MethodName)) ∈ lw_all := lw_g (lw_at lw_m5 100 rfl) rfl
theorem q1194 : (Jvm.Cond.privateMethod ({ cls := "CableDrawer", name := "wrongLead", desc := "(I)I" } : Jvm.MethodName)) ∈ lw_tbl := lw_at lw_m5 101 rfl
theorem q1195 : (Jvm.Cond.instanceMethod ({ cls := "CableDrawer", name := "wrongLead", desc := "(I)I" } : Jvm.MethodName)) ∈ lw_all := lw_g (lw_at lw_m5 102 rfl) rfl
theorem q1196 : (Jvm.Cond.code ({ cls := "CableDrawer", name := "wrongLead", desc := "(I)I" } : Jvm.MethodName) prog_1_method_18_code (2 : Nat) (Option.some Jvm.ClassFile.FieldType.int)) ∈ lw_all := lw_g (lw_at lw_m5 103 rfl) rfl
theorem q1197 : (Jvm.Cond.methodLink "CableDrawer" (302 : Nat) ({ cls := "CableDrawer$Drawer", name := "pulls", desc := "(I)I" } : Jvm.MethodName)) ∈ lw_all := lw_g (lw_at lw_m5 104 rfl) rfl
theorem q1236 : (Jvm.Cond.instanceMethod ({ cls := "CableDrawer", name := "cut", desc := "(I)I" } : Jvm.MethodName)) ∈ lw_all := lw_g (lw_at lw_m5 143 rfl) rfl
theorem q1237 : (Jvm.Cond.selects "CableDrawer" ({ cls := "CableDrawer", name := "cut", desc := "(I)I" } : Jvm.MethodName) ({ cls := "CableDrawer", name := "cut", desc := "(I)I" } : Jvm.MethodName)) ∈ lw_all := lw_g (lw_at lw_m5 144 rfl) rfl
theorem q1238 : (Jvm.Cond.code ({ cls := "CableDrawer", name := "cut", desc := "(I)I" } : Jvm.MethodName) prog_1_method_37_code (3 : Nat) (Option.some Jvm.ClassFile.FieldType.int)) ∈ lw_all := lw_g (lw_at lw_m5 145 rfl) rfl
theorem q1239 : (Jvm.Cond.methodLink "CableDrawer" (305 : Nat) ({ cls := "CableDrawer$Drawer", name := "cuts", desc := "(I)I" } : Jvm.MethodName)) ∈ lw_all := lw_g (lw_at lw_m5 146 rfl) rfl
theorem q1248 : (Jvm.Cond.instanceMethod ({ cls := "CableDrawer", name := "clip", desc := "(I)Z" } : Jvm.MethodName)) ∈ lw_all := lw_g (lw_at lw_m5 155 rfl) rfl
theorem q1249 : (Jvm.Cond.selects "CableDrawer" ({ cls := "CableDrawer", name := "clip", desc := "(I)Z" } : Jvm.MethodName) ({ cls := "CableDrawer", name := "clip", desc := "(I)Z" } : Jvm.MethodName)) ∈ lw_all := lw_g (lw_at lw_m5 156 rfl) rfl
theorem q1250 : (Jvm.Cond.code ({ cls := "CableDrawer", name := "clip", desc := "(I)Z" } : Jvm.MethodName) prog_1_method_38_code (2 : Nat) (Option.some Jvm.ClassFile.FieldType.boolean)) ∈ lw_all := lw_g (lw_at lw_m5 157 rfl) rfl
theorem q1251 : (Jvm.Cond.methodLink "CableDrawer" (308 : Nat) ({ cls := "CableDrawer$Drawer", name := "clips", desc := "(I)Z" } : Jvm.MethodName)) ∈ lw_all := lw_g (lw_at lw_m5 158 rfl) rfl
theorem q1260 : (Jvm.Cond.instanceMethod ({ cls := "CableDrawer", name := "unclip", desc := "(I)Z" } : Jvm.MethodName)) ∈ lw_all := lw_g (lw_at lw_m5 167 rfl) rfl
theorem q1261 : (Jvm.Cond.selects "CableDrawer" ({ cls := "CableDrawer", name := "unclip", desc := "(I)Z" } : Jvm.MethodName) ({ cls := "CableDrawer", name := "unclip", desc := "(I)Z" } : Jvm.MethodName)) ∈ lw_all := lw_g (lw_at lw_m5 168 rfl) rfl
theorem q1262 : (Jvm.Cond.code ({ cls := "CableDrawer", name := "unclip", desc := "(I)Z" } : Jvm.MethodName) prog_1_method_39_code (3 : Nat) (Option.some Jvm.ClassFile.FieldType.boolean)) ∈ lw_all := lw_g (lw_at lw_m5 169 rfl) rfl
theorem q1264 : (Jvm.Cond.instanceMethod ({ cls := "CableDrawer", name := "cross", desc := "(III)I" } : Jvm.MethodName)) ∈ lw_all := lw_g (lw_at lw_m5 171 rfl) rfl
theorem q1265 : (Jvm.Cond.selects "CableDrawer" ({ cls := "CableDrawer", name := "cross", desc := "(III)I" } : Jvm.MethodName) ({ cls := "CableDrawer", name := "cross", desc := "(III)I" } : Jvm.MethodName)) ∈ lw_all := lw_g (lw_at lw_m5 172 rfl) rfl
theorem q1266 : (Jvm.Cond.code ({ cls := "CableDrawer", name := "cross", desc := "(III)I" } : Jvm.MethodName) prog_1_method_40_code (4 : Nat) (Option.some Jvm.ClassFile.FieldType.int)) ∈ lw_all := lw_g (lw_at lw_m5 173 rfl) rfl
theorem q1267 : (Jvm.Cond.constantLong "CableDrawer" (311 : Nat) (3 : Int64)) ∈ lw_all := lw_g (lw_at lw_m5 174 rfl) rfl
theorem q1268 : (Jvm.Cond.methodLink "CableDrawer" (313 : Nat) ({ cls := "CableDrawer$Lead", name := "mayTangle", desc := "()Z" } : Jvm.MethodName)) ∈ lw_all := lw_g (lw_at lw_m5 175 rfl) rfl
theorem q1269 : (Jvm.Cond.methodLink "CableDrawer" (317 : Nat) ({ cls := "CableDrawer$Drawer", name := "adds", desc := "(III)V" } : Jvm.MethodName)) ∈ lw_all := lw_g (lw_at lw_m5 176 rfl) rfl
theorem q1271 : (Jvm.Cond.instanceMethod ({ cls := "CableDrawer", name := "open", desc := "(I)I" } : Jvm.MethodName)) ∈ lw_all := lw_g (lw_at lw_m5 178 rfl) rfl
theorem q1272 : (Jvm.Cond.selects "CableDrawer" ({ cls := "CableDrawer", name := "open", desc := "(I)I" } : Jvm.MethodName) ({ cls := "CableDrawer", name := "open", desc := "(I)I" } : Jvm.MethodName)) ∈ lw_all := lw_g (lw_at lw_m5 179 rfl) rfl
theorem q1273 : (Jvm.Cond.code ({ cls := "CableDrawer", name := "open", desc := "(I)I" } : Jvm.MethodName) prog_1_method_45_code (2 : Nat) (Option.some Jvm.ClassFile.FieldType.int)) ∈ lw_all := lw_g (lw_at lw_m5 180 rfl) rfl
theorem q1274 : (Jvm.Cond.constantLong "CableDrawer" (337 : Nat) (9999 : Int64)) ∈ lw_all := lw_g (lw_at lw_m5 181 rfl) rfl
theorem q1275 : (Jvm.Cond.methodLink "CableDrawer" (339 : Nat) ({ cls := "CableDrawer", name := "opens", desc := "()I" } : Jvm.MethodName)) ∈ lw_all := lw_g (lw_at lw_m5 182 rfl) rfl
theorem q1276 : (Jvm.Cond.privateMethod ({ cls := "CableDrawer", name := "opens", desc := "()I" } : Jvm.MethodName)) ∈ lw_tbl := lw_at lw_m5 183 rfl
theorem q1277 : (Jvm.Cond.instanceMethod ({ cls := "CableDrawer", name := "opens", desc := "()I" } : Jvm.MethodName)) ∈ lw_all := lw_g (lw_at lw_m5 184 rfl) rfl
theorem q1278 : (Jvm.Cond.code ({ cls := "CableDrawer", name := "opens", desc := "()I" } : Jvm.MethodName) prog_1_method_44_code (7 : Nat) (Option.some Jvm.ClassFile.FieldType.int)) ∈ lw_all := lw_g (lw_at lw_m5 185 rfl) rfl
theorem q1279 : (Jvm.Cond.methodLink "CableDrawer" (325 : Nat) ({ cls := "CableDrawer", name := "draw", desc := "(I)I" } : Jvm.MethodName)) ∈ lw_all := lw_g (lw_at lw_m5 186 rfl) rfl
theorem q1280 : (Jvm.Cond.privateMethod ({ cls := "CableDrawer", name := "draw", desc := "(I)I" } : Jvm.MethodName)) ∈ lw_tbl := lw_at lw_m5 187 rfl
theorem q1281 : (Jvm.Cond.instanceMethod ({ cls := "CableDrawer", name := "draw", desc := "(I)I" } : Jvm.MethodName)) ∈ lw_all := lw_g (lw_at lw_m5 188 rfl) rfl
theorem q1282 : (Jvm.Cond.code ({ cls := "CableDrawer", name := "draw", desc := "(I)I" } : Jvm.MethodName) prog_1_method_41_code (2 : Nat) (Option.some Jvm.ClassFile.FieldType.int)) ∈ lw_all := lw_g (lw_at lw_m5 189 rfl) rfl
theorem q1283 : (Jvm.Cond.constant "CableDrawer" (324 : Nat) (65536 : Int32)) ∈ lw_all := lw_g (lw_at lw_m5 190 rfl) rfl
theorem q1284 : (Jvm.Cond.methodLink "CableDrawer" (328 : Nat) ({ cls := "CableDrawer", name := "others", desc := "(I)I" } : Jvm.MethodName)) ∈ lw_all := lw_g (lw_at lw_m5 191 rfl) rfl
theorem q1285 : (Jvm.Cond.privateMethod ({ cls := "CableDrawer", name := "others", desc := "(I)I" } : Jvm.MethodName)) ∈ lw_tbl := lw_at lw_m5 192 rfl
theorem q1286 : (Jvm.Cond.instanceMethod ({ cls := "CableDrawer", name := "others", desc := "(I)I" } : Jvm.MethodName)) ∈ lw_all := lw_g (lw_at lw_m5 193 rfl) rfl
theorem q1287 : (Jvm.Cond.code ({ cls := "CableDrawer", name := "others", desc := "(I)I" } : Jvm.MethodName) prog_1_method_42_code (4 : Nat) (Option.some Jvm.ClassFile.FieldType.int)) ∈ lw_all := lw_g (lw_at lw_m5 194 rfl) rfl
theorem q1288 : (Jvm.Cond.methodLink "CableDrawer" (331 : Nat) ({ cls := "CableDrawer", name := "other", desc := "(II)I" } : Jvm.MethodName)) ∈ lw_all := lw_g (lw_at lw_m5 195 rfl) rfl
theorem q1289 : (Jvm.Cond.privateMethod ({ cls := "CableDrawer", name := "other", desc := "(II)I" } : Jvm.MethodName)) ∈ lw_tbl := lw_at lw_m5 196 rfl
theorem q1290 : (Jvm.Cond.instanceMethod ({ cls := "CableDrawer", name := "other", desc := "(II)I" } : Jvm.MethodName)) ∈ lw_all := lw_g (lw_at lw_m5 197 rfl) rfl
theorem q1291 : (Jvm.Cond.code ({ cls := "CableDrawer", name := "other", desc := "(II)I" } : Jvm.MethodName) prog_1_method_43_code (5 : Nat) (Option.some Jvm.ClassFile.FieldType.int)) ∈ lw_all := lw_g (lw_at lw_m5 198 rfl) rfl
theorem q1292 : (Jvm.Cond.methodLink "CableDrawer" (334 : Nat) ({ cls := "java/lang/Math", name := "min", desc := "(II)I" } : Jvm.MethodName)) ∈ lw_all := lw_g (lw_at lw_m5 199 rfl) rfl
theorem q1294 : (Jvm.Cond.instanceMethod ({ cls := "CableDrawer", name := "lump", desc := "(I)I" } : Jvm.MethodName)) ∈ lw_all := lw_g (lw_at lw_m5 201 rfl) rfl
theorem q1295 : (Jvm.Cond.selects "CableDrawer" ({ cls := "CableDrawer", name := "lump", desc := "(I)I" } : Jvm.MethodName) ({ cls := "CableDrawer", name := "lump", desc := "(I)I" } : Jvm.MethodName)) ∈ lw_all := lw_g (lw_at lw_m5 202 rfl) rfl
theorem q1296 : (Jvm.Cond.code ({ cls := "CableDrawer", name := "lump", desc := "(I)I" } : Jvm.MethodName) prog_1_method_46_code (3 : Nat) (Option.some Jvm.ClassFile.FieldType.int)) ∈ lw_all := lw_g (lw_at lw_m5 203 rfl) rfl
theorem q1297 : (Jvm.Cond.methodLink "CableDrawer" (342 : Nat) ({ cls := "CableDrawer$Drawer", name := "lump", desc := "(I)I" } : Jvm.MethodName)) ∈ lw_all := lw_g (lw_at lw_m5 204 rfl) rfl
theorem q1299 : (Jvm.Cond.instanceMethod ({ cls := "CableDrawer", name := "lumps", desc := "(I)I" } : Jvm.MethodName)) ∈ lw_all := lw_g (lw_at lw_m5 206 rfl) rfl
theorem q1300 : (Jvm.Cond.selects "CableDrawer" ({ cls := "CableDrawer", name := "lumps", desc := "(I)I" } : Jvm.MethodName) ({ cls := "CableDrawer", name := "lumps", desc := "(I)I" } : Jvm.MethodName)) ∈ lw_all := lw_g (lw_at lw_m5 207 rfl) rfl
theorem q1301 : (Jvm.Cond.code ({ cls := "CableDrawer", name := "lumps", desc := "(I)I" } : Jvm.MethodName) prog_1_method_47_code (4 : Nat) (Option.some Jvm.ClassFile.FieldType.int)) ∈ lw_all := lw_g (lw_at lw_m5 208 rfl) rfl
theorem q1302 : (Jvm.Cond.methodLink "CableDrawer" (345 : Nat) ({ cls := "CableDrawer$Drawer", name := "largest", desc := "()I" } : Jvm.MethodName)) ∈ lw_all := lw_g (lw_at lw_m5 209 rfl) rfl
theorem q1307 : (Jvm.Cond.methodLink "CableDrawer" (348 : Nat) ({ cls := "CableDrawer$Drawer", name := "comes", desc := "(I)Z" } : Jvm.MethodName)) ∈ lw_all := lw_g (lw_at lw_m5 214 rfl) rfl
theorem q1312 : (Jvm.Cond.instanceMethod ({ cls := "CableDrawer", name := "comes", desc := "(I)I" } : Jvm.MethodName)) ∈ lw_all := lw_g (lw_at lw_m5 219 rfl) rfl
theorem q1313 : (Jvm.Cond.selects "CableDrawer" ({ cls := "CableDrawer", name := "comes", desc := "(I)I" } : Jvm.MethodName) ({ cls := "CableDrawer", name := "comes", desc := "(I)I" } : Jvm.MethodName)) ∈ lw_all := lw_g (lw_at lw_m5 220 rfl) rfl
theorem q1314 : (Jvm.Cond.code ({ cls := "CableDrawer", name := "comes", desc := "(I)I" } : Jvm.MethodName) prog_1_method_48_code (3 : Nat) (Option.some Jvm.ClassFile.FieldType.int)) ∈ lw_all := lw_g (lw_at lw_m5 221 rfl) rfl
theorem q1316 : (Jvm.Cond.instanceMethod ({ cls := "CableDrawer", name := "easy", desc := "()I" } : Jvm.MethodName)) ∈ lw_all := lw_g (lw_at lw_m5 223 rfl) rfl
theorem q1317 : (Jvm.Cond.selects "CableDrawer" ({ cls := "CableDrawer", name := "easy", desc := "()I" } : Jvm.MethodName) ({ cls := "CableDrawer", name := "easy", desc := "()I" } : Jvm.MethodName)) ∈ lw_all := lw_g (lw_at lw_m5 224 rfl) rfl
theorem q1318 : (Jvm.Cond.code ({ cls := "CableDrawer", name := "easy", desc := "()I" } : Jvm.MethodName) prog_1_method_49_code (3 : Nat) (Option.some Jvm.ClassFile.FieldType.int)) ∈ lw_all := lw_g (lw_at lw_m5 225 rfl) rfl
theorem q1320 : (Jvm.Cond.instanceMethod ({ cls := "CableDrawer", name := "free", desc := "(I)I" } : Jvm.MethodName)) ∈ lw_all := lw_g (lw_at lw_m5 227 rfl) rfl
theorem q1321 : (Jvm.Cond.selects "CableDrawer" ({ cls := "CableDrawer", name := "free", desc := "(I)I" } : Jvm.MethodName) ({ cls := "CableDrawer", name := "free", desc := "(I)I" } : Jvm.MethodName)) ∈ lw_all := lw_g (lw_at lw_m5 228 rfl) rfl
theorem q1322 : (Jvm.Cond.code ({ cls := "CableDrawer", name := "free", desc := "(I)I" } : Jvm.MethodName) prog_1_method_50_code (2 : Nat) (Option.some Jvm.ClassFile.FieldType.int)) ∈ lw_all := lw_g (lw_at lw_m5 229 rfl) rfl
theorem q1323 : (Jvm.Cond.methodLink "CableDrawer" (351 : Nat) ({ cls := "CableDrawer$Drawer", name := "isFree", desc := "(I)Z" } : Jvm.MethodName)) ∈ lw_all := lw_g (lw_at lw_m5 230 rfl) rfl
theorem q1328 : (Jvm.Cond.instanceMethod ({ cls := "CableDrawer", name := "inState", desc := "(I)I" } : Jvm.MethodName)) ∈ lw_all := lw_g (lw_at lw_m5 235 rfl) rfl
theorem q1329 : (Jvm.Cond.selects "CableDrawer" ({ cls := "CableDrawer", name := "inState", desc := "(I)I" } : Jvm.MethodName) ({ cls := "CableDrawer", name := "inState", desc := "(I)I" } : Jvm.MethodName)) ∈ lw_all := lw_g (lw_at lw_m5 236 rfl) rfl
theorem q1330 : (Jvm.Cond.code ({ cls := "CableDrawer", name := "inState", desc := "(I)I" } : Jvm.MethodName) prog_1_method_52_code (2 : Nat) (Option.some Jvm.ClassFile.FieldType.int)) ∈ lw_all := lw_g (lw_at lw_m5 237 rfl) rfl
theorem q1331 : (Jvm.Cond.methodLink "CableDrawer" (354 : Nat) ({ cls := "CableDrawer", name := "stateMany", desc := "(I)I" } : Jvm.MethodName)) ∈ lw_all := lw_g (lw_at lw_m5 238 rfl) rfl
theorem q1332 : (Jvm.Cond.privateMethod ({ cls := "CableDrawer", name := "stateMany", desc := "(I)I" } : Jvm.MethodName)) ∈ lw_tbl := lw_at lw_m5 239 rfl
theorem q1333 : (Jvm.Cond.instanceMethod ({ cls := "CableDrawer", name := "stateMany", desc := "(I)I" } : Jvm.MethodName)) ∈ lw_all := lw_g (lw_at lw_m6 0 rfl) rfl
theorem q1334 : (Jvm.Cond.code ({ cls := "CableDrawer", name := "stateMany", desc := "(I)I" } : Jvm.MethodName) prog_1_method_51_code (4 : Nat) (Option.some Jvm.ClassFile.FieldType.int)) ∈ lw_all := lw_g (lw_at lw_m6 1 rfl) rfl
theorem q1336 : (Jvm.Cond.instanceMethod ({ cls := "CableDrawer", name := "worse", desc := "(II)I" } : Jvm.MethodName)) ∈ lw_all := lw_g (lw_at lw_m6 3 rfl) rfl
theorem q1337 : (Jvm.Cond.selects "CableDrawer" ({ cls := "CableDrawer", name := "worse", desc := "(II)I" } : Jvm.MethodName) ({ cls := "CableDrawer", name := "worse", desc := "(II)I" } : Jvm.MethodName)) ∈ lw_all := lw_g (lw_at lw_m6 4 rfl) rfl
theorem q1338 : (Jvm.Cond.code ({ cls := "CableDrawer", name := "worse", desc := "(II)I" } : Jvm.MethodName) prog_1_method_53_code (6 : Nat) (Option.some Jvm.ClassFile.FieldType.int)) ∈ lw_all := lw_g (lw_at lw_m6 5 rfl) rfl
theorem q1339 : (Jvm.Cond.methodLink "CableDrawer" (357 : Nat) ({ cls := "CableDrawer$Drawer", name := "twin", desc := "()LCableDrawer$Drawer;" } : Jvm.MethodName)) ∈ lw_all := lw_g (lw_at lw_m6 6 rfl) rfl
theorem q1353 : (Jvm.Cond.instanceMethod ({ cls := "CableDrawer", name := "worst", desc := "()I" } : Jvm.MethodName)) ∈ lw_all := lw_g (lw_at lw_m6 20 rfl) rfl
theorem q1354 : (Jvm.Cond.selects "CableDrawer" ({ cls := "CableDrawer", name := "worst", desc := "()I" } : Jvm.MethodName) ({ cls := "CableDrawer", name := "worst", desc := "()I" } : Jvm.MethodName)) ∈ lw_all := lw_g (lw_at lw_m6 21 rfl) rfl
theorem q1355 : (Jvm.Cond.code ({ cls := "CableDrawer", name := "worst", desc := "()I" } : Jvm.MethodName) prog_1_method_54_code (3 : Nat) (Option.some Jvm.ClassFile.FieldType.int)) ∈ lw_all := lw_g (lw_at lw_m6 22 rfl) rfl
theorem q1357 : (Jvm.Cond.instanceMethod ({ cls := "CableDrawer", name := "key", desc := "()I" } : Jvm.MethodName)) ∈ lw_all := lw_g (lw_at lw_m6 24 rfl) rfl
theorem q1358 : (Jvm.Cond.selects "CableDrawer" ({ cls := "CableDrawer", name := "key", desc := "()I" } : Jvm.MethodName) ({ cls := "CableDrawer", name := "key", desc := "()I" } : Jvm.MethodName)) ∈ lw_all := lw_g (lw_at lw_m6 25 rfl) rfl
theorem q1359 : (Jvm.Cond.code ({ cls := "CableDrawer", name := "key", desc := "()I" } : Jvm.MethodName) prog_1_method_55_code (5 : Nat) (Option.some Jvm.ClassFile.FieldType.int)) ∈ lw_all := lw_g (lw_at lw_m6 26 rfl) rfl
theorem q1361 : (Jvm.Cond.instanceMethod ({ cls := "CableDrawer", name := "alone", desc := "(I)I" } : Jvm.MethodName)) ∈ lw_all := lw_g (lw_at lw_m6 28 rfl) rfl
theorem q1362 : (Jvm.Cond.selects "CableDrawer" ({ cls := "CableDrawer", name := "alone", desc := "(I)I" } : Jvm.MethodName) ({ cls := "CableDrawer", name := "alone", desc := "(I)I" } : Jvm.MethodName)) ∈ lw_all := lw_g (lw_at lw_m6 29 rfl) rfl
theorem q1363 : (Jvm.Cond.code ({ cls := "CableDrawer", name := "alone", desc := "(I)I" } : Jvm.MethodName) prog_1_method_63_code (4 : Nat) (Option.some Jvm.ClassFile.FieldType.int)) ∈ lw_all := lw_g (lw_at lw_m6 30 rfl) rfl
theorem q1364 : (Jvm.Cond.methodLink "CableDrawer" (395 : Nat) ({ cls := "CableDrawer", name := "aloneOf", desc := "(I)I" } : Jvm.MethodName)) ∈ lw_all := lw_g (lw_at lw_m6 31 rfl) rfl
theorem q1365 : (Jvm.Cond.privateMethod ({ cls := "CableDrawer", name := "aloneOf", desc := "(I)I" } : Jvm.MethodName)) ∈ lw_tbl := lw_at lw_m6 32 rfl
theorem q1366 : (Jvm.Cond.instanceMethod ({ cls := "CableDrawer", name := "aloneOf", desc := "(I)I" } : Jvm.MethodName)) ∈ lw_all := lw_g (lw_at lw_m6 33 rfl) rfl
theorem q1367 : (Jvm.Cond.code ({ cls := "CableDrawer", name := "aloneOf", desc := "(I)I" } : Jvm.MethodName) prog_1_method_62_code (6 : Nat) (Option.some Jvm.ClassFile.FieldType.int)) ∈ lw_all := lw_g (lw_at lw_m6 34 rfl) rfl
theorem q1368 : (Jvm.Cond.constant "CableDrawer" (375 : Nat) (1000000 : Int32)) ∈ lw_all := lw_g (lw_at lw_m6 35 rfl) rfl
theorem q1369 : (Jvm.Cond.methodLink "CableDrawer" (388 : Nat) ({ cls := "CableDrawer", name := "least", desc := "(III)I" } : Jvm.MethodName)) ∈ lw_all := lw_g (lw_at lw_m6 36 rfl) rfl
theorem q1370 : (Jvm.Cond.privateMethod ({ cls := "CableDrawer", name := "least", desc := "(III)I" } : Jvm.MethodName)) ∈ lw_tbl := lw_at lw_m6 37 rfl
theorem q1371 : (Jvm.Cond.instanceMethod ({ cls := "CableDrawer", name := "least", desc := "(III)I" } : Jvm.MethodName)) ∈ lw_all := lw_g (lw_at lw_m6 38 rfl) rfl
theorem q1372 : (Jvm.Cond.code ({ cls := "CableDrawer", name := "least", desc := "(III)I" } : Jvm.MethodName) prog_1_method_60_code (8 : Nat) (Option.some Jvm.ClassFile.FieldType.int)) ∈ lw_all := lw_g (lw_at lw_m6 39 rfl) rfl
theorem q1373 : (Jvm.Cond.methodLink "CableDrawer" (376 : Nat) ({ cls := "CableDrawer", name := "lays", desc := "(III)V" } : Jvm.MethodName)) ∈ lw_all := lw_g (lw_at lw_m6 40 rfl) rfl
theorem q1374 : (Jvm.Cond.privateMethod ({ cls := "CableDrawer", name := "lays", desc := "(III)V" } : Jvm.MethodName)) ∈ lw_tbl := lw_at lw_m6 41 rfl
theorem q1375 : (Jvm.Cond.instanceMethod ({ cls := "CableDrawer", name := "lays", desc := "(III)V" } : Jvm.MethodName)) ∈ lw_all := lw_g (lw_at lw_m6 42 rfl) rfl
theorem q1376 : (Jvm.Cond.code ({ cls := "CableDrawer", name := "lays", desc := "(III)V" } : Jvm.MethodName) prog_1_method_57_code (7 : Nat) (Option.none : Option Jvm.ClassFile.FieldType)) ∈ lw_all := lw_g (lw_at lw_m6 43 rfl) rfl
theorem q1377 : (Jvm.Cond.methodLink "CableDrawer" (367 : Nat) ({ cls := "CableDrawer", name := "loosened", desc := "(II)I" } : Jvm.MethodName)) ∈ lw_all := lw_g (lw_at lw_m6 44 rfl) rfl
theorem q1378 : (Jvm.Cond.static ({ cls := "CableDrawer", name := "loosened", desc := "(II)I" } : Jvm.MethodName)) ∈ lw_all := lw_g (lw_at lw_m6 45 rfl) rfl
theorem q1379 : (Jvm.Cond.code ({ cls := "CableDrawer", name := "loosened", desc := "(II)I" } : Jvm.MethodName) prog_1_method_56_code (2 : Nat) (Option.some Jvm.ClassFile.FieldType.int)) ∈ lw_all := lw_g (lw_at lw_m6 46 rfl) rfl
theorem q1380 : (Jvm.Cond.methodLink "CableDrawer" (361 : Nat) ({ cls := "java/lang/Math", name := "max", desc := "(II)I" } : Jvm.MethodName)) ∈ lw_all := lw_g (lw_at lw_m6 47 rfl) rfl
theorem q1381 : (Jvm.Cond.methodLink "CableDrawer" (370 : Nat) ({ cls := "CableDrawer$Crossing", name := "other", desc := "(I)I" } : Jvm.MethodName)) ∈ lw_all := lw_g (lw_at lw_m6 48 rfl) rfl
theorem q1382 : (Jvm.Cond.methodLink "CableDrawer" (379 : Nat) ({ cls := "CableDrawer", name := "secondsBy", desc := "(II)I" } : Jvm.MethodName)) ∈ lw_all := lw_g (lw_at lw_m6 49 rfl) rfl
theorem q1383 : (Jvm.Cond.privateMethod ({ cls := "CableDrawer", name := "secondsBy", desc := "(II)I" } : Jvm.MethodName)) ∈ lw_tbl := lw_at lw_m6 50 rfl
theorem q1384 : (Jvm.Cond.instanceMethod ({ cls := "CableDrawer", name := "secondsBy", desc := "(II)I" } : Jvm.MethodName)) ∈ lw_all := lw_g (lw_at lw_m6 51 rfl) rfl
theorem q1385 : (Jvm.Cond.code ({ cls := "CableDrawer", name := "secondsBy", desc := "(II)I" } : Jvm.MethodName) prog_1_method_59_code (5 : Nat) (Option.some Jvm.ClassFile.FieldType.int)) ∈ lw_all := lw_g (lw_at lw_m6 52 rfl) rfl
theorem q1386 : (Jvm.Cond.methodLink "CableDrawer" (372 : Nat) ({ cls := "CableDrawer", name := "secondsAt", desc := "(I)I" } : Jvm.MethodName)) ∈ lw_all := lw_g (lw_at lw_m6 53 rfl) rfl
theorem q1387 : (Jvm.Cond.privateMethod ({ cls := "CableDrawer", name := "secondsAt", desc := "(I)I" } : Jvm.MethodName)) ∈ lw_tbl := lw_at lw_m6 54 rfl
theorem q1388 : (Jvm.Cond.instanceMethod ({ cls := "CableDrawer", name := "secondsAt", desc := "(I)I" } : Jvm.MethodName)) ∈ lw_all := lw_g (lw_at lw_m6 55 rfl) rfl
theorem q1389 : (Jvm.Cond.code ({ cls := "CableDrawer", name := "secondsAt", desc := "(I)I" } : Jvm.MethodName) prog_1_method_58_code (2 : Nat) (Option.some Jvm.ClassFile.FieldType.int)) ∈ lw_all := lw_g (lw_at lw_m6 56 rfl) rfl
theorem q1390 : (Jvm.Cond.methodLink "CableDrawer" (392 : Nat) ({ cls := "CableDrawer", name := "leftBy", desc := "(I)I" } : Jvm.MethodName)) ∈ lw_all := lw_g (lw_at lw_m6 57 rfl) rfl
theorem q1391 : (Jvm.Cond.privateMethod ({ cls := "CableDrawer", name := "leftBy", desc := "(I)I" } : Jvm.MethodName)) ∈ lw_tbl := lw_at lw_m6 58 rfl
theorem q1392 : (Jvm.Cond.instanceMethod ({ cls := "CableDrawer", name := "leftBy", desc := "(I)I" } : Jvm.MethodName)) ∈ lw_all := lw_g (lw_at lw_m6 59 rfl) rfl
theorem q1393 : (Jvm.Cond.code ({ cls := "CableDrawer", name := "leftBy", desc := "(I)I" } : Jvm.MethodName) prog_1_method_61_code (4 : Nat) (Option.some Jvm.ClassFile.FieldType.int)) ∈ lw_all := lw_g (lw_at lw_m6 60 rfl) rfl
theorem q1395 : (Jvm.Cond.instanceMethod ({ cls := "CableDrawer", name := "way", desc := "(I)I" } : Jvm.MethodName)) ∈ lw_all := lw_g (lw_at lw_m6 62 rfl) rfl
theorem q1396 : (Jvm.Cond.selects "CableDrawer" ({ cls := "CableDrawer", name := "way", desc := "(I)I" } : Jvm.MethodName) ({ cls := "CableDrawer", name := "way", desc := "(I)I" } : Jvm.MethodName)) ∈ lw_all := lw_g (lw_at lw_m6 63 rfl) rfl
theorem q1397 : (Jvm.Cond.code ({ cls := "CableDrawer", name := "way", desc := "(I)I" } : Jvm.MethodName) prog_1_method_64_code (2 : Nat) (Option.some Jvm.ClassFile.FieldType.int)) ∈ lw_all := lw_g (lw_at lw_m6 64 rfl) rfl
theorem q1399 : (Jvm.Cond.instanceMethod ({ cls := "CableDrawer", name := "follows", desc := "(III)I" } : Jvm.MethodName)) ∈ lw_all := lw_g (lw_at lw_m6 66 rfl) rfl
theorem q1400 : (Jvm.Cond.selects "CableDrawer" ({ cls := "CableDrawer", name := "follows", desc := "(III)I" } : Jvm.MethodName) ({ cls := "CableDrawer", name := "follows", desc := "(III)I" } : Jvm.MethodName)) ∈ lw_all := lw_g (lw_at lw_m6 67 rfl) rfl
theorem q1401 : (Jvm.Cond.code ({ cls := "CableDrawer", name := "follows", desc := "(III)I" } : Jvm.MethodName) prog_1_method_65_code (7 : Nat) (Option.some Jvm.ClassFile.FieldType.int)) ∈ lw_all := lw_g (lw_at lw_m6 68 rfl) rfl
theorem q1403 : (Jvm.Cond.instanceMethod ({ cls := "CableDrawer", name := "all", desc := "()I" } : Jvm.MethodName)) ∈ lw_all := lw_g (lw_at lw_m6 70 rfl) rfl
theorem q1404 : (Jvm.Cond.selects "CableDrawer" ({ cls := "CableDrawer", name := "all", desc := "()I" } : Jvm.MethodName) ({ cls := "CableDrawer", name := "all", desc := "()I" } : Jvm.MethodName)) ∈ lw_all := lw_g (lw_at lw_m6 71 rfl) rfl
theorem q1405 : (Jvm.Cond.code ({ cls := "CableDrawer", name := "all", desc := "()I" } : Jvm.MethodName) prog_1_method_67_code (5 : Nat) (Option.some Jvm.ClassFile.FieldType.int)) ∈ lw_all := lw_g (lw_at lw_m6 72 rfl) rfl
theorem q1406 : (Jvm.Cond.methodLink "CableDrawer" (401 : Nat) ({ cls := "CableDrawer", name := "restOf", desc := "(I)I" } : Jvm.MethodName)) ∈ lw_all := lw_g (lw_at lw_m6 73 rfl) rfl
theorem q1407 : (Jvm.Cond.privateMethod ({ cls := "CableDrawer", name := "restOf", desc := "(I)I" } : Jvm.MethodName)) ∈ lw_tbl := lw_at lw_m6 74 rfl
theorem q1408 : (Jvm.Cond.instanceMethod ({ cls := "CableDrawer", name := "restOf", desc := "(I)I" } : Jvm.MethodName)) ∈ lw_all := lw_g (lw_at lw_m6 75 rfl) rfl
theorem q1409 : (Jvm.Cond.code ({ cls := "CableDrawer", name := "restOf", desc := "(I)I" } : Jvm.MethodName) prog_1_method_66_code (6 : Nat) (Option.some Jvm.ClassFile.FieldType.int)) ∈ lw_all := lw_g (lw_at lw_m6 76 rfl) rfl
theorem q1410 : (Jvm.Cond.methodLink "CableDrawer" (404 : Nat) ({ cls := "CableDrawer", name := "ordersBy", desc := "(I)V" } : Jvm.MethodName)) ∈ lw_all := lw_g (lw_at lw_m6 77 rfl) rfl
theorem q1411 : (Jvm.Cond.privateMethod ({ cls := "CableDrawer", name := "ordersBy", desc := "(I)V" } : Jvm.MethodName)) ∈ lw_tbl := lw_at lw_m6 78 rfl
theorem q1412 : (Jvm.Cond.instanceMethod ({ cls := "CableDrawer", name := "ordersBy", desc := "(I)V" } : Jvm.MethodName)) ∈ lw_all := lw_g (lw_at lw_m6 79 rfl) rfl
theorem q1413 : (Jvm.Cond.code ({ cls := "CableDrawer", name := "ordersBy", desc := "(I)V" } : Jvm.MethodName) prog_1_method_68_code (5 : Nat) (Option.none : Option Jvm.ClassFile.FieldType)) ∈ lw_all := lw_g (lw_at lw_m6 80 rfl) rfl
theorem q1415 : (Jvm.Cond.instanceMethod ({ cls := "CableDrawer", name := "order", desc := "(I)I" } : Jvm.MethodName)) ∈ lw_all := lw_g (lw_at lw_m6 82 rfl) rfl
theorem q1416 : (Jvm.Cond.selects "CableDrawer" ({ cls := "CableDrawer", name := "order", desc := "(I)I" } : Jvm.MethodName) ({ cls := "CableDrawer", name := "order", desc := "(I)I" } : Jvm.MethodName)) ∈ lw_all := lw_g (lw_at lw_m6 83 rfl) rfl
theorem q1417 : (Jvm.Cond.code ({ cls := "CableDrawer", name := "order", desc := "(I)I" } : Jvm.MethodName) prog_1_method_69_code (2 : Nat) (Option.some Jvm.ClassFile.FieldType.int)) ∈ lw_all := lw_g (lw_at lw_m6 84 rfl) rfl
theorem q1419 : (Jvm.Cond.instanceMethod ({ cls := "CableDrawer", name := "loosens", desc := "()I" } : Jvm.MethodName)) ∈ lw_all := lw_g (lw_at lw_m6 86 rfl) rfl
theorem q1420 : (Jvm.Cond.selects "CableDrawer" ({ cls := "CableDrawer", name := "loosens", desc := "()I" } : Jvm.MethodName) ({ cls := "CableDrawer", name := "loosens", desc := "()I" } : Jvm.MethodName)) ∈ lw_all := lw_g (lw_at lw_m6 87 rfl) rfl
theorem q1421 : (Jvm.Cond.code ({ cls := "CableDrawer", name := "loosens", desc := "()I" } : Jvm.MethodName) prog_1_method_70_code (1 : Nat) (Option.some Jvm.ClassFile.FieldType.int)) ∈ lw_all := lw_g (lw_at lw_m6 88 rfl) rfl
theorem q1423 : (Jvm.Cond.instanceMethod ({ cls := "CableDrawer", name := "soonest", desc := "()I" } : Jvm.MethodName)) ∈ lw_all := lw_g (lw_at lw_m6 90 rfl) rfl
theorem q1424 : (Jvm.Cond.selects "CableDrawer" ({ cls := "CableDrawer", name := "soonest", desc := "()I" } : Jvm.MethodName) ({ cls := "CableDrawer", name := "soonest", desc := "()I" } : Jvm.MethodName)) ∈ lw_all := lw_g (lw_at lw_m6 91 rfl) rfl
theorem q1425 : (Jvm.Cond.code ({ cls := "CableDrawer", name := "soonest", desc := "()I" } : Jvm.MethodName) prog_1_method_71_code (5 : Nat) (Option.some Jvm.ClassFile.FieldType.int)) ∈ lw_all := lw_g (lw_at lw_m6 92 rfl) rfl
theorem q1427 : (Jvm.Cond.instanceMethod ({ cls := "CableDrawer", name := "fresh", desc := "(II)Z" } : Jvm.MethodName)) ∈ lw_all := lw_g (lw_at lw_m6 94 rfl) rfl
theorem q1428 : (Jvm.Cond.selects "CableDrawer" ({ cls := "CableDrawer", name := "fresh", desc := "(II)Z" } : Jvm.MethodName) ({ cls := "CableDrawer", name := "fresh", desc := "(II)Z" } : Jvm.MethodName)) ∈ lw_all := lw_g (lw_at lw_m6 95 rfl) rfl
theorem q1429 : (Jvm.Cond.code ({ cls := "CableDrawer", name := "fresh", desc := "(II)Z" } : Jvm.MethodName) prog_1_method_72_code (4 : Nat) (Option.some Jvm.ClassFile.FieldType.boolean)) ∈ lw_all := lw_g (lw_at lw_m6 96 rfl) rfl
theorem q1430 : (Jvm.Cond.constantLong "CableDrawer" (410 : Nat) (999 : Int64)) ∈ lw_all := lw_g (lw_at lw_m6 97 rfl) rfl
theorem q1431 : (Jvm.Cond.constantLong "CableDrawer" (412 : Nat) (60 : Int64)) ∈ lw_all := lw_g (lw_at lw_m6 98 rfl) rfl
theorem q1432 : (Jvm.Cond.methodLink "CableDrawer" (414 : Nat) ({ cls := "CableDrawer", name := "tell", desc := "(JJ)Z" } : Jvm.MethodName)) ∈ lw_all := lw_g (lw_at lw_m6 99 rfl) rfl
theorem q1433 : (Jvm.Cond.privateMethod ({ cls := "CableDrawer", name := "tell", desc := "(JJ)Z" } : Jvm.MethodName)) ∈ lw_tbl := lw_at lw_m6 100 rfl
theorem q1434 : (Jvm.Cond.instanceMethod ({ cls := "CableDrawer", name := "tell", desc := "(JJ)Z" } : Jvm.MethodName)) ∈ lw_all := lw_g (lw_at lw_m6 101 rfl) rfl
theorem q1435 : (Jvm.Cond.code ({ cls := "CableDrawer", name := "tell", desc := "(JJ)Z" } : Jvm.MethodName) prog_1_method_9_code (11 : Nat) (Option.some Jvm.ClassFile.FieldType.boolean)) ∈ lw_all := lw_g (lw_at lw_m6 102 rfl) rfl
theorem q1436 : (Jvm.Cond.methodLink "CableDrawer" (104 : Nat) ({ cls := "java/lang/Math", name := "abs", desc := "(J)J" } : Jvm.MethodName)) ∈ lw_all := lw_g (lw_at lw_m6 103 rfl) rfl
theorem q1440 : (Jvm.Cond.instanceMethod ({ cls := "CableDrawer", name := "grows", desc := "()Z" } : Jvm.MethodName)) ∈ lw_all := lw_g (lw_at lw_m6 107 rfl) rfl
theorem q1441 : (Jvm.Cond.selects "CableDrawer" ({ cls := "CableDrawer", name := "grows", desc := "()Z" } : Jvm.MethodName) ({ cls := "CableDrawer", name := "grows", desc := "()Z" } : Jvm.MethodName)) ∈ lw_all := lw_g (lw_at lw_m6 108 rfl) rfl
theorem q1442 : (Jvm.Cond.code ({ cls := "CableDrawer", name := "grows", desc := "()Z" } : Jvm.MethodName) prog_1_method_74_code (1 : Nat) (Option.some Jvm.ClassFile.FieldType.boolean)) ∈ lw_all := lw_g (lw_at lw_m6 109 rfl) rfl
theorem q1443 : (Jvm.Cond.methodLink "CableDrawer" (418 : Nat) ({ cls := "CableDrawer", name := "risks", desc := "()I" } : Jvm.MethodName)) ∈ lw_all := lw_g (lw_at lw_m6 110 rfl) rfl
theorem q1444 : (Jvm.Cond.privateMethod ({ cls := "CableDrawer", name := "risks", desc := "()I" } : Jvm.MethodName)) ∈ lw_tbl := lw_at lw_m6 111 rfl
theorem q1445 : (Jvm.Cond.instanceMethod ({ cls := "CableDrawer", name := "risks", desc := "()I" } : Jvm.MethodName)) ∈ lw_all := lw_g (lw_at lw_m6 112 rfl) rfl
theorem q1446 : (Jvm.Cond.code ({ cls := "CableDrawer", name := "risks", desc := "()I" } : Jvm.MethodName) prog_1_method_73_code (3 : Nat) (Option.some Jvm.ClassFile.FieldType.int)) ∈ lw_all := lw_g (lw_at lw_m6 113 rfl) rfl
theorem q1447 : (Jvm.Cond.constantLong "CableDrawer" (421 : Nat) (16 : Int64)) ∈ lw_all := lw_g (lw_at lw_m6 114 rfl) rfl
theorem q1449 : (Jvm.Cond.instanceMethod ({ cls := "CableDrawer", name := "clips", desc := "()I" } : Jvm.MethodName)) ∈ lw_all := lw_g (lw_at lw_m6 116 rfl) rfl
theorem q1450 : (Jvm.Cond.selects "CableDrawer" ({ cls := "CableDrawer", name := "clips", desc := "()I" } : Jvm.MethodName) ({ cls := "CableDrawer", name := "clips", desc := "()I" } : Jvm.MethodName)) ∈ lw_all := lw_g (lw_at lw_m6 117 rfl) rfl
theorem q1451 : (Jvm.Cond.code ({ cls := "CableDrawer", name := "clips", desc := "()I" } : Jvm.MethodName) prog_1_method_75_code (3 : Nat) (Option.some Jvm.ClassFile.FieldType.int)) ∈ lw_all := lw_g (lw_at lw_m6 118 rfl) rfl
theorem q1452 : (Jvm.Cond.methodLink "CableDrawer" (423 : Nat) ({ cls := "java/lang/Integer", name := "bitCount", desc := "(I)I" } : Jvm.MethodName)) ∈ lw_all := lw_g (lw_at lw_m6 119 rfl) rfl
theorem q1454 : (Jvm.Cond.instanceMethod ({ cls := "CableDrawer", name := "tries", desc := "(I)Z" } : Jvm.MethodName)) ∈ lw_all := lw_g (lw_at lw_m6 121 rfl) rfl
theorem q1455 : (Jvm.Cond.selects "CableDrawer" ({ cls := "CableDrawer", name := "tries", desc := "(I)Z" } : Jvm.MethodName) ({ cls := "CableDrawer", name := "tries", desc := "(I)Z" } : Jvm.MethodName)) ∈ lw_all := lw_g (lw_at lw_m6 122 rfl) rfl
theorem q1456 : (Jvm.Cond.code ({ cls := "CableDrawer", name := "tries", desc := "(I)Z" } : Jvm.MethodName) prog_1_method_77_code (6 : Nat) (Option.some Jvm.ClassFile.FieldType.boolean)) ∈ lw_all := lw_g (lw_at lw_m6 123 rfl) rfl
theorem q1457 : (Jvm.Cond.methodLink "CableDrawer" (428 : Nat) ({ cls := "CableDrawer", name := "tryOf", desc := "(II)I" } : Jvm.MethodName)) ∈ lw_all := lw_g (lw_at lw_m6 124 rfl) rfl
theorem q1458 : (Jvm.Cond.privateMethod ({ cls := "CableDrawer", name := "tryOf", desc := "(II)I" } : Jvm.MethodName)) ∈ lw_tbl := lw_at lw_m6 125 rfl
theorem q1459 : (Jvm.Cond.instanceMethod ({ cls := "CableDrawer", name := "tryOf", desc := "(II)I" } : Jvm.MethodName)) ∈ lw_all := lw_g (lw_at lw_m6 126 rfl) rfl
theorem q1460 : (Jvm.Cond.code ({ cls := "CableDrawer", name := "tryOf", desc := "(II)I" } : Jvm.MethodName) prog_1_method_76_code (7 : Nat) (Option.some Jvm.ClassFile.FieldType.int)) ∈ lw_all := lw_g (lw_at lw_m6 127 rfl) rfl
theorem q1462 : (Jvm.Cond.instanceMethod ({ cls := "CableDrawer", name := "nextTry", desc := "(II)I" } : Jvm.MethodName)) ∈ lw_all := lw_g (lw_at lw_m6 129 rfl) rfl
theorem q1463 : (Jvm.Cond.selects "CableDrawer" ({ cls := "CableDrawer", name := "nextTry", desc := "(II)I" } : Jvm.MethodName) ({ cls := "CableDrawer", name := "nextTry", desc := "(II)I" } : Jvm.MethodName)) ∈ lw_all := lw_g (lw_at lw_m6 130 rfl) rfl
theorem q1464 : (Jvm.Cond.code ({ cls := "CableDrawer", name := "nextTry", desc := "(II)I" } : Jvm.MethodName) prog_1_method_78_code (3 : Nat) (Option.some Jvm.ClassFile.FieldType.int)) ∈ lw_all := lw_g (lw_at lw_m6 131 rfl) rfl
theorem q1466 : (Jvm.Cond.instanceMethod ({ cls := "CableDrawer", name := "boxes", desc := "(I)I" } : Jvm.MethodName)) ∈ lw_all := lw_g (lw_at lw_m6 133 rfl) rfl
theorem q1467 : (Jvm.Cond.selects "CableDrawer" ({ cls := "CableDrawer", name := "boxes", desc := "(I)I" } : Jvm.MethodName) ({ cls := "CableDrawer", name := "boxes", desc := "(I)I" } : Jvm.MethodName)) ∈ lw_all := lw_g (lw_at lw_m6 134 rfl) rfl
theorem q1468 : (Jvm.Cond.code ({ cls := "CableDrawer", name := "boxes", desc := "(I)I" } : Jvm.MethodName) prog_1_method_79_code (8 : Nat) (Option.some Jvm.ClassFile.FieldType.int)) ∈ lw_all := lw_g (lw_at lw_m6 135 rfl) rfl
theorem q1469 : (Jvm.Cond.constantLong "CableDrawer" (431 : Nat) (99 : Int64)) ∈ lw_all := lw_g (lw_at lw_m6 136 rfl) rfl
theorem q1471 : (Jvm.Cond.instanceMethod ({ cls := "CableDrawer", name := "waste", desc := "(I)I" } : Jvm.MethodName)) ∈ lw_all := lw_g (lw_at lw_m6 138 rfl) rfl
theorem q1472 : (Jvm.Cond.selects "CableDrawer" ({ cls := "CableDrawer", name := "waste", desc := "(I)I" } : Jvm.MethodName) ({ cls := "CableDrawer", name := "waste", desc := "(I)I" } : Jvm.MethodName)) ∈ lw_all := lw_g (lw_at lw_m6 139 rfl) rfl
theorem q1473 : (Jvm.Cond.code ({ cls := "CableDrawer", name := "waste", desc := "(I)I" } : Jvm.MethodName) prog_1_method_80_code (4 : Nat) (Option.some Jvm.ClassFile.FieldType.int)) ∈ lw_all := lw_g (lw_at lw_m6 140 rfl) rfl
theorem q1475 : (Jvm.Cond.instanceMethod ({ cls := "CableDrawer", name := "live", desc := "(I)I" } : Jvm.MethodName)) ∈ lw_all := lw_g (lw_at lw_m6 142 rfl) rfl
theorem q1476 : (Jvm.Cond.selects "CableDrawer" ({ cls := "CableDrawer", name := "live", desc := "(I)I" } : Jvm.MethodName) ({ cls := "CableDrawer", name := "live", desc := "(I)I" } : Jvm.MethodName)) ∈ lw_all := lw_g (lw_at lw_m6 143 rfl) rfl
theorem q1477 : (Jvm.Cond.code ({ cls := "CableDrawer", name := "live", desc := "(I)I" } : Jvm.MethodName) prog_1_method_86_code (2 : Nat) (Option.some Jvm.ClassFile.FieldType.int)) ∈ lw_all := lw_g (lw_at lw_m6 144 rfl) rfl
theorem q1478 : (Jvm.Cond.methodLink "CableDrawer" (466 : Nat) ({ cls := "CableDrawer", name := "goesBy", desc := "(I)V" } : Jvm.MethodName)) ∈ lw_all := lw_g (lw_at lw_m6 145 rfl) rfl
theorem q1479 : (Jvm.Cond.privateMethod ({ cls := "CableDrawer", name := "goesBy", desc := "(I)V" } : Jvm.MethodName)) ∈ lw_tbl := lw_at lw_m6 146 rfl
theorem q1480 : (Jvm.Cond.instanceMethod ({ cls := "CableDrawer", name := "goesBy", desc := "(I)V" } : Jvm.MethodName)) ∈ lw_all := lw_g (lw_at lw_m6 147 rfl) rfl
theorem q1481 : (Jvm.Cond.code ({ cls := "CableDrawer", name := "goesBy", desc := "(I)V" } : Jvm.MethodName) prog_1_method_85_code (4 : Nat) (Option.none : Option Jvm.ClassFile.FieldType)) ∈ lw_all := lw_g (lw_at lw_m6 148 rfl) rfl
theorem q1482 : (Jvm.Cond.methodLink "CableDrawer" (456 : Nat) ({ cls := "CableDrawer", name := "does", desc := "(LCableDrawer$Step;)Z" } : Jvm.MethodName)) ∈ lw_all := lw_g (lw_at lw_m6 149 rfl) rfl
theorem q1483 : (Jvm.Cond.privateMethod ({ cls := "CableDrawer", name := "does", desc := "(LCableDrawer$Step;)Z" } : Jvm.MethodName)) ∈ lw_tbl := lw_at lw_m6 150 rfl
theorem q1484 : (Jvm.Cond.instanceMethod ({ cls := "CableDrawer", name := "does", desc := "(LCableDrawer$Step;)Z" } : Jvm.MethodName)) ∈ lw_all := lw_g (lw_at lw_m6 151 rfl) rfl
theorem q1485 : (Jvm.Cond.code ({ cls := "CableDrawer", name := "does", desc := "(LCableDrawer$Step;)Z" } : Jvm.MethodName) prog_1_method_82_code (3 : Nat) (Option.some Jvm.ClassFile.FieldType.boolean)) ∈ lw_all := lw_g (lw_at lw_m6 152 rfl) rfl
theorem q1486 : (Jvm.Cond.methodLink "CableDrawer" (437 : Nat) ({ cls := "CableDrawer", name := "frees", desc := "(I)Z" } : Jvm.MethodName)) ∈ lw_all := lw_g (lw_at lw_m6 153 rfl) rfl
theorem q1487 : (Jvm.Cond.privateMethod ({ cls := "CableDrawer", name := "frees", desc := "(I)Z" } : Jvm.MethodName)) ∈ lw_tbl := lw_at lw_m6 154 rfl
theorem q1488 : (Jvm.Cond.instanceMethod ({ cls := "CableDrawer", name := "frees", desc := "(I)Z" } : Jvm.MethodName)) ∈ lw_all := lw_g (lw_at lw_m6 155 rfl) rfl
theorem q1489 : (Jvm.Cond.code ({ cls := "CableDrawer", name := "frees", desc := "(I)Z" } : Jvm.MethodName) prog_1_method_81_code (3 : Nat) (Option.some Jvm.ClassFile.FieldType.boolean)) ∈ lw_all := lw_g (lw_at lw_m6 156 rfl) rfl
theorem q1490 : (Jvm.Cond.methodLink "CableDrawer" (460 : Nat) ({ cls := "CableDrawer", name := "holds", desc := "(LCableDrawer$Step;)Z" } : Jvm.MethodName)) ∈ lw_all := lw_g (lw_at lw_m6 157 rfl) rfl
theorem q1491 : (Jvm.Cond.privateMethod ({ cls := "CableDrawer", name := "holds", desc := "(LCableDrawer$Step;)Z" } : Jvm.MethodName)) ∈ lw_tbl := lw_at lw_m6 158 rfl
theorem q1492 : (Jvm.Cond.instanceMethod ({ cls := "CableDrawer", name := "holds", desc := "(LCableDrawer$Step;)Z" } : Jvm.MethodName)) ∈ lw_all := lw_g (lw_at lw_m6 159 rfl) rfl
theorem q1493 : (Jvm.Cond.code ({ cls := "CableDrawer", name := "holds", desc := "(LCableDrawer$Step;)Z" } : Jvm.MethodName) prog_1_method_83_code (3 : Nat) (Option.some Jvm.ClassFile.FieldType.boolean)) ∈ lw_all := lw_g (lw_at lw_m6 160 rfl) rfl
theorem q1494 : (Jvm.Cond.methodLink "CableDrawer" (463 : Nat) ({ cls := "CableDrawer", name := "behindEnds", desc := "(I)I" } : Jvm.MethodName)) ∈ lw_all := lw_g (lw_at lw_m6 161 rfl) rfl
theorem q1495 : (Jvm.Cond.privateMethod ({ cls := "CableDrawer", name := "behindEnds", desc := "(I)I" } : Jvm.MethodName)) ∈ lw_tbl := lw_at lw_m6 162 rfl
theorem q1496 : (Jvm.Cond.instanceMethod ({ cls := "CableDrawer", name := "behindEnds", desc := "(I)I" } : Jvm.MethodName)) ∈ lw_all := lw_g (lw_at lw_m6 163 rfl) rfl
theorem q1497 : (Jvm.Cond.code ({ cls := "CableDrawer", name := "behindEnds", desc := "(I)I" } : Jvm.MethodName) prog_1_method_84_code (5 : Nat) (Option.some Jvm.ClassFile.FieldType.int)) ∈ lw_all := lw_g (lw_at lw_m6 164 rfl) rfl
theorem q1499 : (Jvm.Cond.instanceMethod ({ cls := "CableDrawer", name := "lived", desc := "(I)I" } : Jvm.MethodName)) ∈ lw_all := lw_g (lw_at lw_m6 166 rfl) rfl
theorem q1500 : (Jvm.Cond.selects "CableDrawer" ({ cls := "CableDrawer", name := "lived", desc := "(I)I" } : Jvm.MethodName) ({ cls := "CableDrawer", name := "lived", desc := "(I)I" } : Jvm.MethodName)) ∈ lw_all := lw_g (lw_at lw_m6 167 rfl) rfl
theorem q1501 : (Jvm.Cond.code ({ cls := "CableDrawer", name := "lived", desc := "(I)I" } : Jvm.MethodName) prog_1_method_87_code (2 : Nat) (Option.some Jvm.ClassFile.FieldType.int)) ∈ lw_all := lw_g (lw_at lw_m6 168 rfl) rfl
theorem q1503 : (Jvm.Cond.instanceMethod ({ cls := "CableDrawer", name := "mean", desc := "(II)Z" } : Jvm.MethodName)) ∈ lw_all := lw_g (lw_at lw_m6 170 rfl) rfl
theorem q1504 : (Jvm.Cond.selects "CableDrawer" ({ cls := "CableDrawer", name := "mean", desc := "(II)Z" } : Jvm.MethodName) ({ cls := "CableDrawer", name := "mean", desc := "(II)Z" } : Jvm.MethodName)) ∈ lw_all := lw_g (lw_at lw_m6 171 rfl) rfl
theorem q1505 : (Jvm.Cond.code ({ cls := "CableDrawer", name := "mean", desc := "(II)Z" } : Jvm.MethodName) prog_1_method_90_code (4 : Nat) (Option.some Jvm.ClassFile.FieldType.boolean)) ∈ lw_all := lw_g (lw_at lw_m6 172 rfl) rfl
theorem q1506 : (Jvm.Cond.methodLink "CableDrawer" (474 : Nat) ({ cls := "CableDrawer", name := "wrongSeeds", desc := "(II)I" } : Jvm.MethodName)) ∈ lw_all := lw_g (lw_at lw_m6 173 rfl) rfl
theorem q1507 : (Jvm.Cond.privateMethod ({ cls := "CableDrawer", name := "wrongSeeds", desc := "(II)I" } : Jvm.MethodName)) ∈ lw_tbl := lw_at lw_m6 174 rfl
theorem q1508 : (Jvm.Cond.instanceMethod ({ cls := "CableDrawer", name := "wrongSeeds", desc := "(II)I" } : Jvm.MethodName)) ∈ lw_all := lw_g (lw_at lw_m6 175 rfl) rfl
theorem q1509 : (Jvm.Cond.code ({ cls := "CableDrawer", name := "wrongSeeds", desc := "(II)I" } : Jvm.MethodName) prog_1_method_88_code (3 : Nat) (Option.some Jvm.ClassFile.FieldType.int)) ∈ lw_all := lw_g (lw_at lw_m6 176 rfl) rfl
theorem q1510 : (Jvm.Cond.constantLong "CableDrawer" (472 : Nat) (20 : Int64)) ∈ lw_all := lw_g (lw_at lw_m6 177 rfl) rfl
theorem q1511 : (Jvm.Cond.methodLink "CableDrawer" (477 : Nat) ({ cls := "CableDrawer", name := "sumsOf", desc := "(III)J" } : Jvm.MethodName)) ∈ lw_all := lw_g (lw_at lw_m6 178 rfl) rfl
theorem q1512 : (Jvm.Cond.privateMethod ({ cls := "CableDrawer", name := "sumsOf", desc := "(III)J" } : Jvm.MethodName)) ∈ lw_tbl := lw_at lw_m6 179 rfl
theorem q1513 : (Jvm.Cond.instanceMethod ({ cls := "CableDrawer", name := "sumsOf", desc := "(III)J" } : Jvm.MethodName)) ∈ lw_all := lw_g (lw_at lw_m6 180 rfl) rfl
theorem q1514 : (Jvm.Cond.code ({ cls := "CableDrawer", name := "sumsOf", desc := "(III)J" } : Jvm.MethodName) prog_1_method_89_code (8 : Nat) (Option.some Jvm.ClassFile.FieldType.long)) ∈ lw_all := lw_g (lw_at lw_m6 181 rfl) rfl
theorem q1516 : (Jvm.Cond.instanceMethod ({ cls := "CableDrawer", name := "odds", desc := "(III)Z" } : Jvm.MethodName)) ∈ lw_all := lw_g (lw_at lw_m6 183 rfl) rfl
theorem q1517 : (Jvm.Cond.selects "CableDrawer" ({ cls := "CableDrawer", name := "odds", desc := "(III)Z" } : Jvm.MethodName) ({ cls := "CableDrawer", name := "odds", desc := "(III)Z" } : Jvm.MethodName)) ∈ lw_all := lw_g (lw_at lw_m6 184 rfl) rfl
theorem q1518 : (Jvm.Cond.code ({ cls := "CableDrawer", name := "odds", desc := "(III)Z" } : Jvm.MethodName) prog_1_method_91_code (5 : Nat) (Option.some Jvm.ClassFile.FieldType.boolean)) ∈ lw_all := lw_g (lw_at lw_m6 185 rfl) rfl
theorem q1520 : (Jvm.Cond.instanceMethod ({ cls := "CableDrawer", name := "mark", desc := "()I" } : Jvm.MethodName)) ∈ lw_all := lw_g (lw_at lw_m6 187 rfl) rfl
theorem q1521 : (Jvm.Cond.selects "CableDrawer" ({ cls := "CableDrawer", name := "mark", desc := "()I" } : Jvm.MethodName) ({ cls := "CableDrawer", name := "mark", desc := "()I" } : Jvm.MethodName)) ∈ lw_all := lw_g (lw_at lw_m6 188 rfl) rfl
theorem q1522 : (Jvm.Cond.code ({ cls := "CableDrawer", name := "mark", desc := "()I" } : Jvm.MethodName) prog_1_method_92_code (1 : Nat) (Option.some Jvm.ClassFile.FieldType.int)) ∈ lw_all := lw_g (lw_at lw_m6 189 rfl) rfl
theorem q1524 : (Jvm.Cond.methodLink "CableDrawer" (484 : Nat) ({ cls := "CableDrawer$Kept", name := "<init>", desc := "(LCableDrawer$Drawer;[LCableDrawer$Step;I)V" } : Jvm.MethodName)) ∈ lw_all := lw_g (lw_at lw_m6 191 rfl) rfl
theorem q1529 : (Jvm.Cond.fieldLink "CableDrawer" (487 : Nat) "CableDrawer$Kept" "drawer" "LCableDrawer$Drawer;") ∈ lw_all := lw_g (lw_at lw_m6 196 rfl) rfl
theorem q1531 : (Jvm.Cond.fieldLink "CableDrawer" (488 : Nat) "CableDrawer$Kept" "steps" "[LCableDrawer$Step;") ∈ lw_all := lw_g (lw_at lw_m6 198 rfl) rfl
theorem q1533 : (Jvm.Cond.fieldLink "CableDrawer" (489 : Nat) "CableDrawer$Kept" "stepMany" "I") ∈ lw_all := lw_g (lw_at lw_m6 200 rfl) rfl
theorem q1542 : (Jvm.Cond.instanceMethod ({ cls := "CableDrawer", name := "back", desc := "()I" } : Jvm.MethodName)) ∈ lw_all := lw_g (lw_at lw_m6 209 rfl) rfl
theorem q1543 : (Jvm.Cond.selects "CableDrawer" ({ cls := "CableDrawer", name := "back", desc := "()I" } : Jvm.MethodName) ({ cls := "CableDrawer", name := "back", desc := "()I" } : Jvm.MethodName)) ∈ lw_all := lw_g (lw_at lw_m6 210 rfl) rfl
theorem q1544 : (Jvm.Cond.code ({ cls := "CableDrawer", name := "back", desc := "()I" } : Jvm.MethodName) prog_1_method_93_code (2 : Nat) (Option.some Jvm.ClassFile.FieldType.int)) ∈ lw_all := lw_g (lw_at lw_m6 211 rfl) rfl
theorem in_X0 : ∀ w ∈ wsX00, w ∈ lw_all := lw_in wsX00 [442, 444, 446, 448, 450, 452, 454, 456, 458, 460, 462, 464, 466, 468, 470, 472, 474, 476, 478, 480, 482, 484, 486, 488, 490, 492, 494, 496, 498, 500, 502] (by decide +kernel) (by decide +kernel)
