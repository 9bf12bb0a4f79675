/-! TermsDeskModel -/
set_option maxRecDepth 100000
def RX4 : String := "TermsDeskModel"
def TX4 : u_T := fun k => match k with
  | 0 => ("TermsDeskModel", "thrown", "I", false)
  | 1 => ("TermsDeskModel", "now", "[I", true)
  | 2 => ("TermsDeskModel", "before", "[I", true)
  | 3 => ("TermsDeskModel", "saved", "[I", true)
  | 4 => ("TermsDeskModel", "changes", "[I", true)
  | 5 => ("TermsDeskModel", "changed", "I", false)
  | 6 => ("TermsDeskModel", "isSaved", "Z", false)
  | 7 => ("TermsDeskModel", "isWithin", "Z", false)
  | 8 => ("TermsDeskModel", "act", "I", false)
  | 9 => ("TermsDeskModel", "near", "I", false)
  | 10 => ("TermsDeskModel", "far", "I", false)
  | 11 => ("TermsDeskModel", "picked", "I", false)
  | 12 => ("TermsDeskModel", "isPicked", "Z", false)
  | 13 => ("TermsDeskModel", "clash", "[I", true)
  | 14 => ("TermsDeskModel", "chain", "[I", true)
  | 15 => ("TermsDeskModel", "chained", "I", false)
  | 16 => ("TermsDeskModel", "written", "I", false)
  | 17 => ("TermsDeskModel", "writtenAt", "I", false)
  | 18 => ("TermsDeskModel", "rows", "[J", true)
  | 19 => ("TermsDeskModel", "rowed", "[I", true)
  | 20 => ("TermsDeskModel", "input", "[I", true)
  | 21 => ("TermsDeskModel", "fed", "I", false)
  | 22 => ("TermsDeskModel", "at", "I", false)
  | 23 => ("TermsDeskModel", "items", "I", false)
  | 24 => ("TermsDeskModel", "wrong", "I", false)
  | 25 => ("TermsDeskModel", "refused", "I", false)
  | 26 => ("TermsDeskModel", "letters", "[I", true)
  | 27 => ("TermsDeskModel", "ones", "[I", true)
  | 28 => ("TermsDeskModel", "others", "[I", true)
  | _ => ("TermsDeskModel", "ahead", "[I", true)
def tyX4 : Nat → FieldType := fun k => match k with
  | 0 => .int
  | 1 => .array .int
  | 2 => .array .int
  | 3 => .array .int
  | 4 => .array .int
  | 5 => .int
  | 6 => .boolean
  | 7 => .boolean
  | 8 => .int
  | 9 => .int
  | 10 => .int
  | 11 => .int
  | 12 => .boolean
  | 13 => .array .int
  | 14 => .array .int
  | 15 => .int
  | 16 => .int
  | 17 => .int
  | 18 => .array .long
  | 19 => .array .int
  | 20 => .array .int
  | 21 => .int
  | 22 => .int
  | 23 => .int
  | 24 => .int
  | 25 => .int
  | 26 => .array .int
  | 27 => .array .int
  | 28 => .array .int
  | _ => .array .int
abbrev wsX40 : List Cond := u_ws RX4 TX4 30
set_option maxRecDepth 100000 in
theorem nmX4 : ∀ a, a < 30 → ∀ b, b < 30 → a ≠ b → (TX4 a).2.1 ≠ (TX4 b).2.1 := by decide +kernel
set_option maxRecDepth 100000 in
theorem tyX4_ok : ∀ k, k < 30 → parseFieldDescriptor (TX4 k).2.2.1 = some (tyX4 k) := by decide +kernel
abbrev cX4_init : ByteArray := prog_17_method_1_code
def yX4_init : MethodName := ⟨RX4, "<init>", "()V"⟩
def dkwX4_init_8 : List UInt8 := [17, 6, 36, 188, 10, 181, 0, 100, 177]
abbrev dktX4_init_8 : List UInt8 := dkwX4_init_8 ++ []
def dkwX4_init_7 : List UInt8 := [16, 30, 188, 10, 181, 0, 91, 42, 16, 30, 188, 10, 181, 0, 94, 42, 16, 30, 188, 10, 181, 0, 97, 42]
abbrev dktX4_init_7 : List UInt8 := dkwX4_init_7 ++ dktX4_init_8
def dkwX4_init_6 : List UInt8 := [181, 0, 76, 42, 3, 181, 0, 79, 42, 3, 181, 0, 82, 42, 2, 181, 0, 85, 42, 2, 181, 0, 88, 42]
abbrev dktX4_init_6 : List UInt8 := dkwX4_init_6 ++ dktX4_init_7
def dkwX4_init_5 : List UInt8 := [188, 11, 181, 0, 66, 42, 6, 188, 10, 181, 0, 70, 42, 16, 60, 188, 10, 181, 0, 73, 42, 3]
abbrev dktX4_init_5 : List UInt8 := dkwX4_init_5 ++ dktX4_init_6
def dkwX4_init_4 : List UInt8 := [188, 10, 181, 0, 54, 42, 3, 181, 0, 57, 42, 3, 181, 0, 60, 42, 3, 181, 0, 63, 42, 16, 18]
abbrev dktX4_init_4 : List UInt8 := dkwX4_init_4 ++ dktX4_init_5
def dkwX4_init_3 : List UInt8 := [3, 181, 0, 42, 42, 3, 181, 0, 45, 42, 3, 181, 0, 48, 42, 7, 188, 10, 181, 0, 51, 42, 7]
abbrev dktX4_init_3 : List UInt8 := dkwX4_init_3 ++ dktX4_init_4
def dkwX4_init_2 : List UInt8 := [181, 0, 26, 42, 3, 181, 0, 29, 42, 3, 181, 0, 33, 42, 3, 181, 0, 36, 42, 3, 181, 0, 39, 42]
abbrev dktX4_init_2 : List UInt8 := dkwX4_init_2 ++ dktX4_init_3
def dkwX4_init_1 : List UInt8 := [181, 0, 17, 42, 17, 6, 36, 188, 10, 181, 0, 20, 42, 17, 49, 32, 188, 10, 181, 0, 23, 42, 3]
abbrev dktX4_init_1 : List UInt8 := dkwX4_init_1 ++ dktX4_init_2
def dkwX4_init_0 : List UInt8 := [42, 183, 0, 3, 42, 3, 181, 0, 9, 42, 17, 6, 36, 188, 10, 181, 0, 13, 42, 17, 6, 36, 188, 10]
abbrev dktX4_init_0 : List UInt8 := dkwX4_init_0 ++ dktX4_init_1
theorem dksX4_init_0 : cX4_init.data.toList.drop 0 = dktX4_init_0 := by decide +kernel
theorem dksX4_init_1 : cX4_init.data.toList.drop 24 = dktX4_init_1 := dk_seg dksX4_init_0 24 rfl rfl
theorem dksX4_init_2 : cX4_init.data.toList.drop 47 = dktX4_init_2 := dk_seg dksX4_init_1 23 rfl rfl
theorem dksX4_init_3 : cX4_init.data.toList.drop 71 = dktX4_init_3 := dk_seg dksX4_init_2 24 rfl rfl
theorem dksX4_init_4 : cX4_init.data.toList.drop 94 = dktX4_init_4 := dk_seg dksX4_init_3 23 rfl rfl
theorem dksX4_init_5 : cX4_init.data.toList.drop 117 = dktX4_init_5 := dk_seg dksX4_init_4 23 rfl rfl
theorem dksX4_init_6 : cX4_init.data.toList.drop 139 = dktX4_init_6 := dk_seg dksX4_init_5 22 rfl rfl
theorem dksX4_init_7 : cX4_init.data.toList.drop 163 = dktX4_init_7 := dk_seg dksX4_init_6 24 rfl rfl
theorem dksX4_init_8 : cX4_init.data.toList.drop 187 = dktX4_init_8 := dk_seg dksX4_init_7 24 rfl rfl
theorem dX4_init_0 : decode cX4_init 0 = .ok (.aload_n 0, 1) := dk_42 (dk_at dksX4_init_0 0 rfl rfl)
theorem dX4_init_1 : decode cX4_init 1 = .ok (.invokespecial 3, 3) := dk_183 0 3 (dk_at dksX4_init_0 1 rfl rfl)
theorem dX4_init_4 : decode cX4_init 4 = .ok (.aload_n 0, 1) := dk_42 (dk_at dksX4_init_0 4 rfl rfl)
theorem dX4_init_5 : decode cX4_init 5 = .ok (.iconst 0, 1) := dk_3 (dk_at dksX4_init_0 5 rfl rfl)
theorem dX4_init_6 : decode cX4_init 6 = .ok (.putfield 9, 3) := dk_181 0 9 (dk_at dksX4_init_0 6 rfl rfl)
theorem dX4_init_9 : decode cX4_init 9 = .ok (.aload_n 0, 1) := dk_42 (dk_at dksX4_init_0 9 rfl rfl)
theorem dX4_init_10 : decode cX4_init 10 = .ok (.sipush 1572, 3) := dk_17 6 36 (dk_at dksX4_init_0 10 rfl rfl)
theorem dX4_init_13 : decode cX4_init 13 = .ok (.newarray .int, 2) := dk_188_10 (dk_at dksX4_init_0 13 rfl rfl)
theorem dX4_init_15 : decode cX4_init 15 = .ok (.putfield 13, 3) := dk_181 0 13 (dk_at dksX4_init_0 15 rfl rfl)
theorem dX4_init_18 : decode cX4_init 18 = .ok (.aload_n 0, 1) := dk_42 (dk_at dksX4_init_0 18 rfl rfl)
theorem dX4_init_19 : decode cX4_init 19 = .ok (.sipush 1572, 3) := dk_17 6 36 (dk_at dksX4_init_0 19 rfl rfl)
theorem dX4_init_22 : decode cX4_init 22 = .ok (.newarray .int, 2) := dk_188_10 (dk_at dksX4_init_0 22 rfl rfl)
theorem dX4_init_24 : decode cX4_init 24 = .ok (.putfield 17, 3) := dk_181 0 17 (dk_at dksX4_init_1 0 rfl rfl)
theorem dX4_init_27 : decode cX4_init 27 = .ok (.aload_n 0, 1) := dk_42 (dk_at dksX4_init_1 3 rfl rfl)
theorem dX4_init_28 : decode cX4_init 28 = .ok (.sipush 1572, 3) := dk_17 6 36 (dk_at dksX4_init_1 4 rfl rfl)
theorem dX4_init_31 : decode cX4_init 31 = .ok (.newarray .int, 2) := dk_188_10 (dk_at dksX4_init_1 7 rfl rfl)
theorem dX4_init_33 : decode cX4_init 33 = .ok (.putfield 20, 3) := dk_181 0 20 (dk_at dksX4_init_1 9 rfl rfl)
theorem dX4_init_36 : decode cX4_init 36 = .ok (.aload_n 0, 1) := dk_42 (dk_at dksX4_init_1 12 rfl rfl)
theorem dX4_init_37 : decode cX4_init 37 = .ok (.sipush 12576, 3) := dk_17 49 32 (dk_at dksX4_init_1 13 rfl rfl)
theorem dX4_init_40 : decode cX4_init 40 = .ok (.newarray .int, 2) := dk_188_10 (dk_at dksX4_init_1 16 rfl rfl)
theorem dX4_init_42 : decode cX4_init 42 = .ok (.putfield 23, 3) := dk_181 0 23 (dk_at dksX4_init_1 18 rfl rfl)
theorem dX4_init_45 : decode cX4_init 45 = .ok (.aload_n 0, 1) := dk_42 (dk_at dksX4_init_1 21 rfl rfl)
theorem dX4_init_46 : decode cX4_init 46 = .ok (.iconst 0, 1) := dk_3 (dk_at dksX4_init_1 22 rfl rfl)
theorem dX4_init_47 : decode cX4_init 47 = .ok (.putfield 26, 3) := dk_181 0 26 (dk_at dksX4_init_2 0 rfl rfl)
theorem dX4_init_50 : decode cX4_init 50 = .ok (.aload_n 0, 1) := dk_42 (dk_at dksX4_init_2 3 rfl rfl)
theorem dX4_init_51 : decode cX4_init 51 = .ok (.iconst 0, 1) := dk_3 (dk_at dksX4_init_2 4 rfl rfl)
theorem dX4_init_52 : decode cX4_init 52 = .ok (.putfield 29, 3) := dk_181 0 29 (dk_at dksX4_init_2 5 rfl rfl)
theorem dX4_init_55 : decode cX4_init 55 = .ok (.aload_n 0, 1) := dk_42 (dk_at dksX4_init_2 8 rfl rfl)
theorem dX4_init_56 : decode cX4_init 56 = .ok (.iconst 0, 1) := dk_3 (dk_at dksX4_init_2 9 rfl rfl)
theorem dX4_init_57 : decode cX4_init 57 = .ok (.putfield 33, 3) := dk_181 0 33 (dk_at dksX4_init_2 10 rfl rfl)
theorem dX4_init_60 : decode cX4_init 60 = .ok (.aload_n 0, 1) := dk_42 (dk_at dksX4_init_2 13 rfl rfl)
theorem dX4_init_61 : decode cX4_init 61 = .ok (.iconst 0, 1) := dk_3 (dk_at dksX4_init_2 14 rfl rfl)
theorem dX4_init_62 : decode cX4_init 62 = .ok (.putfield 36, 3) := dk_181 0 36 (dk_at dksX4_init_2 15 rfl rfl)
theorem dX4_init_65 : decode cX4_init 65 = .ok (.aload_n 0, 1) := dk_42 (dk_at dksX4_init_2 18 rfl rfl)
theorem dX4_init_66 : decode cX4_init 66 = .ok (.iconst 0, 1) := dk_3 (dk_at dksX4_init_2 19 rfl rfl)
theorem dX4_init_67 : decode cX4_init 67 = .ok (.putfield 39, 3) := dk_181 0 39 (dk_at dksX4_init_2 20 rfl rfl)
theorem dX4_init_70 : decode cX4_init 70 = .ok (.aload_n 0, 1) := dk_42 (dk_at dksX4_init_2 23 rfl rfl)
theorem dX4_init_71 : decode cX4_init 71 = .ok (.iconst 0, 1) := dk_3 (dk_at dksX4_init_3 0 rfl rfl)
theorem dX4_init_72 : decode cX4_init 72 = .ok (.putfield 42, 3) := dk_181 0 42 (dk_at dksX4_init_3 1 rfl rfl)
theorem dX4_init_75 : decode cX4_init 75 = .ok (.aload_n 0, 1) := dk_42 (dk_at dksX4_init_3 4 rfl rfl)
theorem dX4_init_76 : decode cX4_init 76 = .ok (.iconst 0, 1) := dk_3 (dk_at dksX4_init_3 5 rfl rfl)
theorem dX4_init_77 : decode cX4_init 77 = .ok (.putfield 45, 3) := dk_181 0 45 (dk_at dksX4_init_3 6 rfl rfl)
theorem dX4_init_80 : decode cX4_init 80 = .ok (.aload_n 0, 1) := dk_42 (dk_at dksX4_init_3 9 rfl rfl)
theorem dX4_init_81 : decode cX4_init 81 = .ok (.iconst 0, 1) := dk_3 (dk_at dksX4_init_3 10 rfl rfl)
theorem dX4_init_82 : decode cX4_init 82 = .ok (.putfield 48, 3) := dk_181 0 48 (dk_at dksX4_init_3 11 rfl rfl)
theorem dX4_init_85 : decode cX4_init 85 = .ok (.aload_n 0, 1) := dk_42 (dk_at dksX4_init_3 14 rfl rfl)
theorem dX4_init_86 : decode cX4_init 86 = .ok (.iconst 4, 1) := dk_7 (dk_at dksX4_init_3 15 rfl rfl)
theorem dX4_init_87 : decode cX4_init 87 = .ok (.newarray .int, 2) := dk_188_10 (dk_at dksX4_init_3 16 rfl rfl)
theorem dX4_init_89 : decode cX4_init 89 = .ok (.putfield 51, 3) := dk_181 0 51 (dk_at dksX4_init_3 18 rfl rfl)
theorem dX4_init_92 : decode cX4_init 92 = .ok (.aload_n 0, 1) := dk_42 (dk_at dksX4_init_3 21 rfl rfl)
theorem dX4_init_93 : decode cX4_init 93 = .ok (.iconst 4, 1) := dk_7 (dk_at dksX4_init_3 22 rfl rfl)
theorem dX4_init_94 : decode cX4_init 94 = .ok (.newarray .int, 2) := dk_188_10 (dk_at dksX4_init_4 0 rfl rfl)
theorem dX4_init_96 : decode cX4_init 96 = .ok (.putfield 54, 3) := dk_181 0 54 (dk_at dksX4_init_4 2 rfl rfl)
theorem dX4_init_99 : decode cX4_init 99 = .ok (.aload_n 0, 1) := dk_42 (dk_at dksX4_init_4 5 rfl rfl)
theorem dX4_init_100 : decode cX4_init 100 = .ok (.iconst 0, 1) := dk_3 (dk_at dksX4_init_4 6 rfl rfl)
theorem dX4_init_101 : decode cX4_init 101 = .ok (.putfield 57, 3) := dk_181 0 57 (dk_at dksX4_init_4 7 rfl rfl)
theorem dX4_init_104 : decode cX4_init 104 = .ok (.aload_n 0, 1) := dk_42 (dk_at dksX4_init_4 10 rfl rfl)
theorem dX4_init_105 : decode cX4_init 105 = .ok (.iconst 0, 1) := dk_3 (dk_at dksX4_init_4 11 rfl rfl)
theorem dX4_init_106 : decode cX4_init 106 = .ok (.putfield 60, 3) := dk_181 0 60 (dk_at dksX4_init_4 12 rfl rfl)
theorem dX4_init_109 : decode cX4_init 109 = .ok (.aload_n 0, 1) := dk_42 (dk_at dksX4_init_4 15 rfl rfl)
theorem dX4_init_110 : decode cX4_init 110 = .ok (.iconst 0, 1) := dk_3 (dk_at dksX4_init_4 16 rfl rfl)
theorem dX4_init_111 : decode cX4_init 111 = .ok (.putfield 63, 3) := dk_181 0 63 (dk_at dksX4_init_4 17 rfl rfl)
theorem dX4_init_114 : decode cX4_init 114 = .ok (.aload_n 0, 1) := dk_42 (dk_at dksX4_init_4 20 rfl rfl)
theorem dX4_init_115 : decode cX4_init 115 = .ok (.bipush 18, 2) := dk_16 18 (dk_at dksX4_init_4 21 rfl rfl)
theorem dX4_init_117 : decode cX4_init 117 = .ok (.newarray .long, 2) := dk_188_11 (dk_at dksX4_init_5 0 rfl rfl)
theorem dX4_init_119 : decode cX4_init 119 = .ok (.putfield 66, 3) := dk_181 0 66 (dk_at dksX4_init_5 2 rfl rfl)
theorem dX4_init_122 : decode cX4_init 122 = .ok (.aload_n 0, 1) := dk_42 (dk_at dksX4_init_5 5 rfl rfl)
theorem dX4_init_123 : decode cX4_init 123 = .ok (.iconst 3, 1) := dk_6 (dk_at dksX4_init_5 6 rfl rfl)
theorem dX4_init_124 : decode cX4_init 124 = .ok (.newarray .int, 2) := dk_188_10 (dk_at dksX4_init_5 7 rfl rfl)
theorem dX4_init_126 : decode cX4_init 126 = .ok (.putfield 70, 3) := dk_181 0 70 (dk_at dksX4_init_5 9 rfl rfl)
theorem dX4_init_129 : decode cX4_init 129 = .ok (.aload_n 0, 1) := dk_42 (dk_at dksX4_init_5 12 rfl rfl)
theorem dX4_init_130 : decode cX4_init 130 = .ok (.bipush 60, 2) := dk_16 60 (dk_at dksX4_init_5 13 rfl rfl)
theorem dX4_init_132 : decode cX4_init 132 = .ok (.newarray .int, 2) := dk_188_10 (dk_at dksX4_init_5 15 rfl rfl)
theorem dX4_init_134 : decode cX4_init 134 = .ok (.putfield 73, 3) := dk_181 0 73 (dk_at dksX4_init_5 17 rfl rfl)
theorem dX4_init_137 : decode cX4_init 137 = .ok (.aload_n 0, 1) := dk_42 (dk_at dksX4_init_5 20 rfl rfl)
theorem dX4_init_138 : decode cX4_init 138 = .ok (.iconst 0, 1) := dk_3 (dk_at dksX4_init_5 21 rfl rfl)
theorem dX4_init_139 : decode cX4_init 139 = .ok (.putfield 76, 3) := dk_181 0 76 (dk_at dksX4_init_6 0 rfl rfl)
theorem dX4_init_142 : decode cX4_init 142 = .ok (.aload_n 0, 1) := dk_42 (dk_at dksX4_init_6 3 rfl rfl)
theorem dX4_init_143 : decode cX4_init 143 = .ok (.iconst 0, 1) := dk_3 (dk_at dksX4_init_6 4 rfl rfl)
theorem dX4_init_144 : decode cX4_init 144 = .ok (.putfield 79, 3) := dk_181 0 79 (dk_at dksX4_init_6 5 rfl rfl)
theorem dX4_init_147 : decode cX4_init 147 = .ok (.aload_n 0, 1) := dk_42 (dk_at dksX4_init_6 8 rfl rfl)
theorem dX4_init_148 : decode cX4_init 148 = .ok (.iconst 0, 1) := dk_3 (dk_at dksX4_init_6 9 rfl rfl)
theorem dX4_init_149 : decode cX4_init 149 = .ok (.putfield 82, 3) := dk_181 0 82 (dk_at dksX4_init_6 10 rfl rfl)
theorem dX4_init_152 : decode cX4_init 152 = .ok (.aload_n 0, 1) := dk_42 (dk_at dksX4_init_6 13 rfl rfl)
theorem dX4_init_153 : decode cX4_init 153 = .ok (.iconst (-1), 1) := dk_2 (dk_at dksX4_init_6 14 rfl rfl)
theorem dX4_init_154 : decode cX4_init 154 = .ok (.putfield 85, 3) := dk_181 0 85 (dk_at dksX4_init_6 15 rfl rfl)
theorem dX4_init_157 : decode cX4_init 157 = .ok (.aload_n 0, 1) := dk_42 (dk_at dksX4_init_6 18 rfl rfl)
theorem dX4_init_158 : decode cX4_init 158 = .ok (.iconst (-1), 1) := dk_2 (dk_at dksX4_init_6 19 rfl rfl)
theorem dX4_init_159 : decode cX4_init 159 = .ok (.putfield 88, 3) := dk_181 0 88 (dk_at dksX4_init_6 20 rfl rfl)
theorem dX4_init_162 : decode cX4_init 162 = .ok (.aload_n 0, 1) := dk_42 (dk_at dksX4_init_6 23 rfl rfl)
theorem dX4_init_163 : decode cX4_init 163 = .ok (.bipush 30, 2) := dk_16 30 (dk_at dksX4_init_7 0 rfl rfl)
theorem dX4_init_165 : decode cX4_init 165 = .ok (.newarray .int, 2) := dk_188_10 (dk_at dksX4_init_7 2 rfl rfl)
theorem dX4_init_167 : decode cX4_init 167 = .ok (.putfield 91, 3) := dk_181 0 91 (dk_at dksX4_init_7 4 rfl rfl)
theorem dX4_init_170 : decode cX4_init 170 = .ok (.aload_n 0, 1) := dk_42 (dk_at dksX4_init_7 7 rfl rfl)
theorem dX4_init_171 : decode cX4_init 171 = .ok (.bipush 30, 2) := dk_16 30 (dk_at dksX4_init_7 8 rfl rfl)
theorem dX4_init_173 : decode cX4_init 173 = .ok (.newarray .int, 2) := dk_188_10 (dk_at dksX4_init_7 10 rfl rfl)
theorem dX4_init_175 : decode cX4_init 175 = .ok (.putfield 94, 3) := dk_181 0 94 (dk_at dksX4_init_7 12 rfl rfl)
theorem dX4_init_178 : decode cX4_init 178 = .ok (.aload_n 0, 1) := dk_42 (dk_at dksX4_init_7 15 rfl rfl)
theorem dX4_init_179 : decode cX4_init 179 = .ok (.bipush 30, 2) := dk_16 30 (dk_at dksX4_init_7 16 rfl rfl)
theorem dX4_init_181 : decode cX4_init 181 = .ok (.newarray .int, 2) := dk_188_10 (dk_at dksX4_init_7 18 rfl rfl)
theorem dX4_init_183 : decode cX4_init 183 = .ok (.putfield 97, 3) := dk_181 0 97 (dk_at dksX4_init_7 20 rfl rfl)
theorem dX4_init_186 : decode cX4_init 186 = .ok (.aload_n 0, 1) := dk_42 (dk_at dksX4_init_7 23 rfl rfl)
theorem dX4_init_187 : decode cX4_init 187 = .ok (.sipush 1572, 3) := dk_17 6 36 (dk_at dksX4_init_8 0 rfl rfl)
theorem dX4_init_190 : decode cX4_init 190 = .ok (.newarray .int, 2) := dk_188_10 (dk_at dksX4_init_8 3 rfl rfl)
theorem dX4_init_192 : decode cX4_init 192 = .ok (.putfield 100, 3) := dk_181 0 100 (dk_at dksX4_init_8 5 rfl rfl)
theorem dX4_init_195 : decode cX4_init 195 = .ok (.return_, 1) := dk_177 (dk_at dksX4_init_8 8 rfl rfl)
abbrev cX4_thrown : ByteArray := prog_17_method_2_code
def yX4_thrown : MethodName := ⟨RX4, "thrown", "()I"⟩
theorem dX4_thrown_0 : decode cX4_thrown 0 = .ok (.aload_n 0, 1) := by decide +kernel
theorem dX4_thrown_1 : decode cX4_thrown 1 = .ok (.getfield 9, 3) := by decide +kernel
theorem dX4_thrown_4 : decode cX4_thrown 4 = .ok (.ireturn, 1) := by decide +kernel
abbrev cX4_clear : ByteArray := prog_17_method_13_code
def yX4_clear : MethodName := ⟨RX4, "clear", "()I"⟩
def dkwX4_clear_1 : List UInt8 := [180, 0, 13, 28, 3, 79, 132, 2, 1, 167, 255, 239, 42, 3, 181, 0, 26, 27, 172]
abbrev dktX4_clear_1 : List UInt8 := dkwX4_clear_1 ++ []
def dkwX4_clear_0 : List UInt8 := [42, 3, 181, 0, 9, 42, 180, 0, 13, 4, 46, 60, 3, 61, 28, 17, 6, 36, 162, 0, 16, 42]
abbrev dktX4_clear_0 : List UInt8 := dkwX4_clear_0 ++ dktX4_clear_1
theorem dksX4_clear_0 : cX4_clear.data.toList.drop 0 = dktX4_clear_0 := by decide +kernel
theorem dksX4_clear_1 : cX4_clear.data.toList.drop 22 = dktX4_clear_1 := dk_seg dksX4_clear_0 22 rfl rfl
theorem dX4_clear_0 : decode cX4_clear 0 = .ok (.aload_n 0, 1) := dk_42 (dk_at dksX4_clear_0 0 rfl rfl)
theorem dX4_clear_1 : decode cX4_clear 1 = .ok (.iconst 0, 1) := dk_3 (dk_at dksX4_clear_0 1 rfl rfl)
theorem dX4_clear_2 : decode cX4_clear 2 = .ok (.putfield 9, 3) := dk_181 0 9 (dk_at dksX4_clear_0 2 rfl rfl)
theorem dX4_clear_5 : decode cX4_clear 5 = .ok (.aload_n 0, 1) := dk_42 (dk_at dksX4_clear_0 5 rfl rfl)
theorem dX4_clear_6 : decode cX4_clear 6 = .ok (.getfield 13, 3) := dk_180 0 13 (dk_at dksX4_clear_0 6 rfl rfl)
theorem dX4_clear_9 : decode cX4_clear 9 = .ok (.iconst 1, 1) := dk_4 (dk_at dksX4_clear_0 9 rfl rfl)
theorem dX4_clear_10 : decode cX4_clear 10 = .ok (.iaload, 1) := dk_46 (dk_at dksX4_clear_0 10 rfl rfl)
theorem dX4_clear_11 : decode cX4_clear 11 = .ok (.istore_n 1, 1) := dk_60 (dk_at dksX4_clear_0 11 rfl rfl)
theorem dX4_clear_12 : decode cX4_clear 12 = .ok (.iconst 0, 1) := dk_3 (dk_at dksX4_clear_0 12 rfl rfl)
theorem dX4_clear_13 : decode cX4_clear 13 = .ok (.istore_n 2, 1) := dk_61 (dk_at dksX4_clear_0 13 rfl rfl)
theorem dX4_clear_14 : decode cX4_clear 14 = .ok (.iload_n 2, 1) := dk_28 (dk_at dksX4_clear_0 14 rfl rfl)
theorem dX4_clear_15 : decode cX4_clear 15 = .ok (.sipush 1572, 3) := dk_17 6 36 (dk_at dksX4_clear_0 15 rfl rfl)
theorem dX4_clear_18 : decode cX4_clear 18 = .ok (.if_icmp .ge 16, 3) := dk_162 0 16 (dk_at dksX4_clear_0 18 rfl rfl)
theorem dX4_clear_21 : decode cX4_clear 21 = .ok (.aload_n 0, 1) := dk_42 (dk_at dksX4_clear_0 21 rfl rfl)
theorem dX4_clear_22 : decode cX4_clear 22 = .ok (.getfield 13, 3) := dk_180 0 13 (dk_at dksX4_clear_1 0 rfl rfl)
theorem dX4_clear_25 : decode cX4_clear 25 = .ok (.iload_n 2, 1) := dk_28 (dk_at dksX4_clear_1 3 rfl rfl)
theorem dX4_clear_26 : decode cX4_clear 26 = .ok (.iconst 0, 1) := dk_3 (dk_at dksX4_clear_1 4 rfl rfl)
theorem dX4_clear_27 : decode cX4_clear 27 = .ok (.iastore, 1) := dk_79 (dk_at dksX4_clear_1 5 rfl rfl)
theorem dX4_clear_28 : decode cX4_clear 28 = .ok (.iinc 2 1, 3) := dk_132 2 1 (dk_at dksX4_clear_1 6 rfl rfl)
theorem dX4_clear_31 : decode cX4_clear 31 = .ok (.goto (-17), 3) := dk_167 255 239 (dk_at dksX4_clear_1 9 rfl rfl)
theorem dX4_clear_34 : decode cX4_clear 34 = .ok (.aload_n 0, 1) := dk_42 (dk_at dksX4_clear_1 12 rfl rfl)
theorem dX4_clear_35 : decode cX4_clear 35 = .ok (.iconst 0, 1) := dk_3 (dk_at dksX4_clear_1 13 rfl rfl)
theorem dX4_clear_36 : decode cX4_clear 36 = .ok (.putfield 26, 3) := dk_181 0 26 (dk_at dksX4_clear_1 14 rfl rfl)
theorem dX4_clear_39 : decode cX4_clear 39 = .ok (.iload_n 1, 1) := dk_27 (dk_at dksX4_clear_1 17 rfl rfl)
theorem dX4_clear_40 : decode cX4_clear 40 = .ok (.ireturn, 1) := dk_172 (dk_at dksX4_clear_1 18 rfl rfl)
abbrev cX4_addLicence : ByteArray := prog_17_method_14_code
def yX4_addLicence : MethodName := ⟨RX4, "addLicence", "(III)I"⟩
def dkwX4_addLicence_4 : List UInt8 := [96, 29, 79, 42, 180, 0, 13, 3, 92, 46, 4, 96, 79, 42, 182, 0, 124, 21, 4, 172]
abbrev dktX4_addLicence_4 : List UInt8 := dkwX4_addLicence_4 ++ []
def dkwX4_addLicence_3 : List UInt8 := [21, 4, 96, 27, 79, 42, 180, 0, 13, 16, 12, 21, 4, 96, 28, 79, 42, 180, 0, 13, 16, 20, 21, 4]
abbrev dktX4_addLicence_3 : List UInt8 := dkwX4_addLicence_3 ++ dktX4_addLicence_4
def dkwX4_addLicence_2 : List UInt8 := [16, 8, 160, 0, 9, 42, 5, 182, 0, 120, 172, 42, 180, 0, 13, 3, 46, 54, 4, 42, 180, 0, 13, 7]
abbrev dktX4_addLicence_2 : List UInt8 := dkwX4_addLicence_2 ++ dktX4_addLicence_3
def dkwX4_addLicence_1 : List UInt8 := [153, 0, 12, 29, 3, 5, 184, 0, 113, 154, 0, 9, 42, 4, 182, 0, 120, 172, 42, 180, 0, 13, 3, 46]
abbrev dktX4_addLicence_1 : List UInt8 := dkwX4_addLicence_1 ++ dktX4_addLicence_2
def dkwX4_addLicence_0 : List UInt8 := [42, 182, 0, 117, 27, 3, 16, 31, 184, 0, 113, 153, 0, 23, 28, 3, 17, 3, 255, 184, 0, 113]
abbrev dktX4_addLicence_0 : List UInt8 := dkwX4_addLicence_0 ++ dktX4_addLicence_1
theorem dksX4_addLicence_0 : cX4_addLicence.data.toList.drop 0 = dktX4_addLicence_0 := by decide +kernel
theorem dksX4_addLicence_1 : cX4_addLicence.data.toList.drop 22 = dktX4_addLicence_1 := dk_seg dksX4_addLicence_0 22 rfl rfl
theorem dksX4_addLicence_2 : cX4_addLicence.data.toList.drop 46 = dktX4_addLicence_2 := dk_seg dksX4_addLicence_1 24 rfl rfl
theorem dksX4_addLicence_3 : cX4_addLicence.data.toList.drop 70 = dktX4_addLicence_3 := dk_seg dksX4_addLicence_2 24 rfl rfl
theorem dksX4_addLicence_4 : cX4_addLicence.data.toList.drop 94 = dktX4_addLicence_4 := dk_seg dksX4_addLicence_3 24 rfl rfl
theorem dX4_addLicence_0 : decode cX4_addLicence 0 = .ok (.aload_n 0, 1) := dk_42 (dk_at dksX4_addLicence_0 0 rfl rfl)
theorem dX4_addLicence_1 : decode cX4_addLicence 1 = .ok (.invokevirtual 117, 3) := dk_182 0 117 (dk_at dksX4_addLicence_0 1 rfl rfl)
theorem dX4_addLicence_4 : decode cX4_addLicence 4 = .ok (.iload_n 1, 1) := dk_27 (dk_at dksX4_addLicence_0 4 rfl rfl)
theorem dX4_addLicence_5 : decode cX4_addLicence 5 = .ok (.iconst 0, 1) := dk_3 (dk_at dksX4_addLicence_0 5 rfl rfl)
theorem dX4_addLicence_6 : decode cX4_addLicence 6 = .ok (.bipush 31, 2) := dk_16 31 (dk_at dksX4_addLicence_0 6 rfl rfl)
theorem dX4_addLicence_8 : decode cX4_addLicence 8 = .ok (.invokestatic 113, 3) := dk_184 0 113 (dk_at dksX4_addLicence_0 8 rfl rfl)
theorem dX4_addLicence_11 : decode cX4_addLicence 11 = .ok (.ifCond .eq 23, 3) := dk_153 0 23 (dk_at dksX4_addLicence_0 11 rfl rfl)
theorem dX4_addLicence_14 : decode cX4_addLicence 14 = .ok (.iload_n 2, 1) := dk_28 (dk_at dksX4_addLicence_0 14 rfl rfl)
theorem dX4_addLicence_15 : decode cX4_addLicence 15 = .ok (.iconst 0, 1) := dk_3 (dk_at dksX4_addLicence_0 15 rfl rfl)
theorem dX4_addLicence_16 : decode cX4_addLicence 16 = .ok (.sipush 1023, 3) := dk_17 3 255 (dk_at dksX4_addLicence_0 16 rfl rfl)
theorem dX4_addLicence_19 : decode cX4_addLicence 19 = .ok (.invokestatic 113, 3) := dk_184 0 113 (dk_at dksX4_addLicence_0 19 rfl rfl)
theorem dX4_addLicence_22 : decode cX4_addLicence 22 = .ok (.ifCond .eq 12, 3) := dk_153 0 12 (dk_at dksX4_addLicence_1 0 rfl rfl)
theorem dX4_addLicence_25 : decode cX4_addLicence 25 = .ok (.iload_n 3, 1) := dk_29 (dk_at dksX4_addLicence_1 3 rfl rfl)
theorem dX4_addLicence_26 : decode cX4_addLicence 26 = .ok (.iconst 0, 1) := dk_3 (dk_at dksX4_addLicence_1 4 rfl rfl)
theorem dX4_addLicence_27 : decode cX4_addLicence 27 = .ok (.iconst 2, 1) := dk_5 (dk_at dksX4_addLicence_1 5 rfl rfl)
theorem dX4_addLicence_28 : decode cX4_addLicence 28 = .ok (.invokestatic 113, 3) := dk_184 0 113 (dk_at dksX4_addLicence_1 6 rfl rfl)
theorem dX4_addLicence_31 : decode cX4_addLicence 31 = .ok (.ifCond .ne 9, 3) := dk_154 0 9 (dk_at dksX4_addLicence_1 9 rfl rfl)
theorem dX4_addLicence_34 : decode cX4_addLicence 34 = .ok (.aload_n 0, 1) := dk_42 (dk_at dksX4_addLicence_1 12 rfl rfl)
theorem dX4_addLicence_35 : decode cX4_addLicence 35 = .ok (.iconst 1, 1) := dk_4 (dk_at dksX4_addLicence_1 13 rfl rfl)
theorem dX4_addLicence_36 : decode cX4_addLicence 36 = .ok (.invokevirtual 120, 3) := dk_182 0 120 (dk_at dksX4_addLicence_1 14 rfl rfl)
theorem dX4_addLicence_39 : decode cX4_addLicence 39 = .ok (.ireturn, 1) := dk_172 (dk_at dksX4_addLicence_1 17 rfl rfl)
theorem dX4_addLicence_40 : decode cX4_addLicence 40 = .ok (.aload_n 0, 1) := dk_42 (dk_at dksX4_addLicence_1 18 rfl rfl)
theorem dX4_addLicence_41 : decode cX4_addLicence 41 = .ok (.getfield 13, 3) := dk_180 0 13 (dk_at dksX4_addLicence_1 19 rfl rfl)
theorem dX4_addLicence_44 : decode cX4_addLicence 44 = .ok (.iconst 0, 1) := dk_3 (dk_at dksX4_addLicence_1 22 rfl rfl)
theorem dX4_addLicence_45 : decode cX4_addLicence 45 = .ok (.iaload, 1) := dk_46 (dk_at dksX4_addLicence_1 23 rfl rfl)
theorem dX4_addLicence_46 : decode cX4_addLicence 46 = .ok (.bipush 8, 2) := dk_16 8 (dk_at dksX4_addLicence_2 0 rfl rfl)
theorem dX4_addLicence_48 : decode cX4_addLicence 48 = .ok (.if_icmp .ne 9, 3) := dk_160 0 9 (dk_at dksX4_addLicence_2 2 rfl rfl)
theorem dX4_addLicence_51 : decode cX4_addLicence 51 = .ok (.aload_n 0, 1) := dk_42 (dk_at dksX4_addLicence_2 5 rfl rfl)
theorem dX4_addLicence_52 : decode cX4_addLicence 52 = .ok (.iconst 2, 1) := dk_5 (dk_at dksX4_addLicence_2 6 rfl rfl)
theorem dX4_addLicence_53 : decode cX4_addLicence 53 = .ok (.invokevirtual 120, 3) := dk_182 0 120 (dk_at dksX4_addLicence_2 7 rfl rfl)
theorem dX4_addLicence_56 : decode cX4_addLicence 56 = .ok (.ireturn, 1) := dk_172 (dk_at dksX4_addLicence_2 10 rfl rfl)
theorem dX4_addLicence_57 : decode cX4_addLicence 57 = .ok (.aload_n 0, 1) := dk_42 (dk_at dksX4_addLicence_2 11 rfl rfl)
theorem dX4_addLicence_58 : decode cX4_addLicence 58 = .ok (.getfield 13, 3) := dk_180 0 13 (dk_at dksX4_addLicence_2 12 rfl rfl)
theorem dX4_addLicence_61 : decode cX4_addLicence 61 = .ok (.iconst 0, 1) := dk_3 (dk_at dksX4_addLicence_2 15 rfl rfl)
theorem dX4_addLicence_62 : decode cX4_addLicence 62 = .ok (.iaload, 1) := dk_46 (dk_at dksX4_addLicence_2 16 rfl rfl)
theorem dX4_addLicence_63 : decode cX4_addLicence 63 = .ok (.istore 4, 2) := dk_54 4 (dk_at dksX4_addLicence_2 17 rfl rfl)
theorem dX4_addLicence_65 : decode cX4_addLicence 65 = .ok (.aload_n 0, 1) := dk_42 (dk_at dksX4_addLicence_2 19 rfl rfl)
theorem dX4_addLicence_66 : decode cX4_addLicence 66 = .ok (.getfield 13, 3) := dk_180 0 13 (dk_at dksX4_addLicence_2 20 rfl rfl)
theorem dX4_addLicence_69 : decode cX4_addLicence 69 = .ok (.iconst 4, 1) := dk_7 (dk_at dksX4_addLicence_2 23 rfl rfl)
theorem dX4_addLicence_70 : decode cX4_addLicence 70 = .ok (.iload 4, 2) := dk_21 4 (dk_at dksX4_addLicence_3 0 rfl rfl)
theorem dX4_addLicence_72 : decode cX4_addLicence 72 = .ok (.iadd, 1) := dk_96 (dk_at dksX4_addLicence_3 2 rfl rfl)
theorem dX4_addLicence_73 : decode cX4_addLicence 73 = .ok (.iload_n 1, 1) := dk_27 (dk_at dksX4_addLicence_3 3 rfl rfl)
theorem dX4_addLicence_74 : decode cX4_addLicence 74 = .ok (.iastore, 1) := dk_79 (dk_at dksX4_addLicence_3 4 rfl rfl)
theorem dX4_addLicence_75 : decode cX4_addLicence 75 = .ok (.aload_n 0, 1) := dk_42 (dk_at dksX4_addLicence_3 5 rfl rfl)
theorem dX4_addLicence_76 : decode cX4_addLicence 76 = .ok (.getfield 13, 3) := dk_180 0 13 (dk_at dksX4_addLicence_3 6 rfl rfl)
theorem dX4_addLicence_79 : decode cX4_addLicence 79 = .ok (.bipush 12, 2) := dk_16 12 (dk_at dksX4_addLicence_3 9 rfl rfl)
theorem dX4_addLicence_81 : decode cX4_addLicence 81 = .ok (.iload 4, 2) := dk_21 4 (dk_at dksX4_addLicence_3 11 rfl rfl)
theorem dX4_addLicence_83 : decode cX4_addLicence 83 = .ok (.iadd, 1) := dk_96 (dk_at dksX4_addLicence_3 13 rfl rfl)
theorem dX4_addLicence_84 : decode cX4_addLicence 84 = .ok (.iload_n 2, 1) := dk_28 (dk_at dksX4_addLicence_3 14 rfl rfl)
theorem dX4_addLicence_85 : decode cX4_addLicence 85 = .ok (.iastore, 1) := dk_79 (dk_at dksX4_addLicence_3 15 rfl rfl)
theorem dX4_addLicence_86 : decode cX4_addLicence 86 = .ok (.aload_n 0, 1) := dk_42 (dk_at dksX4_addLicence_3 16 rfl rfl)
theorem dX4_addLicence_87 : decode cX4_addLicence 87 = .ok (.getfield 13, 3) := dk_180 0 13 (dk_at dksX4_addLicence_3 17 rfl rfl)
theorem dX4_addLicence_90 : decode cX4_addLicence 90 = .ok (.bipush 20, 2) := dk_16 20 (dk_at dksX4_addLicence_3 20 rfl rfl)
theorem dX4_addLicence_92 : decode cX4_addLicence 92 = .ok (.iload 4, 2) := dk_21 4 (dk_at dksX4_addLicence_3 22 rfl rfl)
theorem dX4_addLicence_94 : decode cX4_addLicence 94 = .ok (.iadd, 1) := dk_96 (dk_at dksX4_addLicence_4 0 rfl rfl)
theorem dX4_addLicence_95 : decode cX4_addLicence 95 = .ok (.iload_n 3, 1) := dk_29 (dk_at dksX4_addLicence_4 1 rfl rfl)
theorem dX4_addLicence_96 : decode cX4_addLicence 96 = .ok (.iastore, 1) := dk_79 (dk_at dksX4_addLicence_4 2 rfl rfl)
theorem dX4_addLicence_97 : decode cX4_addLicence 97 = .ok (.aload_n 0, 1) := dk_42 (dk_at dksX4_addLicence_4 3 rfl rfl)
theorem dX4_addLicence_98 : decode cX4_addLicence 98 = .ok (.getfield 13, 3) := dk_180 0 13 (dk_at dksX4_addLicence_4 4 rfl rfl)
theorem dX4_addLicence_101 : decode cX4_addLicence 101 = .ok (.iconst 0, 1) := dk_3 (dk_at dksX4_addLicence_4 7 rfl rfl)
theorem dX4_addLicence_102 : decode cX4_addLicence 102 = .ok (.dup2, 1) := dk_92 (dk_at dksX4_addLicence_4 8 rfl rfl)
theorem dX4_addLicence_103 : decode cX4_addLicence 103 = .ok (.iaload, 1) := dk_46 (dk_at dksX4_addLicence_4 9 rfl rfl)
theorem dX4_addLicence_104 : decode cX4_addLicence 104 = .ok (.iconst 1, 1) := dk_4 (dk_at dksX4_addLicence_4 10 rfl rfl)
theorem dX4_addLicence_105 : decode cX4_addLicence 105 = .ok (.iadd, 1) := dk_96 (dk_at dksX4_addLicence_4 11 rfl rfl)
theorem dX4_addLicence_106 : decode cX4_addLicence 106 = .ok (.iastore, 1) := dk_79 (dk_at dksX4_addLicence_4 12 rfl rfl)
theorem dX4_addLicence_107 : decode cX4_addLicence 107 = .ok (.aload_n 0, 1) := dk_42 (dk_at dksX4_addLicence_4 13 rfl rfl)
theorem dX4_addLicence_108 : decode cX4_addLicence 108 = .ok (.invokevirtual 124, 3) := dk_182 0 124 (dk_at dksX4_addLicence_4 14 rfl rfl)
theorem dX4_addLicence_111 : decode cX4_addLicence 111 = .ok (.iload 4, 2) := dk_21 4 (dk_at dksX4_addLicence_4 17 rfl rfl)
theorem dX4_addLicence_113 : decode cX4_addLicence 113 = .ok (.ireturn, 1) := dk_172 (dk_at dksX4_addLicence_4 19 rfl rfl)
abbrev cX4_begins : ByteArray := prog_17_method_7_code
def yX4_begins : MethodName := ⟨RX4, "begins", "()V"⟩
def dkwX4_begins_1 : List UInt8 := [184, 0, 109, 177]
abbrev dktX4_begins_1 : List UInt8 := dkwX4_begins_1 ++ []
def dkwX4_begins_0 : List UInt8 := [42, 3, 181, 0, 9, 42, 180, 0, 33, 154, 0, 16, 42, 180, 0, 13, 3, 42, 180, 0, 17, 3]
abbrev dktX4_begins_0 : List UInt8 := dkwX4_begins_0 ++ dktX4_begins_1
theorem dksX4_begins_0 : cX4_begins.data.toList.drop 0 = dktX4_begins_0 := by decide +kernel
theorem dksX4_begins_1 : cX4_begins.data.toList.drop 22 = dktX4_begins_1 := dk_seg dksX4_begins_0 22 rfl rfl
theorem dX4_begins_0 : decode cX4_begins 0 = .ok (.aload_n 0, 1) := dk_42 (dk_at dksX4_begins_0 0 rfl rfl)
theorem dX4_begins_1 : decode cX4_begins 1 = .ok (.iconst 0, 1) := dk_3 (dk_at dksX4_begins_0 1 rfl rfl)
theorem dX4_begins_2 : decode cX4_begins 2 = .ok (.putfield 9, 3) := dk_181 0 9 (dk_at dksX4_begins_0 2 rfl rfl)
theorem dX4_begins_5 : decode cX4_begins 5 = .ok (.aload_n 0, 1) := dk_42 (dk_at dksX4_begins_0 5 rfl rfl)
theorem dX4_begins_6 : decode cX4_begins 6 = .ok (.getfield 33, 3) := dk_180 0 33 (dk_at dksX4_begins_0 6 rfl rfl)
theorem dX4_begins_9 : decode cX4_begins 9 = .ok (.ifCond .ne 16, 3) := dk_154 0 16 (dk_at dksX4_begins_0 9 rfl rfl)
theorem dX4_begins_12 : decode cX4_begins 12 = .ok (.aload_n 0, 1) := dk_42 (dk_at dksX4_begins_0 12 rfl rfl)
theorem dX4_begins_13 : decode cX4_begins 13 = .ok (.getfield 13, 3) := dk_180 0 13 (dk_at dksX4_begins_0 13 rfl rfl)
theorem dX4_begins_16 : decode cX4_begins 16 = .ok (.iconst 0, 1) := dk_3 (dk_at dksX4_begins_0 16 rfl rfl)
theorem dX4_begins_17 : decode cX4_begins 17 = .ok (.aload_n 0, 1) := dk_42 (dk_at dksX4_begins_0 17 rfl rfl)
theorem dX4_begins_18 : decode cX4_begins 18 = .ok (.getfield 17, 3) := dk_180 0 17 (dk_at dksX4_begins_0 18 rfl rfl)
theorem dX4_begins_21 : decode cX4_begins 21 = .ok (.iconst 0, 1) := dk_3 (dk_at dksX4_begins_0 21 rfl rfl)
theorem dX4_begins_22 : decode cX4_begins 22 = .ok (.invokestatic 109, 3) := dk_184 0 109 (dk_at dksX4_begins_1 0 rfl rfl)
theorem dX4_begins_25 : decode cX4_begins 25 = .ok (.return_, 1) := dk_177 (dk_at dksX4_begins_1 3 rfl rfl)
abbrev cX4_copies : ByteArray := prog_17_method_4_code
def yX4_copies : MethodName := ⟨RX4, "copies", "([II[II)V"⟩
def dkwX4_copies_0 : List UInt8 := [42, 27, 44, 29, 17, 6, 36, 184, 0, 103, 177]
abbrev dktX4_copies_0 : List UInt8 := dkwX4_copies_0 ++ []
theorem dksX4_copies_0 : cX4_copies.data.toList.drop 0 = dktX4_copies_0 := by decide +kernel
theorem dX4_copies_0 : decode cX4_copies 0 = .ok (.aload_n 0, 1) := dk_42 (dk_at dksX4_copies_0 0 rfl rfl)
theorem dX4_copies_1 : decode cX4_copies 1 = .ok (.iload_n 1, 1) := dk_27 (dk_at dksX4_copies_0 1 rfl rfl)
theorem dX4_copies_2 : decode cX4_copies 2 = .ok (.aload_n 2, 1) := dk_44 (dk_at dksX4_copies_0 2 rfl rfl)
theorem dX4_copies_3 : decode cX4_copies 3 = .ok (.iload_n 3, 1) := dk_29 (dk_at dksX4_copies_0 3 rfl rfl)
theorem dX4_copies_4 : decode cX4_copies 4 = .ok (.sipush 1572, 3) := dk_17 6 36 (dk_at dksX4_copies_0 4 rfl rfl)
theorem dX4_copies_7 : decode cX4_copies 7 = .ok (.invokestatic 103, 3) := dk_184 0 103 (dk_at dksX4_copies_0 7 rfl rfl)
theorem dX4_copies_10 : decode cX4_copies 10 = .ok (.return_, 1) := dk_177 (dk_at dksX4_copies_0 10 rfl rfl)
abbrev cX4_in : ByteArray := prog_17_method_3_code
def yX4_in : MethodName := ⟨RX4, "in", "(III)Z"⟩
def dkwX4_in_0 : List UInt8 := [26, 27, 161, 0, 12, 26, 28, 163, 0, 7, 4, 167, 0, 4, 3, 172]
abbrev dktX4_in_0 : List UInt8 := dkwX4_in_0 ++ []
theorem dksX4_in_0 : cX4_in.data.toList.drop 0 = dktX4_in_0 := by decide +kernel
theorem dX4_in_0 : decode cX4_in 0 = .ok (.iload_n 0, 1) := dk_26 (dk_at dksX4_in_0 0 rfl rfl)
theorem dX4_in_1 : decode cX4_in 1 = .ok (.iload_n 1, 1) := dk_27 (dk_at dksX4_in_0 1 rfl rfl)
theorem dX4_in_2 : decode cX4_in 2 = .ok (.if_icmp .lt 12, 3) := dk_161 0 12 (dk_at dksX4_in_0 2 rfl rfl)
theorem dX4_in_5 : decode cX4_in 5 = .ok (.iload_n 0, 1) := dk_26 (dk_at dksX4_in_0 5 rfl rfl)
theorem dX4_in_6 : decode cX4_in 6 = .ok (.iload_n 2, 1) := dk_28 (dk_at dksX4_in_0 6 rfl rfl)
theorem dX4_in_7 : decode cX4_in 7 = .ok (.if_icmp .gt 7, 3) := dk_163 0 7 (dk_at dksX4_in_0 7 rfl rfl)
theorem dX4_in_10 : decode cX4_in 10 = .ok (.iconst 1, 1) := dk_4 (dk_at dksX4_in_0 10 rfl rfl)
theorem dX4_in_11 : decode cX4_in 11 = .ok (.goto 4, 3) := dk_167 0 4 (dk_at dksX4_in_0 11 rfl rfl)
theorem dX4_in_14 : decode cX4_in 14 = .ok (.iconst 0, 1) := dk_3 (dk_at dksX4_in_0 14 rfl rfl)
theorem dX4_in_15 : decode cX4_in 15 = .ok (.ireturn, 1) := dk_172 (dk_at dksX4_in_0 15 rfl rfl)
abbrev cX4_no : ByteArray := prog_17_method_5_code
def yX4_no : MethodName := ⟨RX4, "no", "(I)I"⟩
def dkwX4_no_0 : List UInt8 := [42, 27, 181, 0, 9, 3, 172]
abbrev dktX4_no_0 : List UInt8 := dkwX4_no_0 ++ []
theorem dksX4_no_0 : cX4_no.data.toList.drop 0 = dktX4_no_0 := by decide +kernel
theorem dX4_no_0 : decode cX4_no 0 = .ok (.aload_n 0, 1) := dk_42 (dk_at dksX4_no_0 0 rfl rfl)
theorem dX4_no_1 : decode cX4_no 1 = .ok (.iload_n 1, 1) := dk_27 (dk_at dksX4_no_0 1 rfl rfl)
theorem dX4_no_2 : decode cX4_no 2 = .ok (.putfield 9, 3) := dk_181 0 9 (dk_at dksX4_no_0 2 rfl rfl)
theorem dX4_no_5 : decode cX4_no 5 = .ok (.iconst 0, 1) := dk_3 (dk_at dksX4_no_0 5 rfl rfl)
theorem dX4_no_6 : decode cX4_no 6 = .ok (.ireturn, 1) := dk_172 (dk_at dksX4_no_0 6 rfl rfl)
abbrev cX4_keeps : ByteArray := prog_17_method_8_code
def yX4_keeps : MethodName := ⟨RX4, "keeps", "()V"⟩
def dkwX4_keeps_4 : List UInt8 := [181, 0, 26, 177]
abbrev dktX4_keeps_4 : List UInt8 := dkwX4_keeps_4 ++ []
def dkwX4_keeps_3 : List UInt8 := [42, 180, 0, 23, 17, 6, 36, 42, 180, 0, 26, 104, 184, 0, 109, 42, 89, 180, 0, 26, 4, 96]
abbrev dktX4_keeps_3 : List UInt8 := dkwX4_keeps_3 ++ dktX4_keeps_4
def dkwX4_keeps_2 : List UInt8 := [184, 0, 109, 132, 1, 1, 167, 255, 224, 42, 89, 180, 0, 26, 4, 100, 181, 0, 26, 42, 180, 0, 17, 3]
abbrev dktX4_keeps_2 : List UInt8 := dkwX4_keeps_2 ++ dktX4_keeps_3
def dkwX4_keeps_1 : List UInt8 := [162, 0, 32, 42, 180, 0, 23, 17, 6, 36, 27, 104, 42, 180, 0, 23, 17, 6, 36, 27, 4, 100, 104]
abbrev dktX4_keeps_1 : List UInt8 := dkwX4_keeps_1 ++ dktX4_keeps_2
def dkwX4_keeps_0 : List UInt8 := [42, 180, 0, 33, 153, 0, 4, 177, 42, 180, 0, 26, 16, 8, 160, 0, 50, 4, 60, 27, 16, 8]
abbrev dktX4_keeps_0 : List UInt8 := dkwX4_keeps_0 ++ dktX4_keeps_1
theorem dksX4_keeps_0 : cX4_keeps.data.toList.drop 0 = dktX4_keeps_0 := by decide +kernel
theorem dksX4_keeps_1 : cX4_keeps.data.toList.drop 22 = dktX4_keeps_1 := dk_seg dksX4_keeps_0 22 rfl rfl
theorem dksX4_keeps_2 : cX4_keeps.data.toList.drop 45 = dktX4_keeps_2 := dk_seg dksX4_keeps_1 23 rfl rfl
theorem dksX4_keeps_3 : cX4_keeps.data.toList.drop 69 = dktX4_keeps_3 := dk_seg dksX4_keeps_2 24 rfl rfl
theorem dksX4_keeps_4 : cX4_keeps.data.toList.drop 91 = dktX4_keeps_4 := dk_seg dksX4_keeps_3 22 rfl rfl
theorem dX4_keeps_0 : decode cX4_keeps 0 = .ok (.aload_n 0, 1) := dk_42 (dk_at dksX4_keeps_0 0 rfl rfl)
theorem dX4_keeps_1 : decode cX4_keeps 1 = .ok (.getfield 33, 3) := dk_180 0 33 (dk_at dksX4_keeps_0 1 rfl rfl)
theorem dX4_keeps_4 : decode cX4_keeps 4 = .ok (.ifCond .eq 4, 3) := dk_153 0 4 (dk_at dksX4_keeps_0 4 rfl rfl)
theorem dX4_keeps_7 : decode cX4_keeps 7 = .ok (.return_, 1) := dk_177 (dk_at dksX4_keeps_0 7 rfl rfl)
theorem dX4_keeps_8 : decode cX4_keeps 8 = .ok (.aload_n 0, 1) := dk_42 (dk_at dksX4_keeps_0 8 rfl rfl)
theorem dX4_keeps_9 : decode cX4_keeps 9 = .ok (.getfield 26, 3) := dk_180 0 26 (dk_at dksX4_keeps_0 9 rfl rfl)
theorem dX4_keeps_12 : decode cX4_keeps 12 = .ok (.bipush 8, 2) := dk_16 8 (dk_at dksX4_keeps_0 12 rfl rfl)
theorem dX4_keeps_14 : decode cX4_keeps 14 = .ok (.if_icmp .ne 50, 3) := dk_160 0 50 (dk_at dksX4_keeps_0 14 rfl rfl)
theorem dX4_keeps_17 : decode cX4_keeps 17 = .ok (.iconst 1, 1) := dk_4 (dk_at dksX4_keeps_0 17 rfl rfl)
theorem dX4_keeps_18 : decode cX4_keeps 18 = .ok (.istore_n 1, 1) := dk_60 (dk_at dksX4_keeps_0 18 rfl rfl)
theorem dX4_keeps_19 : decode cX4_keeps 19 = .ok (.iload_n 1, 1) := dk_27 (dk_at dksX4_keeps_0 19 rfl rfl)
theorem dX4_keeps_20 : decode cX4_keeps 20 = .ok (.bipush 8, 2) := dk_16 8 (dk_at dksX4_keeps_0 20 rfl rfl)
theorem dX4_keeps_22 : decode cX4_keeps 22 = .ok (.if_icmp .ge 32, 3) := dk_162 0 32 (dk_at dksX4_keeps_1 0 rfl rfl)
theorem dX4_keeps_25 : decode cX4_keeps 25 = .ok (.aload_n 0, 1) := dk_42 (dk_at dksX4_keeps_1 3 rfl rfl)
theorem dX4_keeps_26 : decode cX4_keeps 26 = .ok (.getfield 23, 3) := dk_180 0 23 (dk_at dksX4_keeps_1 4 rfl rfl)
theorem dX4_keeps_29 : decode cX4_keeps 29 = .ok (.sipush 1572, 3) := dk_17 6 36 (dk_at dksX4_keeps_1 7 rfl rfl)
theorem dX4_keeps_32 : decode cX4_keeps 32 = .ok (.iload_n 1, 1) := dk_27 (dk_at dksX4_keeps_1 10 rfl rfl)
theorem dX4_keeps_33 : decode cX4_keeps 33 = .ok (.imul, 1) := dk_104 (dk_at dksX4_keeps_1 11 rfl rfl)
theorem dX4_keeps_34 : decode cX4_keeps 34 = .ok (.aload_n 0, 1) := dk_42 (dk_at dksX4_keeps_1 12 rfl rfl)
theorem dX4_keeps_35 : decode cX4_keeps 35 = .ok (.getfield 23, 3) := dk_180 0 23 (dk_at dksX4_keeps_1 13 rfl rfl)
theorem dX4_keeps_38 : decode cX4_keeps 38 = .ok (.sipush 1572, 3) := dk_17 6 36 (dk_at dksX4_keeps_1 16 rfl rfl)
theorem dX4_keeps_41 : decode cX4_keeps 41 = .ok (.iload_n 1, 1) := dk_27 (dk_at dksX4_keeps_1 19 rfl rfl)
theorem dX4_keeps_42 : decode cX4_keeps 42 = .ok (.iconst 1, 1) := dk_4 (dk_at dksX4_keeps_1 20 rfl rfl)
theorem dX4_keeps_43 : decode cX4_keeps 43 = .ok (.isub, 1) := dk_100 (dk_at dksX4_keeps_1 21 rfl rfl)
theorem dX4_keeps_44 : decode cX4_keeps 44 = .ok (.imul, 1) := dk_104 (dk_at dksX4_keeps_1 22 rfl rfl)
theorem dX4_keeps_45 : decode cX4_keeps 45 = .ok (.invokestatic 109, 3) := dk_184 0 109 (dk_at dksX4_keeps_2 0 rfl rfl)
theorem dX4_keeps_48 : decode cX4_keeps 48 = .ok (.iinc 1 1, 3) := dk_132 1 1 (dk_at dksX4_keeps_2 3 rfl rfl)
theorem dX4_keeps_51 : decode cX4_keeps 51 = .ok (.goto (-32), 3) := dk_167 255 224 (dk_at dksX4_keeps_2 6 rfl rfl)
theorem dX4_keeps_54 : decode cX4_keeps 54 = .ok (.aload_n 0, 1) := dk_42 (dk_at dksX4_keeps_2 9 rfl rfl)
theorem dX4_keeps_55 : decode cX4_keeps 55 = .ok (.dup, 1) := dk_89 (dk_at dksX4_keeps_2 10 rfl rfl)
theorem dX4_keeps_56 : decode cX4_keeps 56 = .ok (.getfield 26, 3) := dk_180 0 26 (dk_at dksX4_keeps_2 11 rfl rfl)
theorem dX4_keeps_59 : decode cX4_keeps 59 = .ok (.iconst 1, 1) := dk_4 (dk_at dksX4_keeps_2 14 rfl rfl)
theorem dX4_keeps_60 : decode cX4_keeps 60 = .ok (.isub, 1) := dk_100 (dk_at dksX4_keeps_2 15 rfl rfl)
theorem dX4_keeps_61 : decode cX4_keeps 61 = .ok (.putfield 26, 3) := dk_181 0 26 (dk_at dksX4_keeps_2 16 rfl rfl)
theorem dX4_keeps_64 : decode cX4_keeps 64 = .ok (.aload_n 0, 1) := dk_42 (dk_at dksX4_keeps_2 19 rfl rfl)
theorem dX4_keeps_65 : decode cX4_keeps 65 = .ok (.getfield 17, 3) := dk_180 0 17 (dk_at dksX4_keeps_2 20 rfl rfl)
theorem dX4_keeps_68 : decode cX4_keeps 68 = .ok (.iconst 0, 1) := dk_3 (dk_at dksX4_keeps_2 23 rfl rfl)
theorem dX4_keeps_69 : decode cX4_keeps 69 = .ok (.aload_n 0, 1) := dk_42 (dk_at dksX4_keeps_3 0 rfl rfl)
theorem dX4_keeps_70 : decode cX4_keeps 70 = .ok (.getfield 23, 3) := dk_180 0 23 (dk_at dksX4_keeps_3 1 rfl rfl)
theorem dX4_keeps_73 : decode cX4_keeps 73 = .ok (.sipush 1572, 3) := dk_17 6 36 (dk_at dksX4_keeps_3 4 rfl rfl)
theorem dX4_keeps_76 : decode cX4_keeps 76 = .ok (.aload_n 0, 1) := dk_42 (dk_at dksX4_keeps_3 7 rfl rfl)
theorem dX4_keeps_77 : decode cX4_keeps 77 = .ok (.getfield 26, 3) := dk_180 0 26 (dk_at dksX4_keeps_3 8 rfl rfl)
theorem dX4_keeps_80 : decode cX4_keeps 80 = .ok (.imul, 1) := dk_104 (dk_at dksX4_keeps_3 11 rfl rfl)
theorem dX4_keeps_81 : decode cX4_keeps 81 = .ok (.invokestatic 109, 3) := dk_184 0 109 (dk_at dksX4_keeps_3 12 rfl rfl)
theorem dX4_keeps_84 : decode cX4_keeps 84 = .ok (.aload_n 0, 1) := dk_42 (dk_at dksX4_keeps_3 15 rfl rfl)
theorem dX4_keeps_85 : decode cX4_keeps 85 = .ok (.dup, 1) := dk_89 (dk_at dksX4_keeps_3 16 rfl rfl)
theorem dX4_keeps_86 : decode cX4_keeps 86 = .ok (.getfield 26, 3) := dk_180 0 26 (dk_at dksX4_keeps_3 17 rfl rfl)
theorem dX4_keeps_89 : decode cX4_keeps 89 = .ok (.iconst 1, 1) := dk_4 (dk_at dksX4_keeps_3 20 rfl rfl)
theorem dX4_keeps_90 : decode cX4_keeps 90 = .ok (.iadd, 1) := dk_96 (dk_at dksX4_keeps_3 21 rfl rfl)
theorem dX4_keeps_91 : decode cX4_keeps 91 = .ok (.putfield 26, 3) := dk_181 0 26 (dk_at dksX4_keeps_4 0 rfl rfl)
theorem dX4_keeps_94 : decode cX4_keeps 94 = .ok (.return_, 1) := dk_177 (dk_at dksX4_keeps_4 3 rfl rfl)
abbrev cX4_demand : ByteArray := prog_17_method_15_code
def yX4_demand : MethodName := ⟨RX4, "demand", "(III)I"⟩
def dkwX4_demand_3 : List UInt8 := [28, 96, 29, 79, 42, 182, 0, 124, 21, 4, 172]
abbrev dktX4_demand_3 : List UInt8 := dkwX4_demand_3 ++ []
def dkwX4_demand_2 : List UInt8 := [180, 0, 13, 16, 28, 8, 27, 104, 96, 28, 96, 46, 54, 4, 42, 180, 0, 13, 16, 28, 8, 27, 104, 96]
abbrev dktX4_demand_2 : List UInt8 := dkwX4_demand_2 ++ dktX4_demand_3
def dkwX4_demand_1 : List UInt8 := [182, 0, 120, 172, 29, 3, 17, 3, 255, 184, 0, 113, 154, 0, 9, 42, 5, 182, 0, 120, 172, 42]
abbrev dktX4_demand_1 : List UInt8 := dkwX4_demand_1 ++ dktX4_demand_2
def dkwX4_demand_0 : List UInt8 := [42, 182, 0, 117, 42, 27, 182, 0, 127, 153, 0, 12, 28, 3, 7, 184, 0, 113, 154, 0, 9, 42, 4]
abbrev dktX4_demand_0 : List UInt8 := dkwX4_demand_0 ++ dktX4_demand_1
theorem dksX4_demand_0 : cX4_demand.data.toList.drop 0 = dktX4_demand_0 := by decide +kernel
theorem dksX4_demand_1 : cX4_demand.data.toList.drop 23 = dktX4_demand_1 := dk_seg dksX4_demand_0 23 rfl rfl
theorem dksX4_demand_2 : cX4_demand.data.toList.drop 45 = dktX4_demand_2 := dk_seg dksX4_demand_1 22 rfl rfl
theorem dksX4_demand_3 : cX4_demand.data.toList.drop 69 = dktX4_demand_3 := dk_seg dksX4_demand_2 24 rfl rfl
theorem dX4_demand_0 : decode cX4_demand 0 = .ok (.aload_n 0, 1) := dk_42 (dk_at dksX4_demand_0 0 rfl rfl)
theorem dX4_demand_1 : decode cX4_demand 1 = .ok (.invokevirtual 117, 3) := dk_182 0 117 (dk_at dksX4_demand_0 1 rfl rfl)
theorem dX4_demand_4 : decode cX4_demand 4 = .ok (.aload_n 0, 1) := dk_42 (dk_at dksX4_demand_0 4 rfl rfl)
theorem dX4_demand_5 : decode cX4_demand 5 = .ok (.iload_n 1, 1) := dk_27 (dk_at dksX4_demand_0 5 rfl rfl)
theorem dX4_demand_6 : decode cX4_demand 6 = .ok (.invokevirtual 127, 3) := dk_182 0 127 (dk_at dksX4_demand_0 6 rfl rfl)
theorem dX4_demand_9 : decode cX4_demand 9 = .ok (.ifCond .eq 12, 3) := dk_153 0 12 (dk_at dksX4_demand_0 9 rfl rfl)
theorem dX4_demand_12 : decode cX4_demand 12 = .ok (.iload_n 2, 1) := dk_28 (dk_at dksX4_demand_0 12 rfl rfl)
theorem dX4_demand_13 : decode cX4_demand 13 = .ok (.iconst 0, 1) := dk_3 (dk_at dksX4_demand_0 13 rfl rfl)
theorem dX4_demand_14 : decode cX4_demand 14 = .ok (.iconst 4, 1) := dk_7 (dk_at dksX4_demand_0 14 rfl rfl)
theorem dX4_demand_15 : decode cX4_demand 15 = .ok (.invokestatic 113, 3) := dk_184 0 113 (dk_at dksX4_demand_0 15 rfl rfl)
theorem dX4_demand_18 : decode cX4_demand 18 = .ok (.ifCond .ne 9, 3) := dk_154 0 9 (dk_at dksX4_demand_0 18 rfl rfl)
theorem dX4_demand_21 : decode cX4_demand 21 = .ok (.aload_n 0, 1) := dk_42 (dk_at dksX4_demand_0 21 rfl rfl)
theorem dX4_demand_22 : decode cX4_demand 22 = .ok (.iconst 1, 1) := dk_4 (dk_at dksX4_demand_0 22 rfl rfl)
theorem dX4_demand_23 : decode cX4_demand 23 = .ok (.invokevirtual 120, 3) := dk_182 0 120 (dk_at dksX4_demand_1 0 rfl rfl)
theorem dX4_demand_26 : decode cX4_demand 26 = .ok (.ireturn, 1) := dk_172 (dk_at dksX4_demand_1 3 rfl rfl)
theorem dX4_demand_27 : decode cX4_demand 27 = .ok (.iload_n 3, 1) := dk_29 (dk_at dksX4_demand_1 4 rfl rfl)
theorem dX4_demand_28 : decode cX4_demand 28 = .ok (.iconst 0, 1) := dk_3 (dk_at dksX4_demand_1 5 rfl rfl)
theorem dX4_demand_29 : decode cX4_demand 29 = .ok (.sipush 1023, 3) := dk_17 3 255 (dk_at dksX4_demand_1 6 rfl rfl)
theorem dX4_demand_32 : decode cX4_demand 32 = .ok (.invokestatic 113, 3) := dk_184 0 113 (dk_at dksX4_demand_1 9 rfl rfl)
theorem dX4_demand_35 : decode cX4_demand 35 = .ok (.ifCond .ne 9, 3) := dk_154 0 9 (dk_at dksX4_demand_1 12 rfl rfl)
theorem dX4_demand_38 : decode cX4_demand 38 = .ok (.aload_n 0, 1) := dk_42 (dk_at dksX4_demand_1 15 rfl rfl)
theorem dX4_demand_39 : decode cX4_demand 39 = .ok (.iconst 2, 1) := dk_5 (dk_at dksX4_demand_1 16 rfl rfl)
theorem dX4_demand_40 : decode cX4_demand 40 = .ok (.invokevirtual 120, 3) := dk_182 0 120 (dk_at dksX4_demand_1 17 rfl rfl)
theorem dX4_demand_43 : decode cX4_demand 43 = .ok (.ireturn, 1) := dk_172 (dk_at dksX4_demand_1 20 rfl rfl)
theorem dX4_demand_44 : decode cX4_demand 44 = .ok (.aload_n 0, 1) := dk_42 (dk_at dksX4_demand_1 21 rfl rfl)
theorem dX4_demand_45 : decode cX4_demand 45 = .ok (.getfield 13, 3) := dk_180 0 13 (dk_at dksX4_demand_2 0 rfl rfl)
theorem dX4_demand_48 : decode cX4_demand 48 = .ok (.bipush 28, 2) := dk_16 28 (dk_at dksX4_demand_2 3 rfl rfl)
theorem dX4_demand_50 : decode cX4_demand 50 = .ok (.iconst 5, 1) := dk_8 (dk_at dksX4_demand_2 5 rfl rfl)
theorem dX4_demand_51 : decode cX4_demand 51 = .ok (.iload_n 1, 1) := dk_27 (dk_at dksX4_demand_2 6 rfl rfl)
theorem dX4_demand_52 : decode cX4_demand 52 = .ok (.imul, 1) := dk_104 (dk_at dksX4_demand_2 7 rfl rfl)
theorem dX4_demand_53 : decode cX4_demand 53 = .ok (.iadd, 1) := dk_96 (dk_at dksX4_demand_2 8 rfl rfl)
theorem dX4_demand_54 : decode cX4_demand 54 = .ok (.iload_n 2, 1) := dk_28 (dk_at dksX4_demand_2 9 rfl rfl)
theorem dX4_demand_55 : decode cX4_demand 55 = .ok (.iadd, 1) := dk_96 (dk_at dksX4_demand_2 10 rfl rfl)
theorem dX4_demand_56 : decode cX4_demand 56 = .ok (.iaload, 1) := dk_46 (dk_at dksX4_demand_2 11 rfl rfl)
theorem dX4_demand_57 : decode cX4_demand 57 = .ok (.istore 4, 2) := dk_54 4 (dk_at dksX4_demand_2 12 rfl rfl)
theorem dX4_demand_59 : decode cX4_demand 59 = .ok (.aload_n 0, 1) := dk_42 (dk_at dksX4_demand_2 14 rfl rfl)
theorem dX4_demand_60 : decode cX4_demand 60 = .ok (.getfield 13, 3) := dk_180 0 13 (dk_at dksX4_demand_2 15 rfl rfl)
theorem dX4_demand_63 : decode cX4_demand 63 = .ok (.bipush 28, 2) := dk_16 28 (dk_at dksX4_demand_2 18 rfl rfl)
theorem dX4_demand_65 : decode cX4_demand 65 = .ok (.iconst 5, 1) := dk_8 (dk_at dksX4_demand_2 20 rfl rfl)
theorem dX4_demand_66 : decode cX4_demand 66 = .ok (.iload_n 1, 1) := dk_27 (dk_at dksX4_demand_2 21 rfl rfl)
theorem dX4_demand_67 : decode cX4_demand 67 = .ok (.imul, 1) := dk_104 (dk_at dksX4_demand_2 22 rfl rfl)
theorem dX4_demand_68 : decode cX4_demand 68 = .ok (.iadd, 1) := dk_96 (dk_at dksX4_demand_2 23 rfl rfl)
theorem dX4_demand_69 : decode cX4_demand 69 = .ok (.iload_n 2, 1) := dk_28 (dk_at dksX4_demand_3 0 rfl rfl)
theorem dX4_demand_70 : decode cX4_demand 70 = .ok (.iadd, 1) := dk_96 (dk_at dksX4_demand_3 1 rfl rfl)
theorem dX4_demand_71 : decode cX4_demand 71 = .ok (.iload_n 3, 1) := dk_29 (dk_at dksX4_demand_3 2 rfl rfl)
theorem dX4_demand_72 : decode cX4_demand 72 = .ok (.iastore, 1) := dk_79 (dk_at dksX4_demand_3 3 rfl rfl)
theorem dX4_demand_73 : decode cX4_demand 73 = .ok (.aload_n 0, 1) := dk_42 (dk_at dksX4_demand_3 4 rfl rfl)
theorem dX4_demand_74 : decode cX4_demand 74 = .ok (.invokevirtual 124, 3) := dk_182 0 124 (dk_at dksX4_demand_3 5 rfl rfl)
theorem dX4_demand_77 : decode cX4_demand 77 = .ok (.iload 4, 2) := dk_21 4 (dk_at dksX4_demand_3 8 rfl rfl)
theorem dX4_demand_79 : decode cX4_demand 79 = .ok (.ireturn, 1) := dk_172 (dk_at dksX4_demand_3 10 rfl rfl)
abbrev cX4_isLicence : ByteArray := prog_17_method_9_code
def yX4_isLicence : MethodName := ⟨RX4, "isLicence", "(I)Z"⟩
def dkwX4_isLicence_0 : List UInt8 := [27, 3, 42, 180, 0, 13, 3, 46, 4, 100, 184, 0, 113, 172]
abbrev dktX4_isLicence_0 : List UInt8 := dkwX4_isLicence_0 ++ []
theorem dksX4_isLicence_0 : cX4_isLicence.data.toList.drop 0 = dktX4_isLicence_0 := by decide +kernel
theorem dX4_isLicence_0 : decode cX4_isLicence 0 = .ok (.iload_n 1, 1) := dk_27 (dk_at dksX4_isLicence_0 0 rfl rfl)
theorem dX4_isLicence_1 : decode cX4_isLicence 1 = .ok (.iconst 0, 1) := dk_3 (dk_at dksX4_isLicence_0 1 rfl rfl)
theorem dX4_isLicence_2 : decode cX4_isLicence 2 = .ok (.aload_n 0, 1) := dk_42 (dk_at dksX4_isLicence_0 2 rfl rfl)
theorem dX4_isLicence_3 : decode cX4_isLicence 3 = .ok (.getfield 13, 3) := dk_180 0 13 (dk_at dksX4_isLicence_0 3 rfl rfl)
theorem dX4_isLicence_6 : decode cX4_isLicence 6 = .ok (.iconst 0, 1) := dk_3 (dk_at dksX4_isLicence_0 6 rfl rfl)
theorem dX4_isLicence_7 : decode cX4_isLicence 7 = .ok (.iaload, 1) := dk_46 (dk_at dksX4_isLicence_0 7 rfl rfl)
theorem dX4_isLicence_8 : decode cX4_isLicence 8 = .ok (.iconst 1, 1) := dk_4 (dk_at dksX4_isLicence_0 8 rfl rfl)
theorem dX4_isLicence_9 : decode cX4_isLicence 9 = .ok (.isub, 1) := dk_100 (dk_at dksX4_isLicence_0 9 rfl rfl)
theorem dX4_isLicence_10 : decode cX4_isLicence 10 = .ok (.invokestatic 113, 3) := dk_184 0 113 (dk_at dksX4_isLicence_0 10 rfl rfl)
theorem dX4_isLicence_13 : decode cX4_isLicence 13 = .ok (.ireturn, 1) := dk_172 (dk_at dksX4_isLicence_0 13 rfl rfl)
abbrev cX4_addFile : ByteArray := prog_17_method_16_code
def yX4_addFile : MethodName := ⟨RX4, "addFile", "(III)I"⟩
def dkwX4_addFile_5 : List UInt8 := [96, 3, 79, 42, 180, 0, 13, 4, 92, 46, 4, 96, 79, 42, 182, 0, 124, 21, 4, 172]
abbrev dktX4_addFile_5 : List UInt8 := dkwX4_addFile_5 ++ []
def dkwX4_addFile_4 : List UInt8 := [21, 4, 96, 28, 79, 42, 180, 0, 13, 16, 88, 21, 4, 96, 29, 79, 42, 180, 0, 13, 16, 98, 21, 4]
abbrev dktX4_addFile_4 : List UInt8 := dkwX4_addFile_4 ++ dktX4_addFile_5
def dkwX4_addFile_3 : List UInt8 := [180, 0, 13, 4, 46, 54, 4, 42, 180, 0, 13, 16, 68, 21, 4, 96, 27, 79, 42, 180, 0, 13, 16, 78]
abbrev dktX4_addFile_3 : List UInt8 := dkwX4_addFile_3 ++ dktX4_addFile_4
def dkwX4_addFile_2 : List UInt8 := [42, 5, 182, 0, 120, 172, 42, 180, 0, 13, 4, 46, 16, 10, 160, 0, 9, 42, 6, 182, 0, 120, 172, 42]
abbrev dktX4_addFile_2 : List UInt8 := dkwX4_addFile_2 ++ dktX4_addFile_3
def dkwX4_addFile_1 : List UInt8 := [154, 0, 9, 42, 4, 182, 0, 120, 172, 27, 28, 159, 0, 13, 29, 4, 16, 99, 184, 0, 113, 154, 0, 9]
abbrev dktX4_addFile_1 : List UInt8 := dkwX4_addFile_1 ++ dktX4_addFile_2
def dkwX4_addFile_0 : List UInt8 := [42, 182, 0, 117, 42, 27, 182, 0, 127, 153, 0, 16, 28, 2, 159, 0, 17, 42, 28, 182, 0, 127]
abbrev dktX4_addFile_0 : List UInt8 := dkwX4_addFile_0 ++ dktX4_addFile_1
theorem dksX4_addFile_0 : cX4_addFile.data.toList.drop 0 = dktX4_addFile_0 := by decide +kernel
theorem dksX4_addFile_1 : cX4_addFile.data.toList.drop 22 = dktX4_addFile_1 := dk_seg dksX4_addFile_0 22 rfl rfl
theorem dksX4_addFile_2 : cX4_addFile.data.toList.drop 46 = dktX4_addFile_2 := dk_seg dksX4_addFile_1 24 rfl rfl
theorem dksX4_addFile_3 : cX4_addFile.data.toList.drop 70 = dktX4_addFile_3 := dk_seg dksX4_addFile_2 24 rfl rfl
theorem dksX4_addFile_4 : cX4_addFile.data.toList.drop 94 = dktX4_addFile_4 := dk_seg dksX4_addFile_3 24 rfl rfl
theorem dksX4_addFile_5 : cX4_addFile.data.toList.drop 118 = dktX4_addFile_5 := dk_seg dksX4_addFile_4 24 rfl rfl
theorem dX4_addFile_0 : decode cX4_addFile 0 = .ok (.aload_n 0, 1) := dk_42 (dk_at dksX4_addFile_0 0 rfl rfl)
theorem dX4_addFile_1 : decode cX4_addFile 1 = .ok (.invokevirtual 117, 3) := dk_182 0 117 (dk_at dksX4_addFile_0 1 rfl rfl)
theorem dX4_addFile_4 : decode cX4_addFile 4 = .ok (.aload_n 0, 1) := dk_42 (dk_at dksX4_addFile_0 4 rfl rfl)
theorem dX4_addFile_5 : decode cX4_addFile 5 = .ok (.iload_n 1, 1) := dk_27 (dk_at dksX4_addFile_0 5 rfl rfl)
theorem dX4_addFile_6 : decode cX4_addFile 6 = .ok (.invokevirtual 127, 3) := dk_182 0 127 (dk_at dksX4_addFile_0 6 rfl rfl)
theorem dX4_addFile_9 : decode cX4_addFile 9 = .ok (.ifCond .eq 16, 3) := dk_153 0 16 (dk_at dksX4_addFile_0 9 rfl rfl)
theorem dX4_addFile_12 : decode cX4_addFile 12 = .ok (.iload_n 2, 1) := dk_28 (dk_at dksX4_addFile_0 12 rfl rfl)
theorem dX4_addFile_13 : decode cX4_addFile 13 = .ok (.iconst (-1), 1) := dk_2 (dk_at dksX4_addFile_0 13 rfl rfl)
theorem dX4_addFile_14 : decode cX4_addFile 14 = .ok (.if_icmp .eq 17, 3) := dk_159 0 17 (dk_at dksX4_addFile_0 14 rfl rfl)
theorem dX4_addFile_17 : decode cX4_addFile 17 = .ok (.aload_n 0, 1) := dk_42 (dk_at dksX4_addFile_0 17 rfl rfl)
theorem dX4_addFile_18 : decode cX4_addFile 18 = .ok (.iload_n 2, 1) := dk_28 (dk_at dksX4_addFile_0 18 rfl rfl)
theorem dX4_addFile_19 : decode cX4_addFile 19 = .ok (.invokevirtual 127, 3) := dk_182 0 127 (dk_at dksX4_addFile_0 19 rfl rfl)
theorem dX4_addFile_22 : decode cX4_addFile 22 = .ok (.ifCond .ne 9, 3) := dk_154 0 9 (dk_at dksX4_addFile_1 0 rfl rfl)
theorem dX4_addFile_25 : decode cX4_addFile 25 = .ok (.aload_n 0, 1) := dk_42 (dk_at dksX4_addFile_1 3 rfl rfl)
theorem dX4_addFile_26 : decode cX4_addFile 26 = .ok (.iconst 1, 1) := dk_4 (dk_at dksX4_addFile_1 4 rfl rfl)
theorem dX4_addFile_27 : decode cX4_addFile 27 = .ok (.invokevirtual 120, 3) := dk_182 0 120 (dk_at dksX4_addFile_1 5 rfl rfl)
theorem dX4_addFile_30 : decode cX4_addFile 30 = .ok (.ireturn, 1) := dk_172 (dk_at dksX4_addFile_1 8 rfl rfl)
theorem dX4_addFile_31 : decode cX4_addFile 31 = .ok (.iload_n 1, 1) := dk_27 (dk_at dksX4_addFile_1 9 rfl rfl)
theorem dX4_addFile_32 : decode cX4_addFile 32 = .ok (.iload_n 2, 1) := dk_28 (dk_at dksX4_addFile_1 10 rfl rfl)
theorem dX4_addFile_33 : decode cX4_addFile 33 = .ok (.if_icmp .eq 13, 3) := dk_159 0 13 (dk_at dksX4_addFile_1 11 rfl rfl)
theorem dX4_addFile_36 : decode cX4_addFile 36 = .ok (.iload_n 3, 1) := dk_29 (dk_at dksX4_addFile_1 14 rfl rfl)
theorem dX4_addFile_37 : decode cX4_addFile 37 = .ok (.iconst 1, 1) := dk_4 (dk_at dksX4_addFile_1 15 rfl rfl)
theorem dX4_addFile_38 : decode cX4_addFile 38 = .ok (.bipush 99, 2) := dk_16 99 (dk_at dksX4_addFile_1 16 rfl rfl)
theorem dX4_addFile_40 : decode cX4_addFile 40 = .ok (.invokestatic 113, 3) := dk_184 0 113 (dk_at dksX4_addFile_1 18 rfl rfl)
theorem dX4_addFile_43 : decode cX4_addFile 43 = .ok (.ifCond .ne 9, 3) := dk_154 0 9 (dk_at dksX4_addFile_1 21 rfl rfl)
theorem dX4_addFile_46 : decode cX4_addFile 46 = .ok (.aload_n 0, 1) := dk_42 (dk_at dksX4_addFile_2 0 rfl rfl)
theorem dX4_addFile_47 : decode cX4_addFile 47 = .ok (.iconst 2, 1) := dk_5 (dk_at dksX4_addFile_2 1 rfl rfl)
theorem dX4_addFile_48 : decode cX4_addFile 48 = .ok (.invokevirtual 120, 3) := dk_182 0 120 (dk_at dksX4_addFile_2 2 rfl rfl)
theorem dX4_addFile_51 : decode cX4_addFile 51 = .ok (.ireturn, 1) := dk_172 (dk_at dksX4_addFile_2 5 rfl rfl)
theorem dX4_addFile_52 : decode cX4_addFile 52 = .ok (.aload_n 0, 1) := dk_42 (dk_at dksX4_addFile_2 6 rfl rfl)
theorem dX4_addFile_53 : decode cX4_addFile 53 = .ok (.getfield 13, 3) := dk_180 0 13 (dk_at dksX4_addFile_2 7 rfl rfl)
theorem dX4_addFile_56 : decode cX4_addFile 56 = .ok (.iconst 1, 1) := dk_4 (dk_at dksX4_addFile_2 10 rfl rfl)
theorem dX4_addFile_57 : decode cX4_addFile 57 = .ok (.iaload, 1) := dk_46 (dk_at dksX4_addFile_2 11 rfl rfl)
theorem dX4_addFile_58 : decode cX4_addFile 58 = .ok (.bipush 10, 2) := dk_16 10 (dk_at dksX4_addFile_2 12 rfl rfl)
theorem dX4_addFile_60 : decode cX4_addFile 60 = .ok (.if_icmp .ne 9, 3) := dk_160 0 9 (dk_at dksX4_addFile_2 14 rfl rfl)
theorem dX4_addFile_63 : decode cX4_addFile 63 = .ok (.aload_n 0, 1) := dk_42 (dk_at dksX4_addFile_2 17 rfl rfl)
theorem dX4_addFile_64 : decode cX4_addFile 64 = .ok (.iconst 3, 1) := dk_6 (dk_at dksX4_addFile_2 18 rfl rfl)
theorem dX4_addFile_65 : decode cX4_addFile 65 = .ok (.invokevirtual 120, 3) := dk_182 0 120 (dk_at dksX4_addFile_2 19 rfl rfl)
theorem dX4_addFile_68 : decode cX4_addFile 68 = .ok (.ireturn, 1) := dk_172 (dk_at dksX4_addFile_2 22 rfl rfl)
theorem dX4_addFile_69 : decode cX4_addFile 69 = .ok (.aload_n 0, 1) := dk_42 (dk_at dksX4_addFile_2 23 rfl rfl)
theorem dX4_addFile_70 : decode cX4_addFile 70 = .ok (.getfield 13, 3) := dk_180 0 13 (dk_at dksX4_addFile_3 0 rfl rfl)
theorem dX4_addFile_73 : decode cX4_addFile 73 = .ok (.iconst 1, 1) := dk_4 (dk_at dksX4_addFile_3 3 rfl rfl)
theorem dX4_addFile_74 : decode cX4_addFile 74 = .ok (.iaload, 1) := dk_46 (dk_at dksX4_addFile_3 4 rfl rfl)
theorem dX4_addFile_75 : decode cX4_addFile 75 = .ok (.istore 4, 2) := dk_54 4 (dk_at dksX4_addFile_3 5 rfl rfl)
theorem dX4_addFile_77 : decode cX4_addFile 77 = .ok (.aload_n 0, 1) := dk_42 (dk_at dksX4_addFile_3 7 rfl rfl)
theorem dX4_addFile_78 : decode cX4_addFile 78 = .ok (.getfield 13, 3) := dk_180 0 13 (dk_at dksX4_addFile_3 8 rfl rfl)
theorem dX4_addFile_81 : decode cX4_addFile 81 = .ok (.bipush 68, 2) := dk_16 68 (dk_at dksX4_addFile_3 11 rfl rfl)
theorem dX4_addFile_83 : decode cX4_addFile 83 = .ok (.iload 4, 2) := dk_21 4 (dk_at dksX4_addFile_3 13 rfl rfl)
theorem dX4_addFile_85 : decode cX4_addFile 85 = .ok (.iadd, 1) := dk_96 (dk_at dksX4_addFile_3 15 rfl rfl)
theorem dX4_addFile_86 : decode cX4_addFile 86 = .ok (.iload_n 1, 1) := dk_27 (dk_at dksX4_addFile_3 16 rfl rfl)
theorem dX4_addFile_87 : decode cX4_addFile 87 = .ok (.iastore, 1) := dk_79 (dk_at dksX4_addFile_3 17 rfl rfl)
theorem dX4_addFile_88 : decode cX4_addFile 88 = .ok (.aload_n 0, 1) := dk_42 (dk_at dksX4_addFile_3 18 rfl rfl)
theorem dX4_addFile_89 : decode cX4_addFile 89 = .ok (.getfield 13, 3) := dk_180 0 13 (dk_at dksX4_addFile_3 19 rfl rfl)
theorem dX4_addFile_92 : decode cX4_addFile 92 = .ok (.bipush 78, 2) := dk_16 78 (dk_at dksX4_addFile_3 22 rfl rfl)
theorem dX4_addFile_94 : decode cX4_addFile 94 = .ok (.iload 4, 2) := dk_21 4 (dk_at dksX4_addFile_4 0 rfl rfl)
theorem dX4_addFile_96 : decode cX4_addFile 96 = .ok (.iadd, 1) := dk_96 (dk_at dksX4_addFile_4 2 rfl rfl)
theorem dX4_addFile_97 : decode cX4_addFile 97 = .ok (.iload_n 2, 1) := dk_28 (dk_at dksX4_addFile_4 3 rfl rfl)
theorem dX4_addFile_98 : decode cX4_addFile 98 = .ok (.iastore, 1) := dk_79 (dk_at dksX4_addFile_4 4 rfl rfl)
theorem dX4_addFile_99 : decode cX4_addFile 99 = .ok (.aload_n 0, 1) := dk_42 (dk_at dksX4_addFile_4 5 rfl rfl)
theorem dX4_addFile_100 : decode cX4_addFile 100 = .ok (.getfield 13, 3) := dk_180 0 13 (dk_at dksX4_addFile_4 6 rfl rfl)
theorem dX4_addFile_103 : decode cX4_addFile 103 = .ok (.bipush 88, 2) := dk_16 88 (dk_at dksX4_addFile_4 9 rfl rfl)
theorem dX4_addFile_105 : decode cX4_addFile 105 = .ok (.iload 4, 2) := dk_21 4 (dk_at dksX4_addFile_4 11 rfl rfl)
theorem dX4_addFile_107 : decode cX4_addFile 107 = .ok (.iadd, 1) := dk_96 (dk_at dksX4_addFile_4 13 rfl rfl)
theorem dX4_addFile_108 : decode cX4_addFile 108 = .ok (.iload_n 3, 1) := dk_29 (dk_at dksX4_addFile_4 14 rfl rfl)
theorem dX4_addFile_109 : decode cX4_addFile 109 = .ok (.iastore, 1) := dk_79 (dk_at dksX4_addFile_4 15 rfl rfl)
theorem dX4_addFile_110 : decode cX4_addFile 110 = .ok (.aload_n 0, 1) := dk_42 (dk_at dksX4_addFile_4 16 rfl rfl)
theorem dX4_addFile_111 : decode cX4_addFile 111 = .ok (.getfield 13, 3) := dk_180 0 13 (dk_at dksX4_addFile_4 17 rfl rfl)
theorem dX4_addFile_114 : decode cX4_addFile 114 = .ok (.bipush 98, 2) := dk_16 98 (dk_at dksX4_addFile_4 20 rfl rfl)
theorem dX4_addFile_116 : decode cX4_addFile 116 = .ok (.iload 4, 2) := dk_21 4 (dk_at dksX4_addFile_4 22 rfl rfl)
theorem dX4_addFile_118 : decode cX4_addFile 118 = .ok (.iadd, 1) := dk_96 (dk_at dksX4_addFile_5 0 rfl rfl)
theorem dX4_addFile_119 : decode cX4_addFile 119 = .ok (.iconst 0, 1) := dk_3 (dk_at dksX4_addFile_5 1 rfl rfl)
theorem dX4_addFile_120 : decode cX4_addFile 120 = .ok (.iastore, 1) := dk_79 (dk_at dksX4_addFile_5 2 rfl rfl)
theorem dX4_addFile_121 : decode cX4_addFile 121 = .ok (.aload_n 0, 1) := dk_42 (dk_at dksX4_addFile_5 3 rfl rfl)
theorem dX4_addFile_122 : decode cX4_addFile 122 = .ok (.getfield 13, 3) := dk_180 0 13 (dk_at dksX4_addFile_5 4 rfl rfl)
theorem dX4_addFile_125 : decode cX4_addFile 125 = .ok (.iconst 1, 1) := dk_4 (dk_at dksX4_addFile_5 7 rfl rfl)
theorem dX4_addFile_126 : decode cX4_addFile 126 = .ok (.dup2, 1) := dk_92 (dk_at dksX4_addFile_5 8 rfl rfl)
theorem dX4_addFile_127 : decode cX4_addFile 127 = .ok (.iaload, 1) := dk_46 (dk_at dksX4_addFile_5 9 rfl rfl)
theorem dX4_addFile_128 : decode cX4_addFile 128 = .ok (.iconst 1, 1) := dk_4 (dk_at dksX4_addFile_5 10 rfl rfl)
theorem dX4_addFile_129 : decode cX4_addFile 129 = .ok (.iadd, 1) := dk_96 (dk_at dksX4_addFile_5 11 rfl rfl)
theorem dX4_addFile_130 : decode cX4_addFile 130 = .ok (.iastore, 1) := dk_79 (dk_at dksX4_addFile_5 12 rfl rfl)
theorem dX4_addFile_131 : decode cX4_addFile 131 = .ok (.aload_n 0, 1) := dk_42 (dk_at dksX4_addFile_5 13 rfl rfl)
theorem dX4_addFile_132 : decode cX4_addFile 132 = .ok (.invokevirtual 124, 3) := dk_182 0 124 (dk_at dksX4_addFile_5 14 rfl rfl)
theorem dX4_addFile_135 : decode cX4_addFile 135 = .ok (.iload 4, 2) := dk_21 4 (dk_at dksX4_addFile_5 17 rfl rfl)
theorem dX4_addFile_137 : decode cX4_addFile 137 = .ok (.ireturn, 1) := dk_172 (dk_at dksX4_addFile_5 19 rfl rfl)
abbrev cX4_flip : ByteArray := prog_17_method_19_code
def yX4_flip : MethodName := ⟨RX4, "flip", "(I)I"⟩
def dkwX4_flip_2 : List UInt8 := [27, 96, 46, 100, 79, 42, 182, 0, 124, 42, 27, 182, 0, 137, 172]
abbrev dktX4_flip_2 : List UInt8 := dkwX4_flip_2 ++ []
def dkwX4_flip_1 : List UInt8 := [154, 0, 9, 42, 5, 182, 0, 120, 172, 42, 180, 0, 13, 16, 98, 27, 96, 4, 42, 180, 0, 13, 16, 98]
abbrev dktX4_flip_1 : List UInt8 := dkwX4_flip_1 ++ dktX4_flip_2
def dkwX4_flip_0 : List UInt8 := [42, 182, 0, 117, 42, 27, 182, 0, 131, 154, 0, 9, 42, 4, 182, 0, 120, 172, 42, 27, 182, 0, 134]
abbrev dktX4_flip_0 : List UInt8 := dkwX4_flip_0 ++ dktX4_flip_1
theorem dksX4_flip_0 : cX4_flip.data.toList.drop 0 = dktX4_flip_0 := by decide +kernel
theorem dksX4_flip_1 : cX4_flip.data.toList.drop 23 = dktX4_flip_1 := dk_seg dksX4_flip_0 23 rfl rfl
theorem dksX4_flip_2 : cX4_flip.data.toList.drop 47 = dktX4_flip_2 := dk_seg dksX4_flip_1 24 rfl rfl
theorem dX4_flip_0 : decode cX4_flip 0 = .ok (.aload_n 0, 1) := dk_42 (dk_at dksX4_flip_0 0 rfl rfl)
theorem dX4_flip_1 : decode cX4_flip 1 = .ok (.invokevirtual 117, 3) := dk_182 0 117 (dk_at dksX4_flip_0 1 rfl rfl)
theorem dX4_flip_4 : decode cX4_flip 4 = .ok (.aload_n 0, 1) := dk_42 (dk_at dksX4_flip_0 4 rfl rfl)
theorem dX4_flip_5 : decode cX4_flip 5 = .ok (.iload_n 1, 1) := dk_27 (dk_at dksX4_flip_0 5 rfl rfl)
theorem dX4_flip_6 : decode cX4_flip 6 = .ok (.invokevirtual 131, 3) := dk_182 0 131 (dk_at dksX4_flip_0 6 rfl rfl)
theorem dX4_flip_9 : decode cX4_flip 9 = .ok (.ifCond .ne 9, 3) := dk_154 0 9 (dk_at dksX4_flip_0 9 rfl rfl)
theorem dX4_flip_12 : decode cX4_flip 12 = .ok (.aload_n 0, 1) := dk_42 (dk_at dksX4_flip_0 12 rfl rfl)
theorem dX4_flip_13 : decode cX4_flip 13 = .ok (.iconst 1, 1) := dk_4 (dk_at dksX4_flip_0 13 rfl rfl)
theorem dX4_flip_14 : decode cX4_flip 14 = .ok (.invokevirtual 120, 3) := dk_182 0 120 (dk_at dksX4_flip_0 14 rfl rfl)
theorem dX4_flip_17 : decode cX4_flip 17 = .ok (.ireturn, 1) := dk_172 (dk_at dksX4_flip_0 17 rfl rfl)
theorem dX4_flip_18 : decode cX4_flip 18 = .ok (.aload_n 0, 1) := dk_42 (dk_at dksX4_flip_0 18 rfl rfl)
theorem dX4_flip_19 : decode cX4_flip 19 = .ok (.iload_n 1, 1) := dk_27 (dk_at dksX4_flip_0 19 rfl rfl)
theorem dX4_flip_20 : decode cX4_flip 20 = .ok (.invokevirtual 134, 3) := dk_182 0 134 (dk_at dksX4_flip_0 20 rfl rfl)
theorem dX4_flip_23 : decode cX4_flip 23 = .ok (.ifCond .ne 9, 3) := dk_154 0 9 (dk_at dksX4_flip_1 0 rfl rfl)
theorem dX4_flip_26 : decode cX4_flip 26 = .ok (.aload_n 0, 1) := dk_42 (dk_at dksX4_flip_1 3 rfl rfl)
theorem dX4_flip_27 : decode cX4_flip 27 = .ok (.iconst 2, 1) := dk_5 (dk_at dksX4_flip_1 4 rfl rfl)
theorem dX4_flip_28 : decode cX4_flip 28 = .ok (.invokevirtual 120, 3) := dk_182 0 120 (dk_at dksX4_flip_1 5 rfl rfl)
theorem dX4_flip_31 : decode cX4_flip 31 = .ok (.ireturn, 1) := dk_172 (dk_at dksX4_flip_1 8 rfl rfl)
theorem dX4_flip_32 : decode cX4_flip 32 = .ok (.aload_n 0, 1) := dk_42 (dk_at dksX4_flip_1 9 rfl rfl)
theorem dX4_flip_33 : decode cX4_flip 33 = .ok (.getfield 13, 3) := dk_180 0 13 (dk_at dksX4_flip_1 10 rfl rfl)
theorem dX4_flip_36 : decode cX4_flip 36 = .ok (.bipush 98, 2) := dk_16 98 (dk_at dksX4_flip_1 13 rfl rfl)
theorem dX4_flip_38 : decode cX4_flip 38 = .ok (.iload_n 1, 1) := dk_27 (dk_at dksX4_flip_1 15 rfl rfl)
theorem dX4_flip_39 : decode cX4_flip 39 = .ok (.iadd, 1) := dk_96 (dk_at dksX4_flip_1 16 rfl rfl)
theorem dX4_flip_40 : decode cX4_flip 40 = .ok (.iconst 1, 1) := dk_4 (dk_at dksX4_flip_1 17 rfl rfl)
theorem dX4_flip_41 : decode cX4_flip 41 = .ok (.aload_n 0, 1) := dk_42 (dk_at dksX4_flip_1 18 rfl rfl)
theorem dX4_flip_42 : decode cX4_flip 42 = .ok (.getfield 13, 3) := dk_180 0 13 (dk_at dksX4_flip_1 19 rfl rfl)
theorem dX4_flip_45 : decode cX4_flip 45 = .ok (.bipush 98, 2) := dk_16 98 (dk_at dksX4_flip_1 22 rfl rfl)
theorem dX4_flip_47 : decode cX4_flip 47 = .ok (.iload_n 1, 1) := dk_27 (dk_at dksX4_flip_2 0 rfl rfl)
theorem dX4_flip_48 : decode cX4_flip 48 = .ok (.iadd, 1) := dk_96 (dk_at dksX4_flip_2 1 rfl rfl)
theorem dX4_flip_49 : decode cX4_flip 49 = .ok (.iaload, 1) := dk_46 (dk_at dksX4_flip_2 2 rfl rfl)
theorem dX4_flip_50 : decode cX4_flip 50 = .ok (.isub, 1) := dk_100 (dk_at dksX4_flip_2 3 rfl rfl)
theorem dX4_flip_51 : decode cX4_flip 51 = .ok (.iastore, 1) := dk_79 (dk_at dksX4_flip_2 4 rfl rfl)
theorem dX4_flip_52 : decode cX4_flip 52 = .ok (.aload_n 0, 1) := dk_42 (dk_at dksX4_flip_2 5 rfl rfl)
theorem dX4_flip_53 : decode cX4_flip 53 = .ok (.invokevirtual 124, 3) := dk_182 0 124 (dk_at dksX4_flip_2 6 rfl rfl)
theorem dX4_flip_56 : decode cX4_flip 56 = .ok (.aload_n 0, 1) := dk_42 (dk_at dksX4_flip_2 9 rfl rfl)
theorem dX4_flip_57 : decode cX4_flip 57 = .ok (.iload_n 1, 1) := dk_27 (dk_at dksX4_flip_2 10 rfl rfl)
theorem dX4_flip_58 : decode cX4_flip 58 = .ok (.invokevirtual 137, 3) := dk_182 0 137 (dk_at dksX4_flip_2 11 rfl rfl)
theorem dX4_flip_61 : decode cX4_flip 61 = .ok (.ireturn, 1) := dk_172 (dk_at dksX4_flip_2 14 rfl rfl)
abbrev cX4_isFile : ByteArray := prog_17_method_10_code
def yX4_isFile : MethodName := ⟨RX4, "isFile", "(I)Z"⟩
def dkwX4_isFile_0 : List UInt8 := [27, 3, 42, 180, 0, 13, 4, 46, 4, 100, 184, 0, 113, 172]
abbrev dktX4_isFile_0 : List UInt8 := dkwX4_isFile_0 ++ []
theorem dksX4_isFile_0 : cX4_isFile.data.toList.drop 0 = dktX4_isFile_0 := by decide +kernel
theorem dX4_isFile_0 : decode cX4_isFile 0 = .ok (.iload_n 1, 1) := dk_27 (dk_at dksX4_isFile_0 0 rfl rfl)
theorem dX4_isFile_1 : decode cX4_isFile 1 = .ok (.iconst 0, 1) := dk_3 (dk_at dksX4_isFile_0 1 rfl rfl)
theorem dX4_isFile_2 : decode cX4_isFile 2 = .ok (.aload_n 0, 1) := dk_42 (dk_at dksX4_isFile_0 2 rfl rfl)
theorem dX4_isFile_3 : decode cX4_isFile 3 = .ok (.getfield 13, 3) := dk_180 0 13 (dk_at dksX4_isFile_0 3 rfl rfl)
theorem dX4_isFile_6 : decode cX4_isFile 6 = .ok (.iconst 1, 1) := dk_4 (dk_at dksX4_isFile_0 6 rfl rfl)
theorem dX4_isFile_7 : decode cX4_isFile 7 = .ok (.iaload, 1) := dk_46 (dk_at dksX4_isFile_0 7 rfl rfl)
theorem dX4_isFile_8 : decode cX4_isFile 8 = .ok (.iconst 1, 1) := dk_4 (dk_at dksX4_isFile_0 8 rfl rfl)
theorem dX4_isFile_9 : decode cX4_isFile 9 = .ok (.isub, 1) := dk_100 (dk_at dksX4_isFile_0 9 rfl rfl)
theorem dX4_isFile_10 : decode cX4_isFile 10 = .ok (.invokestatic 113, 3) := dk_184 0 113 (dk_at dksX4_isFile_0 10 rfl rfl)
theorem dX4_isFile_13 : decode cX4_isFile 13 = .ok (.ireturn, 1) := dk_172 (dk_at dksX4_isFile_0 13 rfl rfl)
abbrev cX4_hasTwo : ByteArray := prog_17_method_17_code
def yX4_hasTwo : MethodName := ⟨RX4, "hasTwo", "(I)Z"⟩
def dkwX4_hasTwo_0 : List UInt8 := [42, 180, 0, 13, 16, 78, 27, 96, 46, 155, 0, 7, 4, 167, 0, 4, 3, 172]
abbrev dktX4_hasTwo_0 : List UInt8 := dkwX4_hasTwo_0 ++ []
theorem dksX4_hasTwo_0 : cX4_hasTwo.data.toList.drop 0 = dktX4_hasTwo_0 := by decide +kernel
theorem dX4_hasTwo_0 : decode cX4_hasTwo 0 = .ok (.aload_n 0, 1) := dk_42 (dk_at dksX4_hasTwo_0 0 rfl rfl)
theorem dX4_hasTwo_1 : decode cX4_hasTwo 1 = .ok (.getfield 13, 3) := dk_180 0 13 (dk_at dksX4_hasTwo_0 1 rfl rfl)
theorem dX4_hasTwo_4 : decode cX4_hasTwo 4 = .ok (.bipush 78, 2) := dk_16 78 (dk_at dksX4_hasTwo_0 4 rfl rfl)
theorem dX4_hasTwo_6 : decode cX4_hasTwo 6 = .ok (.iload_n 1, 1) := dk_27 (dk_at dksX4_hasTwo_0 6 rfl rfl)
theorem dX4_hasTwo_7 : decode cX4_hasTwo 7 = .ok (.iadd, 1) := dk_96 (dk_at dksX4_hasTwo_0 7 rfl rfl)
theorem dX4_hasTwo_8 : decode cX4_hasTwo 8 = .ok (.iaload, 1) := dk_46 (dk_at dksX4_hasTwo_0 8 rfl rfl)
theorem dX4_hasTwo_9 : decode cX4_hasTwo 9 = .ok (.ifCond .lt 7, 3) := dk_155 0 7 (dk_at dksX4_hasTwo_0 9 rfl rfl)
theorem dX4_hasTwo_12 : decode cX4_hasTwo 12 = .ok (.iconst 1, 1) := dk_4 (dk_at dksX4_hasTwo_0 12 rfl rfl)
theorem dX4_hasTwo_13 : decode cX4_hasTwo 13 = .ok (.goto 4, 3) := dk_167 0 4 (dk_at dksX4_hasTwo_0 13 rfl rfl)
theorem dX4_hasTwo_16 : decode cX4_hasTwo 16 = .ok (.iconst 0, 1) := dk_3 (dk_at dksX4_hasTwo_0 16 rfl rfl)
theorem dX4_hasTwo_17 : decode cX4_hasTwo 17 = .ok (.ireturn, 1) := dk_172 (dk_at dksX4_hasTwo_0 17 rfl rfl)
abbrev cX4_takenBy : ByteArray := prog_17_method_18_code
def yX4_takenBy : MethodName := ⟨RX4, "takenBy", "(I)I"⟩
def dkwX4_takenBy_1 : List UInt8 := [167, 0, 12, 42, 180, 0, 13, 16, 68, 27, 96, 46, 172]
abbrev dktX4_takenBy_1 : List UInt8 := dkwX4_takenBy_1 ++ []
def dkwX4_takenBy_0 : List UInt8 := [42, 180, 0, 13, 16, 98, 27, 96, 46, 4, 160, 0, 15, 42, 180, 0, 13, 16, 78, 27, 96, 46]
abbrev dktX4_takenBy_0 : List UInt8 := dkwX4_takenBy_0 ++ dktX4_takenBy_1
theorem dksX4_takenBy_0 : cX4_takenBy.data.toList.drop 0 = dktX4_takenBy_0 := by decide +kernel
theorem dksX4_takenBy_1 : cX4_takenBy.data.toList.drop 22 = dktX4_takenBy_1 := dk_seg dksX4_takenBy_0 22 rfl rfl
theorem dX4_takenBy_0 : decode cX4_takenBy 0 = .ok (.aload_n 0, 1) := dk_42 (dk_at dksX4_takenBy_0 0 rfl rfl)
theorem dX4_takenBy_1 : decode cX4_takenBy 1 = .ok (.getfield 13, 3) := dk_180 0 13 (dk_at dksX4_takenBy_0 1 rfl rfl)
theorem dX4_takenBy_4 : decode cX4_takenBy 4 = .ok (.bipush 98, 2) := dk_16 98 (dk_at dksX4_takenBy_0 4 rfl rfl)
theorem dX4_takenBy_6 : decode cX4_takenBy 6 = .ok (.iload_n 1, 1) := dk_27 (dk_at dksX4_takenBy_0 6 rfl rfl)
theorem dX4_takenBy_7 : decode cX4_takenBy 7 = .ok (.iadd, 1) := dk_96 (dk_at dksX4_takenBy_0 7 rfl rfl)
theorem dX4_takenBy_8 : decode cX4_takenBy 8 = .ok (.iaload, 1) := dk_46 (dk_at dksX4_takenBy_0 8 rfl rfl)
theorem dX4_takenBy_9 : decode cX4_takenBy 9 = .ok (.iconst 1, 1) := dk_4 (dk_at dksX4_takenBy_0 9 rfl rfl)
theorem dX4_takenBy_10 : decode cX4_takenBy 10 = .ok (.if_icmp .ne 15, 3) := dk_160 0 15 (dk_at dksX4_takenBy_0 10 rfl rfl)
theorem dX4_takenBy_13 : decode cX4_takenBy 13 = .ok (.aload_n 0, 1) := dk_42 (dk_at dksX4_takenBy_0 13 rfl rfl)
theorem dX4_takenBy_14 : decode cX4_takenBy 14 = .ok (.getfield 13, 3) := dk_180 0 13 (dk_at dksX4_takenBy_0 14 rfl rfl)
theorem dX4_takenBy_17 : decode cX4_takenBy 17 = .ok (.bipush 78, 2) := dk_16 78 (dk_at dksX4_takenBy_0 17 rfl rfl)
theorem dX4_takenBy_19 : decode cX4_takenBy 19 = .ok (.iload_n 1, 1) := dk_27 (dk_at dksX4_takenBy_0 19 rfl rfl)
theorem dX4_takenBy_20 : decode cX4_takenBy 20 = .ok (.iadd, 1) := dk_96 (dk_at dksX4_takenBy_0 20 rfl rfl)
theorem dX4_takenBy_21 : decode cX4_takenBy 21 = .ok (.iaload, 1) := dk_46 (dk_at dksX4_takenBy_0 21 rfl rfl)
theorem dX4_takenBy_22 : decode cX4_takenBy 22 = .ok (.goto 12, 3) := dk_167 0 12 (dk_at dksX4_takenBy_1 0 rfl rfl)
theorem dX4_takenBy_25 : decode cX4_takenBy 25 = .ok (.aload_n 0, 1) := dk_42 (dk_at dksX4_takenBy_1 3 rfl rfl)
theorem dX4_takenBy_26 : decode cX4_takenBy 26 = .ok (.getfield 13, 3) := dk_180 0 13 (dk_at dksX4_takenBy_1 4 rfl rfl)
theorem dX4_takenBy_29 : decode cX4_takenBy 29 = .ok (.bipush 68, 2) := dk_16 68 (dk_at dksX4_takenBy_1 7 rfl rfl)
theorem dX4_takenBy_31 : decode cX4_takenBy 31 = .ok (.iload_n 1, 1) := dk_27 (dk_at dksX4_takenBy_1 9 rfl rfl)
theorem dX4_takenBy_32 : decode cX4_takenBy 32 = .ok (.iadd, 1) := dk_96 (dk_at dksX4_takenBy_1 10 rfl rfl)
theorem dX4_takenBy_33 : decode cX4_takenBy 33 = .ok (.iaload, 1) := dk_46 (dk_at dksX4_takenBy_1 11 rfl rfl)
theorem dX4_takenBy_34 : decode cX4_takenBy 34 = .ok (.ireturn, 1) := dk_172 (dk_at dksX4_takenBy_1 12 rfl rfl)
abbrev cX4_addWork : ByteArray := prog_17_method_20_code
def yX4_addWork : MethodName := ⟨RX4, "addWork", "()I"⟩
def dkwX4_addWork_3 : List UInt8 := [180, 0, 13, 5, 92, 46, 4, 96, 79, 42, 182, 0, 124, 27, 172]
abbrev dktX4_addWork_3 : List UInt8 := dkwX4_addWork_3 ++ []
def dkwX4_addWork_2 : List UInt8 := [3, 79, 42, 180, 0, 13, 16, 120, 27, 96, 3, 79, 42, 180, 0, 13, 16, 126, 27, 96, 3, 79, 42]
abbrev dktX4_addWork_2 : List UInt8 := dkwX4_addWork_2 ++ dktX4_addWork_3
def dkwX4_addWork_1 : List UInt8 := [180, 0, 13, 5, 46, 60, 42, 180, 0, 13, 16, 108, 27, 96, 3, 79, 42, 180, 0, 13, 16, 114, 27, 96]
abbrev dktX4_addWork_1 : List UInt8 := dkwX4_addWork_1 ++ dktX4_addWork_2
def dkwX4_addWork_0 : List UInt8 := [42, 182, 0, 117, 42, 180, 0, 13, 5, 46, 16, 6, 160, 0, 9, 42, 4, 182, 0, 120, 172, 42]
abbrev dktX4_addWork_0 : List UInt8 := dkwX4_addWork_0 ++ dktX4_addWork_1
theorem dksX4_addWork_0 : cX4_addWork.data.toList.drop 0 = dktX4_addWork_0 := by decide +kernel
theorem dksX4_addWork_1 : cX4_addWork.data.toList.drop 22 = dktX4_addWork_1 := dk_seg dksX4_addWork_0 22 rfl rfl
theorem dksX4_addWork_2 : cX4_addWork.data.toList.drop 46 = dktX4_addWork_2 := dk_seg dksX4_addWork_1 24 rfl rfl
theorem dksX4_addWork_3 : cX4_addWork.data.toList.drop 69 = dktX4_addWork_3 := dk_seg dksX4_addWork_2 23 rfl rfl
theorem dX4_addWork_0 : decode cX4_addWork 0 = .ok (.aload_n 0, 1) := dk_42 (dk_at dksX4_addWork_0 0 rfl rfl)
theorem dX4_addWork_1 : decode cX4_addWork 1 = .ok (.invokevirtual 117, 3) := dk_182 0 117 (dk_at dksX4_addWork_0 1 rfl rfl)
theorem dX4_addWork_4 : decode cX4_addWork 4 = .ok (.aload_n 0, 1) := dk_42 (dk_at dksX4_addWork_0 4 rfl rfl)
theorem dX4_addWork_5 : decode cX4_addWork 5 = .ok (.getfield 13, 3) := dk_180 0 13 (dk_at dksX4_addWork_0 5 rfl rfl)
theorem dX4_addWork_8 : decode cX4_addWork 8 = .ok (.iconst 2, 1) := dk_5 (dk_at dksX4_addWork_0 8 rfl rfl)
theorem dX4_addWork_9 : decode cX4_addWork 9 = .ok (.iaload, 1) := dk_46 (dk_at dksX4_addWork_0 9 rfl rfl)
theorem dX4_addWork_10 : decode cX4_addWork 10 = .ok (.bipush 6, 2) := dk_16 6 (dk_at dksX4_addWork_0 10 rfl rfl)
theorem dX4_addWork_12 : decode cX4_addWork 12 = .ok (.if_icmp .ne 9, 3) := dk_160 0 9 (dk_at dksX4_addWork_0 12 rfl rfl)
theorem dX4_addWork_15 : decode cX4_addWork 15 = .ok (.aload_n 0, 1) := dk_42 (dk_at dksX4_addWork_0 15 rfl rfl)
theorem dX4_addWork_16 : decode cX4_addWork 16 = .ok (.iconst 1, 1) := dk_4 (dk_at dksX4_addWork_0 16 rfl rfl)
theorem dX4_addWork_17 : decode cX4_addWork 17 = .ok (.invokevirtual 120, 3) := dk_182 0 120 (dk_at dksX4_addWork_0 17 rfl rfl)
theorem dX4_addWork_20 : decode cX4_addWork 20 = .ok (.ireturn, 1) := dk_172 (dk_at dksX4_addWork_0 20 rfl rfl)
theorem dX4_addWork_21 : decode cX4_addWork 21 = .ok (.aload_n 0, 1) := dk_42 (dk_at dksX4_addWork_0 21 rfl rfl)
theorem dX4_addWork_22 : decode cX4_addWork 22 = .ok (.getfield 13, 3) := dk_180 0 13 (dk_at dksX4_addWork_1 0 rfl rfl)
theorem dX4_addWork_25 : decode cX4_addWork 25 = .ok (.iconst 2, 1) := dk_5 (dk_at dksX4_addWork_1 3 rfl rfl)
theorem dX4_addWork_26 : decode cX4_addWork 26 = .ok (.iaload, 1) := dk_46 (dk_at dksX4_addWork_1 4 rfl rfl)
theorem dX4_addWork_27 : decode cX4_addWork 27 = .ok (.istore_n 1, 1) := dk_60 (dk_at dksX4_addWork_1 5 rfl rfl)
theorem dX4_addWork_28 : decode cX4_addWork 28 = .ok (.aload_n 0, 1) := dk_42 (dk_at dksX4_addWork_1 6 rfl rfl)
theorem dX4_addWork_29 : decode cX4_addWork 29 = .ok (.getfield 13, 3) := dk_180 0 13 (dk_at dksX4_addWork_1 7 rfl rfl)
theorem dX4_addWork_32 : decode cX4_addWork 32 = .ok (.bipush 108, 2) := dk_16 108 (dk_at dksX4_addWork_1 10 rfl rfl)
theorem dX4_addWork_34 : decode cX4_addWork 34 = .ok (.iload_n 1, 1) := dk_27 (dk_at dksX4_addWork_1 12 rfl rfl)
theorem dX4_addWork_35 : decode cX4_addWork 35 = .ok (.iadd, 1) := dk_96 (dk_at dksX4_addWork_1 13 rfl rfl)
theorem dX4_addWork_36 : decode cX4_addWork 36 = .ok (.iconst 0, 1) := dk_3 (dk_at dksX4_addWork_1 14 rfl rfl)
theorem dX4_addWork_37 : decode cX4_addWork 37 = .ok (.iastore, 1) := dk_79 (dk_at dksX4_addWork_1 15 rfl rfl)
theorem dX4_addWork_38 : decode cX4_addWork 38 = .ok (.aload_n 0, 1) := dk_42 (dk_at dksX4_addWork_1 16 rfl rfl)
theorem dX4_addWork_39 : decode cX4_addWork 39 = .ok (.getfield 13, 3) := dk_180 0 13 (dk_at dksX4_addWork_1 17 rfl rfl)
theorem dX4_addWork_42 : decode cX4_addWork 42 = .ok (.bipush 114, 2) := dk_16 114 (dk_at dksX4_addWork_1 20 rfl rfl)
theorem dX4_addWork_44 : decode cX4_addWork 44 = .ok (.iload_n 1, 1) := dk_27 (dk_at dksX4_addWork_1 22 rfl rfl)
theorem dX4_addWork_45 : decode cX4_addWork 45 = .ok (.iadd, 1) := dk_96 (dk_at dksX4_addWork_1 23 rfl rfl)
theorem dX4_addWork_46 : decode cX4_addWork 46 = .ok (.iconst 0, 1) := dk_3 (dk_at dksX4_addWork_2 0 rfl rfl)
theorem dX4_addWork_47 : decode cX4_addWork 47 = .ok (.iastore, 1) := dk_79 (dk_at dksX4_addWork_2 1 rfl rfl)
theorem dX4_addWork_48 : decode cX4_addWork 48 = .ok (.aload_n 0, 1) := dk_42 (dk_at dksX4_addWork_2 2 rfl rfl)
theorem dX4_addWork_49 : decode cX4_addWork 49 = .ok (.getfield 13, 3) := dk_180 0 13 (dk_at dksX4_addWork_2 3 rfl rfl)
theorem dX4_addWork_52 : decode cX4_addWork 52 = .ok (.bipush 120, 2) := dk_16 120 (dk_at dksX4_addWork_2 6 rfl rfl)
theorem dX4_addWork_54 : decode cX4_addWork 54 = .ok (.iload_n 1, 1) := dk_27 (dk_at dksX4_addWork_2 8 rfl rfl)
theorem dX4_addWork_55 : decode cX4_addWork 55 = .ok (.iadd, 1) := dk_96 (dk_at dksX4_addWork_2 9 rfl rfl)
theorem dX4_addWork_56 : decode cX4_addWork 56 = .ok (.iconst 0, 1) := dk_3 (dk_at dksX4_addWork_2 10 rfl rfl)
theorem dX4_addWork_57 : decode cX4_addWork 57 = .ok (.iastore, 1) := dk_79 (dk_at dksX4_addWork_2 11 rfl rfl)
theorem dX4_addWork_58 : decode cX4_addWork 58 = .ok (.aload_n 0, 1) := dk_42 (dk_at dksX4_addWork_2 12 rfl rfl)
theorem dX4_addWork_59 : decode cX4_addWork 59 = .ok (.getfield 13, 3) := dk_180 0 13 (dk_at dksX4_addWork_2 13 rfl rfl)
theorem dX4_addWork_62 : decode cX4_addWork 62 = .ok (.bipush 126, 2) := dk_16 126 (dk_at dksX4_addWork_2 16 rfl rfl)
theorem dX4_addWork_64 : decode cX4_addWork 64 = .ok (.iload_n 1, 1) := dk_27 (dk_at dksX4_addWork_2 18 rfl rfl)
theorem dX4_addWork_65 : decode cX4_addWork 65 = .ok (.iadd, 1) := dk_96 (dk_at dksX4_addWork_2 19 rfl rfl)
theorem dX4_addWork_66 : decode cX4_addWork 66 = .ok (.iconst 0, 1) := dk_3 (dk_at dksX4_addWork_2 20 rfl rfl)
theorem dX4_addWork_67 : decode cX4_addWork 67 = .ok (.iastore, 1) := dk_79 (dk_at dksX4_addWork_2 21 rfl rfl)
theorem dX4_addWork_68 : decode cX4_addWork 68 = .ok (.aload_n 0, 1) := dk_42 (dk_at dksX4_addWork_2 22 rfl rfl)
theorem dX4_addWork_69 : decode cX4_addWork 69 = .ok (.getfield 13, 3) := dk_180 0 13 (dk_at dksX4_addWork_3 0 rfl rfl)
theorem dX4_addWork_72 : decode cX4_addWork 72 = .ok (.iconst 2, 1) := dk_5 (dk_at dksX4_addWork_3 3 rfl rfl)
theorem dX4_addWork_73 : decode cX4_addWork 73 = .ok (.dup2, 1) := dk_92 (dk_at dksX4_addWork_3 4 rfl rfl)
theorem dX4_addWork_74 : decode cX4_addWork 74 = .ok (.iaload, 1) := dk_46 (dk_at dksX4_addWork_3 5 rfl rfl)
theorem dX4_addWork_75 : decode cX4_addWork 75 = .ok (.iconst 1, 1) := dk_4 (dk_at dksX4_addWork_3 6 rfl rfl)
theorem dX4_addWork_76 : decode cX4_addWork 76 = .ok (.iadd, 1) := dk_96 (dk_at dksX4_addWork_3 7 rfl rfl)
theorem dX4_addWork_77 : decode cX4_addWork 77 = .ok (.iastore, 1) := dk_79 (dk_at dksX4_addWork_3 8 rfl rfl)
theorem dX4_addWork_78 : decode cX4_addWork 78 = .ok (.aload_n 0, 1) := dk_42 (dk_at dksX4_addWork_3 9 rfl rfl)
theorem dX4_addWork_79 : decode cX4_addWork 79 = .ok (.invokevirtual 124, 3) := dk_182 0 124 (dk_at dksX4_addWork_3 10 rfl rfl)
theorem dX4_addWork_82 : decode cX4_addWork 82 = .ok (.iload_n 1, 1) := dk_27 (dk_at dksX4_addWork_3 13 rfl rfl)
theorem dX4_addWork_83 : decode cX4_addWork 83 = .ok (.ireturn, 1) := dk_172 (dk_at dksX4_addWork_3 14 rfl rfl)
abbrev cX4_join : ByteArray := prog_17_method_22_code
def yX4_join : MethodName := ⟨RX4, "join", "(IIZ)Z"⟩
def dkwX4_join_1 : List UInt8 := [182, 0, 120, 158, 0, 7, 4, 167, 0, 4, 3, 172, 42, 16, 108, 27, 96, 28, 29, 182, 0, 143, 172]
abbrev dktX4_join_1 : List UInt8 := dkwX4_join_1 ++ []
def dkwX4_join_0 : List UInt8 := [42, 182, 0, 117, 42, 27, 182, 0, 140, 153, 0, 11, 42, 28, 182, 0, 131, 154, 0, 17, 42, 4]
abbrev dktX4_join_0 : List UInt8 := dkwX4_join_0 ++ dktX4_join_1
theorem dksX4_join_0 : cX4_join.data.toList.drop 0 = dktX4_join_0 := by decide +kernel
theorem dksX4_join_1 : cX4_join.data.toList.drop 22 = dktX4_join_1 := dk_seg dksX4_join_0 22 rfl rfl
theorem dX4_join_0 : decode cX4_join 0 = .ok (.aload_n 0, 1) := dk_42 (dk_at dksX4_join_0 0 rfl rfl)
theorem dX4_join_1 : decode cX4_join 1 = .ok (.invokevirtual 117, 3) := dk_182 0 117 (dk_at dksX4_join_0 1 rfl rfl)
theorem dX4_join_4 : decode cX4_join 4 = .ok (.aload_n 0, 1) := dk_42 (dk_at dksX4_join_0 4 rfl rfl)
theorem dX4_join_5 : decode cX4_join 5 = .ok (.iload_n 1, 1) := dk_27 (dk_at dksX4_join_0 5 rfl rfl)
theorem dX4_join_6 : decode cX4_join 6 = .ok (.invokevirtual 140, 3) := dk_182 0 140 (dk_at dksX4_join_0 6 rfl rfl)
theorem dX4_join_9 : decode cX4_join 9 = .ok (.ifCond .eq 11, 3) := dk_153 0 11 (dk_at dksX4_join_0 9 rfl rfl)
theorem dX4_join_12 : decode cX4_join 12 = .ok (.aload_n 0, 1) := dk_42 (dk_at dksX4_join_0 12 rfl rfl)
theorem dX4_join_13 : decode cX4_join 13 = .ok (.iload_n 2, 1) := dk_28 (dk_at dksX4_join_0 13 rfl rfl)
theorem dX4_join_14 : decode cX4_join 14 = .ok (.invokevirtual 131, 3) := dk_182 0 131 (dk_at dksX4_join_0 14 rfl rfl)
theorem dX4_join_17 : decode cX4_join 17 = .ok (.ifCond .ne 17, 3) := dk_154 0 17 (dk_at dksX4_join_0 17 rfl rfl)
theorem dX4_join_20 : decode cX4_join 20 = .ok (.aload_n 0, 1) := dk_42 (dk_at dksX4_join_0 20 rfl rfl)
theorem dX4_join_21 : decode cX4_join 21 = .ok (.iconst 1, 1) := dk_4 (dk_at dksX4_join_0 21 rfl rfl)
theorem dX4_join_22 : decode cX4_join 22 = .ok (.invokevirtual 120, 3) := dk_182 0 120 (dk_at dksX4_join_1 0 rfl rfl)
theorem dX4_join_25 : decode cX4_join 25 = .ok (.ifCond .le 7, 3) := dk_158 0 7 (dk_at dksX4_join_1 3 rfl rfl)
theorem dX4_join_28 : decode cX4_join 28 = .ok (.iconst 1, 1) := dk_4 (dk_at dksX4_join_1 6 rfl rfl)
theorem dX4_join_29 : decode cX4_join 29 = .ok (.goto 4, 3) := dk_167 0 4 (dk_at dksX4_join_1 7 rfl rfl)
theorem dX4_join_32 : decode cX4_join 32 = .ok (.iconst 0, 1) := dk_3 (dk_at dksX4_join_1 10 rfl rfl)
theorem dX4_join_33 : decode cX4_join 33 = .ok (.ireturn, 1) := dk_172 (dk_at dksX4_join_1 11 rfl rfl)
theorem dX4_join_34 : decode cX4_join 34 = .ok (.aload_n 0, 1) := dk_42 (dk_at dksX4_join_1 12 rfl rfl)
theorem dX4_join_35 : decode cX4_join 35 = .ok (.bipush 108, 2) := dk_16 108 (dk_at dksX4_join_1 13 rfl rfl)
theorem dX4_join_37 : decode cX4_join 37 = .ok (.iload_n 1, 1) := dk_27 (dk_at dksX4_join_1 15 rfl rfl)
theorem dX4_join_38 : decode cX4_join 38 = .ok (.iadd, 1) := dk_96 (dk_at dksX4_join_1 16 rfl rfl)
theorem dX4_join_39 : decode cX4_join 39 = .ok (.iload_n 2, 1) := dk_28 (dk_at dksX4_join_1 17 rfl rfl)
theorem dX4_join_40 : decode cX4_join 40 = .ok (.iload_n 3, 1) := dk_29 (dk_at dksX4_join_1 18 rfl rfl)
theorem dX4_join_41 : decode cX4_join 41 = .ok (.invokevirtual 143, 3) := dk_182 0 143 (dk_at dksX4_join_1 19 rfl rfl)
theorem dX4_join_44 : decode cX4_join 44 = .ok (.ireturn, 1) := dk_172 (dk_at dksX4_join_1 22 rfl rfl)
abbrev cX4_isWork : ByteArray := prog_17_method_11_code
def yX4_isWork : MethodName := ⟨RX4, "isWork", "(I)Z"⟩
def dkwX4_isWork_0 : List UInt8 := [27, 3, 42, 180, 0, 13, 5, 46, 4, 100, 184, 0, 113, 172]
abbrev dktX4_isWork_0 : List UInt8 := dkwX4_isWork_0 ++ []
theorem dksX4_isWork_0 : cX4_isWork.data.toList.drop 0 = dktX4_isWork_0 := by decide +kernel
theorem dX4_isWork_0 : decode cX4_isWork 0 = .ok (.iload_n 1, 1) := dk_27 (dk_at dksX4_isWork_0 0 rfl rfl)
theorem dX4_isWork_1 : decode cX4_isWork 1 = .ok (.iconst 0, 1) := dk_3 (dk_at dksX4_isWork_0 1 rfl rfl)
theorem dX4_isWork_2 : decode cX4_isWork 2 = .ok (.aload_n 0, 1) := dk_42 (dk_at dksX4_isWork_0 2 rfl rfl)
theorem dX4_isWork_3 : decode cX4_isWork 3 = .ok (.getfield 13, 3) := dk_180 0 13 (dk_at dksX4_isWork_0 3 rfl rfl)
theorem dX4_isWork_6 : decode cX4_isWork 6 = .ok (.iconst 2, 1) := dk_5 (dk_at dksX4_isWork_0 6 rfl rfl)
theorem dX4_isWork_7 : decode cX4_isWork 7 = .ok (.iaload, 1) := dk_46 (dk_at dksX4_isWork_0 7 rfl rfl)
theorem dX4_isWork_8 : decode cX4_isWork 8 = .ok (.iconst 1, 1) := dk_4 (dk_at dksX4_isWork_0 8 rfl rfl)
theorem dX4_isWork_9 : decode cX4_isWork 9 = .ok (.isub, 1) := dk_100 (dk_at dksX4_isWork_0 9 rfl rfl)
theorem dX4_isWork_10 : decode cX4_isWork 10 = .ok (.invokestatic 113, 3) := dk_184 0 113 (dk_at dksX4_isWork_0 10 rfl rfl)
theorem dX4_isWork_13 : decode cX4_isWork 13 = .ok (.ireturn, 1) := dk_172 (dk_at dksX4_isWork_0 13 rfl rfl)
abbrev cX4_lays : ByteArray := prog_17_method_21_code
def yX4_lays : MethodName := ⟨RX4, "lays", "(IIZ)Z"⟩
def dkwX4_lays_2 : List UInt8 := [180, 0, 13, 27, 46, 4, 28, 120, 2, 130, 126, 79, 42, 182, 0, 124, 21, 4, 172]
abbrev dktX4_lays_2 : List UInt8 := dkwX4_lays_2 ++ []
def dkwX4_lays_1 : List UInt8 := [180, 0, 13, 27, 29, 153, 0, 16, 42, 180, 0, 13, 27, 46, 4, 28, 120, 128, 167, 0, 15, 42]
abbrev dktX4_lays_1 : List UInt8 := dkwX4_lays_1 ++ dktX4_lays_2
def dkwX4_lays_0 : List UInt8 := [42, 180, 0, 13, 27, 46, 28, 122, 4, 126, 4, 160, 0, 7, 4, 167, 0, 4, 3, 54, 4, 42]
abbrev dktX4_lays_0 : List UInt8 := dkwX4_lays_0 ++ dktX4_lays_1
theorem dksX4_lays_0 : cX4_lays.data.toList.drop 0 = dktX4_lays_0 := by decide +kernel
theorem dksX4_lays_1 : cX4_lays.data.toList.drop 22 = dktX4_lays_1 := dk_seg dksX4_lays_0 22 rfl rfl
theorem dksX4_lays_2 : cX4_lays.data.toList.drop 44 = dktX4_lays_2 := dk_seg dksX4_lays_1 22 rfl rfl
theorem dX4_lays_0 : decode cX4_lays 0 = .ok (.aload_n 0, 1) := dk_42 (dk_at dksX4_lays_0 0 rfl rfl)
theorem dX4_lays_1 : decode cX4_lays 1 = .ok (.getfield 13, 3) := dk_180 0 13 (dk_at dksX4_lays_0 1 rfl rfl)
theorem dX4_lays_4 : decode cX4_lays 4 = .ok (.iload_n 1, 1) := dk_27 (dk_at dksX4_lays_0 4 rfl rfl)
theorem dX4_lays_5 : decode cX4_lays 5 = .ok (.iaload, 1) := dk_46 (dk_at dksX4_lays_0 5 rfl rfl)
theorem dX4_lays_6 : decode cX4_lays 6 = .ok (.iload_n 2, 1) := dk_28 (dk_at dksX4_lays_0 6 rfl rfl)
theorem dX4_lays_7 : decode cX4_lays 7 = .ok (.ishr, 1) := dk_122 (dk_at dksX4_lays_0 7 rfl rfl)
theorem dX4_lays_8 : decode cX4_lays 8 = .ok (.iconst 1, 1) := dk_4 (dk_at dksX4_lays_0 8 rfl rfl)
theorem dX4_lays_9 : decode cX4_lays 9 = .ok (.iand, 1) := dk_126 (dk_at dksX4_lays_0 9 rfl rfl)
theorem dX4_lays_10 : decode cX4_lays 10 = .ok (.iconst 1, 1) := dk_4 (dk_at dksX4_lays_0 10 rfl rfl)
theorem dX4_lays_11 : decode cX4_lays 11 = .ok (.if_icmp .ne 7, 3) := dk_160 0 7 (dk_at dksX4_lays_0 11 rfl rfl)
theorem dX4_lays_14 : decode cX4_lays 14 = .ok (.iconst 1, 1) := dk_4 (dk_at dksX4_lays_0 14 rfl rfl)
theorem dX4_lays_15 : decode cX4_lays 15 = .ok (.goto 4, 3) := dk_167 0 4 (dk_at dksX4_lays_0 15 rfl rfl)
theorem dX4_lays_18 : decode cX4_lays 18 = .ok (.iconst 0, 1) := dk_3 (dk_at dksX4_lays_0 18 rfl rfl)
theorem dX4_lays_19 : decode cX4_lays 19 = .ok (.istore 4, 2) := dk_54 4 (dk_at dksX4_lays_0 19 rfl rfl)
theorem dX4_lays_21 : decode cX4_lays 21 = .ok (.aload_n 0, 1) := dk_42 (dk_at dksX4_lays_0 21 rfl rfl)
theorem dX4_lays_22 : decode cX4_lays 22 = .ok (.getfield 13, 3) := dk_180 0 13 (dk_at dksX4_lays_1 0 rfl rfl)
theorem dX4_lays_25 : decode cX4_lays 25 = .ok (.iload_n 1, 1) := dk_27 (dk_at dksX4_lays_1 3 rfl rfl)
theorem dX4_lays_26 : decode cX4_lays 26 = .ok (.iload_n 3, 1) := dk_29 (dk_at dksX4_lays_1 4 rfl rfl)
theorem dX4_lays_27 : decode cX4_lays 27 = .ok (.ifCond .eq 16, 3) := dk_153 0 16 (dk_at dksX4_lays_1 5 rfl rfl)
theorem dX4_lays_30 : decode cX4_lays 30 = .ok (.aload_n 0, 1) := dk_42 (dk_at dksX4_lays_1 8 rfl rfl)
theorem dX4_lays_31 : decode cX4_lays 31 = .ok (.getfield 13, 3) := dk_180 0 13 (dk_at dksX4_lays_1 9 rfl rfl)
theorem dX4_lays_34 : decode cX4_lays 34 = .ok (.iload_n 1, 1) := dk_27 (dk_at dksX4_lays_1 12 rfl rfl)
theorem dX4_lays_35 : decode cX4_lays 35 = .ok (.iaload, 1) := dk_46 (dk_at dksX4_lays_1 13 rfl rfl)
theorem dX4_lays_36 : decode cX4_lays 36 = .ok (.iconst 1, 1) := dk_4 (dk_at dksX4_lays_1 14 rfl rfl)
theorem dX4_lays_37 : decode cX4_lays 37 = .ok (.iload_n 2, 1) := dk_28 (dk_at dksX4_lays_1 15 rfl rfl)
theorem dX4_lays_38 : decode cX4_lays 38 = .ok (.ishl, 1) := dk_120 (dk_at dksX4_lays_1 16 rfl rfl)
theorem dX4_lays_39 : decode cX4_lays 39 = .ok (.ior, 1) := dk_128 (dk_at dksX4_lays_1 17 rfl rfl)
theorem dX4_lays_40 : decode cX4_lays 40 = .ok (.goto 15, 3) := dk_167 0 15 (dk_at dksX4_lays_1 18 rfl rfl)
theorem dX4_lays_43 : decode cX4_lays 43 = .ok (.aload_n 0, 1) := dk_42 (dk_at dksX4_lays_1 21 rfl rfl)
theorem dX4_lays_44 : decode cX4_lays 44 = .ok (.getfield 13, 3) := dk_180 0 13 (dk_at dksX4_lays_2 0 rfl rfl)
theorem dX4_lays_47 : decode cX4_lays 47 = .ok (.iload_n 1, 1) := dk_27 (dk_at dksX4_lays_2 3 rfl rfl)
theorem dX4_lays_48 : decode cX4_lays 48 = .ok (.iaload, 1) := dk_46 (dk_at dksX4_lays_2 4 rfl rfl)
theorem dX4_lays_49 : decode cX4_lays 49 = .ok (.iconst 1, 1) := dk_4 (dk_at dksX4_lays_2 5 rfl rfl)
theorem dX4_lays_50 : decode cX4_lays 50 = .ok (.iload_n 2, 1) := dk_28 (dk_at dksX4_lays_2 6 rfl rfl)
theorem dX4_lays_51 : decode cX4_lays 51 = .ok (.ishl, 1) := dk_120 (dk_at dksX4_lays_2 7 rfl rfl)
theorem dX4_lays_52 : decode cX4_lays 52 = .ok (.iconst (-1), 1) := dk_2 (dk_at dksX4_lays_2 8 rfl rfl)
theorem dX4_lays_53 : decode cX4_lays 53 = .ok (.ixor, 1) := dk_130 (dk_at dksX4_lays_2 9 rfl rfl)
theorem dX4_lays_54 : decode cX4_lays 54 = .ok (.iand, 1) := dk_126 (dk_at dksX4_lays_2 10 rfl rfl)
theorem dX4_lays_55 : decode cX4_lays 55 = .ok (.iastore, 1) := dk_79 (dk_at dksX4_lays_2 11 rfl rfl)
theorem dX4_lays_56 : decode cX4_lays 56 = .ok (.aload_n 0, 1) := dk_42 (dk_at dksX4_lays_2 12 rfl rfl)
theorem dX4_lays_57 : decode cX4_lays 57 = .ok (.invokevirtual 124, 3) := dk_182 0 124 (dk_at dksX4_lays_2 13 rfl rfl)
theorem dX4_lays_60 : decode cX4_lays 60 = .ok (.iload 4, 2) := dk_21 4 (dk_at dksX4_lays_2 16 rfl rfl)
theorem dX4_lays_62 : decode cX4_lays 62 = .ok (.ireturn, 1) := dk_172 (dk_at dksX4_lays_2 18 rfl rfl)
abbrev cX4_link : ByteArray := prog_17_method_23_code
def yX4_link : MethodName := ⟨RX4, "link", "(IIZ)Z"⟩
def dkwX4_link_2 : List UInt8 := [158, 0, 7, 4, 167, 0, 4, 3, 172, 42, 16, 114, 27, 96, 28, 29, 182, 0, 143, 172]
abbrev dktX4_link_2 : List UInt8 := dkwX4_link_2 ++ []
def dkwX4_link_1 : List UInt8 := [182, 0, 120, 158, 0, 7, 4, 167, 0, 4, 3, 172, 28, 27, 161, 0, 17, 42, 5, 182, 0, 120]
abbrev dktX4_link_1 : List UInt8 := dkwX4_link_1 ++ dktX4_link_2
def dkwX4_link_0 : List UInt8 := [42, 182, 0, 117, 42, 27, 182, 0, 140, 153, 0, 11, 42, 28, 182, 0, 140, 154, 0, 17, 42, 4]
abbrev dktX4_link_0 : List UInt8 := dkwX4_link_0 ++ dktX4_link_1
theorem dksX4_link_0 : cX4_link.data.toList.drop 0 = dktX4_link_0 := by decide +kernel
theorem dksX4_link_1 : cX4_link.data.toList.drop 22 = dktX4_link_1 := dk_seg dksX4_link_0 22 rfl rfl
theorem dksX4_link_2 : cX4_link.data.toList.drop 44 = dktX4_link_2 := dk_seg dksX4_link_1 22 rfl rfl
theorem dX4_link_0 : decode cX4_link 0 = .ok (.aload_n 0, 1) := dk_42 (dk_at dksX4_link_0 0 rfl rfl)
theorem dX4_link_1 : decode cX4_link 1 = .ok (.invokevirtual 117, 3) := dk_182 0 117 (dk_at dksX4_link_0 1 rfl rfl)
theorem dX4_link_4 : decode cX4_link 4 = .ok (.aload_n 0, 1) := dk_42 (dk_at dksX4_link_0 4 rfl rfl)
theorem dX4_link_5 : decode cX4_link 5 = .ok (.iload_n 1, 1) := dk_27 (dk_at dksX4_link_0 5 rfl rfl)
theorem dX4_link_6 : decode cX4_link 6 = .ok (.invokevirtual 140, 3) := dk_182 0 140 (dk_at dksX4_link_0 6 rfl rfl)
theorem dX4_link_9 : decode cX4_link 9 = .ok (.ifCond .eq 11, 3) := dk_153 0 11 (dk_at dksX4_link_0 9 rfl rfl)
theorem dX4_link_12 : decode cX4_link 12 = .ok (.aload_n 0, 1) := dk_42 (dk_at dksX4_link_0 12 rfl rfl)
theorem dX4_link_13 : decode cX4_link 13 = .ok (.iload_n 2, 1) := dk_28 (dk_at dksX4_link_0 13 rfl rfl)
theorem dX4_link_14 : decode cX4_link 14 = .ok (.invokevirtual 140, 3) := dk_182 0 140 (dk_at dksX4_link_0 14 rfl rfl)
theorem dX4_link_17 : decode cX4_link 17 = .ok (.ifCond .ne 17, 3) := dk_154 0 17 (dk_at dksX4_link_0 17 rfl rfl)
theorem dX4_link_20 : decode cX4_link 20 = .ok (.aload_n 0, 1) := dk_42 (dk_at dksX4_link_0 20 rfl rfl)
theorem dX4_link_21 : decode cX4_link 21 = .ok (.iconst 1, 1) := dk_4 (dk_at dksX4_link_0 21 rfl rfl)
theorem dX4_link_22 : decode cX4_link 22 = .ok (.invokevirtual 120, 3) := dk_182 0 120 (dk_at dksX4_link_1 0 rfl rfl)
theorem dX4_link_25 : decode cX4_link 25 = .ok (.ifCond .le 7, 3) := dk_158 0 7 (dk_at dksX4_link_1 3 rfl rfl)
theorem dX4_link_28 : decode cX4_link 28 = .ok (.iconst 1, 1) := dk_4 (dk_at dksX4_link_1 6 rfl rfl)
theorem dX4_link_29 : decode cX4_link 29 = .ok (.goto 4, 3) := dk_167 0 4 (dk_at dksX4_link_1 7 rfl rfl)
theorem dX4_link_32 : decode cX4_link 32 = .ok (.iconst 0, 1) := dk_3 (dk_at dksX4_link_1 10 rfl rfl)
theorem dX4_link_33 : decode cX4_link 33 = .ok (.ireturn, 1) := dk_172 (dk_at dksX4_link_1 11 rfl rfl)
theorem dX4_link_34 : decode cX4_link 34 = .ok (.iload_n 2, 1) := dk_28 (dk_at dksX4_link_1 12 rfl rfl)
theorem dX4_link_35 : decode cX4_link 35 = .ok (.iload_n 1, 1) := dk_27 (dk_at dksX4_link_1 13 rfl rfl)
theorem dX4_link_36 : decode cX4_link 36 = .ok (.if_icmp .lt 17, 3) := dk_161 0 17 (dk_at dksX4_link_1 14 rfl rfl)
theorem dX4_link_39 : decode cX4_link 39 = .ok (.aload_n 0, 1) := dk_42 (dk_at dksX4_link_1 17 rfl rfl)
theorem dX4_link_40 : decode cX4_link 40 = .ok (.iconst 2, 1) := dk_5 (dk_at dksX4_link_1 18 rfl rfl)
theorem dX4_link_41 : decode cX4_link 41 = .ok (.invokevirtual 120, 3) := dk_182 0 120 (dk_at dksX4_link_1 19 rfl rfl)
theorem dX4_link_44 : decode cX4_link 44 = .ok (.ifCond .le 7, 3) := dk_158 0 7 (dk_at dksX4_link_2 0 rfl rfl)
theorem dX4_link_47 : decode cX4_link 47 = .ok (.iconst 1, 1) := dk_4 (dk_at dksX4_link_2 3 rfl rfl)
theorem dX4_link_48 : decode cX4_link 48 = .ok (.goto 4, 3) := dk_167 0 4 (dk_at dksX4_link_2 4 rfl rfl)
theorem dX4_link_51 : decode cX4_link 51 = .ok (.iconst 0, 1) := dk_3 (dk_at dksX4_link_2 7 rfl rfl)
theorem dX4_link_52 : decode cX4_link 52 = .ok (.ireturn, 1) := dk_172 (dk_at dksX4_link_2 8 rfl rfl)
theorem dX4_link_53 : decode cX4_link 53 = .ok (.aload_n 0, 1) := dk_42 (dk_at dksX4_link_2 9 rfl rfl)
theorem dX4_link_54 : decode cX4_link 54 = .ok (.bipush 114, 2) := dk_16 114 (dk_at dksX4_link_2 10 rfl rfl)
theorem dX4_link_56 : decode cX4_link 56 = .ok (.iload_n 1, 1) := dk_27 (dk_at dksX4_link_2 12 rfl rfl)
theorem dX4_link_57 : decode cX4_link 57 = .ok (.iadd, 1) := dk_96 (dk_at dksX4_link_2 13 rfl rfl)
theorem dX4_link_58 : decode cX4_link 58 = .ok (.iload_n 2, 1) := dk_28 (dk_at dksX4_link_2 14 rfl rfl)
theorem dX4_link_59 : decode cX4_link 59 = .ok (.iload_n 3, 1) := dk_29 (dk_at dksX4_link_2 15 rfl rfl)
theorem dX4_link_60 : decode cX4_link 60 = .ok (.invokevirtual 143, 3) := dk_182 0 143 (dk_at dksX4_link_2 16 rfl rfl)
theorem dX4_link_63 : decode cX4_link 63 = .ok (.ireturn, 1) := dk_172 (dk_at dksX4_link_2 19 rfl rfl)
abbrev cX4_clashes : ByteArray := prog_17_method_37_code
def yX4_clashes : MethodName := ⟨RX4, "clashes", "(II)I"⟩
def dkwX4_clashes_1 : List UInt8 := [154, 0, 9, 42, 5, 182, 0, 120, 172, 42, 27, 28, 3, 182, 0, 188, 42, 2, 182, 0, 192, 172]
abbrev dktX4_clashes_1 : List UInt8 := dkwX4_clashes_1 ++ []
def dkwX4_clashes_0 : List UInt8 := [42, 3, 181, 0, 9, 42, 27, 182, 0, 140, 154, 0, 9, 42, 4, 182, 0, 120, 172, 28, 184, 0, 185]
abbrev dktX4_clashes_0 : List UInt8 := dkwX4_clashes_0 ++ dktX4_clashes_1
theorem dksX4_clashes_0 : cX4_clashes.data.toList.drop 0 = dktX4_clashes_0 := by decide +kernel
theorem dksX4_clashes_1 : cX4_clashes.data.toList.drop 23 = dktX4_clashes_1 := dk_seg dksX4_clashes_0 23 rfl rfl
theorem dX4_clashes_0 : decode cX4_clashes 0 = .ok (.aload_n 0, 1) := dk_42 (dk_at dksX4_clashes_0 0 rfl rfl)
theorem dX4_clashes_1 : decode cX4_clashes 1 = .ok (.iconst 0, 1) := dk_3 (dk_at dksX4_clashes_0 1 rfl rfl)
theorem dX4_clashes_2 : decode cX4_clashes 2 = .ok (.putfield 9, 3) := dk_181 0 9 (dk_at dksX4_clashes_0 2 rfl rfl)
theorem dX4_clashes_5 : decode cX4_clashes 5 = .ok (.aload_n 0, 1) := dk_42 (dk_at dksX4_clashes_0 5 rfl rfl)
theorem dX4_clashes_6 : decode cX4_clashes 6 = .ok (.iload_n 1, 1) := dk_27 (dk_at dksX4_clashes_0 6 rfl rfl)
theorem dX4_clashes_7 : decode cX4_clashes 7 = .ok (.invokevirtual 140, 3) := dk_182 0 140 (dk_at dksX4_clashes_0 7 rfl rfl)
theorem dX4_clashes_10 : decode cX4_clashes 10 = .ok (.ifCond .ne 9, 3) := dk_154 0 9 (dk_at dksX4_clashes_0 10 rfl rfl)
theorem dX4_clashes_13 : decode cX4_clashes 13 = .ok (.aload_n 0, 1) := dk_42 (dk_at dksX4_clashes_0 13 rfl rfl)
theorem dX4_clashes_14 : decode cX4_clashes 14 = .ok (.iconst 1, 1) := dk_4 (dk_at dksX4_clashes_0 14 rfl rfl)
theorem dX4_clashes_15 : decode cX4_clashes 15 = .ok (.invokevirtual 120, 3) := dk_182 0 120 (dk_at dksX4_clashes_0 15 rfl rfl)
theorem dX4_clashes_18 : decode cX4_clashes 18 = .ok (.ireturn, 1) := dk_172 (dk_at dksX4_clashes_0 18 rfl rfl)
theorem dX4_clashes_19 : decode cX4_clashes 19 = .ok (.iload_n 2, 1) := dk_28 (dk_at dksX4_clashes_0 19 rfl rfl)
theorem dX4_clashes_20 : decode cX4_clashes 20 = .ok (.invokestatic 185, 3) := dk_184 0 185 (dk_at dksX4_clashes_0 20 rfl rfl)
theorem dX4_clashes_23 : decode cX4_clashes 23 = .ok (.ifCond .ne 9, 3) := dk_154 0 9 (dk_at dksX4_clashes_1 0 rfl rfl)
theorem dX4_clashes_26 : decode cX4_clashes 26 = .ok (.aload_n 0, 1) := dk_42 (dk_at dksX4_clashes_1 3 rfl rfl)
theorem dX4_clashes_27 : decode cX4_clashes 27 = .ok (.iconst 2, 1) := dk_5 (dk_at dksX4_clashes_1 4 rfl rfl)
theorem dX4_clashes_28 : decode cX4_clashes 28 = .ok (.invokevirtual 120, 3) := dk_182 0 120 (dk_at dksX4_clashes_1 5 rfl rfl)
theorem dX4_clashes_31 : decode cX4_clashes 31 = .ok (.ireturn, 1) := dk_172 (dk_at dksX4_clashes_1 8 rfl rfl)
theorem dX4_clashes_32 : decode cX4_clashes 32 = .ok (.aload_n 0, 1) := dk_42 (dk_at dksX4_clashes_1 9 rfl rfl)
theorem dX4_clashes_33 : decode cX4_clashes 33 = .ok (.iload_n 1, 1) := dk_27 (dk_at dksX4_clashes_1 10 rfl rfl)
theorem dX4_clashes_34 : decode cX4_clashes 34 = .ok (.iload_n 2, 1) := dk_28 (dk_at dksX4_clashes_1 11 rfl rfl)
theorem dX4_clashes_35 : decode cX4_clashes 35 = .ok (.iconst 0, 1) := dk_3 (dk_at dksX4_clashes_1 12 rfl rfl)
theorem dX4_clashes_36 : decode cX4_clashes 36 = .ok (.invokevirtual 188, 3) := dk_182 0 188 (dk_at dksX4_clashes_1 13 rfl rfl)
theorem dX4_clashes_39 : decode cX4_clashes 39 = .ok (.aload_n 0, 1) := dk_42 (dk_at dksX4_clashes_1 16 rfl rfl)
theorem dX4_clashes_40 : decode cX4_clashes 40 = .ok (.iconst (-1), 1) := dk_2 (dk_at dksX4_clashes_1 17 rfl rfl)
theorem dX4_clashes_41 : decode cX4_clashes 41 = .ok (.invokevirtual 192, 3) := dk_182 0 192 (dk_at dksX4_clashes_1 18 rfl rfl)
theorem dX4_clashes_44 : decode cX4_clashes 44 = .ok (.ireturn, 1) := dk_172 (dk_at dksX4_clashes_1 21 rfl rfl)
abbrev cX4_isAct : ByteArray := prog_17_method_12_code
def yX4_isAct : MethodName := ⟨RX4, "isAct", "(I)Z"⟩
def dkwX4_isAct_0 : List UInt8 := [26, 153, 0, 13, 26, 4, 159, 0, 8, 26, 7, 160, 0, 7, 4, 167, 0, 4, 3, 172]
abbrev dktX4_isAct_0 : List UInt8 := dkwX4_isAct_0 ++ []
theorem dksX4_isAct_0 : cX4_isAct.data.toList.drop 0 = dktX4_isAct_0 := by decide +kernel
theorem dX4_isAct_0 : decode cX4_isAct 0 = .ok (.iload_n 0, 1) := dk_26 (dk_at dksX4_isAct_0 0 rfl rfl)
theorem dX4_isAct_1 : decode cX4_isAct 1 = .ok (.ifCond .eq 13, 3) := dk_153 0 13 (dk_at dksX4_isAct_0 1 rfl rfl)
theorem dX4_isAct_4 : decode cX4_isAct 4 = .ok (.iload_n 0, 1) := dk_26 (dk_at dksX4_isAct_0 4 rfl rfl)
theorem dX4_isAct_5 : decode cX4_isAct 5 = .ok (.iconst 1, 1) := dk_4 (dk_at dksX4_isAct_0 5 rfl rfl)
theorem dX4_isAct_6 : decode cX4_isAct 6 = .ok (.if_icmp .eq 8, 3) := dk_159 0 8 (dk_at dksX4_isAct_0 6 rfl rfl)
theorem dX4_isAct_9 : decode cX4_isAct 9 = .ok (.iload_n 0, 1) := dk_26 (dk_at dksX4_isAct_0 9 rfl rfl)
theorem dX4_isAct_10 : decode cX4_isAct 10 = .ok (.iconst 4, 1) := dk_7 (dk_at dksX4_isAct_0 10 rfl rfl)
theorem dX4_isAct_11 : decode cX4_isAct 11 = .ok (.if_icmp .ne 7, 3) := dk_160 0 7 (dk_at dksX4_isAct_0 11 rfl rfl)
theorem dX4_isAct_14 : decode cX4_isAct 14 = .ok (.iconst 1, 1) := dk_4 (dk_at dksX4_isAct_0 14 rfl rfl)
theorem dX4_isAct_15 : decode cX4_isAct 15 = .ok (.goto 4, 3) := dk_167 0 4 (dk_at dksX4_isAct_0 15 rfl rfl)
theorem dX4_isAct_18 : decode cX4_isAct 18 = .ok (.iconst 0, 1) := dk_3 (dk_at dksX4_isAct_0 18 rfl rfl)
theorem dX4_isAct_19 : decode cX4_isAct 19 = .ok (.ireturn, 1) := dk_172 (dk_at dksX4_isAct_0 19 rfl rfl)
abbrev cX4_thinks : ByteArray := prog_17_method_26_code
def yX4_thinks : MethodName := ⟨RX4, "thinks", "(III)V"⟩
def dkwX4_thinks_1 : List UInt8 := [27, 182, 0, 150, 29, 2, 130, 126, 42, 180, 0, 39, 2, 130, 126, 181, 0, 42, 42, 3, 181, 0, 48, 177]
abbrev dktX4_thinks_1 : List UInt8 := dkwX4_thinks_1 ++ []
def dkwX4_thinks_0 : List UInt8 := [42, 28, 181, 0, 36, 42, 42, 180, 0, 13, 16, 108, 27, 96, 46, 29, 2, 130, 126, 181, 0, 39, 42, 42]
abbrev dktX4_thinks_0 : List UInt8 := dkwX4_thinks_0 ++ dktX4_thinks_1
theorem dksX4_thinks_0 : cX4_thinks.data.toList.drop 0 = dktX4_thinks_0 := by decide +kernel
theorem dksX4_thinks_1 : cX4_thinks.data.toList.drop 24 = dktX4_thinks_1 := dk_seg dksX4_thinks_0 24 rfl rfl
theorem dX4_thinks_0 : decode cX4_thinks 0 = .ok (.aload_n 0, 1) := dk_42 (dk_at dksX4_thinks_0 0 rfl rfl)
theorem dX4_thinks_1 : decode cX4_thinks 1 = .ok (.iload_n 2, 1) := dk_28 (dk_at dksX4_thinks_0 1 rfl rfl)
theorem dX4_thinks_2 : decode cX4_thinks 2 = .ok (.putfield 36, 3) := dk_181 0 36 (dk_at dksX4_thinks_0 2 rfl rfl)
theorem dX4_thinks_5 : decode cX4_thinks 5 = .ok (.aload_n 0, 1) := dk_42 (dk_at dksX4_thinks_0 5 rfl rfl)
theorem dX4_thinks_6 : decode cX4_thinks 6 = .ok (.aload_n 0, 1) := dk_42 (dk_at dksX4_thinks_0 6 rfl rfl)
theorem dX4_thinks_7 : decode cX4_thinks 7 = .ok (.getfield 13, 3) := dk_180 0 13 (dk_at dksX4_thinks_0 7 rfl rfl)
theorem dX4_thinks_10 : decode cX4_thinks 10 = .ok (.bipush 108, 2) := dk_16 108 (dk_at dksX4_thinks_0 10 rfl rfl)
theorem dX4_thinks_12 : decode cX4_thinks 12 = .ok (.iload_n 1, 1) := dk_27 (dk_at dksX4_thinks_0 12 rfl rfl)
theorem dX4_thinks_13 : decode cX4_thinks 13 = .ok (.iadd, 1) := dk_96 (dk_at dksX4_thinks_0 13 rfl rfl)
theorem dX4_thinks_14 : decode cX4_thinks 14 = .ok (.iaload, 1) := dk_46 (dk_at dksX4_thinks_0 14 rfl rfl)
theorem dX4_thinks_15 : decode cX4_thinks 15 = .ok (.iload_n 3, 1) := dk_29 (dk_at dksX4_thinks_0 15 rfl rfl)
theorem dX4_thinks_16 : decode cX4_thinks 16 = .ok (.iconst (-1), 1) := dk_2 (dk_at dksX4_thinks_0 16 rfl rfl)
theorem dX4_thinks_17 : decode cX4_thinks 17 = .ok (.ixor, 1) := dk_130 (dk_at dksX4_thinks_0 17 rfl rfl)
theorem dX4_thinks_18 : decode cX4_thinks 18 = .ok (.iand, 1) := dk_126 (dk_at dksX4_thinks_0 18 rfl rfl)
theorem dX4_thinks_19 : decode cX4_thinks 19 = .ok (.putfield 39, 3) := dk_181 0 39 (dk_at dksX4_thinks_0 19 rfl rfl)
theorem dX4_thinks_22 : decode cX4_thinks 22 = .ok (.aload_n 0, 1) := dk_42 (dk_at dksX4_thinks_0 22 rfl rfl)
theorem dX4_thinks_23 : decode cX4_thinks 23 = .ok (.aload_n 0, 1) := dk_42 (dk_at dksX4_thinks_0 23 rfl rfl)
theorem dX4_thinks_24 : decode cX4_thinks 24 = .ok (.iload_n 1, 1) := dk_27 (dk_at dksX4_thinks_1 0 rfl rfl)
theorem dX4_thinks_25 : decode cX4_thinks 25 = .ok (.invokevirtual 150, 3) := dk_182 0 150 (dk_at dksX4_thinks_1 1 rfl rfl)
theorem dX4_thinks_28 : decode cX4_thinks 28 = .ok (.iload_n 3, 1) := dk_29 (dk_at dksX4_thinks_1 4 rfl rfl)
theorem dX4_thinks_29 : decode cX4_thinks 29 = .ok (.iconst (-1), 1) := dk_2 (dk_at dksX4_thinks_1 5 rfl rfl)
theorem dX4_thinks_30 : decode cX4_thinks 30 = .ok (.ixor, 1) := dk_130 (dk_at dksX4_thinks_1 6 rfl rfl)
theorem dX4_thinks_31 : decode cX4_thinks 31 = .ok (.iand, 1) := dk_126 (dk_at dksX4_thinks_1 7 rfl rfl)
theorem dX4_thinks_32 : decode cX4_thinks 32 = .ok (.aload_n 0, 1) := dk_42 (dk_at dksX4_thinks_1 8 rfl rfl)
theorem dX4_thinks_33 : decode cX4_thinks 33 = .ok (.getfield 39, 3) := dk_180 0 39 (dk_at dksX4_thinks_1 9 rfl rfl)
theorem dX4_thinks_36 : decode cX4_thinks 36 = .ok (.iconst (-1), 1) := dk_2 (dk_at dksX4_thinks_1 12 rfl rfl)
theorem dX4_thinks_37 : decode cX4_thinks 37 = .ok (.ixor, 1) := dk_130 (dk_at dksX4_thinks_1 13 rfl rfl)
theorem dX4_thinks_38 : decode cX4_thinks 38 = .ok (.iand, 1) := dk_126 (dk_at dksX4_thinks_1 14 rfl rfl)
theorem dX4_thinks_39 : decode cX4_thinks 39 = .ok (.putfield 42, 3) := dk_181 0 42 (dk_at dksX4_thinks_1 15 rfl rfl)
theorem dX4_thinks_42 : decode cX4_thinks 42 = .ok (.aload_n 0, 1) := dk_42 (dk_at dksX4_thinks_1 18 rfl rfl)
theorem dX4_thinks_43 : decode cX4_thinks 43 = .ok (.iconst 0, 1) := dk_3 (dk_at dksX4_thinks_1 19 rfl rfl)
theorem dX4_thinks_44 : decode cX4_thinks 44 = .ok (.putfield 48, 3) := dk_181 0 48 (dk_at dksX4_thinks_1 20 rfl rfl)
theorem dX4_thinks_47 : decode cX4_thinks 47 = .ok (.return_, 1) := dk_177 (dk_at dksX4_thinks_1 23 rfl rfl)
abbrev cX4_filesOf : ByteArray := prog_17_method_25_code
def yX4_filesOf : MethodName := ⟨RX4, "filesOf", "(I)I"⟩
def dkwX4_filesOf_2 : List UInt8 := [128, 62, 132, 4, 1, 167, 255, 224, 29, 172]
abbrev dktX4_filesOf_2 : List UInt8 := dkwX4_filesOf_2 ++ []
def dkwX4_filesOf_1 : List UInt8 := [162, 0, 32, 28, 21, 4, 122, 4, 126, 4, 160, 0, 16, 29, 42, 180, 0, 13, 16, 108, 21, 4, 96, 46]
abbrev dktX4_filesOf_1 : List UInt8 := dkwX4_filesOf_1 ++ dktX4_filesOf_2
def dkwX4_filesOf_0 : List UInt8 := [42, 27, 182, 0, 147, 61, 42, 180, 0, 13, 16, 108, 27, 96, 46, 62, 3, 54, 4, 21, 4, 27]
abbrev dktX4_filesOf_0 : List UInt8 := dkwX4_filesOf_0 ++ dktX4_filesOf_1
theorem dksX4_filesOf_0 : cX4_filesOf.data.toList.drop 0 = dktX4_filesOf_0 := by decide +kernel
theorem dksX4_filesOf_1 : cX4_filesOf.data.toList.drop 22 = dktX4_filesOf_1 := dk_seg dksX4_filesOf_0 22 rfl rfl
theorem dksX4_filesOf_2 : cX4_filesOf.data.toList.drop 46 = dktX4_filesOf_2 := dk_seg dksX4_filesOf_1 24 rfl rfl
theorem dX4_filesOf_0 : decode cX4_filesOf 0 = .ok (.aload_n 0, 1) := dk_42 (dk_at dksX4_filesOf_0 0 rfl rfl)
theorem dX4_filesOf_1 : decode cX4_filesOf 1 = .ok (.iload_n 1, 1) := dk_27 (dk_at dksX4_filesOf_0 1 rfl rfl)
theorem dX4_filesOf_2 : decode cX4_filesOf 2 = .ok (.invokevirtual 147, 3) := dk_182 0 147 (dk_at dksX4_filesOf_0 2 rfl rfl)
theorem dX4_filesOf_5 : decode cX4_filesOf 5 = .ok (.istore_n 2, 1) := dk_61 (dk_at dksX4_filesOf_0 5 rfl rfl)
theorem dX4_filesOf_6 : decode cX4_filesOf 6 = .ok (.aload_n 0, 1) := dk_42 (dk_at dksX4_filesOf_0 6 rfl rfl)
theorem dX4_filesOf_7 : decode cX4_filesOf 7 = .ok (.getfield 13, 3) := dk_180 0 13 (dk_at dksX4_filesOf_0 7 rfl rfl)
theorem dX4_filesOf_10 : decode cX4_filesOf 10 = .ok (.bipush 108, 2) := dk_16 108 (dk_at dksX4_filesOf_0 10 rfl rfl)
theorem dX4_filesOf_12 : decode cX4_filesOf 12 = .ok (.iload_n 1, 1) := dk_27 (dk_at dksX4_filesOf_0 12 rfl rfl)
theorem dX4_filesOf_13 : decode cX4_filesOf 13 = .ok (.iadd, 1) := dk_96 (dk_at dksX4_filesOf_0 13 rfl rfl)
theorem dX4_filesOf_14 : decode cX4_filesOf 14 = .ok (.iaload, 1) := dk_46 (dk_at dksX4_filesOf_0 14 rfl rfl)
theorem dX4_filesOf_15 : decode cX4_filesOf 15 = .ok (.istore_n 3, 1) := dk_62 (dk_at dksX4_filesOf_0 15 rfl rfl)
theorem dX4_filesOf_16 : decode cX4_filesOf 16 = .ok (.iconst 0, 1) := dk_3 (dk_at dksX4_filesOf_0 16 rfl rfl)
theorem dX4_filesOf_17 : decode cX4_filesOf 17 = .ok (.istore 4, 2) := dk_54 4 (dk_at dksX4_filesOf_0 17 rfl rfl)
theorem dX4_filesOf_19 : decode cX4_filesOf 19 = .ok (.iload 4, 2) := dk_21 4 (dk_at dksX4_filesOf_0 19 rfl rfl)
theorem dX4_filesOf_21 : decode cX4_filesOf 21 = .ok (.iload_n 1, 1) := dk_27 (dk_at dksX4_filesOf_0 21 rfl rfl)
theorem dX4_filesOf_22 : decode cX4_filesOf 22 = .ok (.if_icmp .ge 32, 3) := dk_162 0 32 (dk_at dksX4_filesOf_1 0 rfl rfl)
theorem dX4_filesOf_25 : decode cX4_filesOf 25 = .ok (.iload_n 2, 1) := dk_28 (dk_at dksX4_filesOf_1 3 rfl rfl)
theorem dX4_filesOf_26 : decode cX4_filesOf 26 = .ok (.iload 4, 2) := dk_21 4 (dk_at dksX4_filesOf_1 4 rfl rfl)
theorem dX4_filesOf_28 : decode cX4_filesOf 28 = .ok (.ishr, 1) := dk_122 (dk_at dksX4_filesOf_1 6 rfl rfl)
theorem dX4_filesOf_29 : decode cX4_filesOf 29 = .ok (.iconst 1, 1) := dk_4 (dk_at dksX4_filesOf_1 7 rfl rfl)
theorem dX4_filesOf_30 : decode cX4_filesOf 30 = .ok (.iand, 1) := dk_126 (dk_at dksX4_filesOf_1 8 rfl rfl)
theorem dX4_filesOf_31 : decode cX4_filesOf 31 = .ok (.iconst 1, 1) := dk_4 (dk_at dksX4_filesOf_1 9 rfl rfl)
theorem dX4_filesOf_32 : decode cX4_filesOf 32 = .ok (.if_icmp .ne 16, 3) := dk_160 0 16 (dk_at dksX4_filesOf_1 10 rfl rfl)
theorem dX4_filesOf_35 : decode cX4_filesOf 35 = .ok (.iload_n 3, 1) := dk_29 (dk_at dksX4_filesOf_1 13 rfl rfl)
theorem dX4_filesOf_36 : decode cX4_filesOf 36 = .ok (.aload_n 0, 1) := dk_42 (dk_at dksX4_filesOf_1 14 rfl rfl)
theorem dX4_filesOf_37 : decode cX4_filesOf 37 = .ok (.getfield 13, 3) := dk_180 0 13 (dk_at dksX4_filesOf_1 15 rfl rfl)
theorem dX4_filesOf_40 : decode cX4_filesOf 40 = .ok (.bipush 108, 2) := dk_16 108 (dk_at dksX4_filesOf_1 18 rfl rfl)
theorem dX4_filesOf_42 : decode cX4_filesOf 42 = .ok (.iload 4, 2) := dk_21 4 (dk_at dksX4_filesOf_1 20 rfl rfl)
theorem dX4_filesOf_44 : decode cX4_filesOf 44 = .ok (.iadd, 1) := dk_96 (dk_at dksX4_filesOf_1 22 rfl rfl)
theorem dX4_filesOf_45 : decode cX4_filesOf 45 = .ok (.iaload, 1) := dk_46 (dk_at dksX4_filesOf_1 23 rfl rfl)
theorem dX4_filesOf_46 : decode cX4_filesOf 46 = .ok (.ior, 1) := dk_128 (dk_at dksX4_filesOf_2 0 rfl rfl)
theorem dX4_filesOf_47 : decode cX4_filesOf 47 = .ok (.istore_n 3, 1) := dk_62 (dk_at dksX4_filesOf_2 1 rfl rfl)
theorem dX4_filesOf_48 : decode cX4_filesOf 48 = .ok (.iinc 4 1, 3) := dk_132 4 1 (dk_at dksX4_filesOf_2 2 rfl rfl)
theorem dX4_filesOf_51 : decode cX4_filesOf 51 = .ok (.goto (-32), 3) := dk_167 255 224 (dk_at dksX4_filesOf_2 5 rfl rfl)
theorem dX4_filesOf_54 : decode cX4_filesOf 54 = .ok (.iload_n 3, 1) := dk_29 (dk_at dksX4_filesOf_2 8 rfl rfl)
theorem dX4_filesOf_55 : decode cX4_filesOf 55 = .ok (.ireturn, 1) := dk_172 (dk_at dksX4_filesOf_2 9 rfl rfl)
abbrev cX4_worksOf : ByteArray := prog_17_method_24_code
def yX4_worksOf : MethodName := ⟨RX4, "worksOf", "(I)I"⟩
def dkwX4_worksOf_1 : List UInt8 := [160, 0, 15, 28, 42, 180, 0, 13, 16, 114, 29, 96, 46, 128, 61, 132, 3, 255, 167, 255, 228, 28, 172]
abbrev dktX4_worksOf_1 : List UInt8 := dkwX4_worksOf_1 ++ []
def dkwX4_worksOf_0 : List UInt8 := [42, 180, 0, 13, 16, 114, 27, 96, 46, 61, 27, 4, 100, 62, 29, 155, 0, 30, 28, 29, 122, 4, 126, 4]
abbrev dktX4_worksOf_0 : List UInt8 := dkwX4_worksOf_0 ++ dktX4_worksOf_1
theorem dksX4_worksOf_0 : cX4_worksOf.data.toList.drop 0 = dktX4_worksOf_0 := by decide +kernel
theorem dksX4_worksOf_1 : cX4_worksOf.data.toList.drop 24 = dktX4_worksOf_1 := dk_seg dksX4_worksOf_0 24 rfl rfl
theorem dX4_worksOf_0 : decode cX4_worksOf 0 = .ok (.aload_n 0, 1) := dk_42 (dk_at dksX4_worksOf_0 0 rfl rfl)
theorem dX4_worksOf_1 : decode cX4_worksOf 1 = .ok (.getfield 13, 3) := dk_180 0 13 (dk_at dksX4_worksOf_0 1 rfl rfl)
theorem dX4_worksOf_4 : decode cX4_worksOf 4 = .ok (.bipush 114, 2) := dk_16 114 (dk_at dksX4_worksOf_0 4 rfl rfl)
theorem dX4_worksOf_6 : decode cX4_worksOf 6 = .ok (.iload_n 1, 1) := dk_27 (dk_at dksX4_worksOf_0 6 rfl rfl)
theorem dX4_worksOf_7 : decode cX4_worksOf 7 = .ok (.iadd, 1) := dk_96 (dk_at dksX4_worksOf_0 7 rfl rfl)
theorem dX4_worksOf_8 : decode cX4_worksOf 8 = .ok (.iaload, 1) := dk_46 (dk_at dksX4_worksOf_0 8 rfl rfl)
theorem dX4_worksOf_9 : decode cX4_worksOf 9 = .ok (.istore_n 2, 1) := dk_61 (dk_at dksX4_worksOf_0 9 rfl rfl)
theorem dX4_worksOf_10 : decode cX4_worksOf 10 = .ok (.iload_n 1, 1) := dk_27 (dk_at dksX4_worksOf_0 10 rfl rfl)
theorem dX4_worksOf_11 : decode cX4_worksOf 11 = .ok (.iconst 1, 1) := dk_4 (dk_at dksX4_worksOf_0 11 rfl rfl)
theorem dX4_worksOf_12 : decode cX4_worksOf 12 = .ok (.isub, 1) := dk_100 (dk_at dksX4_worksOf_0 12 rfl rfl)
theorem dX4_worksOf_13 : decode cX4_worksOf 13 = .ok (.istore_n 3, 1) := dk_62 (dk_at dksX4_worksOf_0 13 rfl rfl)
theorem dX4_worksOf_14 : decode cX4_worksOf 14 = .ok (.iload_n 3, 1) := dk_29 (dk_at dksX4_worksOf_0 14 rfl rfl)
theorem dX4_worksOf_15 : decode cX4_worksOf 15 = .ok (.ifCond .lt 30, 3) := dk_155 0 30 (dk_at dksX4_worksOf_0 15 rfl rfl)
theorem dX4_worksOf_18 : decode cX4_worksOf 18 = .ok (.iload_n 2, 1) := dk_28 (dk_at dksX4_worksOf_0 18 rfl rfl)
theorem dX4_worksOf_19 : decode cX4_worksOf 19 = .ok (.iload_n 3, 1) := dk_29 (dk_at dksX4_worksOf_0 19 rfl rfl)
theorem dX4_worksOf_20 : decode cX4_worksOf 20 = .ok (.ishr, 1) := dk_122 (dk_at dksX4_worksOf_0 20 rfl rfl)
theorem dX4_worksOf_21 : decode cX4_worksOf 21 = .ok (.iconst 1, 1) := dk_4 (dk_at dksX4_worksOf_0 21 rfl rfl)
theorem dX4_worksOf_22 : decode cX4_worksOf 22 = .ok (.iand, 1) := dk_126 (dk_at dksX4_worksOf_0 22 rfl rfl)
theorem dX4_worksOf_23 : decode cX4_worksOf 23 = .ok (.iconst 1, 1) := dk_4 (dk_at dksX4_worksOf_0 23 rfl rfl)
theorem dX4_worksOf_24 : decode cX4_worksOf 24 = .ok (.if_icmp .ne 15, 3) := dk_160 0 15 (dk_at dksX4_worksOf_1 0 rfl rfl)
theorem dX4_worksOf_27 : decode cX4_worksOf 27 = .ok (.iload_n 2, 1) := dk_28 (dk_at dksX4_worksOf_1 3 rfl rfl)
theorem dX4_worksOf_28 : decode cX4_worksOf 28 = .ok (.aload_n 0, 1) := dk_42 (dk_at dksX4_worksOf_1 4 rfl rfl)
theorem dX4_worksOf_29 : decode cX4_worksOf 29 = .ok (.getfield 13, 3) := dk_180 0 13 (dk_at dksX4_worksOf_1 5 rfl rfl)
theorem dX4_worksOf_32 : decode cX4_worksOf 32 = .ok (.bipush 114, 2) := dk_16 114 (dk_at dksX4_worksOf_1 8 rfl rfl)
theorem dX4_worksOf_34 : decode cX4_worksOf 34 = .ok (.iload_n 3, 1) := dk_29 (dk_at dksX4_worksOf_1 10 rfl rfl)
theorem dX4_worksOf_35 : decode cX4_worksOf 35 = .ok (.iadd, 1) := dk_96 (dk_at dksX4_worksOf_1 11 rfl rfl)
theorem dX4_worksOf_36 : decode cX4_worksOf 36 = .ok (.iaload, 1) := dk_46 (dk_at dksX4_worksOf_1 12 rfl rfl)
theorem dX4_worksOf_37 : decode cX4_worksOf 37 = .ok (.ior, 1) := dk_128 (dk_at dksX4_worksOf_1 13 rfl rfl)
theorem dX4_worksOf_38 : decode cX4_worksOf 38 = .ok (.istore_n 2, 1) := dk_61 (dk_at dksX4_worksOf_1 14 rfl rfl)
theorem dX4_worksOf_39 : decode cX4_worksOf 39 = .ok (.iinc 3 (-1), 3) := dk_132 3 255 (dk_at dksX4_worksOf_1 15 rfl rfl)
theorem dX4_worksOf_42 : decode cX4_worksOf 42 = .ok (.goto (-28), 3) := dk_167 255 228 (dk_at dksX4_worksOf_1 18 rfl rfl)
theorem dX4_worksOf_45 : decode cX4_worksOf 45 = .ok (.iload_n 2, 1) := dk_28 (dk_at dksX4_worksOf_1 21 rfl rfl)
theorem dX4_worksOf_46 : decode cX4_worksOf 46 = .ok (.ireturn, 1) := dk_172 (dk_at dksX4_worksOf_1 22 rfl rfl)
abbrev cX4_clashesNow : ByteArray := prog_17_method_35_code
def yX4_clashesNow : MethodName := ⟨RX4, "clashesNow", "(I)I"⟩
def dkwX4_clashesNow_7 : List UInt8 := [132, 3, 1, 167, 255, 174, 28, 172]
abbrev dktX4_clashesNow_7 : List UInt8 := dkwX4_clashesNow_7 ++ []
def dkwX4_clashesNow_6 : List UInt8 := [5, 21, 4, 29, 21, 5, 182, 0, 178, 132, 2, 1, 132, 5, 1, 167, 255, 209, 132, 4, 1, 167, 255, 189]
abbrev dktX4_clashesNow_6 : List UInt8 := dkwX4_clashesNow_6 ++ dktX4_clashesNow_7
def dkwX4_clashesNow_5 : List UInt8 := [162, 0, 42, 42, 21, 4, 21, 5, 29, 182, 0, 182, 154, 0, 6, 167, 0, 21, 28, 27, 160, 0, 13, 42]
abbrev dktX4_clashesNow_5 : List UInt8 := dkwX4_clashesNow_5 ++ dktX4_clashesNow_6
def dkwX4_clashesNow_4 : List UInt8 := [54, 4, 21, 4, 42, 180, 0, 13, 4, 46, 162, 0, 62, 3, 54, 5, 21, 5, 42, 180, 0, 13, 4, 46]
abbrev dktX4_clashesNow_4 : List UInt8 := dkwX4_clashesNow_4 ++ dktX4_clashesNow_5
def dkwX4_clashesNow_3 : List UInt8 := [132, 2, 1, 132, 4, 1, 167, 255, 196, 132, 3, 1, 167, 255, 177, 3, 62, 29, 16, 10, 162, 0, 82, 3]
abbrev dktX4_clashesNow_3 : List UInt8 := dkwX4_clashesNow_3 ++ dktX4_clashesNow_4
def dkwX4_clashesNow_2 : List UInt8 := [4, 126, 4, 160, 0, 6, 167, 0, 20, 28, 27, 160, 0, 12, 42, 4, 29, 21, 4, 2, 182, 0, 178]
abbrev dktX4_clashesNow_2 : List UInt8 := dkwX4_clashesNow_2 ++ dktX4_clashesNow_3
def dkwX4_clashesNow_1 : List UInt8 := [29, 21, 4, 182, 0, 175, 153, 0, 44, 42, 180, 0, 13, 7, 42, 29, 182, 0, 153, 96, 46, 21, 4, 122]
abbrev dktX4_clashesNow_1 : List UInt8 := dkwX4_clashesNow_1 ++ dktX4_clashesNow_2
def dkwX4_clashesNow_0 : List UInt8 := [3, 61, 3, 62, 29, 42, 180, 0, 13, 4, 46, 162, 0, 75, 3, 54, 4, 21, 4, 8, 162, 0, 60, 42]
abbrev dktX4_clashesNow_0 : List UInt8 := dkwX4_clashesNow_0 ++ dktX4_clashesNow_1
theorem dksX4_clashesNow_0 : cX4_clashesNow.data.toList.drop 0 = dktX4_clashesNow_0 := by decide +kernel
theorem dksX4_clashesNow_1 : cX4_clashesNow.data.toList.drop 24 = dktX4_clashesNow_1 := dk_seg dksX4_clashesNow_0 24 rfl rfl
theorem dksX4_clashesNow_2 : cX4_clashesNow.data.toList.drop 48 = dktX4_clashesNow_2 := dk_seg dksX4_clashesNow_1 24 rfl rfl
theorem dksX4_clashesNow_3 : cX4_clashesNow.data.toList.drop 71 = dktX4_clashesNow_3 := dk_seg dksX4_clashesNow_2 23 rfl rfl
theorem dksX4_clashesNow_4 : cX4_clashesNow.data.toList.drop 95 = dktX4_clashesNow_4 := dk_seg dksX4_clashesNow_3 24 rfl rfl
theorem dksX4_clashesNow_5 : cX4_clashesNow.data.toList.drop 119 = dktX4_clashesNow_5 := dk_seg dksX4_clashesNow_4 24 rfl rfl
theorem dksX4_clashesNow_6 : cX4_clashesNow.data.toList.drop 143 = dktX4_clashesNow_6 := dk_seg dksX4_clashesNow_5 24 rfl rfl
theorem dksX4_clashesNow_7 : cX4_clashesNow.data.toList.drop 167 = dktX4_clashesNow_7 := dk_seg dksX4_clashesNow_6 24 rfl rfl
theorem dX4_clashesNow_0 : decode cX4_clashesNow 0 = .ok (.iconst 0, 1) := dk_3 (dk_at dksX4_clashesNow_0 0 rfl rfl)
theorem dX4_clashesNow_1 : decode cX4_clashesNow 1 = .ok (.istore_n 2, 1) := dk_61 (dk_at dksX4_clashesNow_0 1 rfl rfl)
theorem dX4_clashesNow_2 : decode cX4_clashesNow 2 = .ok (.iconst 0, 1) := dk_3 (dk_at dksX4_clashesNow_0 2 rfl rfl)
theorem dX4_clashesNow_3 : decode cX4_clashesNow 3 = .ok (.istore_n 3, 1) := dk_62 (dk_at dksX4_clashesNow_0 3 rfl rfl)
theorem dX4_clashesNow_4 : decode cX4_clashesNow 4 = .ok (.iload_n 3, 1) := dk_29 (dk_at dksX4_clashesNow_0 4 rfl rfl)
theorem dX4_clashesNow_5 : decode cX4_clashesNow 5 = .ok (.aload_n 0, 1) := dk_42 (dk_at dksX4_clashesNow_0 5 rfl rfl)
theorem dX4_clashesNow_6 : decode cX4_clashesNow 6 = .ok (.getfield 13, 3) := dk_180 0 13 (dk_at dksX4_clashesNow_0 6 rfl rfl)
theorem dX4_clashesNow_9 : decode cX4_clashesNow 9 = .ok (.iconst 1, 1) := dk_4 (dk_at dksX4_clashesNow_0 9 rfl rfl)
theorem dX4_clashesNow_10 : decode cX4_clashesNow 10 = .ok (.iaload, 1) := dk_46 (dk_at dksX4_clashesNow_0 10 rfl rfl)
theorem dX4_clashesNow_11 : decode cX4_clashesNow 11 = .ok (.if_icmp .ge 75, 3) := dk_162 0 75 (dk_at dksX4_clashesNow_0 11 rfl rfl)
theorem dX4_clashesNow_14 : decode cX4_clashesNow 14 = .ok (.iconst 0, 1) := dk_3 (dk_at dksX4_clashesNow_0 14 rfl rfl)
theorem dX4_clashesNow_15 : decode cX4_clashesNow 15 = .ok (.istore 4, 2) := dk_54 4 (dk_at dksX4_clashesNow_0 15 rfl rfl)
theorem dX4_clashesNow_17 : decode cX4_clashesNow 17 = .ok (.iload 4, 2) := dk_21 4 (dk_at dksX4_clashesNow_0 17 rfl rfl)
theorem dX4_clashesNow_19 : decode cX4_clashesNow 19 = .ok (.iconst 5, 1) := dk_8 (dk_at dksX4_clashesNow_0 19 rfl rfl)
theorem dX4_clashesNow_20 : decode cX4_clashesNow 20 = .ok (.if_icmp .ge 60, 3) := dk_162 0 60 (dk_at dksX4_clashesNow_0 20 rfl rfl)
theorem dX4_clashesNow_23 : decode cX4_clashesNow 23 = .ok (.aload_n 0, 1) := dk_42 (dk_at dksX4_clashesNow_0 23 rfl rfl)
theorem dX4_clashesNow_24 : decode cX4_clashesNow 24 = .ok (.iload_n 3, 1) := dk_29 (dk_at dksX4_clashesNow_1 0 rfl rfl)
theorem dX4_clashesNow_25 : decode cX4_clashesNow 25 = .ok (.iload 4, 2) := dk_21 4 (dk_at dksX4_clashesNow_1 1 rfl rfl)
theorem dX4_clashesNow_27 : decode cX4_clashesNow 27 = .ok (.invokevirtual 175, 3) := dk_182 0 175 (dk_at dksX4_clashesNow_1 3 rfl rfl)
theorem dX4_clashesNow_30 : decode cX4_clashesNow 30 = .ok (.ifCond .eq 44, 3) := dk_153 0 44 (dk_at dksX4_clashesNow_1 6 rfl rfl)
theorem dX4_clashesNow_33 : decode cX4_clashesNow 33 = .ok (.aload_n 0, 1) := dk_42 (dk_at dksX4_clashesNow_1 9 rfl rfl)
theorem dX4_clashesNow_34 : decode cX4_clashesNow 34 = .ok (.getfield 13, 3) := dk_180 0 13 (dk_at dksX4_clashesNow_1 10 rfl rfl)
theorem dX4_clashesNow_37 : decode cX4_clashesNow 37 = .ok (.iconst 4, 1) := dk_7 (dk_at dksX4_clashesNow_1 13 rfl rfl)
theorem dX4_clashesNow_38 : decode cX4_clashesNow 38 = .ok (.aload_n 0, 1) := dk_42 (dk_at dksX4_clashesNow_1 14 rfl rfl)
theorem dX4_clashesNow_39 : decode cX4_clashesNow 39 = .ok (.iload_n 3, 1) := dk_29 (dk_at dksX4_clashesNow_1 15 rfl rfl)
theorem dX4_clashesNow_40 : decode cX4_clashesNow 40 = .ok (.invokevirtual 153, 3) := dk_182 0 153 (dk_at dksX4_clashesNow_1 16 rfl rfl)
theorem dX4_clashesNow_43 : decode cX4_clashesNow 43 = .ok (.iadd, 1) := dk_96 (dk_at dksX4_clashesNow_1 19 rfl rfl)
theorem dX4_clashesNow_44 : decode cX4_clashesNow 44 = .ok (.iaload, 1) := dk_46 (dk_at dksX4_clashesNow_1 20 rfl rfl)
theorem dX4_clashesNow_45 : decode cX4_clashesNow 45 = .ok (.iload 4, 2) := dk_21 4 (dk_at dksX4_clashesNow_1 21 rfl rfl)
theorem dX4_clashesNow_47 : decode cX4_clashesNow 47 = .ok (.ishr, 1) := dk_122 (dk_at dksX4_clashesNow_1 23 rfl rfl)
theorem dX4_clashesNow_48 : decode cX4_clashesNow 48 = .ok (.iconst 1, 1) := dk_4 (dk_at dksX4_clashesNow_2 0 rfl rfl)
theorem dX4_clashesNow_49 : decode cX4_clashesNow 49 = .ok (.iand, 1) := dk_126 (dk_at dksX4_clashesNow_2 1 rfl rfl)
theorem dX4_clashesNow_50 : decode cX4_clashesNow 50 = .ok (.iconst 1, 1) := dk_4 (dk_at dksX4_clashesNow_2 2 rfl rfl)
theorem dX4_clashesNow_51 : decode cX4_clashesNow 51 = .ok (.if_icmp .ne 6, 3) := dk_160 0 6 (dk_at dksX4_clashesNow_2 3 rfl rfl)
theorem dX4_clashesNow_54 : decode cX4_clashesNow 54 = .ok (.goto 20, 3) := dk_167 0 20 (dk_at dksX4_clashesNow_2 6 rfl rfl)
theorem dX4_clashesNow_57 : decode cX4_clashesNow 57 = .ok (.iload_n 2, 1) := dk_28 (dk_at dksX4_clashesNow_2 9 rfl rfl)
theorem dX4_clashesNow_58 : decode cX4_clashesNow 58 = .ok (.iload_n 1, 1) := dk_27 (dk_at dksX4_clashesNow_2 10 rfl rfl)
theorem dX4_clashesNow_59 : decode cX4_clashesNow 59 = .ok (.if_icmp .ne 12, 3) := dk_160 0 12 (dk_at dksX4_clashesNow_2 11 rfl rfl)
theorem dX4_clashesNow_62 : decode cX4_clashesNow 62 = .ok (.aload_n 0, 1) := dk_42 (dk_at dksX4_clashesNow_2 14 rfl rfl)
theorem dX4_clashesNow_63 : decode cX4_clashesNow 63 = .ok (.iconst 1, 1) := dk_4 (dk_at dksX4_clashesNow_2 15 rfl rfl)
theorem dX4_clashesNow_64 : decode cX4_clashesNow 64 = .ok (.iload_n 3, 1) := dk_29 (dk_at dksX4_clashesNow_2 16 rfl rfl)
theorem dX4_clashesNow_65 : decode cX4_clashesNow 65 = .ok (.iload 4, 2) := dk_21 4 (dk_at dksX4_clashesNow_2 17 rfl rfl)
theorem dX4_clashesNow_67 : decode cX4_clashesNow 67 = .ok (.iconst (-1), 1) := dk_2 (dk_at dksX4_clashesNow_2 19 rfl rfl)
theorem dX4_clashesNow_68 : decode cX4_clashesNow 68 = .ok (.invokevirtual 178, 3) := dk_182 0 178 (dk_at dksX4_clashesNow_2 20 rfl rfl)
theorem dX4_clashesNow_71 : decode cX4_clashesNow 71 = .ok (.iinc 2 1, 3) := dk_132 2 1 (dk_at dksX4_clashesNow_3 0 rfl rfl)
theorem dX4_clashesNow_74 : decode cX4_clashesNow 74 = .ok (.iinc 4 1, 3) := dk_132 4 1 (dk_at dksX4_clashesNow_3 3 rfl rfl)
theorem dX4_clashesNow_77 : decode cX4_clashesNow 77 = .ok (.goto (-60), 3) := dk_167 255 196 (dk_at dksX4_clashesNow_3 6 rfl rfl)
theorem dX4_clashesNow_80 : decode cX4_clashesNow 80 = .ok (.iinc 3 1, 3) := dk_132 3 1 (dk_at dksX4_clashesNow_3 9 rfl rfl)
theorem dX4_clashesNow_83 : decode cX4_clashesNow 83 = .ok (.goto (-79), 3) := dk_167 255 177 (dk_at dksX4_clashesNow_3 12 rfl rfl)
theorem dX4_clashesNow_86 : decode cX4_clashesNow 86 = .ok (.iconst 0, 1) := dk_3 (dk_at dksX4_clashesNow_3 15 rfl rfl)
theorem dX4_clashesNow_87 : decode cX4_clashesNow 87 = .ok (.istore_n 3, 1) := dk_62 (dk_at dksX4_clashesNow_3 16 rfl rfl)
theorem dX4_clashesNow_88 : decode cX4_clashesNow 88 = .ok (.iload_n 3, 1) := dk_29 (dk_at dksX4_clashesNow_3 17 rfl rfl)
theorem dX4_clashesNow_89 : decode cX4_clashesNow 89 = .ok (.bipush 10, 2) := dk_16 10 (dk_at dksX4_clashesNow_3 18 rfl rfl)
theorem dX4_clashesNow_91 : decode cX4_clashesNow 91 = .ok (.if_icmp .ge 82, 3) := dk_162 0 82 (dk_at dksX4_clashesNow_3 20 rfl rfl)
theorem dX4_clashesNow_94 : decode cX4_clashesNow 94 = .ok (.iconst 0, 1) := dk_3 (dk_at dksX4_clashesNow_3 23 rfl rfl)
theorem dX4_clashesNow_95 : decode cX4_clashesNow 95 = .ok (.istore 4, 2) := dk_54 4 (dk_at dksX4_clashesNow_4 0 rfl rfl)
theorem dX4_clashesNow_97 : decode cX4_clashesNow 97 = .ok (.iload 4, 2) := dk_21 4 (dk_at dksX4_clashesNow_4 2 rfl rfl)
theorem dX4_clashesNow_99 : decode cX4_clashesNow 99 = .ok (.aload_n 0, 1) := dk_42 (dk_at dksX4_clashesNow_4 4 rfl rfl)
theorem dX4_clashesNow_100 : decode cX4_clashesNow 100 = .ok (.getfield 13, 3) := dk_180 0 13 (dk_at dksX4_clashesNow_4 5 rfl rfl)
theorem dX4_clashesNow_103 : decode cX4_clashesNow 103 = .ok (.iconst 1, 1) := dk_4 (dk_at dksX4_clashesNow_4 8 rfl rfl)
theorem dX4_clashesNow_104 : decode cX4_clashesNow 104 = .ok (.iaload, 1) := dk_46 (dk_at dksX4_clashesNow_4 9 rfl rfl)
theorem dX4_clashesNow_105 : decode cX4_clashesNow 105 = .ok (.if_icmp .ge 62, 3) := dk_162 0 62 (dk_at dksX4_clashesNow_4 10 rfl rfl)
theorem dX4_clashesNow_108 : decode cX4_clashesNow 108 = .ok (.iconst 0, 1) := dk_3 (dk_at dksX4_clashesNow_4 13 rfl rfl)
theorem dX4_clashesNow_109 : decode cX4_clashesNow 109 = .ok (.istore 5, 2) := dk_54 5 (dk_at dksX4_clashesNow_4 14 rfl rfl)
theorem dX4_clashesNow_111 : decode cX4_clashesNow 111 = .ok (.iload 5, 2) := dk_21 5 (dk_at dksX4_clashesNow_4 16 rfl rfl)
theorem dX4_clashesNow_113 : decode cX4_clashesNow 113 = .ok (.aload_n 0, 1) := dk_42 (dk_at dksX4_clashesNow_4 18 rfl rfl)
theorem dX4_clashesNow_114 : decode cX4_clashesNow 114 = .ok (.getfield 13, 3) := dk_180 0 13 (dk_at dksX4_clashesNow_4 19 rfl rfl)
theorem dX4_clashesNow_117 : decode cX4_clashesNow 117 = .ok (.iconst 1, 1) := dk_4 (dk_at dksX4_clashesNow_4 22 rfl rfl)
theorem dX4_clashesNow_118 : decode cX4_clashesNow 118 = .ok (.iaload, 1) := dk_46 (dk_at dksX4_clashesNow_4 23 rfl rfl)
theorem dX4_clashesNow_119 : decode cX4_clashesNow 119 = .ok (.if_icmp .ge 42, 3) := dk_162 0 42 (dk_at dksX4_clashesNow_5 0 rfl rfl)
theorem dX4_clashesNow_122 : decode cX4_clashesNow 122 = .ok (.aload_n 0, 1) := dk_42 (dk_at dksX4_clashesNow_5 3 rfl rfl)
theorem dX4_clashesNow_123 : decode cX4_clashesNow 123 = .ok (.iload 4, 2) := dk_21 4 (dk_at dksX4_clashesNow_5 4 rfl rfl)
theorem dX4_clashesNow_125 : decode cX4_clashesNow 125 = .ok (.iload 5, 2) := dk_21 5 (dk_at dksX4_clashesNow_5 6 rfl rfl)
theorem dX4_clashesNow_127 : decode cX4_clashesNow 127 = .ok (.iload_n 3, 1) := dk_29 (dk_at dksX4_clashesNow_5 8 rfl rfl)
theorem dX4_clashesNow_128 : decode cX4_clashesNow 128 = .ok (.invokevirtual 182, 3) := dk_182 0 182 (dk_at dksX4_clashesNow_5 9 rfl rfl)
theorem dX4_clashesNow_131 : decode cX4_clashesNow 131 = .ok (.ifCond .ne 6, 3) := dk_154 0 6 (dk_at dksX4_clashesNow_5 12 rfl rfl)
theorem dX4_clashesNow_134 : decode cX4_clashesNow 134 = .ok (.goto 21, 3) := dk_167 0 21 (dk_at dksX4_clashesNow_5 15 rfl rfl)
theorem dX4_clashesNow_137 : decode cX4_clashesNow 137 = .ok (.iload_n 2, 1) := dk_28 (dk_at dksX4_clashesNow_5 18 rfl rfl)
theorem dX4_clashesNow_138 : decode cX4_clashesNow 138 = .ok (.iload_n 1, 1) := dk_27 (dk_at dksX4_clashesNow_5 19 rfl rfl)
theorem dX4_clashesNow_139 : decode cX4_clashesNow 139 = .ok (.if_icmp .ne 13, 3) := dk_160 0 13 (dk_at dksX4_clashesNow_5 20 rfl rfl)
theorem dX4_clashesNow_142 : decode cX4_clashesNow 142 = .ok (.aload_n 0, 1) := dk_42 (dk_at dksX4_clashesNow_5 23 rfl rfl)
theorem dX4_clashesNow_143 : decode cX4_clashesNow 143 = .ok (.iconst 2, 1) := dk_5 (dk_at dksX4_clashesNow_6 0 rfl rfl)
theorem dX4_clashesNow_144 : decode cX4_clashesNow 144 = .ok (.iload 4, 2) := dk_21 4 (dk_at dksX4_clashesNow_6 1 rfl rfl)
theorem dX4_clashesNow_146 : decode cX4_clashesNow 146 = .ok (.iload_n 3, 1) := dk_29 (dk_at dksX4_clashesNow_6 3 rfl rfl)
theorem dX4_clashesNow_147 : decode cX4_clashesNow 147 = .ok (.iload 5, 2) := dk_21 5 (dk_at dksX4_clashesNow_6 4 rfl rfl)
theorem dX4_clashesNow_149 : decode cX4_clashesNow 149 = .ok (.invokevirtual 178, 3) := dk_182 0 178 (dk_at dksX4_clashesNow_6 6 rfl rfl)
theorem dX4_clashesNow_152 : decode cX4_clashesNow 152 = .ok (.iinc 2 1, 3) := dk_132 2 1 (dk_at dksX4_clashesNow_6 9 rfl rfl)
theorem dX4_clashesNow_155 : decode cX4_clashesNow 155 = .ok (.iinc 5 1, 3) := dk_132 5 1 (dk_at dksX4_clashesNow_6 12 rfl rfl)
theorem dX4_clashesNow_158 : decode cX4_clashesNow 158 = .ok (.goto (-47), 3) := dk_167 255 209 (dk_at dksX4_clashesNow_6 15 rfl rfl)
theorem dX4_clashesNow_161 : decode cX4_clashesNow 161 = .ok (.iinc 4 1, 3) := dk_132 4 1 (dk_at dksX4_clashesNow_6 18 rfl rfl)
theorem dX4_clashesNow_164 : decode cX4_clashesNow 164 = .ok (.goto (-67), 3) := dk_167 255 189 (dk_at dksX4_clashesNow_6 21 rfl rfl)
theorem dX4_clashesNow_167 : decode cX4_clashesNow 167 = .ok (.iinc 3 1, 3) := dk_132 3 1 (dk_at dksX4_clashesNow_7 0 rfl rfl)
theorem dX4_clashesNow_170 : decode cX4_clashesNow 170 = .ok (.goto (-82), 3) := dk_167 255 174 (dk_at dksX4_clashesNow_7 3 rfl rfl)
theorem dX4_clashesNow_173 : decode cX4_clashesNow 173 = .ok (.iload_n 2, 1) := dk_28 (dk_at dksX4_clashesNow_7 6 rfl rfl)
theorem dX4_clashesNow_174 : decode cX4_clashesNow 174 = .ok (.ireturn, 1) := dk_172 (dk_at dksX4_clashesNow_7 7 rfl rfl)
abbrev cX4_comes : ByteArray := prog_17_method_31_code
def yX4_comes : MethodName := ⟨RX4, "comes", "(II)Z"⟩
def dkwX4_comes_2 : List UInt8 := [163, 0, 16, 28, 6, 160, 0, 15, 42, 27, 182, 0, 159, 153, 0, 7, 4, 167, 0, 4, 3, 172]
abbrev dktX4_comes_2 : List UInt8 := dkwX4_comes_2 ++ []
def dkwX4_comes_1 : List UInt8 := [159, 0, 40, 28, 5, 160, 0, 22, 42, 27, 182, 0, 156, 153, 0, 14, 42, 180, 0, 39, 184, 0, 162, 4]
abbrev dktX4_comes_1 : List UInt8 := dkwX4_comes_1 ++ dktX4_comes_2
def dkwX4_comes_0 : List UInt8 := [42, 27, 182, 0, 156, 154, 0, 13, 42, 27, 182, 0, 159, 154, 0, 5, 3, 172, 28, 42, 180, 0, 36]
abbrev dktX4_comes_0 : List UInt8 := dkwX4_comes_0 ++ dktX4_comes_1
theorem dksX4_comes_0 : cX4_comes.data.toList.drop 0 = dktX4_comes_0 := by decide +kernel
theorem dksX4_comes_1 : cX4_comes.data.toList.drop 23 = dktX4_comes_1 := dk_seg dksX4_comes_0 23 rfl rfl
theorem dksX4_comes_2 : cX4_comes.data.toList.drop 47 = dktX4_comes_2 := dk_seg dksX4_comes_1 24 rfl rfl
theorem dX4_comes_0 : decode cX4_comes 0 = .ok (.aload_n 0, 1) := dk_42 (dk_at dksX4_comes_0 0 rfl rfl)
theorem dX4_comes_1 : decode cX4_comes 1 = .ok (.iload_n 1, 1) := dk_27 (dk_at dksX4_comes_0 1 rfl rfl)
theorem dX4_comes_2 : decode cX4_comes 2 = .ok (.invokevirtual 156, 3) := dk_182 0 156 (dk_at dksX4_comes_0 2 rfl rfl)
theorem dX4_comes_5 : decode cX4_comes 5 = .ok (.ifCond .ne 13, 3) := dk_154 0 13 (dk_at dksX4_comes_0 5 rfl rfl)
theorem dX4_comes_8 : decode cX4_comes 8 = .ok (.aload_n 0, 1) := dk_42 (dk_at dksX4_comes_0 8 rfl rfl)
theorem dX4_comes_9 : decode cX4_comes 9 = .ok (.iload_n 1, 1) := dk_27 (dk_at dksX4_comes_0 9 rfl rfl)
theorem dX4_comes_10 : decode cX4_comes 10 = .ok (.invokevirtual 159, 3) := dk_182 0 159 (dk_at dksX4_comes_0 10 rfl rfl)
theorem dX4_comes_13 : decode cX4_comes 13 = .ok (.ifCond .ne 5, 3) := dk_154 0 5 (dk_at dksX4_comes_0 13 rfl rfl)
theorem dX4_comes_16 : decode cX4_comes 16 = .ok (.iconst 0, 1) := dk_3 (dk_at dksX4_comes_0 16 rfl rfl)
theorem dX4_comes_17 : decode cX4_comes 17 = .ok (.ireturn, 1) := dk_172 (dk_at dksX4_comes_0 17 rfl rfl)
theorem dX4_comes_18 : decode cX4_comes 18 = .ok (.iload_n 2, 1) := dk_28 (dk_at dksX4_comes_0 18 rfl rfl)
theorem dX4_comes_19 : decode cX4_comes 19 = .ok (.aload_n 0, 1) := dk_42 (dk_at dksX4_comes_0 19 rfl rfl)
theorem dX4_comes_20 : decode cX4_comes 20 = .ok (.getfield 36, 3) := dk_180 0 36 (dk_at dksX4_comes_0 20 rfl rfl)
theorem dX4_comes_23 : decode cX4_comes 23 = .ok (.if_icmp .eq 40, 3) := dk_159 0 40 (dk_at dksX4_comes_1 0 rfl rfl)
theorem dX4_comes_26 : decode cX4_comes 26 = .ok (.iload_n 2, 1) := dk_28 (dk_at dksX4_comes_1 3 rfl rfl)
theorem dX4_comes_27 : decode cX4_comes 27 = .ok (.iconst 2, 1) := dk_5 (dk_at dksX4_comes_1 4 rfl rfl)
theorem dX4_comes_28 : decode cX4_comes 28 = .ok (.if_icmp .ne 22, 3) := dk_160 0 22 (dk_at dksX4_comes_1 5 rfl rfl)
theorem dX4_comes_31 : decode cX4_comes 31 = .ok (.aload_n 0, 1) := dk_42 (dk_at dksX4_comes_1 8 rfl rfl)
theorem dX4_comes_32 : decode cX4_comes 32 = .ok (.iload_n 1, 1) := dk_27 (dk_at dksX4_comes_1 9 rfl rfl)
theorem dX4_comes_33 : decode cX4_comes 33 = .ok (.invokevirtual 156, 3) := dk_182 0 156 (dk_at dksX4_comes_1 10 rfl rfl)
theorem dX4_comes_36 : decode cX4_comes 36 = .ok (.ifCond .eq 14, 3) := dk_153 0 14 (dk_at dksX4_comes_1 13 rfl rfl)
theorem dX4_comes_39 : decode cX4_comes 39 = .ok (.aload_n 0, 1) := dk_42 (dk_at dksX4_comes_1 16 rfl rfl)
theorem dX4_comes_40 : decode cX4_comes 40 = .ok (.getfield 39, 3) := dk_180 0 39 (dk_at dksX4_comes_1 17 rfl rfl)
theorem dX4_comes_43 : decode cX4_comes 43 = .ok (.invokestatic 162, 3) := dk_184 0 162 (dk_at dksX4_comes_1 20 rfl rfl)
theorem dX4_comes_46 : decode cX4_comes 46 = .ok (.iconst 1, 1) := dk_4 (dk_at dksX4_comes_1 23 rfl rfl)
theorem dX4_comes_47 : decode cX4_comes 47 = .ok (.if_icmp .gt 16, 3) := dk_163 0 16 (dk_at dksX4_comes_2 0 rfl rfl)
theorem dX4_comes_50 : decode cX4_comes 50 = .ok (.iload_n 2, 1) := dk_28 (dk_at dksX4_comes_2 3 rfl rfl)
theorem dX4_comes_51 : decode cX4_comes 51 = .ok (.iconst 3, 1) := dk_6 (dk_at dksX4_comes_2 4 rfl rfl)
theorem dX4_comes_52 : decode cX4_comes 52 = .ok (.if_icmp .ne 15, 3) := dk_160 0 15 (dk_at dksX4_comes_2 5 rfl rfl)
theorem dX4_comes_55 : decode cX4_comes 55 = .ok (.aload_n 0, 1) := dk_42 (dk_at dksX4_comes_2 8 rfl rfl)
theorem dX4_comes_56 : decode cX4_comes 56 = .ok (.iload_n 1, 1) := dk_27 (dk_at dksX4_comes_2 9 rfl rfl)
theorem dX4_comes_57 : decode cX4_comes 57 = .ok (.invokevirtual 159, 3) := dk_182 0 159 (dk_at dksX4_comes_2 10 rfl rfl)
theorem dX4_comes_60 : decode cX4_comes 60 = .ok (.ifCond .eq 7, 3) := dk_153 0 7 (dk_at dksX4_comes_2 13 rfl rfl)
theorem dX4_comes_63 : decode cX4_comes 63 = .ok (.iconst 1, 1) := dk_4 (dk_at dksX4_comes_2 16 rfl rfl)
theorem dX4_comes_64 : decode cX4_comes 64 = .ok (.goto 4, 3) := dk_167 0 4 (dk_at dksX4_comes_2 17 rfl rfl)
theorem dX4_comes_67 : decode cX4_comes 67 = .ok (.iconst 0, 1) := dk_3 (dk_at dksX4_comes_2 20 rfl rfl)
theorem dX4_comes_68 : decode cX4_comes 68 = .ok (.ireturn, 1) := dk_172 (dk_at dksX4_comes_2 21 rfl rfl)
abbrev cX4_isNear : ByteArray := prog_17_method_27_code
def yX4_isNear : MethodName := ⟨RX4, "isNear", "(I)Z"⟩
def dkwX4_isNear_0 : List UInt8 := [42, 180, 0, 39, 27, 122, 4, 126, 4, 160, 0, 7, 4, 167, 0, 4, 3, 172]
abbrev dktX4_isNear_0 : List UInt8 := dkwX4_isNear_0 ++ []
theorem dksX4_isNear_0 : cX4_isNear.data.toList.drop 0 = dktX4_isNear_0 := by decide +kernel
theorem dX4_isNear_0 : decode cX4_isNear 0 = .ok (.aload_n 0, 1) := dk_42 (dk_at dksX4_isNear_0 0 rfl rfl)
theorem dX4_isNear_1 : decode cX4_isNear 1 = .ok (.getfield 39, 3) := dk_180 0 39 (dk_at dksX4_isNear_0 1 rfl rfl)
theorem dX4_isNear_4 : decode cX4_isNear 4 = .ok (.iload_n 1, 1) := dk_27 (dk_at dksX4_isNear_0 4 rfl rfl)
theorem dX4_isNear_5 : decode cX4_isNear 5 = .ok (.ishr, 1) := dk_122 (dk_at dksX4_isNear_0 5 rfl rfl)
theorem dX4_isNear_6 : decode cX4_isNear 6 = .ok (.iconst 1, 1) := dk_4 (dk_at dksX4_isNear_0 6 rfl rfl)
theorem dX4_isNear_7 : decode cX4_isNear 7 = .ok (.iand, 1) := dk_126 (dk_at dksX4_isNear_0 7 rfl rfl)
theorem dX4_isNear_8 : decode cX4_isNear 8 = .ok (.iconst 1, 1) := dk_4 (dk_at dksX4_isNear_0 8 rfl rfl)
theorem dX4_isNear_9 : decode cX4_isNear 9 = .ok (.if_icmp .ne 7, 3) := dk_160 0 7 (dk_at dksX4_isNear_0 9 rfl rfl)
theorem dX4_isNear_12 : decode cX4_isNear 12 = .ok (.iconst 1, 1) := dk_4 (dk_at dksX4_isNear_0 12 rfl rfl)
theorem dX4_isNear_13 : decode cX4_isNear 13 = .ok (.goto 4, 3) := dk_167 0 4 (dk_at dksX4_isNear_0 13 rfl rfl)
theorem dX4_isNear_16 : decode cX4_isNear 16 = .ok (.iconst 0, 1) := dk_3 (dk_at dksX4_isNear_0 16 rfl rfl)
theorem dX4_isNear_17 : decode cX4_isNear 17 = .ok (.ireturn, 1) := dk_172 (dk_at dksX4_isNear_0 17 rfl rfl)
abbrev cX4_isFar : ByteArray := prog_17_method_28_code
def yX4_isFar : MethodName := ⟨RX4, "isFar", "(I)Z"⟩
def dkwX4_isFar_0 : List UInt8 := [42, 180, 0, 42, 27, 122, 4, 126, 4, 160, 0, 7, 4, 167, 0, 4, 3, 172]
abbrev dktX4_isFar_0 : List UInt8 := dkwX4_isFar_0 ++ []
theorem dksX4_isFar_0 : cX4_isFar.data.toList.drop 0 = dktX4_isFar_0 := by decide +kernel
theorem dX4_isFar_0 : decode cX4_isFar 0 = .ok (.aload_n 0, 1) := dk_42 (dk_at dksX4_isFar_0 0 rfl rfl)
theorem dX4_isFar_1 : decode cX4_isFar 1 = .ok (.getfield 42, 3) := dk_180 0 42 (dk_at dksX4_isFar_0 1 rfl rfl)
theorem dX4_isFar_4 : decode cX4_isFar 4 = .ok (.iload_n 1, 1) := dk_27 (dk_at dksX4_isFar_0 4 rfl rfl)
theorem dX4_isFar_5 : decode cX4_isFar 5 = .ok (.ishr, 1) := dk_122 (dk_at dksX4_isFar_0 5 rfl rfl)
theorem dX4_isFar_6 : decode cX4_isFar 6 = .ok (.iconst 1, 1) := dk_4 (dk_at dksX4_isFar_0 6 rfl rfl)
theorem dX4_isFar_7 : decode cX4_isFar 7 = .ok (.iand, 1) := dk_126 (dk_at dksX4_isFar_0 7 rfl rfl)
theorem dX4_isFar_8 : decode cX4_isFar 8 = .ok (.iconst 1, 1) := dk_4 (dk_at dksX4_isFar_0 8 rfl rfl)
theorem dX4_isFar_9 : decode cX4_isFar 9 = .ok (.if_icmp .ne 7, 3) := dk_160 0 7 (dk_at dksX4_isFar_0 9 rfl rfl)
theorem dX4_isFar_12 : decode cX4_isFar 12 = .ok (.iconst 1, 1) := dk_4 (dk_at dksX4_isFar_0 12 rfl rfl)
theorem dX4_isFar_13 : decode cX4_isFar 13 = .ok (.goto 4, 3) := dk_167 0 4 (dk_at dksX4_isFar_0 13 rfl rfl)
theorem dX4_isFar_16 : decode cX4_isFar 16 = .ok (.iconst 0, 1) := dk_3 (dk_at dksX4_isFar_0 16 rfl rfl)
theorem dX4_isFar_17 : decode cX4_isFar 17 = .ok (.ireturn, 1) := dk_172 (dk_at dksX4_isFar_0 17 rfl rfl)
abbrev cX4_ones : ByteArray := prog_17_method_6_code
def yX4_ones : MethodName := ⟨RX4, "ones", "(I)I"⟩
def dkwX4_ones_1 : List UInt8 := [27, 172]
abbrev dktX4_ones_1 : List UInt8 := dkwX4_ones_1 ++ []
def dkwX4_ones_0 : List UInt8 := [3, 60, 3, 61, 28, 16, 10, 162, 0, 17, 27, 26, 28, 122, 4, 126, 96, 60, 132, 2, 1, 167, 255, 239]
abbrev dktX4_ones_0 : List UInt8 := dkwX4_ones_0 ++ dktX4_ones_1
theorem dksX4_ones_0 : cX4_ones.data.toList.drop 0 = dktX4_ones_0 := by decide +kernel
theorem dksX4_ones_1 : cX4_ones.data.toList.drop 24 = dktX4_ones_1 := dk_seg dksX4_ones_0 24 rfl rfl
theorem dX4_ones_0 : decode cX4_ones 0 = .ok (.iconst 0, 1) := dk_3 (dk_at dksX4_ones_0 0 rfl rfl)
theorem dX4_ones_1 : decode cX4_ones 1 = .ok (.istore_n 1, 1) := dk_60 (dk_at dksX4_ones_0 1 rfl rfl)
theorem dX4_ones_2 : decode cX4_ones 2 = .ok (.iconst 0, 1) := dk_3 (dk_at dksX4_ones_0 2 rfl rfl)
theorem dX4_ones_3 : decode cX4_ones 3 = .ok (.istore_n 2, 1) := dk_61 (dk_at dksX4_ones_0 3 rfl rfl)
theorem dX4_ones_4 : decode cX4_ones 4 = .ok (.iload_n 2, 1) := dk_28 (dk_at dksX4_ones_0 4 rfl rfl)
theorem dX4_ones_5 : decode cX4_ones 5 = .ok (.bipush 10, 2) := dk_16 10 (dk_at dksX4_ones_0 5 rfl rfl)
theorem dX4_ones_7 : decode cX4_ones 7 = .ok (.if_icmp .ge 17, 3) := dk_162 0 17 (dk_at dksX4_ones_0 7 rfl rfl)
theorem dX4_ones_10 : decode cX4_ones 10 = .ok (.iload_n 1, 1) := dk_27 (dk_at dksX4_ones_0 10 rfl rfl)
theorem dX4_ones_11 : decode cX4_ones 11 = .ok (.iload_n 0, 1) := dk_26 (dk_at dksX4_ones_0 11 rfl rfl)
theorem dX4_ones_12 : decode cX4_ones 12 = .ok (.iload_n 2, 1) := dk_28 (dk_at dksX4_ones_0 12 rfl rfl)
theorem dX4_ones_13 : decode cX4_ones 13 = .ok (.ishr, 1) := dk_122 (dk_at dksX4_ones_0 13 rfl rfl)
theorem dX4_ones_14 : decode cX4_ones 14 = .ok (.iconst 1, 1) := dk_4 (dk_at dksX4_ones_0 14 rfl rfl)
theorem dX4_ones_15 : decode cX4_ones 15 = .ok (.iand, 1) := dk_126 (dk_at dksX4_ones_0 15 rfl rfl)
theorem dX4_ones_16 : decode cX4_ones 16 = .ok (.iadd, 1) := dk_96 (dk_at dksX4_ones_0 16 rfl rfl)
theorem dX4_ones_17 : decode cX4_ones 17 = .ok (.istore_n 1, 1) := dk_60 (dk_at dksX4_ones_0 17 rfl rfl)
theorem dX4_ones_18 : decode cX4_ones 18 = .ok (.iinc 2 1, 3) := dk_132 2 1 (dk_at dksX4_ones_0 18 rfl rfl)
theorem dX4_ones_21 : decode cX4_ones 21 = .ok (.goto (-17), 3) := dk_167 255 239 (dk_at dksX4_ones_0 21 rfl rfl)
theorem dX4_ones_24 : decode cX4_ones 24 = .ok (.iload_n 1, 1) := dk_27 (dk_at dksX4_ones_1 0 rfl rfl)
theorem dX4_ones_25 : decode cX4_ones 25 = .ok (.ireturn, 1) := dk_172 (dk_at dksX4_ones_1 1 rfl rfl)
abbrev cX4_licenceNow : ByteArray := prog_17_method_29_code
def yX4_licenceNow : MethodName := ⟨RX4, "licenceNow", "(I)I"⟩
def dkwX4_licenceNow_2 : List UInt8 := [180, 0, 13, 16, 68, 27, 96, 46, 172]
abbrev dktX4_licenceNow_2 : List UInt8 := dkwX4_licenceNow_2 ++ []
def dkwX4_licenceNow_1 : List UInt8 := [180, 0, 45, 27, 122, 4, 126, 4, 160, 0, 15, 42, 180, 0, 13, 16, 78, 27, 96, 46, 167, 0, 12, 42]
abbrev dktX4_licenceNow_1 : List UInt8 := dkwX4_licenceNow_1 ++ dktX4_licenceNow_2
def dkwX4_licenceNow_0 : List UInt8 := [42, 180, 0, 48, 153, 0, 11, 42, 27, 182, 0, 134, 154, 0, 9, 42, 27, 182, 0, 137, 172, 42]
abbrev dktX4_licenceNow_0 : List UInt8 := dkwX4_licenceNow_0 ++ dktX4_licenceNow_1
theorem dksX4_licenceNow_0 : cX4_licenceNow.data.toList.drop 0 = dktX4_licenceNow_0 := by decide +kernel
theorem dksX4_licenceNow_1 : cX4_licenceNow.data.toList.drop 22 = dktX4_licenceNow_1 := dk_seg dksX4_licenceNow_0 22 rfl rfl
theorem dksX4_licenceNow_2 : cX4_licenceNow.data.toList.drop 46 = dktX4_licenceNow_2 := dk_seg dksX4_licenceNow_1 24 rfl rfl
theorem dX4_licenceNow_0 : decode cX4_licenceNow 0 = .ok (.aload_n 0, 1) := dk_42 (dk_at dksX4_licenceNow_0 0 rfl rfl)
theorem dX4_licenceNow_1 : decode cX4_licenceNow 1 = .ok (.getfield 48, 3) := dk_180 0 48 (dk_at dksX4_licenceNow_0 1 rfl rfl)
theorem dX4_licenceNow_4 : decode cX4_licenceNow 4 = .ok (.ifCond .eq 11, 3) := dk_153 0 11 (dk_at dksX4_licenceNow_0 4 rfl rfl)
theorem dX4_licenceNow_7 : decode cX4_licenceNow 7 = .ok (.aload_n 0, 1) := dk_42 (dk_at dksX4_licenceNow_0 7 rfl rfl)
theorem dX4_licenceNow_8 : decode cX4_licenceNow 8 = .ok (.iload_n 1, 1) := dk_27 (dk_at dksX4_licenceNow_0 8 rfl rfl)
theorem dX4_licenceNow_9 : decode cX4_licenceNow 9 = .ok (.invokevirtual 134, 3) := dk_182 0 134 (dk_at dksX4_licenceNow_0 9 rfl rfl)
theorem dX4_licenceNow_12 : decode cX4_licenceNow 12 = .ok (.ifCond .ne 9, 3) := dk_154 0 9 (dk_at dksX4_licenceNow_0 12 rfl rfl)
theorem dX4_licenceNow_15 : decode cX4_licenceNow 15 = .ok (.aload_n 0, 1) := dk_42 (dk_at dksX4_licenceNow_0 15 rfl rfl)
theorem dX4_licenceNow_16 : decode cX4_licenceNow 16 = .ok (.iload_n 1, 1) := dk_27 (dk_at dksX4_licenceNow_0 16 rfl rfl)
theorem dX4_licenceNow_17 : decode cX4_licenceNow 17 = .ok (.invokevirtual 137, 3) := dk_182 0 137 (dk_at dksX4_licenceNow_0 17 rfl rfl)
theorem dX4_licenceNow_20 : decode cX4_licenceNow 20 = .ok (.ireturn, 1) := dk_172 (dk_at dksX4_licenceNow_0 20 rfl rfl)
theorem dX4_licenceNow_21 : decode cX4_licenceNow 21 = .ok (.aload_n 0, 1) := dk_42 (dk_at dksX4_licenceNow_0 21 rfl rfl)
theorem dX4_licenceNow_22 : decode cX4_licenceNow 22 = .ok (.getfield 45, 3) := dk_180 0 45 (dk_at dksX4_licenceNow_1 0 rfl rfl)
theorem dX4_licenceNow_25 : decode cX4_licenceNow 25 = .ok (.iload_n 1, 1) := dk_27 (dk_at dksX4_licenceNow_1 3 rfl rfl)
theorem dX4_licenceNow_26 : decode cX4_licenceNow 26 = .ok (.ishr, 1) := dk_122 (dk_at dksX4_licenceNow_1 4 rfl rfl)
theorem dX4_licenceNow_27 : decode cX4_licenceNow 27 = .ok (.iconst 1, 1) := dk_4 (dk_at dksX4_licenceNow_1 5 rfl rfl)
theorem dX4_licenceNow_28 : decode cX4_licenceNow 28 = .ok (.iand, 1) := dk_126 (dk_at dksX4_licenceNow_1 6 rfl rfl)
theorem dX4_licenceNow_29 : decode cX4_licenceNow 29 = .ok (.iconst 1, 1) := dk_4 (dk_at dksX4_licenceNow_1 7 rfl rfl)
theorem dX4_licenceNow_30 : decode cX4_licenceNow 30 = .ok (.if_icmp .ne 15, 3) := dk_160 0 15 (dk_at dksX4_licenceNow_1 8 rfl rfl)
theorem dX4_licenceNow_33 : decode cX4_licenceNow 33 = .ok (.aload_n 0, 1) := dk_42 (dk_at dksX4_licenceNow_1 11 rfl rfl)
theorem dX4_licenceNow_34 : decode cX4_licenceNow 34 = .ok (.getfield 13, 3) := dk_180 0 13 (dk_at dksX4_licenceNow_1 12 rfl rfl)
theorem dX4_licenceNow_37 : decode cX4_licenceNow 37 = .ok (.bipush 78, 2) := dk_16 78 (dk_at dksX4_licenceNow_1 15 rfl rfl)
theorem dX4_licenceNow_39 : decode cX4_licenceNow 39 = .ok (.iload_n 1, 1) := dk_27 (dk_at dksX4_licenceNow_1 17 rfl rfl)
theorem dX4_licenceNow_40 : decode cX4_licenceNow 40 = .ok (.iadd, 1) := dk_96 (dk_at dksX4_licenceNow_1 18 rfl rfl)
theorem dX4_licenceNow_41 : decode cX4_licenceNow 41 = .ok (.iaload, 1) := dk_46 (dk_at dksX4_licenceNow_1 19 rfl rfl)
theorem dX4_licenceNow_42 : decode cX4_licenceNow 42 = .ok (.goto 12, 3) := dk_167 0 12 (dk_at dksX4_licenceNow_1 20 rfl rfl)
theorem dX4_licenceNow_45 : decode cX4_licenceNow 45 = .ok (.aload_n 0, 1) := dk_42 (dk_at dksX4_licenceNow_1 23 rfl rfl)
theorem dX4_licenceNow_46 : decode cX4_licenceNow 46 = .ok (.getfield 13, 3) := dk_180 0 13 (dk_at dksX4_licenceNow_2 0 rfl rfl)
theorem dX4_licenceNow_49 : decode cX4_licenceNow 49 = .ok (.bipush 68, 2) := dk_16 68 (dk_at dksX4_licenceNow_2 3 rfl rfl)
theorem dX4_licenceNow_51 : decode cX4_licenceNow 51 = .ok (.iload_n 1, 1) := dk_27 (dk_at dksX4_licenceNow_2 5 rfl rfl)
theorem dX4_licenceNow_52 : decode cX4_licenceNow 52 = .ok (.iadd, 1) := dk_96 (dk_at dksX4_licenceNow_2 6 rfl rfl)
theorem dX4_licenceNow_53 : decode cX4_licenceNow 53 = .ok (.iaload, 1) := dk_46 (dk_at dksX4_licenceNow_2 7 rfl rfl)
theorem dX4_licenceNow_54 : decode cX4_licenceNow 54 = .ok (.ireturn, 1) := dk_172 (dk_at dksX4_licenceNow_2 8 rfl rfl)
abbrev cX4_tells : ByteArray := prog_17_method_36_code
def yX4_tells : MethodName := ⟨RX4, "tells", "(IIII)V"⟩
def dkwX4_tells_1 : List UInt8 := [180, 0, 51, 6, 21, 4, 79, 177]
abbrev dktX4_tells_1 : List UInt8 := dkwX4_tells_1 ++ []
def dkwX4_tells_0 : List UInt8 := [42, 180, 0, 51, 3, 27, 79, 42, 180, 0, 51, 4, 28, 79, 42, 180, 0, 51, 5, 29, 79, 42]
abbrev dktX4_tells_0 : List UInt8 := dkwX4_tells_0 ++ dktX4_tells_1
theorem dksX4_tells_0 : cX4_tells.data.toList.drop 0 = dktX4_tells_0 := by decide +kernel
theorem dksX4_tells_1 : cX4_tells.data.toList.drop 22 = dktX4_tells_1 := dk_seg dksX4_tells_0 22 rfl rfl
theorem dX4_tells_0 : decode cX4_tells 0 = .ok (.aload_n 0, 1) := dk_42 (dk_at dksX4_tells_0 0 rfl rfl)
theorem dX4_tells_1 : decode cX4_tells 1 = .ok (.getfield 51, 3) := dk_180 0 51 (dk_at dksX4_tells_0 1 rfl rfl)
theorem dX4_tells_4 : decode cX4_tells 4 = .ok (.iconst 0, 1) := dk_3 (dk_at dksX4_tells_0 4 rfl rfl)
theorem dX4_tells_5 : decode cX4_tells 5 = .ok (.iload_n 1, 1) := dk_27 (dk_at dksX4_tells_0 5 rfl rfl)
theorem dX4_tells_6 : decode cX4_tells 6 = .ok (.iastore, 1) := dk_79 (dk_at dksX4_tells_0 6 rfl rfl)
theorem dX4_tells_7 : decode cX4_tells 7 = .ok (.aload_n 0, 1) := dk_42 (dk_at dksX4_tells_0 7 rfl rfl)
theorem dX4_tells_8 : decode cX4_tells 8 = .ok (.getfield 51, 3) := dk_180 0 51 (dk_at dksX4_tells_0 8 rfl rfl)
theorem dX4_tells_11 : decode cX4_tells 11 = .ok (.iconst 1, 1) := dk_4 (dk_at dksX4_tells_0 11 rfl rfl)
theorem dX4_tells_12 : decode cX4_tells 12 = .ok (.iload_n 2, 1) := dk_28 (dk_at dksX4_tells_0 12 rfl rfl)
theorem dX4_tells_13 : decode cX4_tells 13 = .ok (.iastore, 1) := dk_79 (dk_at dksX4_tells_0 13 rfl rfl)
theorem dX4_tells_14 : decode cX4_tells 14 = .ok (.aload_n 0, 1) := dk_42 (dk_at dksX4_tells_0 14 rfl rfl)
theorem dX4_tells_15 : decode cX4_tells 15 = .ok (.getfield 51, 3) := dk_180 0 51 (dk_at dksX4_tells_0 15 rfl rfl)
theorem dX4_tells_18 : decode cX4_tells 18 = .ok (.iconst 2, 1) := dk_5 (dk_at dksX4_tells_0 18 rfl rfl)
theorem dX4_tells_19 : decode cX4_tells 19 = .ok (.iload_n 3, 1) := dk_29 (dk_at dksX4_tells_0 19 rfl rfl)
theorem dX4_tells_20 : decode cX4_tells 20 = .ok (.iastore, 1) := dk_79 (dk_at dksX4_tells_0 20 rfl rfl)
theorem dX4_tells_21 : decode cX4_tells 21 = .ok (.aload_n 0, 1) := dk_42 (dk_at dksX4_tells_0 21 rfl rfl)
theorem dX4_tells_22 : decode cX4_tells 22 = .ok (.getfield 51, 3) := dk_180 0 51 (dk_at dksX4_tells_1 0 rfl rfl)
theorem dX4_tells_25 : decode cX4_tells 25 = .ok (.iconst 3, 1) := dk_6 (dk_at dksX4_tells_1 3 rfl rfl)
theorem dX4_tells_26 : decode cX4_tells 26 = .ok (.iload 4, 2) := dk_21 4 (dk_at dksX4_tells_1 4 rfl rfl)
theorem dX4_tells_28 : decode cX4_tells 28 = .ok (.iastore, 1) := dk_79 (dk_at dksX4_tells_1 6 rfl rfl)
theorem dX4_tells_29 : decode cX4_tells 29 = .ok (.return_, 1) := dk_177 (dk_at dksX4_tells_1 7 rfl rfl)
abbrev cX4_isAgainst : ByteArray := prog_17_method_34_code
def yX4_isAgainst : MethodName := ⟨RX4, "isAgainst", "(III)Z"⟩
def dkwX4_isAgainst_3 : List UInt8 := [29, 122, 4, 126, 4, 160, 0, 7, 4, 167, 0, 4, 3, 172]
abbrev dktX4_isAgainst_3 : List UInt8 := dkwX4_isAgainst_3 ++ []
def dkwX4_isAgainst_2 : List UInt8 := [182, 0, 153, 42, 28, 182, 0, 153, 159, 0, 28, 42, 180, 0, 13, 16, 12, 42, 28, 182, 0, 153, 96, 46]
abbrev dktX4_isAgainst_2 : List UInt8 := dkwX4_isAgainst_2 ++ dktX4_isAgainst_3
def dkwX4_isAgainst_1 : List UInt8 := [182, 0, 168, 29, 122, 4, 126, 153, 0, 12, 42, 27, 28, 182, 0, 171, 154, 0, 5, 3, 172, 42, 27]
abbrev dktX4_isAgainst_1 : List UInt8 := dkwX4_isAgainst_1 ++ dktX4_isAgainst_2
def dkwX4_isAgainst_0 : List UInt8 := [27, 28, 159, 0, 40, 42, 28, 182, 0, 156, 154, 0, 11, 42, 28, 182, 0, 159, 153, 0, 24, 42, 27]
abbrev dktX4_isAgainst_0 : List UInt8 := dkwX4_isAgainst_0 ++ dktX4_isAgainst_1
theorem dksX4_isAgainst_0 : cX4_isAgainst.data.toList.drop 0 = dktX4_isAgainst_0 := by decide +kernel
theorem dksX4_isAgainst_1 : cX4_isAgainst.data.toList.drop 23 = dktX4_isAgainst_1 := dk_seg dksX4_isAgainst_0 23 rfl rfl
theorem dksX4_isAgainst_2 : cX4_isAgainst.data.toList.drop 46 = dktX4_isAgainst_2 := dk_seg dksX4_isAgainst_1 23 rfl rfl
theorem dksX4_isAgainst_3 : cX4_isAgainst.data.toList.drop 70 = dktX4_isAgainst_3 := dk_seg dksX4_isAgainst_2 24 rfl rfl
theorem dX4_isAgainst_0 : decode cX4_isAgainst 0 = .ok (.iload_n 1, 1) := dk_27 (dk_at dksX4_isAgainst_0 0 rfl rfl)
theorem dX4_isAgainst_1 : decode cX4_isAgainst 1 = .ok (.iload_n 2, 1) := dk_28 (dk_at dksX4_isAgainst_0 1 rfl rfl)
theorem dX4_isAgainst_2 : decode cX4_isAgainst 2 = .ok (.if_icmp .eq 40, 3) := dk_159 0 40 (dk_at dksX4_isAgainst_0 2 rfl rfl)
theorem dX4_isAgainst_5 : decode cX4_isAgainst 5 = .ok (.aload_n 0, 1) := dk_42 (dk_at dksX4_isAgainst_0 5 rfl rfl)
theorem dX4_isAgainst_6 : decode cX4_isAgainst 6 = .ok (.iload_n 2, 1) := dk_28 (dk_at dksX4_isAgainst_0 6 rfl rfl)
theorem dX4_isAgainst_7 : decode cX4_isAgainst 7 = .ok (.invokevirtual 156, 3) := dk_182 0 156 (dk_at dksX4_isAgainst_0 7 rfl rfl)
theorem dX4_isAgainst_10 : decode cX4_isAgainst 10 = .ok (.ifCond .ne 11, 3) := dk_154 0 11 (dk_at dksX4_isAgainst_0 10 rfl rfl)
theorem dX4_isAgainst_13 : decode cX4_isAgainst 13 = .ok (.aload_n 0, 1) := dk_42 (dk_at dksX4_isAgainst_0 13 rfl rfl)
theorem dX4_isAgainst_14 : decode cX4_isAgainst 14 = .ok (.iload_n 2, 1) := dk_28 (dk_at dksX4_isAgainst_0 14 rfl rfl)
theorem dX4_isAgainst_15 : decode cX4_isAgainst 15 = .ok (.invokevirtual 159, 3) := dk_182 0 159 (dk_at dksX4_isAgainst_0 15 rfl rfl)
theorem dX4_isAgainst_18 : decode cX4_isAgainst 18 = .ok (.ifCond .eq 24, 3) := dk_153 0 24 (dk_at dksX4_isAgainst_0 18 rfl rfl)
theorem dX4_isAgainst_21 : decode cX4_isAgainst 21 = .ok (.aload_n 0, 1) := dk_42 (dk_at dksX4_isAgainst_0 21 rfl rfl)
theorem dX4_isAgainst_22 : decode cX4_isAgainst 22 = .ok (.iload_n 1, 1) := dk_27 (dk_at dksX4_isAgainst_0 22 rfl rfl)
theorem dX4_isAgainst_23 : decode cX4_isAgainst 23 = .ok (.invokevirtual 168, 3) := dk_182 0 168 (dk_at dksX4_isAgainst_1 0 rfl rfl)
theorem dX4_isAgainst_26 : decode cX4_isAgainst 26 = .ok (.iload_n 3, 1) := dk_29 (dk_at dksX4_isAgainst_1 3 rfl rfl)
theorem dX4_isAgainst_27 : decode cX4_isAgainst 27 = .ok (.ishr, 1) := dk_122 (dk_at dksX4_isAgainst_1 4 rfl rfl)
theorem dX4_isAgainst_28 : decode cX4_isAgainst 28 = .ok (.iconst 1, 1) := dk_4 (dk_at dksX4_isAgainst_1 5 rfl rfl)
theorem dX4_isAgainst_29 : decode cX4_isAgainst 29 = .ok (.iand, 1) := dk_126 (dk_at dksX4_isAgainst_1 6 rfl rfl)
theorem dX4_isAgainst_30 : decode cX4_isAgainst 30 = .ok (.ifCond .eq 12, 3) := dk_153 0 12 (dk_at dksX4_isAgainst_1 7 rfl rfl)
theorem dX4_isAgainst_33 : decode cX4_isAgainst 33 = .ok (.aload_n 0, 1) := dk_42 (dk_at dksX4_isAgainst_1 10 rfl rfl)
theorem dX4_isAgainst_34 : decode cX4_isAgainst 34 = .ok (.iload_n 1, 1) := dk_27 (dk_at dksX4_isAgainst_1 11 rfl rfl)
theorem dX4_isAgainst_35 : decode cX4_isAgainst 35 = .ok (.iload_n 2, 1) := dk_28 (dk_at dksX4_isAgainst_1 12 rfl rfl)
theorem dX4_isAgainst_36 : decode cX4_isAgainst 36 = .ok (.invokevirtual 171, 3) := dk_182 0 171 (dk_at dksX4_isAgainst_1 13 rfl rfl)
theorem dX4_isAgainst_39 : decode cX4_isAgainst 39 = .ok (.ifCond .ne 5, 3) := dk_154 0 5 (dk_at dksX4_isAgainst_1 16 rfl rfl)
theorem dX4_isAgainst_42 : decode cX4_isAgainst 42 = .ok (.iconst 0, 1) := dk_3 (dk_at dksX4_isAgainst_1 19 rfl rfl)
theorem dX4_isAgainst_43 : decode cX4_isAgainst 43 = .ok (.ireturn, 1) := dk_172 (dk_at dksX4_isAgainst_1 20 rfl rfl)
theorem dX4_isAgainst_44 : decode cX4_isAgainst 44 = .ok (.aload_n 0, 1) := dk_42 (dk_at dksX4_isAgainst_1 21 rfl rfl)
theorem dX4_isAgainst_45 : decode cX4_isAgainst 45 = .ok (.iload_n 1, 1) := dk_27 (dk_at dksX4_isAgainst_1 22 rfl rfl)
theorem dX4_isAgainst_46 : decode cX4_isAgainst 46 = .ok (.invokevirtual 153, 3) := dk_182 0 153 (dk_at dksX4_isAgainst_2 0 rfl rfl)
theorem dX4_isAgainst_49 : decode cX4_isAgainst 49 = .ok (.aload_n 0, 1) := dk_42 (dk_at dksX4_isAgainst_2 3 rfl rfl)
theorem dX4_isAgainst_50 : decode cX4_isAgainst 50 = .ok (.iload_n 2, 1) := dk_28 (dk_at dksX4_isAgainst_2 4 rfl rfl)
theorem dX4_isAgainst_51 : decode cX4_isAgainst 51 = .ok (.invokevirtual 153, 3) := dk_182 0 153 (dk_at dksX4_isAgainst_2 5 rfl rfl)
theorem dX4_isAgainst_54 : decode cX4_isAgainst 54 = .ok (.if_icmp .eq 28, 3) := dk_159 0 28 (dk_at dksX4_isAgainst_2 8 rfl rfl)
theorem dX4_isAgainst_57 : decode cX4_isAgainst 57 = .ok (.aload_n 0, 1) := dk_42 (dk_at dksX4_isAgainst_2 11 rfl rfl)
theorem dX4_isAgainst_58 : decode cX4_isAgainst 58 = .ok (.getfield 13, 3) := dk_180 0 13 (dk_at dksX4_isAgainst_2 12 rfl rfl)
theorem dX4_isAgainst_61 : decode cX4_isAgainst 61 = .ok (.bipush 12, 2) := dk_16 12 (dk_at dksX4_isAgainst_2 15 rfl rfl)
theorem dX4_isAgainst_63 : decode cX4_isAgainst 63 = .ok (.aload_n 0, 1) := dk_42 (dk_at dksX4_isAgainst_2 17 rfl rfl)
theorem dX4_isAgainst_64 : decode cX4_isAgainst 64 = .ok (.iload_n 2, 1) := dk_28 (dk_at dksX4_isAgainst_2 18 rfl rfl)
theorem dX4_isAgainst_65 : decode cX4_isAgainst 65 = .ok (.invokevirtual 153, 3) := dk_182 0 153 (dk_at dksX4_isAgainst_2 19 rfl rfl)
theorem dX4_isAgainst_68 : decode cX4_isAgainst 68 = .ok (.iadd, 1) := dk_96 (dk_at dksX4_isAgainst_2 22 rfl rfl)
theorem dX4_isAgainst_69 : decode cX4_isAgainst 69 = .ok (.iaload, 1) := dk_46 (dk_at dksX4_isAgainst_2 23 rfl rfl)
theorem dX4_isAgainst_70 : decode cX4_isAgainst 70 = .ok (.iload_n 3, 1) := dk_29 (dk_at dksX4_isAgainst_3 0 rfl rfl)
theorem dX4_isAgainst_71 : decode cX4_isAgainst 71 = .ok (.ishr, 1) := dk_122 (dk_at dksX4_isAgainst_3 1 rfl rfl)
theorem dX4_isAgainst_72 : decode cX4_isAgainst 72 = .ok (.iconst 1, 1) := dk_4 (dk_at dksX4_isAgainst_3 2 rfl rfl)
theorem dX4_isAgainst_73 : decode cX4_isAgainst 73 = .ok (.iand, 1) := dk_126 (dk_at dksX4_isAgainst_3 3 rfl rfl)
theorem dX4_isAgainst_74 : decode cX4_isAgainst 74 = .ok (.iconst 1, 1) := dk_4 (dk_at dksX4_isAgainst_3 4 rfl rfl)
theorem dX4_isAgainst_75 : decode cX4_isAgainst 75 = .ok (.if_icmp .ne 7, 3) := dk_160 0 7 (dk_at dksX4_isAgainst_3 5 rfl rfl)
theorem dX4_isAgainst_78 : decode cX4_isAgainst 78 = .ok (.iconst 1, 1) := dk_4 (dk_at dksX4_isAgainst_3 8 rfl rfl)
theorem dX4_isAgainst_79 : decode cX4_isAgainst 79 = .ok (.goto 4, 3) := dk_167 0 4 (dk_at dksX4_isAgainst_3 9 rfl rfl)
theorem dX4_isAgainst_82 : decode cX4_isAgainst 82 = .ok (.iconst 0, 1) := dk_3 (dk_at dksX4_isAgainst_3 12 rfl rfl)
theorem dX4_isAgainst_83 : decode cX4_isAgainst 83 = .ok (.ireturn, 1) := dk_172 (dk_at dksX4_isAgainst_3 13 rfl rfl)
abbrev cX4_dueNow : ByteArray := prog_17_method_32_code
def yX4_dueNow : MethodName := ⟨RX4, "dueNow", "(I)I"⟩
def dkwX4_dueNow_3 : List UInt8 := [160, 0, 15, 42, 27, 42, 180, 0, 36, 182, 0, 164, 167, 0, 4, 3, 128, 172]
abbrev dktX4_dueNow_3 : List UInt8 := dkwX4_dueNow_3 ++ []
def dkwX4_dueNow_2 : List UInt8 := [3, 172, 42, 27, 6, 182, 0, 164, 42, 180, 0, 13, 16, 20, 42, 27, 182, 0, 153, 96, 46, 5]
abbrev dktX4_dueNow_2 : List UInt8 := dkwX4_dueNow_2 ++ dktX4_dueNow_3
def dkwX4_dueNow_1 : List UInt8 := [4, 164, 0, 12, 42, 27, 5, 182, 0, 164, 167, 0, 4, 3, 128, 172, 42, 27, 182, 0, 159, 154, 0, 5]
abbrev dktX4_dueNow_1 : List UInt8 := dkwX4_dueNow_1 ++ dktX4_dueNow_2
def dkwX4_dueNow_0 : List UInt8 := [42, 27, 182, 0, 156, 153, 0, 35, 42, 27, 42, 180, 0, 36, 182, 0, 164, 42, 180, 0, 39, 184, 0, 162]
abbrev dktX4_dueNow_0 : List UInt8 := dkwX4_dueNow_0 ++ dktX4_dueNow_1
theorem dksX4_dueNow_0 : cX4_dueNow.data.toList.drop 0 = dktX4_dueNow_0 := by decide +kernel
theorem dksX4_dueNow_1 : cX4_dueNow.data.toList.drop 24 = dktX4_dueNow_1 := dk_seg dksX4_dueNow_0 24 rfl rfl
theorem dksX4_dueNow_2 : cX4_dueNow.data.toList.drop 48 = dktX4_dueNow_2 := dk_seg dksX4_dueNow_1 24 rfl rfl
theorem dksX4_dueNow_3 : cX4_dueNow.data.toList.drop 70 = dktX4_dueNow_3 := dk_seg dksX4_dueNow_2 22 rfl rfl
theorem dX4_dueNow_0 : decode cX4_dueNow 0 = .ok (.aload_n 0, 1) := dk_42 (dk_at dksX4_dueNow_0 0 rfl rfl)
theorem dX4_dueNow_1 : decode cX4_dueNow 1 = .ok (.iload_n 1, 1) := dk_27 (dk_at dksX4_dueNow_0 1 rfl rfl)
theorem dX4_dueNow_2 : decode cX4_dueNow 2 = .ok (.invokevirtual 156, 3) := dk_182 0 156 (dk_at dksX4_dueNow_0 2 rfl rfl)
theorem dX4_dueNow_5 : decode cX4_dueNow 5 = .ok (.ifCond .eq 35, 3) := dk_153 0 35 (dk_at dksX4_dueNow_0 5 rfl rfl)
theorem dX4_dueNow_8 : decode cX4_dueNow 8 = .ok (.aload_n 0, 1) := dk_42 (dk_at dksX4_dueNow_0 8 rfl rfl)
theorem dX4_dueNow_9 : decode cX4_dueNow 9 = .ok (.iload_n 1, 1) := dk_27 (dk_at dksX4_dueNow_0 9 rfl rfl)
theorem dX4_dueNow_10 : decode cX4_dueNow 10 = .ok (.aload_n 0, 1) := dk_42 (dk_at dksX4_dueNow_0 10 rfl rfl)
theorem dX4_dueNow_11 : decode cX4_dueNow 11 = .ok (.getfield 36, 3) := dk_180 0 36 (dk_at dksX4_dueNow_0 11 rfl rfl)
theorem dX4_dueNow_14 : decode cX4_dueNow 14 = .ok (.invokevirtual 164, 3) := dk_182 0 164 (dk_at dksX4_dueNow_0 14 rfl rfl)
theorem dX4_dueNow_17 : decode cX4_dueNow 17 = .ok (.aload_n 0, 1) := dk_42 (dk_at dksX4_dueNow_0 17 rfl rfl)
theorem dX4_dueNow_18 : decode cX4_dueNow 18 = .ok (.getfield 39, 3) := dk_180 0 39 (dk_at dksX4_dueNow_0 18 rfl rfl)
theorem dX4_dueNow_21 : decode cX4_dueNow 21 = .ok (.invokestatic 162, 3) := dk_184 0 162 (dk_at dksX4_dueNow_0 21 rfl rfl)
theorem dX4_dueNow_24 : decode cX4_dueNow 24 = .ok (.iconst 1, 1) := dk_4 (dk_at dksX4_dueNow_1 0 rfl rfl)
theorem dX4_dueNow_25 : decode cX4_dueNow 25 = .ok (.if_icmp .le 12, 3) := dk_164 0 12 (dk_at dksX4_dueNow_1 1 rfl rfl)
theorem dX4_dueNow_28 : decode cX4_dueNow 28 = .ok (.aload_n 0, 1) := dk_42 (dk_at dksX4_dueNow_1 4 rfl rfl)
theorem dX4_dueNow_29 : decode cX4_dueNow 29 = .ok (.iload_n 1, 1) := dk_27 (dk_at dksX4_dueNow_1 5 rfl rfl)
theorem dX4_dueNow_30 : decode cX4_dueNow 30 = .ok (.iconst 2, 1) := dk_5 (dk_at dksX4_dueNow_1 6 rfl rfl)
theorem dX4_dueNow_31 : decode cX4_dueNow 31 = .ok (.invokevirtual 164, 3) := dk_182 0 164 (dk_at dksX4_dueNow_1 7 rfl rfl)
theorem dX4_dueNow_34 : decode cX4_dueNow 34 = .ok (.goto 4, 3) := dk_167 0 4 (dk_at dksX4_dueNow_1 10 rfl rfl)
theorem dX4_dueNow_37 : decode cX4_dueNow 37 = .ok (.iconst 0, 1) := dk_3 (dk_at dksX4_dueNow_1 13 rfl rfl)
theorem dX4_dueNow_38 : decode cX4_dueNow 38 = .ok (.ior, 1) := dk_128 (dk_at dksX4_dueNow_1 14 rfl rfl)
theorem dX4_dueNow_39 : decode cX4_dueNow 39 = .ok (.ireturn, 1) := dk_172 (dk_at dksX4_dueNow_1 15 rfl rfl)
theorem dX4_dueNow_40 : decode cX4_dueNow 40 = .ok (.aload_n 0, 1) := dk_42 (dk_at dksX4_dueNow_1 16 rfl rfl)
theorem dX4_dueNow_41 : decode cX4_dueNow 41 = .ok (.iload_n 1, 1) := dk_27 (dk_at dksX4_dueNow_1 17 rfl rfl)
theorem dX4_dueNow_42 : decode cX4_dueNow 42 = .ok (.invokevirtual 159, 3) := dk_182 0 159 (dk_at dksX4_dueNow_1 18 rfl rfl)
theorem dX4_dueNow_45 : decode cX4_dueNow 45 = .ok (.ifCond .ne 5, 3) := dk_154 0 5 (dk_at dksX4_dueNow_1 21 rfl rfl)
theorem dX4_dueNow_48 : decode cX4_dueNow 48 = .ok (.iconst 0, 1) := dk_3 (dk_at dksX4_dueNow_2 0 rfl rfl)
theorem dX4_dueNow_49 : decode cX4_dueNow 49 = .ok (.ireturn, 1) := dk_172 (dk_at dksX4_dueNow_2 1 rfl rfl)
theorem dX4_dueNow_50 : decode cX4_dueNow 50 = .ok (.aload_n 0, 1) := dk_42 (dk_at dksX4_dueNow_2 2 rfl rfl)
theorem dX4_dueNow_51 : decode cX4_dueNow 51 = .ok (.iload_n 1, 1) := dk_27 (dk_at dksX4_dueNow_2 3 rfl rfl)
theorem dX4_dueNow_52 : decode cX4_dueNow 52 = .ok (.iconst 3, 1) := dk_6 (dk_at dksX4_dueNow_2 4 rfl rfl)
theorem dX4_dueNow_53 : decode cX4_dueNow 53 = .ok (.invokevirtual 164, 3) := dk_182 0 164 (dk_at dksX4_dueNow_2 5 rfl rfl)
theorem dX4_dueNow_56 : decode cX4_dueNow 56 = .ok (.aload_n 0, 1) := dk_42 (dk_at dksX4_dueNow_2 8 rfl rfl)
theorem dX4_dueNow_57 : decode cX4_dueNow 57 = .ok (.getfield 13, 3) := dk_180 0 13 (dk_at dksX4_dueNow_2 9 rfl rfl)
theorem dX4_dueNow_60 : decode cX4_dueNow 60 = .ok (.bipush 20, 2) := dk_16 20 (dk_at dksX4_dueNow_2 12 rfl rfl)
theorem dX4_dueNow_62 : decode cX4_dueNow 62 = .ok (.aload_n 0, 1) := dk_42 (dk_at dksX4_dueNow_2 14 rfl rfl)
theorem dX4_dueNow_63 : decode cX4_dueNow 63 = .ok (.iload_n 1, 1) := dk_27 (dk_at dksX4_dueNow_2 15 rfl rfl)
theorem dX4_dueNow_64 : decode cX4_dueNow 64 = .ok (.invokevirtual 153, 3) := dk_182 0 153 (dk_at dksX4_dueNow_2 16 rfl rfl)
theorem dX4_dueNow_67 : decode cX4_dueNow 67 = .ok (.iadd, 1) := dk_96 (dk_at dksX4_dueNow_2 19 rfl rfl)
theorem dX4_dueNow_68 : decode cX4_dueNow 68 = .ok (.iaload, 1) := dk_46 (dk_at dksX4_dueNow_2 20 rfl rfl)
theorem dX4_dueNow_69 : decode cX4_dueNow 69 = .ok (.iconst 2, 1) := dk_5 (dk_at dksX4_dueNow_2 21 rfl rfl)
theorem dX4_dueNow_70 : decode cX4_dueNow 70 = .ok (.if_icmp .ne 15, 3) := dk_160 0 15 (dk_at dksX4_dueNow_3 0 rfl rfl)
theorem dX4_dueNow_73 : decode cX4_dueNow 73 = .ok (.aload_n 0, 1) := dk_42 (dk_at dksX4_dueNow_3 3 rfl rfl)
theorem dX4_dueNow_74 : decode cX4_dueNow 74 = .ok (.iload_n 1, 1) := dk_27 (dk_at dksX4_dueNow_3 4 rfl rfl)
theorem dX4_dueNow_75 : decode cX4_dueNow 75 = .ok (.aload_n 0, 1) := dk_42 (dk_at dksX4_dueNow_3 5 rfl rfl)
theorem dX4_dueNow_76 : decode cX4_dueNow 76 = .ok (.getfield 36, 3) := dk_180 0 36 (dk_at dksX4_dueNow_3 6 rfl rfl)
theorem dX4_dueNow_79 : decode cX4_dueNow 79 = .ok (.invokevirtual 164, 3) := dk_182 0 164 (dk_at dksX4_dueNow_3 9 rfl rfl)
theorem dX4_dueNow_82 : decode cX4_dueNow 82 = .ok (.goto 4, 3) := dk_167 0 4 (dk_at dksX4_dueNow_3 12 rfl rfl)
theorem dX4_dueNow_85 : decode cX4_dueNow 85 = .ok (.iconst 0, 1) := dk_3 (dk_at dksX4_dueNow_3 15 rfl rfl)
theorem dX4_dueNow_86 : decode cX4_dueNow 86 = .ok (.ior, 1) := dk_128 (dk_at dksX4_dueNow_3 16 rfl rfl)
theorem dX4_dueNow_87 : decode cX4_dueNow 87 = .ok (.ireturn, 1) := dk_172 (dk_at dksX4_dueNow_3 17 rfl rfl)
abbrev cX4_demands : ByteArray := prog_17_method_30_code
def yX4_demands : MethodName := ⟨RX4, "demands", "(II)I"⟩
def dkwX4_demands_0 : List UInt8 := [42, 180, 0, 13, 16, 28, 8, 42, 27, 182, 0, 153, 104, 96, 28, 96, 46, 172]
abbrev dktX4_demands_0 : List UInt8 := dkwX4_demands_0 ++ []
theorem dksX4_demands_0 : cX4_demands.data.toList.drop 0 = dktX4_demands_0 := by decide +kernel
theorem dX4_demands_0 : decode cX4_demands 0 = .ok (.aload_n 0, 1) := dk_42 (dk_at dksX4_demands_0 0 rfl rfl)
theorem dX4_demands_1 : decode cX4_demands 1 = .ok (.getfield 13, 3) := dk_180 0 13 (dk_at dksX4_demands_0 1 rfl rfl)
theorem dX4_demands_4 : decode cX4_demands 4 = .ok (.bipush 28, 2) := dk_16 28 (dk_at dksX4_demands_0 4 rfl rfl)
theorem dX4_demands_6 : decode cX4_demands 6 = .ok (.iconst 5, 1) := dk_8 (dk_at dksX4_demands_0 6 rfl rfl)
theorem dX4_demands_7 : decode cX4_demands 7 = .ok (.aload_n 0, 1) := dk_42 (dk_at dksX4_demands_0 7 rfl rfl)
theorem dX4_demands_8 : decode cX4_demands 8 = .ok (.iload_n 1, 1) := dk_27 (dk_at dksX4_demands_0 8 rfl rfl)
theorem dX4_demands_9 : decode cX4_demands 9 = .ok (.invokevirtual 153, 3) := dk_182 0 153 (dk_at dksX4_demands_0 9 rfl rfl)
theorem dX4_demands_12 : decode cX4_demands 12 = .ok (.imul, 1) := dk_104 (dk_at dksX4_demands_0 12 rfl rfl)
theorem dX4_demands_13 : decode cX4_demands 13 = .ok (.iadd, 1) := dk_96 (dk_at dksX4_demands_0 13 rfl rfl)
theorem dX4_demands_14 : decode cX4_demands 14 = .ok (.iload_n 2, 1) := dk_28 (dk_at dksX4_demands_0 14 rfl rfl)
theorem dX4_demands_15 : decode cX4_demands 15 = .ok (.iadd, 1) := dk_96 (dk_at dksX4_demands_0 15 rfl rfl)
theorem dX4_demands_16 : decode cX4_demands 16 = .ok (.iaload, 1) := dk_46 (dk_at dksX4_demands_0 16 rfl rfl)
theorem dX4_demands_17 : decode cX4_demands 17 = .ok (.ireturn, 1) := dk_172 (dk_at dksX4_demands_0 17 rfl rfl)
abbrev cX4_isBound : ByteArray := prog_17_method_33_code
def yX4_isBound : MethodName := ⟨RX4, "isBound", "(II)Z"⟩
def dkwX4_isBound_1 : List UInt8 := [42, 27, 182, 0, 156, 153, 0, 15, 42, 28, 182, 0, 156, 153, 0, 7, 4, 167, 0, 4, 3, 172]
abbrev dktX4_isBound_1 : List UInt8 := dkwX4_isBound_1 ++ []
def dkwX4_isBound_0 : List UInt8 := [42, 180, 0, 13, 16, 20, 42, 27, 182, 0, 153, 96, 46, 62, 29, 5, 159, 0, 24, 29, 4, 160, 0, 23]
abbrev dktX4_isBound_0 : List UInt8 := dkwX4_isBound_0 ++ dktX4_isBound_1
theorem dksX4_isBound_0 : cX4_isBound.data.toList.drop 0 = dktX4_isBound_0 := by decide +kernel
theorem dksX4_isBound_1 : cX4_isBound.data.toList.drop 24 = dktX4_isBound_1 := dk_seg dksX4_isBound_0 24 rfl rfl
theorem dX4_isBound_0 : decode cX4_isBound 0 = .ok (.aload_n 0, 1) := dk_42 (dk_at dksX4_isBound_0 0 rfl rfl)
theorem dX4_isBound_1 : decode cX4_isBound 1 = .ok (.getfield 13, 3) := dk_180 0 13 (dk_at dksX4_isBound_0 1 rfl rfl)
theorem dX4_isBound_4 : decode cX4_isBound 4 = .ok (.bipush 20, 2) := dk_16 20 (dk_at dksX4_isBound_0 4 rfl rfl)
theorem dX4_isBound_6 : decode cX4_isBound 6 = .ok (.aload_n 0, 1) := dk_42 (dk_at dksX4_isBound_0 6 rfl rfl)
theorem dX4_isBound_7 : decode cX4_isBound 7 = .ok (.iload_n 1, 1) := dk_27 (dk_at dksX4_isBound_0 7 rfl rfl)
theorem dX4_isBound_8 : decode cX4_isBound 8 = .ok (.invokevirtual 153, 3) := dk_182 0 153 (dk_at dksX4_isBound_0 8 rfl rfl)
theorem dX4_isBound_11 : decode cX4_isBound 11 = .ok (.iadd, 1) := dk_96 (dk_at dksX4_isBound_0 11 rfl rfl)
theorem dX4_isBound_12 : decode cX4_isBound 12 = .ok (.iaload, 1) := dk_46 (dk_at dksX4_isBound_0 12 rfl rfl)
theorem dX4_isBound_13 : decode cX4_isBound 13 = .ok (.istore_n 3, 1) := dk_62 (dk_at dksX4_isBound_0 13 rfl rfl)
theorem dX4_isBound_14 : decode cX4_isBound 14 = .ok (.iload_n 3, 1) := dk_29 (dk_at dksX4_isBound_0 14 rfl rfl)
theorem dX4_isBound_15 : decode cX4_isBound 15 = .ok (.iconst 2, 1) := dk_5 (dk_at dksX4_isBound_0 15 rfl rfl)
theorem dX4_isBound_16 : decode cX4_isBound 16 = .ok (.if_icmp .eq 24, 3) := dk_159 0 24 (dk_at dksX4_isBound_0 16 rfl rfl)
theorem dX4_isBound_19 : decode cX4_isBound 19 = .ok (.iload_n 3, 1) := dk_29 (dk_at dksX4_isBound_0 19 rfl rfl)
theorem dX4_isBound_20 : decode cX4_isBound 20 = .ok (.iconst 1, 1) := dk_4 (dk_at dksX4_isBound_0 20 rfl rfl)
theorem dX4_isBound_21 : decode cX4_isBound 21 = .ok (.if_icmp .ne 23, 3) := dk_160 0 23 (dk_at dksX4_isBound_0 21 rfl rfl)
theorem dX4_isBound_24 : decode cX4_isBound 24 = .ok (.aload_n 0, 1) := dk_42 (dk_at dksX4_isBound_1 0 rfl rfl)
theorem dX4_isBound_25 : decode cX4_isBound 25 = .ok (.iload_n 1, 1) := dk_27 (dk_at dksX4_isBound_1 1 rfl rfl)
theorem dX4_isBound_26 : decode cX4_isBound 26 = .ok (.invokevirtual 156, 3) := dk_182 0 156 (dk_at dksX4_isBound_1 2 rfl rfl)
theorem dX4_isBound_29 : decode cX4_isBound 29 = .ok (.ifCond .eq 15, 3) := dk_153 0 15 (dk_at dksX4_isBound_1 5 rfl rfl)
theorem dX4_isBound_32 : decode cX4_isBound 32 = .ok (.aload_n 0, 1) := dk_42 (dk_at dksX4_isBound_1 8 rfl rfl)
theorem dX4_isBound_33 : decode cX4_isBound 33 = .ok (.iload_n 2, 1) := dk_28 (dk_at dksX4_isBound_1 9 rfl rfl)
theorem dX4_isBound_34 : decode cX4_isBound 34 = .ok (.invokevirtual 156, 3) := dk_182 0 156 (dk_at dksX4_isBound_1 10 rfl rfl)
theorem dX4_isBound_37 : decode cX4_isBound 37 = .ok (.ifCond .eq 7, 3) := dk_153 0 7 (dk_at dksX4_isBound_1 13 rfl rfl)
theorem dX4_isBound_40 : decode cX4_isBound 40 = .ok (.iconst 1, 1) := dk_4 (dk_at dksX4_isBound_1 16 rfl rfl)
theorem dX4_isBound_41 : decode cX4_isBound 41 = .ok (.goto 4, 3) := dk_167 0 4 (dk_at dksX4_isBound_1 17 rfl rfl)
theorem dX4_isBound_44 : decode cX4_isBound 44 = .ok (.iconst 0, 1) := dk_3 (dk_at dksX4_isBound_1 20 rfl rfl)
theorem dX4_isBound_45 : decode cX4_isBound 45 = .ok (.ireturn, 1) := dk_172 (dk_at dksX4_isBound_1 21 rfl rfl)
abbrev cX4_clash : ByteArray := prog_17_method_38_code
def yX4_clash : MethodName := ⟨RX4, "clash", "(IIII)I"⟩
def dkwX4_clash_3 : List UInt8 := [180, 0, 51, 21, 4, 46, 167, 0, 8, 42, 6, 182, 0, 120, 172]
abbrev dktX4_clash_3 : List UInt8 := dkwX4_clash_3 ++ []
def dkwX4_clash_2 : List UInt8 := [182, 0, 188, 42, 29, 182, 0, 192, 54, 5, 29, 3, 21, 5, 4, 100, 184, 0, 113, 153, 0, 13, 42]
abbrev dktX4_clash_2 : List UInt8 := dkwX4_clash_2 ++ dktX4_clash_3
def dkwX4_clash_1 : List UInt8 := [153, 0, 13, 21, 4, 3, 6, 184, 0, 113, 154, 0, 9, 42, 5, 182, 0, 120, 172, 42, 27, 28, 3]
abbrev dktX4_clash_1 : List UInt8 := dkwX4_clash_1 ++ dktX4_clash_2
def dkwX4_clash_0 : List UInt8 := [42, 3, 181, 0, 9, 42, 27, 182, 0, 140, 154, 0, 9, 42, 4, 182, 0, 120, 172, 28, 184, 0, 185]
abbrev dktX4_clash_0 : List UInt8 := dkwX4_clash_0 ++ dktX4_clash_1
theorem dksX4_clash_0 : cX4_clash.data.toList.drop 0 = dktX4_clash_0 := by decide +kernel
theorem dksX4_clash_1 : cX4_clash.data.toList.drop 23 = dktX4_clash_1 := dk_seg dksX4_clash_0 23 rfl rfl
theorem dksX4_clash_2 : cX4_clash.data.toList.drop 46 = dktX4_clash_2 := dk_seg dksX4_clash_1 23 rfl rfl
theorem dksX4_clash_3 : cX4_clash.data.toList.drop 69 = dktX4_clash_3 := dk_seg dksX4_clash_2 23 rfl rfl
theorem dX4_clash_0 : decode cX4_clash 0 = .ok (.aload_n 0, 1) := dk_42 (dk_at dksX4_clash_0 0 rfl rfl)
theorem dX4_clash_1 : decode cX4_clash 1 = .ok (.iconst 0, 1) := dk_3 (dk_at dksX4_clash_0 1 rfl rfl)
theorem dX4_clash_2 : decode cX4_clash 2 = .ok (.putfield 9, 3) := dk_181 0 9 (dk_at dksX4_clash_0 2 rfl rfl)
theorem dX4_clash_5 : decode cX4_clash 5 = .ok (.aload_n 0, 1) := dk_42 (dk_at dksX4_clash_0 5 rfl rfl)
theorem dX4_clash_6 : decode cX4_clash 6 = .ok (.iload_n 1, 1) := dk_27 (dk_at dksX4_clash_0 6 rfl rfl)
theorem dX4_clash_7 : decode cX4_clash 7 = .ok (.invokevirtual 140, 3) := dk_182 0 140 (dk_at dksX4_clash_0 7 rfl rfl)
theorem dX4_clash_10 : decode cX4_clash 10 = .ok (.ifCond .ne 9, 3) := dk_154 0 9 (dk_at dksX4_clash_0 10 rfl rfl)
theorem dX4_clash_13 : decode cX4_clash 13 = .ok (.aload_n 0, 1) := dk_42 (dk_at dksX4_clash_0 13 rfl rfl)
theorem dX4_clash_14 : decode cX4_clash 14 = .ok (.iconst 1, 1) := dk_4 (dk_at dksX4_clash_0 14 rfl rfl)
theorem dX4_clash_15 : decode cX4_clash 15 = .ok (.invokevirtual 120, 3) := dk_182 0 120 (dk_at dksX4_clash_0 15 rfl rfl)
theorem dX4_clash_18 : decode cX4_clash 18 = .ok (.ireturn, 1) := dk_172 (dk_at dksX4_clash_0 18 rfl rfl)
theorem dX4_clash_19 : decode cX4_clash 19 = .ok (.iload_n 2, 1) := dk_28 (dk_at dksX4_clash_0 19 rfl rfl)
theorem dX4_clash_20 : decode cX4_clash 20 = .ok (.invokestatic 185, 3) := dk_184 0 185 (dk_at dksX4_clash_0 20 rfl rfl)
theorem dX4_clash_23 : decode cX4_clash 23 = .ok (.ifCond .eq 13, 3) := dk_153 0 13 (dk_at dksX4_clash_1 0 rfl rfl)
theorem dX4_clash_26 : decode cX4_clash 26 = .ok (.iload 4, 2) := dk_21 4 (dk_at dksX4_clash_1 3 rfl rfl)
theorem dX4_clash_28 : decode cX4_clash 28 = .ok (.iconst 0, 1) := dk_3 (dk_at dksX4_clash_1 5 rfl rfl)
theorem dX4_clash_29 : decode cX4_clash 29 = .ok (.iconst 3, 1) := dk_6 (dk_at dksX4_clash_1 6 rfl rfl)
theorem dX4_clash_30 : decode cX4_clash 30 = .ok (.invokestatic 113, 3) := dk_184 0 113 (dk_at dksX4_clash_1 7 rfl rfl)
theorem dX4_clash_33 : decode cX4_clash 33 = .ok (.ifCond .ne 9, 3) := dk_154 0 9 (dk_at dksX4_clash_1 10 rfl rfl)
theorem dX4_clash_36 : decode cX4_clash 36 = .ok (.aload_n 0, 1) := dk_42 (dk_at dksX4_clash_1 13 rfl rfl)
theorem dX4_clash_37 : decode cX4_clash 37 = .ok (.iconst 2, 1) := dk_5 (dk_at dksX4_clash_1 14 rfl rfl)
theorem dX4_clash_38 : decode cX4_clash 38 = .ok (.invokevirtual 120, 3) := dk_182 0 120 (dk_at dksX4_clash_1 15 rfl rfl)
theorem dX4_clash_41 : decode cX4_clash 41 = .ok (.ireturn, 1) := dk_172 (dk_at dksX4_clash_1 18 rfl rfl)
theorem dX4_clash_42 : decode cX4_clash 42 = .ok (.aload_n 0, 1) := dk_42 (dk_at dksX4_clash_1 19 rfl rfl)
theorem dX4_clash_43 : decode cX4_clash 43 = .ok (.iload_n 1, 1) := dk_27 (dk_at dksX4_clash_1 20 rfl rfl)
theorem dX4_clash_44 : decode cX4_clash 44 = .ok (.iload_n 2, 1) := dk_28 (dk_at dksX4_clash_1 21 rfl rfl)
theorem dX4_clash_45 : decode cX4_clash 45 = .ok (.iconst 0, 1) := dk_3 (dk_at dksX4_clash_1 22 rfl rfl)
theorem dX4_clash_46 : decode cX4_clash 46 = .ok (.invokevirtual 188, 3) := dk_182 0 188 (dk_at dksX4_clash_2 0 rfl rfl)
theorem dX4_clash_49 : decode cX4_clash 49 = .ok (.aload_n 0, 1) := dk_42 (dk_at dksX4_clash_2 3 rfl rfl)
theorem dX4_clash_50 : decode cX4_clash 50 = .ok (.iload_n 3, 1) := dk_29 (dk_at dksX4_clash_2 4 rfl rfl)
theorem dX4_clash_51 : decode cX4_clash 51 = .ok (.invokevirtual 192, 3) := dk_182 0 192 (dk_at dksX4_clash_2 5 rfl rfl)
theorem dX4_clash_54 : decode cX4_clash 54 = .ok (.istore 5, 2) := dk_54 5 (dk_at dksX4_clash_2 8 rfl rfl)
theorem dX4_clash_56 : decode cX4_clash 56 = .ok (.iload_n 3, 1) := dk_29 (dk_at dksX4_clash_2 10 rfl rfl)
theorem dX4_clash_57 : decode cX4_clash 57 = .ok (.iconst 0, 1) := dk_3 (dk_at dksX4_clash_2 11 rfl rfl)
theorem dX4_clash_58 : decode cX4_clash 58 = .ok (.iload 5, 2) := dk_21 5 (dk_at dksX4_clash_2 12 rfl rfl)
theorem dX4_clash_60 : decode cX4_clash 60 = .ok (.iconst 1, 1) := dk_4 (dk_at dksX4_clash_2 14 rfl rfl)
theorem dX4_clash_61 : decode cX4_clash 61 = .ok (.isub, 1) := dk_100 (dk_at dksX4_clash_2 15 rfl rfl)
theorem dX4_clash_62 : decode cX4_clash 62 = .ok (.invokestatic 113, 3) := dk_184 0 113 (dk_at dksX4_clash_2 16 rfl rfl)
theorem dX4_clash_65 : decode cX4_clash 65 = .ok (.ifCond .eq 13, 3) := dk_153 0 13 (dk_at dksX4_clash_2 19 rfl rfl)
theorem dX4_clash_68 : decode cX4_clash 68 = .ok (.aload_n 0, 1) := dk_42 (dk_at dksX4_clash_2 22 rfl rfl)
theorem dX4_clash_69 : decode cX4_clash 69 = .ok (.getfield 51, 3) := dk_180 0 51 (dk_at dksX4_clash_3 0 rfl rfl)
theorem dX4_clash_72 : decode cX4_clash 72 = .ok (.iload 4, 2) := dk_21 4 (dk_at dksX4_clash_3 3 rfl rfl)
theorem dX4_clash_74 : decode cX4_clash 74 = .ok (.iaload, 1) := dk_46 (dk_at dksX4_clash_3 5 rfl rfl)
theorem dX4_clash_75 : decode cX4_clash 75 = .ok (.goto 8, 3) := dk_167 0 8 (dk_at dksX4_clash_3 6 rfl rfl)
theorem dX4_clash_78 : decode cX4_clash 78 = .ok (.aload_n 0, 1) := dk_42 (dk_at dksX4_clash_3 9 rfl rfl)
theorem dX4_clash_79 : decode cX4_clash 79 = .ok (.iconst 3, 1) := dk_6 (dk_at dksX4_clash_3 10 rfl rfl)
theorem dX4_clash_80 : decode cX4_clash 80 = .ok (.invokevirtual 120, 3) := dk_182 0 120 (dk_at dksX4_clash_3 11 rfl rfl)
theorem dX4_clash_83 : decode cX4_clash 83 = .ok (.ireturn, 1) := dk_172 (dk_at dksX4_clash_3 14 rfl rfl)
abbrev cX4_due : ByteArray := prog_17_method_40_code
def yX4_due : MethodName := ⟨RX4, "due", "(III)I"⟩
def dkwX4_due_3 : List UInt8 := [29, 182, 0, 159, 153, 0, 11, 42, 29, 182, 0, 168, 167, 0, 8, 42, 6, 182, 0, 120, 172]
abbrev dktX4_due_3 : List UInt8 := dkwX4_due_3 ++ []
def dkwX4_due_2 : List UInt8 := [28, 3, 182, 0, 188, 29, 2, 160, 0, 8, 42, 182, 0, 195, 172, 42, 29, 182, 0, 156, 154, 0, 11, 42]
abbrev dktX4_due_2 : List UInt8 := dkwX4_due_2 ++ dktX4_due_3
def dkwX4_due_1 : List UInt8 := [154, 0, 9, 42, 4, 182, 0, 120, 172, 28, 184, 0, 185, 154, 0, 9, 42, 5, 182, 0, 120, 172, 42, 27]
abbrev dktX4_due_1 : List UInt8 := dkwX4_due_1 ++ dktX4_due_2
def dkwX4_due_0 : List UInt8 := [42, 3, 181, 0, 9, 42, 27, 182, 0, 140, 153, 0, 16, 29, 2, 159, 0, 17, 42, 29, 182, 0, 131]
abbrev dktX4_due_0 : List UInt8 := dkwX4_due_0 ++ dktX4_due_1
theorem dksX4_due_0 : cX4_due.data.toList.drop 0 = dktX4_due_0 := by decide +kernel
theorem dksX4_due_1 : cX4_due.data.toList.drop 23 = dktX4_due_1 := dk_seg dksX4_due_0 23 rfl rfl
theorem dksX4_due_2 : cX4_due.data.toList.drop 47 = dktX4_due_2 := dk_seg dksX4_due_1 24 rfl rfl
theorem dksX4_due_3 : cX4_due.data.toList.drop 71 = dktX4_due_3 := dk_seg dksX4_due_2 24 rfl rfl
theorem dX4_due_0 : decode cX4_due 0 = .ok (.aload_n 0, 1) := dk_42 (dk_at dksX4_due_0 0 rfl rfl)
theorem dX4_due_1 : decode cX4_due 1 = .ok (.iconst 0, 1) := dk_3 (dk_at dksX4_due_0 1 rfl rfl)
theorem dX4_due_2 : decode cX4_due 2 = .ok (.putfield 9, 3) := dk_181 0 9 (dk_at dksX4_due_0 2 rfl rfl)
theorem dX4_due_5 : decode cX4_due 5 = .ok (.aload_n 0, 1) := dk_42 (dk_at dksX4_due_0 5 rfl rfl)
theorem dX4_due_6 : decode cX4_due 6 = .ok (.iload_n 1, 1) := dk_27 (dk_at dksX4_due_0 6 rfl rfl)
theorem dX4_due_7 : decode cX4_due 7 = .ok (.invokevirtual 140, 3) := dk_182 0 140 (dk_at dksX4_due_0 7 rfl rfl)
theorem dX4_due_10 : decode cX4_due 10 = .ok (.ifCond .eq 16, 3) := dk_153 0 16 (dk_at dksX4_due_0 10 rfl rfl)
theorem dX4_due_13 : decode cX4_due 13 = .ok (.iload_n 3, 1) := dk_29 (dk_at dksX4_due_0 13 rfl rfl)
theorem dX4_due_14 : decode cX4_due 14 = .ok (.iconst (-1), 1) := dk_2 (dk_at dksX4_due_0 14 rfl rfl)
theorem dX4_due_15 : decode cX4_due 15 = .ok (.if_icmp .eq 17, 3) := dk_159 0 17 (dk_at dksX4_due_0 15 rfl rfl)
theorem dX4_due_18 : decode cX4_due 18 = .ok (.aload_n 0, 1) := dk_42 (dk_at dksX4_due_0 18 rfl rfl)
theorem dX4_due_19 : decode cX4_due 19 = .ok (.iload_n 3, 1) := dk_29 (dk_at dksX4_due_0 19 rfl rfl)
theorem dX4_due_20 : decode cX4_due 20 = .ok (.invokevirtual 131, 3) := dk_182 0 131 (dk_at dksX4_due_0 20 rfl rfl)
theorem dX4_due_23 : decode cX4_due 23 = .ok (.ifCond .ne 9, 3) := dk_154 0 9 (dk_at dksX4_due_1 0 rfl rfl)
theorem dX4_due_26 : decode cX4_due 26 = .ok (.aload_n 0, 1) := dk_42 (dk_at dksX4_due_1 3 rfl rfl)
theorem dX4_due_27 : decode cX4_due 27 = .ok (.iconst 1, 1) := dk_4 (dk_at dksX4_due_1 4 rfl rfl)
theorem dX4_due_28 : decode cX4_due 28 = .ok (.invokevirtual 120, 3) := dk_182 0 120 (dk_at dksX4_due_1 5 rfl rfl)
theorem dX4_due_31 : decode cX4_due 31 = .ok (.ireturn, 1) := dk_172 (dk_at dksX4_due_1 8 rfl rfl)
theorem dX4_due_32 : decode cX4_due 32 = .ok (.iload_n 2, 1) := dk_28 (dk_at dksX4_due_1 9 rfl rfl)
theorem dX4_due_33 : decode cX4_due 33 = .ok (.invokestatic 185, 3) := dk_184 0 185 (dk_at dksX4_due_1 10 rfl rfl)
theorem dX4_due_36 : decode cX4_due 36 = .ok (.ifCond .ne 9, 3) := dk_154 0 9 (dk_at dksX4_due_1 13 rfl rfl)
theorem dX4_due_39 : decode cX4_due 39 = .ok (.aload_n 0, 1) := dk_42 (dk_at dksX4_due_1 16 rfl rfl)
theorem dX4_due_40 : decode cX4_due 40 = .ok (.iconst 2, 1) := dk_5 (dk_at dksX4_due_1 17 rfl rfl)
theorem dX4_due_41 : decode cX4_due 41 = .ok (.invokevirtual 120, 3) := dk_182 0 120 (dk_at dksX4_due_1 18 rfl rfl)
theorem dX4_due_44 : decode cX4_due 44 = .ok (.ireturn, 1) := dk_172 (dk_at dksX4_due_1 21 rfl rfl)
theorem dX4_due_45 : decode cX4_due 45 = .ok (.aload_n 0, 1) := dk_42 (dk_at dksX4_due_1 22 rfl rfl)
theorem dX4_due_46 : decode cX4_due 46 = .ok (.iload_n 1, 1) := dk_27 (dk_at dksX4_due_1 23 rfl rfl)
theorem dX4_due_47 : decode cX4_due 47 = .ok (.iload_n 2, 1) := dk_28 (dk_at dksX4_due_2 0 rfl rfl)
theorem dX4_due_48 : decode cX4_due 48 = .ok (.iconst 0, 1) := dk_3 (dk_at dksX4_due_2 1 rfl rfl)
theorem dX4_due_49 : decode cX4_due 49 = .ok (.invokevirtual 188, 3) := dk_182 0 188 (dk_at dksX4_due_2 2 rfl rfl)
theorem dX4_due_52 : decode cX4_due 52 = .ok (.iload_n 3, 1) := dk_29 (dk_at dksX4_due_2 5 rfl rfl)
theorem dX4_due_53 : decode cX4_due 53 = .ok (.iconst (-1), 1) := dk_2 (dk_at dksX4_due_2 6 rfl rfl)
theorem dX4_due_54 : decode cX4_due 54 = .ok (.if_icmp .ne 8, 3) := dk_160 0 8 (dk_at dksX4_due_2 7 rfl rfl)
theorem dX4_due_57 : decode cX4_due 57 = .ok (.aload_n 0, 1) := dk_42 (dk_at dksX4_due_2 10 rfl rfl)
theorem dX4_due_58 : decode cX4_due 58 = .ok (.invokevirtual 195, 3) := dk_182 0 195 (dk_at dksX4_due_2 11 rfl rfl)
theorem dX4_due_61 : decode cX4_due 61 = .ok (.ireturn, 1) := dk_172 (dk_at dksX4_due_2 14 rfl rfl)
theorem dX4_due_62 : decode cX4_due 62 = .ok (.aload_n 0, 1) := dk_42 (dk_at dksX4_due_2 15 rfl rfl)
theorem dX4_due_63 : decode cX4_due 63 = .ok (.iload_n 3, 1) := dk_29 (dk_at dksX4_due_2 16 rfl rfl)
theorem dX4_due_64 : decode cX4_due 64 = .ok (.invokevirtual 156, 3) := dk_182 0 156 (dk_at dksX4_due_2 17 rfl rfl)
theorem dX4_due_67 : decode cX4_due 67 = .ok (.ifCond .ne 11, 3) := dk_154 0 11 (dk_at dksX4_due_2 20 rfl rfl)
theorem dX4_due_70 : decode cX4_due 70 = .ok (.aload_n 0, 1) := dk_42 (dk_at dksX4_due_2 23 rfl rfl)
theorem dX4_due_71 : decode cX4_due 71 = .ok (.iload_n 3, 1) := dk_29 (dk_at dksX4_due_3 0 rfl rfl)
theorem dX4_due_72 : decode cX4_due 72 = .ok (.invokevirtual 159, 3) := dk_182 0 159 (dk_at dksX4_due_3 1 rfl rfl)
theorem dX4_due_75 : decode cX4_due 75 = .ok (.ifCond .eq 11, 3) := dk_153 0 11 (dk_at dksX4_due_3 4 rfl rfl)
theorem dX4_due_78 : decode cX4_due 78 = .ok (.aload_n 0, 1) := dk_42 (dk_at dksX4_due_3 7 rfl rfl)
theorem dX4_due_79 : decode cX4_due 79 = .ok (.iload_n 3, 1) := dk_29 (dk_at dksX4_due_3 8 rfl rfl)
theorem dX4_due_80 : decode cX4_due 80 = .ok (.invokevirtual 168, 3) := dk_182 0 168 (dk_at dksX4_due_3 9 rfl rfl)
theorem dX4_due_83 : decode cX4_due 83 = .ok (.goto 8, 3) := dk_167 0 8 (dk_at dksX4_due_3 12 rfl rfl)
theorem dX4_due_86 : decode cX4_due 86 = .ok (.aload_n 0, 1) := dk_42 (dk_at dksX4_due_3 15 rfl rfl)
theorem dX4_due_87 : decode cX4_due 87 = .ok (.iconst 3, 1) := dk_6 (dk_at dksX4_due_3 16 rfl rfl)
theorem dX4_due_88 : decode cX4_due 88 = .ok (.invokevirtual 120, 3) := dk_182 0 120 (dk_at dksX4_due_3 17 rfl rfl)
theorem dX4_due_91 : decode cX4_due 91 = .ok (.ireturn, 1) := dk_172 (dk_at dksX4_due_3 20 rfl rfl)
abbrev cX4_dueOfAll : ByteArray := prog_17_method_39_code
def yX4_dueOfAll : MethodName := ⟨RX4, "dueOfAll", "()I"⟩
def dkwX4_dueOfAll_1 : List UInt8 := [132, 2, 1, 167, 255, 235, 27, 172]
abbrev dktX4_dueOfAll_1 : List UInt8 := dkwX4_dueOfAll_1 ++ []
def dkwX4_dueOfAll_0 : List UInt8 := [3, 60, 3, 61, 28, 42, 180, 0, 13, 4, 46, 162, 0, 17, 27, 42, 28, 182, 0, 168, 128, 60]
abbrev dktX4_dueOfAll_0 : List UInt8 := dkwX4_dueOfAll_0 ++ dktX4_dueOfAll_1
theorem dksX4_dueOfAll_0 : cX4_dueOfAll.data.toList.drop 0 = dktX4_dueOfAll_0 := by decide +kernel
theorem dksX4_dueOfAll_1 : cX4_dueOfAll.data.toList.drop 22 = dktX4_dueOfAll_1 := dk_seg dksX4_dueOfAll_0 22 rfl rfl
theorem dX4_dueOfAll_0 : decode cX4_dueOfAll 0 = .ok (.iconst 0, 1) := dk_3 (dk_at dksX4_dueOfAll_0 0 rfl rfl)
theorem dX4_dueOfAll_1 : decode cX4_dueOfAll 1 = .ok (.istore_n 1, 1) := dk_60 (dk_at dksX4_dueOfAll_0 1 rfl rfl)
theorem dX4_dueOfAll_2 : decode cX4_dueOfAll 2 = .ok (.iconst 0, 1) := dk_3 (dk_at dksX4_dueOfAll_0 2 rfl rfl)
theorem dX4_dueOfAll_3 : decode cX4_dueOfAll 3 = .ok (.istore_n 2, 1) := dk_61 (dk_at dksX4_dueOfAll_0 3 rfl rfl)
theorem dX4_dueOfAll_4 : decode cX4_dueOfAll 4 = .ok (.iload_n 2, 1) := dk_28 (dk_at dksX4_dueOfAll_0 4 rfl rfl)
theorem dX4_dueOfAll_5 : decode cX4_dueOfAll 5 = .ok (.aload_n 0, 1) := dk_42 (dk_at dksX4_dueOfAll_0 5 rfl rfl)
theorem dX4_dueOfAll_6 : decode cX4_dueOfAll 6 = .ok (.getfield 13, 3) := dk_180 0 13 (dk_at dksX4_dueOfAll_0 6 rfl rfl)
theorem dX4_dueOfAll_9 : decode cX4_dueOfAll 9 = .ok (.iconst 1, 1) := dk_4 (dk_at dksX4_dueOfAll_0 9 rfl rfl)
theorem dX4_dueOfAll_10 : decode cX4_dueOfAll 10 = .ok (.iaload, 1) := dk_46 (dk_at dksX4_dueOfAll_0 10 rfl rfl)
theorem dX4_dueOfAll_11 : decode cX4_dueOfAll 11 = .ok (.if_icmp .ge 17, 3) := dk_162 0 17 (dk_at dksX4_dueOfAll_0 11 rfl rfl)
theorem dX4_dueOfAll_14 : decode cX4_dueOfAll 14 = .ok (.iload_n 1, 1) := dk_27 (dk_at dksX4_dueOfAll_0 14 rfl rfl)
theorem dX4_dueOfAll_15 : decode cX4_dueOfAll 15 = .ok (.aload_n 0, 1) := dk_42 (dk_at dksX4_dueOfAll_0 15 rfl rfl)
theorem dX4_dueOfAll_16 : decode cX4_dueOfAll 16 = .ok (.iload_n 2, 1) := dk_28 (dk_at dksX4_dueOfAll_0 16 rfl rfl)
theorem dX4_dueOfAll_17 : decode cX4_dueOfAll 17 = .ok (.invokevirtual 168, 3) := dk_182 0 168 (dk_at dksX4_dueOfAll_0 17 rfl rfl)
theorem dX4_dueOfAll_20 : decode cX4_dueOfAll 20 = .ok (.ior, 1) := dk_128 (dk_at dksX4_dueOfAll_0 20 rfl rfl)
theorem dX4_dueOfAll_21 : decode cX4_dueOfAll 21 = .ok (.istore_n 1, 1) := dk_60 (dk_at dksX4_dueOfAll_0 21 rfl rfl)
theorem dX4_dueOfAll_22 : decode cX4_dueOfAll 22 = .ok (.iinc 2 1, 3) := dk_132 2 1 (dk_at dksX4_dueOfAll_1 0 rfl rfl)
theorem dX4_dueOfAll_25 : decode cX4_dueOfAll 25 = .ok (.goto (-21), 3) := dk_167 255 235 (dk_at dksX4_dueOfAll_1 3 rfl rfl)
theorem dX4_dueOfAll_28 : decode cX4_dueOfAll 28 = .ok (.iload_n 1, 1) := dk_27 (dk_at dksX4_dueOfAll_1 6 rfl rfl)
theorem dX4_dueOfAll_29 : decode cX4_dueOfAll 29 = .ok (.ireturn, 1) := dk_172 (dk_at dksX4_dueOfAll_1 7 rfl rfl)
abbrev cX4_least : ByteArray := prog_17_method_42_code
def yX4_least : MethodName := ⟨RX4, "least", "(II)I"⟩
def dkwX4_least_1 : List UInt8 := [153, 0, 12, 42, 27, 28, 182, 0, 199, 167, 0, 8, 42, 5, 182, 0, 120, 172]
abbrev dktX4_least_1 : List UInt8 := dkwX4_least_1 ++ []
def dkwX4_least_0 : List UInt8 := [42, 3, 181, 0, 9, 42, 27, 182, 0, 140, 154, 0, 9, 42, 4, 182, 0, 120, 172, 28, 184, 0, 185]
abbrev dktX4_least_0 : List UInt8 := dkwX4_least_0 ++ dktX4_least_1
theorem dksX4_least_0 : cX4_least.data.toList.drop 0 = dktX4_least_0 := by decide +kernel
theorem dksX4_least_1 : cX4_least.data.toList.drop 23 = dktX4_least_1 := dk_seg dksX4_least_0 23 rfl rfl
theorem dX4_least_0 : decode cX4_least 0 = .ok (.aload_n 0, 1) := dk_42 (dk_at dksX4_least_0 0 rfl rfl)
theorem dX4_least_1 : decode cX4_least 1 = .ok (.iconst 0, 1) := dk_3 (dk_at dksX4_least_0 1 rfl rfl)
theorem dX4_least_2 : decode cX4_least 2 = .ok (.putfield 9, 3) := dk_181 0 9 (dk_at dksX4_least_0 2 rfl rfl)
theorem dX4_least_5 : decode cX4_least 5 = .ok (.aload_n 0, 1) := dk_42 (dk_at dksX4_least_0 5 rfl rfl)
theorem dX4_least_6 : decode cX4_least 6 = .ok (.iload_n 1, 1) := dk_27 (dk_at dksX4_least_0 6 rfl rfl)
theorem dX4_least_7 : decode cX4_least 7 = .ok (.invokevirtual 140, 3) := dk_182 0 140 (dk_at dksX4_least_0 7 rfl rfl)
theorem dX4_least_10 : decode cX4_least 10 = .ok (.ifCond .ne 9, 3) := dk_154 0 9 (dk_at dksX4_least_0 10 rfl rfl)
theorem dX4_least_13 : decode cX4_least 13 = .ok (.aload_n 0, 1) := dk_42 (dk_at dksX4_least_0 13 rfl rfl)
theorem dX4_least_14 : decode cX4_least 14 = .ok (.iconst 1, 1) := dk_4 (dk_at dksX4_least_0 14 rfl rfl)
theorem dX4_least_15 : decode cX4_least 15 = .ok (.invokevirtual 120, 3) := dk_182 0 120 (dk_at dksX4_least_0 15 rfl rfl)
theorem dX4_least_18 : decode cX4_least 18 = .ok (.ireturn, 1) := dk_172 (dk_at dksX4_least_0 18 rfl rfl)
theorem dX4_least_19 : decode cX4_least 19 = .ok (.iload_n 2, 1) := dk_28 (dk_at dksX4_least_0 19 rfl rfl)
theorem dX4_least_20 : decode cX4_least 20 = .ok (.invokestatic 185, 3) := dk_184 0 185 (dk_at dksX4_least_0 20 rfl rfl)
theorem dX4_least_23 : decode cX4_least 23 = .ok (.ifCond .eq 12, 3) := dk_153 0 12 (dk_at dksX4_least_1 0 rfl rfl)
theorem dX4_least_26 : decode cX4_least 26 = .ok (.aload_n 0, 1) := dk_42 (dk_at dksX4_least_1 3 rfl rfl)
theorem dX4_least_27 : decode cX4_least 27 = .ok (.iload_n 1, 1) := dk_27 (dk_at dksX4_least_1 4 rfl rfl)
theorem dX4_least_28 : decode cX4_least 28 = .ok (.iload_n 2, 1) := dk_28 (dk_at dksX4_least_1 5 rfl rfl)
theorem dX4_least_29 : decode cX4_least 29 = .ok (.invokevirtual 199, 3) := dk_182 0 199 (dk_at dksX4_least_1 6 rfl rfl)
theorem dX4_least_32 : decode cX4_least 32 = .ok (.goto 8, 3) := dk_167 0 8 (dk_at dksX4_least_1 9 rfl rfl)
theorem dX4_least_35 : decode cX4_least 35 = .ok (.aload_n 0, 1) := dk_42 (dk_at dksX4_least_1 12 rfl rfl)
theorem dX4_least_36 : decode cX4_least 36 = .ok (.iconst 2, 1) := dk_5 (dk_at dksX4_least_1 13 rfl rfl)
theorem dX4_least_37 : decode cX4_least 37 = .ok (.invokevirtual 120, 3) := dk_182 0 120 (dk_at dksX4_least_1 14 rfl rfl)
theorem dX4_least_40 : decode cX4_least 40 = .ok (.ireturn, 1) := dk_172 (dk_at dksX4_least_1 17 rfl rfl)
abbrev cX4_leastOf : ByteArray := prog_17_method_41_code
def yX4_leastOf : MethodName := ⟨RX4, "leastOf", "(II)I"⟩
def dkwX4_leastOf_3 : List UInt8 := [132, 5, 1, 167, 255, 206, 132, 4, 1, 167, 255, 188, 29, 172]
abbrev dktX4_leastOf_3 : List UInt8 := dkwX4_leastOf_3 ++ []
def dkwX4_leastOf_2 : List UInt8 := [167, 0, 22, 42, 27, 28, 21, 5, 182, 0, 188, 42, 2, 182, 0, 192, 154, 0, 6, 21, 5, 172]
abbrev dktX4_leastOf_2 : List UInt8 := dkwX4_leastOf_2 ++ dktX4_leastOf_3
def dkwX4_leastOf_1 : List UInt8 := [163, 0, 50, 21, 5, 29, 2, 130, 126, 154, 0, 35, 21, 5, 184, 0, 162, 21, 4, 159, 0, 6]
abbrev dktX4_leastOf_1 : List UInt8 := dkwX4_leastOf_1 ++ dktX4_leastOf_2
def dkwX4_leastOf_0 : List UInt8 := [42, 27, 182, 0, 150, 62, 3, 54, 4, 21, 4, 29, 184, 0, 162, 163, 0, 65, 3, 54, 5, 21, 5, 29]
abbrev dktX4_leastOf_0 : List UInt8 := dkwX4_leastOf_0 ++ dktX4_leastOf_1
theorem dksX4_leastOf_0 : cX4_leastOf.data.toList.drop 0 = dktX4_leastOf_0 := by decide +kernel
theorem dksX4_leastOf_1 : cX4_leastOf.data.toList.drop 24 = dktX4_leastOf_1 := dk_seg dksX4_leastOf_0 24 rfl rfl
theorem dksX4_leastOf_2 : cX4_leastOf.data.toList.drop 46 = dktX4_leastOf_2 := dk_seg dksX4_leastOf_1 22 rfl rfl
theorem dksX4_leastOf_3 : cX4_leastOf.data.toList.drop 68 = dktX4_leastOf_3 := dk_seg dksX4_leastOf_2 22 rfl rfl
theorem dX4_leastOf_0 : decode cX4_leastOf 0 = .ok (.aload_n 0, 1) := dk_42 (dk_at dksX4_leastOf_0 0 rfl rfl)
theorem dX4_leastOf_1 : decode cX4_leastOf 1 = .ok (.iload_n 1, 1) := dk_27 (dk_at dksX4_leastOf_0 1 rfl rfl)
theorem dX4_leastOf_2 : decode cX4_leastOf 2 = .ok (.invokevirtual 150, 3) := dk_182 0 150 (dk_at dksX4_leastOf_0 2 rfl rfl)
theorem dX4_leastOf_5 : decode cX4_leastOf 5 = .ok (.istore_n 3, 1) := dk_62 (dk_at dksX4_leastOf_0 5 rfl rfl)
theorem dX4_leastOf_6 : decode cX4_leastOf 6 = .ok (.iconst 0, 1) := dk_3 (dk_at dksX4_leastOf_0 6 rfl rfl)
theorem dX4_leastOf_7 : decode cX4_leastOf 7 = .ok (.istore 4, 2) := dk_54 4 (dk_at dksX4_leastOf_0 7 rfl rfl)
theorem dX4_leastOf_9 : decode cX4_leastOf 9 = .ok (.iload 4, 2) := dk_21 4 (dk_at dksX4_leastOf_0 9 rfl rfl)
theorem dX4_leastOf_11 : decode cX4_leastOf 11 = .ok (.iload_n 3, 1) := dk_29 (dk_at dksX4_leastOf_0 11 rfl rfl)
theorem dX4_leastOf_12 : decode cX4_leastOf 12 = .ok (.invokestatic 162, 3) := dk_184 0 162 (dk_at dksX4_leastOf_0 12 rfl rfl)
theorem dX4_leastOf_15 : decode cX4_leastOf 15 = .ok (.if_icmp .gt 65, 3) := dk_163 0 65 (dk_at dksX4_leastOf_0 15 rfl rfl)
theorem dX4_leastOf_18 : decode cX4_leastOf 18 = .ok (.iconst 0, 1) := dk_3 (dk_at dksX4_leastOf_0 18 rfl rfl)
theorem dX4_leastOf_19 : decode cX4_leastOf 19 = .ok (.istore 5, 2) := dk_54 5 (dk_at dksX4_leastOf_0 19 rfl rfl)
theorem dX4_leastOf_21 : decode cX4_leastOf 21 = .ok (.iload 5, 2) := dk_21 5 (dk_at dksX4_leastOf_0 21 rfl rfl)
theorem dX4_leastOf_23 : decode cX4_leastOf 23 = .ok (.iload_n 3, 1) := dk_29 (dk_at dksX4_leastOf_0 23 rfl rfl)
theorem dX4_leastOf_24 : decode cX4_leastOf 24 = .ok (.if_icmp .gt 50, 3) := dk_163 0 50 (dk_at dksX4_leastOf_1 0 rfl rfl)
theorem dX4_leastOf_27 : decode cX4_leastOf 27 = .ok (.iload 5, 2) := dk_21 5 (dk_at dksX4_leastOf_1 3 rfl rfl)
theorem dX4_leastOf_29 : decode cX4_leastOf 29 = .ok (.iload_n 3, 1) := dk_29 (dk_at dksX4_leastOf_1 5 rfl rfl)
theorem dX4_leastOf_30 : decode cX4_leastOf 30 = .ok (.iconst (-1), 1) := dk_2 (dk_at dksX4_leastOf_1 6 rfl rfl)
theorem dX4_leastOf_31 : decode cX4_leastOf 31 = .ok (.ixor, 1) := dk_130 (dk_at dksX4_leastOf_1 7 rfl rfl)
theorem dX4_leastOf_32 : decode cX4_leastOf 32 = .ok (.iand, 1) := dk_126 (dk_at dksX4_leastOf_1 8 rfl rfl)
theorem dX4_leastOf_33 : decode cX4_leastOf 33 = .ok (.ifCond .ne 35, 3) := dk_154 0 35 (dk_at dksX4_leastOf_1 9 rfl rfl)
theorem dX4_leastOf_36 : decode cX4_leastOf 36 = .ok (.iload 5, 2) := dk_21 5 (dk_at dksX4_leastOf_1 12 rfl rfl)
theorem dX4_leastOf_38 : decode cX4_leastOf 38 = .ok (.invokestatic 162, 3) := dk_184 0 162 (dk_at dksX4_leastOf_1 14 rfl rfl)
theorem dX4_leastOf_41 : decode cX4_leastOf 41 = .ok (.iload 4, 2) := dk_21 4 (dk_at dksX4_leastOf_1 17 rfl rfl)
theorem dX4_leastOf_43 : decode cX4_leastOf 43 = .ok (.if_icmp .eq 6, 3) := dk_159 0 6 (dk_at dksX4_leastOf_1 19 rfl rfl)
theorem dX4_leastOf_46 : decode cX4_leastOf 46 = .ok (.goto 22, 3) := dk_167 0 22 (dk_at dksX4_leastOf_2 0 rfl rfl)
theorem dX4_leastOf_49 : decode cX4_leastOf 49 = .ok (.aload_n 0, 1) := dk_42 (dk_at dksX4_leastOf_2 3 rfl rfl)
theorem dX4_leastOf_50 : decode cX4_leastOf 50 = .ok (.iload_n 1, 1) := dk_27 (dk_at dksX4_leastOf_2 4 rfl rfl)
theorem dX4_leastOf_51 : decode cX4_leastOf 51 = .ok (.iload_n 2, 1) := dk_28 (dk_at dksX4_leastOf_2 5 rfl rfl)
theorem dX4_leastOf_52 : decode cX4_leastOf 52 = .ok (.iload 5, 2) := dk_21 5 (dk_at dksX4_leastOf_2 6 rfl rfl)
theorem dX4_leastOf_54 : decode cX4_leastOf 54 = .ok (.invokevirtual 188, 3) := dk_182 0 188 (dk_at dksX4_leastOf_2 8 rfl rfl)
theorem dX4_leastOf_57 : decode cX4_leastOf 57 = .ok (.aload_n 0, 1) := dk_42 (dk_at dksX4_leastOf_2 11 rfl rfl)
theorem dX4_leastOf_58 : decode cX4_leastOf 58 = .ok (.iconst (-1), 1) := dk_2 (dk_at dksX4_leastOf_2 12 rfl rfl)
theorem dX4_leastOf_59 : decode cX4_leastOf 59 = .ok (.invokevirtual 192, 3) := dk_182 0 192 (dk_at dksX4_leastOf_2 13 rfl rfl)
theorem dX4_leastOf_62 : decode cX4_leastOf 62 = .ok (.ifCond .ne 6, 3) := dk_154 0 6 (dk_at dksX4_leastOf_2 16 rfl rfl)
theorem dX4_leastOf_65 : decode cX4_leastOf 65 = .ok (.iload 5, 2) := dk_21 5 (dk_at dksX4_leastOf_2 19 rfl rfl)
theorem dX4_leastOf_67 : decode cX4_leastOf 67 = .ok (.ireturn, 1) := dk_172 (dk_at dksX4_leastOf_2 21 rfl rfl)
theorem dX4_leastOf_68 : decode cX4_leastOf 68 = .ok (.iinc 5 1, 3) := dk_132 5 1 (dk_at dksX4_leastOf_3 0 rfl rfl)
theorem dX4_leastOf_71 : decode cX4_leastOf 71 = .ok (.goto (-50), 3) := dk_167 255 206 (dk_at dksX4_leastOf_3 3 rfl rfl)
theorem dX4_leastOf_74 : decode cX4_leastOf 74 = .ok (.iinc 4 1, 3) := dk_132 4 1 (dk_at dksX4_leastOf_3 6 rfl rfl)
theorem dX4_leastOf_77 : decode cX4_leastOf 77 = .ok (.goto (-68), 3) := dk_167 255 188 (dk_at dksX4_leastOf_3 9 rfl rfl)
theorem dX4_leastOf_80 : decode cX4_leastOf 80 = .ok (.iload_n 3, 1) := dk_29 (dk_at dksX4_leastOf_3 12 rfl rfl)
theorem dX4_leastOf_81 : decode cX4_leastOf 81 = .ok (.ireturn, 1) := dk_172 (dk_at dksX4_leastOf_3 13 rfl rfl)
abbrev cX4_remove : ByteArray := prog_17_method_43_code
def yX4_remove : MethodName := ⟨RX4, "remove", "(II)I"⟩
def dkwX4_remove_4 : List UInt8 := [182, 0, 124, 29, 184, 0, 162, 172]
abbrev dktX4_remove_4 : List UInt8 := dkwX4_remove_4 ++ []
def dkwX4_remove_3 : List UInt8 := [180, 0, 13, 16, 108, 21, 5, 96, 92, 46, 29, 2, 130, 126, 79, 132, 5, 1, 167, 255, 220, 42]
abbrev dktX4_remove_3 : List UInt8 := dkwX4_remove_3 ++ dktX4_remove_4
def dkwX4_remove_2 : List UInt8 := [128, 54, 4, 3, 54, 5, 21, 5, 27, 163, 0, 36, 21, 4, 21, 5, 122, 4, 126, 4, 160, 0, 19, 42]
abbrev dktX4_remove_2 : List UInt8 := dkwX4_remove_2 ++ dktX4_remove_3
def dkwX4_remove_1 : List UInt8 := [154, 0, 9, 42, 5, 182, 0, 120, 172, 42, 27, 28, 182, 0, 199, 62, 42, 27, 182, 0, 147, 4, 27, 120]
abbrev dktX4_remove_1 : List UInt8 := dkwX4_remove_1 ++ dktX4_remove_2
def dkwX4_remove_0 : List UInt8 := [42, 182, 0, 117, 42, 27, 182, 0, 140, 154, 0, 9, 42, 4, 182, 0, 120, 172, 28, 184, 0, 185]
abbrev dktX4_remove_0 : List UInt8 := dkwX4_remove_0 ++ dktX4_remove_1
theorem dksX4_remove_0 : cX4_remove.data.toList.drop 0 = dktX4_remove_0 := by decide +kernel
theorem dksX4_remove_1 : cX4_remove.data.toList.drop 22 = dktX4_remove_1 := dk_seg dksX4_remove_0 22 rfl rfl
theorem dksX4_remove_2 : cX4_remove.data.toList.drop 46 = dktX4_remove_2 := dk_seg dksX4_remove_1 24 rfl rfl
theorem dksX4_remove_3 : cX4_remove.data.toList.drop 70 = dktX4_remove_3 := dk_seg dksX4_remove_2 24 rfl rfl
theorem dksX4_remove_4 : cX4_remove.data.toList.drop 92 = dktX4_remove_4 := dk_seg dksX4_remove_3 22 rfl rfl
theorem dX4_remove_0 : decode cX4_remove 0 = .ok (.aload_n 0, 1) := dk_42 (dk_at dksX4_remove_0 0 rfl rfl)
theorem dX4_remove_1 : decode cX4_remove 1 = .ok (.invokevirtual 117, 3) := dk_182 0 117 (dk_at dksX4_remove_0 1 rfl rfl)
theorem dX4_remove_4 : decode cX4_remove 4 = .ok (.aload_n 0, 1) := dk_42 (dk_at dksX4_remove_0 4 rfl rfl)
theorem dX4_remove_5 : decode cX4_remove 5 = .ok (.iload_n 1, 1) := dk_27 (dk_at dksX4_remove_0 5 rfl rfl)
theorem dX4_remove_6 : decode cX4_remove 6 = .ok (.invokevirtual 140, 3) := dk_182 0 140 (dk_at dksX4_remove_0 6 rfl rfl)
theorem dX4_remove_9 : decode cX4_remove 9 = .ok (.ifCond .ne 9, 3) := dk_154 0 9 (dk_at dksX4_remove_0 9 rfl rfl)
theorem dX4_remove_12 : decode cX4_remove 12 = .ok (.aload_n 0, 1) := dk_42 (dk_at dksX4_remove_0 12 rfl rfl)
theorem dX4_remove_13 : decode cX4_remove 13 = .ok (.iconst 1, 1) := dk_4 (dk_at dksX4_remove_0 13 rfl rfl)
theorem dX4_remove_14 : decode cX4_remove 14 = .ok (.invokevirtual 120, 3) := dk_182 0 120 (dk_at dksX4_remove_0 14 rfl rfl)
theorem dX4_remove_17 : decode cX4_remove 17 = .ok (.ireturn, 1) := dk_172 (dk_at dksX4_remove_0 17 rfl rfl)
theorem dX4_remove_18 : decode cX4_remove 18 = .ok (.iload_n 2, 1) := dk_28 (dk_at dksX4_remove_0 18 rfl rfl)
theorem dX4_remove_19 : decode cX4_remove 19 = .ok (.invokestatic 185, 3) := dk_184 0 185 (dk_at dksX4_remove_0 19 rfl rfl)
theorem dX4_remove_22 : decode cX4_remove 22 = .ok (.ifCond .ne 9, 3) := dk_154 0 9 (dk_at dksX4_remove_1 0 rfl rfl)
theorem dX4_remove_25 : decode cX4_remove 25 = .ok (.aload_n 0, 1) := dk_42 (dk_at dksX4_remove_1 3 rfl rfl)
theorem dX4_remove_26 : decode cX4_remove 26 = .ok (.iconst 2, 1) := dk_5 (dk_at dksX4_remove_1 4 rfl rfl)
theorem dX4_remove_27 : decode cX4_remove 27 = .ok (.invokevirtual 120, 3) := dk_182 0 120 (dk_at dksX4_remove_1 5 rfl rfl)
theorem dX4_remove_30 : decode cX4_remove 30 = .ok (.ireturn, 1) := dk_172 (dk_at dksX4_remove_1 8 rfl rfl)
theorem dX4_remove_31 : decode cX4_remove 31 = .ok (.aload_n 0, 1) := dk_42 (dk_at dksX4_remove_1 9 rfl rfl)
theorem dX4_remove_32 : decode cX4_remove 32 = .ok (.iload_n 1, 1) := dk_27 (dk_at dksX4_remove_1 10 rfl rfl)
theorem dX4_remove_33 : decode cX4_remove 33 = .ok (.iload_n 2, 1) := dk_28 (dk_at dksX4_remove_1 11 rfl rfl)
theorem dX4_remove_34 : decode cX4_remove 34 = .ok (.invokevirtual 199, 3) := dk_182 0 199 (dk_at dksX4_remove_1 12 rfl rfl)
theorem dX4_remove_37 : decode cX4_remove 37 = .ok (.istore_n 3, 1) := dk_62 (dk_at dksX4_remove_1 15 rfl rfl)
theorem dX4_remove_38 : decode cX4_remove 38 = .ok (.aload_n 0, 1) := dk_42 (dk_at dksX4_remove_1 16 rfl rfl)
theorem dX4_remove_39 : decode cX4_remove 39 = .ok (.iload_n 1, 1) := dk_27 (dk_at dksX4_remove_1 17 rfl rfl)
theorem dX4_remove_40 : decode cX4_remove 40 = .ok (.invokevirtual 147, 3) := dk_182 0 147 (dk_at dksX4_remove_1 18 rfl rfl)
theorem dX4_remove_43 : decode cX4_remove 43 = .ok (.iconst 1, 1) := dk_4 (dk_at dksX4_remove_1 21 rfl rfl)
theorem dX4_remove_44 : decode cX4_remove 44 = .ok (.iload_n 1, 1) := dk_27 (dk_at dksX4_remove_1 22 rfl rfl)
theorem dX4_remove_45 : decode cX4_remove 45 = .ok (.ishl, 1) := dk_120 (dk_at dksX4_remove_1 23 rfl rfl)
theorem dX4_remove_46 : decode cX4_remove 46 = .ok (.ior, 1) := dk_128 (dk_at dksX4_remove_2 0 rfl rfl)
theorem dX4_remove_47 : decode cX4_remove 47 = .ok (.istore 4, 2) := dk_54 4 (dk_at dksX4_remove_2 1 rfl rfl)
theorem dX4_remove_49 : decode cX4_remove 49 = .ok (.iconst 0, 1) := dk_3 (dk_at dksX4_remove_2 3 rfl rfl)
theorem dX4_remove_50 : decode cX4_remove 50 = .ok (.istore 5, 2) := dk_54 5 (dk_at dksX4_remove_2 4 rfl rfl)
theorem dX4_remove_52 : decode cX4_remove 52 = .ok (.iload 5, 2) := dk_21 5 (dk_at dksX4_remove_2 6 rfl rfl)
theorem dX4_remove_54 : decode cX4_remove 54 = .ok (.iload_n 1, 1) := dk_27 (dk_at dksX4_remove_2 8 rfl rfl)
theorem dX4_remove_55 : decode cX4_remove 55 = .ok (.if_icmp .gt 36, 3) := dk_163 0 36 (dk_at dksX4_remove_2 9 rfl rfl)
theorem dX4_remove_58 : decode cX4_remove 58 = .ok (.iload 4, 2) := dk_21 4 (dk_at dksX4_remove_2 12 rfl rfl)
theorem dX4_remove_60 : decode cX4_remove 60 = .ok (.iload 5, 2) := dk_21 5 (dk_at dksX4_remove_2 14 rfl rfl)
theorem dX4_remove_62 : decode cX4_remove 62 = .ok (.ishr, 1) := dk_122 (dk_at dksX4_remove_2 16 rfl rfl)
theorem dX4_remove_63 : decode cX4_remove 63 = .ok (.iconst 1, 1) := dk_4 (dk_at dksX4_remove_2 17 rfl rfl)
theorem dX4_remove_64 : decode cX4_remove 64 = .ok (.iand, 1) := dk_126 (dk_at dksX4_remove_2 18 rfl rfl)
theorem dX4_remove_65 : decode cX4_remove 65 = .ok (.iconst 1, 1) := dk_4 (dk_at dksX4_remove_2 19 rfl rfl)
theorem dX4_remove_66 : decode cX4_remove 66 = .ok (.if_icmp .ne 19, 3) := dk_160 0 19 (dk_at dksX4_remove_2 20 rfl rfl)
theorem dX4_remove_69 : decode cX4_remove 69 = .ok (.aload_n 0, 1) := dk_42 (dk_at dksX4_remove_2 23 rfl rfl)
theorem dX4_remove_70 : decode cX4_remove 70 = .ok (.getfield 13, 3) := dk_180 0 13 (dk_at dksX4_remove_3 0 rfl rfl)
theorem dX4_remove_73 : decode cX4_remove 73 = .ok (.bipush 108, 2) := dk_16 108 (dk_at dksX4_remove_3 3 rfl rfl)
theorem dX4_remove_75 : decode cX4_remove 75 = .ok (.iload 5, 2) := dk_21 5 (dk_at dksX4_remove_3 5 rfl rfl)
theorem dX4_remove_77 : decode cX4_remove 77 = .ok (.iadd, 1) := dk_96 (dk_at dksX4_remove_3 7 rfl rfl)
theorem dX4_remove_78 : decode cX4_remove 78 = .ok (.dup2, 1) := dk_92 (dk_at dksX4_remove_3 8 rfl rfl)
theorem dX4_remove_79 : decode cX4_remove 79 = .ok (.iaload, 1) := dk_46 (dk_at dksX4_remove_3 9 rfl rfl)
theorem dX4_remove_80 : decode cX4_remove 80 = .ok (.iload_n 3, 1) := dk_29 (dk_at dksX4_remove_3 10 rfl rfl)
theorem dX4_remove_81 : decode cX4_remove 81 = .ok (.iconst (-1), 1) := dk_2 (dk_at dksX4_remove_3 11 rfl rfl)
theorem dX4_remove_82 : decode cX4_remove 82 = .ok (.ixor, 1) := dk_130 (dk_at dksX4_remove_3 12 rfl rfl)
theorem dX4_remove_83 : decode cX4_remove 83 = .ok (.iand, 1) := dk_126 (dk_at dksX4_remove_3 13 rfl rfl)
theorem dX4_remove_84 : decode cX4_remove 84 = .ok (.iastore, 1) := dk_79 (dk_at dksX4_remove_3 14 rfl rfl)
theorem dX4_remove_85 : decode cX4_remove 85 = .ok (.iinc 5 1, 3) := dk_132 5 1 (dk_at dksX4_remove_3 15 rfl rfl)
theorem dX4_remove_88 : decode cX4_remove 88 = .ok (.goto (-36), 3) := dk_167 255 220 (dk_at dksX4_remove_3 18 rfl rfl)
theorem dX4_remove_91 : decode cX4_remove 91 = .ok (.aload_n 0, 1) := dk_42 (dk_at dksX4_remove_3 21 rfl rfl)
theorem dX4_remove_92 : decode cX4_remove 92 = .ok (.invokevirtual 124, 3) := dk_182 0 124 (dk_at dksX4_remove_4 0 rfl rfl)
theorem dX4_remove_95 : decode cX4_remove 95 = .ok (.iload_n 3, 1) := dk_29 (dk_at dksX4_remove_4 3 rfl rfl)
theorem dX4_remove_96 : decode cX4_remove 96 = .ok (.invokestatic 162, 3) := dk_184 0 162 (dk_at dksX4_remove_4 4 rfl rfl)
theorem dX4_remove_99 : decode cX4_remove 99 = .ok (.ireturn, 1) := dk_172 (dk_at dksX4_remove_4 7 rfl rfl)
abbrev cX4_choice : ByteArray := prog_17_method_46_code
def yX4_choice : MethodName := ⟨RX4, "choice", "(II)I"⟩
def dkwX4_choice_1 : List UInt8 := [153, 0, 12, 42, 27, 28, 182, 0, 205, 167, 0, 8, 42, 5, 182, 0, 120, 172]
abbrev dktX4_choice_1 : List UInt8 := dkwX4_choice_1 ++ []
def dkwX4_choice_0 : List UInt8 := [42, 3, 181, 0, 9, 42, 27, 182, 0, 140, 154, 0, 9, 42, 4, 182, 0, 120, 172, 28, 184, 0, 185]
abbrev dktX4_choice_0 : List UInt8 := dkwX4_choice_0 ++ dktX4_choice_1
theorem dksX4_choice_0 : cX4_choice.data.toList.drop 0 = dktX4_choice_0 := by decide +kernel
theorem dksX4_choice_1 : cX4_choice.data.toList.drop 23 = dktX4_choice_1 := dk_seg dksX4_choice_0 23 rfl rfl
theorem dX4_choice_0 : decode cX4_choice 0 = .ok (.aload_n 0, 1) := dk_42 (dk_at dksX4_choice_0 0 rfl rfl)
theorem dX4_choice_1 : decode cX4_choice 1 = .ok (.iconst 0, 1) := dk_3 (dk_at dksX4_choice_0 1 rfl rfl)
theorem dX4_choice_2 : decode cX4_choice 2 = .ok (.putfield 9, 3) := dk_181 0 9 (dk_at dksX4_choice_0 2 rfl rfl)
theorem dX4_choice_5 : decode cX4_choice 5 = .ok (.aload_n 0, 1) := dk_42 (dk_at dksX4_choice_0 5 rfl rfl)
theorem dX4_choice_6 : decode cX4_choice 6 = .ok (.iload_n 1, 1) := dk_27 (dk_at dksX4_choice_0 6 rfl rfl)
theorem dX4_choice_7 : decode cX4_choice 7 = .ok (.invokevirtual 140, 3) := dk_182 0 140 (dk_at dksX4_choice_0 7 rfl rfl)
theorem dX4_choice_10 : decode cX4_choice 10 = .ok (.ifCond .ne 9, 3) := dk_154 0 9 (dk_at dksX4_choice_0 10 rfl rfl)
theorem dX4_choice_13 : decode cX4_choice 13 = .ok (.aload_n 0, 1) := dk_42 (dk_at dksX4_choice_0 13 rfl rfl)
theorem dX4_choice_14 : decode cX4_choice 14 = .ok (.iconst 1, 1) := dk_4 (dk_at dksX4_choice_0 14 rfl rfl)
theorem dX4_choice_15 : decode cX4_choice 15 = .ok (.invokevirtual 120, 3) := dk_182 0 120 (dk_at dksX4_choice_0 15 rfl rfl)
theorem dX4_choice_18 : decode cX4_choice 18 = .ok (.ireturn, 1) := dk_172 (dk_at dksX4_choice_0 18 rfl rfl)
theorem dX4_choice_19 : decode cX4_choice 19 = .ok (.iload_n 2, 1) := dk_28 (dk_at dksX4_choice_0 19 rfl rfl)
theorem dX4_choice_20 : decode cX4_choice 20 = .ok (.invokestatic 185, 3) := dk_184 0 185 (dk_at dksX4_choice_0 20 rfl rfl)
theorem dX4_choice_23 : decode cX4_choice 23 = .ok (.ifCond .eq 12, 3) := dk_153 0 12 (dk_at dksX4_choice_1 0 rfl rfl)
theorem dX4_choice_26 : decode cX4_choice 26 = .ok (.aload_n 0, 1) := dk_42 (dk_at dksX4_choice_1 3 rfl rfl)
theorem dX4_choice_27 : decode cX4_choice 27 = .ok (.iload_n 1, 1) := dk_27 (dk_at dksX4_choice_1 4 rfl rfl)
theorem dX4_choice_28 : decode cX4_choice 28 = .ok (.iload_n 2, 1) := dk_28 (dk_at dksX4_choice_1 5 rfl rfl)
theorem dX4_choice_29 : decode cX4_choice 29 = .ok (.invokevirtual 205, 3) := dk_182 0 205 (dk_at dksX4_choice_1 6 rfl rfl)
theorem dX4_choice_32 : decode cX4_choice 32 = .ok (.goto 8, 3) := dk_167 0 8 (dk_at dksX4_choice_1 9 rfl rfl)
theorem dX4_choice_35 : decode cX4_choice 35 = .ok (.aload_n 0, 1) := dk_42 (dk_at dksX4_choice_1 12 rfl rfl)
theorem dX4_choice_36 : decode cX4_choice 36 = .ok (.iconst 2, 1) := dk_5 (dk_at dksX4_choice_1 13 rfl rfl)
theorem dX4_choice_37 : decode cX4_choice 37 = .ok (.invokevirtual 120, 3) := dk_182 0 120 (dk_at dksX4_choice_1 14 rfl rfl)
theorem dX4_choice_40 : decode cX4_choice 40 = .ok (.ireturn, 1) := dk_172 (dk_at dksX4_choice_1 17 rfl rfl)
abbrev cX4_choiceOf : ByteArray := prog_17_method_45_code
def yX4_choiceOf : MethodName := ⟨RX4, "choiceOf", "(II)I"⟩
def dkwX4_choiceOf_4 : List UInt8 := [181, 0, 48, 21, 4, 172]
abbrev dktX4_choiceOf_4 : List UInt8 := dkwX4_choiceOf_4 ++ []
def dkwX4_choiceOf_3 : List UInt8 := [21, 5, 161, 0, 6, 167, 0, 11, 21, 7, 54, 5, 21, 6, 54, 4, 132, 6, 1, 167, 255, 187, 42, 3]
abbrev dktX4_choiceOf_3 : List UInt8 := dkwX4_choiceOf_3 ++ dktX4_choiceOf_4
def dkwX4_choiceOf_2 : List UInt8 := [181, 0, 48, 42, 21, 6, 181, 0, 45, 42, 2, 182, 0, 192, 54, 7, 21, 5, 155, 0, 13, 21, 7]
abbrev dktX4_choiceOf_2 : List UInt8 := dkwX4_choiceOf_2 ++ dktX4_choiceOf_3
def dkwX4_choiceOf_1 : List UInt8 := [163, 0, 69, 21, 6, 29, 2, 130, 126, 153, 0, 6, 167, 0, 51, 42, 27, 28, 3, 182, 0, 188, 42, 4]
abbrev dktX4_choiceOf_1 : List UInt8 := dkwX4_choiceOf_1 ++ dktX4_choiceOf_2
def dkwX4_choiceOf_0 : List UInt8 := [42, 42, 27, 182, 0, 150, 182, 0, 202, 62, 3, 54, 4, 2, 54, 5, 3, 54, 6, 21, 6, 29]
abbrev dktX4_choiceOf_0 : List UInt8 := dkwX4_choiceOf_0 ++ dktX4_choiceOf_1
theorem dksX4_choiceOf_0 : cX4_choiceOf.data.toList.drop 0 = dktX4_choiceOf_0 := by decide +kernel
theorem dksX4_choiceOf_1 : cX4_choiceOf.data.toList.drop 22 = dktX4_choiceOf_1 := dk_seg dksX4_choiceOf_0 22 rfl rfl
theorem dksX4_choiceOf_2 : cX4_choiceOf.data.toList.drop 46 = dktX4_choiceOf_2 := dk_seg dksX4_choiceOf_1 24 rfl rfl
theorem dksX4_choiceOf_3 : cX4_choiceOf.data.toList.drop 69 = dktX4_choiceOf_3 := dk_seg dksX4_choiceOf_2 23 rfl rfl
theorem dksX4_choiceOf_4 : cX4_choiceOf.data.toList.drop 93 = dktX4_choiceOf_4 := dk_seg dksX4_choiceOf_3 24 rfl rfl
theorem dX4_choiceOf_0 : decode cX4_choiceOf 0 = .ok (.aload_n 0, 1) := dk_42 (dk_at dksX4_choiceOf_0 0 rfl rfl)
theorem dX4_choiceOf_1 : decode cX4_choiceOf 1 = .ok (.aload_n 0, 1) := dk_42 (dk_at dksX4_choiceOf_0 1 rfl rfl)
theorem dX4_choiceOf_2 : decode cX4_choiceOf 2 = .ok (.iload_n 1, 1) := dk_27 (dk_at dksX4_choiceOf_0 2 rfl rfl)
theorem dX4_choiceOf_3 : decode cX4_choiceOf 3 = .ok (.invokevirtual 150, 3) := dk_182 0 150 (dk_at dksX4_choiceOf_0 3 rfl rfl)
theorem dX4_choiceOf_6 : decode cX4_choiceOf 6 = .ok (.invokevirtual 202, 3) := dk_182 0 202 (dk_at dksX4_choiceOf_0 6 rfl rfl)
theorem dX4_choiceOf_9 : decode cX4_choiceOf 9 = .ok (.istore_n 3, 1) := dk_62 (dk_at dksX4_choiceOf_0 9 rfl rfl)
theorem dX4_choiceOf_10 : decode cX4_choiceOf 10 = .ok (.iconst 0, 1) := dk_3 (dk_at dksX4_choiceOf_0 10 rfl rfl)
theorem dX4_choiceOf_11 : decode cX4_choiceOf 11 = .ok (.istore 4, 2) := dk_54 4 (dk_at dksX4_choiceOf_0 11 rfl rfl)
theorem dX4_choiceOf_13 : decode cX4_choiceOf 13 = .ok (.iconst (-1), 1) := dk_2 (dk_at dksX4_choiceOf_0 13 rfl rfl)
theorem dX4_choiceOf_14 : decode cX4_choiceOf 14 = .ok (.istore 5, 2) := dk_54 5 (dk_at dksX4_choiceOf_0 14 rfl rfl)
theorem dX4_choiceOf_16 : decode cX4_choiceOf 16 = .ok (.iconst 0, 1) := dk_3 (dk_at dksX4_choiceOf_0 16 rfl rfl)
theorem dX4_choiceOf_17 : decode cX4_choiceOf 17 = .ok (.istore 6, 2) := dk_54 6 (dk_at dksX4_choiceOf_0 17 rfl rfl)
theorem dX4_choiceOf_19 : decode cX4_choiceOf 19 = .ok (.iload 6, 2) := dk_21 6 (dk_at dksX4_choiceOf_0 19 rfl rfl)
theorem dX4_choiceOf_21 : decode cX4_choiceOf 21 = .ok (.iload_n 3, 1) := dk_29 (dk_at dksX4_choiceOf_0 21 rfl rfl)
theorem dX4_choiceOf_22 : decode cX4_choiceOf 22 = .ok (.if_icmp .gt 69, 3) := dk_163 0 69 (dk_at dksX4_choiceOf_1 0 rfl rfl)
theorem dX4_choiceOf_25 : decode cX4_choiceOf 25 = .ok (.iload 6, 2) := dk_21 6 (dk_at dksX4_choiceOf_1 3 rfl rfl)
theorem dX4_choiceOf_27 : decode cX4_choiceOf 27 = .ok (.iload_n 3, 1) := dk_29 (dk_at dksX4_choiceOf_1 5 rfl rfl)
theorem dX4_choiceOf_28 : decode cX4_choiceOf 28 = .ok (.iconst (-1), 1) := dk_2 (dk_at dksX4_choiceOf_1 6 rfl rfl)
theorem dX4_choiceOf_29 : decode cX4_choiceOf 29 = .ok (.ixor, 1) := dk_130 (dk_at dksX4_choiceOf_1 7 rfl rfl)
theorem dX4_choiceOf_30 : decode cX4_choiceOf 30 = .ok (.iand, 1) := dk_126 (dk_at dksX4_choiceOf_1 8 rfl rfl)
theorem dX4_choiceOf_31 : decode cX4_choiceOf 31 = .ok (.ifCond .eq 6, 3) := dk_153 0 6 (dk_at dksX4_choiceOf_1 9 rfl rfl)
theorem dX4_choiceOf_34 : decode cX4_choiceOf 34 = .ok (.goto 51, 3) := dk_167 0 51 (dk_at dksX4_choiceOf_1 12 rfl rfl)
theorem dX4_choiceOf_37 : decode cX4_choiceOf 37 = .ok (.aload_n 0, 1) := dk_42 (dk_at dksX4_choiceOf_1 15 rfl rfl)
theorem dX4_choiceOf_38 : decode cX4_choiceOf 38 = .ok (.iload_n 1, 1) := dk_27 (dk_at dksX4_choiceOf_1 16 rfl rfl)
theorem dX4_choiceOf_39 : decode cX4_choiceOf 39 = .ok (.iload_n 2, 1) := dk_28 (dk_at dksX4_choiceOf_1 17 rfl rfl)
theorem dX4_choiceOf_40 : decode cX4_choiceOf 40 = .ok (.iconst 0, 1) := dk_3 (dk_at dksX4_choiceOf_1 18 rfl rfl)
theorem dX4_choiceOf_41 : decode cX4_choiceOf 41 = .ok (.invokevirtual 188, 3) := dk_182 0 188 (dk_at dksX4_choiceOf_1 19 rfl rfl)
theorem dX4_choiceOf_44 : decode cX4_choiceOf 44 = .ok (.aload_n 0, 1) := dk_42 (dk_at dksX4_choiceOf_1 22 rfl rfl)
theorem dX4_choiceOf_45 : decode cX4_choiceOf 45 = .ok (.iconst 1, 1) := dk_4 (dk_at dksX4_choiceOf_1 23 rfl rfl)
theorem dX4_choiceOf_46 : decode cX4_choiceOf 46 = .ok (.putfield 48, 3) := dk_181 0 48 (dk_at dksX4_choiceOf_2 0 rfl rfl)
theorem dX4_choiceOf_49 : decode cX4_choiceOf 49 = .ok (.aload_n 0, 1) := dk_42 (dk_at dksX4_choiceOf_2 3 rfl rfl)
theorem dX4_choiceOf_50 : decode cX4_choiceOf 50 = .ok (.iload 6, 2) := dk_21 6 (dk_at dksX4_choiceOf_2 4 rfl rfl)
theorem dX4_choiceOf_52 : decode cX4_choiceOf 52 = .ok (.putfield 45, 3) := dk_181 0 45 (dk_at dksX4_choiceOf_2 6 rfl rfl)
theorem dX4_choiceOf_55 : decode cX4_choiceOf 55 = .ok (.aload_n 0, 1) := dk_42 (dk_at dksX4_choiceOf_2 9 rfl rfl)
theorem dX4_choiceOf_56 : decode cX4_choiceOf 56 = .ok (.iconst (-1), 1) := dk_2 (dk_at dksX4_choiceOf_2 10 rfl rfl)
theorem dX4_choiceOf_57 : decode cX4_choiceOf 57 = .ok (.invokevirtual 192, 3) := dk_182 0 192 (dk_at dksX4_choiceOf_2 11 rfl rfl)
theorem dX4_choiceOf_60 : decode cX4_choiceOf 60 = .ok (.istore 7, 2) := dk_54 7 (dk_at dksX4_choiceOf_2 14 rfl rfl)
theorem dX4_choiceOf_62 : decode cX4_choiceOf 62 = .ok (.iload 5, 2) := dk_21 5 (dk_at dksX4_choiceOf_2 16 rfl rfl)
theorem dX4_choiceOf_64 : decode cX4_choiceOf 64 = .ok (.ifCond .lt 13, 3) := dk_155 0 13 (dk_at dksX4_choiceOf_2 18 rfl rfl)
theorem dX4_choiceOf_67 : decode cX4_choiceOf 67 = .ok (.iload 7, 2) := dk_21 7 (dk_at dksX4_choiceOf_2 21 rfl rfl)
theorem dX4_choiceOf_69 : decode cX4_choiceOf 69 = .ok (.iload 5, 2) := dk_21 5 (dk_at dksX4_choiceOf_3 0 rfl rfl)
theorem dX4_choiceOf_71 : decode cX4_choiceOf 71 = .ok (.if_icmp .lt 6, 3) := dk_161 0 6 (dk_at dksX4_choiceOf_3 2 rfl rfl)
theorem dX4_choiceOf_74 : decode cX4_choiceOf 74 = .ok (.goto 11, 3) := dk_167 0 11 (dk_at dksX4_choiceOf_3 5 rfl rfl)
theorem dX4_choiceOf_77 : decode cX4_choiceOf 77 = .ok (.iload 7, 2) := dk_21 7 (dk_at dksX4_choiceOf_3 8 rfl rfl)
theorem dX4_choiceOf_79 : decode cX4_choiceOf 79 = .ok (.istore 5, 2) := dk_54 5 (dk_at dksX4_choiceOf_3 10 rfl rfl)
theorem dX4_choiceOf_81 : decode cX4_choiceOf 81 = .ok (.iload 6, 2) := dk_21 6 (dk_at dksX4_choiceOf_3 12 rfl rfl)
theorem dX4_choiceOf_83 : decode cX4_choiceOf 83 = .ok (.istore 4, 2) := dk_54 4 (dk_at dksX4_choiceOf_3 14 rfl rfl)
theorem dX4_choiceOf_85 : decode cX4_choiceOf 85 = .ok (.iinc 6 1, 3) := dk_132 6 1 (dk_at dksX4_choiceOf_3 16 rfl rfl)
theorem dX4_choiceOf_88 : decode cX4_choiceOf 88 = .ok (.goto (-69), 3) := dk_167 255 187 (dk_at dksX4_choiceOf_3 19 rfl rfl)
theorem dX4_choiceOf_91 : decode cX4_choiceOf 91 = .ok (.aload_n 0, 1) := dk_42 (dk_at dksX4_choiceOf_3 22 rfl rfl)
theorem dX4_choiceOf_92 : decode cX4_choiceOf 92 = .ok (.iconst 0, 1) := dk_3 (dk_at dksX4_choiceOf_3 23 rfl rfl)
theorem dX4_choiceOf_93 : decode cX4_choiceOf 93 = .ok (.putfield 48, 3) := dk_181 0 48 (dk_at dksX4_choiceOf_4 0 rfl rfl)
theorem dX4_choiceOf_96 : decode cX4_choiceOf 96 = .ok (.iload 4, 2) := dk_21 4 (dk_at dksX4_choiceOf_4 3 rfl rfl)
theorem dX4_choiceOf_98 : decode cX4_choiceOf 98 = .ok (.ireturn, 1) := dk_172 (dk_at dksX4_choiceOf_4 5 rfl rfl)
abbrev cX4_twos : ByteArray := prog_17_method_44_code
def yX4_twos : MethodName := ⟨RX4, "twos", "(I)I"⟩
def dkwX4_twos_2 : List UInt8 := [172]
abbrev dktX4_twos_2 : List UInt8 := dkwX4_twos_2 ++ []
def dkwX4_twos_1 : List UInt8 := [42, 29, 182, 0, 134, 153, 0, 9, 4, 29, 120, 167, 0, 4, 3, 128, 61, 132, 3, 1, 167, 255, 216, 28]
abbrev dktX4_twos_1 : List UInt8 := dkwX4_twos_1 ++ dktX4_twos_2
def dkwX4_twos_0 : List UInt8 := [3, 61, 3, 62, 29, 42, 180, 0, 13, 4, 46, 162, 0, 36, 28, 27, 29, 122, 4, 126, 4, 160, 0, 17]
abbrev dktX4_twos_0 : List UInt8 := dkwX4_twos_0 ++ dktX4_twos_1
theorem dksX4_twos_0 : cX4_twos.data.toList.drop 0 = dktX4_twos_0 := by decide +kernel
theorem dksX4_twos_1 : cX4_twos.data.toList.drop 24 = dktX4_twos_1 := dk_seg dksX4_twos_0 24 rfl rfl
theorem dksX4_twos_2 : cX4_twos.data.toList.drop 48 = dktX4_twos_2 := dk_seg dksX4_twos_1 24 rfl rfl
theorem dX4_twos_0 : decode cX4_twos 0 = .ok (.iconst 0, 1) := dk_3 (dk_at dksX4_twos_0 0 rfl rfl)
theorem dX4_twos_1 : decode cX4_twos 1 = .ok (.istore_n 2, 1) := dk_61 (dk_at dksX4_twos_0 1 rfl rfl)
theorem dX4_twos_2 : decode cX4_twos 2 = .ok (.iconst 0, 1) := dk_3 (dk_at dksX4_twos_0 2 rfl rfl)
theorem dX4_twos_3 : decode cX4_twos 3 = .ok (.istore_n 3, 1) := dk_62 (dk_at dksX4_twos_0 3 rfl rfl)
theorem dX4_twos_4 : decode cX4_twos 4 = .ok (.iload_n 3, 1) := dk_29 (dk_at dksX4_twos_0 4 rfl rfl)
theorem dX4_twos_5 : decode cX4_twos 5 = .ok (.aload_n 0, 1) := dk_42 (dk_at dksX4_twos_0 5 rfl rfl)
theorem dX4_twos_6 : decode cX4_twos 6 = .ok (.getfield 13, 3) := dk_180 0 13 (dk_at dksX4_twos_0 6 rfl rfl)
theorem dX4_twos_9 : decode cX4_twos 9 = .ok (.iconst 1, 1) := dk_4 (dk_at dksX4_twos_0 9 rfl rfl)
theorem dX4_twos_10 : decode cX4_twos 10 = .ok (.iaload, 1) := dk_46 (dk_at dksX4_twos_0 10 rfl rfl)
theorem dX4_twos_11 : decode cX4_twos 11 = .ok (.if_icmp .ge 36, 3) := dk_162 0 36 (dk_at dksX4_twos_0 11 rfl rfl)
theorem dX4_twos_14 : decode cX4_twos 14 = .ok (.iload_n 2, 1) := dk_28 (dk_at dksX4_twos_0 14 rfl rfl)
theorem dX4_twos_15 : decode cX4_twos 15 = .ok (.iload_n 1, 1) := dk_27 (dk_at dksX4_twos_0 15 rfl rfl)
theorem dX4_twos_16 : decode cX4_twos 16 = .ok (.iload_n 3, 1) := dk_29 (dk_at dksX4_twos_0 16 rfl rfl)
theorem dX4_twos_17 : decode cX4_twos 17 = .ok (.ishr, 1) := dk_122 (dk_at dksX4_twos_0 17 rfl rfl)
theorem dX4_twos_18 : decode cX4_twos 18 = .ok (.iconst 1, 1) := dk_4 (dk_at dksX4_twos_0 18 rfl rfl)
theorem dX4_twos_19 : decode cX4_twos 19 = .ok (.iand, 1) := dk_126 (dk_at dksX4_twos_0 19 rfl rfl)
theorem dX4_twos_20 : decode cX4_twos 20 = .ok (.iconst 1, 1) := dk_4 (dk_at dksX4_twos_0 20 rfl rfl)
theorem dX4_twos_21 : decode cX4_twos 21 = .ok (.if_icmp .ne 17, 3) := dk_160 0 17 (dk_at dksX4_twos_0 21 rfl rfl)
theorem dX4_twos_24 : decode cX4_twos 24 = .ok (.aload_n 0, 1) := dk_42 (dk_at dksX4_twos_1 0 rfl rfl)
theorem dX4_twos_25 : decode cX4_twos 25 = .ok (.iload_n 3, 1) := dk_29 (dk_at dksX4_twos_1 1 rfl rfl)
theorem dX4_twos_26 : decode cX4_twos 26 = .ok (.invokevirtual 134, 3) := dk_182 0 134 (dk_at dksX4_twos_1 2 rfl rfl)
theorem dX4_twos_29 : decode cX4_twos 29 = .ok (.ifCond .eq 9, 3) := dk_153 0 9 (dk_at dksX4_twos_1 5 rfl rfl)
theorem dX4_twos_32 : decode cX4_twos 32 = .ok (.iconst 1, 1) := dk_4 (dk_at dksX4_twos_1 8 rfl rfl)
theorem dX4_twos_33 : decode cX4_twos 33 = .ok (.iload_n 3, 1) := dk_29 (dk_at dksX4_twos_1 9 rfl rfl)
theorem dX4_twos_34 : decode cX4_twos 34 = .ok (.ishl, 1) := dk_120 (dk_at dksX4_twos_1 10 rfl rfl)
theorem dX4_twos_35 : decode cX4_twos 35 = .ok (.goto 4, 3) := dk_167 0 4 (dk_at dksX4_twos_1 11 rfl rfl)
theorem dX4_twos_38 : decode cX4_twos 38 = .ok (.iconst 0, 1) := dk_3 (dk_at dksX4_twos_1 14 rfl rfl)
theorem dX4_twos_39 : decode cX4_twos 39 = .ok (.ior, 1) := dk_128 (dk_at dksX4_twos_1 15 rfl rfl)
theorem dX4_twos_40 : decode cX4_twos 40 = .ok (.istore_n 2, 1) := dk_61 (dk_at dksX4_twos_1 16 rfl rfl)
theorem dX4_twos_41 : decode cX4_twos 41 = .ok (.iinc 3 1, 3) := dk_132 3 1 (dk_at dksX4_twos_1 17 rfl rfl)
theorem dX4_twos_44 : decode cX4_twos 44 = .ok (.goto (-40), 3) := dk_167 255 216 (dk_at dksX4_twos_1 20 rfl rfl)
theorem dX4_twos_47 : decode cX4_twos 47 = .ok (.iload_n 2, 1) := dk_28 (dk_at dksX4_twos_1 23 rfl rfl)
theorem dX4_twos_48 : decode cX4_twos 48 = .ok (.ireturn, 1) := dk_172 (dk_at dksX4_twos_2 0 rfl rfl)
abbrev cX4_choose : ByteArray := prog_17_method_47_code
def yX4_choose : MethodName := ⟨RX4, "choose", "(II)I"⟩
def dkwX4_choose_4 : List UInt8 := [132, 5, 1, 167, 255, 215, 42, 182, 0, 124, 42, 27, 28, 3, 182, 0, 188, 42, 2, 182, 0, 192, 172]
abbrev dktX4_choose_4 : List UInt8 := dkwX4_choose_4 ++ []
def dkwX4_choose_3 : List UInt8 := [4, 126, 4, 160, 0, 19, 42, 180, 0, 13, 16, 98, 21, 5, 96, 29, 21, 5, 122, 4, 126, 79]
abbrev dktX4_choose_3 : List UInt8 := dkwX4_choose_3 ++ dktX4_choose_4
def dkwX4_choose_2 : List UInt8 := [182, 0, 202, 54, 4, 3, 54, 5, 21, 5, 42, 180, 0, 13, 4, 46, 162, 0, 36, 21, 4, 21, 5, 122]
abbrev dktX4_choose_2 : List UInt8 := dkwX4_choose_2 ++ dktX4_choose_3
def dkwX4_choose_1 : List UInt8 := [154, 0, 9, 42, 5, 182, 0, 120, 172, 42, 27, 28, 182, 0, 205, 62, 42, 42, 27, 182, 0, 150]
abbrev dktX4_choose_1 : List UInt8 := dkwX4_choose_1 ++ dktX4_choose_2
def dkwX4_choose_0 : List UInt8 := [42, 182, 0, 117, 42, 27, 182, 0, 140, 154, 0, 9, 42, 4, 182, 0, 120, 172, 28, 184, 0, 185]
abbrev dktX4_choose_0 : List UInt8 := dkwX4_choose_0 ++ dktX4_choose_1
theorem dksX4_choose_0 : cX4_choose.data.toList.drop 0 = dktX4_choose_0 := by decide +kernel
theorem dksX4_choose_1 : cX4_choose.data.toList.drop 22 = dktX4_choose_1 := dk_seg dksX4_choose_0 22 rfl rfl
theorem dksX4_choose_2 : cX4_choose.data.toList.drop 44 = dktX4_choose_2 := dk_seg dksX4_choose_1 22 rfl rfl
theorem dksX4_choose_3 : cX4_choose.data.toList.drop 68 = dktX4_choose_3 := dk_seg dksX4_choose_2 24 rfl rfl
theorem dksX4_choose_4 : cX4_choose.data.toList.drop 90 = dktX4_choose_4 := dk_seg dksX4_choose_3 22 rfl rfl
theorem dX4_choose_0 : decode cX4_choose 0 = .ok (.aload_n 0, 1) := dk_42 (dk_at dksX4_choose_0 0 rfl rfl)
theorem dX4_choose_1 : decode cX4_choose 1 = .ok (.invokevirtual 117, 3) := dk_182 0 117 (dk_at dksX4_choose_0 1 rfl rfl)
theorem dX4_choose_4 : decode cX4_choose 4 = .ok (.aload_n 0, 1) := dk_42 (dk_at dksX4_choose_0 4 rfl rfl)
theorem dX4_choose_5 : decode cX4_choose 5 = .ok (.iload_n 1, 1) := dk_27 (dk_at dksX4_choose_0 5 rfl rfl)
theorem dX4_choose_6 : decode cX4_choose 6 = .ok (.invokevirtual 140, 3) := dk_182 0 140 (dk_at dksX4_choose_0 6 rfl rfl)
theorem dX4_choose_9 : decode cX4_choose 9 = .ok (.ifCond .ne 9, 3) := dk_154 0 9 (dk_at dksX4_choose_0 9 rfl rfl)
theorem dX4_choose_12 : decode cX4_choose 12 = .ok (.aload_n 0, 1) := dk_42 (dk_at dksX4_choose_0 12 rfl rfl)
theorem dX4_choose_13 : decode cX4_choose 13 = .ok (.iconst 1, 1) := dk_4 (dk_at dksX4_choose_0 13 rfl rfl)
theorem dX4_choose_14 : decode cX4_choose 14 = .ok (.invokevirtual 120, 3) := dk_182 0 120 (dk_at dksX4_choose_0 14 rfl rfl)
theorem dX4_choose_17 : decode cX4_choose 17 = .ok (.ireturn, 1) := dk_172 (dk_at dksX4_choose_0 17 rfl rfl)
theorem dX4_choose_18 : decode cX4_choose 18 = .ok (.iload_n 2, 1) := dk_28 (dk_at dksX4_choose_0 18 rfl rfl)
theorem dX4_choose_19 : decode cX4_choose 19 = .ok (.invokestatic 185, 3) := dk_184 0 185 (dk_at dksX4_choose_0 19 rfl rfl)
theorem dX4_choose_22 : decode cX4_choose 22 = .ok (.ifCond .ne 9, 3) := dk_154 0 9 (dk_at dksX4_choose_1 0 rfl rfl)
theorem dX4_choose_25 : decode cX4_choose 25 = .ok (.aload_n 0, 1) := dk_42 (dk_at dksX4_choose_1 3 rfl rfl)
theorem dX4_choose_26 : decode cX4_choose 26 = .ok (.iconst 2, 1) := dk_5 (dk_at dksX4_choose_1 4 rfl rfl)
theorem dX4_choose_27 : decode cX4_choose 27 = .ok (.invokevirtual 120, 3) := dk_182 0 120 (dk_at dksX4_choose_1 5 rfl rfl)
theorem dX4_choose_30 : decode cX4_choose 30 = .ok (.ireturn, 1) := dk_172 (dk_at dksX4_choose_1 8 rfl rfl)
theorem dX4_choose_31 : decode cX4_choose 31 = .ok (.aload_n 0, 1) := dk_42 (dk_at dksX4_choose_1 9 rfl rfl)
theorem dX4_choose_32 : decode cX4_choose 32 = .ok (.iload_n 1, 1) := dk_27 (dk_at dksX4_choose_1 10 rfl rfl)
theorem dX4_choose_33 : decode cX4_choose 33 = .ok (.iload_n 2, 1) := dk_28 (dk_at dksX4_choose_1 11 rfl rfl)
theorem dX4_choose_34 : decode cX4_choose 34 = .ok (.invokevirtual 205, 3) := dk_182 0 205 (dk_at dksX4_choose_1 12 rfl rfl)
theorem dX4_choose_37 : decode cX4_choose 37 = .ok (.istore_n 3, 1) := dk_62 (dk_at dksX4_choose_1 15 rfl rfl)
theorem dX4_choose_38 : decode cX4_choose 38 = .ok (.aload_n 0, 1) := dk_42 (dk_at dksX4_choose_1 16 rfl rfl)
theorem dX4_choose_39 : decode cX4_choose 39 = .ok (.aload_n 0, 1) := dk_42 (dk_at dksX4_choose_1 17 rfl rfl)
theorem dX4_choose_40 : decode cX4_choose 40 = .ok (.iload_n 1, 1) := dk_27 (dk_at dksX4_choose_1 18 rfl rfl)
theorem dX4_choose_41 : decode cX4_choose 41 = .ok (.invokevirtual 150, 3) := dk_182 0 150 (dk_at dksX4_choose_1 19 rfl rfl)
theorem dX4_choose_44 : decode cX4_choose 44 = .ok (.invokevirtual 202, 3) := dk_182 0 202 (dk_at dksX4_choose_2 0 rfl rfl)
theorem dX4_choose_47 : decode cX4_choose 47 = .ok (.istore 4, 2) := dk_54 4 (dk_at dksX4_choose_2 3 rfl rfl)
theorem dX4_choose_49 : decode cX4_choose 49 = .ok (.iconst 0, 1) := dk_3 (dk_at dksX4_choose_2 5 rfl rfl)
theorem dX4_choose_50 : decode cX4_choose 50 = .ok (.istore 5, 2) := dk_54 5 (dk_at dksX4_choose_2 6 rfl rfl)
theorem dX4_choose_52 : decode cX4_choose 52 = .ok (.iload 5, 2) := dk_21 5 (dk_at dksX4_choose_2 8 rfl rfl)
theorem dX4_choose_54 : decode cX4_choose 54 = .ok (.aload_n 0, 1) := dk_42 (dk_at dksX4_choose_2 10 rfl rfl)
theorem dX4_choose_55 : decode cX4_choose 55 = .ok (.getfield 13, 3) := dk_180 0 13 (dk_at dksX4_choose_2 11 rfl rfl)
theorem dX4_choose_58 : decode cX4_choose 58 = .ok (.iconst 1, 1) := dk_4 (dk_at dksX4_choose_2 14 rfl rfl)
theorem dX4_choose_59 : decode cX4_choose 59 = .ok (.iaload, 1) := dk_46 (dk_at dksX4_choose_2 15 rfl rfl)
theorem dX4_choose_60 : decode cX4_choose 60 = .ok (.if_icmp .ge 36, 3) := dk_162 0 36 (dk_at dksX4_choose_2 16 rfl rfl)
theorem dX4_choose_63 : decode cX4_choose 63 = .ok (.iload 4, 2) := dk_21 4 (dk_at dksX4_choose_2 19 rfl rfl)
theorem dX4_choose_65 : decode cX4_choose 65 = .ok (.iload 5, 2) := dk_21 5 (dk_at dksX4_choose_2 21 rfl rfl)
theorem dX4_choose_67 : decode cX4_choose 67 = .ok (.ishr, 1) := dk_122 (dk_at dksX4_choose_2 23 rfl rfl)
theorem dX4_choose_68 : decode cX4_choose 68 = .ok (.iconst 1, 1) := dk_4 (dk_at dksX4_choose_3 0 rfl rfl)
theorem dX4_choose_69 : decode cX4_choose 69 = .ok (.iand, 1) := dk_126 (dk_at dksX4_choose_3 1 rfl rfl)
theorem dX4_choose_70 : decode cX4_choose 70 = .ok (.iconst 1, 1) := dk_4 (dk_at dksX4_choose_3 2 rfl rfl)
theorem dX4_choose_71 : decode cX4_choose 71 = .ok (.if_icmp .ne 19, 3) := dk_160 0 19 (dk_at dksX4_choose_3 3 rfl rfl)
theorem dX4_choose_74 : decode cX4_choose 74 = .ok (.aload_n 0, 1) := dk_42 (dk_at dksX4_choose_3 6 rfl rfl)
theorem dX4_choose_75 : decode cX4_choose 75 = .ok (.getfield 13, 3) := dk_180 0 13 (dk_at dksX4_choose_3 7 rfl rfl)
theorem dX4_choose_78 : decode cX4_choose 78 = .ok (.bipush 98, 2) := dk_16 98 (dk_at dksX4_choose_3 10 rfl rfl)
theorem dX4_choose_80 : decode cX4_choose 80 = .ok (.iload 5, 2) := dk_21 5 (dk_at dksX4_choose_3 12 rfl rfl)
theorem dX4_choose_82 : decode cX4_choose 82 = .ok (.iadd, 1) := dk_96 (dk_at dksX4_choose_3 14 rfl rfl)
theorem dX4_choose_83 : decode cX4_choose 83 = .ok (.iload_n 3, 1) := dk_29 (dk_at dksX4_choose_3 15 rfl rfl)
theorem dX4_choose_84 : decode cX4_choose 84 = .ok (.iload 5, 2) := dk_21 5 (dk_at dksX4_choose_3 16 rfl rfl)
theorem dX4_choose_86 : decode cX4_choose 86 = .ok (.ishr, 1) := dk_122 (dk_at dksX4_choose_3 18 rfl rfl)
theorem dX4_choose_87 : decode cX4_choose 87 = .ok (.iconst 1, 1) := dk_4 (dk_at dksX4_choose_3 19 rfl rfl)
theorem dX4_choose_88 : decode cX4_choose 88 = .ok (.iand, 1) := dk_126 (dk_at dksX4_choose_3 20 rfl rfl)
theorem dX4_choose_89 : decode cX4_choose 89 = .ok (.iastore, 1) := dk_79 (dk_at dksX4_choose_3 21 rfl rfl)
theorem dX4_choose_90 : decode cX4_choose 90 = .ok (.iinc 5 1, 3) := dk_132 5 1 (dk_at dksX4_choose_4 0 rfl rfl)
theorem dX4_choose_93 : decode cX4_choose 93 = .ok (.goto (-41), 3) := dk_167 255 215 (dk_at dksX4_choose_4 3 rfl rfl)
theorem dX4_choose_96 : decode cX4_choose 96 = .ok (.aload_n 0, 1) := dk_42 (dk_at dksX4_choose_4 6 rfl rfl)
theorem dX4_choose_97 : decode cX4_choose 97 = .ok (.invokevirtual 124, 3) := dk_182 0 124 (dk_at dksX4_choose_4 7 rfl rfl)
theorem dX4_choose_100 : decode cX4_choose 100 = .ok (.aload_n 0, 1) := dk_42 (dk_at dksX4_choose_4 10 rfl rfl)
theorem dX4_choose_101 : decode cX4_choose 101 = .ok (.iload_n 1, 1) := dk_27 (dk_at dksX4_choose_4 11 rfl rfl)
theorem dX4_choose_102 : decode cX4_choose 102 = .ok (.iload_n 2, 1) := dk_28 (dk_at dksX4_choose_4 12 rfl rfl)
theorem dX4_choose_103 : decode cX4_choose 103 = .ok (.iconst 0, 1) := dk_3 (dk_at dksX4_choose_4 13 rfl rfl)
theorem dX4_choose_104 : decode cX4_choose 104 = .ok (.invokevirtual 188, 3) := dk_182 0 188 (dk_at dksX4_choose_4 14 rfl rfl)
theorem dX4_choose_107 : decode cX4_choose 107 = .ok (.aload_n 0, 1) := dk_42 (dk_at dksX4_choose_4 17 rfl rfl)
theorem dX4_choose_108 : decode cX4_choose 108 = .ok (.iconst (-1), 1) := dk_2 (dk_at dksX4_choose_4 18 rfl rfl)
theorem dX4_choose_109 : decode cX4_choose 109 = .ok (.invokevirtual 192, 3) := dk_182 0 192 (dk_at dksX4_choose_4 19 rfl rfl)
theorem dX4_choose_112 : decode cX4_choose 112 = .ok (.ireturn, 1) := dk_172 (dk_at dksX4_choose_4 22 rfl rfl)
abbrev cX4_ship : ByteArray := prog_17_method_51_code
def yX4_ship : MethodName := ⟨RX4, "ship", "(I)I"⟩
def dkwX4_ship_7 : List UInt8 := [180, 0, 13, 6, 92, 46, 4, 96, 79, 42, 182, 0, 124, 42, 180, 0, 60, 172]
abbrev dktX4_ship_7 : List UInt8 := dkwX4_ship_7 ++ []
def dkwX4_ship_6 : List UInt8 := [182, 0, 120, 172, 42, 27, 182, 0, 215, 42, 180, 0, 13, 16, 120, 27, 96, 92, 46, 4, 96, 79, 42]
abbrev dktX4_ship_6 : List UInt8 := dkwX4_ship_6 ++ dktX4_ship_7
def dkwX4_ship_5 : List UInt8 := [167, 0, 9, 42, 180, 0, 51, 4, 46, 79, 42, 180, 0, 54, 6, 42, 180, 0, 51, 6, 46, 79, 42, 5]
abbrev dktX4_ship_5 : List UInt8 := dkwX4_ship_5 ++ dktX4_ship_6
def dkwX4_ship_4 : List UInt8 := [42, 180, 0, 51, 5, 46, 79, 42, 180, 0, 54, 5, 28, 153, 0, 12, 42, 180, 0, 51, 5, 46]
abbrev dktX4_ship_4 : List UInt8 := dkwX4_ship_4 ++ dktX4_ship_5
def dkwX4_ship_3 : List UInt8 := [180, 0, 51, 3, 46, 79, 42, 180, 0, 54, 4, 28, 153, 0, 12, 42, 180, 0, 51, 4, 46, 167, 0, 9]
abbrev dktX4_ship_3 : List UInt8 := dkwX4_ship_3 ++ dktX4_ship_4
def dkwX4_ship_2 : List UInt8 := [167, 0, 4, 3, 61, 42, 28, 153, 0, 7, 6, 167, 0, 4, 7, 181, 0, 57, 42, 180, 0, 54, 3, 42]
abbrev dktX4_ship_2 : List UInt8 := dkwX4_ship_2 ++ dktX4_ship_3
def dkwX4_ship_1 : List UInt8 := [182, 0, 188, 42, 3, 182, 0, 192, 158, 0, 112, 42, 180, 0, 51, 3, 46, 4, 160, 0, 7, 4]
abbrev dktX4_ship_1 : List UInt8 := dkwX4_ship_1 ++ dktX4_ship_2
def dkwX4_ship_0 : List UInt8 := [42, 182, 0, 117, 42, 27, 182, 0, 140, 154, 0, 9, 42, 4, 182, 0, 120, 172, 42, 27, 7, 3]
abbrev dktX4_ship_0 : List UInt8 := dkwX4_ship_0 ++ dktX4_ship_1
theorem dksX4_ship_0 : cX4_ship.data.toList.drop 0 = dktX4_ship_0 := by decide +kernel
theorem dksX4_ship_1 : cX4_ship.data.toList.drop 22 = dktX4_ship_1 := dk_seg dksX4_ship_0 22 rfl rfl
theorem dksX4_ship_2 : cX4_ship.data.toList.drop 44 = dktX4_ship_2 := dk_seg dksX4_ship_1 22 rfl rfl
theorem dksX4_ship_3 : cX4_ship.data.toList.drop 68 = dktX4_ship_3 := dk_seg dksX4_ship_2 24 rfl rfl
theorem dksX4_ship_4 : cX4_ship.data.toList.drop 92 = dktX4_ship_4 := dk_seg dksX4_ship_3 24 rfl rfl
theorem dksX4_ship_5 : cX4_ship.data.toList.drop 114 = dktX4_ship_5 := dk_seg dksX4_ship_4 22 rfl rfl
theorem dksX4_ship_6 : cX4_ship.data.toList.drop 138 = dktX4_ship_6 := dk_seg dksX4_ship_5 24 rfl rfl
theorem dksX4_ship_7 : cX4_ship.data.toList.drop 161 = dktX4_ship_7 := dk_seg dksX4_ship_6 23 rfl rfl
theorem dX4_ship_0 : decode cX4_ship 0 = .ok (.aload_n 0, 1) := dk_42 (dk_at dksX4_ship_0 0 rfl rfl)
theorem dX4_ship_1 : decode cX4_ship 1 = .ok (.invokevirtual 117, 3) := dk_182 0 117 (dk_at dksX4_ship_0 1 rfl rfl)
theorem dX4_ship_4 : decode cX4_ship 4 = .ok (.aload_n 0, 1) := dk_42 (dk_at dksX4_ship_0 4 rfl rfl)
theorem dX4_ship_5 : decode cX4_ship 5 = .ok (.iload_n 1, 1) := dk_27 (dk_at dksX4_ship_0 5 rfl rfl)
theorem dX4_ship_6 : decode cX4_ship 6 = .ok (.invokevirtual 140, 3) := dk_182 0 140 (dk_at dksX4_ship_0 6 rfl rfl)
theorem dX4_ship_9 : decode cX4_ship 9 = .ok (.ifCond .ne 9, 3) := dk_154 0 9 (dk_at dksX4_ship_0 9 rfl rfl)
theorem dX4_ship_12 : decode cX4_ship 12 = .ok (.aload_n 0, 1) := dk_42 (dk_at dksX4_ship_0 12 rfl rfl)
theorem dX4_ship_13 : decode cX4_ship 13 = .ok (.iconst 1, 1) := dk_4 (dk_at dksX4_ship_0 13 rfl rfl)
theorem dX4_ship_14 : decode cX4_ship 14 = .ok (.invokevirtual 120, 3) := dk_182 0 120 (dk_at dksX4_ship_0 14 rfl rfl)
theorem dX4_ship_17 : decode cX4_ship 17 = .ok (.ireturn, 1) := dk_172 (dk_at dksX4_ship_0 17 rfl rfl)
theorem dX4_ship_18 : decode cX4_ship 18 = .ok (.aload_n 0, 1) := dk_42 (dk_at dksX4_ship_0 18 rfl rfl)
theorem dX4_ship_19 : decode cX4_ship 19 = .ok (.iload_n 1, 1) := dk_27 (dk_at dksX4_ship_0 19 rfl rfl)
theorem dX4_ship_20 : decode cX4_ship 20 = .ok (.iconst 4, 1) := dk_7 (dk_at dksX4_ship_0 20 rfl rfl)
theorem dX4_ship_21 : decode cX4_ship 21 = .ok (.iconst 0, 1) := dk_3 (dk_at dksX4_ship_0 21 rfl rfl)
theorem dX4_ship_22 : decode cX4_ship 22 = .ok (.invokevirtual 188, 3) := dk_182 0 188 (dk_at dksX4_ship_1 0 rfl rfl)
theorem dX4_ship_25 : decode cX4_ship 25 = .ok (.aload_n 0, 1) := dk_42 (dk_at dksX4_ship_1 3 rfl rfl)
theorem dX4_ship_26 : decode cX4_ship 26 = .ok (.iconst 0, 1) := dk_3 (dk_at dksX4_ship_1 4 rfl rfl)
theorem dX4_ship_27 : decode cX4_ship 27 = .ok (.invokevirtual 192, 3) := dk_182 0 192 (dk_at dksX4_ship_1 5 rfl rfl)
theorem dX4_ship_30 : decode cX4_ship 30 = .ok (.ifCond .le 112, 3) := dk_158 0 112 (dk_at dksX4_ship_1 8 rfl rfl)
theorem dX4_ship_33 : decode cX4_ship 33 = .ok (.aload_n 0, 1) := dk_42 (dk_at dksX4_ship_1 11 rfl rfl)
theorem dX4_ship_34 : decode cX4_ship 34 = .ok (.getfield 51, 3) := dk_180 0 51 (dk_at dksX4_ship_1 12 rfl rfl)
theorem dX4_ship_37 : decode cX4_ship 37 = .ok (.iconst 0, 1) := dk_3 (dk_at dksX4_ship_1 15 rfl rfl)
theorem dX4_ship_38 : decode cX4_ship 38 = .ok (.iaload, 1) := dk_46 (dk_at dksX4_ship_1 16 rfl rfl)
theorem dX4_ship_39 : decode cX4_ship 39 = .ok (.iconst 1, 1) := dk_4 (dk_at dksX4_ship_1 17 rfl rfl)
theorem dX4_ship_40 : decode cX4_ship 40 = .ok (.if_icmp .ne 7, 3) := dk_160 0 7 (dk_at dksX4_ship_1 18 rfl rfl)
theorem dX4_ship_43 : decode cX4_ship 43 = .ok (.iconst 1, 1) := dk_4 (dk_at dksX4_ship_1 21 rfl rfl)
theorem dX4_ship_44 : decode cX4_ship 44 = .ok (.goto 4, 3) := dk_167 0 4 (dk_at dksX4_ship_2 0 rfl rfl)
theorem dX4_ship_47 : decode cX4_ship 47 = .ok (.iconst 0, 1) := dk_3 (dk_at dksX4_ship_2 3 rfl rfl)
theorem dX4_ship_48 : decode cX4_ship 48 = .ok (.istore_n 2, 1) := dk_61 (dk_at dksX4_ship_2 4 rfl rfl)
theorem dX4_ship_49 : decode cX4_ship 49 = .ok (.aload_n 0, 1) := dk_42 (dk_at dksX4_ship_2 5 rfl rfl)
theorem dX4_ship_50 : decode cX4_ship 50 = .ok (.iload_n 2, 1) := dk_28 (dk_at dksX4_ship_2 6 rfl rfl)
theorem dX4_ship_51 : decode cX4_ship 51 = .ok (.ifCond .eq 7, 3) := dk_153 0 7 (dk_at dksX4_ship_2 7 rfl rfl)
theorem dX4_ship_54 : decode cX4_ship 54 = .ok (.iconst 3, 1) := dk_6 (dk_at dksX4_ship_2 10 rfl rfl)
theorem dX4_ship_55 : decode cX4_ship 55 = .ok (.goto 4, 3) := dk_167 0 4 (dk_at dksX4_ship_2 11 rfl rfl)
theorem dX4_ship_58 : decode cX4_ship 58 = .ok (.iconst 4, 1) := dk_7 (dk_at dksX4_ship_2 14 rfl rfl)
theorem dX4_ship_59 : decode cX4_ship 59 = .ok (.putfield 57, 3) := dk_181 0 57 (dk_at dksX4_ship_2 15 rfl rfl)
theorem dX4_ship_62 : decode cX4_ship 62 = .ok (.aload_n 0, 1) := dk_42 (dk_at dksX4_ship_2 18 rfl rfl)
theorem dX4_ship_63 : decode cX4_ship 63 = .ok (.getfield 54, 3) := dk_180 0 54 (dk_at dksX4_ship_2 19 rfl rfl)
theorem dX4_ship_66 : decode cX4_ship 66 = .ok (.iconst 0, 1) := dk_3 (dk_at dksX4_ship_2 22 rfl rfl)
theorem dX4_ship_67 : decode cX4_ship 67 = .ok (.aload_n 0, 1) := dk_42 (dk_at dksX4_ship_2 23 rfl rfl)
theorem dX4_ship_68 : decode cX4_ship 68 = .ok (.getfield 51, 3) := dk_180 0 51 (dk_at dksX4_ship_3 0 rfl rfl)
theorem dX4_ship_71 : decode cX4_ship 71 = .ok (.iconst 0, 1) := dk_3 (dk_at dksX4_ship_3 3 rfl rfl)
theorem dX4_ship_72 : decode cX4_ship 72 = .ok (.iaload, 1) := dk_46 (dk_at dksX4_ship_3 4 rfl rfl)
theorem dX4_ship_73 : decode cX4_ship 73 = .ok (.iastore, 1) := dk_79 (dk_at dksX4_ship_3 5 rfl rfl)
theorem dX4_ship_74 : decode cX4_ship 74 = .ok (.aload_n 0, 1) := dk_42 (dk_at dksX4_ship_3 6 rfl rfl)
theorem dX4_ship_75 : decode cX4_ship 75 = .ok (.getfield 54, 3) := dk_180 0 54 (dk_at dksX4_ship_3 7 rfl rfl)
theorem dX4_ship_78 : decode cX4_ship 78 = .ok (.iconst 1, 1) := dk_4 (dk_at dksX4_ship_3 10 rfl rfl)
theorem dX4_ship_79 : decode cX4_ship 79 = .ok (.iload_n 2, 1) := dk_28 (dk_at dksX4_ship_3 11 rfl rfl)
theorem dX4_ship_80 : decode cX4_ship 80 = .ok (.ifCond .eq 12, 3) := dk_153 0 12 (dk_at dksX4_ship_3 12 rfl rfl)
theorem dX4_ship_83 : decode cX4_ship 83 = .ok (.aload_n 0, 1) := dk_42 (dk_at dksX4_ship_3 15 rfl rfl)
theorem dX4_ship_84 : decode cX4_ship 84 = .ok (.getfield 51, 3) := dk_180 0 51 (dk_at dksX4_ship_3 16 rfl rfl)
theorem dX4_ship_87 : decode cX4_ship 87 = .ok (.iconst 1, 1) := dk_4 (dk_at dksX4_ship_3 19 rfl rfl)
theorem dX4_ship_88 : decode cX4_ship 88 = .ok (.iaload, 1) := dk_46 (dk_at dksX4_ship_3 20 rfl rfl)
theorem dX4_ship_89 : decode cX4_ship 89 = .ok (.goto 9, 3) := dk_167 0 9 (dk_at dksX4_ship_3 21 rfl rfl)
theorem dX4_ship_92 : decode cX4_ship 92 = .ok (.aload_n 0, 1) := dk_42 (dk_at dksX4_ship_4 0 rfl rfl)
theorem dX4_ship_93 : decode cX4_ship 93 = .ok (.getfield 51, 3) := dk_180 0 51 (dk_at dksX4_ship_4 1 rfl rfl)
theorem dX4_ship_96 : decode cX4_ship 96 = .ok (.iconst 2, 1) := dk_5 (dk_at dksX4_ship_4 4 rfl rfl)
theorem dX4_ship_97 : decode cX4_ship 97 = .ok (.iaload, 1) := dk_46 (dk_at dksX4_ship_4 5 rfl rfl)
theorem dX4_ship_98 : decode cX4_ship 98 = .ok (.iastore, 1) := dk_79 (dk_at dksX4_ship_4 6 rfl rfl)
theorem dX4_ship_99 : decode cX4_ship 99 = .ok (.aload_n 0, 1) := dk_42 (dk_at dksX4_ship_4 7 rfl rfl)
theorem dX4_ship_100 : decode cX4_ship 100 = .ok (.getfield 54, 3) := dk_180 0 54 (dk_at dksX4_ship_4 8 rfl rfl)
theorem dX4_ship_103 : decode cX4_ship 103 = .ok (.iconst 2, 1) := dk_5 (dk_at dksX4_ship_4 11 rfl rfl)
theorem dX4_ship_104 : decode cX4_ship 104 = .ok (.iload_n 2, 1) := dk_28 (dk_at dksX4_ship_4 12 rfl rfl)
theorem dX4_ship_105 : decode cX4_ship 105 = .ok (.ifCond .eq 12, 3) := dk_153 0 12 (dk_at dksX4_ship_4 13 rfl rfl)
theorem dX4_ship_108 : decode cX4_ship 108 = .ok (.aload_n 0, 1) := dk_42 (dk_at dksX4_ship_4 16 rfl rfl)
theorem dX4_ship_109 : decode cX4_ship 109 = .ok (.getfield 51, 3) := dk_180 0 51 (dk_at dksX4_ship_4 17 rfl rfl)
theorem dX4_ship_112 : decode cX4_ship 112 = .ok (.iconst 2, 1) := dk_5 (dk_at dksX4_ship_4 20 rfl rfl)
theorem dX4_ship_113 : decode cX4_ship 113 = .ok (.iaload, 1) := dk_46 (dk_at dksX4_ship_4 21 rfl rfl)
theorem dX4_ship_114 : decode cX4_ship 114 = .ok (.goto 9, 3) := dk_167 0 9 (dk_at dksX4_ship_5 0 rfl rfl)
theorem dX4_ship_117 : decode cX4_ship 117 = .ok (.aload_n 0, 1) := dk_42 (dk_at dksX4_ship_5 3 rfl rfl)
theorem dX4_ship_118 : decode cX4_ship 118 = .ok (.getfield 51, 3) := dk_180 0 51 (dk_at dksX4_ship_5 4 rfl rfl)
theorem dX4_ship_121 : decode cX4_ship 121 = .ok (.iconst 1, 1) := dk_4 (dk_at dksX4_ship_5 7 rfl rfl)
theorem dX4_ship_122 : decode cX4_ship 122 = .ok (.iaload, 1) := dk_46 (dk_at dksX4_ship_5 8 rfl rfl)
theorem dX4_ship_123 : decode cX4_ship 123 = .ok (.iastore, 1) := dk_79 (dk_at dksX4_ship_5 9 rfl rfl)
theorem dX4_ship_124 : decode cX4_ship 124 = .ok (.aload_n 0, 1) := dk_42 (dk_at dksX4_ship_5 10 rfl rfl)
theorem dX4_ship_125 : decode cX4_ship 125 = .ok (.getfield 54, 3) := dk_180 0 54 (dk_at dksX4_ship_5 11 rfl rfl)
theorem dX4_ship_128 : decode cX4_ship 128 = .ok (.iconst 3, 1) := dk_6 (dk_at dksX4_ship_5 14 rfl rfl)
theorem dX4_ship_129 : decode cX4_ship 129 = .ok (.aload_n 0, 1) := dk_42 (dk_at dksX4_ship_5 15 rfl rfl)
theorem dX4_ship_130 : decode cX4_ship 130 = .ok (.getfield 51, 3) := dk_180 0 51 (dk_at dksX4_ship_5 16 rfl rfl)
theorem dX4_ship_133 : decode cX4_ship 133 = .ok (.iconst 3, 1) := dk_6 (dk_at dksX4_ship_5 19 rfl rfl)
theorem dX4_ship_134 : decode cX4_ship 134 = .ok (.iaload, 1) := dk_46 (dk_at dksX4_ship_5 20 rfl rfl)
theorem dX4_ship_135 : decode cX4_ship 135 = .ok (.iastore, 1) := dk_79 (dk_at dksX4_ship_5 21 rfl rfl)
theorem dX4_ship_136 : decode cX4_ship 136 = .ok (.aload_n 0, 1) := dk_42 (dk_at dksX4_ship_5 22 rfl rfl)
theorem dX4_ship_137 : decode cX4_ship 137 = .ok (.iconst 2, 1) := dk_5 (dk_at dksX4_ship_5 23 rfl rfl)
theorem dX4_ship_138 : decode cX4_ship 138 = .ok (.invokevirtual 120, 3) := dk_182 0 120 (dk_at dksX4_ship_6 0 rfl rfl)
theorem dX4_ship_141 : decode cX4_ship 141 = .ok (.ireturn, 1) := dk_172 (dk_at dksX4_ship_6 3 rfl rfl)
theorem dX4_ship_142 : decode cX4_ship 142 = .ok (.aload_n 0, 1) := dk_42 (dk_at dksX4_ship_6 4 rfl rfl)
theorem dX4_ship_143 : decode cX4_ship 143 = .ok (.iload_n 1, 1) := dk_27 (dk_at dksX4_ship_6 5 rfl rfl)
theorem dX4_ship_144 : decode cX4_ship 144 = .ok (.invokevirtual 215, 3) := dk_182 0 215 (dk_at dksX4_ship_6 6 rfl rfl)
theorem dX4_ship_147 : decode cX4_ship 147 = .ok (.aload_n 0, 1) := dk_42 (dk_at dksX4_ship_6 9 rfl rfl)
theorem dX4_ship_148 : decode cX4_ship 148 = .ok (.getfield 13, 3) := dk_180 0 13 (dk_at dksX4_ship_6 10 rfl rfl)
theorem dX4_ship_151 : decode cX4_ship 151 = .ok (.bipush 120, 2) := dk_16 120 (dk_at dksX4_ship_6 13 rfl rfl)
theorem dX4_ship_153 : decode cX4_ship 153 = .ok (.iload_n 1, 1) := dk_27 (dk_at dksX4_ship_6 15 rfl rfl)
theorem dX4_ship_154 : decode cX4_ship 154 = .ok (.iadd, 1) := dk_96 (dk_at dksX4_ship_6 16 rfl rfl)
theorem dX4_ship_155 : decode cX4_ship 155 = .ok (.dup2, 1) := dk_92 (dk_at dksX4_ship_6 17 rfl rfl)
theorem dX4_ship_156 : decode cX4_ship 156 = .ok (.iaload, 1) := dk_46 (dk_at dksX4_ship_6 18 rfl rfl)
theorem dX4_ship_157 : decode cX4_ship 157 = .ok (.iconst 1, 1) := dk_4 (dk_at dksX4_ship_6 19 rfl rfl)
theorem dX4_ship_158 : decode cX4_ship 158 = .ok (.iadd, 1) := dk_96 (dk_at dksX4_ship_6 20 rfl rfl)
theorem dX4_ship_159 : decode cX4_ship 159 = .ok (.iastore, 1) := dk_79 (dk_at dksX4_ship_6 21 rfl rfl)
theorem dX4_ship_160 : decode cX4_ship 160 = .ok (.aload_n 0, 1) := dk_42 (dk_at dksX4_ship_6 22 rfl rfl)
theorem dX4_ship_161 : decode cX4_ship 161 = .ok (.getfield 13, 3) := dk_180 0 13 (dk_at dksX4_ship_7 0 rfl rfl)
theorem dX4_ship_164 : decode cX4_ship 164 = .ok (.iconst 3, 1) := dk_6 (dk_at dksX4_ship_7 3 rfl rfl)
theorem dX4_ship_165 : decode cX4_ship 165 = .ok (.dup2, 1) := dk_92 (dk_at dksX4_ship_7 4 rfl rfl)
theorem dX4_ship_166 : decode cX4_ship 166 = .ok (.iaload, 1) := dk_46 (dk_at dksX4_ship_7 5 rfl rfl)
theorem dX4_ship_167 : decode cX4_ship 167 = .ok (.iconst 1, 1) := dk_4 (dk_at dksX4_ship_7 6 rfl rfl)
theorem dX4_ship_168 : decode cX4_ship 168 = .ok (.iadd, 1) := dk_96 (dk_at dksX4_ship_7 7 rfl rfl)
theorem dX4_ship_169 : decode cX4_ship 169 = .ok (.iastore, 1) := dk_79 (dk_at dksX4_ship_7 8 rfl rfl)
theorem dX4_ship_170 : decode cX4_ship 170 = .ok (.aload_n 0, 1) := dk_42 (dk_at dksX4_ship_7 9 rfl rfl)
theorem dX4_ship_171 : decode cX4_ship 171 = .ok (.invokevirtual 124, 3) := dk_182 0 124 (dk_at dksX4_ship_7 10 rfl rfl)
theorem dX4_ship_174 : decode cX4_ship 174 = .ok (.aload_n 0, 1) := dk_42 (dk_at dksX4_ship_7 13 rfl rfl)
theorem dX4_ship_175 : decode cX4_ship 175 = .ok (.getfield 60, 3) := dk_180 0 60 (dk_at dksX4_ship_7 14 rfl rfl)
theorem dX4_ship_178 : decode cX4_ship 178 = .ok (.ireturn, 1) := dk_172 (dk_at dksX4_ship_7 17 rfl rfl)
abbrev cX4_writesNotice : ByteArray := prog_17_method_50_code
def yX4_writesNotice : MethodName := ⟨RX4, "writesNotice", "(I)V"⟩
def dkwX4_writesNotice_7 : List UInt8 := [182, 0, 212, 132, 2, 1, 167, 255, 107, 42, 180, 0, 13, 16, 126, 27, 96, 42, 180, 0, 60, 79, 177]
abbrev dktX4_writesNotice_7 : List UInt8 := dkwX4_writesNotice_7 ++ []
def dkwX4_writesNotice_6 : List UInt8 := [16, 58, 182, 0, 208, 42, 29, 182, 0, 212, 21, 4, 153, 0, 9, 42, 16, 33, 182, 0, 208, 42, 21, 4]
abbrev dktX4_writesNotice_6 : List UInt8 := dkwX4_writesNotice_6 ++ dktX4_writesNotice_7
def dkwX4_writesNotice_5 : List UInt8 := [158, 0, 15, 42, 16, 59, 182, 0, 208, 42, 16, 32, 182, 0, 208, 42, 16, 48, 28, 96, 182, 0, 208, 42]
abbrev dktX4_writesNotice_5 : List UInt8 := dkwX4_writesNotice_5 ++ dktX4_writesNotice_6
def dkwX4_writesNotice_4 : List UInt8 := [182, 0, 168, 128, 54, 4, 132, 5, 1, 167, 255, 193, 29, 154, 0, 6, 167, 0, 58, 42, 180, 0, 60]
abbrev dktX4_writesNotice_4 : List UInt8 := dkwX4_writesNotice_4 ++ dktX4_writesNotice_5
def dkwX4_writesNotice_3 : List UInt8 := [182, 0, 137, 28, 159, 0, 6, 167, 0, 21, 29, 4, 21, 5, 120, 128, 62, 21, 4, 42, 21, 5]
abbrev dktX4_writesNotice_3 : List UInt8 := dkwX4_writesNotice_3 ++ dktX4_writesNotice_4
def dkwX4_writesNotice_2 : List UInt8 := [162, 0, 58, 42, 21, 5, 182, 0, 156, 154, 0, 12, 42, 21, 5, 182, 0, 159, 153, 0, 34, 42, 21, 5]
abbrev dktX4_writesNotice_2 : List UInt8 := dkwX4_writesNotice_2 ++ dktX4_writesNotice_3
def dkwX4_writesNotice_1 : List UInt8 := [180, 0, 13, 3, 46, 162, 0, 145, 3, 62, 3, 54, 4, 3, 54, 5, 21, 5, 42, 180, 0, 13, 4, 46]
abbrev dktX4_writesNotice_1 : List UInt8 := dkwX4_writesNotice_1 ++ dktX4_writesNotice_2
def dkwX4_writesNotice_0 : List UInt8 := [42, 3, 181, 0, 60, 42, 17, 0, 132, 17, 0, 240, 27, 104, 96, 181, 0, 63, 3, 61, 28, 42]
abbrev dktX4_writesNotice_0 : List UInt8 := dkwX4_writesNotice_0 ++ dktX4_writesNotice_1
theorem dksX4_writesNotice_0 : cX4_writesNotice.data.toList.drop 0 = dktX4_writesNotice_0 := by decide +kernel
theorem dksX4_writesNotice_1 : cX4_writesNotice.data.toList.drop 22 = dktX4_writesNotice_1 := dk_seg dksX4_writesNotice_0 22 rfl rfl
theorem dksX4_writesNotice_2 : cX4_writesNotice.data.toList.drop 46 = dktX4_writesNotice_2 := dk_seg dksX4_writesNotice_1 24 rfl rfl
theorem dksX4_writesNotice_3 : cX4_writesNotice.data.toList.drop 70 = dktX4_writesNotice_3 := dk_seg dksX4_writesNotice_2 24 rfl rfl
theorem dksX4_writesNotice_4 : cX4_writesNotice.data.toList.drop 92 = dktX4_writesNotice_4 := dk_seg dksX4_writesNotice_3 22 rfl rfl
theorem dksX4_writesNotice_5 : cX4_writesNotice.data.toList.drop 115 = dktX4_writesNotice_5 := dk_seg dksX4_writesNotice_4 23 rfl rfl
theorem dksX4_writesNotice_6 : cX4_writesNotice.data.toList.drop 139 = dktX4_writesNotice_6 := dk_seg dksX4_writesNotice_5 24 rfl rfl
theorem dksX4_writesNotice_7 : cX4_writesNotice.data.toList.drop 163 = dktX4_writesNotice_7 := dk_seg dksX4_writesNotice_6 24 rfl rfl
theorem dX4_writesNotice_0 : decode cX4_writesNotice 0 = .ok (.aload_n 0, 1) := dk_42 (dk_at dksX4_writesNotice_0 0 rfl rfl)
theorem dX4_writesNotice_1 : decode cX4_writesNotice 1 = .ok (.iconst 0, 1) := dk_3 (dk_at dksX4_writesNotice_0 1 rfl rfl)
theorem dX4_writesNotice_2 : decode cX4_writesNotice 2 = .ok (.putfield 60, 3) := dk_181 0 60 (dk_at dksX4_writesNotice_0 2 rfl rfl)
theorem dX4_writesNotice_5 : decode cX4_writesNotice 5 = .ok (.aload_n 0, 1) := dk_42 (dk_at dksX4_writesNotice_0 5 rfl rfl)
theorem dX4_writesNotice_6 : decode cX4_writesNotice 6 = .ok (.sipush 132, 3) := dk_17 0 132 (dk_at dksX4_writesNotice_0 6 rfl rfl)
theorem dX4_writesNotice_9 : decode cX4_writesNotice 9 = .ok (.sipush 240, 3) := dk_17 0 240 (dk_at dksX4_writesNotice_0 9 rfl rfl)
theorem dX4_writesNotice_12 : decode cX4_writesNotice 12 = .ok (.iload_n 1, 1) := dk_27 (dk_at dksX4_writesNotice_0 12 rfl rfl)
theorem dX4_writesNotice_13 : decode cX4_writesNotice 13 = .ok (.imul, 1) := dk_104 (dk_at dksX4_writesNotice_0 13 rfl rfl)
theorem dX4_writesNotice_14 : decode cX4_writesNotice 14 = .ok (.iadd, 1) := dk_96 (dk_at dksX4_writesNotice_0 14 rfl rfl)
theorem dX4_writesNotice_15 : decode cX4_writesNotice 15 = .ok (.putfield 63, 3) := dk_181 0 63 (dk_at dksX4_writesNotice_0 15 rfl rfl)
theorem dX4_writesNotice_18 : decode cX4_writesNotice 18 = .ok (.iconst 0, 1) := dk_3 (dk_at dksX4_writesNotice_0 18 rfl rfl)
theorem dX4_writesNotice_19 : decode cX4_writesNotice 19 = .ok (.istore_n 2, 1) := dk_61 (dk_at dksX4_writesNotice_0 19 rfl rfl)
theorem dX4_writesNotice_20 : decode cX4_writesNotice 20 = .ok (.iload_n 2, 1) := dk_28 (dk_at dksX4_writesNotice_0 20 rfl rfl)
theorem dX4_writesNotice_21 : decode cX4_writesNotice 21 = .ok (.aload_n 0, 1) := dk_42 (dk_at dksX4_writesNotice_0 21 rfl rfl)
theorem dX4_writesNotice_22 : decode cX4_writesNotice 22 = .ok (.getfield 13, 3) := dk_180 0 13 (dk_at dksX4_writesNotice_1 0 rfl rfl)
theorem dX4_writesNotice_25 : decode cX4_writesNotice 25 = .ok (.iconst 0, 1) := dk_3 (dk_at dksX4_writesNotice_1 3 rfl rfl)
theorem dX4_writesNotice_26 : decode cX4_writesNotice 26 = .ok (.iaload, 1) := dk_46 (dk_at dksX4_writesNotice_1 4 rfl rfl)
theorem dX4_writesNotice_27 : decode cX4_writesNotice 27 = .ok (.if_icmp .ge 145, 3) := dk_162 0 145 (dk_at dksX4_writesNotice_1 5 rfl rfl)
theorem dX4_writesNotice_30 : decode cX4_writesNotice 30 = .ok (.iconst 0, 1) := dk_3 (dk_at dksX4_writesNotice_1 8 rfl rfl)
theorem dX4_writesNotice_31 : decode cX4_writesNotice 31 = .ok (.istore_n 3, 1) := dk_62 (dk_at dksX4_writesNotice_1 9 rfl rfl)
theorem dX4_writesNotice_32 : decode cX4_writesNotice 32 = .ok (.iconst 0, 1) := dk_3 (dk_at dksX4_writesNotice_1 10 rfl rfl)
theorem dX4_writesNotice_33 : decode cX4_writesNotice 33 = .ok (.istore 4, 2) := dk_54 4 (dk_at dksX4_writesNotice_1 11 rfl rfl)
theorem dX4_writesNotice_35 : decode cX4_writesNotice 35 = .ok (.iconst 0, 1) := dk_3 (dk_at dksX4_writesNotice_1 13 rfl rfl)
theorem dX4_writesNotice_36 : decode cX4_writesNotice 36 = .ok (.istore 5, 2) := dk_54 5 (dk_at dksX4_writesNotice_1 14 rfl rfl)
theorem dX4_writesNotice_38 : decode cX4_writesNotice 38 = .ok (.iload 5, 2) := dk_21 5 (dk_at dksX4_writesNotice_1 16 rfl rfl)
theorem dX4_writesNotice_40 : decode cX4_writesNotice 40 = .ok (.aload_n 0, 1) := dk_42 (dk_at dksX4_writesNotice_1 18 rfl rfl)
theorem dX4_writesNotice_41 : decode cX4_writesNotice 41 = .ok (.getfield 13, 3) := dk_180 0 13 (dk_at dksX4_writesNotice_1 19 rfl rfl)
theorem dX4_writesNotice_44 : decode cX4_writesNotice 44 = .ok (.iconst 1, 1) := dk_4 (dk_at dksX4_writesNotice_1 22 rfl rfl)
theorem dX4_writesNotice_45 : decode cX4_writesNotice 45 = .ok (.iaload, 1) := dk_46 (dk_at dksX4_writesNotice_1 23 rfl rfl)
theorem dX4_writesNotice_46 : decode cX4_writesNotice 46 = .ok (.if_icmp .ge 58, 3) := dk_162 0 58 (dk_at dksX4_writesNotice_2 0 rfl rfl)
theorem dX4_writesNotice_49 : decode cX4_writesNotice 49 = .ok (.aload_n 0, 1) := dk_42 (dk_at dksX4_writesNotice_2 3 rfl rfl)
theorem dX4_writesNotice_50 : decode cX4_writesNotice 50 = .ok (.iload 5, 2) := dk_21 5 (dk_at dksX4_writesNotice_2 4 rfl rfl)
theorem dX4_writesNotice_52 : decode cX4_writesNotice 52 = .ok (.invokevirtual 156, 3) := dk_182 0 156 (dk_at dksX4_writesNotice_2 6 rfl rfl)
theorem dX4_writesNotice_55 : decode cX4_writesNotice 55 = .ok (.ifCond .ne 12, 3) := dk_154 0 12 (dk_at dksX4_writesNotice_2 9 rfl rfl)
theorem dX4_writesNotice_58 : decode cX4_writesNotice 58 = .ok (.aload_n 0, 1) := dk_42 (dk_at dksX4_writesNotice_2 12 rfl rfl)
theorem dX4_writesNotice_59 : decode cX4_writesNotice 59 = .ok (.iload 5, 2) := dk_21 5 (dk_at dksX4_writesNotice_2 13 rfl rfl)
theorem dX4_writesNotice_61 : decode cX4_writesNotice 61 = .ok (.invokevirtual 159, 3) := dk_182 0 159 (dk_at dksX4_writesNotice_2 15 rfl rfl)
theorem dX4_writesNotice_64 : decode cX4_writesNotice 64 = .ok (.ifCond .eq 34, 3) := dk_153 0 34 (dk_at dksX4_writesNotice_2 18 rfl rfl)
theorem dX4_writesNotice_67 : decode cX4_writesNotice 67 = .ok (.aload_n 0, 1) := dk_42 (dk_at dksX4_writesNotice_2 21 rfl rfl)
theorem dX4_writesNotice_68 : decode cX4_writesNotice 68 = .ok (.iload 5, 2) := dk_21 5 (dk_at dksX4_writesNotice_2 22 rfl rfl)
theorem dX4_writesNotice_70 : decode cX4_writesNotice 70 = .ok (.invokevirtual 137, 3) := dk_182 0 137 (dk_at dksX4_writesNotice_3 0 rfl rfl)
theorem dX4_writesNotice_73 : decode cX4_writesNotice 73 = .ok (.iload_n 2, 1) := dk_28 (dk_at dksX4_writesNotice_3 3 rfl rfl)
theorem dX4_writesNotice_74 : decode cX4_writesNotice 74 = .ok (.if_icmp .eq 6, 3) := dk_159 0 6 (dk_at dksX4_writesNotice_3 4 rfl rfl)
theorem dX4_writesNotice_77 : decode cX4_writesNotice 77 = .ok (.goto 21, 3) := dk_167 0 21 (dk_at dksX4_writesNotice_3 7 rfl rfl)
theorem dX4_writesNotice_80 : decode cX4_writesNotice 80 = .ok (.iload_n 3, 1) := dk_29 (dk_at dksX4_writesNotice_3 10 rfl rfl)
theorem dX4_writesNotice_81 : decode cX4_writesNotice 81 = .ok (.iconst 1, 1) := dk_4 (dk_at dksX4_writesNotice_3 11 rfl rfl)
theorem dX4_writesNotice_82 : decode cX4_writesNotice 82 = .ok (.iload 5, 2) := dk_21 5 (dk_at dksX4_writesNotice_3 12 rfl rfl)
theorem dX4_writesNotice_84 : decode cX4_writesNotice 84 = .ok (.ishl, 1) := dk_120 (dk_at dksX4_writesNotice_3 14 rfl rfl)
theorem dX4_writesNotice_85 : decode cX4_writesNotice 85 = .ok (.ior, 1) := dk_128 (dk_at dksX4_writesNotice_3 15 rfl rfl)
theorem dX4_writesNotice_86 : decode cX4_writesNotice 86 = .ok (.istore_n 3, 1) := dk_62 (dk_at dksX4_writesNotice_3 16 rfl rfl)
theorem dX4_writesNotice_87 : decode cX4_writesNotice 87 = .ok (.iload 4, 2) := dk_21 4 (dk_at dksX4_writesNotice_3 17 rfl rfl)
theorem dX4_writesNotice_89 : decode cX4_writesNotice 89 = .ok (.aload_n 0, 1) := dk_42 (dk_at dksX4_writesNotice_3 19 rfl rfl)
theorem dX4_writesNotice_90 : decode cX4_writesNotice 90 = .ok (.iload 5, 2) := dk_21 5 (dk_at dksX4_writesNotice_3 20 rfl rfl)
theorem dX4_writesNotice_92 : decode cX4_writesNotice 92 = .ok (.invokevirtual 168, 3) := dk_182 0 168 (dk_at dksX4_writesNotice_4 0 rfl rfl)
theorem dX4_writesNotice_95 : decode cX4_writesNotice 95 = .ok (.ior, 1) := dk_128 (dk_at dksX4_writesNotice_4 3 rfl rfl)
theorem dX4_writesNotice_96 : decode cX4_writesNotice 96 = .ok (.istore 4, 2) := dk_54 4 (dk_at dksX4_writesNotice_4 4 rfl rfl)
theorem dX4_writesNotice_98 : decode cX4_writesNotice 98 = .ok (.iinc 5 1, 3) := dk_132 5 1 (dk_at dksX4_writesNotice_4 6 rfl rfl)
theorem dX4_writesNotice_101 : decode cX4_writesNotice 101 = .ok (.goto (-63), 3) := dk_167 255 193 (dk_at dksX4_writesNotice_4 9 rfl rfl)
theorem dX4_writesNotice_104 : decode cX4_writesNotice 104 = .ok (.iload_n 3, 1) := dk_29 (dk_at dksX4_writesNotice_4 12 rfl rfl)
theorem dX4_writesNotice_105 : decode cX4_writesNotice 105 = .ok (.ifCond .ne 6, 3) := dk_154 0 6 (dk_at dksX4_writesNotice_4 13 rfl rfl)
theorem dX4_writesNotice_108 : decode cX4_writesNotice 108 = .ok (.goto 58, 3) := dk_167 0 58 (dk_at dksX4_writesNotice_4 16 rfl rfl)
theorem dX4_writesNotice_111 : decode cX4_writesNotice 111 = .ok (.aload_n 0, 1) := dk_42 (dk_at dksX4_writesNotice_4 19 rfl rfl)
theorem dX4_writesNotice_112 : decode cX4_writesNotice 112 = .ok (.getfield 60, 3) := dk_180 0 60 (dk_at dksX4_writesNotice_4 20 rfl rfl)
theorem dX4_writesNotice_115 : decode cX4_writesNotice 115 = .ok (.ifCond .le 15, 3) := dk_158 0 15 (dk_at dksX4_writesNotice_5 0 rfl rfl)
theorem dX4_writesNotice_118 : decode cX4_writesNotice 118 = .ok (.aload_n 0, 1) := dk_42 (dk_at dksX4_writesNotice_5 3 rfl rfl)
theorem dX4_writesNotice_119 : decode cX4_writesNotice 119 = .ok (.bipush 59, 2) := dk_16 59 (dk_at dksX4_writesNotice_5 4 rfl rfl)
theorem dX4_writesNotice_121 : decode cX4_writesNotice 121 = .ok (.invokevirtual 208, 3) := dk_182 0 208 (dk_at dksX4_writesNotice_5 6 rfl rfl)
theorem dX4_writesNotice_124 : decode cX4_writesNotice 124 = .ok (.aload_n 0, 1) := dk_42 (dk_at dksX4_writesNotice_5 9 rfl rfl)
theorem dX4_writesNotice_125 : decode cX4_writesNotice 125 = .ok (.bipush 32, 2) := dk_16 32 (dk_at dksX4_writesNotice_5 10 rfl rfl)
theorem dX4_writesNotice_127 : decode cX4_writesNotice 127 = .ok (.invokevirtual 208, 3) := dk_182 0 208 (dk_at dksX4_writesNotice_5 12 rfl rfl)
theorem dX4_writesNotice_130 : decode cX4_writesNotice 130 = .ok (.aload_n 0, 1) := dk_42 (dk_at dksX4_writesNotice_5 15 rfl rfl)
theorem dX4_writesNotice_131 : decode cX4_writesNotice 131 = .ok (.bipush 48, 2) := dk_16 48 (dk_at dksX4_writesNotice_5 16 rfl rfl)
theorem dX4_writesNotice_133 : decode cX4_writesNotice 133 = .ok (.iload_n 2, 1) := dk_28 (dk_at dksX4_writesNotice_5 18 rfl rfl)
theorem dX4_writesNotice_134 : decode cX4_writesNotice 134 = .ok (.iadd, 1) := dk_96 (dk_at dksX4_writesNotice_5 19 rfl rfl)
theorem dX4_writesNotice_135 : decode cX4_writesNotice 135 = .ok (.invokevirtual 208, 3) := dk_182 0 208 (dk_at dksX4_writesNotice_5 20 rfl rfl)
theorem dX4_writesNotice_138 : decode cX4_writesNotice 138 = .ok (.aload_n 0, 1) := dk_42 (dk_at dksX4_writesNotice_5 23 rfl rfl)
theorem dX4_writesNotice_139 : decode cX4_writesNotice 139 = .ok (.bipush 58, 2) := dk_16 58 (dk_at dksX4_writesNotice_6 0 rfl rfl)
theorem dX4_writesNotice_141 : decode cX4_writesNotice 141 = .ok (.invokevirtual 208, 3) := dk_182 0 208 (dk_at dksX4_writesNotice_6 2 rfl rfl)
theorem dX4_writesNotice_144 : decode cX4_writesNotice 144 = .ok (.aload_n 0, 1) := dk_42 (dk_at dksX4_writesNotice_6 5 rfl rfl)
theorem dX4_writesNotice_145 : decode cX4_writesNotice 145 = .ok (.iload_n 3, 1) := dk_29 (dk_at dksX4_writesNotice_6 6 rfl rfl)
theorem dX4_writesNotice_146 : decode cX4_writesNotice 146 = .ok (.invokevirtual 212, 3) := dk_182 0 212 (dk_at dksX4_writesNotice_6 7 rfl rfl)
theorem dX4_writesNotice_149 : decode cX4_writesNotice 149 = .ok (.iload 4, 2) := dk_21 4 (dk_at dksX4_writesNotice_6 10 rfl rfl)
theorem dX4_writesNotice_151 : decode cX4_writesNotice 151 = .ok (.ifCond .eq 9, 3) := dk_153 0 9 (dk_at dksX4_writesNotice_6 12 rfl rfl)
theorem dX4_writesNotice_154 : decode cX4_writesNotice 154 = .ok (.aload_n 0, 1) := dk_42 (dk_at dksX4_writesNotice_6 15 rfl rfl)
theorem dX4_writesNotice_155 : decode cX4_writesNotice 155 = .ok (.bipush 33, 2) := dk_16 33 (dk_at dksX4_writesNotice_6 16 rfl rfl)
theorem dX4_writesNotice_157 : decode cX4_writesNotice 157 = .ok (.invokevirtual 208, 3) := dk_182 0 208 (dk_at dksX4_writesNotice_6 18 rfl rfl)
theorem dX4_writesNotice_160 : decode cX4_writesNotice 160 = .ok (.aload_n 0, 1) := dk_42 (dk_at dksX4_writesNotice_6 21 rfl rfl)
theorem dX4_writesNotice_161 : decode cX4_writesNotice 161 = .ok (.iload 4, 2) := dk_21 4 (dk_at dksX4_writesNotice_6 22 rfl rfl)
theorem dX4_writesNotice_163 : decode cX4_writesNotice 163 = .ok (.invokevirtual 212, 3) := dk_182 0 212 (dk_at dksX4_writesNotice_7 0 rfl rfl)
theorem dX4_writesNotice_166 : decode cX4_writesNotice 166 = .ok (.iinc 2 1, 3) := dk_132 2 1 (dk_at dksX4_writesNotice_7 3 rfl rfl)
theorem dX4_writesNotice_169 : decode cX4_writesNotice 169 = .ok (.goto (-149), 3) := dk_167 255 107 (dk_at dksX4_writesNotice_7 6 rfl rfl)
theorem dX4_writesNotice_172 : decode cX4_writesNotice 172 = .ok (.aload_n 0, 1) := dk_42 (dk_at dksX4_writesNotice_7 9 rfl rfl)
theorem dX4_writesNotice_173 : decode cX4_writesNotice 173 = .ok (.getfield 13, 3) := dk_180 0 13 (dk_at dksX4_writesNotice_7 10 rfl rfl)
theorem dX4_writesNotice_176 : decode cX4_writesNotice 176 = .ok (.bipush 126, 2) := dk_16 126 (dk_at dksX4_writesNotice_7 13 rfl rfl)
theorem dX4_writesNotice_178 : decode cX4_writesNotice 178 = .ok (.iload_n 1, 1) := dk_27 (dk_at dksX4_writesNotice_7 15 rfl rfl)
theorem dX4_writesNotice_179 : decode cX4_writesNotice 179 = .ok (.iadd, 1) := dk_96 (dk_at dksX4_writesNotice_7 16 rfl rfl)
theorem dX4_writesNotice_180 : decode cX4_writesNotice 180 = .ok (.aload_n 0, 1) := dk_42 (dk_at dksX4_writesNotice_7 17 rfl rfl)
theorem dX4_writesNotice_181 : decode cX4_writesNotice 181 = .ok (.getfield 60, 3) := dk_180 0 60 (dk_at dksX4_writesNotice_7 18 rfl rfl)
theorem dX4_writesNotice_184 : decode cX4_writesNotice 184 = .ok (.iastore, 1) := dk_79 (dk_at dksX4_writesNotice_7 21 rfl rfl)
theorem dX4_writesNotice_185 : decode cX4_writesNotice 185 = .ok (.return_, 1) := dk_177 (dk_at dksX4_writesNotice_7 22 rfl rfl)
abbrev cX4_writes : ByteArray := prog_17_method_48_code
def yX4_writes : MethodName := ⟨RX4, "writes", "(I)V"⟩
def dkwX4_writes_1 : List UInt8 := [181, 0, 60, 177]
abbrev dktX4_writes_1 : List UInt8 := dkwX4_writes_1 ++ []
def dkwX4_writes_0 : List UInt8 := [42, 180, 0, 13, 42, 180, 0, 63, 42, 180, 0, 60, 96, 27, 79, 42, 89, 180, 0, 60, 4, 96]
abbrev dktX4_writes_0 : List UInt8 := dkwX4_writes_0 ++ dktX4_writes_1
theorem dksX4_writes_0 : cX4_writes.data.toList.drop 0 = dktX4_writes_0 := by decide +kernel
theorem dksX4_writes_1 : cX4_writes.data.toList.drop 22 = dktX4_writes_1 := dk_seg dksX4_writes_0 22 rfl rfl
theorem dX4_writes_0 : decode cX4_writes 0 = .ok (.aload_n 0, 1) := dk_42 (dk_at dksX4_writes_0 0 rfl rfl)
theorem dX4_writes_1 : decode cX4_writes 1 = .ok (.getfield 13, 3) := dk_180 0 13 (dk_at dksX4_writes_0 1 rfl rfl)
theorem dX4_writes_4 : decode cX4_writes 4 = .ok (.aload_n 0, 1) := dk_42 (dk_at dksX4_writes_0 4 rfl rfl)
theorem dX4_writes_5 : decode cX4_writes 5 = .ok (.getfield 63, 3) := dk_180 0 63 (dk_at dksX4_writes_0 5 rfl rfl)
theorem dX4_writes_8 : decode cX4_writes 8 = .ok (.aload_n 0, 1) := dk_42 (dk_at dksX4_writes_0 8 rfl rfl)
theorem dX4_writes_9 : decode cX4_writes 9 = .ok (.getfield 60, 3) := dk_180 0 60 (dk_at dksX4_writes_0 9 rfl rfl)
theorem dX4_writes_12 : decode cX4_writes 12 = .ok (.iadd, 1) := dk_96 (dk_at dksX4_writes_0 12 rfl rfl)
theorem dX4_writes_13 : decode cX4_writes 13 = .ok (.iload_n 1, 1) := dk_27 (dk_at dksX4_writes_0 13 rfl rfl)
theorem dX4_writes_14 : decode cX4_writes 14 = .ok (.iastore, 1) := dk_79 (dk_at dksX4_writes_0 14 rfl rfl)
theorem dX4_writes_15 : decode cX4_writes 15 = .ok (.aload_n 0, 1) := dk_42 (dk_at dksX4_writes_0 15 rfl rfl)
theorem dX4_writes_16 : decode cX4_writes 16 = .ok (.dup, 1) := dk_89 (dk_at dksX4_writes_0 16 rfl rfl)
theorem dX4_writes_17 : decode cX4_writes 17 = .ok (.getfield 60, 3) := dk_180 0 60 (dk_at dksX4_writes_0 17 rfl rfl)
theorem dX4_writes_20 : decode cX4_writes 20 = .ok (.iconst 1, 1) := dk_4 (dk_at dksX4_writes_0 20 rfl rfl)
theorem dX4_writes_21 : decode cX4_writes 21 = .ok (.iadd, 1) := dk_96 (dk_at dksX4_writes_0 21 rfl rfl)
theorem dX4_writes_22 : decode cX4_writes 22 = .ok (.putfield 60, 3) := dk_181 0 60 (dk_at dksX4_writes_1 0 rfl rfl)
theorem dX4_writes_25 : decode cX4_writes 25 = .ok (.return_, 1) := dk_177 (dk_at dksX4_writes_1 3 rfl rfl)
abbrev cX4_writesSet : ByteArray := prog_17_method_49_code
def yX4_writesSet : MethodName := ⟨RX4, "writesSet", "(I)V"⟩
def dkwX4_writesSet_1 : List UInt8 := [182, 0, 208, 42, 16, 48, 28, 96, 182, 0, 208, 132, 2, 1, 167, 255, 222, 177]
abbrev dktX4_writesSet_1 : List UInt8 := dkwX4_writesSet_1 ++ []
def dkwX4_writesSet_0 : List UInt8 := [3, 61, 28, 16, 10, 162, 0, 34, 27, 28, 122, 4, 126, 154, 0, 6, 167, 0, 17, 42, 16, 32]
abbrev dktX4_writesSet_0 : List UInt8 := dkwX4_writesSet_0 ++ dktX4_writesSet_1
theorem dksX4_writesSet_0 : cX4_writesSet.data.toList.drop 0 = dktX4_writesSet_0 := by decide +kernel
theorem dksX4_writesSet_1 : cX4_writesSet.data.toList.drop 22 = dktX4_writesSet_1 := dk_seg dksX4_writesSet_0 22 rfl rfl
theorem dX4_writesSet_0 : decode cX4_writesSet 0 = .ok (.iconst 0, 1) := dk_3 (dk_at dksX4_writesSet_0 0 rfl rfl)
theorem dX4_writesSet_1 : decode cX4_writesSet 1 = .ok (.istore_n 2, 1) := dk_61 (dk_at dksX4_writesSet_0 1 rfl rfl)
theorem dX4_writesSet_2 : decode cX4_writesSet 2 = .ok (.iload_n 2, 1) := dk_28 (dk_at dksX4_writesSet_0 2 rfl rfl)
theorem dX4_writesSet_3 : decode cX4_writesSet 3 = .ok (.bipush 10, 2) := dk_16 10 (dk_at dksX4_writesSet_0 3 rfl rfl)
theorem dX4_writesSet_5 : decode cX4_writesSet 5 = .ok (.if_icmp .ge 34, 3) := dk_162 0 34 (dk_at dksX4_writesSet_0 5 rfl rfl)
theorem dX4_writesSet_8 : decode cX4_writesSet 8 = .ok (.iload_n 1, 1) := dk_27 (dk_at dksX4_writesSet_0 8 rfl rfl)
theorem dX4_writesSet_9 : decode cX4_writesSet 9 = .ok (.iload_n 2, 1) := dk_28 (dk_at dksX4_writesSet_0 9 rfl rfl)
theorem dX4_writesSet_10 : decode cX4_writesSet 10 = .ok (.ishr, 1) := dk_122 (dk_at dksX4_writesSet_0 10 rfl rfl)
theorem dX4_writesSet_11 : decode cX4_writesSet 11 = .ok (.iconst 1, 1) := dk_4 (dk_at dksX4_writesSet_0 11 rfl rfl)
theorem dX4_writesSet_12 : decode cX4_writesSet 12 = .ok (.iand, 1) := dk_126 (dk_at dksX4_writesSet_0 12 rfl rfl)
theorem dX4_writesSet_13 : decode cX4_writesSet 13 = .ok (.ifCond .ne 6, 3) := dk_154 0 6 (dk_at dksX4_writesSet_0 13 rfl rfl)
theorem dX4_writesSet_16 : decode cX4_writesSet 16 = .ok (.goto 17, 3) := dk_167 0 17 (dk_at dksX4_writesSet_0 16 rfl rfl)
theorem dX4_writesSet_19 : decode cX4_writesSet 19 = .ok (.aload_n 0, 1) := dk_42 (dk_at dksX4_writesSet_0 19 rfl rfl)
theorem dX4_writesSet_20 : decode cX4_writesSet 20 = .ok (.bipush 32, 2) := dk_16 32 (dk_at dksX4_writesSet_0 20 rfl rfl)
theorem dX4_writesSet_22 : decode cX4_writesSet 22 = .ok (.invokevirtual 208, 3) := dk_182 0 208 (dk_at dksX4_writesSet_1 0 rfl rfl)
theorem dX4_writesSet_25 : decode cX4_writesSet 25 = .ok (.aload_n 0, 1) := dk_42 (dk_at dksX4_writesSet_1 3 rfl rfl)
theorem dX4_writesSet_26 : decode cX4_writesSet 26 = .ok (.bipush 48, 2) := dk_16 48 (dk_at dksX4_writesSet_1 4 rfl rfl)
theorem dX4_writesSet_28 : decode cX4_writesSet 28 = .ok (.iload_n 2, 1) := dk_28 (dk_at dksX4_writesSet_1 6 rfl rfl)
theorem dX4_writesSet_29 : decode cX4_writesSet 29 = .ok (.iadd, 1) := dk_96 (dk_at dksX4_writesSet_1 7 rfl rfl)
theorem dX4_writesSet_30 : decode cX4_writesSet 30 = .ok (.invokevirtual 208, 3) := dk_182 0 208 (dk_at dksX4_writesSet_1 8 rfl rfl)
theorem dX4_writesSet_33 : decode cX4_writesSet 33 = .ok (.iinc 2 1, 3) := dk_132 2 1 (dk_at dksX4_writesSet_1 11 rfl rfl)
theorem dX4_writesSet_36 : decode cX4_writesSet 36 = .ok (.goto (-34), 3) := dk_167 255 222 (dk_at dksX4_writesSet_1 14 rfl rfl)
theorem dX4_writesSet_39 : decode cX4_writesSet 39 = .ok (.return_, 1) := dk_177 (dk_at dksX4_writesSet_1 17 rfl rfl)
abbrev cX4_refusal : ByteArray := prog_17_method_52_code
def yX4_refusal : MethodName := ⟨RX4, "refusal", "(I)I"⟩
def dkwX4_refusal_1 : List UInt8 := [4, 100, 184, 0, 113, 153, 0, 12, 42, 180, 0, 54, 27, 46, 167, 0, 8, 42, 5, 182, 0, 120, 172]
abbrev dktX4_refusal_1 : List UInt8 := dkwX4_refusal_1 ++ []
def dkwX4_refusal_0 : List UInt8 := [42, 3, 181, 0, 9, 42, 180, 0, 57, 154, 0, 9, 42, 4, 182, 0, 120, 172, 27, 3, 42, 180, 0, 57]
abbrev dktX4_refusal_0 : List UInt8 := dkwX4_refusal_0 ++ dktX4_refusal_1
theorem dksX4_refusal_0 : cX4_refusal.data.toList.drop 0 = dktX4_refusal_0 := by decide +kernel
theorem dksX4_refusal_1 : cX4_refusal.data.toList.drop 24 = dktX4_refusal_1 := dk_seg dksX4_refusal_0 24 rfl rfl
theorem dX4_refusal_0 : decode cX4_refusal 0 = .ok (.aload_n 0, 1) := dk_42 (dk_at dksX4_refusal_0 0 rfl rfl)
theorem dX4_refusal_1 : decode cX4_refusal 1 = .ok (.iconst 0, 1) := dk_3 (dk_at dksX4_refusal_0 1 rfl rfl)
theorem dX4_refusal_2 : decode cX4_refusal 2 = .ok (.putfield 9, 3) := dk_181 0 9 (dk_at dksX4_refusal_0 2 rfl rfl)
theorem dX4_refusal_5 : decode cX4_refusal 5 = .ok (.aload_n 0, 1) := dk_42 (dk_at dksX4_refusal_0 5 rfl rfl)
theorem dX4_refusal_6 : decode cX4_refusal 6 = .ok (.getfield 57, 3) := dk_180 0 57 (dk_at dksX4_refusal_0 6 rfl rfl)
theorem dX4_refusal_9 : decode cX4_refusal 9 = .ok (.ifCond .ne 9, 3) := dk_154 0 9 (dk_at dksX4_refusal_0 9 rfl rfl)
theorem dX4_refusal_12 : decode cX4_refusal 12 = .ok (.aload_n 0, 1) := dk_42 (dk_at dksX4_refusal_0 12 rfl rfl)
theorem dX4_refusal_13 : decode cX4_refusal 13 = .ok (.iconst 1, 1) := dk_4 (dk_at dksX4_refusal_0 13 rfl rfl)
theorem dX4_refusal_14 : decode cX4_refusal 14 = .ok (.invokevirtual 120, 3) := dk_182 0 120 (dk_at dksX4_refusal_0 14 rfl rfl)
theorem dX4_refusal_17 : decode cX4_refusal 17 = .ok (.ireturn, 1) := dk_172 (dk_at dksX4_refusal_0 17 rfl rfl)
theorem dX4_refusal_18 : decode cX4_refusal 18 = .ok (.iload_n 1, 1) := dk_27 (dk_at dksX4_refusal_0 18 rfl rfl)
theorem dX4_refusal_19 : decode cX4_refusal 19 = .ok (.iconst 0, 1) := dk_3 (dk_at dksX4_refusal_0 19 rfl rfl)
theorem dX4_refusal_20 : decode cX4_refusal 20 = .ok (.aload_n 0, 1) := dk_42 (dk_at dksX4_refusal_0 20 rfl rfl)
theorem dX4_refusal_21 : decode cX4_refusal 21 = .ok (.getfield 57, 3) := dk_180 0 57 (dk_at dksX4_refusal_0 21 rfl rfl)
theorem dX4_refusal_24 : decode cX4_refusal 24 = .ok (.iconst 1, 1) := dk_4 (dk_at dksX4_refusal_1 0 rfl rfl)
theorem dX4_refusal_25 : decode cX4_refusal 25 = .ok (.isub, 1) := dk_100 (dk_at dksX4_refusal_1 1 rfl rfl)
theorem dX4_refusal_26 : decode cX4_refusal 26 = .ok (.invokestatic 113, 3) := dk_184 0 113 (dk_at dksX4_refusal_1 2 rfl rfl)
theorem dX4_refusal_29 : decode cX4_refusal 29 = .ok (.ifCond .eq 12, 3) := dk_153 0 12 (dk_at dksX4_refusal_1 5 rfl rfl)
theorem dX4_refusal_32 : decode cX4_refusal 32 = .ok (.aload_n 0, 1) := dk_42 (dk_at dksX4_refusal_1 8 rfl rfl)
theorem dX4_refusal_33 : decode cX4_refusal 33 = .ok (.getfield 54, 3) := dk_180 0 54 (dk_at dksX4_refusal_1 9 rfl rfl)
theorem dX4_refusal_36 : decode cX4_refusal 36 = .ok (.iload_n 1, 1) := dk_27 (dk_at dksX4_refusal_1 12 rfl rfl)
theorem dX4_refusal_37 : decode cX4_refusal 37 = .ok (.iaload, 1) := dk_46 (dk_at dksX4_refusal_1 13 rfl rfl)
theorem dX4_refusal_38 : decode cX4_refusal 38 = .ok (.goto 8, 3) := dk_167 0 8 (dk_at dksX4_refusal_1 14 rfl rfl)
theorem dX4_refusal_41 : decode cX4_refusal 41 = .ok (.aload_n 0, 1) := dk_42 (dk_at dksX4_refusal_1 17 rfl rfl)
theorem dX4_refusal_42 : decode cX4_refusal 42 = .ok (.iconst 2, 1) := dk_5 (dk_at dksX4_refusal_1 18 rfl rfl)
theorem dX4_refusal_43 : decode cX4_refusal 43 = .ok (.invokevirtual 120, 3) := dk_182 0 120 (dk_at dksX4_refusal_1 19 rfl rfl)
theorem dX4_refusal_46 : decode cX4_refusal 46 = .ok (.ireturn, 1) := dk_172 (dk_at dksX4_refusal_1 22 rfl rfl)
abbrev cX4_notice : ByteArray := prog_17_method_53_code
def yX4_notice : MethodName := ⟨RX4, "notice", "(II)C"⟩
def dkwX4_notice_3 : List UInt8 := [5, 182, 0, 120, 146, 172]
abbrev dktX4_notice_3 : List UInt8 := dkwX4_notice_3 ++ []
def dkwX4_notice_2 : List UInt8 := [153, 0, 23, 42, 180, 0, 13, 17, 0, 132, 17, 0, 240, 27, 104, 96, 28, 96, 46, 146, 167, 0, 9, 42]
abbrev dktX4_notice_2 : List UInt8 := dkwX4_notice_2 ++ dktX4_notice_3
def dkwX4_notice_1 : List UInt8 := [16, 120, 27, 96, 46, 158, 0, 42, 28, 3, 42, 180, 0, 13, 16, 126, 27, 96, 46, 4, 100, 184, 0, 113]
abbrev dktX4_notice_1 : List UInt8 := dkwX4_notice_1 ++ dktX4_notice_2
def dkwX4_notice_0 : List UInt8 := [42, 3, 181, 0, 9, 42, 27, 182, 0, 140, 154, 0, 10, 42, 4, 182, 0, 120, 146, 172, 42, 180, 0, 13]
abbrev dktX4_notice_0 : List UInt8 := dkwX4_notice_0 ++ dktX4_notice_1
theorem dksX4_notice_0 : cX4_notice.data.toList.drop 0 = dktX4_notice_0 := by decide +kernel
theorem dksX4_notice_1 : cX4_notice.data.toList.drop 24 = dktX4_notice_1 := dk_seg dksX4_notice_0 24 rfl rfl
theorem dksX4_notice_2 : cX4_notice.data.toList.drop 48 = dktX4_notice_2 := dk_seg dksX4_notice_1 24 rfl rfl
theorem dksX4_notice_3 : cX4_notice.data.toList.drop 72 = dktX4_notice_3 := dk_seg dksX4_notice_2 24 rfl rfl
theorem dX4_notice_0 : decode cX4_notice 0 = .ok (.aload_n 0, 1) := dk_42 (dk_at dksX4_notice_0 0 rfl rfl)
theorem dX4_notice_1 : decode cX4_notice 1 = .ok (.iconst 0, 1) := dk_3 (dk_at dksX4_notice_0 1 rfl rfl)
theorem dX4_notice_2 : decode cX4_notice 2 = .ok (.putfield 9, 3) := dk_181 0 9 (dk_at dksX4_notice_0 2 rfl rfl)
theorem dX4_notice_5 : decode cX4_notice 5 = .ok (.aload_n 0, 1) := dk_42 (dk_at dksX4_notice_0 5 rfl rfl)
theorem dX4_notice_6 : decode cX4_notice 6 = .ok (.iload_n 1, 1) := dk_27 (dk_at dksX4_notice_0 6 rfl rfl)
theorem dX4_notice_7 : decode cX4_notice 7 = .ok (.invokevirtual 140, 3) := dk_182 0 140 (dk_at dksX4_notice_0 7 rfl rfl)
theorem dX4_notice_10 : decode cX4_notice 10 = .ok (.ifCond .ne 10, 3) := dk_154 0 10 (dk_at dksX4_notice_0 10 rfl rfl)
theorem dX4_notice_13 : decode cX4_notice 13 = .ok (.aload_n 0, 1) := dk_42 (dk_at dksX4_notice_0 13 rfl rfl)
theorem dX4_notice_14 : decode cX4_notice 14 = .ok (.iconst 1, 1) := dk_4 (dk_at dksX4_notice_0 14 rfl rfl)
theorem dX4_notice_15 : decode cX4_notice 15 = .ok (.invokevirtual 120, 3) := dk_182 0 120 (dk_at dksX4_notice_0 15 rfl rfl)
theorem dX4_notice_18 : decode cX4_notice 18 = .ok (.i2c, 1) := dk_146 (dk_at dksX4_notice_0 18 rfl rfl)
theorem dX4_notice_19 : decode cX4_notice 19 = .ok (.ireturn, 1) := dk_172 (dk_at dksX4_notice_0 19 rfl rfl)
theorem dX4_notice_20 : decode cX4_notice 20 = .ok (.aload_n 0, 1) := dk_42 (dk_at dksX4_notice_0 20 rfl rfl)
theorem dX4_notice_21 : decode cX4_notice 21 = .ok (.getfield 13, 3) := dk_180 0 13 (dk_at dksX4_notice_0 21 rfl rfl)
theorem dX4_notice_24 : decode cX4_notice 24 = .ok (.bipush 120, 2) := dk_16 120 (dk_at dksX4_notice_1 0 rfl rfl)
theorem dX4_notice_26 : decode cX4_notice 26 = .ok (.iload_n 1, 1) := dk_27 (dk_at dksX4_notice_1 2 rfl rfl)
theorem dX4_notice_27 : decode cX4_notice 27 = .ok (.iadd, 1) := dk_96 (dk_at dksX4_notice_1 3 rfl rfl)
theorem dX4_notice_28 : decode cX4_notice 28 = .ok (.iaload, 1) := dk_46 (dk_at dksX4_notice_1 4 rfl rfl)
theorem dX4_notice_29 : decode cX4_notice 29 = .ok (.ifCond .le 42, 3) := dk_158 0 42 (dk_at dksX4_notice_1 5 rfl rfl)
theorem dX4_notice_32 : decode cX4_notice 32 = .ok (.iload_n 2, 1) := dk_28 (dk_at dksX4_notice_1 8 rfl rfl)
theorem dX4_notice_33 : decode cX4_notice 33 = .ok (.iconst 0, 1) := dk_3 (dk_at dksX4_notice_1 9 rfl rfl)
theorem dX4_notice_34 : decode cX4_notice 34 = .ok (.aload_n 0, 1) := dk_42 (dk_at dksX4_notice_1 10 rfl rfl)
theorem dX4_notice_35 : decode cX4_notice 35 = .ok (.getfield 13, 3) := dk_180 0 13 (dk_at dksX4_notice_1 11 rfl rfl)
theorem dX4_notice_38 : decode cX4_notice 38 = .ok (.bipush 126, 2) := dk_16 126 (dk_at dksX4_notice_1 14 rfl rfl)
theorem dX4_notice_40 : decode cX4_notice 40 = .ok (.iload_n 1, 1) := dk_27 (dk_at dksX4_notice_1 16 rfl rfl)
theorem dX4_notice_41 : decode cX4_notice 41 = .ok (.iadd, 1) := dk_96 (dk_at dksX4_notice_1 17 rfl rfl)
theorem dX4_notice_42 : decode cX4_notice 42 = .ok (.iaload, 1) := dk_46 (dk_at dksX4_notice_1 18 rfl rfl)
theorem dX4_notice_43 : decode cX4_notice 43 = .ok (.iconst 1, 1) := dk_4 (dk_at dksX4_notice_1 19 rfl rfl)
theorem dX4_notice_44 : decode cX4_notice 44 = .ok (.isub, 1) := dk_100 (dk_at dksX4_notice_1 20 rfl rfl)
theorem dX4_notice_45 : decode cX4_notice 45 = .ok (.invokestatic 113, 3) := dk_184 0 113 (dk_at dksX4_notice_1 21 rfl rfl)
theorem dX4_notice_48 : decode cX4_notice 48 = .ok (.ifCond .eq 23, 3) := dk_153 0 23 (dk_at dksX4_notice_2 0 rfl rfl)
theorem dX4_notice_51 : decode cX4_notice 51 = .ok (.aload_n 0, 1) := dk_42 (dk_at dksX4_notice_2 3 rfl rfl)
theorem dX4_notice_52 : decode cX4_notice 52 = .ok (.getfield 13, 3) := dk_180 0 13 (dk_at dksX4_notice_2 4 rfl rfl)
theorem dX4_notice_55 : decode cX4_notice 55 = .ok (.sipush 132, 3) := dk_17 0 132 (dk_at dksX4_notice_2 7 rfl rfl)
theorem dX4_notice_58 : decode cX4_notice 58 = .ok (.sipush 240, 3) := dk_17 0 240 (dk_at dksX4_notice_2 10 rfl rfl)
theorem dX4_notice_61 : decode cX4_notice 61 = .ok (.iload_n 1, 1) := dk_27 (dk_at dksX4_notice_2 13 rfl rfl)
theorem dX4_notice_62 : decode cX4_notice 62 = .ok (.imul, 1) := dk_104 (dk_at dksX4_notice_2 14 rfl rfl)
theorem dX4_notice_63 : decode cX4_notice 63 = .ok (.iadd, 1) := dk_96 (dk_at dksX4_notice_2 15 rfl rfl)
theorem dX4_notice_64 : decode cX4_notice 64 = .ok (.iload_n 2, 1) := dk_28 (dk_at dksX4_notice_2 16 rfl rfl)
theorem dX4_notice_65 : decode cX4_notice 65 = .ok (.iadd, 1) := dk_96 (dk_at dksX4_notice_2 17 rfl rfl)
theorem dX4_notice_66 : decode cX4_notice 66 = .ok (.iaload, 1) := dk_46 (dk_at dksX4_notice_2 18 rfl rfl)
theorem dX4_notice_67 : decode cX4_notice 67 = .ok (.i2c, 1) := dk_146 (dk_at dksX4_notice_2 19 rfl rfl)
theorem dX4_notice_68 : decode cX4_notice 68 = .ok (.goto 9, 3) := dk_167 0 9 (dk_at dksX4_notice_2 20 rfl rfl)
theorem dX4_notice_71 : decode cX4_notice 71 = .ok (.aload_n 0, 1) := dk_42 (dk_at dksX4_notice_2 23 rfl rfl)
theorem dX4_notice_72 : decode cX4_notice 72 = .ok (.iconst 2, 1) := dk_5 (dk_at dksX4_notice_3 0 rfl rfl)
theorem dX4_notice_73 : decode cX4_notice 73 = .ok (.invokevirtual 120, 3) := dk_182 0 120 (dk_at dksX4_notice_3 1 rfl rfl)
theorem dX4_notice_76 : decode cX4_notice 76 = .ok (.i2c, 1) := dk_146 (dk_at dksX4_notice_3 4 rfl rfl)
theorem dX4_notice_77 : decode cX4_notice 77 = .ok (.ireturn, 1) := dk_172 (dk_at dksX4_notice_3 5 rfl rfl)
abbrev cX4_desk : ByteArray := prog_17_method_54_code
def yX4_desk : MethodName := ⟨RX4, "desk", "(I)I"⟩
def dkwX4_desk_9 : List UInt8 := [180, 0, 13, 6, 46, 172, 42, 180, 0, 76, 172, 42, 180, 0, 26, 172, 42, 4, 182, 0, 120, 172]
abbrev dktX4_desk_9 : List UInt8 := dkwX4_desk_9 ++ []
def dkwX4_desk_8 : List UInt8 := [29, 96, 46, 158, 0, 7, 4, 167, 0, 4, 3, 96, 61, 132, 3, 1, 167, 255, 223, 28, 172, 42]
abbrev dktX4_desk_8 : List UInt8 := dkwX4_desk_8 ++ dktX4_desk_9
def dkwX4_desk_7 : List UInt8 := [167, 255, 231, 28, 172, 3, 62, 29, 42, 180, 0, 13, 5, 46, 162, 0, 29, 28, 42, 180, 0, 13, 16, 120]
abbrev dktX4_desk_7 : List UInt8 := dkwX4_desk_7 ++ dktX4_desk_8
def dkwX4_desk_6 : List UInt8 := [180, 0, 13, 4, 46, 162, 0, 21, 28, 42, 180, 0, 13, 16, 98, 29, 96, 46, 96, 61, 132, 3, 1]
abbrev dktX4_desk_6 : List UInt8 := dkwX4_desk_6 ++ dktX4_desk_7
def dkwX4_desk_5 : List UInt8 := [153, 0, 7, 4, 167, 0, 4, 3, 96, 61, 132, 3, 1, 167, 255, 227, 28, 172, 3, 62, 29, 42]
abbrev dktX4_desk_5 : List UInt8 := dkwX4_desk_5 ++ dktX4_desk_6
def dkwX4_desk_4 : List UInt8 := [167, 255, 231, 28, 172, 3, 62, 29, 42, 180, 0, 13, 4, 46, 162, 0, 25, 28, 42, 29, 182, 0, 134]
abbrev dktX4_desk_4 : List UInt8 := dkwX4_desk_4 ++ dktX4_desk_5
def dkwX4_desk_3 : List UInt8 := [42, 180, 0, 13, 4, 46, 162, 0, 21, 28, 42, 180, 0, 13, 16, 88, 29, 96, 46, 96, 61, 132, 3, 1]
abbrev dktX4_desk_3 : List UInt8 := dkwX4_desk_3 ++ dktX4_desk_4
def dkwX4_desk_2 : List UInt8 := [42, 180, 0, 13, 3, 46, 172, 42, 180, 0, 13, 4, 46, 172, 42, 180, 0, 13, 5, 46, 172, 3, 62, 29]
abbrev dktX4_desk_2 : List UInt8 := dkwX4_desk_2 ++ dktX4_desk_3
def dkwX4_desk_1 : List UInt8 := [170, 0, 0, 0, 0, 0, 0, 234, 0, 0, 0, 0, 0, 0, 0, 9, 0, 0, 0, 56, 0, 0, 0, 63, 0, 0, 0, 70, 0, 0, 0, 77, 0, 0, 0, 109, 0, 0, 0, 145, 0, 0, 0, 177, 0, 0, 0, 217, 0, 0, 0, 224, 0, 0, 0, 229]
abbrev dktX4_desk_1 : List UInt8 := dkwX4_desk_1 ++ dktX4_desk_2
def dkwX4_desk_0 : List UInt8 := [42, 3, 181, 0, 9, 3, 61, 27]
abbrev dktX4_desk_0 : List UInt8 := dkwX4_desk_0 ++ dktX4_desk_1
theorem dksX4_desk_0 : cX4_desk.data.toList.drop 0 = dktX4_desk_0 := by decide +kernel
theorem dksX4_desk_1 : cX4_desk.data.toList.drop 8 = dktX4_desk_1 := dk_seg dksX4_desk_0 8 rfl rfl
theorem dksX4_desk_2 : cX4_desk.data.toList.drop 64 = dktX4_desk_2 := dk_seg dksX4_desk_1 56 rfl rfl
theorem dksX4_desk_3 : cX4_desk.data.toList.drop 88 = dktX4_desk_3 := dk_seg dksX4_desk_2 24 rfl rfl
theorem dksX4_desk_4 : cX4_desk.data.toList.drop 112 = dktX4_desk_4 := dk_seg dksX4_desk_3 24 rfl rfl
theorem dksX4_desk_5 : cX4_desk.data.toList.drop 135 = dktX4_desk_5 := dk_seg dksX4_desk_4 23 rfl rfl
theorem dksX4_desk_6 : cX4_desk.data.toList.drop 157 = dktX4_desk_6 := dk_seg dksX4_desk_5 22 rfl rfl
theorem dksX4_desk_7 : cX4_desk.data.toList.drop 180 = dktX4_desk_7 := dk_seg dksX4_desk_6 23 rfl rfl
theorem dksX4_desk_8 : cX4_desk.data.toList.drop 204 = dktX4_desk_8 := dk_seg dksX4_desk_7 24 rfl rfl
theorem dksX4_desk_9 : cX4_desk.data.toList.drop 226 = dktX4_desk_9 := dk_seg dksX4_desk_8 22 rfl rfl
theorem dX4_desk_0 : decode cX4_desk 0 = .ok (.aload_n 0, 1) := dk_42 (dk_at dksX4_desk_0 0 rfl rfl)
theorem dX4_desk_1 : decode cX4_desk 1 = .ok (.iconst 0, 1) := dk_3 (dk_at dksX4_desk_0 1 rfl rfl)
theorem dX4_desk_2 : decode cX4_desk 2 = .ok (.putfield 9, 3) := dk_181 0 9 (dk_at dksX4_desk_0 2 rfl rfl)
theorem dX4_desk_5 : decode cX4_desk 5 = .ok (.iconst 0, 1) := dk_3 (dk_at dksX4_desk_0 5 rfl rfl)
theorem dX4_desk_6 : decode cX4_desk 6 = .ok (.istore_n 2, 1) := dk_61 (dk_at dksX4_desk_0 6 rfl rfl)
theorem dX4_desk_7 : decode cX4_desk 7 = .ok (.iload_n 1, 1) := dk_27 (dk_at dksX4_desk_0 7 rfl rfl)
theorem dX4_desk_8 : decode cX4_desk 8 = .ok (.tableswitch 234 0 9 #[56, 63, 70, 77, 109, 145, 177, 217, 224, 229], 56) := by decide +kernel
theorem dX4_desk_64 : decode cX4_desk 64 = .ok (.aload_n 0, 1) := dk_42 (dk_at dksX4_desk_2 0 rfl rfl)
theorem dX4_desk_65 : decode cX4_desk 65 = .ok (.getfield 13, 3) := dk_180 0 13 (dk_at dksX4_desk_2 1 rfl rfl)
theorem dX4_desk_68 : decode cX4_desk 68 = .ok (.iconst 0, 1) := dk_3 (dk_at dksX4_desk_2 4 rfl rfl)
theorem dX4_desk_69 : decode cX4_desk 69 = .ok (.iaload, 1) := dk_46 (dk_at dksX4_desk_2 5 rfl rfl)
theorem dX4_desk_70 : decode cX4_desk 70 = .ok (.ireturn, 1) := dk_172 (dk_at dksX4_desk_2 6 rfl rfl)
theorem dX4_desk_71 : decode cX4_desk 71 = .ok (.aload_n 0, 1) := dk_42 (dk_at dksX4_desk_2 7 rfl rfl)
theorem dX4_desk_72 : decode cX4_desk 72 = .ok (.getfield 13, 3) := dk_180 0 13 (dk_at dksX4_desk_2 8 rfl rfl)
theorem dX4_desk_75 : decode cX4_desk 75 = .ok (.iconst 1, 1) := dk_4 (dk_at dksX4_desk_2 11 rfl rfl)
theorem dX4_desk_76 : decode cX4_desk 76 = .ok (.iaload, 1) := dk_46 (dk_at dksX4_desk_2 12 rfl rfl)
theorem dX4_desk_77 : decode cX4_desk 77 = .ok (.ireturn, 1) := dk_172 (dk_at dksX4_desk_2 13 rfl rfl)
theorem dX4_desk_78 : decode cX4_desk 78 = .ok (.aload_n 0, 1) := dk_42 (dk_at dksX4_desk_2 14 rfl rfl)
theorem dX4_desk_79 : decode cX4_desk 79 = .ok (.getfield 13, 3) := dk_180 0 13 (dk_at dksX4_desk_2 15 rfl rfl)
theorem dX4_desk_82 : decode cX4_desk 82 = .ok (.iconst 2, 1) := dk_5 (dk_at dksX4_desk_2 18 rfl rfl)
theorem dX4_desk_83 : decode cX4_desk 83 = .ok (.iaload, 1) := dk_46 (dk_at dksX4_desk_2 19 rfl rfl)
theorem dX4_desk_84 : decode cX4_desk 84 = .ok (.ireturn, 1) := dk_172 (dk_at dksX4_desk_2 20 rfl rfl)
theorem dX4_desk_85 : decode cX4_desk 85 = .ok (.iconst 0, 1) := dk_3 (dk_at dksX4_desk_2 21 rfl rfl)
theorem dX4_desk_86 : decode cX4_desk 86 = .ok (.istore_n 3, 1) := dk_62 (dk_at dksX4_desk_2 22 rfl rfl)
theorem dX4_desk_87 : decode cX4_desk 87 = .ok (.iload_n 3, 1) := dk_29 (dk_at dksX4_desk_2 23 rfl rfl)
theorem dX4_desk_88 : decode cX4_desk 88 = .ok (.aload_n 0, 1) := dk_42 (dk_at dksX4_desk_3 0 rfl rfl)
theorem dX4_desk_89 : decode cX4_desk 89 = .ok (.getfield 13, 3) := dk_180 0 13 (dk_at dksX4_desk_3 1 rfl rfl)
theorem dX4_desk_92 : decode cX4_desk 92 = .ok (.iconst 1, 1) := dk_4 (dk_at dksX4_desk_3 4 rfl rfl)
theorem dX4_desk_93 : decode cX4_desk 93 = .ok (.iaload, 1) := dk_46 (dk_at dksX4_desk_3 5 rfl rfl)
theorem dX4_desk_94 : decode cX4_desk 94 = .ok (.if_icmp .ge 21, 3) := dk_162 0 21 (dk_at dksX4_desk_3 6 rfl rfl)
theorem dX4_desk_97 : decode cX4_desk 97 = .ok (.iload_n 2, 1) := dk_28 (dk_at dksX4_desk_3 9 rfl rfl)
theorem dX4_desk_98 : decode cX4_desk 98 = .ok (.aload_n 0, 1) := dk_42 (dk_at dksX4_desk_3 10 rfl rfl)
theorem dX4_desk_99 : decode cX4_desk 99 = .ok (.getfield 13, 3) := dk_180 0 13 (dk_at dksX4_desk_3 11 rfl rfl)
theorem dX4_desk_102 : decode cX4_desk 102 = .ok (.bipush 88, 2) := dk_16 88 (dk_at dksX4_desk_3 14 rfl rfl)
theorem dX4_desk_104 : decode cX4_desk 104 = .ok (.iload_n 3, 1) := dk_29 (dk_at dksX4_desk_3 16 rfl rfl)
theorem dX4_desk_105 : decode cX4_desk 105 = .ok (.iadd, 1) := dk_96 (dk_at dksX4_desk_3 17 rfl rfl)
theorem dX4_desk_106 : decode cX4_desk 106 = .ok (.iaload, 1) := dk_46 (dk_at dksX4_desk_3 18 rfl rfl)
theorem dX4_desk_107 : decode cX4_desk 107 = .ok (.iadd, 1) := dk_96 (dk_at dksX4_desk_3 19 rfl rfl)
theorem dX4_desk_108 : decode cX4_desk 108 = .ok (.istore_n 2, 1) := dk_61 (dk_at dksX4_desk_3 20 rfl rfl)
theorem dX4_desk_109 : decode cX4_desk 109 = .ok (.iinc 3 1, 3) := dk_132 3 1 (dk_at dksX4_desk_3 21 rfl rfl)
theorem dX4_desk_112 : decode cX4_desk 112 = .ok (.goto (-25), 3) := dk_167 255 231 (dk_at dksX4_desk_4 0 rfl rfl)
theorem dX4_desk_115 : decode cX4_desk 115 = .ok (.iload_n 2, 1) := dk_28 (dk_at dksX4_desk_4 3 rfl rfl)
theorem dX4_desk_116 : decode cX4_desk 116 = .ok (.ireturn, 1) := dk_172 (dk_at dksX4_desk_4 4 rfl rfl)
theorem dX4_desk_117 : decode cX4_desk 117 = .ok (.iconst 0, 1) := dk_3 (dk_at dksX4_desk_4 5 rfl rfl)
theorem dX4_desk_118 : decode cX4_desk 118 = .ok (.istore_n 3, 1) := dk_62 (dk_at dksX4_desk_4 6 rfl rfl)
theorem dX4_desk_119 : decode cX4_desk 119 = .ok (.iload_n 3, 1) := dk_29 (dk_at dksX4_desk_4 7 rfl rfl)
theorem dX4_desk_120 : decode cX4_desk 120 = .ok (.aload_n 0, 1) := dk_42 (dk_at dksX4_desk_4 8 rfl rfl)
theorem dX4_desk_121 : decode cX4_desk 121 = .ok (.getfield 13, 3) := dk_180 0 13 (dk_at dksX4_desk_4 9 rfl rfl)
theorem dX4_desk_124 : decode cX4_desk 124 = .ok (.iconst 1, 1) := dk_4 (dk_at dksX4_desk_4 12 rfl rfl)
theorem dX4_desk_125 : decode cX4_desk 125 = .ok (.iaload, 1) := dk_46 (dk_at dksX4_desk_4 13 rfl rfl)
theorem dX4_desk_126 : decode cX4_desk 126 = .ok (.if_icmp .ge 25, 3) := dk_162 0 25 (dk_at dksX4_desk_4 14 rfl rfl)
theorem dX4_desk_129 : decode cX4_desk 129 = .ok (.iload_n 2, 1) := dk_28 (dk_at dksX4_desk_4 17 rfl rfl)
theorem dX4_desk_130 : decode cX4_desk 130 = .ok (.aload_n 0, 1) := dk_42 (dk_at dksX4_desk_4 18 rfl rfl)
theorem dX4_desk_131 : decode cX4_desk 131 = .ok (.iload_n 3, 1) := dk_29 (dk_at dksX4_desk_4 19 rfl rfl)
theorem dX4_desk_132 : decode cX4_desk 132 = .ok (.invokevirtual 134, 3) := dk_182 0 134 (dk_at dksX4_desk_4 20 rfl rfl)
theorem dX4_desk_135 : decode cX4_desk 135 = .ok (.ifCond .eq 7, 3) := dk_153 0 7 (dk_at dksX4_desk_5 0 rfl rfl)
theorem dX4_desk_138 : decode cX4_desk 138 = .ok (.iconst 1, 1) := dk_4 (dk_at dksX4_desk_5 3 rfl rfl)
theorem dX4_desk_139 : decode cX4_desk 139 = .ok (.goto 4, 3) := dk_167 0 4 (dk_at dksX4_desk_5 4 rfl rfl)
theorem dX4_desk_142 : decode cX4_desk 142 = .ok (.iconst 0, 1) := dk_3 (dk_at dksX4_desk_5 7 rfl rfl)
theorem dX4_desk_143 : decode cX4_desk 143 = .ok (.iadd, 1) := dk_96 (dk_at dksX4_desk_5 8 rfl rfl)
theorem dX4_desk_144 : decode cX4_desk 144 = .ok (.istore_n 2, 1) := dk_61 (dk_at dksX4_desk_5 9 rfl rfl)
theorem dX4_desk_145 : decode cX4_desk 145 = .ok (.iinc 3 1, 3) := dk_132 3 1 (dk_at dksX4_desk_5 10 rfl rfl)
theorem dX4_desk_148 : decode cX4_desk 148 = .ok (.goto (-29), 3) := dk_167 255 227 (dk_at dksX4_desk_5 13 rfl rfl)
theorem dX4_desk_151 : decode cX4_desk 151 = .ok (.iload_n 2, 1) := dk_28 (dk_at dksX4_desk_5 16 rfl rfl)
theorem dX4_desk_152 : decode cX4_desk 152 = .ok (.ireturn, 1) := dk_172 (dk_at dksX4_desk_5 17 rfl rfl)
theorem dX4_desk_153 : decode cX4_desk 153 = .ok (.iconst 0, 1) := dk_3 (dk_at dksX4_desk_5 18 rfl rfl)
theorem dX4_desk_154 : decode cX4_desk 154 = .ok (.istore_n 3, 1) := dk_62 (dk_at dksX4_desk_5 19 rfl rfl)
theorem dX4_desk_155 : decode cX4_desk 155 = .ok (.iload_n 3, 1) := dk_29 (dk_at dksX4_desk_5 20 rfl rfl)
theorem dX4_desk_156 : decode cX4_desk 156 = .ok (.aload_n 0, 1) := dk_42 (dk_at dksX4_desk_5 21 rfl rfl)
theorem dX4_desk_157 : decode cX4_desk 157 = .ok (.getfield 13, 3) := dk_180 0 13 (dk_at dksX4_desk_6 0 rfl rfl)
theorem dX4_desk_160 : decode cX4_desk 160 = .ok (.iconst 1, 1) := dk_4 (dk_at dksX4_desk_6 3 rfl rfl)
theorem dX4_desk_161 : decode cX4_desk 161 = .ok (.iaload, 1) := dk_46 (dk_at dksX4_desk_6 4 rfl rfl)
theorem dX4_desk_162 : decode cX4_desk 162 = .ok (.if_icmp .ge 21, 3) := dk_162 0 21 (dk_at dksX4_desk_6 5 rfl rfl)
theorem dX4_desk_165 : decode cX4_desk 165 = .ok (.iload_n 2, 1) := dk_28 (dk_at dksX4_desk_6 8 rfl rfl)
theorem dX4_desk_166 : decode cX4_desk 166 = .ok (.aload_n 0, 1) := dk_42 (dk_at dksX4_desk_6 9 rfl rfl)
theorem dX4_desk_167 : decode cX4_desk 167 = .ok (.getfield 13, 3) := dk_180 0 13 (dk_at dksX4_desk_6 10 rfl rfl)
theorem dX4_desk_170 : decode cX4_desk 170 = .ok (.bipush 98, 2) := dk_16 98 (dk_at dksX4_desk_6 13 rfl rfl)
theorem dX4_desk_172 : decode cX4_desk 172 = .ok (.iload_n 3, 1) := dk_29 (dk_at dksX4_desk_6 15 rfl rfl)
theorem dX4_desk_173 : decode cX4_desk 173 = .ok (.iadd, 1) := dk_96 (dk_at dksX4_desk_6 16 rfl rfl)
theorem dX4_desk_174 : decode cX4_desk 174 = .ok (.iaload, 1) := dk_46 (dk_at dksX4_desk_6 17 rfl rfl)
theorem dX4_desk_175 : decode cX4_desk 175 = .ok (.iadd, 1) := dk_96 (dk_at dksX4_desk_6 18 rfl rfl)
theorem dX4_desk_176 : decode cX4_desk 176 = .ok (.istore_n 2, 1) := dk_61 (dk_at dksX4_desk_6 19 rfl rfl)
theorem dX4_desk_177 : decode cX4_desk 177 = .ok (.iinc 3 1, 3) := dk_132 3 1 (dk_at dksX4_desk_6 20 rfl rfl)
theorem dX4_desk_180 : decode cX4_desk 180 = .ok (.goto (-25), 3) := dk_167 255 231 (dk_at dksX4_desk_7 0 rfl rfl)
theorem dX4_desk_183 : decode cX4_desk 183 = .ok (.iload_n 2, 1) := dk_28 (dk_at dksX4_desk_7 3 rfl rfl)
theorem dX4_desk_184 : decode cX4_desk 184 = .ok (.ireturn, 1) := dk_172 (dk_at dksX4_desk_7 4 rfl rfl)
theorem dX4_desk_185 : decode cX4_desk 185 = .ok (.iconst 0, 1) := dk_3 (dk_at dksX4_desk_7 5 rfl rfl)
theorem dX4_desk_186 : decode cX4_desk 186 = .ok (.istore_n 3, 1) := dk_62 (dk_at dksX4_desk_7 6 rfl rfl)
theorem dX4_desk_187 : decode cX4_desk 187 = .ok (.iload_n 3, 1) := dk_29 (dk_at dksX4_desk_7 7 rfl rfl)
theorem dX4_desk_188 : decode cX4_desk 188 = .ok (.aload_n 0, 1) := dk_42 (dk_at dksX4_desk_7 8 rfl rfl)
theorem dX4_desk_189 : decode cX4_desk 189 = .ok (.getfield 13, 3) := dk_180 0 13 (dk_at dksX4_desk_7 9 rfl rfl)
theorem dX4_desk_192 : decode cX4_desk 192 = .ok (.iconst 2, 1) := dk_5 (dk_at dksX4_desk_7 12 rfl rfl)
theorem dX4_desk_193 : decode cX4_desk 193 = .ok (.iaload, 1) := dk_46 (dk_at dksX4_desk_7 13 rfl rfl)
theorem dX4_desk_194 : decode cX4_desk 194 = .ok (.if_icmp .ge 29, 3) := dk_162 0 29 (dk_at dksX4_desk_7 14 rfl rfl)
theorem dX4_desk_197 : decode cX4_desk 197 = .ok (.iload_n 2, 1) := dk_28 (dk_at dksX4_desk_7 17 rfl rfl)
theorem dX4_desk_198 : decode cX4_desk 198 = .ok (.aload_n 0, 1) := dk_42 (dk_at dksX4_desk_7 18 rfl rfl)
theorem dX4_desk_199 : decode cX4_desk 199 = .ok (.getfield 13, 3) := dk_180 0 13 (dk_at dksX4_desk_7 19 rfl rfl)
theorem dX4_desk_202 : decode cX4_desk 202 = .ok (.bipush 120, 2) := dk_16 120 (dk_at dksX4_desk_7 22 rfl rfl)
theorem dX4_desk_204 : decode cX4_desk 204 = .ok (.iload_n 3, 1) := dk_29 (dk_at dksX4_desk_8 0 rfl rfl)
theorem dX4_desk_205 : decode cX4_desk 205 = .ok (.iadd, 1) := dk_96 (dk_at dksX4_desk_8 1 rfl rfl)
theorem dX4_desk_206 : decode cX4_desk 206 = .ok (.iaload, 1) := dk_46 (dk_at dksX4_desk_8 2 rfl rfl)
theorem dX4_desk_207 : decode cX4_desk 207 = .ok (.ifCond .le 7, 3) := dk_158 0 7 (dk_at dksX4_desk_8 3 rfl rfl)
theorem dX4_desk_210 : decode cX4_desk 210 = .ok (.iconst 1, 1) := dk_4 (dk_at dksX4_desk_8 6 rfl rfl)
theorem dX4_desk_211 : decode cX4_desk 211 = .ok (.goto 4, 3) := dk_167 0 4 (dk_at dksX4_desk_8 7 rfl rfl)
theorem dX4_desk_214 : decode cX4_desk 214 = .ok (.iconst 0, 1) := dk_3 (dk_at dksX4_desk_8 10 rfl rfl)
theorem dX4_desk_215 : decode cX4_desk 215 = .ok (.iadd, 1) := dk_96 (dk_at dksX4_desk_8 11 rfl rfl)
theorem dX4_desk_216 : decode cX4_desk 216 = .ok (.istore_n 2, 1) := dk_61 (dk_at dksX4_desk_8 12 rfl rfl)
theorem dX4_desk_217 : decode cX4_desk 217 = .ok (.iinc 3 1, 3) := dk_132 3 1 (dk_at dksX4_desk_8 13 rfl rfl)
theorem dX4_desk_220 : decode cX4_desk 220 = .ok (.goto (-33), 3) := dk_167 255 223 (dk_at dksX4_desk_8 16 rfl rfl)
theorem dX4_desk_223 : decode cX4_desk 223 = .ok (.iload_n 2, 1) := dk_28 (dk_at dksX4_desk_8 19 rfl rfl)
theorem dX4_desk_224 : decode cX4_desk 224 = .ok (.ireturn, 1) := dk_172 (dk_at dksX4_desk_8 20 rfl rfl)
theorem dX4_desk_225 : decode cX4_desk 225 = .ok (.aload_n 0, 1) := dk_42 (dk_at dksX4_desk_8 21 rfl rfl)
theorem dX4_desk_226 : decode cX4_desk 226 = .ok (.getfield 13, 3) := dk_180 0 13 (dk_at dksX4_desk_9 0 rfl rfl)
theorem dX4_desk_229 : decode cX4_desk 229 = .ok (.iconst 3, 1) := dk_6 (dk_at dksX4_desk_9 3 rfl rfl)
theorem dX4_desk_230 : decode cX4_desk 230 = .ok (.iaload, 1) := dk_46 (dk_at dksX4_desk_9 4 rfl rfl)
theorem dX4_desk_231 : decode cX4_desk 231 = .ok (.ireturn, 1) := dk_172 (dk_at dksX4_desk_9 5 rfl rfl)
theorem dX4_desk_232 : decode cX4_desk 232 = .ok (.aload_n 0, 1) := dk_42 (dk_at dksX4_desk_9 6 rfl rfl)
theorem dX4_desk_233 : decode cX4_desk 233 = .ok (.getfield 76, 3) := dk_180 0 76 (dk_at dksX4_desk_9 7 rfl rfl)
theorem dX4_desk_236 : decode cX4_desk 236 = .ok (.ireturn, 1) := dk_172 (dk_at dksX4_desk_9 10 rfl rfl)
theorem dX4_desk_237 : decode cX4_desk 237 = .ok (.aload_n 0, 1) := dk_42 (dk_at dksX4_desk_9 11 rfl rfl)
theorem dX4_desk_238 : decode cX4_desk 238 = .ok (.getfield 26, 3) := dk_180 0 26 (dk_at dksX4_desk_9 12 rfl rfl)
theorem dX4_desk_241 : decode cX4_desk 241 = .ok (.ireturn, 1) := dk_172 (dk_at dksX4_desk_9 15 rfl rfl)
theorem dX4_desk_242 : decode cX4_desk 242 = .ok (.aload_n 0, 1) := dk_42 (dk_at dksX4_desk_9 16 rfl rfl)
theorem dX4_desk_243 : decode cX4_desk 243 = .ok (.iconst 1, 1) := dk_4 (dk_at dksX4_desk_9 17 rfl rfl)
theorem dX4_desk_244 : decode cX4_desk 244 = .ok (.invokevirtual 120, 3) := dk_182 0 120 (dk_at dksX4_desk_9 18 rfl rfl)
theorem dX4_desk_247 : decode cX4_desk 247 = .ok (.ireturn, 1) := dk_172 (dk_at dksX4_desk_9 21 rfl rfl)
abbrev cX4_demands_2 : ByteArray := prog_17_method_55_code
def yX4_demands_2 : MethodName := ⟨RX4, "demands", "(I)J"⟩
def dkwX4_demands_2_2 : List UInt8 := [16, 10, 21, 4, 104, 121, 129, 65, 132, 4, 1, 167, 255, 223, 32, 173]
abbrev dktX4_demands_2_2 : List UInt8 := dkwX4_demands_2_2 ++ []
def dkwX4_demands_2_1 : List UInt8 := [54, 4, 21, 4, 8, 162, 0, 33, 32, 42, 180, 0, 13, 16, 28, 8, 27, 104, 96, 21, 4, 96, 46, 133]
abbrev dktX4_demands_2_1 : List UInt8 := dkwX4_demands_2_1 ++ dktX4_demands_2_2
def dkwX4_demands_2_0 : List UInt8 := [42, 3, 181, 0, 9, 42, 27, 182, 0, 127, 154, 0, 10, 42, 4, 182, 0, 120, 133, 173, 9, 65, 3]
abbrev dktX4_demands_2_0 : List UInt8 := dkwX4_demands_2_0 ++ dktX4_demands_2_1
theorem dksX4_demands_2_0 : cX4_demands_2.data.toList.drop 0 = dktX4_demands_2_0 := by decide +kernel
theorem dksX4_demands_2_1 : cX4_demands_2.data.toList.drop 23 = dktX4_demands_2_1 := dk_seg dksX4_demands_2_0 23 rfl rfl
theorem dksX4_demands_2_2 : cX4_demands_2.data.toList.drop 47 = dktX4_demands_2_2 := dk_seg dksX4_demands_2_1 24 rfl rfl
theorem dX4_demands_2_0 : decode cX4_demands_2 0 = .ok (.aload_n 0, 1) := dk_42 (dk_at dksX4_demands_2_0 0 rfl rfl)
theorem dX4_demands_2_1 : decode cX4_demands_2 1 = .ok (.iconst 0, 1) := dk_3 (dk_at dksX4_demands_2_0 1 rfl rfl)
theorem dX4_demands_2_2 : decode cX4_demands_2 2 = .ok (.putfield 9, 3) := dk_181 0 9 (dk_at dksX4_demands_2_0 2 rfl rfl)
theorem dX4_demands_2_5 : decode cX4_demands_2 5 = .ok (.aload_n 0, 1) := dk_42 (dk_at dksX4_demands_2_0 5 rfl rfl)
theorem dX4_demands_2_6 : decode cX4_demands_2 6 = .ok (.iload_n 1, 1) := dk_27 (dk_at dksX4_demands_2_0 6 rfl rfl)
theorem dX4_demands_2_7 : decode cX4_demands_2 7 = .ok (.invokevirtual 127, 3) := dk_182 0 127 (dk_at dksX4_demands_2_0 7 rfl rfl)
theorem dX4_demands_2_10 : decode cX4_demands_2 10 = .ok (.ifCond .ne 10, 3) := dk_154 0 10 (dk_at dksX4_demands_2_0 10 rfl rfl)
theorem dX4_demands_2_13 : decode cX4_demands_2 13 = .ok (.aload_n 0, 1) := dk_42 (dk_at dksX4_demands_2_0 13 rfl rfl)
theorem dX4_demands_2_14 : decode cX4_demands_2 14 = .ok (.iconst 1, 1) := dk_4 (dk_at dksX4_demands_2_0 14 rfl rfl)
theorem dX4_demands_2_15 : decode cX4_demands_2 15 = .ok (.invokevirtual 120, 3) := dk_182 0 120 (dk_at dksX4_demands_2_0 15 rfl rfl)
theorem dX4_demands_2_18 : decode cX4_demands_2 18 = .ok (.i2l, 1) := dk_133 (dk_at dksX4_demands_2_0 18 rfl rfl)
theorem dX4_demands_2_19 : decode cX4_demands_2 19 = .ok (.lreturn, 1) := dk_173 (dk_at dksX4_demands_2_0 19 rfl rfl)
theorem dX4_demands_2_20 : decode cX4_demands_2 20 = .ok (.lconst 0, 1) := dk_9 (dk_at dksX4_demands_2_0 20 rfl rfl)
theorem dX4_demands_2_21 : decode cX4_demands_2 21 = .ok (.lstore_n 2, 1) := dk_65 (dk_at dksX4_demands_2_0 21 rfl rfl)
theorem dX4_demands_2_22 : decode cX4_demands_2 22 = .ok (.iconst 0, 1) := dk_3 (dk_at dksX4_demands_2_0 22 rfl rfl)
theorem dX4_demands_2_23 : decode cX4_demands_2 23 = .ok (.istore 4, 2) := dk_54 4 (dk_at dksX4_demands_2_1 0 rfl rfl)
theorem dX4_demands_2_25 : decode cX4_demands_2 25 = .ok (.iload 4, 2) := dk_21 4 (dk_at dksX4_demands_2_1 2 rfl rfl)
theorem dX4_demands_2_27 : decode cX4_demands_2 27 = .ok (.iconst 5, 1) := dk_8 (dk_at dksX4_demands_2_1 4 rfl rfl)
theorem dX4_demands_2_28 : decode cX4_demands_2 28 = .ok (.if_icmp .ge 33, 3) := dk_162 0 33 (dk_at dksX4_demands_2_1 5 rfl rfl)
theorem dX4_demands_2_31 : decode cX4_demands_2 31 = .ok (.lload_n 2, 1) := dk_32 (dk_at dksX4_demands_2_1 8 rfl rfl)
theorem dX4_demands_2_32 : decode cX4_demands_2 32 = .ok (.aload_n 0, 1) := dk_42 (dk_at dksX4_demands_2_1 9 rfl rfl)
theorem dX4_demands_2_33 : decode cX4_demands_2 33 = .ok (.getfield 13, 3) := dk_180 0 13 (dk_at dksX4_demands_2_1 10 rfl rfl)
theorem dX4_demands_2_36 : decode cX4_demands_2 36 = .ok (.bipush 28, 2) := dk_16 28 (dk_at dksX4_demands_2_1 13 rfl rfl)
theorem dX4_demands_2_38 : decode cX4_demands_2 38 = .ok (.iconst 5, 1) := dk_8 (dk_at dksX4_demands_2_1 15 rfl rfl)
theorem dX4_demands_2_39 : decode cX4_demands_2 39 = .ok (.iload_n 1, 1) := dk_27 (dk_at dksX4_demands_2_1 16 rfl rfl)
theorem dX4_demands_2_40 : decode cX4_demands_2 40 = .ok (.imul, 1) := dk_104 (dk_at dksX4_demands_2_1 17 rfl rfl)
theorem dX4_demands_2_41 : decode cX4_demands_2 41 = .ok (.iadd, 1) := dk_96 (dk_at dksX4_demands_2_1 18 rfl rfl)
theorem dX4_demands_2_42 : decode cX4_demands_2 42 = .ok (.iload 4, 2) := dk_21 4 (dk_at dksX4_demands_2_1 19 rfl rfl)
theorem dX4_demands_2_44 : decode cX4_demands_2 44 = .ok (.iadd, 1) := dk_96 (dk_at dksX4_demands_2_1 21 rfl rfl)
theorem dX4_demands_2_45 : decode cX4_demands_2 45 = .ok (.iaload, 1) := dk_46 (dk_at dksX4_demands_2_1 22 rfl rfl)
theorem dX4_demands_2_46 : decode cX4_demands_2 46 = .ok (.i2l, 1) := dk_133 (dk_at dksX4_demands_2_1 23 rfl rfl)
theorem dX4_demands_2_47 : decode cX4_demands_2 47 = .ok (.bipush 10, 2) := dk_16 10 (dk_at dksX4_demands_2_2 0 rfl rfl)
theorem dX4_demands_2_49 : decode cX4_demands_2 49 = .ok (.iload 4, 2) := dk_21 4 (dk_at dksX4_demands_2_2 2 rfl rfl)
theorem dX4_demands_2_51 : decode cX4_demands_2 51 = .ok (.imul, 1) := dk_104 (dk_at dksX4_demands_2_2 4 rfl rfl)
theorem dX4_demands_2_52 : decode cX4_demands_2 52 = .ok (.lshl, 1) := dk_121 (dk_at dksX4_demands_2_2 5 rfl rfl)
theorem dX4_demands_2_53 : decode cX4_demands_2 53 = .ok (.lor, 1) := dk_129 (dk_at dksX4_demands_2_2 6 rfl rfl)
theorem dX4_demands_2_54 : decode cX4_demands_2 54 = .ok (.lstore_n 2, 1) := dk_65 (dk_at dksX4_demands_2_2 7 rfl rfl)
theorem dX4_demands_2_55 : decode cX4_demands_2 55 = .ok (.iinc 4 1, 3) := dk_132 4 1 (dk_at dksX4_demands_2_2 8 rfl rfl)
theorem dX4_demands_2_58 : decode cX4_demands_2 58 = .ok (.goto (-33), 3) := dk_167 255 223 (dk_at dksX4_demands_2_2 11 rfl rfl)
theorem dX4_demands_2_61 : decode cX4_demands_2 61 = .ok (.lload_n 2, 1) := dk_32 (dk_at dksX4_demands_2_2 14 rfl rfl)
theorem dX4_demands_2_62 : decode cX4_demands_2 62 = .ok (.lreturn, 1) := dk_173 (dk_at dksX4_demands_2_2 15 rfl rfl)
abbrev cX4_licence : ByteArray := prog_17_method_56_code
def yX4_licence : MethodName := ⟨RX4, "licence", "(II)I"⟩
def dkwX4_licence_6 : List UInt8 := [46, 184, 0, 162, 96, 62, 132, 4, 1, 167, 255, 227, 29, 172, 42, 5, 182, 0, 120, 172]
abbrev dktX4_licence_6 : List UInt8 := dkwX4_licence_6 ++ []
def dkwX4_licence_5 : List UInt8 := [172, 3, 54, 4, 21, 4, 8, 162, 0, 29, 29, 42, 180, 0, 13, 16, 28, 8, 27, 104, 96, 21, 4, 96]
abbrev dktX4_licence_5 : List UInt8 := dkwX4_licence_5 ++ dktX4_licence_6
def dkwX4_licence_4 : List UInt8 := [182, 0, 137, 27, 160, 0, 10, 4, 21, 4, 120, 167, 0, 4, 3, 128, 62, 132, 4, 1, 167, 255, 221, 29]
abbrev dktX4_licence_4 : List UInt8 := dkwX4_licence_4 ++ dktX4_licence_5
def dkwX4_licence_3 : List UInt8 := [16, 20, 27, 96, 46, 172, 3, 54, 4, 21, 4, 42, 180, 0, 13, 4, 46, 162, 0, 30, 29, 42, 21, 4]
abbrev dktX4_licence_3 : List UInt8 := dkwX4_licence_3 ++ dktX4_licence_4
def dkwX4_licence_2 : List UInt8 := [42, 180, 0, 13, 7, 27, 96, 46, 172, 42, 180, 0, 13, 16, 12, 27, 96, 46, 172, 42, 180, 0, 13]
abbrev dktX4_licence_2 : List UInt8 := dkwX4_licence_2 ++ dktX4_licence_3
def dkwX4_licence_1 : List UInt8 := [170, 0, 0, 0, 0, 143, 0, 0, 0, 0, 0, 0, 0, 4, 0, 0, 0, 34, 0, 0, 0, 43, 0, 0, 0, 53, 0, 0, 0, 63, 0, 0, 0, 106]
abbrev dktX4_licence_1 : List UInt8 := dkwX4_licence_1 ++ dktX4_licence_2
def dkwX4_licence_0 : List UInt8 := [42, 3, 181, 0, 9, 42, 27, 182, 0, 127, 154, 0, 9, 42, 4, 182, 0, 120, 172, 3, 62, 28]
abbrev dktX4_licence_0 : List UInt8 := dkwX4_licence_0 ++ dktX4_licence_1
theorem dksX4_licence_0 : cX4_licence.data.toList.drop 0 = dktX4_licence_0 := by decide +kernel
theorem dksX4_licence_1 : cX4_licence.data.toList.drop 22 = dktX4_licence_1 := dk_seg dksX4_licence_0 22 rfl rfl
theorem dksX4_licence_2 : cX4_licence.data.toList.drop 56 = dktX4_licence_2 := dk_seg dksX4_licence_1 34 rfl rfl
theorem dksX4_licence_3 : cX4_licence.data.toList.drop 79 = dktX4_licence_3 := dk_seg dksX4_licence_2 23 rfl rfl
theorem dksX4_licence_4 : cX4_licence.data.toList.drop 103 = dktX4_licence_4 := dk_seg dksX4_licence_3 24 rfl rfl
theorem dksX4_licence_5 : cX4_licence.data.toList.drop 127 = dktX4_licence_5 := dk_seg dksX4_licence_4 24 rfl rfl
theorem dksX4_licence_6 : cX4_licence.data.toList.drop 151 = dktX4_licence_6 := dk_seg dksX4_licence_5 24 rfl rfl
theorem dX4_licence_0 : decode cX4_licence 0 = .ok (.aload_n 0, 1) := dk_42 (dk_at dksX4_licence_0 0 rfl rfl)
theorem dX4_licence_1 : decode cX4_licence 1 = .ok (.iconst 0, 1) := dk_3 (dk_at dksX4_licence_0 1 rfl rfl)
theorem dX4_licence_2 : decode cX4_licence 2 = .ok (.putfield 9, 3) := dk_181 0 9 (dk_at dksX4_licence_0 2 rfl rfl)
theorem dX4_licence_5 : decode cX4_licence 5 = .ok (.aload_n 0, 1) := dk_42 (dk_at dksX4_licence_0 5 rfl rfl)
theorem dX4_licence_6 : decode cX4_licence 6 = .ok (.iload_n 1, 1) := dk_27 (dk_at dksX4_licence_0 6 rfl rfl)
theorem dX4_licence_7 : decode cX4_licence 7 = .ok (.invokevirtual 127, 3) := dk_182 0 127 (dk_at dksX4_licence_0 7 rfl rfl)
theorem dX4_licence_10 : decode cX4_licence 10 = .ok (.ifCond .ne 9, 3) := dk_154 0 9 (dk_at dksX4_licence_0 10 rfl rfl)
theorem dX4_licence_13 : decode cX4_licence 13 = .ok (.aload_n 0, 1) := dk_42 (dk_at dksX4_licence_0 13 rfl rfl)
theorem dX4_licence_14 : decode cX4_licence 14 = .ok (.iconst 1, 1) := dk_4 (dk_at dksX4_licence_0 14 rfl rfl)
theorem dX4_licence_15 : decode cX4_licence 15 = .ok (.invokevirtual 120, 3) := dk_182 0 120 (dk_at dksX4_licence_0 15 rfl rfl)
theorem dX4_licence_18 : decode cX4_licence 18 = .ok (.ireturn, 1) := dk_172 (dk_at dksX4_licence_0 18 rfl rfl)
theorem dX4_licence_19 : decode cX4_licence 19 = .ok (.iconst 0, 1) := dk_3 (dk_at dksX4_licence_0 19 rfl rfl)
theorem dX4_licence_20 : decode cX4_licence 20 = .ok (.istore_n 3, 1) := dk_62 (dk_at dksX4_licence_0 20 rfl rfl)
theorem dX4_licence_21 : decode cX4_licence 21 = .ok (.iload_n 2, 1) := dk_28 (dk_at dksX4_licence_0 21 rfl rfl)
theorem dX4_licence_22 : decode cX4_licence 22 = .ok (.tableswitch 143 0 4 #[34, 43, 53, 63, 106], 34) := by decide +kernel
theorem dX4_licence_56 : decode cX4_licence 56 = .ok (.aload_n 0, 1) := dk_42 (dk_at dksX4_licence_2 0 rfl rfl)
theorem dX4_licence_57 : decode cX4_licence 57 = .ok (.getfield 13, 3) := dk_180 0 13 (dk_at dksX4_licence_2 1 rfl rfl)
theorem dX4_licence_60 : decode cX4_licence 60 = .ok (.iconst 4, 1) := dk_7 (dk_at dksX4_licence_2 4 rfl rfl)
theorem dX4_licence_61 : decode cX4_licence 61 = .ok (.iload_n 1, 1) := dk_27 (dk_at dksX4_licence_2 5 rfl rfl)
theorem dX4_licence_62 : decode cX4_licence 62 = .ok (.iadd, 1) := dk_96 (dk_at dksX4_licence_2 6 rfl rfl)
theorem dX4_licence_63 : decode cX4_licence 63 = .ok (.iaload, 1) := dk_46 (dk_at dksX4_licence_2 7 rfl rfl)
theorem dX4_licence_64 : decode cX4_licence 64 = .ok (.ireturn, 1) := dk_172 (dk_at dksX4_licence_2 8 rfl rfl)
theorem dX4_licence_65 : decode cX4_licence 65 = .ok (.aload_n 0, 1) := dk_42 (dk_at dksX4_licence_2 9 rfl rfl)
theorem dX4_licence_66 : decode cX4_licence 66 = .ok (.getfield 13, 3) := dk_180 0 13 (dk_at dksX4_licence_2 10 rfl rfl)
theorem dX4_licence_69 : decode cX4_licence 69 = .ok (.bipush 12, 2) := dk_16 12 (dk_at dksX4_licence_2 13 rfl rfl)
theorem dX4_licence_71 : decode cX4_licence 71 = .ok (.iload_n 1, 1) := dk_27 (dk_at dksX4_licence_2 15 rfl rfl)
theorem dX4_licence_72 : decode cX4_licence 72 = .ok (.iadd, 1) := dk_96 (dk_at dksX4_licence_2 16 rfl rfl)
theorem dX4_licence_73 : decode cX4_licence 73 = .ok (.iaload, 1) := dk_46 (dk_at dksX4_licence_2 17 rfl rfl)
theorem dX4_licence_74 : decode cX4_licence 74 = .ok (.ireturn, 1) := dk_172 (dk_at dksX4_licence_2 18 rfl rfl)
theorem dX4_licence_75 : decode cX4_licence 75 = .ok (.aload_n 0, 1) := dk_42 (dk_at dksX4_licence_2 19 rfl rfl)
theorem dX4_licence_76 : decode cX4_licence 76 = .ok (.getfield 13, 3) := dk_180 0 13 (dk_at dksX4_licence_2 20 rfl rfl)
theorem dX4_licence_79 : decode cX4_licence 79 = .ok (.bipush 20, 2) := dk_16 20 (dk_at dksX4_licence_3 0 rfl rfl)
theorem dX4_licence_81 : decode cX4_licence 81 = .ok (.iload_n 1, 1) := dk_27 (dk_at dksX4_licence_3 2 rfl rfl)
theorem dX4_licence_82 : decode cX4_licence 82 = .ok (.iadd, 1) := dk_96 (dk_at dksX4_licence_3 3 rfl rfl)
theorem dX4_licence_83 : decode cX4_licence 83 = .ok (.iaload, 1) := dk_46 (dk_at dksX4_licence_3 4 rfl rfl)
theorem dX4_licence_84 : decode cX4_licence 84 = .ok (.ireturn, 1) := dk_172 (dk_at dksX4_licence_3 5 rfl rfl)
theorem dX4_licence_85 : decode cX4_licence 85 = .ok (.iconst 0, 1) := dk_3 (dk_at dksX4_licence_3 6 rfl rfl)
theorem dX4_licence_86 : decode cX4_licence 86 = .ok (.istore 4, 2) := dk_54 4 (dk_at dksX4_licence_3 7 rfl rfl)
theorem dX4_licence_88 : decode cX4_licence 88 = .ok (.iload 4, 2) := dk_21 4 (dk_at dksX4_licence_3 9 rfl rfl)
theorem dX4_licence_90 : decode cX4_licence 90 = .ok (.aload_n 0, 1) := dk_42 (dk_at dksX4_licence_3 11 rfl rfl)
theorem dX4_licence_91 : decode cX4_licence 91 = .ok (.getfield 13, 3) := dk_180 0 13 (dk_at dksX4_licence_3 12 rfl rfl)
theorem dX4_licence_94 : decode cX4_licence 94 = .ok (.iconst 1, 1) := dk_4 (dk_at dksX4_licence_3 15 rfl rfl)
theorem dX4_licence_95 : decode cX4_licence 95 = .ok (.iaload, 1) := dk_46 (dk_at dksX4_licence_3 16 rfl rfl)
theorem dX4_licence_96 : decode cX4_licence 96 = .ok (.if_icmp .ge 30, 3) := dk_162 0 30 (dk_at dksX4_licence_3 17 rfl rfl)
theorem dX4_licence_99 : decode cX4_licence 99 = .ok (.iload_n 3, 1) := dk_29 (dk_at dksX4_licence_3 20 rfl rfl)
theorem dX4_licence_100 : decode cX4_licence 100 = .ok (.aload_n 0, 1) := dk_42 (dk_at dksX4_licence_3 21 rfl rfl)
theorem dX4_licence_101 : decode cX4_licence 101 = .ok (.iload 4, 2) := dk_21 4 (dk_at dksX4_licence_3 22 rfl rfl)
theorem dX4_licence_103 : decode cX4_licence 103 = .ok (.invokevirtual 137, 3) := dk_182 0 137 (dk_at dksX4_licence_4 0 rfl rfl)
theorem dX4_licence_106 : decode cX4_licence 106 = .ok (.iload_n 1, 1) := dk_27 (dk_at dksX4_licence_4 3 rfl rfl)
theorem dX4_licence_107 : decode cX4_licence 107 = .ok (.if_icmp .ne 10, 3) := dk_160 0 10 (dk_at dksX4_licence_4 4 rfl rfl)
theorem dX4_licence_110 : decode cX4_licence 110 = .ok (.iconst 1, 1) := dk_4 (dk_at dksX4_licence_4 7 rfl rfl)
theorem dX4_licence_111 : decode cX4_licence 111 = .ok (.iload 4, 2) := dk_21 4 (dk_at dksX4_licence_4 8 rfl rfl)
theorem dX4_licence_113 : decode cX4_licence 113 = .ok (.ishl, 1) := dk_120 (dk_at dksX4_licence_4 10 rfl rfl)
theorem dX4_licence_114 : decode cX4_licence 114 = .ok (.goto 4, 3) := dk_167 0 4 (dk_at dksX4_licence_4 11 rfl rfl)
theorem dX4_licence_117 : decode cX4_licence 117 = .ok (.iconst 0, 1) := dk_3 (dk_at dksX4_licence_4 14 rfl rfl)
theorem dX4_licence_118 : decode cX4_licence 118 = .ok (.ior, 1) := dk_128 (dk_at dksX4_licence_4 15 rfl rfl)
theorem dX4_licence_119 : decode cX4_licence 119 = .ok (.istore_n 3, 1) := dk_62 (dk_at dksX4_licence_4 16 rfl rfl)
theorem dX4_licence_120 : decode cX4_licence 120 = .ok (.iinc 4 1, 3) := dk_132 4 1 (dk_at dksX4_licence_4 17 rfl rfl)
theorem dX4_licence_123 : decode cX4_licence 123 = .ok (.goto (-35), 3) := dk_167 255 221 (dk_at dksX4_licence_4 20 rfl rfl)
theorem dX4_licence_126 : decode cX4_licence 126 = .ok (.iload_n 3, 1) := dk_29 (dk_at dksX4_licence_4 23 rfl rfl)
theorem dX4_licence_127 : decode cX4_licence 127 = .ok (.ireturn, 1) := dk_172 (dk_at dksX4_licence_5 0 rfl rfl)
theorem dX4_licence_128 : decode cX4_licence 128 = .ok (.iconst 0, 1) := dk_3 (dk_at dksX4_licence_5 1 rfl rfl)
theorem dX4_licence_129 : decode cX4_licence 129 = .ok (.istore 4, 2) := dk_54 4 (dk_at dksX4_licence_5 2 rfl rfl)
theorem dX4_licence_131 : decode cX4_licence 131 = .ok (.iload 4, 2) := dk_21 4 (dk_at dksX4_licence_5 4 rfl rfl)
theorem dX4_licence_133 : decode cX4_licence 133 = .ok (.iconst 5, 1) := dk_8 (dk_at dksX4_licence_5 6 rfl rfl)
theorem dX4_licence_134 : decode cX4_licence 134 = .ok (.if_icmp .ge 29, 3) := dk_162 0 29 (dk_at dksX4_licence_5 7 rfl rfl)
theorem dX4_licence_137 : decode cX4_licence 137 = .ok (.iload_n 3, 1) := dk_29 (dk_at dksX4_licence_5 10 rfl rfl)
theorem dX4_licence_138 : decode cX4_licence 138 = .ok (.aload_n 0, 1) := dk_42 (dk_at dksX4_licence_5 11 rfl rfl)
theorem dX4_licence_139 : decode cX4_licence 139 = .ok (.getfield 13, 3) := dk_180 0 13 (dk_at dksX4_licence_5 12 rfl rfl)
theorem dX4_licence_142 : decode cX4_licence 142 = .ok (.bipush 28, 2) := dk_16 28 (dk_at dksX4_licence_5 15 rfl rfl)
theorem dX4_licence_144 : decode cX4_licence 144 = .ok (.iconst 5, 1) := dk_8 (dk_at dksX4_licence_5 17 rfl rfl)
theorem dX4_licence_145 : decode cX4_licence 145 = .ok (.iload_n 1, 1) := dk_27 (dk_at dksX4_licence_5 18 rfl rfl)
theorem dX4_licence_146 : decode cX4_licence 146 = .ok (.imul, 1) := dk_104 (dk_at dksX4_licence_5 19 rfl rfl)
theorem dX4_licence_147 : decode cX4_licence 147 = .ok (.iadd, 1) := dk_96 (dk_at dksX4_licence_5 20 rfl rfl)
theorem dX4_licence_148 : decode cX4_licence 148 = .ok (.iload 4, 2) := dk_21 4 (dk_at dksX4_licence_5 21 rfl rfl)
theorem dX4_licence_150 : decode cX4_licence 150 = .ok (.iadd, 1) := dk_96 (dk_at dksX4_licence_5 23 rfl rfl)
theorem dX4_licence_151 : decode cX4_licence 151 = .ok (.iaload, 1) := dk_46 (dk_at dksX4_licence_6 0 rfl rfl)
theorem dX4_licence_152 : decode cX4_licence 152 = .ok (.invokestatic 162, 3) := dk_184 0 162 (dk_at dksX4_licence_6 1 rfl rfl)
theorem dX4_licence_155 : decode cX4_licence 155 = .ok (.iadd, 1) := dk_96 (dk_at dksX4_licence_6 4 rfl rfl)
theorem dX4_licence_156 : decode cX4_licence 156 = .ok (.istore_n 3, 1) := dk_62 (dk_at dksX4_licence_6 5 rfl rfl)
theorem dX4_licence_157 : decode cX4_licence 157 = .ok (.iinc 4 1, 3) := dk_132 4 1 (dk_at dksX4_licence_6 6 rfl rfl)
theorem dX4_licence_160 : decode cX4_licence 160 = .ok (.goto (-29), 3) := dk_167 255 227 (dk_at dksX4_licence_6 9 rfl rfl)
theorem dX4_licence_163 : decode cX4_licence 163 = .ok (.iload_n 3, 1) := dk_29 (dk_at dksX4_licence_6 12 rfl rfl)
theorem dX4_licence_164 : decode cX4_licence 164 = .ok (.ireturn, 1) := dk_172 (dk_at dksX4_licence_6 13 rfl rfl)
theorem dX4_licence_165 : decode cX4_licence 165 = .ok (.aload_n 0, 1) := dk_42 (dk_at dksX4_licence_6 14 rfl rfl)
theorem dX4_licence_166 : decode cX4_licence 166 = .ok (.iconst 2, 1) := dk_5 (dk_at dksX4_licence_6 15 rfl rfl)
theorem dX4_licence_167 : decode cX4_licence 167 = .ok (.invokevirtual 120, 3) := dk_182 0 120 (dk_at dksX4_licence_6 16 rfl rfl)
theorem dX4_licence_170 : decode cX4_licence 170 = .ok (.ireturn, 1) := dk_172 (dk_at dksX4_licence_6 19 rfl rfl)
abbrev cX4_file : ByteArray := prog_17_method_57_code
def yX4_file : MethodName := ⟨RX4, "file", "(II)I"⟩
def dkwX4_file_7 : List UInt8 := [182, 0, 120, 172]
abbrev dktX4_file_7 : List UInt8 := dkwX4_file_7 ++ []
def dkwX4_file_6 : List UInt8 := [21, 4, 182, 0, 150, 27, 122, 4, 126, 21, 4, 120, 128, 62, 132, 4, 1, 167, 255, 226, 29, 172, 42, 5]
abbrev dktX4_file_6 : List UInt8 := dkwX4_file_6 ++ dktX4_file_7
def dkwX4_file_5 : List UInt8 := [132, 4, 1, 167, 255, 222, 29, 172, 3, 54, 4, 21, 4, 42, 180, 0, 13, 5, 46, 162, 0, 25, 29, 42]
abbrev dktX4_file_5 : List UInt8 := dkwX4_file_5 ++ dktX4_file_6
def dkwX4_file_4 : List UInt8 := [162, 0, 29, 29, 42, 180, 0, 13, 16, 108, 21, 4, 96, 46, 27, 122, 4, 126, 21, 4, 120, 128, 62]
abbrev dktX4_file_4 : List UInt8 := dkwX4_file_4 ++ dktX4_file_5
def dkwX4_file_3 : List UInt8 := [46, 172, 42, 180, 0, 13, 16, 88, 27, 96, 46, 172, 3, 54, 4, 21, 4, 42, 180, 0, 13, 5, 46]
abbrev dktX4_file_3 : List UInt8 := dkwX4_file_3 ++ dktX4_file_4
def dkwX4_file_2 : List UInt8 := [42, 27, 182, 0, 137, 172, 42, 180, 0, 13, 16, 68, 27, 96, 46, 172, 42, 180, 0, 13, 16, 78, 27, 96]
abbrev dktX4_file_2 : List UInt8 := dkwX4_file_2 ++ dktX4_file_3
def dkwX4_file_1 : List UInt8 := [170, 0, 0, 0, 0, 154, 0, 0, 0, 0, 0, 0, 0, 5, 0, 0, 0, 38, 0, 0, 0, 44, 0, 0, 0, 54, 0, 0, 0, 64, 0, 0, 0, 74, 0, 0, 0, 116]
abbrev dktX4_file_1 : List UInt8 := dkwX4_file_1 ++ dktX4_file_2
def dkwX4_file_0 : List UInt8 := [42, 3, 181, 0, 9, 42, 27, 182, 0, 131, 154, 0, 9, 42, 4, 182, 0, 120, 172, 3, 62, 28]
abbrev dktX4_file_0 : List UInt8 := dkwX4_file_0 ++ dktX4_file_1
theorem dksX4_file_0 : cX4_file.data.toList.drop 0 = dktX4_file_0 := by decide +kernel
theorem dksX4_file_1 : cX4_file.data.toList.drop 22 = dktX4_file_1 := dk_seg dksX4_file_0 22 rfl rfl
theorem dksX4_file_2 : cX4_file.data.toList.drop 60 = dktX4_file_2 := dk_seg dksX4_file_1 38 rfl rfl
theorem dksX4_file_3 : cX4_file.data.toList.drop 84 = dktX4_file_3 := dk_seg dksX4_file_2 24 rfl rfl
theorem dksX4_file_4 : cX4_file.data.toList.drop 107 = dktX4_file_4 := dk_seg dksX4_file_3 23 rfl rfl
theorem dksX4_file_5 : cX4_file.data.toList.drop 130 = dktX4_file_5 := dk_seg dksX4_file_4 23 rfl rfl
theorem dksX4_file_6 : cX4_file.data.toList.drop 154 = dktX4_file_6 := dk_seg dksX4_file_5 24 rfl rfl
theorem dksX4_file_7 : cX4_file.data.toList.drop 178 = dktX4_file_7 := dk_seg dksX4_file_6 24 rfl rfl
theorem dX4_file_0 : decode cX4_file 0 = .ok (.aload_n 0, 1) := dk_42 (dk_at dksX4_file_0 0 rfl rfl)
theorem dX4_file_1 : decode cX4_file 1 = .ok (.iconst 0, 1) := dk_3 (dk_at dksX4_file_0 1 rfl rfl)
theorem dX4_file_2 : decode cX4_file 2 = .ok (.putfield 9, 3) := dk_181 0 9 (dk_at dksX4_file_0 2 rfl rfl)
theorem dX4_file_5 : decode cX4_file 5 = .ok (.aload_n 0, 1) := dk_42 (dk_at dksX4_file_0 5 rfl rfl)
theorem dX4_file_6 : decode cX4_file 6 = .ok (.iload_n 1, 1) := dk_27 (dk_at dksX4_file_0 6 rfl rfl)
theorem dX4_file_7 : decode cX4_file 7 = .ok (.invokevirtual 131, 3) := dk_182 0 131 (dk_at dksX4_file_0 7 rfl rfl)
theorem dX4_file_10 : decode cX4_file 10 = .ok (.ifCond .ne 9, 3) := dk_154 0 9 (dk_at dksX4_file_0 10 rfl rfl)
theorem dX4_file_13 : decode cX4_file 13 = .ok (.aload_n 0, 1) := dk_42 (dk_at dksX4_file_0 13 rfl rfl)
theorem dX4_file_14 : decode cX4_file 14 = .ok (.iconst 1, 1) := dk_4 (dk_at dksX4_file_0 14 rfl rfl)
theorem dX4_file_15 : decode cX4_file 15 = .ok (.invokevirtual 120, 3) := dk_182 0 120 (dk_at dksX4_file_0 15 rfl rfl)
theorem dX4_file_18 : decode cX4_file 18 = .ok (.ireturn, 1) := dk_172 (dk_at dksX4_file_0 18 rfl rfl)
theorem dX4_file_19 : decode cX4_file 19 = .ok (.iconst 0, 1) := dk_3 (dk_at dksX4_file_0 19 rfl rfl)
theorem dX4_file_20 : decode cX4_file 20 = .ok (.istore_n 3, 1) := dk_62 (dk_at dksX4_file_0 20 rfl rfl)
theorem dX4_file_21 : decode cX4_file 21 = .ok (.iload_n 2, 1) := dk_28 (dk_at dksX4_file_0 21 rfl rfl)
theorem dX4_file_22 : decode cX4_file 22 = .ok (.tableswitch 154 0 5 #[38, 44, 54, 64, 74, 116], 38) := by decide +kernel
theorem dX4_file_60 : decode cX4_file 60 = .ok (.aload_n 0, 1) := dk_42 (dk_at dksX4_file_2 0 rfl rfl)
theorem dX4_file_61 : decode cX4_file 61 = .ok (.iload_n 1, 1) := dk_27 (dk_at dksX4_file_2 1 rfl rfl)
theorem dX4_file_62 : decode cX4_file 62 = .ok (.invokevirtual 137, 3) := dk_182 0 137 (dk_at dksX4_file_2 2 rfl rfl)
theorem dX4_file_65 : decode cX4_file 65 = .ok (.ireturn, 1) := dk_172 (dk_at dksX4_file_2 5 rfl rfl)
theorem dX4_file_66 : decode cX4_file 66 = .ok (.aload_n 0, 1) := dk_42 (dk_at dksX4_file_2 6 rfl rfl)
theorem dX4_file_67 : decode cX4_file 67 = .ok (.getfield 13, 3) := dk_180 0 13 (dk_at dksX4_file_2 7 rfl rfl)
theorem dX4_file_70 : decode cX4_file 70 = .ok (.bipush 68, 2) := dk_16 68 (dk_at dksX4_file_2 10 rfl rfl)
theorem dX4_file_72 : decode cX4_file 72 = .ok (.iload_n 1, 1) := dk_27 (dk_at dksX4_file_2 12 rfl rfl)
theorem dX4_file_73 : decode cX4_file 73 = .ok (.iadd, 1) := dk_96 (dk_at dksX4_file_2 13 rfl rfl)
theorem dX4_file_74 : decode cX4_file 74 = .ok (.iaload, 1) := dk_46 (dk_at dksX4_file_2 14 rfl rfl)
theorem dX4_file_75 : decode cX4_file 75 = .ok (.ireturn, 1) := dk_172 (dk_at dksX4_file_2 15 rfl rfl)
theorem dX4_file_76 : decode cX4_file 76 = .ok (.aload_n 0, 1) := dk_42 (dk_at dksX4_file_2 16 rfl rfl)
theorem dX4_file_77 : decode cX4_file 77 = .ok (.getfield 13, 3) := dk_180 0 13 (dk_at dksX4_file_2 17 rfl rfl)
theorem dX4_file_80 : decode cX4_file 80 = .ok (.bipush 78, 2) := dk_16 78 (dk_at dksX4_file_2 20 rfl rfl)
theorem dX4_file_82 : decode cX4_file 82 = .ok (.iload_n 1, 1) := dk_27 (dk_at dksX4_file_2 22 rfl rfl)
theorem dX4_file_83 : decode cX4_file 83 = .ok (.iadd, 1) := dk_96 (dk_at dksX4_file_2 23 rfl rfl)
theorem dX4_file_84 : decode cX4_file 84 = .ok (.iaload, 1) := dk_46 (dk_at dksX4_file_3 0 rfl rfl)
theorem dX4_file_85 : decode cX4_file 85 = .ok (.ireturn, 1) := dk_172 (dk_at dksX4_file_3 1 rfl rfl)
theorem dX4_file_86 : decode cX4_file 86 = .ok (.aload_n 0, 1) := dk_42 (dk_at dksX4_file_3 2 rfl rfl)
theorem dX4_file_87 : decode cX4_file 87 = .ok (.getfield 13, 3) := dk_180 0 13 (dk_at dksX4_file_3 3 rfl rfl)
theorem dX4_file_90 : decode cX4_file 90 = .ok (.bipush 88, 2) := dk_16 88 (dk_at dksX4_file_3 6 rfl rfl)
theorem dX4_file_92 : decode cX4_file 92 = .ok (.iload_n 1, 1) := dk_27 (dk_at dksX4_file_3 8 rfl rfl)
theorem dX4_file_93 : decode cX4_file 93 = .ok (.iadd, 1) := dk_96 (dk_at dksX4_file_3 9 rfl rfl)
theorem dX4_file_94 : decode cX4_file 94 = .ok (.iaload, 1) := dk_46 (dk_at dksX4_file_3 10 rfl rfl)
theorem dX4_file_95 : decode cX4_file 95 = .ok (.ireturn, 1) := dk_172 (dk_at dksX4_file_3 11 rfl rfl)
theorem dX4_file_96 : decode cX4_file 96 = .ok (.iconst 0, 1) := dk_3 (dk_at dksX4_file_3 12 rfl rfl)
theorem dX4_file_97 : decode cX4_file 97 = .ok (.istore 4, 2) := dk_54 4 (dk_at dksX4_file_3 13 rfl rfl)
theorem dX4_file_99 : decode cX4_file 99 = .ok (.iload 4, 2) := dk_21 4 (dk_at dksX4_file_3 15 rfl rfl)
theorem dX4_file_101 : decode cX4_file 101 = .ok (.aload_n 0, 1) := dk_42 (dk_at dksX4_file_3 17 rfl rfl)
theorem dX4_file_102 : decode cX4_file 102 = .ok (.getfield 13, 3) := dk_180 0 13 (dk_at dksX4_file_3 18 rfl rfl)
theorem dX4_file_105 : decode cX4_file 105 = .ok (.iconst 2, 1) := dk_5 (dk_at dksX4_file_3 21 rfl rfl)
theorem dX4_file_106 : decode cX4_file 106 = .ok (.iaload, 1) := dk_46 (dk_at dksX4_file_3 22 rfl rfl)
theorem dX4_file_107 : decode cX4_file 107 = .ok (.if_icmp .ge 29, 3) := dk_162 0 29 (dk_at dksX4_file_4 0 rfl rfl)
theorem dX4_file_110 : decode cX4_file 110 = .ok (.iload_n 3, 1) := dk_29 (dk_at dksX4_file_4 3 rfl rfl)
theorem dX4_file_111 : decode cX4_file 111 = .ok (.aload_n 0, 1) := dk_42 (dk_at dksX4_file_4 4 rfl rfl)
theorem dX4_file_112 : decode cX4_file 112 = .ok (.getfield 13, 3) := dk_180 0 13 (dk_at dksX4_file_4 5 rfl rfl)
theorem dX4_file_115 : decode cX4_file 115 = .ok (.bipush 108, 2) := dk_16 108 (dk_at dksX4_file_4 8 rfl rfl)
theorem dX4_file_117 : decode cX4_file 117 = .ok (.iload 4, 2) := dk_21 4 (dk_at dksX4_file_4 10 rfl rfl)
theorem dX4_file_119 : decode cX4_file 119 = .ok (.iadd, 1) := dk_96 (dk_at dksX4_file_4 12 rfl rfl)
theorem dX4_file_120 : decode cX4_file 120 = .ok (.iaload, 1) := dk_46 (dk_at dksX4_file_4 13 rfl rfl)
theorem dX4_file_121 : decode cX4_file 121 = .ok (.iload_n 1, 1) := dk_27 (dk_at dksX4_file_4 14 rfl rfl)
theorem dX4_file_122 : decode cX4_file 122 = .ok (.ishr, 1) := dk_122 (dk_at dksX4_file_4 15 rfl rfl)
theorem dX4_file_123 : decode cX4_file 123 = .ok (.iconst 1, 1) := dk_4 (dk_at dksX4_file_4 16 rfl rfl)
theorem dX4_file_124 : decode cX4_file 124 = .ok (.iand, 1) := dk_126 (dk_at dksX4_file_4 17 rfl rfl)
theorem dX4_file_125 : decode cX4_file 125 = .ok (.iload 4, 2) := dk_21 4 (dk_at dksX4_file_4 18 rfl rfl)
theorem dX4_file_127 : decode cX4_file 127 = .ok (.ishl, 1) := dk_120 (dk_at dksX4_file_4 20 rfl rfl)
theorem dX4_file_128 : decode cX4_file 128 = .ok (.ior, 1) := dk_128 (dk_at dksX4_file_4 21 rfl rfl)
theorem dX4_file_129 : decode cX4_file 129 = .ok (.istore_n 3, 1) := dk_62 (dk_at dksX4_file_4 22 rfl rfl)
theorem dX4_file_130 : decode cX4_file 130 = .ok (.iinc 4 1, 3) := dk_132 4 1 (dk_at dksX4_file_5 0 rfl rfl)
theorem dX4_file_133 : decode cX4_file 133 = .ok (.goto (-34), 3) := dk_167 255 222 (dk_at dksX4_file_5 3 rfl rfl)
theorem dX4_file_136 : decode cX4_file 136 = .ok (.iload_n 3, 1) := dk_29 (dk_at dksX4_file_5 6 rfl rfl)
theorem dX4_file_137 : decode cX4_file 137 = .ok (.ireturn, 1) := dk_172 (dk_at dksX4_file_5 7 rfl rfl)
theorem dX4_file_138 : decode cX4_file 138 = .ok (.iconst 0, 1) := dk_3 (dk_at dksX4_file_5 8 rfl rfl)
theorem dX4_file_139 : decode cX4_file 139 = .ok (.istore 4, 2) := dk_54 4 (dk_at dksX4_file_5 9 rfl rfl)
theorem dX4_file_141 : decode cX4_file 141 = .ok (.iload 4, 2) := dk_21 4 (dk_at dksX4_file_5 11 rfl rfl)
theorem dX4_file_143 : decode cX4_file 143 = .ok (.aload_n 0, 1) := dk_42 (dk_at dksX4_file_5 13 rfl rfl)
theorem dX4_file_144 : decode cX4_file 144 = .ok (.getfield 13, 3) := dk_180 0 13 (dk_at dksX4_file_5 14 rfl rfl)
theorem dX4_file_147 : decode cX4_file 147 = .ok (.iconst 2, 1) := dk_5 (dk_at dksX4_file_5 17 rfl rfl)
theorem dX4_file_148 : decode cX4_file 148 = .ok (.iaload, 1) := dk_46 (dk_at dksX4_file_5 18 rfl rfl)
theorem dX4_file_149 : decode cX4_file 149 = .ok (.if_icmp .ge 25, 3) := dk_162 0 25 (dk_at dksX4_file_5 19 rfl rfl)
theorem dX4_file_152 : decode cX4_file 152 = .ok (.iload_n 3, 1) := dk_29 (dk_at dksX4_file_5 22 rfl rfl)
theorem dX4_file_153 : decode cX4_file 153 = .ok (.aload_n 0, 1) := dk_42 (dk_at dksX4_file_5 23 rfl rfl)
theorem dX4_file_154 : decode cX4_file 154 = .ok (.iload 4, 2) := dk_21 4 (dk_at dksX4_file_6 0 rfl rfl)
theorem dX4_file_156 : decode cX4_file 156 = .ok (.invokevirtual 150, 3) := dk_182 0 150 (dk_at dksX4_file_6 2 rfl rfl)
theorem dX4_file_159 : decode cX4_file 159 = .ok (.iload_n 1, 1) := dk_27 (dk_at dksX4_file_6 5 rfl rfl)
theorem dX4_file_160 : decode cX4_file 160 = .ok (.ishr, 1) := dk_122 (dk_at dksX4_file_6 6 rfl rfl)
theorem dX4_file_161 : decode cX4_file 161 = .ok (.iconst 1, 1) := dk_4 (dk_at dksX4_file_6 7 rfl rfl)
theorem dX4_file_162 : decode cX4_file 162 = .ok (.iand, 1) := dk_126 (dk_at dksX4_file_6 8 rfl rfl)
theorem dX4_file_163 : decode cX4_file 163 = .ok (.iload 4, 2) := dk_21 4 (dk_at dksX4_file_6 9 rfl rfl)
theorem dX4_file_165 : decode cX4_file 165 = .ok (.ishl, 1) := dk_120 (dk_at dksX4_file_6 11 rfl rfl)
theorem dX4_file_166 : decode cX4_file 166 = .ok (.ior, 1) := dk_128 (dk_at dksX4_file_6 12 rfl rfl)
theorem dX4_file_167 : decode cX4_file 167 = .ok (.istore_n 3, 1) := dk_62 (dk_at dksX4_file_6 13 rfl rfl)
theorem dX4_file_168 : decode cX4_file 168 = .ok (.iinc 4 1, 3) := dk_132 4 1 (dk_at dksX4_file_6 14 rfl rfl)
theorem dX4_file_171 : decode cX4_file 171 = .ok (.goto (-30), 3) := dk_167 255 226 (dk_at dksX4_file_6 17 rfl rfl)
theorem dX4_file_174 : decode cX4_file 174 = .ok (.iload_n 3, 1) := dk_29 (dk_at dksX4_file_6 20 rfl rfl)
theorem dX4_file_175 : decode cX4_file 175 = .ok (.ireturn, 1) := dk_172 (dk_at dksX4_file_6 21 rfl rfl)
theorem dX4_file_176 : decode cX4_file 176 = .ok (.aload_n 0, 1) := dk_42 (dk_at dksX4_file_6 22 rfl rfl)
theorem dX4_file_177 : decode cX4_file 177 = .ok (.iconst 2, 1) := dk_5 (dk_at dksX4_file_6 23 rfl rfl)
theorem dX4_file_178 : decode cX4_file 178 = .ok (.invokevirtual 120, 3) := dk_182 0 120 (dk_at dksX4_file_7 0 rfl rfl)
theorem dX4_file_181 : decode cX4_file 181 = .ok (.ireturn, 1) := dk_172 (dk_at dksX4_file_7 3 rfl rfl)
abbrev cX4_work : ByteArray := prog_17_method_59_code
def yX4_work : MethodName := ⟨RX4, "work", "(II)I"⟩
def dkwX4_work_5 : List UInt8 := [27, 96, 46, 167, 0, 4, 3, 172, 42, 42, 27, 182, 0, 150, 182, 0, 218, 172, 42, 5, 182, 0, 120, 172]
abbrev dktX4_work_5 : List UInt8 := dkwX4_work_5 ++ []
def dkwX4_work_4 : List UInt8 := [16, 120, 27, 96, 46, 172, 42, 180, 0, 13, 16, 120, 27, 96, 46, 158, 0, 15, 42, 180, 0, 13, 16, 126]
abbrev dktX4_work_4 : List UInt8 := dkwX4_work_4 ++ dktX4_work_5
def dkwX4_work_3 : List UInt8 := [2, 130, 126, 172, 42, 180, 0, 13, 16, 114, 27, 96, 46, 172, 42, 27, 182, 0, 147, 172, 42, 180, 0, 13]
abbrev dktX4_work_3 : List UInt8 := dkwX4_work_3 ++ dktX4_work_4
def dkwX4_work_2 : List UInt8 := [42, 180, 0, 13, 16, 108, 27, 96, 46, 172, 42, 27, 182, 0, 150, 42, 180, 0, 13, 16, 108, 27, 96, 46]
abbrev dktX4_work_2 : List UInt8 := dkwX4_work_2 ++ dktX4_work_3
def dkwX4_work_1 : List UInt8 := [170, 0, 0, 0, 0, 0, 0, 134, 0, 0, 0, 0, 0, 0, 0, 6, 0, 0, 0, 44, 0, 0, 0, 54, 0, 0, 0, 72, 0, 0, 0, 82, 0, 0, 0, 88, 0, 0, 0, 98, 0, 0, 0, 124]
abbrev dktX4_work_1 : List UInt8 := dkwX4_work_1 ++ dktX4_work_2
def dkwX4_work_0 : List UInt8 := [42, 3, 181, 0, 9, 42, 27, 182, 0, 140, 154, 0, 9, 42, 4, 182, 0, 120, 172, 28]
abbrev dktX4_work_0 : List UInt8 := dkwX4_work_0 ++ dktX4_work_1
theorem dksX4_work_0 : cX4_work.data.toList.drop 0 = dktX4_work_0 := by decide +kernel
theorem dksX4_work_1 : cX4_work.data.toList.drop 20 = dktX4_work_1 := dk_seg dksX4_work_0 20 rfl rfl
theorem dksX4_work_2 : cX4_work.data.toList.drop 64 = dktX4_work_2 := dk_seg dksX4_work_1 44 rfl rfl
theorem dksX4_work_3 : cX4_work.data.toList.drop 88 = dktX4_work_3 := dk_seg dksX4_work_2 24 rfl rfl
theorem dksX4_work_4 : cX4_work.data.toList.drop 112 = dktX4_work_4 := dk_seg dksX4_work_3 24 rfl rfl
theorem dksX4_work_5 : cX4_work.data.toList.drop 136 = dktX4_work_5 := dk_seg dksX4_work_4 24 rfl rfl
theorem dX4_work_0 : decode cX4_work 0 = .ok (.aload_n 0, 1) := dk_42 (dk_at dksX4_work_0 0 rfl rfl)
theorem dX4_work_1 : decode cX4_work 1 = .ok (.iconst 0, 1) := dk_3 (dk_at dksX4_work_0 1 rfl rfl)
theorem dX4_work_2 : decode cX4_work 2 = .ok (.putfield 9, 3) := dk_181 0 9 (dk_at dksX4_work_0 2 rfl rfl)
theorem dX4_work_5 : decode cX4_work 5 = .ok (.aload_n 0, 1) := dk_42 (dk_at dksX4_work_0 5 rfl rfl)
theorem dX4_work_6 : decode cX4_work 6 = .ok (.iload_n 1, 1) := dk_27 (dk_at dksX4_work_0 6 rfl rfl)
theorem dX4_work_7 : decode cX4_work 7 = .ok (.invokevirtual 140, 3) := dk_182 0 140 (dk_at dksX4_work_0 7 rfl rfl)
theorem dX4_work_10 : decode cX4_work 10 = .ok (.ifCond .ne 9, 3) := dk_154 0 9 (dk_at dksX4_work_0 10 rfl rfl)
theorem dX4_work_13 : decode cX4_work 13 = .ok (.aload_n 0, 1) := dk_42 (dk_at dksX4_work_0 13 rfl rfl)
theorem dX4_work_14 : decode cX4_work 14 = .ok (.iconst 1, 1) := dk_4 (dk_at dksX4_work_0 14 rfl rfl)
theorem dX4_work_15 : decode cX4_work 15 = .ok (.invokevirtual 120, 3) := dk_182 0 120 (dk_at dksX4_work_0 15 rfl rfl)
theorem dX4_work_18 : decode cX4_work 18 = .ok (.ireturn, 1) := dk_172 (dk_at dksX4_work_0 18 rfl rfl)
theorem dX4_work_19 : decode cX4_work 19 = .ok (.iload_n 2, 1) := dk_28 (dk_at dksX4_work_0 19 rfl rfl)
theorem dX4_work_20 : decode cX4_work 20 = .ok (.tableswitch 134 0 6 #[44, 54, 72, 82, 88, 98, 124], 44) := by decide +kernel
theorem dX4_work_64 : decode cX4_work 64 = .ok (.aload_n 0, 1) := dk_42 (dk_at dksX4_work_2 0 rfl rfl)
theorem dX4_work_65 : decode cX4_work 65 = .ok (.getfield 13, 3) := dk_180 0 13 (dk_at dksX4_work_2 1 rfl rfl)
theorem dX4_work_68 : decode cX4_work 68 = .ok (.bipush 108, 2) := dk_16 108 (dk_at dksX4_work_2 4 rfl rfl)
theorem dX4_work_70 : decode cX4_work 70 = .ok (.iload_n 1, 1) := dk_27 (dk_at dksX4_work_2 6 rfl rfl)
theorem dX4_work_71 : decode cX4_work 71 = .ok (.iadd, 1) := dk_96 (dk_at dksX4_work_2 7 rfl rfl)
theorem dX4_work_72 : decode cX4_work 72 = .ok (.iaload, 1) := dk_46 (dk_at dksX4_work_2 8 rfl rfl)
theorem dX4_work_73 : decode cX4_work 73 = .ok (.ireturn, 1) := dk_172 (dk_at dksX4_work_2 9 rfl rfl)
theorem dX4_work_74 : decode cX4_work 74 = .ok (.aload_n 0, 1) := dk_42 (dk_at dksX4_work_2 10 rfl rfl)
theorem dX4_work_75 : decode cX4_work 75 = .ok (.iload_n 1, 1) := dk_27 (dk_at dksX4_work_2 11 rfl rfl)
theorem dX4_work_76 : decode cX4_work 76 = .ok (.invokevirtual 150, 3) := dk_182 0 150 (dk_at dksX4_work_2 12 rfl rfl)
theorem dX4_work_79 : decode cX4_work 79 = .ok (.aload_n 0, 1) := dk_42 (dk_at dksX4_work_2 15 rfl rfl)
theorem dX4_work_80 : decode cX4_work 80 = .ok (.getfield 13, 3) := dk_180 0 13 (dk_at dksX4_work_2 16 rfl rfl)
theorem dX4_work_83 : decode cX4_work 83 = .ok (.bipush 108, 2) := dk_16 108 (dk_at dksX4_work_2 19 rfl rfl)
theorem dX4_work_85 : decode cX4_work 85 = .ok (.iload_n 1, 1) := dk_27 (dk_at dksX4_work_2 21 rfl rfl)
theorem dX4_work_86 : decode cX4_work 86 = .ok (.iadd, 1) := dk_96 (dk_at dksX4_work_2 22 rfl rfl)
theorem dX4_work_87 : decode cX4_work 87 = .ok (.iaload, 1) := dk_46 (dk_at dksX4_work_2 23 rfl rfl)
theorem dX4_work_88 : decode cX4_work 88 = .ok (.iconst (-1), 1) := dk_2 (dk_at dksX4_work_3 0 rfl rfl)
theorem dX4_work_89 : decode cX4_work 89 = .ok (.ixor, 1) := dk_130 (dk_at dksX4_work_3 1 rfl rfl)
theorem dX4_work_90 : decode cX4_work 90 = .ok (.iand, 1) := dk_126 (dk_at dksX4_work_3 2 rfl rfl)
theorem dX4_work_91 : decode cX4_work 91 = .ok (.ireturn, 1) := dk_172 (dk_at dksX4_work_3 3 rfl rfl)
theorem dX4_work_92 : decode cX4_work 92 = .ok (.aload_n 0, 1) := dk_42 (dk_at dksX4_work_3 4 rfl rfl)
theorem dX4_work_93 : decode cX4_work 93 = .ok (.getfield 13, 3) := dk_180 0 13 (dk_at dksX4_work_3 5 rfl rfl)
theorem dX4_work_96 : decode cX4_work 96 = .ok (.bipush 114, 2) := dk_16 114 (dk_at dksX4_work_3 8 rfl rfl)
theorem dX4_work_98 : decode cX4_work 98 = .ok (.iload_n 1, 1) := dk_27 (dk_at dksX4_work_3 10 rfl rfl)
theorem dX4_work_99 : decode cX4_work 99 = .ok (.iadd, 1) := dk_96 (dk_at dksX4_work_3 11 rfl rfl)
theorem dX4_work_100 : decode cX4_work 100 = .ok (.iaload, 1) := dk_46 (dk_at dksX4_work_3 12 rfl rfl)
theorem dX4_work_101 : decode cX4_work 101 = .ok (.ireturn, 1) := dk_172 (dk_at dksX4_work_3 13 rfl rfl)
theorem dX4_work_102 : decode cX4_work 102 = .ok (.aload_n 0, 1) := dk_42 (dk_at dksX4_work_3 14 rfl rfl)
theorem dX4_work_103 : decode cX4_work 103 = .ok (.iload_n 1, 1) := dk_27 (dk_at dksX4_work_3 15 rfl rfl)
theorem dX4_work_104 : decode cX4_work 104 = .ok (.invokevirtual 147, 3) := dk_182 0 147 (dk_at dksX4_work_3 16 rfl rfl)
theorem dX4_work_107 : decode cX4_work 107 = .ok (.ireturn, 1) := dk_172 (dk_at dksX4_work_3 19 rfl rfl)
theorem dX4_work_108 : decode cX4_work 108 = .ok (.aload_n 0, 1) := dk_42 (dk_at dksX4_work_3 20 rfl rfl)
theorem dX4_work_109 : decode cX4_work 109 = .ok (.getfield 13, 3) := dk_180 0 13 (dk_at dksX4_work_3 21 rfl rfl)
theorem dX4_work_112 : decode cX4_work 112 = .ok (.bipush 120, 2) := dk_16 120 (dk_at dksX4_work_4 0 rfl rfl)
theorem dX4_work_114 : decode cX4_work 114 = .ok (.iload_n 1, 1) := dk_27 (dk_at dksX4_work_4 2 rfl rfl)
theorem dX4_work_115 : decode cX4_work 115 = .ok (.iadd, 1) := dk_96 (dk_at dksX4_work_4 3 rfl rfl)
theorem dX4_work_116 : decode cX4_work 116 = .ok (.iaload, 1) := dk_46 (dk_at dksX4_work_4 4 rfl rfl)
theorem dX4_work_117 : decode cX4_work 117 = .ok (.ireturn, 1) := dk_172 (dk_at dksX4_work_4 5 rfl rfl)
theorem dX4_work_118 : decode cX4_work 118 = .ok (.aload_n 0, 1) := dk_42 (dk_at dksX4_work_4 6 rfl rfl)
theorem dX4_work_119 : decode cX4_work 119 = .ok (.getfield 13, 3) := dk_180 0 13 (dk_at dksX4_work_4 7 rfl rfl)
theorem dX4_work_122 : decode cX4_work 122 = .ok (.bipush 120, 2) := dk_16 120 (dk_at dksX4_work_4 10 rfl rfl)
theorem dX4_work_124 : decode cX4_work 124 = .ok (.iload_n 1, 1) := dk_27 (dk_at dksX4_work_4 12 rfl rfl)
theorem dX4_work_125 : decode cX4_work 125 = .ok (.iadd, 1) := dk_96 (dk_at dksX4_work_4 13 rfl rfl)
theorem dX4_work_126 : decode cX4_work 126 = .ok (.iaload, 1) := dk_46 (dk_at dksX4_work_4 14 rfl rfl)
theorem dX4_work_127 : decode cX4_work 127 = .ok (.ifCond .le 15, 3) := dk_158 0 15 (dk_at dksX4_work_4 15 rfl rfl)
theorem dX4_work_130 : decode cX4_work 130 = .ok (.aload_n 0, 1) := dk_42 (dk_at dksX4_work_4 18 rfl rfl)
theorem dX4_work_131 : decode cX4_work 131 = .ok (.getfield 13, 3) := dk_180 0 13 (dk_at dksX4_work_4 19 rfl rfl)
theorem dX4_work_134 : decode cX4_work 134 = .ok (.bipush 126, 2) := dk_16 126 (dk_at dksX4_work_4 22 rfl rfl)
theorem dX4_work_136 : decode cX4_work 136 = .ok (.iload_n 1, 1) := dk_27 (dk_at dksX4_work_5 0 rfl rfl)
theorem dX4_work_137 : decode cX4_work 137 = .ok (.iadd, 1) := dk_96 (dk_at dksX4_work_5 1 rfl rfl)
theorem dX4_work_138 : decode cX4_work 138 = .ok (.iaload, 1) := dk_46 (dk_at dksX4_work_5 2 rfl rfl)
theorem dX4_work_139 : decode cX4_work 139 = .ok (.goto 4, 3) := dk_167 0 4 (dk_at dksX4_work_5 3 rfl rfl)
theorem dX4_work_142 : decode cX4_work 142 = .ok (.iconst 0, 1) := dk_3 (dk_at dksX4_work_5 6 rfl rfl)
theorem dX4_work_143 : decode cX4_work 143 = .ok (.ireturn, 1) := dk_172 (dk_at dksX4_work_5 7 rfl rfl)
theorem dX4_work_144 : decode cX4_work 144 = .ok (.aload_n 0, 1) := dk_42 (dk_at dksX4_work_5 8 rfl rfl)
theorem dX4_work_145 : decode cX4_work 145 = .ok (.aload_n 0, 1) := dk_42 (dk_at dksX4_work_5 9 rfl rfl)
theorem dX4_work_146 : decode cX4_work 146 = .ok (.iload_n 1, 1) := dk_27 (dk_at dksX4_work_5 10 rfl rfl)
theorem dX4_work_147 : decode cX4_work 147 = .ok (.invokevirtual 150, 3) := dk_182 0 150 (dk_at dksX4_work_5 11 rfl rfl)
theorem dX4_work_150 : decode cX4_work 150 = .ok (.invokevirtual 218, 3) := dk_182 0 218 (dk_at dksX4_work_5 14 rfl rfl)
theorem dX4_work_153 : decode cX4_work 153 = .ok (.ireturn, 1) := dk_172 (dk_at dksX4_work_5 17 rfl rfl)
theorem dX4_work_154 : decode cX4_work 154 = .ok (.aload_n 0, 1) := dk_42 (dk_at dksX4_work_5 18 rfl rfl)
theorem dX4_work_155 : decode cX4_work 155 = .ok (.iconst 2, 1) := dk_5 (dk_at dksX4_work_5 19 rfl rfl)
theorem dX4_work_156 : decode cX4_work 156 = .ok (.invokevirtual 120, 3) := dk_182 0 120 (dk_at dksX4_work_5 20 rfl rfl)
theorem dX4_work_159 : decode cX4_work 159 = .ok (.ireturn, 1) := dk_172 (dk_at dksX4_work_5 23 rfl rfl)
abbrev cX4_bulkOf : ByteArray := prog_17_method_58_code
def yX4_bulkOf : MethodName := ⟨RX4, "bulkOf", "(I)I"⟩
def dkwX4_bulkOf_1 : List UInt8 := [42, 180, 0, 13, 16, 88, 29, 96, 46, 167, 0, 4, 3, 96, 61, 132, 3, 1, 167, 255, 218, 28, 172]
abbrev dktX4_bulkOf_1 : List UInt8 := dkwX4_bulkOf_1 ++ []
def dkwX4_bulkOf_0 : List UInt8 := [3, 61, 3, 62, 29, 42, 180, 0, 13, 4, 46, 162, 0, 34, 28, 27, 29, 122, 4, 126, 4, 160, 0, 15]
abbrev dktX4_bulkOf_0 : List UInt8 := dkwX4_bulkOf_0 ++ dktX4_bulkOf_1
theorem dksX4_bulkOf_0 : cX4_bulkOf.data.toList.drop 0 = dktX4_bulkOf_0 := by decide +kernel
theorem dksX4_bulkOf_1 : cX4_bulkOf.data.toList.drop 24 = dktX4_bulkOf_1 := dk_seg dksX4_bulkOf_0 24 rfl rfl
theorem dX4_bulkOf_0 : decode cX4_bulkOf 0 = .ok (.iconst 0, 1) := dk_3 (dk_at dksX4_bulkOf_0 0 rfl rfl)
theorem dX4_bulkOf_1 : decode cX4_bulkOf 1 = .ok (.istore_n 2, 1) := dk_61 (dk_at dksX4_bulkOf_0 1 rfl rfl)
theorem dX4_bulkOf_2 : decode cX4_bulkOf 2 = .ok (.iconst 0, 1) := dk_3 (dk_at dksX4_bulkOf_0 2 rfl rfl)
theorem dX4_bulkOf_3 : decode cX4_bulkOf 3 = .ok (.istore_n 3, 1) := dk_62 (dk_at dksX4_bulkOf_0 3 rfl rfl)
theorem dX4_bulkOf_4 : decode cX4_bulkOf 4 = .ok (.iload_n 3, 1) := dk_29 (dk_at dksX4_bulkOf_0 4 rfl rfl)
theorem dX4_bulkOf_5 : decode cX4_bulkOf 5 = .ok (.aload_n 0, 1) := dk_42 (dk_at dksX4_bulkOf_0 5 rfl rfl)
theorem dX4_bulkOf_6 : decode cX4_bulkOf 6 = .ok (.getfield 13, 3) := dk_180 0 13 (dk_at dksX4_bulkOf_0 6 rfl rfl)
theorem dX4_bulkOf_9 : decode cX4_bulkOf 9 = .ok (.iconst 1, 1) := dk_4 (dk_at dksX4_bulkOf_0 9 rfl rfl)
theorem dX4_bulkOf_10 : decode cX4_bulkOf 10 = .ok (.iaload, 1) := dk_46 (dk_at dksX4_bulkOf_0 10 rfl rfl)
theorem dX4_bulkOf_11 : decode cX4_bulkOf 11 = .ok (.if_icmp .ge 34, 3) := dk_162 0 34 (dk_at dksX4_bulkOf_0 11 rfl rfl)
theorem dX4_bulkOf_14 : decode cX4_bulkOf 14 = .ok (.iload_n 2, 1) := dk_28 (dk_at dksX4_bulkOf_0 14 rfl rfl)
theorem dX4_bulkOf_15 : decode cX4_bulkOf 15 = .ok (.iload_n 1, 1) := dk_27 (dk_at dksX4_bulkOf_0 15 rfl rfl)
theorem dX4_bulkOf_16 : decode cX4_bulkOf 16 = .ok (.iload_n 3, 1) := dk_29 (dk_at dksX4_bulkOf_0 16 rfl rfl)
theorem dX4_bulkOf_17 : decode cX4_bulkOf 17 = .ok (.ishr, 1) := dk_122 (dk_at dksX4_bulkOf_0 17 rfl rfl)
theorem dX4_bulkOf_18 : decode cX4_bulkOf 18 = .ok (.iconst 1, 1) := dk_4 (dk_at dksX4_bulkOf_0 18 rfl rfl)
theorem dX4_bulkOf_19 : decode cX4_bulkOf 19 = .ok (.iand, 1) := dk_126 (dk_at dksX4_bulkOf_0 19 rfl rfl)
theorem dX4_bulkOf_20 : decode cX4_bulkOf 20 = .ok (.iconst 1, 1) := dk_4 (dk_at dksX4_bulkOf_0 20 rfl rfl)
theorem dX4_bulkOf_21 : decode cX4_bulkOf 21 = .ok (.if_icmp .ne 15, 3) := dk_160 0 15 (dk_at dksX4_bulkOf_0 21 rfl rfl)
theorem dX4_bulkOf_24 : decode cX4_bulkOf 24 = .ok (.aload_n 0, 1) := dk_42 (dk_at dksX4_bulkOf_1 0 rfl rfl)
theorem dX4_bulkOf_25 : decode cX4_bulkOf 25 = .ok (.getfield 13, 3) := dk_180 0 13 (dk_at dksX4_bulkOf_1 1 rfl rfl)
theorem dX4_bulkOf_28 : decode cX4_bulkOf 28 = .ok (.bipush 88, 2) := dk_16 88 (dk_at dksX4_bulkOf_1 4 rfl rfl)
theorem dX4_bulkOf_30 : decode cX4_bulkOf 30 = .ok (.iload_n 3, 1) := dk_29 (dk_at dksX4_bulkOf_1 6 rfl rfl)
theorem dX4_bulkOf_31 : decode cX4_bulkOf 31 = .ok (.iadd, 1) := dk_96 (dk_at dksX4_bulkOf_1 7 rfl rfl)
theorem dX4_bulkOf_32 : decode cX4_bulkOf 32 = .ok (.iaload, 1) := dk_46 (dk_at dksX4_bulkOf_1 8 rfl rfl)
theorem dX4_bulkOf_33 : decode cX4_bulkOf 33 = .ok (.goto 4, 3) := dk_167 0 4 (dk_at dksX4_bulkOf_1 9 rfl rfl)
theorem dX4_bulkOf_36 : decode cX4_bulkOf 36 = .ok (.iconst 0, 1) := dk_3 (dk_at dksX4_bulkOf_1 12 rfl rfl)
theorem dX4_bulkOf_37 : decode cX4_bulkOf 37 = .ok (.iadd, 1) := dk_96 (dk_at dksX4_bulkOf_1 13 rfl rfl)
theorem dX4_bulkOf_38 : decode cX4_bulkOf 38 = .ok (.istore_n 2, 1) := dk_61 (dk_at dksX4_bulkOf_1 14 rfl rfl)
theorem dX4_bulkOf_39 : decode cX4_bulkOf 39 = .ok (.iinc 3 1, 3) := dk_132 3 1 (dk_at dksX4_bulkOf_1 15 rfl rfl)
theorem dX4_bulkOf_42 : decode cX4_bulkOf 42 = .ok (.goto (-38), 3) := dk_167 255 218 (dk_at dksX4_bulkOf_1 18 rfl rfl)
theorem dX4_bulkOf_45 : decode cX4_bulkOf 45 = .ok (.iload_n 2, 1) := dk_28 (dk_at dksX4_bulkOf_1 21 rfl rfl)
theorem dX4_bulkOf_46 : decode cX4_bulkOf 46 = .ok (.ireturn, 1) := dk_172 (dk_at dksX4_bulkOf_1 22 rfl rfl)
abbrev cX4_links : ByteArray := prog_17_method_60_code
def yX4_links : MethodName := ⟨RX4, "links", "(II)I"⟩
def dkwX4_links_4 : List UInt8 := [46, 128, 54, 5, 132, 6, 1, 167, 255, 221, 21, 5, 62, 132, 4, 1, 167, 255, 197, 21, 4, 172]
abbrev dktX4_links_4 : List UInt8 := dkwX4_links_4 ++ []
def dkwX4_links_3 : List UInt8 := [162, 0, 34, 29, 21, 6, 122, 4, 126, 4, 160, 0, 18, 21, 5, 42, 180, 0, 13, 16, 114, 21, 6, 96]
abbrev dktX4_links_3 : List UInt8 := dkwX4_links_3 ++ dktX4_links_4
def dkwX4_links_2 : List UInt8 := [120, 62, 3, 54, 4, 42, 29, 28, 182, 0, 221, 154, 0, 56, 3, 54, 5, 3, 54, 6, 21, 6, 16, 6]
abbrev dktX4_links_2 : List UInt8 := dkwX4_links_2 ++ dktX4_links_3
def dkwX4_links_1 : List UInt8 := [182, 0, 120, 172, 42, 27, 182, 0, 150, 28, 122, 4, 126, 154, 0, 9, 42, 5, 182, 0, 120, 172, 4, 27]
abbrev dktX4_links_1 : List UInt8 := dkwX4_links_1 ++ dktX4_links_2
def dkwX4_links_0 : List UInt8 := [42, 3, 181, 0, 9, 42, 27, 182, 0, 140, 153, 0, 11, 42, 28, 182, 0, 131, 154, 0, 9, 42, 4]
abbrev dktX4_links_0 : List UInt8 := dkwX4_links_0 ++ dktX4_links_1
theorem dksX4_links_0 : cX4_links.data.toList.drop 0 = dktX4_links_0 := by decide +kernel
theorem dksX4_links_1 : cX4_links.data.toList.drop 23 = dktX4_links_1 := dk_seg dksX4_links_0 23 rfl rfl
theorem dksX4_links_2 : cX4_links.data.toList.drop 47 = dktX4_links_2 := dk_seg dksX4_links_1 24 rfl rfl
theorem dksX4_links_3 : cX4_links.data.toList.drop 71 = dktX4_links_3 := dk_seg dksX4_links_2 24 rfl rfl
theorem dksX4_links_4 : cX4_links.data.toList.drop 95 = dktX4_links_4 := dk_seg dksX4_links_3 24 rfl rfl
theorem dX4_links_0 : decode cX4_links 0 = .ok (.aload_n 0, 1) := dk_42 (dk_at dksX4_links_0 0 rfl rfl)
theorem dX4_links_1 : decode cX4_links 1 = .ok (.iconst 0, 1) := dk_3 (dk_at dksX4_links_0 1 rfl rfl)
theorem dX4_links_2 : decode cX4_links 2 = .ok (.putfield 9, 3) := dk_181 0 9 (dk_at dksX4_links_0 2 rfl rfl)
theorem dX4_links_5 : decode cX4_links 5 = .ok (.aload_n 0, 1) := dk_42 (dk_at dksX4_links_0 5 rfl rfl)
theorem dX4_links_6 : decode cX4_links 6 = .ok (.iload_n 1, 1) := dk_27 (dk_at dksX4_links_0 6 rfl rfl)
theorem dX4_links_7 : decode cX4_links 7 = .ok (.invokevirtual 140, 3) := dk_182 0 140 (dk_at dksX4_links_0 7 rfl rfl)
theorem dX4_links_10 : decode cX4_links 10 = .ok (.ifCond .eq 11, 3) := dk_153 0 11 (dk_at dksX4_links_0 10 rfl rfl)
theorem dX4_links_13 : decode cX4_links 13 = .ok (.aload_n 0, 1) := dk_42 (dk_at dksX4_links_0 13 rfl rfl)
theorem dX4_links_14 : decode cX4_links 14 = .ok (.iload_n 2, 1) := dk_28 (dk_at dksX4_links_0 14 rfl rfl)
theorem dX4_links_15 : decode cX4_links 15 = .ok (.invokevirtual 131, 3) := dk_182 0 131 (dk_at dksX4_links_0 15 rfl rfl)
theorem dX4_links_18 : decode cX4_links 18 = .ok (.ifCond .ne 9, 3) := dk_154 0 9 (dk_at dksX4_links_0 18 rfl rfl)
theorem dX4_links_21 : decode cX4_links 21 = .ok (.aload_n 0, 1) := dk_42 (dk_at dksX4_links_0 21 rfl rfl)
theorem dX4_links_22 : decode cX4_links 22 = .ok (.iconst 1, 1) := dk_4 (dk_at dksX4_links_0 22 rfl rfl)
theorem dX4_links_23 : decode cX4_links 23 = .ok (.invokevirtual 120, 3) := dk_182 0 120 (dk_at dksX4_links_1 0 rfl rfl)
theorem dX4_links_26 : decode cX4_links 26 = .ok (.ireturn, 1) := dk_172 (dk_at dksX4_links_1 3 rfl rfl)
theorem dX4_links_27 : decode cX4_links 27 = .ok (.aload_n 0, 1) := dk_42 (dk_at dksX4_links_1 4 rfl rfl)
theorem dX4_links_28 : decode cX4_links 28 = .ok (.iload_n 1, 1) := dk_27 (dk_at dksX4_links_1 5 rfl rfl)
theorem dX4_links_29 : decode cX4_links 29 = .ok (.invokevirtual 150, 3) := dk_182 0 150 (dk_at dksX4_links_1 6 rfl rfl)
theorem dX4_links_32 : decode cX4_links 32 = .ok (.iload_n 2, 1) := dk_28 (dk_at dksX4_links_1 9 rfl rfl)
theorem dX4_links_33 : decode cX4_links 33 = .ok (.ishr, 1) := dk_122 (dk_at dksX4_links_1 10 rfl rfl)
theorem dX4_links_34 : decode cX4_links 34 = .ok (.iconst 1, 1) := dk_4 (dk_at dksX4_links_1 11 rfl rfl)
theorem dX4_links_35 : decode cX4_links 35 = .ok (.iand, 1) := dk_126 (dk_at dksX4_links_1 12 rfl rfl)
theorem dX4_links_36 : decode cX4_links 36 = .ok (.ifCond .ne 9, 3) := dk_154 0 9 (dk_at dksX4_links_1 13 rfl rfl)
theorem dX4_links_39 : decode cX4_links 39 = .ok (.aload_n 0, 1) := dk_42 (dk_at dksX4_links_1 16 rfl rfl)
theorem dX4_links_40 : decode cX4_links 40 = .ok (.iconst 2, 1) := dk_5 (dk_at dksX4_links_1 17 rfl rfl)
theorem dX4_links_41 : decode cX4_links 41 = .ok (.invokevirtual 120, 3) := dk_182 0 120 (dk_at dksX4_links_1 18 rfl rfl)
theorem dX4_links_44 : decode cX4_links 44 = .ok (.ireturn, 1) := dk_172 (dk_at dksX4_links_1 21 rfl rfl)
theorem dX4_links_45 : decode cX4_links 45 = .ok (.iconst 1, 1) := dk_4 (dk_at dksX4_links_1 22 rfl rfl)
theorem dX4_links_46 : decode cX4_links 46 = .ok (.iload_n 1, 1) := dk_27 (dk_at dksX4_links_1 23 rfl rfl)
theorem dX4_links_47 : decode cX4_links 47 = .ok (.ishl, 1) := dk_120 (dk_at dksX4_links_2 0 rfl rfl)
theorem dX4_links_48 : decode cX4_links 48 = .ok (.istore_n 3, 1) := dk_62 (dk_at dksX4_links_2 1 rfl rfl)
theorem dX4_links_49 : decode cX4_links 49 = .ok (.iconst 0, 1) := dk_3 (dk_at dksX4_links_2 2 rfl rfl)
theorem dX4_links_50 : decode cX4_links 50 = .ok (.istore 4, 2) := dk_54 4 (dk_at dksX4_links_2 3 rfl rfl)
theorem dX4_links_52 : decode cX4_links 52 = .ok (.aload_n 0, 1) := dk_42 (dk_at dksX4_links_2 5 rfl rfl)
theorem dX4_links_53 : decode cX4_links 53 = .ok (.iload_n 3, 1) := dk_29 (dk_at dksX4_links_2 6 rfl rfl)
theorem dX4_links_54 : decode cX4_links 54 = .ok (.iload_n 2, 1) := dk_28 (dk_at dksX4_links_2 7 rfl rfl)
theorem dX4_links_55 : decode cX4_links 55 = .ok (.invokevirtual 221, 3) := dk_182 0 221 (dk_at dksX4_links_2 8 rfl rfl)
theorem dX4_links_58 : decode cX4_links 58 = .ok (.ifCond .ne 56, 3) := dk_154 0 56 (dk_at dksX4_links_2 11 rfl rfl)
theorem dX4_links_61 : decode cX4_links 61 = .ok (.iconst 0, 1) := dk_3 (dk_at dksX4_links_2 14 rfl rfl)
theorem dX4_links_62 : decode cX4_links 62 = .ok (.istore 5, 2) := dk_54 5 (dk_at dksX4_links_2 15 rfl rfl)
theorem dX4_links_64 : decode cX4_links 64 = .ok (.iconst 0, 1) := dk_3 (dk_at dksX4_links_2 17 rfl rfl)
theorem dX4_links_65 : decode cX4_links 65 = .ok (.istore 6, 2) := dk_54 6 (dk_at dksX4_links_2 18 rfl rfl)
theorem dX4_links_67 : decode cX4_links 67 = .ok (.iload 6, 2) := dk_21 6 (dk_at dksX4_links_2 20 rfl rfl)
theorem dX4_links_69 : decode cX4_links 69 = .ok (.bipush 6, 2) := dk_16 6 (dk_at dksX4_links_2 22 rfl rfl)
theorem dX4_links_71 : decode cX4_links 71 = .ok (.if_icmp .ge 34, 3) := dk_162 0 34 (dk_at dksX4_links_3 0 rfl rfl)
theorem dX4_links_74 : decode cX4_links 74 = .ok (.iload_n 3, 1) := dk_29 (dk_at dksX4_links_3 3 rfl rfl)
theorem dX4_links_75 : decode cX4_links 75 = .ok (.iload 6, 2) := dk_21 6 (dk_at dksX4_links_3 4 rfl rfl)
theorem dX4_links_77 : decode cX4_links 77 = .ok (.ishr, 1) := dk_122 (dk_at dksX4_links_3 6 rfl rfl)
theorem dX4_links_78 : decode cX4_links 78 = .ok (.iconst 1, 1) := dk_4 (dk_at dksX4_links_3 7 rfl rfl)
theorem dX4_links_79 : decode cX4_links 79 = .ok (.iand, 1) := dk_126 (dk_at dksX4_links_3 8 rfl rfl)
theorem dX4_links_80 : decode cX4_links 80 = .ok (.iconst 1, 1) := dk_4 (dk_at dksX4_links_3 9 rfl rfl)
theorem dX4_links_81 : decode cX4_links 81 = .ok (.if_icmp .ne 18, 3) := dk_160 0 18 (dk_at dksX4_links_3 10 rfl rfl)
theorem dX4_links_84 : decode cX4_links 84 = .ok (.iload 5, 2) := dk_21 5 (dk_at dksX4_links_3 13 rfl rfl)
theorem dX4_links_86 : decode cX4_links 86 = .ok (.aload_n 0, 1) := dk_42 (dk_at dksX4_links_3 15 rfl rfl)
theorem dX4_links_87 : decode cX4_links 87 = .ok (.getfield 13, 3) := dk_180 0 13 (dk_at dksX4_links_3 16 rfl rfl)
theorem dX4_links_90 : decode cX4_links 90 = .ok (.bipush 114, 2) := dk_16 114 (dk_at dksX4_links_3 19 rfl rfl)
theorem dX4_links_92 : decode cX4_links 92 = .ok (.iload 6, 2) := dk_21 6 (dk_at dksX4_links_3 21 rfl rfl)
theorem dX4_links_94 : decode cX4_links 94 = .ok (.iadd, 1) := dk_96 (dk_at dksX4_links_3 23 rfl rfl)
theorem dX4_links_95 : decode cX4_links 95 = .ok (.iaload, 1) := dk_46 (dk_at dksX4_links_4 0 rfl rfl)
theorem dX4_links_96 : decode cX4_links 96 = .ok (.ior, 1) := dk_128 (dk_at dksX4_links_4 1 rfl rfl)
theorem dX4_links_97 : decode cX4_links 97 = .ok (.istore 5, 2) := dk_54 5 (dk_at dksX4_links_4 2 rfl rfl)
theorem dX4_links_99 : decode cX4_links 99 = .ok (.iinc 6 1, 3) := dk_132 6 1 (dk_at dksX4_links_4 4 rfl rfl)
theorem dX4_links_102 : decode cX4_links 102 = .ok (.goto (-35), 3) := dk_167 255 221 (dk_at dksX4_links_4 7 rfl rfl)
theorem dX4_links_105 : decode cX4_links 105 = .ok (.iload 5, 2) := dk_21 5 (dk_at dksX4_links_4 10 rfl rfl)
theorem dX4_links_107 : decode cX4_links 107 = .ok (.istore_n 3, 1) := dk_62 (dk_at dksX4_links_4 12 rfl rfl)
theorem dX4_links_108 : decode cX4_links 108 = .ok (.iinc 4 1, 3) := dk_132 4 1 (dk_at dksX4_links_4 13 rfl rfl)
theorem dX4_links_111 : decode cX4_links 111 = .ok (.goto (-59), 3) := dk_167 255 197 (dk_at dksX4_links_4 16 rfl rfl)
theorem dX4_links_114 : decode cX4_links 114 = .ok (.iload 4, 2) := dk_21 4 (dk_at dksX4_links_4 19 rfl rfl)
theorem dX4_links_116 : decode cX4_links 116 = .ok (.ireturn, 1) := dk_172 (dk_at dksX4_links_4 21 rfl rfl)
abbrev cX4_joins : ByteArray := prog_17_method_61_code
def yX4_joins : MethodName := ⟨RX4, "joins", "(II)Z"⟩
def dkwX4_joins_2 : List UInt8 := [3, 172]
abbrev dktX4_joins_2 : List UInt8 := dkwX4_joins_2 ++ []
def dkwX4_joins_1 : List UInt8 := [180, 0, 13, 16, 108, 29, 96, 46, 28, 122, 4, 126, 4, 160, 0, 5, 4, 172, 132, 3, 1, 167, 255, 215]
abbrev dktX4_joins_1 : List UInt8 := dkwX4_joins_1 ++ dktX4_joins_2
def dkwX4_joins_0 : List UInt8 := [3, 62, 29, 42, 180, 0, 13, 5, 46, 162, 0, 37, 27, 29, 122, 4, 126, 4, 160, 0, 22, 42]
abbrev dktX4_joins_0 : List UInt8 := dkwX4_joins_0 ++ dktX4_joins_1
theorem dksX4_joins_0 : cX4_joins.data.toList.drop 0 = dktX4_joins_0 := by decide +kernel
theorem dksX4_joins_1 : cX4_joins.data.toList.drop 22 = dktX4_joins_1 := dk_seg dksX4_joins_0 22 rfl rfl
theorem dksX4_joins_2 : cX4_joins.data.toList.drop 46 = dktX4_joins_2 := dk_seg dksX4_joins_1 24 rfl rfl
theorem dX4_joins_0 : decode cX4_joins 0 = .ok (.iconst 0, 1) := dk_3 (dk_at dksX4_joins_0 0 rfl rfl)
theorem dX4_joins_1 : decode cX4_joins 1 = .ok (.istore_n 3, 1) := dk_62 (dk_at dksX4_joins_0 1 rfl rfl)
theorem dX4_joins_2 : decode cX4_joins 2 = .ok (.iload_n 3, 1) := dk_29 (dk_at dksX4_joins_0 2 rfl rfl)
theorem dX4_joins_3 : decode cX4_joins 3 = .ok (.aload_n 0, 1) := dk_42 (dk_at dksX4_joins_0 3 rfl rfl)
theorem dX4_joins_4 : decode cX4_joins 4 = .ok (.getfield 13, 3) := dk_180 0 13 (dk_at dksX4_joins_0 4 rfl rfl)
theorem dX4_joins_7 : decode cX4_joins 7 = .ok (.iconst 2, 1) := dk_5 (dk_at dksX4_joins_0 7 rfl rfl)
theorem dX4_joins_8 : decode cX4_joins 8 = .ok (.iaload, 1) := dk_46 (dk_at dksX4_joins_0 8 rfl rfl)
theorem dX4_joins_9 : decode cX4_joins 9 = .ok (.if_icmp .ge 37, 3) := dk_162 0 37 (dk_at dksX4_joins_0 9 rfl rfl)
theorem dX4_joins_12 : decode cX4_joins 12 = .ok (.iload_n 1, 1) := dk_27 (dk_at dksX4_joins_0 12 rfl rfl)
theorem dX4_joins_13 : decode cX4_joins 13 = .ok (.iload_n 3, 1) := dk_29 (dk_at dksX4_joins_0 13 rfl rfl)
theorem dX4_joins_14 : decode cX4_joins 14 = .ok (.ishr, 1) := dk_122 (dk_at dksX4_joins_0 14 rfl rfl)
theorem dX4_joins_15 : decode cX4_joins 15 = .ok (.iconst 1, 1) := dk_4 (dk_at dksX4_joins_0 15 rfl rfl)
theorem dX4_joins_16 : decode cX4_joins 16 = .ok (.iand, 1) := dk_126 (dk_at dksX4_joins_0 16 rfl rfl)
theorem dX4_joins_17 : decode cX4_joins 17 = .ok (.iconst 1, 1) := dk_4 (dk_at dksX4_joins_0 17 rfl rfl)
theorem dX4_joins_18 : decode cX4_joins 18 = .ok (.if_icmp .ne 22, 3) := dk_160 0 22 (dk_at dksX4_joins_0 18 rfl rfl)
theorem dX4_joins_21 : decode cX4_joins 21 = .ok (.aload_n 0, 1) := dk_42 (dk_at dksX4_joins_0 21 rfl rfl)
theorem dX4_joins_22 : decode cX4_joins 22 = .ok (.getfield 13, 3) := dk_180 0 13 (dk_at dksX4_joins_1 0 rfl rfl)
theorem dX4_joins_25 : decode cX4_joins 25 = .ok (.bipush 108, 2) := dk_16 108 (dk_at dksX4_joins_1 3 rfl rfl)
theorem dX4_joins_27 : decode cX4_joins 27 = .ok (.iload_n 3, 1) := dk_29 (dk_at dksX4_joins_1 5 rfl rfl)
theorem dX4_joins_28 : decode cX4_joins 28 = .ok (.iadd, 1) := dk_96 (dk_at dksX4_joins_1 6 rfl rfl)
theorem dX4_joins_29 : decode cX4_joins 29 = .ok (.iaload, 1) := dk_46 (dk_at dksX4_joins_1 7 rfl rfl)
theorem dX4_joins_30 : decode cX4_joins 30 = .ok (.iload_n 2, 1) := dk_28 (dk_at dksX4_joins_1 8 rfl rfl)
theorem dX4_joins_31 : decode cX4_joins 31 = .ok (.ishr, 1) := dk_122 (dk_at dksX4_joins_1 9 rfl rfl)
theorem dX4_joins_32 : decode cX4_joins 32 = .ok (.iconst 1, 1) := dk_4 (dk_at dksX4_joins_1 10 rfl rfl)
theorem dX4_joins_33 : decode cX4_joins 33 = .ok (.iand, 1) := dk_126 (dk_at dksX4_joins_1 11 rfl rfl)
theorem dX4_joins_34 : decode cX4_joins 34 = .ok (.iconst 1, 1) := dk_4 (dk_at dksX4_joins_1 12 rfl rfl)
theorem dX4_joins_35 : decode cX4_joins 35 = .ok (.if_icmp .ne 5, 3) := dk_160 0 5 (dk_at dksX4_joins_1 13 rfl rfl)
theorem dX4_joins_38 : decode cX4_joins 38 = .ok (.iconst 1, 1) := dk_4 (dk_at dksX4_joins_1 16 rfl rfl)
theorem dX4_joins_39 : decode cX4_joins 39 = .ok (.ireturn, 1) := dk_172 (dk_at dksX4_joins_1 17 rfl rfl)
theorem dX4_joins_40 : decode cX4_joins 40 = .ok (.iinc 3 1, 3) := dk_132 3 1 (dk_at dksX4_joins_1 18 rfl rfl)
theorem dX4_joins_43 : decode cX4_joins 43 = .ok (.goto (-41), 3) := dk_167 255 215 (dk_at dksX4_joins_1 21 rfl rfl)
theorem dX4_joins_46 : decode cX4_joins 46 = .ok (.iconst 0, 1) := dk_3 (dk_at dksX4_joins_2 0 rfl rfl)
theorem dX4_joins_47 : decode cX4_joins 47 = .ok (.ireturn, 1) := dk_172 (dk_at dksX4_joins_2 1 rfl rfl)
abbrev cX4_meanSize : ByteArray := prog_17_method_62_code
def yX4_meanSize : MethodName := ⟨RX4, "meanSize", "(I)D"⟩
def dkwX4_meanSize_2 : List UInt8 := [184, 0, 162, 135, 111, 175]
abbrev dktX4_meanSize_2 : List UInt8 := dkwX4_meanSize_2 ++ []
def dkwX4_meanSize_1 : List UInt8 := [182, 0, 150, 61, 28, 154, 0, 12, 42, 5, 182, 0, 120, 135, 167, 0, 15, 42, 28, 182, 0, 218, 135, 28]
abbrev dktX4_meanSize_1 : List UInt8 := dkwX4_meanSize_1 ++ dktX4_meanSize_2
def dkwX4_meanSize_0 : List UInt8 := [42, 3, 181, 0, 9, 42, 27, 182, 0, 140, 154, 0, 10, 42, 4, 182, 0, 120, 135, 175, 42, 27]
abbrev dktX4_meanSize_0 : List UInt8 := dkwX4_meanSize_0 ++ dktX4_meanSize_1
theorem dksX4_meanSize_0 : cX4_meanSize.data.toList.drop 0 = dktX4_meanSize_0 := by decide +kernel
theorem dksX4_meanSize_1 : cX4_meanSize.data.toList.drop 22 = dktX4_meanSize_1 := dk_seg dksX4_meanSize_0 22 rfl rfl
theorem dksX4_meanSize_2 : cX4_meanSize.data.toList.drop 46 = dktX4_meanSize_2 := dk_seg dksX4_meanSize_1 24 rfl rfl
theorem dX4_meanSize_0 : decode cX4_meanSize 0 = .ok (.aload_n 0, 1) := dk_42 (dk_at dksX4_meanSize_0 0 rfl rfl)
theorem dX4_meanSize_1 : decode cX4_meanSize 1 = .ok (.iconst 0, 1) := dk_3 (dk_at dksX4_meanSize_0 1 rfl rfl)
theorem dX4_meanSize_2 : decode cX4_meanSize 2 = .ok (.putfield 9, 3) := dk_181 0 9 (dk_at dksX4_meanSize_0 2 rfl rfl)
theorem dX4_meanSize_5 : decode cX4_meanSize 5 = .ok (.aload_n 0, 1) := dk_42 (dk_at dksX4_meanSize_0 5 rfl rfl)
theorem dX4_meanSize_6 : decode cX4_meanSize 6 = .ok (.iload_n 1, 1) := dk_27 (dk_at dksX4_meanSize_0 6 rfl rfl)
theorem dX4_meanSize_7 : decode cX4_meanSize 7 = .ok (.invokevirtual 140, 3) := dk_182 0 140 (dk_at dksX4_meanSize_0 7 rfl rfl)
theorem dX4_meanSize_10 : decode cX4_meanSize 10 = .ok (.ifCond .ne 10, 3) := dk_154 0 10 (dk_at dksX4_meanSize_0 10 rfl rfl)
theorem dX4_meanSize_13 : decode cX4_meanSize 13 = .ok (.aload_n 0, 1) := dk_42 (dk_at dksX4_meanSize_0 13 rfl rfl)
theorem dX4_meanSize_14 : decode cX4_meanSize 14 = .ok (.iconst 1, 1) := dk_4 (dk_at dksX4_meanSize_0 14 rfl rfl)
theorem dX4_meanSize_15 : decode cX4_meanSize 15 = .ok (.invokevirtual 120, 3) := dk_182 0 120 (dk_at dksX4_meanSize_0 15 rfl rfl)
theorem dX4_meanSize_18 : decode cX4_meanSize 18 = .ok (.i2d, 1) := dk_135 (dk_at dksX4_meanSize_0 18 rfl rfl)
theorem dX4_meanSize_19 : decode cX4_meanSize 19 = .ok (.dreturn, 1) := dk_175 (dk_at dksX4_meanSize_0 19 rfl rfl)
theorem dX4_meanSize_20 : decode cX4_meanSize 20 = .ok (.aload_n 0, 1) := dk_42 (dk_at dksX4_meanSize_0 20 rfl rfl)
theorem dX4_meanSize_21 : decode cX4_meanSize 21 = .ok (.iload_n 1, 1) := dk_27 (dk_at dksX4_meanSize_0 21 rfl rfl)
theorem dX4_meanSize_22 : decode cX4_meanSize 22 = .ok (.invokevirtual 150, 3) := dk_182 0 150 (dk_at dksX4_meanSize_1 0 rfl rfl)
theorem dX4_meanSize_25 : decode cX4_meanSize 25 = .ok (.istore_n 2, 1) := dk_61 (dk_at dksX4_meanSize_1 3 rfl rfl)
theorem dX4_meanSize_26 : decode cX4_meanSize 26 = .ok (.iload_n 2, 1) := dk_28 (dk_at dksX4_meanSize_1 4 rfl rfl)
theorem dX4_meanSize_27 : decode cX4_meanSize 27 = .ok (.ifCond .ne 12, 3) := dk_154 0 12 (dk_at dksX4_meanSize_1 5 rfl rfl)
theorem dX4_meanSize_30 : decode cX4_meanSize 30 = .ok (.aload_n 0, 1) := dk_42 (dk_at dksX4_meanSize_1 8 rfl rfl)
theorem dX4_meanSize_31 : decode cX4_meanSize 31 = .ok (.iconst 2, 1) := dk_5 (dk_at dksX4_meanSize_1 9 rfl rfl)
theorem dX4_meanSize_32 : decode cX4_meanSize 32 = .ok (.invokevirtual 120, 3) := dk_182 0 120 (dk_at dksX4_meanSize_1 10 rfl rfl)
theorem dX4_meanSize_35 : decode cX4_meanSize 35 = .ok (.i2d, 1) := dk_135 (dk_at dksX4_meanSize_1 13 rfl rfl)
theorem dX4_meanSize_36 : decode cX4_meanSize 36 = .ok (.goto 15, 3) := dk_167 0 15 (dk_at dksX4_meanSize_1 14 rfl rfl)
theorem dX4_meanSize_39 : decode cX4_meanSize 39 = .ok (.aload_n 0, 1) := dk_42 (dk_at dksX4_meanSize_1 17 rfl rfl)
theorem dX4_meanSize_40 : decode cX4_meanSize 40 = .ok (.iload_n 2, 1) := dk_28 (dk_at dksX4_meanSize_1 18 rfl rfl)
theorem dX4_meanSize_41 : decode cX4_meanSize 41 = .ok (.invokevirtual 218, 3) := dk_182 0 218 (dk_at dksX4_meanSize_1 19 rfl rfl)
theorem dX4_meanSize_44 : decode cX4_meanSize 44 = .ok (.i2d, 1) := dk_135 (dk_at dksX4_meanSize_1 22 rfl rfl)
theorem dX4_meanSize_45 : decode cX4_meanSize 45 = .ok (.iload_n 2, 1) := dk_28 (dk_at dksX4_meanSize_1 23 rfl rfl)
theorem dX4_meanSize_46 : decode cX4_meanSize 46 = .ok (.invokestatic 162, 3) := dk_184 0 162 (dk_at dksX4_meanSize_2 0 rfl rfl)
theorem dX4_meanSize_49 : decode cX4_meanSize 49 = .ok (.i2d, 1) := dk_135 (dk_at dksX4_meanSize_2 3 rfl rfl)
theorem dX4_meanSize_50 : decode cX4_meanSize 50 = .ok (.ddiv, 1) := dk_111 (dk_at dksX4_meanSize_2 4 rfl rfl)
theorem dX4_meanSize_51 : decode cX4_meanSize 51 = .ok (.dreturn, 1) := dk_175 (dk_at dksX4_meanSize_2 5 rfl rfl)
abbrev cX4_share : ByteArray := prog_17_method_63_code
def yX4_share : MethodName := ⟨RX4, "share", "(I)F"⟩
def dkwX4_share_3 : List UInt8 := [167, 255, 228, 28, 134, 42, 180, 0, 13, 3, 46, 134, 110, 174]
abbrev dktX4_share_3 : List UInt8 := dkwX4_share_3 ++ []
def dkwX4_share_2 : List UInt8 := [3, 46, 162, 0, 24, 28, 42, 180, 0, 13, 7, 29, 96, 46, 27, 122, 4, 126, 96, 61, 132, 3, 1]
abbrev dktX4_share_2 : List UInt8 := dkwX4_share_2 ++ dktX4_share_3
def dkwX4_share_1 : List UInt8 := [180, 0, 13, 3, 46, 154, 0, 10, 42, 5, 182, 0, 120, 134, 174, 3, 61, 3, 62, 29, 42, 180, 0, 13]
abbrev dktX4_share_1 : List UInt8 := dkwX4_share_1 ++ dktX4_share_2
def dkwX4_share_0 : List UInt8 := [42, 3, 181, 0, 9, 27, 3, 7, 184, 0, 113, 154, 0, 10, 42, 4, 182, 0, 120, 134, 174, 42]
abbrev dktX4_share_0 : List UInt8 := dkwX4_share_0 ++ dktX4_share_1
theorem dksX4_share_0 : cX4_share.data.toList.drop 0 = dktX4_share_0 := by decide +kernel
theorem dksX4_share_1 : cX4_share.data.toList.drop 22 = dktX4_share_1 := dk_seg dksX4_share_0 22 rfl rfl
theorem dksX4_share_2 : cX4_share.data.toList.drop 46 = dktX4_share_2 := dk_seg dksX4_share_1 24 rfl rfl
theorem dksX4_share_3 : cX4_share.data.toList.drop 69 = dktX4_share_3 := dk_seg dksX4_share_2 23 rfl rfl
theorem dX4_share_0 : decode cX4_share 0 = .ok (.aload_n 0, 1) := dk_42 (dk_at dksX4_share_0 0 rfl rfl)
theorem dX4_share_1 : decode cX4_share 1 = .ok (.iconst 0, 1) := dk_3 (dk_at dksX4_share_0 1 rfl rfl)
theorem dX4_share_2 : decode cX4_share 2 = .ok (.putfield 9, 3) := dk_181 0 9 (dk_at dksX4_share_0 2 rfl rfl)
theorem dX4_share_5 : decode cX4_share 5 = .ok (.iload_n 1, 1) := dk_27 (dk_at dksX4_share_0 5 rfl rfl)
theorem dX4_share_6 : decode cX4_share 6 = .ok (.iconst 0, 1) := dk_3 (dk_at dksX4_share_0 6 rfl rfl)
theorem dX4_share_7 : decode cX4_share 7 = .ok (.iconst 4, 1) := dk_7 (dk_at dksX4_share_0 7 rfl rfl)
theorem dX4_share_8 : decode cX4_share 8 = .ok (.invokestatic 113, 3) := dk_184 0 113 (dk_at dksX4_share_0 8 rfl rfl)
theorem dX4_share_11 : decode cX4_share 11 = .ok (.ifCond .ne 10, 3) := dk_154 0 10 (dk_at dksX4_share_0 11 rfl rfl)
theorem dX4_share_14 : decode cX4_share 14 = .ok (.aload_n 0, 1) := dk_42 (dk_at dksX4_share_0 14 rfl rfl)
theorem dX4_share_15 : decode cX4_share 15 = .ok (.iconst 1, 1) := dk_4 (dk_at dksX4_share_0 15 rfl rfl)
theorem dX4_share_16 : decode cX4_share 16 = .ok (.invokevirtual 120, 3) := dk_182 0 120 (dk_at dksX4_share_0 16 rfl rfl)
theorem dX4_share_19 : decode cX4_share 19 = .ok (.i2f, 1) := dk_134 (dk_at dksX4_share_0 19 rfl rfl)
theorem dX4_share_20 : decode cX4_share 20 = .ok (.freturn, 1) := dk_174 (dk_at dksX4_share_0 20 rfl rfl)
theorem dX4_share_21 : decode cX4_share 21 = .ok (.aload_n 0, 1) := dk_42 (dk_at dksX4_share_0 21 rfl rfl)
theorem dX4_share_22 : decode cX4_share 22 = .ok (.getfield 13, 3) := dk_180 0 13 (dk_at dksX4_share_1 0 rfl rfl)
theorem dX4_share_25 : decode cX4_share 25 = .ok (.iconst 0, 1) := dk_3 (dk_at dksX4_share_1 3 rfl rfl)
theorem dX4_share_26 : decode cX4_share 26 = .ok (.iaload, 1) := dk_46 (dk_at dksX4_share_1 4 rfl rfl)
theorem dX4_share_27 : decode cX4_share 27 = .ok (.ifCond .ne 10, 3) := dk_154 0 10 (dk_at dksX4_share_1 5 rfl rfl)
theorem dX4_share_30 : decode cX4_share 30 = .ok (.aload_n 0, 1) := dk_42 (dk_at dksX4_share_1 8 rfl rfl)
theorem dX4_share_31 : decode cX4_share 31 = .ok (.iconst 2, 1) := dk_5 (dk_at dksX4_share_1 9 rfl rfl)
theorem dX4_share_32 : decode cX4_share 32 = .ok (.invokevirtual 120, 3) := dk_182 0 120 (dk_at dksX4_share_1 10 rfl rfl)
theorem dX4_share_35 : decode cX4_share 35 = .ok (.i2f, 1) := dk_134 (dk_at dksX4_share_1 13 rfl rfl)
theorem dX4_share_36 : decode cX4_share 36 = .ok (.freturn, 1) := dk_174 (dk_at dksX4_share_1 14 rfl rfl)
theorem dX4_share_37 : decode cX4_share 37 = .ok (.iconst 0, 1) := dk_3 (dk_at dksX4_share_1 15 rfl rfl)
theorem dX4_share_38 : decode cX4_share 38 = .ok (.istore_n 2, 1) := dk_61 (dk_at dksX4_share_1 16 rfl rfl)
theorem dX4_share_39 : decode cX4_share 39 = .ok (.iconst 0, 1) := dk_3 (dk_at dksX4_share_1 17 rfl rfl)
theorem dX4_share_40 : decode cX4_share 40 = .ok (.istore_n 3, 1) := dk_62 (dk_at dksX4_share_1 18 rfl rfl)
theorem dX4_share_41 : decode cX4_share 41 = .ok (.iload_n 3, 1) := dk_29 (dk_at dksX4_share_1 19 rfl rfl)
theorem dX4_share_42 : decode cX4_share 42 = .ok (.aload_n 0, 1) := dk_42 (dk_at dksX4_share_1 20 rfl rfl)
theorem dX4_share_43 : decode cX4_share 43 = .ok (.getfield 13, 3) := dk_180 0 13 (dk_at dksX4_share_1 21 rfl rfl)
theorem dX4_share_46 : decode cX4_share 46 = .ok (.iconst 0, 1) := dk_3 (dk_at dksX4_share_2 0 rfl rfl)
theorem dX4_share_47 : decode cX4_share 47 = .ok (.iaload, 1) := dk_46 (dk_at dksX4_share_2 1 rfl rfl)
theorem dX4_share_48 : decode cX4_share 48 = .ok (.if_icmp .ge 24, 3) := dk_162 0 24 (dk_at dksX4_share_2 2 rfl rfl)
theorem dX4_share_51 : decode cX4_share 51 = .ok (.iload_n 2, 1) := dk_28 (dk_at dksX4_share_2 5 rfl rfl)
theorem dX4_share_52 : decode cX4_share 52 = .ok (.aload_n 0, 1) := dk_42 (dk_at dksX4_share_2 6 rfl rfl)
theorem dX4_share_53 : decode cX4_share 53 = .ok (.getfield 13, 3) := dk_180 0 13 (dk_at dksX4_share_2 7 rfl rfl)
theorem dX4_share_56 : decode cX4_share 56 = .ok (.iconst 4, 1) := dk_7 (dk_at dksX4_share_2 10 rfl rfl)
theorem dX4_share_57 : decode cX4_share 57 = .ok (.iload_n 3, 1) := dk_29 (dk_at dksX4_share_2 11 rfl rfl)
theorem dX4_share_58 : decode cX4_share 58 = .ok (.iadd, 1) := dk_96 (dk_at dksX4_share_2 12 rfl rfl)
theorem dX4_share_59 : decode cX4_share 59 = .ok (.iaload, 1) := dk_46 (dk_at dksX4_share_2 13 rfl rfl)
theorem dX4_share_60 : decode cX4_share 60 = .ok (.iload_n 1, 1) := dk_27 (dk_at dksX4_share_2 14 rfl rfl)
theorem dX4_share_61 : decode cX4_share 61 = .ok (.ishr, 1) := dk_122 (dk_at dksX4_share_2 15 rfl rfl)
theorem dX4_share_62 : decode cX4_share 62 = .ok (.iconst 1, 1) := dk_4 (dk_at dksX4_share_2 16 rfl rfl)
theorem dX4_share_63 : decode cX4_share 63 = .ok (.iand, 1) := dk_126 (dk_at dksX4_share_2 17 rfl rfl)
theorem dX4_share_64 : decode cX4_share 64 = .ok (.iadd, 1) := dk_96 (dk_at dksX4_share_2 18 rfl rfl)
theorem dX4_share_65 : decode cX4_share 65 = .ok (.istore_n 2, 1) := dk_61 (dk_at dksX4_share_2 19 rfl rfl)
theorem dX4_share_66 : decode cX4_share 66 = .ok (.iinc 3 1, 3) := dk_132 3 1 (dk_at dksX4_share_2 20 rfl rfl)
theorem dX4_share_69 : decode cX4_share 69 = .ok (.goto (-28), 3) := dk_167 255 228 (dk_at dksX4_share_3 0 rfl rfl)
theorem dX4_share_72 : decode cX4_share 72 = .ok (.iload_n 2, 1) := dk_28 (dk_at dksX4_share_3 3 rfl rfl)
theorem dX4_share_73 : decode cX4_share 73 = .ok (.i2f, 1) := dk_134 (dk_at dksX4_share_3 4 rfl rfl)
theorem dX4_share_74 : decode cX4_share 74 = .ok (.aload_n 0, 1) := dk_42 (dk_at dksX4_share_3 5 rfl rfl)
theorem dX4_share_75 : decode cX4_share 75 = .ok (.getfield 13, 3) := dk_180 0 13 (dk_at dksX4_share_3 6 rfl rfl)
theorem dX4_share_78 : decode cX4_share 78 = .ok (.iconst 0, 1) := dk_3 (dk_at dksX4_share_3 9 rfl rfl)
theorem dX4_share_79 : decode cX4_share 79 = .ok (.iaload, 1) := dk_46 (dk_at dksX4_share_3 10 rfl rfl)
theorem dX4_share_80 : decode cX4_share 80 = .ok (.i2f, 1) := dk_134 (dk_at dksX4_share_3 11 rfl rfl)
theorem dX4_share_81 : decode cX4_share 81 = .ok (.fdiv, 1) := dk_110 (dk_at dksX4_share_3 12 rfl rfl)
theorem dX4_share_82 : decode cX4_share 82 = .ok (.freturn, 1) := dk_174 (dk_at dksX4_share_3 13 rfl rfl)
abbrev cX4_isConsistent : ByteArray := prog_17_method_64_code
def yX4_isConsistent : MethodName := ⟨RX4, "isConsistent", "()Z"⟩
def dkwX4_isConsistent_5 : List UInt8 := [167, 0, 4, 3, 60, 132, 2, 1, 167, 255, 142, 27, 172]
abbrev dktX4_isConsistent_5 : List UInt8 := dkwX4_isConsistent_5 ++ []
def dkwX4_isConsistent_4 : List UInt8 := [153, 0, 25, 42, 2, 182, 0, 192, 154, 0, 17, 21, 4, 42, 28, 182, 0, 150, 160, 0, 7, 4]
abbrev dktX4_isConsistent_4 : List UInt8 := dkwX4_isConsistent_4 ++ dktX4_isConsistent_5
def dkwX4_isConsistent_3 : List UInt8 := [4, 160, 0, 12, 42, 21, 5, 182, 0, 150, 167, 0, 4, 3, 128, 54, 4, 132, 5, 1, 167, 255, 214, 27]
abbrev dktX4_isConsistent_3 : List UInt8 := dkwX4_isConsistent_3 ++ dktX4_isConsistent_4
def dkwX4_isConsistent_2 : List UInt8 := [54, 5, 21, 5, 28, 162, 0, 42, 21, 4, 42, 180, 0, 13, 16, 114, 28, 96, 46, 21, 5, 122, 4, 126]
abbrev dktX4_isConsistent_2 : List UInt8 := dkwX4_isConsistent_2 ++ dktX4_isConsistent_3
def dkwX4_isConsistent_1 : List UInt8 := [182, 0, 199, 62, 42, 28, 7, 29, 182, 0, 188, 42, 180, 0, 13, 16, 108, 28, 96, 46, 54, 4, 3]
abbrev dktX4_isConsistent_1 : List UInt8 := dkwX4_isConsistent_1 ++ dktX4_isConsistent_2
def dkwX4_isConsistent_0 : List UInt8 := [42, 3, 181, 0, 9, 4, 60, 3, 61, 28, 42, 180, 0, 13, 5, 46, 162, 0, 110, 42, 28, 7]
abbrev dktX4_isConsistent_0 : List UInt8 := dkwX4_isConsistent_0 ++ dktX4_isConsistent_1
theorem dksX4_isConsistent_0 : cX4_isConsistent.data.toList.drop 0 = dktX4_isConsistent_0 := by decide +kernel
theorem dksX4_isConsistent_1 : cX4_isConsistent.data.toList.drop 22 = dktX4_isConsistent_1 := dk_seg dksX4_isConsistent_0 22 rfl rfl
theorem dksX4_isConsistent_2 : cX4_isConsistent.data.toList.drop 45 = dktX4_isConsistent_2 := dk_seg dksX4_isConsistent_1 23 rfl rfl
theorem dksX4_isConsistent_3 : cX4_isConsistent.data.toList.drop 69 = dktX4_isConsistent_3 := dk_seg dksX4_isConsistent_2 24 rfl rfl
theorem dksX4_isConsistent_4 : cX4_isConsistent.data.toList.drop 93 = dktX4_isConsistent_4 := dk_seg dksX4_isConsistent_3 24 rfl rfl
theorem dksX4_isConsistent_5 : cX4_isConsistent.data.toList.drop 115 = dktX4_isConsistent_5 := dk_seg dksX4_isConsistent_4 22 rfl rfl
theorem dX4_isConsistent_0 : decode cX4_isConsistent 0 = .ok (.aload_n 0, 1) := dk_42 (dk_at dksX4_isConsistent_0 0 rfl rfl)
theorem dX4_isConsistent_1 : decode cX4_isConsistent 1 = .ok (.iconst 0, 1) := dk_3 (dk_at dksX4_isConsistent_0 1 rfl rfl)
theorem dX4_isConsistent_2 : decode cX4_isConsistent 2 = .ok (.putfield 9, 3) := dk_181 0 9 (dk_at dksX4_isConsistent_0 2 rfl rfl)
theorem dX4_isConsistent_5 : decode cX4_isConsistent 5 = .ok (.iconst 1, 1) := dk_4 (dk_at dksX4_isConsistent_0 5 rfl rfl)
theorem dX4_isConsistent_6 : decode cX4_isConsistent 6 = .ok (.istore_n 1, 1) := dk_60 (dk_at dksX4_isConsistent_0 6 rfl rfl)
theorem dX4_isConsistent_7 : decode cX4_isConsistent 7 = .ok (.iconst 0, 1) := dk_3 (dk_at dksX4_isConsistent_0 7 rfl rfl)
theorem dX4_isConsistent_8 : decode cX4_isConsistent 8 = .ok (.istore_n 2, 1) := dk_61 (dk_at dksX4_isConsistent_0 8 rfl rfl)
theorem dX4_isConsistent_9 : decode cX4_isConsistent 9 = .ok (.iload_n 2, 1) := dk_28 (dk_at dksX4_isConsistent_0 9 rfl rfl)
theorem dX4_isConsistent_10 : decode cX4_isConsistent 10 = .ok (.aload_n 0, 1) := dk_42 (dk_at dksX4_isConsistent_0 10 rfl rfl)
theorem dX4_isConsistent_11 : decode cX4_isConsistent 11 = .ok (.getfield 13, 3) := dk_180 0 13 (dk_at dksX4_isConsistent_0 11 rfl rfl)
theorem dX4_isConsistent_14 : decode cX4_isConsistent 14 = .ok (.iconst 2, 1) := dk_5 (dk_at dksX4_isConsistent_0 14 rfl rfl)
theorem dX4_isConsistent_15 : decode cX4_isConsistent 15 = .ok (.iaload, 1) := dk_46 (dk_at dksX4_isConsistent_0 15 rfl rfl)
theorem dX4_isConsistent_16 : decode cX4_isConsistent 16 = .ok (.if_icmp .ge 110, 3) := dk_162 0 110 (dk_at dksX4_isConsistent_0 16 rfl rfl)
theorem dX4_isConsistent_19 : decode cX4_isConsistent 19 = .ok (.aload_n 0, 1) := dk_42 (dk_at dksX4_isConsistent_0 19 rfl rfl)
theorem dX4_isConsistent_20 : decode cX4_isConsistent 20 = .ok (.iload_n 2, 1) := dk_28 (dk_at dksX4_isConsistent_0 20 rfl rfl)
theorem dX4_isConsistent_21 : decode cX4_isConsistent 21 = .ok (.iconst 4, 1) := dk_7 (dk_at dksX4_isConsistent_0 21 rfl rfl)
theorem dX4_isConsistent_22 : decode cX4_isConsistent 22 = .ok (.invokevirtual 199, 3) := dk_182 0 199 (dk_at dksX4_isConsistent_1 0 rfl rfl)
theorem dX4_isConsistent_25 : decode cX4_isConsistent 25 = .ok (.istore_n 3, 1) := dk_62 (dk_at dksX4_isConsistent_1 3 rfl rfl)
theorem dX4_isConsistent_26 : decode cX4_isConsistent 26 = .ok (.aload_n 0, 1) := dk_42 (dk_at dksX4_isConsistent_1 4 rfl rfl)
theorem dX4_isConsistent_27 : decode cX4_isConsistent 27 = .ok (.iload_n 2, 1) := dk_28 (dk_at dksX4_isConsistent_1 5 rfl rfl)
theorem dX4_isConsistent_28 : decode cX4_isConsistent 28 = .ok (.iconst 4, 1) := dk_7 (dk_at dksX4_isConsistent_1 6 rfl rfl)
theorem dX4_isConsistent_29 : decode cX4_isConsistent 29 = .ok (.iload_n 3, 1) := dk_29 (dk_at dksX4_isConsistent_1 7 rfl rfl)
theorem dX4_isConsistent_30 : decode cX4_isConsistent 30 = .ok (.invokevirtual 188, 3) := dk_182 0 188 (dk_at dksX4_isConsistent_1 8 rfl rfl)
theorem dX4_isConsistent_33 : decode cX4_isConsistent 33 = .ok (.aload_n 0, 1) := dk_42 (dk_at dksX4_isConsistent_1 11 rfl rfl)
theorem dX4_isConsistent_34 : decode cX4_isConsistent 34 = .ok (.getfield 13, 3) := dk_180 0 13 (dk_at dksX4_isConsistent_1 12 rfl rfl)
theorem dX4_isConsistent_37 : decode cX4_isConsistent 37 = .ok (.bipush 108, 2) := dk_16 108 (dk_at dksX4_isConsistent_1 15 rfl rfl)
theorem dX4_isConsistent_39 : decode cX4_isConsistent 39 = .ok (.iload_n 2, 1) := dk_28 (dk_at dksX4_isConsistent_1 17 rfl rfl)
theorem dX4_isConsistent_40 : decode cX4_isConsistent 40 = .ok (.iadd, 1) := dk_96 (dk_at dksX4_isConsistent_1 18 rfl rfl)
theorem dX4_isConsistent_41 : decode cX4_isConsistent 41 = .ok (.iaload, 1) := dk_46 (dk_at dksX4_isConsistent_1 19 rfl rfl)
theorem dX4_isConsistent_42 : decode cX4_isConsistent 42 = .ok (.istore 4, 2) := dk_54 4 (dk_at dksX4_isConsistent_1 20 rfl rfl)
theorem dX4_isConsistent_44 : decode cX4_isConsistent 44 = .ok (.iconst 0, 1) := dk_3 (dk_at dksX4_isConsistent_1 22 rfl rfl)
theorem dX4_isConsistent_45 : decode cX4_isConsistent 45 = .ok (.istore 5, 2) := dk_54 5 (dk_at dksX4_isConsistent_2 0 rfl rfl)
theorem dX4_isConsistent_47 : decode cX4_isConsistent 47 = .ok (.iload 5, 2) := dk_21 5 (dk_at dksX4_isConsistent_2 2 rfl rfl)
theorem dX4_isConsistent_49 : decode cX4_isConsistent 49 = .ok (.iload_n 2, 1) := dk_28 (dk_at dksX4_isConsistent_2 4 rfl rfl)
theorem dX4_isConsistent_50 : decode cX4_isConsistent 50 = .ok (.if_icmp .ge 42, 3) := dk_162 0 42 (dk_at dksX4_isConsistent_2 5 rfl rfl)
theorem dX4_isConsistent_53 : decode cX4_isConsistent 53 = .ok (.iload 4, 2) := dk_21 4 (dk_at dksX4_isConsistent_2 8 rfl rfl)
theorem dX4_isConsistent_55 : decode cX4_isConsistent 55 = .ok (.aload_n 0, 1) := dk_42 (dk_at dksX4_isConsistent_2 10 rfl rfl)
theorem dX4_isConsistent_56 : decode cX4_isConsistent 56 = .ok (.getfield 13, 3) := dk_180 0 13 (dk_at dksX4_isConsistent_2 11 rfl rfl)
theorem dX4_isConsistent_59 : decode cX4_isConsistent 59 = .ok (.bipush 114, 2) := dk_16 114 (dk_at dksX4_isConsistent_2 14 rfl rfl)
theorem dX4_isConsistent_61 : decode cX4_isConsistent 61 = .ok (.iload_n 2, 1) := dk_28 (dk_at dksX4_isConsistent_2 16 rfl rfl)
theorem dX4_isConsistent_62 : decode cX4_isConsistent 62 = .ok (.iadd, 1) := dk_96 (dk_at dksX4_isConsistent_2 17 rfl rfl)
theorem dX4_isConsistent_63 : decode cX4_isConsistent 63 = .ok (.iaload, 1) := dk_46 (dk_at dksX4_isConsistent_2 18 rfl rfl)
theorem dX4_isConsistent_64 : decode cX4_isConsistent 64 = .ok (.iload 5, 2) := dk_21 5 (dk_at dksX4_isConsistent_2 19 rfl rfl)
theorem dX4_isConsistent_66 : decode cX4_isConsistent 66 = .ok (.ishr, 1) := dk_122 (dk_at dksX4_isConsistent_2 21 rfl rfl)
theorem dX4_isConsistent_67 : decode cX4_isConsistent 67 = .ok (.iconst 1, 1) := dk_4 (dk_at dksX4_isConsistent_2 22 rfl rfl)
theorem dX4_isConsistent_68 : decode cX4_isConsistent 68 = .ok (.iand, 1) := dk_126 (dk_at dksX4_isConsistent_2 23 rfl rfl)
theorem dX4_isConsistent_69 : decode cX4_isConsistent 69 = .ok (.iconst 1, 1) := dk_4 (dk_at dksX4_isConsistent_3 0 rfl rfl)
theorem dX4_isConsistent_70 : decode cX4_isConsistent 70 = .ok (.if_icmp .ne 12, 3) := dk_160 0 12 (dk_at dksX4_isConsistent_3 1 rfl rfl)
theorem dX4_isConsistent_73 : decode cX4_isConsistent 73 = .ok (.aload_n 0, 1) := dk_42 (dk_at dksX4_isConsistent_3 4 rfl rfl)
theorem dX4_isConsistent_74 : decode cX4_isConsistent 74 = .ok (.iload 5, 2) := dk_21 5 (dk_at dksX4_isConsistent_3 5 rfl rfl)
theorem dX4_isConsistent_76 : decode cX4_isConsistent 76 = .ok (.invokevirtual 150, 3) := dk_182 0 150 (dk_at dksX4_isConsistent_3 7 rfl rfl)
theorem dX4_isConsistent_79 : decode cX4_isConsistent 79 = .ok (.goto 4, 3) := dk_167 0 4 (dk_at dksX4_isConsistent_3 10 rfl rfl)
theorem dX4_isConsistent_82 : decode cX4_isConsistent 82 = .ok (.iconst 0, 1) := dk_3 (dk_at dksX4_isConsistent_3 13 rfl rfl)
theorem dX4_isConsistent_83 : decode cX4_isConsistent 83 = .ok (.ior, 1) := dk_128 (dk_at dksX4_isConsistent_3 14 rfl rfl)
theorem dX4_isConsistent_84 : decode cX4_isConsistent 84 = .ok (.istore 4, 2) := dk_54 4 (dk_at dksX4_isConsistent_3 15 rfl rfl)
theorem dX4_isConsistent_86 : decode cX4_isConsistent 86 = .ok (.iinc 5 1, 3) := dk_132 5 1 (dk_at dksX4_isConsistent_3 17 rfl rfl)
theorem dX4_isConsistent_89 : decode cX4_isConsistent 89 = .ok (.goto (-42), 3) := dk_167 255 214 (dk_at dksX4_isConsistent_3 20 rfl rfl)
theorem dX4_isConsistent_92 : decode cX4_isConsistent 92 = .ok (.iload_n 1, 1) := dk_27 (dk_at dksX4_isConsistent_3 23 rfl rfl)
theorem dX4_isConsistent_93 : decode cX4_isConsistent 93 = .ok (.ifCond .eq 25, 3) := dk_153 0 25 (dk_at dksX4_isConsistent_4 0 rfl rfl)
theorem dX4_isConsistent_96 : decode cX4_isConsistent 96 = .ok (.aload_n 0, 1) := dk_42 (dk_at dksX4_isConsistent_4 3 rfl rfl)
theorem dX4_isConsistent_97 : decode cX4_isConsistent 97 = .ok (.iconst (-1), 1) := dk_2 (dk_at dksX4_isConsistent_4 4 rfl rfl)
theorem dX4_isConsistent_98 : decode cX4_isConsistent 98 = .ok (.invokevirtual 192, 3) := dk_182 0 192 (dk_at dksX4_isConsistent_4 5 rfl rfl)
theorem dX4_isConsistent_101 : decode cX4_isConsistent 101 = .ok (.ifCond .ne 17, 3) := dk_154 0 17 (dk_at dksX4_isConsistent_4 8 rfl rfl)
theorem dX4_isConsistent_104 : decode cX4_isConsistent 104 = .ok (.iload 4, 2) := dk_21 4 (dk_at dksX4_isConsistent_4 11 rfl rfl)
theorem dX4_isConsistent_106 : decode cX4_isConsistent 106 = .ok (.aload_n 0, 1) := dk_42 (dk_at dksX4_isConsistent_4 13 rfl rfl)
theorem dX4_isConsistent_107 : decode cX4_isConsistent 107 = .ok (.iload_n 2, 1) := dk_28 (dk_at dksX4_isConsistent_4 14 rfl rfl)
theorem dX4_isConsistent_108 : decode cX4_isConsistent 108 = .ok (.invokevirtual 150, 3) := dk_182 0 150 (dk_at dksX4_isConsistent_4 15 rfl rfl)
theorem dX4_isConsistent_111 : decode cX4_isConsistent 111 = .ok (.if_icmp .ne 7, 3) := dk_160 0 7 (dk_at dksX4_isConsistent_4 18 rfl rfl)
theorem dX4_isConsistent_114 : decode cX4_isConsistent 114 = .ok (.iconst 1, 1) := dk_4 (dk_at dksX4_isConsistent_4 21 rfl rfl)
theorem dX4_isConsistent_115 : decode cX4_isConsistent 115 = .ok (.goto 4, 3) := dk_167 0 4 (dk_at dksX4_isConsistent_5 0 rfl rfl)
theorem dX4_isConsistent_118 : decode cX4_isConsistent 118 = .ok (.iconst 0, 1) := dk_3 (dk_at dksX4_isConsistent_5 3 rfl rfl)
theorem dX4_isConsistent_119 : decode cX4_isConsistent 119 = .ok (.istore_n 1, 1) := dk_60 (dk_at dksX4_isConsistent_5 4 rfl rfl)
theorem dX4_isConsistent_120 : decode cX4_isConsistent 120 = .ok (.iinc 2 1, 3) := dk_132 2 1 (dk_at dksX4_isConsistent_5 5 rfl rfl)
theorem dX4_isConsistent_123 : decode cX4_isConsistent 123 = .ok (.goto (-114), 3) := dk_167 255 142 (dk_at dksX4_isConsistent_5 8 rfl rfl)
theorem dX4_isConsistent_126 : decode cX4_isConsistent 126 = .ok (.iload_n 1, 1) := dk_27 (dk_at dksX4_isConsistent_5 11 rfl rfl)
theorem dX4_isConsistent_127 : decode cX4_isConsistent 127 = .ok (.ireturn, 1) := dk_172 (dk_at dksX4_isConsistent_5 12 rfl rfl)
abbrev cX4_store : ByteArray := prog_17_method_65_code
def yX4_store : MethodName := ⟨RX4, "store", "(I)I"⟩
def dkwX4_store_4 : List UInt8 := [180, 0, 66, 16, 6, 27, 104, 28, 96, 33, 80, 132, 2, 1, 167, 255, 181, 42, 180, 0, 13, 5, 46, 172]
abbrev dktX4_store_4 : List UInt8 := dkwX4_store_4 ++ []
def dkwX4_store_3 : List UInt8 := [182, 0, 188, 33, 42, 182, 0, 195, 133, 16, 10, 21, 5, 104, 121, 129, 66, 132, 5, 1, 167, 255, 214, 42]
abbrev dktX4_store_3 : List UInt8 := dkwX4_store_3 ++ dktX4_store_4
def dkwX4_store_2 : List UInt8 := [54, 5, 21, 5, 8, 162, 0, 42, 21, 5, 184, 0, 185, 154, 0, 6, 167, 0, 25, 42, 28, 21, 5, 3]
abbrev dktX4_store_2 : List UInt8 := dkwX4_store_2 ++ dktX4_store_3
def dkwX4_store_1 : List UInt8 := [27, 42, 180, 0, 13, 5, 46, 79, 3, 61, 28, 42, 180, 0, 13, 5, 46, 162, 0, 71, 9, 66, 3]
abbrev dktX4_store_1 : List UInt8 := dkwX4_store_1 ++ dktX4_store_2
def dkwX4_store_0 : List UInt8 := [42, 3, 181, 0, 9, 27, 3, 5, 184, 0, 113, 154, 0, 9, 42, 4, 182, 0, 120, 172, 42, 180, 0, 70]
abbrev dktX4_store_0 : List UInt8 := dkwX4_store_0 ++ dktX4_store_1
theorem dksX4_store_0 : cX4_store.data.toList.drop 0 = dktX4_store_0 := by decide +kernel
theorem dksX4_store_1 : cX4_store.data.toList.drop 24 = dktX4_store_1 := dk_seg dksX4_store_0 24 rfl rfl
theorem dksX4_store_2 : cX4_store.data.toList.drop 47 = dktX4_store_2 := dk_seg dksX4_store_1 23 rfl rfl
theorem dksX4_store_3 : cX4_store.data.toList.drop 71 = dktX4_store_3 := dk_seg dksX4_store_2 24 rfl rfl
theorem dksX4_store_4 : cX4_store.data.toList.drop 95 = dktX4_store_4 := dk_seg dksX4_store_3 24 rfl rfl
theorem dX4_store_0 : decode cX4_store 0 = .ok (.aload_n 0, 1) := dk_42 (dk_at dksX4_store_0 0 rfl rfl)
theorem dX4_store_1 : decode cX4_store 1 = .ok (.iconst 0, 1) := dk_3 (dk_at dksX4_store_0 1 rfl rfl)
theorem dX4_store_2 : decode cX4_store 2 = .ok (.putfield 9, 3) := dk_181 0 9 (dk_at dksX4_store_0 2 rfl rfl)
theorem dX4_store_5 : decode cX4_store 5 = .ok (.iload_n 1, 1) := dk_27 (dk_at dksX4_store_0 5 rfl rfl)
theorem dX4_store_6 : decode cX4_store 6 = .ok (.iconst 0, 1) := dk_3 (dk_at dksX4_store_0 6 rfl rfl)
theorem dX4_store_7 : decode cX4_store 7 = .ok (.iconst 2, 1) := dk_5 (dk_at dksX4_store_0 7 rfl rfl)
theorem dX4_store_8 : decode cX4_store 8 = .ok (.invokestatic 113, 3) := dk_184 0 113 (dk_at dksX4_store_0 8 rfl rfl)
theorem dX4_store_11 : decode cX4_store 11 = .ok (.ifCond .ne 9, 3) := dk_154 0 9 (dk_at dksX4_store_0 11 rfl rfl)
theorem dX4_store_14 : decode cX4_store 14 = .ok (.aload_n 0, 1) := dk_42 (dk_at dksX4_store_0 14 rfl rfl)
theorem dX4_store_15 : decode cX4_store 15 = .ok (.iconst 1, 1) := dk_4 (dk_at dksX4_store_0 15 rfl rfl)
theorem dX4_store_16 : decode cX4_store 16 = .ok (.invokevirtual 120, 3) := dk_182 0 120 (dk_at dksX4_store_0 16 rfl rfl)
theorem dX4_store_19 : decode cX4_store 19 = .ok (.ireturn, 1) := dk_172 (dk_at dksX4_store_0 19 rfl rfl)
theorem dX4_store_20 : decode cX4_store 20 = .ok (.aload_n 0, 1) := dk_42 (dk_at dksX4_store_0 20 rfl rfl)
theorem dX4_store_21 : decode cX4_store 21 = .ok (.getfield 70, 3) := dk_180 0 70 (dk_at dksX4_store_0 21 rfl rfl)
theorem dX4_store_24 : decode cX4_store 24 = .ok (.iload_n 1, 1) := dk_27 (dk_at dksX4_store_1 0 rfl rfl)
theorem dX4_store_25 : decode cX4_store 25 = .ok (.aload_n 0, 1) := dk_42 (dk_at dksX4_store_1 1 rfl rfl)
theorem dX4_store_26 : decode cX4_store 26 = .ok (.getfield 13, 3) := dk_180 0 13 (dk_at dksX4_store_1 2 rfl rfl)
theorem dX4_store_29 : decode cX4_store 29 = .ok (.iconst 2, 1) := dk_5 (dk_at dksX4_store_1 5 rfl rfl)
theorem dX4_store_30 : decode cX4_store 30 = .ok (.iaload, 1) := dk_46 (dk_at dksX4_store_1 6 rfl rfl)
theorem dX4_store_31 : decode cX4_store 31 = .ok (.iastore, 1) := dk_79 (dk_at dksX4_store_1 7 rfl rfl)
theorem dX4_store_32 : decode cX4_store 32 = .ok (.iconst 0, 1) := dk_3 (dk_at dksX4_store_1 8 rfl rfl)
theorem dX4_store_33 : decode cX4_store 33 = .ok (.istore_n 2, 1) := dk_61 (dk_at dksX4_store_1 9 rfl rfl)
theorem dX4_store_34 : decode cX4_store 34 = .ok (.iload_n 2, 1) := dk_28 (dk_at dksX4_store_1 10 rfl rfl)
theorem dX4_store_35 : decode cX4_store 35 = .ok (.aload_n 0, 1) := dk_42 (dk_at dksX4_store_1 11 rfl rfl)
theorem dX4_store_36 : decode cX4_store 36 = .ok (.getfield 13, 3) := dk_180 0 13 (dk_at dksX4_store_1 12 rfl rfl)
theorem dX4_store_39 : decode cX4_store 39 = .ok (.iconst 2, 1) := dk_5 (dk_at dksX4_store_1 15 rfl rfl)
theorem dX4_store_40 : decode cX4_store 40 = .ok (.iaload, 1) := dk_46 (dk_at dksX4_store_1 16 rfl rfl)
theorem dX4_store_41 : decode cX4_store 41 = .ok (.if_icmp .ge 71, 3) := dk_162 0 71 (dk_at dksX4_store_1 17 rfl rfl)
theorem dX4_store_44 : decode cX4_store 44 = .ok (.lconst 0, 1) := dk_9 (dk_at dksX4_store_1 20 rfl rfl)
theorem dX4_store_45 : decode cX4_store 45 = .ok (.lstore_n 3, 1) := dk_66 (dk_at dksX4_store_1 21 rfl rfl)
theorem dX4_store_46 : decode cX4_store 46 = .ok (.iconst 0, 1) := dk_3 (dk_at dksX4_store_1 22 rfl rfl)
theorem dX4_store_47 : decode cX4_store 47 = .ok (.istore 5, 2) := dk_54 5 (dk_at dksX4_store_2 0 rfl rfl)
theorem dX4_store_49 : decode cX4_store 49 = .ok (.iload 5, 2) := dk_21 5 (dk_at dksX4_store_2 2 rfl rfl)
theorem dX4_store_51 : decode cX4_store 51 = .ok (.iconst 5, 1) := dk_8 (dk_at dksX4_store_2 4 rfl rfl)
theorem dX4_store_52 : decode cX4_store 52 = .ok (.if_icmp .ge 42, 3) := dk_162 0 42 (dk_at dksX4_store_2 5 rfl rfl)
theorem dX4_store_55 : decode cX4_store 55 = .ok (.iload 5, 2) := dk_21 5 (dk_at dksX4_store_2 8 rfl rfl)
theorem dX4_store_57 : decode cX4_store 57 = .ok (.invokestatic 185, 3) := dk_184 0 185 (dk_at dksX4_store_2 10 rfl rfl)
theorem dX4_store_60 : decode cX4_store 60 = .ok (.ifCond .ne 6, 3) := dk_154 0 6 (dk_at dksX4_store_2 13 rfl rfl)
theorem dX4_store_63 : decode cX4_store 63 = .ok (.goto 25, 3) := dk_167 0 25 (dk_at dksX4_store_2 16 rfl rfl)
theorem dX4_store_66 : decode cX4_store 66 = .ok (.aload_n 0, 1) := dk_42 (dk_at dksX4_store_2 19 rfl rfl)
theorem dX4_store_67 : decode cX4_store 67 = .ok (.iload_n 2, 1) := dk_28 (dk_at dksX4_store_2 20 rfl rfl)
theorem dX4_store_68 : decode cX4_store 68 = .ok (.iload 5, 2) := dk_21 5 (dk_at dksX4_store_2 21 rfl rfl)
theorem dX4_store_70 : decode cX4_store 70 = .ok (.iconst 0, 1) := dk_3 (dk_at dksX4_store_2 23 rfl rfl)
theorem dX4_store_71 : decode cX4_store 71 = .ok (.invokevirtual 188, 3) := dk_182 0 188 (dk_at dksX4_store_3 0 rfl rfl)
theorem dX4_store_74 : decode cX4_store 74 = .ok (.lload_n 3, 1) := dk_33 (dk_at dksX4_store_3 3 rfl rfl)
theorem dX4_store_75 : decode cX4_store 75 = .ok (.aload_n 0, 1) := dk_42 (dk_at dksX4_store_3 4 rfl rfl)
theorem dX4_store_76 : decode cX4_store 76 = .ok (.invokevirtual 195, 3) := dk_182 0 195 (dk_at dksX4_store_3 5 rfl rfl)
theorem dX4_store_79 : decode cX4_store 79 = .ok (.i2l, 1) := dk_133 (dk_at dksX4_store_3 8 rfl rfl)
theorem dX4_store_80 : decode cX4_store 80 = .ok (.bipush 10, 2) := dk_16 10 (dk_at dksX4_store_3 9 rfl rfl)
theorem dX4_store_82 : decode cX4_store 82 = .ok (.iload 5, 2) := dk_21 5 (dk_at dksX4_store_3 11 rfl rfl)
theorem dX4_store_84 : decode cX4_store 84 = .ok (.imul, 1) := dk_104 (dk_at dksX4_store_3 13 rfl rfl)
theorem dX4_store_85 : decode cX4_store 85 = .ok (.lshl, 1) := dk_121 (dk_at dksX4_store_3 14 rfl rfl)
theorem dX4_store_86 : decode cX4_store 86 = .ok (.lor, 1) := dk_129 (dk_at dksX4_store_3 15 rfl rfl)
theorem dX4_store_87 : decode cX4_store 87 = .ok (.lstore_n 3, 1) := dk_66 (dk_at dksX4_store_3 16 rfl rfl)
theorem dX4_store_88 : decode cX4_store 88 = .ok (.iinc 5 1, 3) := dk_132 5 1 (dk_at dksX4_store_3 17 rfl rfl)
theorem dX4_store_91 : decode cX4_store 91 = .ok (.goto (-42), 3) := dk_167 255 214 (dk_at dksX4_store_3 20 rfl rfl)
theorem dX4_store_94 : decode cX4_store 94 = .ok (.aload_n 0, 1) := dk_42 (dk_at dksX4_store_3 23 rfl rfl)
theorem dX4_store_95 : decode cX4_store 95 = .ok (.getfield 66, 3) := dk_180 0 66 (dk_at dksX4_store_4 0 rfl rfl)
theorem dX4_store_98 : decode cX4_store 98 = .ok (.bipush 6, 2) := dk_16 6 (dk_at dksX4_store_4 3 rfl rfl)
theorem dX4_store_100 : decode cX4_store 100 = .ok (.iload_n 1, 1) := dk_27 (dk_at dksX4_store_4 5 rfl rfl)
theorem dX4_store_101 : decode cX4_store 101 = .ok (.imul, 1) := dk_104 (dk_at dksX4_store_4 6 rfl rfl)
theorem dX4_store_102 : decode cX4_store 102 = .ok (.iload_n 2, 1) := dk_28 (dk_at dksX4_store_4 7 rfl rfl)
theorem dX4_store_103 : decode cX4_store 103 = .ok (.iadd, 1) := dk_96 (dk_at dksX4_store_4 8 rfl rfl)
theorem dX4_store_104 : decode cX4_store 104 = .ok (.lload_n 3, 1) := dk_33 (dk_at dksX4_store_4 9 rfl rfl)
theorem dX4_store_105 : decode cX4_store 105 = .ok (.lastore, 1) := dk_80 (dk_at dksX4_store_4 10 rfl rfl)
theorem dX4_store_106 : decode cX4_store 106 = .ok (.iinc 2 1, 3) := dk_132 2 1 (dk_at dksX4_store_4 11 rfl rfl)
theorem dX4_store_109 : decode cX4_store 109 = .ok (.goto (-75), 3) := dk_167 255 181 (dk_at dksX4_store_4 14 rfl rfl)
theorem dX4_store_112 : decode cX4_store 112 = .ok (.aload_n 0, 1) := dk_42 (dk_at dksX4_store_4 17 rfl rfl)
theorem dX4_store_113 : decode cX4_store 113 = .ok (.getfield 13, 3) := dk_180 0 13 (dk_at dksX4_store_4 18 rfl rfl)
theorem dX4_store_116 : decode cX4_store 116 = .ok (.iconst 2, 1) := dk_5 (dk_at dksX4_store_4 21 rfl rfl)
theorem dX4_store_117 : decode cX4_store 117 = .ok (.iaload, 1) := dk_46 (dk_at dksX4_store_4 22 rfl rfl)
theorem dX4_store_118 : decode cX4_store 118 = .ok (.ireturn, 1) := dk_172 (dk_at dksX4_store_4 23 rfl rfl)
abbrev cX4_mix : ByteArray := prog_17_method_66_code
def yX4_mix : MethodName := ⟨RX4, "mix", "(III)I"⟩
def dkwX4_mix_5 : List UInt8 := [132, 5, 1, 167, 255, 217, 21, 4, 172]
abbrev dktX4_mix_5 : List UInt8 := dkwX4_mix_5 ++ []
def dkwX4_mix_4 : List UInt8 := [104, 21, 5, 96, 92, 47, 42, 180, 0, 66, 16, 6, 28, 104, 21, 5, 96, 47, 29, 121, 129, 80]
abbrev dktX4_mix_4 : List UInt8 := dkwX4_mix_4 ++ dktX4_mix_5
def dkwX4_mix_3 : List UInt8 := [180, 0, 70, 28, 46, 54, 4, 3, 54, 5, 21, 5, 21, 4, 162, 0, 38, 42, 180, 0, 66, 16, 6, 27]
abbrev dktX4_mix_3 : List UInt8 := dkwX4_mix_3 ++ dktX4_mix_4
def dkwX4_mix_2 : List UInt8 := [180, 0, 70, 27, 46, 42, 180, 0, 70, 28, 46, 162, 0, 12, 42, 180, 0, 70, 27, 46, 167, 0, 9, 42]
abbrev dktX4_mix_2 : List UInt8 := dkwX4_mix_2 ++ dktX4_mix_3
def dkwX4_mix_1 : List UInt8 := [4, 182, 0, 120, 172, 29, 3, 16, 50, 184, 0, 113, 154, 0, 9, 42, 5, 182, 0, 120, 172, 42]
abbrev dktX4_mix_1 : List UInt8 := dkwX4_mix_1 ++ dktX4_mix_2
def dkwX4_mix_0 : List UInt8 := [42, 3, 181, 0, 9, 27, 3, 5, 184, 0, 113, 153, 0, 12, 28, 3, 5, 184, 0, 113, 154, 0, 9, 42]
abbrev dktX4_mix_0 : List UInt8 := dkwX4_mix_0 ++ dktX4_mix_1
theorem dksX4_mix_0 : cX4_mix.data.toList.drop 0 = dktX4_mix_0 := by decide +kernel
theorem dksX4_mix_1 : cX4_mix.data.toList.drop 24 = dktX4_mix_1 := dk_seg dksX4_mix_0 24 rfl rfl
theorem dksX4_mix_2 : cX4_mix.data.toList.drop 46 = dktX4_mix_2 := dk_seg dksX4_mix_1 22 rfl rfl
theorem dksX4_mix_3 : cX4_mix.data.toList.drop 70 = dktX4_mix_3 := dk_seg dksX4_mix_2 24 rfl rfl
theorem dksX4_mix_4 : cX4_mix.data.toList.drop 94 = dktX4_mix_4 := dk_seg dksX4_mix_3 24 rfl rfl
theorem dksX4_mix_5 : cX4_mix.data.toList.drop 116 = dktX4_mix_5 := dk_seg dksX4_mix_4 22 rfl rfl
theorem dX4_mix_0 : decode cX4_mix 0 = .ok (.aload_n 0, 1) := dk_42 (dk_at dksX4_mix_0 0 rfl rfl)
theorem dX4_mix_1 : decode cX4_mix 1 = .ok (.iconst 0, 1) := dk_3 (dk_at dksX4_mix_0 1 rfl rfl)
theorem dX4_mix_2 : decode cX4_mix 2 = .ok (.putfield 9, 3) := dk_181 0 9 (dk_at dksX4_mix_0 2 rfl rfl)
theorem dX4_mix_5 : decode cX4_mix 5 = .ok (.iload_n 1, 1) := dk_27 (dk_at dksX4_mix_0 5 rfl rfl)
theorem dX4_mix_6 : decode cX4_mix 6 = .ok (.iconst 0, 1) := dk_3 (dk_at dksX4_mix_0 6 rfl rfl)
theorem dX4_mix_7 : decode cX4_mix 7 = .ok (.iconst 2, 1) := dk_5 (dk_at dksX4_mix_0 7 rfl rfl)
theorem dX4_mix_8 : decode cX4_mix 8 = .ok (.invokestatic 113, 3) := dk_184 0 113 (dk_at dksX4_mix_0 8 rfl rfl)
theorem dX4_mix_11 : decode cX4_mix 11 = .ok (.ifCond .eq 12, 3) := dk_153 0 12 (dk_at dksX4_mix_0 11 rfl rfl)
theorem dX4_mix_14 : decode cX4_mix 14 = .ok (.iload_n 2, 1) := dk_28 (dk_at dksX4_mix_0 14 rfl rfl)
theorem dX4_mix_15 : decode cX4_mix 15 = .ok (.iconst 0, 1) := dk_3 (dk_at dksX4_mix_0 15 rfl rfl)
theorem dX4_mix_16 : decode cX4_mix 16 = .ok (.iconst 2, 1) := dk_5 (dk_at dksX4_mix_0 16 rfl rfl)
theorem dX4_mix_17 : decode cX4_mix 17 = .ok (.invokestatic 113, 3) := dk_184 0 113 (dk_at dksX4_mix_0 17 rfl rfl)
theorem dX4_mix_20 : decode cX4_mix 20 = .ok (.ifCond .ne 9, 3) := dk_154 0 9 (dk_at dksX4_mix_0 20 rfl rfl)
theorem dX4_mix_23 : decode cX4_mix 23 = .ok (.aload_n 0, 1) := dk_42 (dk_at dksX4_mix_0 23 rfl rfl)
theorem dX4_mix_24 : decode cX4_mix 24 = .ok (.iconst 1, 1) := dk_4 (dk_at dksX4_mix_1 0 rfl rfl)
theorem dX4_mix_25 : decode cX4_mix 25 = .ok (.invokevirtual 120, 3) := dk_182 0 120 (dk_at dksX4_mix_1 1 rfl rfl)
theorem dX4_mix_28 : decode cX4_mix 28 = .ok (.ireturn, 1) := dk_172 (dk_at dksX4_mix_1 4 rfl rfl)
theorem dX4_mix_29 : decode cX4_mix 29 = .ok (.iload_n 3, 1) := dk_29 (dk_at dksX4_mix_1 5 rfl rfl)
theorem dX4_mix_30 : decode cX4_mix 30 = .ok (.iconst 0, 1) := dk_3 (dk_at dksX4_mix_1 6 rfl rfl)
theorem dX4_mix_31 : decode cX4_mix 31 = .ok (.bipush 50, 2) := dk_16 50 (dk_at dksX4_mix_1 7 rfl rfl)
theorem dX4_mix_33 : decode cX4_mix 33 = .ok (.invokestatic 113, 3) := dk_184 0 113 (dk_at dksX4_mix_1 9 rfl rfl)
theorem dX4_mix_36 : decode cX4_mix 36 = .ok (.ifCond .ne 9, 3) := dk_154 0 9 (dk_at dksX4_mix_1 12 rfl rfl)
theorem dX4_mix_39 : decode cX4_mix 39 = .ok (.aload_n 0, 1) := dk_42 (dk_at dksX4_mix_1 15 rfl rfl)
theorem dX4_mix_40 : decode cX4_mix 40 = .ok (.iconst 2, 1) := dk_5 (dk_at dksX4_mix_1 16 rfl rfl)
theorem dX4_mix_41 : decode cX4_mix 41 = .ok (.invokevirtual 120, 3) := dk_182 0 120 (dk_at dksX4_mix_1 17 rfl rfl)
theorem dX4_mix_44 : decode cX4_mix 44 = .ok (.ireturn, 1) := dk_172 (dk_at dksX4_mix_1 20 rfl rfl)
theorem dX4_mix_45 : decode cX4_mix 45 = .ok (.aload_n 0, 1) := dk_42 (dk_at dksX4_mix_1 21 rfl rfl)
theorem dX4_mix_46 : decode cX4_mix 46 = .ok (.getfield 70, 3) := dk_180 0 70 (dk_at dksX4_mix_2 0 rfl rfl)
theorem dX4_mix_49 : decode cX4_mix 49 = .ok (.iload_n 1, 1) := dk_27 (dk_at dksX4_mix_2 3 rfl rfl)
theorem dX4_mix_50 : decode cX4_mix 50 = .ok (.iaload, 1) := dk_46 (dk_at dksX4_mix_2 4 rfl rfl)
theorem dX4_mix_51 : decode cX4_mix 51 = .ok (.aload_n 0, 1) := dk_42 (dk_at dksX4_mix_2 5 rfl rfl)
theorem dX4_mix_52 : decode cX4_mix 52 = .ok (.getfield 70, 3) := dk_180 0 70 (dk_at dksX4_mix_2 6 rfl rfl)
theorem dX4_mix_55 : decode cX4_mix 55 = .ok (.iload_n 2, 1) := dk_28 (dk_at dksX4_mix_2 9 rfl rfl)
theorem dX4_mix_56 : decode cX4_mix 56 = .ok (.iaload, 1) := dk_46 (dk_at dksX4_mix_2 10 rfl rfl)
theorem dX4_mix_57 : decode cX4_mix 57 = .ok (.if_icmp .ge 12, 3) := dk_162 0 12 (dk_at dksX4_mix_2 11 rfl rfl)
theorem dX4_mix_60 : decode cX4_mix 60 = .ok (.aload_n 0, 1) := dk_42 (dk_at dksX4_mix_2 14 rfl rfl)
theorem dX4_mix_61 : decode cX4_mix 61 = .ok (.getfield 70, 3) := dk_180 0 70 (dk_at dksX4_mix_2 15 rfl rfl)
theorem dX4_mix_64 : decode cX4_mix 64 = .ok (.iload_n 1, 1) := dk_27 (dk_at dksX4_mix_2 18 rfl rfl)
theorem dX4_mix_65 : decode cX4_mix 65 = .ok (.iaload, 1) := dk_46 (dk_at dksX4_mix_2 19 rfl rfl)
theorem dX4_mix_66 : decode cX4_mix 66 = .ok (.goto 9, 3) := dk_167 0 9 (dk_at dksX4_mix_2 20 rfl rfl)
theorem dX4_mix_69 : decode cX4_mix 69 = .ok (.aload_n 0, 1) := dk_42 (dk_at dksX4_mix_2 23 rfl rfl)
theorem dX4_mix_70 : decode cX4_mix 70 = .ok (.getfield 70, 3) := dk_180 0 70 (dk_at dksX4_mix_3 0 rfl rfl)
theorem dX4_mix_73 : decode cX4_mix 73 = .ok (.iload_n 2, 1) := dk_28 (dk_at dksX4_mix_3 3 rfl rfl)
theorem dX4_mix_74 : decode cX4_mix 74 = .ok (.iaload, 1) := dk_46 (dk_at dksX4_mix_3 4 rfl rfl)
theorem dX4_mix_75 : decode cX4_mix 75 = .ok (.istore 4, 2) := dk_54 4 (dk_at dksX4_mix_3 5 rfl rfl)
theorem dX4_mix_77 : decode cX4_mix 77 = .ok (.iconst 0, 1) := dk_3 (dk_at dksX4_mix_3 7 rfl rfl)
theorem dX4_mix_78 : decode cX4_mix 78 = .ok (.istore 5, 2) := dk_54 5 (dk_at dksX4_mix_3 8 rfl rfl)
theorem dX4_mix_80 : decode cX4_mix 80 = .ok (.iload 5, 2) := dk_21 5 (dk_at dksX4_mix_3 10 rfl rfl)
theorem dX4_mix_82 : decode cX4_mix 82 = .ok (.iload 4, 2) := dk_21 4 (dk_at dksX4_mix_3 12 rfl rfl)
theorem dX4_mix_84 : decode cX4_mix 84 = .ok (.if_icmp .ge 38, 3) := dk_162 0 38 (dk_at dksX4_mix_3 14 rfl rfl)
theorem dX4_mix_87 : decode cX4_mix 87 = .ok (.aload_n 0, 1) := dk_42 (dk_at dksX4_mix_3 17 rfl rfl)
theorem dX4_mix_88 : decode cX4_mix 88 = .ok (.getfield 66, 3) := dk_180 0 66 (dk_at dksX4_mix_3 18 rfl rfl)
theorem dX4_mix_91 : decode cX4_mix 91 = .ok (.bipush 6, 2) := dk_16 6 (dk_at dksX4_mix_3 21 rfl rfl)
theorem dX4_mix_93 : decode cX4_mix 93 = .ok (.iload_n 1, 1) := dk_27 (dk_at dksX4_mix_3 23 rfl rfl)
theorem dX4_mix_94 : decode cX4_mix 94 = .ok (.imul, 1) := dk_104 (dk_at dksX4_mix_4 0 rfl rfl)
theorem dX4_mix_95 : decode cX4_mix 95 = .ok (.iload 5, 2) := dk_21 5 (dk_at dksX4_mix_4 1 rfl rfl)
theorem dX4_mix_97 : decode cX4_mix 97 = .ok (.iadd, 1) := dk_96 (dk_at dksX4_mix_4 3 rfl rfl)
theorem dX4_mix_98 : decode cX4_mix 98 = .ok (.dup2, 1) := dk_92 (dk_at dksX4_mix_4 4 rfl rfl)
theorem dX4_mix_99 : decode cX4_mix 99 = .ok (.laload, 1) := dk_47 (dk_at dksX4_mix_4 5 rfl rfl)
theorem dX4_mix_100 : decode cX4_mix 100 = .ok (.aload_n 0, 1) := dk_42 (dk_at dksX4_mix_4 6 rfl rfl)
theorem dX4_mix_101 : decode cX4_mix 101 = .ok (.getfield 66, 3) := dk_180 0 66 (dk_at dksX4_mix_4 7 rfl rfl)
theorem dX4_mix_104 : decode cX4_mix 104 = .ok (.bipush 6, 2) := dk_16 6 (dk_at dksX4_mix_4 10 rfl rfl)
theorem dX4_mix_106 : decode cX4_mix 106 = .ok (.iload_n 2, 1) := dk_28 (dk_at dksX4_mix_4 12 rfl rfl)
theorem dX4_mix_107 : decode cX4_mix 107 = .ok (.imul, 1) := dk_104 (dk_at dksX4_mix_4 13 rfl rfl)
theorem dX4_mix_108 : decode cX4_mix 108 = .ok (.iload 5, 2) := dk_21 5 (dk_at dksX4_mix_4 14 rfl rfl)
theorem dX4_mix_110 : decode cX4_mix 110 = .ok (.iadd, 1) := dk_96 (dk_at dksX4_mix_4 16 rfl rfl)
theorem dX4_mix_111 : decode cX4_mix 111 = .ok (.laload, 1) := dk_47 (dk_at dksX4_mix_4 17 rfl rfl)
theorem dX4_mix_112 : decode cX4_mix 112 = .ok (.iload_n 3, 1) := dk_29 (dk_at dksX4_mix_4 18 rfl rfl)
theorem dX4_mix_113 : decode cX4_mix 113 = .ok (.lshl, 1) := dk_121 (dk_at dksX4_mix_4 19 rfl rfl)
theorem dX4_mix_114 : decode cX4_mix 114 = .ok (.lor, 1) := dk_129 (dk_at dksX4_mix_4 20 rfl rfl)
theorem dX4_mix_115 : decode cX4_mix 115 = .ok (.lastore, 1) := dk_80 (dk_at dksX4_mix_4 21 rfl rfl)
theorem dX4_mix_116 : decode cX4_mix 116 = .ok (.iinc 5 1, 3) := dk_132 5 1 (dk_at dksX4_mix_5 0 rfl rfl)
theorem dX4_mix_119 : decode cX4_mix 119 = .ok (.goto (-39), 3) := dk_167 255 217 (dk_at dksX4_mix_5 3 rfl rfl)
theorem dX4_mix_122 : decode cX4_mix 122 = .ok (.iload 4, 2) := dk_21 4 (dk_at dksX4_mix_5 6 rfl rfl)
theorem dX4_mix_124 : decode cX4_mix 124 = .ok (.ireturn, 1) := dk_172 (dk_at dksX4_mix_5 8 rfl rfl)
abbrev cX4_element : ByteArray := prog_17_method_67_code
def yX4_element : MethodName := ⟨RX4, "element", "(II)J"⟩
def dkwX4_element_2 : List UInt8 := [167, 0, 9, 42, 5, 182, 0, 120, 133, 173]
abbrev dktX4_element_2 : List UInt8 := dkwX4_element_2 ++ []
def dkwX4_element_1 : List UInt8 := [180, 0, 70, 27, 46, 4, 100, 184, 0, 113, 153, 0, 17, 42, 180, 0, 66, 16, 6, 27, 104, 28, 96, 47]
abbrev dktX4_element_1 : List UInt8 := dkwX4_element_1 ++ dktX4_element_2
def dkwX4_element_0 : List UInt8 := [42, 3, 181, 0, 9, 27, 3, 5, 184, 0, 113, 154, 0, 10, 42, 4, 182, 0, 120, 133, 173, 28, 3, 42]
abbrev dktX4_element_0 : List UInt8 := dkwX4_element_0 ++ dktX4_element_1
theorem dksX4_element_0 : cX4_element.data.toList.drop 0 = dktX4_element_0 := by decide +kernel
theorem dksX4_element_1 : cX4_element.data.toList.drop 24 = dktX4_element_1 := dk_seg dksX4_element_0 24 rfl rfl
theorem dksX4_element_2 : cX4_element.data.toList.drop 48 = dktX4_element_2 := dk_seg dksX4_element_1 24 rfl rfl
theorem dX4_element_0 : decode cX4_element 0 = .ok (.aload_n 0, 1) := dk_42 (dk_at dksX4_element_0 0 rfl rfl)
theorem dX4_element_1 : decode cX4_element 1 = .ok (.iconst 0, 1) := dk_3 (dk_at dksX4_element_0 1 rfl rfl)
theorem dX4_element_2 : decode cX4_element 2 = .ok (.putfield 9, 3) := dk_181 0 9 (dk_at dksX4_element_0 2 rfl rfl)
theorem dX4_element_5 : decode cX4_element 5 = .ok (.iload_n 1, 1) := dk_27 (dk_at dksX4_element_0 5 rfl rfl)
theorem dX4_element_6 : decode cX4_element 6 = .ok (.iconst 0, 1) := dk_3 (dk_at dksX4_element_0 6 rfl rfl)
theorem dX4_element_7 : decode cX4_element 7 = .ok (.iconst 2, 1) := dk_5 (dk_at dksX4_element_0 7 rfl rfl)
theorem dX4_element_8 : decode cX4_element 8 = .ok (.invokestatic 113, 3) := dk_184 0 113 (dk_at dksX4_element_0 8 rfl rfl)
theorem dX4_element_11 : decode cX4_element 11 = .ok (.ifCond .ne 10, 3) := dk_154 0 10 (dk_at dksX4_element_0 11 rfl rfl)
theorem dX4_element_14 : decode cX4_element 14 = .ok (.aload_n 0, 1) := dk_42 (dk_at dksX4_element_0 14 rfl rfl)
theorem dX4_element_15 : decode cX4_element 15 = .ok (.iconst 1, 1) := dk_4 (dk_at dksX4_element_0 15 rfl rfl)
theorem dX4_element_16 : decode cX4_element 16 = .ok (.invokevirtual 120, 3) := dk_182 0 120 (dk_at dksX4_element_0 16 rfl rfl)
theorem dX4_element_19 : decode cX4_element 19 = .ok (.i2l, 1) := dk_133 (dk_at dksX4_element_0 19 rfl rfl)
theorem dX4_element_20 : decode cX4_element 20 = .ok (.lreturn, 1) := dk_173 (dk_at dksX4_element_0 20 rfl rfl)
theorem dX4_element_21 : decode cX4_element 21 = .ok (.iload_n 2, 1) := dk_28 (dk_at dksX4_element_0 21 rfl rfl)
theorem dX4_element_22 : decode cX4_element 22 = .ok (.iconst 0, 1) := dk_3 (dk_at dksX4_element_0 22 rfl rfl)
theorem dX4_element_23 : decode cX4_element 23 = .ok (.aload_n 0, 1) := dk_42 (dk_at dksX4_element_0 23 rfl rfl)
theorem dX4_element_24 : decode cX4_element 24 = .ok (.getfield 70, 3) := dk_180 0 70 (dk_at dksX4_element_1 0 rfl rfl)
theorem dX4_element_27 : decode cX4_element 27 = .ok (.iload_n 1, 1) := dk_27 (dk_at dksX4_element_1 3 rfl rfl)
theorem dX4_element_28 : decode cX4_element 28 = .ok (.iaload, 1) := dk_46 (dk_at dksX4_element_1 4 rfl rfl)
theorem dX4_element_29 : decode cX4_element 29 = .ok (.iconst 1, 1) := dk_4 (dk_at dksX4_element_1 5 rfl rfl)
theorem dX4_element_30 : decode cX4_element 30 = .ok (.isub, 1) := dk_100 (dk_at dksX4_element_1 6 rfl rfl)
theorem dX4_element_31 : decode cX4_element 31 = .ok (.invokestatic 113, 3) := dk_184 0 113 (dk_at dksX4_element_1 7 rfl rfl)
theorem dX4_element_34 : decode cX4_element 34 = .ok (.ifCond .eq 17, 3) := dk_153 0 17 (dk_at dksX4_element_1 10 rfl rfl)
theorem dX4_element_37 : decode cX4_element 37 = .ok (.aload_n 0, 1) := dk_42 (dk_at dksX4_element_1 13 rfl rfl)
theorem dX4_element_38 : decode cX4_element 38 = .ok (.getfield 66, 3) := dk_180 0 66 (dk_at dksX4_element_1 14 rfl rfl)
theorem dX4_element_41 : decode cX4_element 41 = .ok (.bipush 6, 2) := dk_16 6 (dk_at dksX4_element_1 17 rfl rfl)
theorem dX4_element_43 : decode cX4_element 43 = .ok (.iload_n 1, 1) := dk_27 (dk_at dksX4_element_1 19 rfl rfl)
theorem dX4_element_44 : decode cX4_element 44 = .ok (.imul, 1) := dk_104 (dk_at dksX4_element_1 20 rfl rfl)
theorem dX4_element_45 : decode cX4_element 45 = .ok (.iload_n 2, 1) := dk_28 (dk_at dksX4_element_1 21 rfl rfl)
theorem dX4_element_46 : decode cX4_element 46 = .ok (.iadd, 1) := dk_96 (dk_at dksX4_element_1 22 rfl rfl)
theorem dX4_element_47 : decode cX4_element 47 = .ok (.laload, 1) := dk_47 (dk_at dksX4_element_1 23 rfl rfl)
theorem dX4_element_48 : decode cX4_element 48 = .ok (.goto 9, 3) := dk_167 0 9 (dk_at dksX4_element_2 0 rfl rfl)
theorem dX4_element_51 : decode cX4_element 51 = .ok (.aload_n 0, 1) := dk_42 (dk_at dksX4_element_2 3 rfl rfl)
theorem dX4_element_52 : decode cX4_element 52 = .ok (.iconst 2, 1) := dk_5 (dk_at dksX4_element_2 4 rfl rfl)
theorem dX4_element_53 : decode cX4_element 53 = .ok (.invokevirtual 120, 3) := dk_182 0 120 (dk_at dksX4_element_2 5 rfl rfl)
theorem dX4_element_56 : decode cX4_element 56 = .ok (.i2l, 1) := dk_133 (dk_at dksX4_element_2 8 rfl rfl)
theorem dX4_element_57 : decode cX4_element 57 = .ok (.lreturn, 1) := dk_173 (dk_at dksX4_element_2 9 rfl rfl)
abbrev cX4_append : ByteArray := prog_17_method_68_code
def yX4_append : MethodName := ⟨RX4, "append", "(I)I"⟩
def dkwX4_append_5 : List UInt8 := [180, 0, 76, 4, 96, 181, 0, 76, 132, 3, 248, 167, 255, 211, 42, 180, 0, 76, 172]
abbrev dktX4_append_5 : List UInt8 := dkwX4_append_5 ++ []
def dkwX4_append_4 : List UInt8 := [126, 54, 4, 21, 4, 154, 0, 6, 167, 0, 24, 42, 180, 0, 73, 42, 180, 0, 76, 21, 4, 79, 42, 89]
abbrev dktX4_append_4 : List UInt8 := dkwX4_append_4 ++ dktX4_append_5
def dkwX4_append_3 : List UInt8 := [16, 60, 164, 0, 9, 42, 5, 182, 0, 120, 172, 16, 24, 62, 29, 155, 0, 47, 27, 29, 122, 17, 0, 255]
abbrev dktX4_append_3 : List UInt8 := dkwX4_append_3 ++ dktX4_append_4
def dkwX4_append_2 : List UInt8 := [21, 4, 153, 0, 7, 4, 167, 0, 4, 3, 96, 61, 132, 3, 248, 167, 255, 204, 42, 180, 0, 76, 28, 96]
abbrev dktX4_append_2 : List UInt8 := dkwX4_append_2 ++ dktX4_append_3
def dkwX4_append_1 : List UInt8 := [21, 4, 153, 0, 21, 21, 4, 16, 32, 16, 126, 184, 0, 113, 154, 0, 9, 42, 4, 182, 0, 120, 172, 28]
abbrev dktX4_append_1 : List UInt8 := dkwX4_append_1 ++ dktX4_append_2
def dkwX4_append_0 : List UInt8 := [42, 3, 181, 0, 9, 3, 61, 16, 24, 62, 29, 155, 0, 54, 27, 29, 122, 17, 0, 255, 126, 54, 4]
abbrev dktX4_append_0 : List UInt8 := dkwX4_append_0 ++ dktX4_append_1
theorem dksX4_append_0 : cX4_append.data.toList.drop 0 = dktX4_append_0 := by decide +kernel
theorem dksX4_append_1 : cX4_append.data.toList.drop 23 = dktX4_append_1 := dk_seg dksX4_append_0 23 rfl rfl
theorem dksX4_append_2 : cX4_append.data.toList.drop 47 = dktX4_append_2 := dk_seg dksX4_append_1 24 rfl rfl
theorem dksX4_append_3 : cX4_append.data.toList.drop 71 = dktX4_append_3 := dk_seg dksX4_append_2 24 rfl rfl
theorem dksX4_append_4 : cX4_append.data.toList.drop 95 = dktX4_append_4 := dk_seg dksX4_append_3 24 rfl rfl
theorem dksX4_append_5 : cX4_append.data.toList.drop 119 = dktX4_append_5 := dk_seg dksX4_append_4 24 rfl rfl
theorem dX4_append_0 : decode cX4_append 0 = .ok (.aload_n 0, 1) := dk_42 (dk_at dksX4_append_0 0 rfl rfl)
theorem dX4_append_1 : decode cX4_append 1 = .ok (.iconst 0, 1) := dk_3 (dk_at dksX4_append_0 1 rfl rfl)
theorem dX4_append_2 : decode cX4_append 2 = .ok (.putfield 9, 3) := dk_181 0 9 (dk_at dksX4_append_0 2 rfl rfl)
theorem dX4_append_5 : decode cX4_append 5 = .ok (.iconst 0, 1) := dk_3 (dk_at dksX4_append_0 5 rfl rfl)
theorem dX4_append_6 : decode cX4_append 6 = .ok (.istore_n 2, 1) := dk_61 (dk_at dksX4_append_0 6 rfl rfl)
theorem dX4_append_7 : decode cX4_append 7 = .ok (.bipush 24, 2) := dk_16 24 (dk_at dksX4_append_0 7 rfl rfl)
theorem dX4_append_9 : decode cX4_append 9 = .ok (.istore_n 3, 1) := dk_62 (dk_at dksX4_append_0 9 rfl rfl)
theorem dX4_append_10 : decode cX4_append 10 = .ok (.iload_n 3, 1) := dk_29 (dk_at dksX4_append_0 10 rfl rfl)
theorem dX4_append_11 : decode cX4_append 11 = .ok (.ifCond .lt 54, 3) := dk_155 0 54 (dk_at dksX4_append_0 11 rfl rfl)
theorem dX4_append_14 : decode cX4_append 14 = .ok (.iload_n 1, 1) := dk_27 (dk_at dksX4_append_0 14 rfl rfl)
theorem dX4_append_15 : decode cX4_append 15 = .ok (.iload_n 3, 1) := dk_29 (dk_at dksX4_append_0 15 rfl rfl)
theorem dX4_append_16 : decode cX4_append 16 = .ok (.ishr, 1) := dk_122 (dk_at dksX4_append_0 16 rfl rfl)
theorem dX4_append_17 : decode cX4_append 17 = .ok (.sipush 255, 3) := dk_17 0 255 (dk_at dksX4_append_0 17 rfl rfl)
theorem dX4_append_20 : decode cX4_append 20 = .ok (.iand, 1) := dk_126 (dk_at dksX4_append_0 20 rfl rfl)
theorem dX4_append_21 : decode cX4_append 21 = .ok (.istore 4, 2) := dk_54 4 (dk_at dksX4_append_0 21 rfl rfl)
theorem dX4_append_23 : decode cX4_append 23 = .ok (.iload 4, 2) := dk_21 4 (dk_at dksX4_append_1 0 rfl rfl)
theorem dX4_append_25 : decode cX4_append 25 = .ok (.ifCond .eq 21, 3) := dk_153 0 21 (dk_at dksX4_append_1 2 rfl rfl)
theorem dX4_append_28 : decode cX4_append 28 = .ok (.iload 4, 2) := dk_21 4 (dk_at dksX4_append_1 5 rfl rfl)
theorem dX4_append_30 : decode cX4_append 30 = .ok (.bipush 32, 2) := dk_16 32 (dk_at dksX4_append_1 7 rfl rfl)
theorem dX4_append_32 : decode cX4_append 32 = .ok (.bipush 126, 2) := dk_16 126 (dk_at dksX4_append_1 9 rfl rfl)
theorem dX4_append_34 : decode cX4_append 34 = .ok (.invokestatic 113, 3) := dk_184 0 113 (dk_at dksX4_append_1 11 rfl rfl)
theorem dX4_append_37 : decode cX4_append 37 = .ok (.ifCond .ne 9, 3) := dk_154 0 9 (dk_at dksX4_append_1 14 rfl rfl)
theorem dX4_append_40 : decode cX4_append 40 = .ok (.aload_n 0, 1) := dk_42 (dk_at dksX4_append_1 17 rfl rfl)
theorem dX4_append_41 : decode cX4_append 41 = .ok (.iconst 1, 1) := dk_4 (dk_at dksX4_append_1 18 rfl rfl)
theorem dX4_append_42 : decode cX4_append 42 = .ok (.invokevirtual 120, 3) := dk_182 0 120 (dk_at dksX4_append_1 19 rfl rfl)
theorem dX4_append_45 : decode cX4_append 45 = .ok (.ireturn, 1) := dk_172 (dk_at dksX4_append_1 22 rfl rfl)
theorem dX4_append_46 : decode cX4_append 46 = .ok (.iload_n 2, 1) := dk_28 (dk_at dksX4_append_1 23 rfl rfl)
theorem dX4_append_47 : decode cX4_append 47 = .ok (.iload 4, 2) := dk_21 4 (dk_at dksX4_append_2 0 rfl rfl)
theorem dX4_append_49 : decode cX4_append 49 = .ok (.ifCond .eq 7, 3) := dk_153 0 7 (dk_at dksX4_append_2 2 rfl rfl)
theorem dX4_append_52 : decode cX4_append 52 = .ok (.iconst 1, 1) := dk_4 (dk_at dksX4_append_2 5 rfl rfl)
theorem dX4_append_53 : decode cX4_append 53 = .ok (.goto 4, 3) := dk_167 0 4 (dk_at dksX4_append_2 6 rfl rfl)
theorem dX4_append_56 : decode cX4_append 56 = .ok (.iconst 0, 1) := dk_3 (dk_at dksX4_append_2 9 rfl rfl)
theorem dX4_append_57 : decode cX4_append 57 = .ok (.iadd, 1) := dk_96 (dk_at dksX4_append_2 10 rfl rfl)
theorem dX4_append_58 : decode cX4_append 58 = .ok (.istore_n 2, 1) := dk_61 (dk_at dksX4_append_2 11 rfl rfl)
theorem dX4_append_59 : decode cX4_append 59 = .ok (.iinc 3 (-8), 3) := dk_132 3 248 (dk_at dksX4_append_2 12 rfl rfl)
theorem dX4_append_62 : decode cX4_append 62 = .ok (.goto (-52), 3) := dk_167 255 204 (dk_at dksX4_append_2 15 rfl rfl)
theorem dX4_append_65 : decode cX4_append 65 = .ok (.aload_n 0, 1) := dk_42 (dk_at dksX4_append_2 18 rfl rfl)
theorem dX4_append_66 : decode cX4_append 66 = .ok (.getfield 76, 3) := dk_180 0 76 (dk_at dksX4_append_2 19 rfl rfl)
theorem dX4_append_69 : decode cX4_append 69 = .ok (.iload_n 2, 1) := dk_28 (dk_at dksX4_append_2 22 rfl rfl)
theorem dX4_append_70 : decode cX4_append 70 = .ok (.iadd, 1) := dk_96 (dk_at dksX4_append_2 23 rfl rfl)
theorem dX4_append_71 : decode cX4_append 71 = .ok (.bipush 60, 2) := dk_16 60 (dk_at dksX4_append_3 0 rfl rfl)
theorem dX4_append_73 : decode cX4_append 73 = .ok (.if_icmp .le 9, 3) := dk_164 0 9 (dk_at dksX4_append_3 2 rfl rfl)
theorem dX4_append_76 : decode cX4_append 76 = .ok (.aload_n 0, 1) := dk_42 (dk_at dksX4_append_3 5 rfl rfl)
theorem dX4_append_77 : decode cX4_append 77 = .ok (.iconst 2, 1) := dk_5 (dk_at dksX4_append_3 6 rfl rfl)
theorem dX4_append_78 : decode cX4_append 78 = .ok (.invokevirtual 120, 3) := dk_182 0 120 (dk_at dksX4_append_3 7 rfl rfl)
theorem dX4_append_81 : decode cX4_append 81 = .ok (.ireturn, 1) := dk_172 (dk_at dksX4_append_3 10 rfl rfl)
theorem dX4_append_82 : decode cX4_append 82 = .ok (.bipush 24, 2) := dk_16 24 (dk_at dksX4_append_3 11 rfl rfl)
theorem dX4_append_84 : decode cX4_append 84 = .ok (.istore_n 3, 1) := dk_62 (dk_at dksX4_append_3 13 rfl rfl)
theorem dX4_append_85 : decode cX4_append 85 = .ok (.iload_n 3, 1) := dk_29 (dk_at dksX4_append_3 14 rfl rfl)
theorem dX4_append_86 : decode cX4_append 86 = .ok (.ifCond .lt 47, 3) := dk_155 0 47 (dk_at dksX4_append_3 15 rfl rfl)
theorem dX4_append_89 : decode cX4_append 89 = .ok (.iload_n 1, 1) := dk_27 (dk_at dksX4_append_3 18 rfl rfl)
theorem dX4_append_90 : decode cX4_append 90 = .ok (.iload_n 3, 1) := dk_29 (dk_at dksX4_append_3 19 rfl rfl)
theorem dX4_append_91 : decode cX4_append 91 = .ok (.ishr, 1) := dk_122 (dk_at dksX4_append_3 20 rfl rfl)
theorem dX4_append_92 : decode cX4_append 92 = .ok (.sipush 255, 3) := dk_17 0 255 (dk_at dksX4_append_3 21 rfl rfl)
theorem dX4_append_95 : decode cX4_append 95 = .ok (.iand, 1) := dk_126 (dk_at dksX4_append_4 0 rfl rfl)
theorem dX4_append_96 : decode cX4_append 96 = .ok (.istore 4, 2) := dk_54 4 (dk_at dksX4_append_4 1 rfl rfl)
theorem dX4_append_98 : decode cX4_append 98 = .ok (.iload 4, 2) := dk_21 4 (dk_at dksX4_append_4 3 rfl rfl)
theorem dX4_append_100 : decode cX4_append 100 = .ok (.ifCond .ne 6, 3) := dk_154 0 6 (dk_at dksX4_append_4 5 rfl rfl)
theorem dX4_append_103 : decode cX4_append 103 = .ok (.goto 24, 3) := dk_167 0 24 (dk_at dksX4_append_4 8 rfl rfl)
theorem dX4_append_106 : decode cX4_append 106 = .ok (.aload_n 0, 1) := dk_42 (dk_at dksX4_append_4 11 rfl rfl)
theorem dX4_append_107 : decode cX4_append 107 = .ok (.getfield 73, 3) := dk_180 0 73 (dk_at dksX4_append_4 12 rfl rfl)
theorem dX4_append_110 : decode cX4_append 110 = .ok (.aload_n 0, 1) := dk_42 (dk_at dksX4_append_4 15 rfl rfl)
theorem dX4_append_111 : decode cX4_append 111 = .ok (.getfield 76, 3) := dk_180 0 76 (dk_at dksX4_append_4 16 rfl rfl)
theorem dX4_append_114 : decode cX4_append 114 = .ok (.iload 4, 2) := dk_21 4 (dk_at dksX4_append_4 19 rfl rfl)
theorem dX4_append_116 : decode cX4_append 116 = .ok (.iastore, 1) := dk_79 (dk_at dksX4_append_4 21 rfl rfl)
theorem dX4_append_117 : decode cX4_append 117 = .ok (.aload_n 0, 1) := dk_42 (dk_at dksX4_append_4 22 rfl rfl)
theorem dX4_append_118 : decode cX4_append 118 = .ok (.dup, 1) := dk_89 (dk_at dksX4_append_4 23 rfl rfl)
theorem dX4_append_119 : decode cX4_append 119 = .ok (.getfield 76, 3) := dk_180 0 76 (dk_at dksX4_append_5 0 rfl rfl)
theorem dX4_append_122 : decode cX4_append 122 = .ok (.iconst 1, 1) := dk_4 (dk_at dksX4_append_5 3 rfl rfl)
theorem dX4_append_123 : decode cX4_append 123 = .ok (.iadd, 1) := dk_96 (dk_at dksX4_append_5 4 rfl rfl)
theorem dX4_append_124 : decode cX4_append 124 = .ok (.putfield 76, 3) := dk_181 0 76 (dk_at dksX4_append_5 5 rfl rfl)
theorem dX4_append_127 : decode cX4_append 127 = .ok (.iinc 3 (-8), 3) := dk_132 3 248 (dk_at dksX4_append_5 8 rfl rfl)
theorem dX4_append_130 : decode cX4_append 130 = .ok (.goto (-45), 3) := dk_167 255 211 (dk_at dksX4_append_5 11 rfl rfl)
theorem dX4_append_133 : decode cX4_append 133 = .ok (.aload_n 0, 1) := dk_42 (dk_at dksX4_append_5 14 rfl rfl)
theorem dX4_append_134 : decode cX4_append 134 = .ok (.getfield 76, 3) := dk_180 0 76 (dk_at dksX4_append_5 15 rfl rfl)
theorem dX4_append_137 : decode cX4_append 137 = .ok (.ireturn, 1) := dk_172 (dk_at dksX4_append_5 18 rfl rfl)
abbrev cX4_read : ByteArray := prog_17_method_74_code
def yX4_read : MethodName := ⟨RX4, "read", "()I"⟩
def dkwX4_read_5 : List UInt8 := [180, 0, 100, 3, 42, 180, 0, 17, 3, 184, 0, 109, 42, 182, 0, 124, 42, 180, 0, 82, 172]
abbrev dktX4_read_5 : List UInt8 := dkwX4_read_5 ++ []
def dkwX4_read_4 : List UInt8 := [100, 181, 0, 88, 42, 180, 0, 100, 3, 42, 180, 0, 13, 3, 184, 0, 109, 42, 5, 182, 0, 120, 172, 42]
abbrev dktX4_read_4 : List UInt8 := dkwX4_read_4 ++ dktX4_read_5
def dkwX4_read_3 : List UInt8 := [182, 1, 0, 132, 2, 1, 167, 255, 233, 42, 3, 181, 0, 33, 42, 180, 0, 9, 158, 0, 29, 42, 28, 4]
abbrev dktX4_read_3 : List UInt8 := dkwX4_read_3 ++ dktX4_read_4
def dkwX4_read_2 : List UInt8 := [181, 0, 33, 3, 61, 28, 42, 180, 0, 82, 162, 0, 21, 42, 180, 0, 9, 154, 0, 14, 42, 28]
abbrev dktX4_read_2 : List UInt8 := dkwX4_read_2 ++ dktX4_read_3
def dkwX4_read_1 : List UInt8 := [181, 0, 85, 42, 4, 182, 0, 120, 172, 42, 180, 0, 13, 3, 42, 180, 0, 100, 3, 184, 0, 109, 42, 4]
abbrev dktX4_read_1 : List UInt8 := dkwX4_read_1 ++ dktX4_read_2
def dkwX4_read_0 : List UInt8 := [42, 3, 181, 0, 9, 42, 182, 0, 253, 60, 42, 3, 181, 0, 76, 27, 154, 0, 17, 42, 42, 180, 0, 79]
abbrev dktX4_read_0 : List UInt8 := dkwX4_read_0 ++ dktX4_read_1
theorem dksX4_read_0 : cX4_read.data.toList.drop 0 = dktX4_read_0 := by decide +kernel
theorem dksX4_read_1 : cX4_read.data.toList.drop 24 = dktX4_read_1 := dk_seg dksX4_read_0 24 rfl rfl
theorem dksX4_read_2 : cX4_read.data.toList.drop 48 = dktX4_read_2 := dk_seg dksX4_read_1 24 rfl rfl
theorem dksX4_read_3 : cX4_read.data.toList.drop 70 = dktX4_read_3 := dk_seg dksX4_read_2 22 rfl rfl
theorem dksX4_read_4 : cX4_read.data.toList.drop 94 = dktX4_read_4 := dk_seg dksX4_read_3 24 rfl rfl
theorem dksX4_read_5 : cX4_read.data.toList.drop 118 = dktX4_read_5 := dk_seg dksX4_read_4 24 rfl rfl
theorem dX4_read_0 : decode cX4_read 0 = .ok (.aload_n 0, 1) := dk_42 (dk_at dksX4_read_0 0 rfl rfl)
theorem dX4_read_1 : decode cX4_read 1 = .ok (.iconst 0, 1) := dk_3 (dk_at dksX4_read_0 1 rfl rfl)
theorem dX4_read_2 : decode cX4_read 2 = .ok (.putfield 9, 3) := dk_181 0 9 (dk_at dksX4_read_0 2 rfl rfl)
theorem dX4_read_5 : decode cX4_read 5 = .ok (.aload_n 0, 1) := dk_42 (dk_at dksX4_read_0 5 rfl rfl)
theorem dX4_read_6 : decode cX4_read 6 = .ok (.invokevirtual 253, 3) := dk_182 0 253 (dk_at dksX4_read_0 6 rfl rfl)
theorem dX4_read_9 : decode cX4_read 9 = .ok (.istore_n 1, 1) := dk_60 (dk_at dksX4_read_0 9 rfl rfl)
theorem dX4_read_10 : decode cX4_read 10 = .ok (.aload_n 0, 1) := dk_42 (dk_at dksX4_read_0 10 rfl rfl)
theorem dX4_read_11 : decode cX4_read 11 = .ok (.iconst 0, 1) := dk_3 (dk_at dksX4_read_0 11 rfl rfl)
theorem dX4_read_12 : decode cX4_read 12 = .ok (.putfield 76, 3) := dk_181 0 76 (dk_at dksX4_read_0 12 rfl rfl)
theorem dX4_read_15 : decode cX4_read 15 = .ok (.iload_n 1, 1) := dk_27 (dk_at dksX4_read_0 15 rfl rfl)
theorem dX4_read_16 : decode cX4_read 16 = .ok (.ifCond .ne 17, 3) := dk_154 0 17 (dk_at dksX4_read_0 16 rfl rfl)
theorem dX4_read_19 : decode cX4_read 19 = .ok (.aload_n 0, 1) := dk_42 (dk_at dksX4_read_0 19 rfl rfl)
theorem dX4_read_20 : decode cX4_read 20 = .ok (.aload_n 0, 1) := dk_42 (dk_at dksX4_read_0 20 rfl rfl)
theorem dX4_read_21 : decode cX4_read 21 = .ok (.getfield 79, 3) := dk_180 0 79 (dk_at dksX4_read_0 21 rfl rfl)
theorem dX4_read_24 : decode cX4_read 24 = .ok (.putfield 85, 3) := dk_181 0 85 (dk_at dksX4_read_1 0 rfl rfl)
theorem dX4_read_27 : decode cX4_read 27 = .ok (.aload_n 0, 1) := dk_42 (dk_at dksX4_read_1 3 rfl rfl)
theorem dX4_read_28 : decode cX4_read 28 = .ok (.iconst 1, 1) := dk_4 (dk_at dksX4_read_1 4 rfl rfl)
theorem dX4_read_29 : decode cX4_read 29 = .ok (.invokevirtual 120, 3) := dk_182 0 120 (dk_at dksX4_read_1 5 rfl rfl)
theorem dX4_read_32 : decode cX4_read 32 = .ok (.ireturn, 1) := dk_172 (dk_at dksX4_read_1 8 rfl rfl)
theorem dX4_read_33 : decode cX4_read 33 = .ok (.aload_n 0, 1) := dk_42 (dk_at dksX4_read_1 9 rfl rfl)
theorem dX4_read_34 : decode cX4_read 34 = .ok (.getfield 13, 3) := dk_180 0 13 (dk_at dksX4_read_1 10 rfl rfl)
theorem dX4_read_37 : decode cX4_read 37 = .ok (.iconst 0, 1) := dk_3 (dk_at dksX4_read_1 13 rfl rfl)
theorem dX4_read_38 : decode cX4_read 38 = .ok (.aload_n 0, 1) := dk_42 (dk_at dksX4_read_1 14 rfl rfl)
theorem dX4_read_39 : decode cX4_read 39 = .ok (.getfield 100, 3) := dk_180 0 100 (dk_at dksX4_read_1 15 rfl rfl)
theorem dX4_read_42 : decode cX4_read 42 = .ok (.iconst 0, 1) := dk_3 (dk_at dksX4_read_1 18 rfl rfl)
theorem dX4_read_43 : decode cX4_read 43 = .ok (.invokestatic 109, 3) := dk_184 0 109 (dk_at dksX4_read_1 19 rfl rfl)
theorem dX4_read_46 : decode cX4_read 46 = .ok (.aload_n 0, 1) := dk_42 (dk_at dksX4_read_1 22 rfl rfl)
theorem dX4_read_47 : decode cX4_read 47 = .ok (.iconst 1, 1) := dk_4 (dk_at dksX4_read_1 23 rfl rfl)
theorem dX4_read_48 : decode cX4_read 48 = .ok (.putfield 33, 3) := dk_181 0 33 (dk_at dksX4_read_2 0 rfl rfl)
theorem dX4_read_51 : decode cX4_read 51 = .ok (.iconst 0, 1) := dk_3 (dk_at dksX4_read_2 3 rfl rfl)
theorem dX4_read_52 : decode cX4_read 52 = .ok (.istore_n 2, 1) := dk_61 (dk_at dksX4_read_2 4 rfl rfl)
theorem dX4_read_53 : decode cX4_read 53 = .ok (.iload_n 2, 1) := dk_28 (dk_at dksX4_read_2 5 rfl rfl)
theorem dX4_read_54 : decode cX4_read 54 = .ok (.aload_n 0, 1) := dk_42 (dk_at dksX4_read_2 6 rfl rfl)
theorem dX4_read_55 : decode cX4_read 55 = .ok (.getfield 82, 3) := dk_180 0 82 (dk_at dksX4_read_2 7 rfl rfl)
theorem dX4_read_58 : decode cX4_read 58 = .ok (.if_icmp .ge 21, 3) := dk_162 0 21 (dk_at dksX4_read_2 10 rfl rfl)
theorem dX4_read_61 : decode cX4_read 61 = .ok (.aload_n 0, 1) := dk_42 (dk_at dksX4_read_2 13 rfl rfl)
theorem dX4_read_62 : decode cX4_read 62 = .ok (.getfield 9, 3) := dk_180 0 9 (dk_at dksX4_read_2 14 rfl rfl)
theorem dX4_read_65 : decode cX4_read 65 = .ok (.ifCond .ne 14, 3) := dk_154 0 14 (dk_at dksX4_read_2 17 rfl rfl)
theorem dX4_read_68 : decode cX4_read 68 = .ok (.aload_n 0, 1) := dk_42 (dk_at dksX4_read_2 20 rfl rfl)
theorem dX4_read_69 : decode cX4_read 69 = .ok (.iload_n 2, 1) := dk_28 (dk_at dksX4_read_2 21 rfl rfl)
theorem dX4_read_70 : decode cX4_read 70 = .ok (.invokevirtual 256, 3) := dk_182 1 0 (dk_at dksX4_read_3 0 rfl rfl)
theorem dX4_read_73 : decode cX4_read 73 = .ok (.iinc 2 1, 3) := dk_132 2 1 (dk_at dksX4_read_3 3 rfl rfl)
theorem dX4_read_76 : decode cX4_read 76 = .ok (.goto (-23), 3) := dk_167 255 233 (dk_at dksX4_read_3 6 rfl rfl)
theorem dX4_read_79 : decode cX4_read 79 = .ok (.aload_n 0, 1) := dk_42 (dk_at dksX4_read_3 9 rfl rfl)
theorem dX4_read_80 : decode cX4_read 80 = .ok (.iconst 0, 1) := dk_3 (dk_at dksX4_read_3 10 rfl rfl)
theorem dX4_read_81 : decode cX4_read 81 = .ok (.putfield 33, 3) := dk_181 0 33 (dk_at dksX4_read_3 11 rfl rfl)
theorem dX4_read_84 : decode cX4_read 84 = .ok (.aload_n 0, 1) := dk_42 (dk_at dksX4_read_3 14 rfl rfl)
theorem dX4_read_85 : decode cX4_read 85 = .ok (.getfield 9, 3) := dk_180 0 9 (dk_at dksX4_read_3 15 rfl rfl)
theorem dX4_read_88 : decode cX4_read 88 = .ok (.ifCond .le 29, 3) := dk_158 0 29 (dk_at dksX4_read_3 18 rfl rfl)
theorem dX4_read_91 : decode cX4_read 91 = .ok (.aload_n 0, 1) := dk_42 (dk_at dksX4_read_3 21 rfl rfl)
theorem dX4_read_92 : decode cX4_read 92 = .ok (.iload_n 2, 1) := dk_28 (dk_at dksX4_read_3 22 rfl rfl)
theorem dX4_read_93 : decode cX4_read 93 = .ok (.iconst 1, 1) := dk_4 (dk_at dksX4_read_3 23 rfl rfl)
theorem dX4_read_94 : decode cX4_read 94 = .ok (.isub, 1) := dk_100 (dk_at dksX4_read_4 0 rfl rfl)
theorem dX4_read_95 : decode cX4_read 95 = .ok (.putfield 88, 3) := dk_181 0 88 (dk_at dksX4_read_4 1 rfl rfl)
theorem dX4_read_98 : decode cX4_read 98 = .ok (.aload_n 0, 1) := dk_42 (dk_at dksX4_read_4 4 rfl rfl)
theorem dX4_read_99 : decode cX4_read 99 = .ok (.getfield 100, 3) := dk_180 0 100 (dk_at dksX4_read_4 5 rfl rfl)
theorem dX4_read_102 : decode cX4_read 102 = .ok (.iconst 0, 1) := dk_3 (dk_at dksX4_read_4 8 rfl rfl)
theorem dX4_read_103 : decode cX4_read 103 = .ok (.aload_n 0, 1) := dk_42 (dk_at dksX4_read_4 9 rfl rfl)
theorem dX4_read_104 : decode cX4_read 104 = .ok (.getfield 13, 3) := dk_180 0 13 (dk_at dksX4_read_4 10 rfl rfl)
theorem dX4_read_107 : decode cX4_read 107 = .ok (.iconst 0, 1) := dk_3 (dk_at dksX4_read_4 13 rfl rfl)
theorem dX4_read_108 : decode cX4_read 108 = .ok (.invokestatic 109, 3) := dk_184 0 109 (dk_at dksX4_read_4 14 rfl rfl)
theorem dX4_read_111 : decode cX4_read 111 = .ok (.aload_n 0, 1) := dk_42 (dk_at dksX4_read_4 17 rfl rfl)
theorem dX4_read_112 : decode cX4_read 112 = .ok (.iconst 2, 1) := dk_5 (dk_at dksX4_read_4 18 rfl rfl)
theorem dX4_read_113 : decode cX4_read 113 = .ok (.invokevirtual 120, 3) := dk_182 0 120 (dk_at dksX4_read_4 19 rfl rfl)
theorem dX4_read_116 : decode cX4_read 116 = .ok (.ireturn, 1) := dk_172 (dk_at dksX4_read_4 22 rfl rfl)
theorem dX4_read_117 : decode cX4_read 117 = .ok (.aload_n 0, 1) := dk_42 (dk_at dksX4_read_4 23 rfl rfl)
theorem dX4_read_118 : decode cX4_read 118 = .ok (.getfield 100, 3) := dk_180 0 100 (dk_at dksX4_read_5 0 rfl rfl)
theorem dX4_read_121 : decode cX4_read 121 = .ok (.iconst 0, 1) := dk_3 (dk_at dksX4_read_5 3 rfl rfl)
theorem dX4_read_122 : decode cX4_read 122 = .ok (.aload_n 0, 1) := dk_42 (dk_at dksX4_read_5 4 rfl rfl)
theorem dX4_read_123 : decode cX4_read 123 = .ok (.getfield 17, 3) := dk_180 0 17 (dk_at dksX4_read_5 5 rfl rfl)
theorem dX4_read_126 : decode cX4_read 126 = .ok (.iconst 0, 1) := dk_3 (dk_at dksX4_read_5 8 rfl rfl)
theorem dX4_read_127 : decode cX4_read 127 = .ok (.invokestatic 109, 3) := dk_184 0 109 (dk_at dksX4_read_5 9 rfl rfl)
theorem dX4_read_130 : decode cX4_read 130 = .ok (.aload_n 0, 1) := dk_42 (dk_at dksX4_read_5 12 rfl rfl)
theorem dX4_read_131 : decode cX4_read 131 = .ok (.invokevirtual 124, 3) := dk_182 0 124 (dk_at dksX4_read_5 13 rfl rfl)
theorem dX4_read_134 : decode cX4_read 134 = .ok (.aload_n 0, 1) := dk_42 (dk_at dksX4_read_5 16 rfl rfl)
theorem dX4_read_135 : decode cX4_read 135 = .ok (.getfield 82, 3) := dk_180 0 82 (dk_at dksX4_read_5 17 rfl rfl)
theorem dX4_read_138 : decode cX4_read 138 = .ok (.ireturn, 1) := dk_172 (dk_at dksX4_read_5 20 rfl rfl)
abbrev cX4_isText : ByteArray := prog_17_method_72_code
def yX4_isText : MethodName := ⟨RX4, "isText", "()Z"⟩
def dkwX4_isText_2 : List UInt8 := [4, 172]
abbrev dktX4_isText_2 : List UInt8 := dkwX4_isText_2 ++ []
def dkwX4_isText_1 : List UInt8 := [180, 0, 76, 162, 0, 21, 42, 16, 59, 182, 0, 227, 153, 0, 10, 42, 182, 0, 230, 154, 255, 232, 3, 172]
abbrev dktX4_isText_1 : List UInt8 := dkwX4_isText_1 ++ dktX4_isText_2
def dkwX4_isText_0 : List UInt8 := [42, 3, 181, 0, 79, 42, 3, 181, 0, 82, 42, 182, 0, 230, 154, 0, 5, 3, 172, 42, 180, 0, 79, 42]
abbrev dktX4_isText_0 : List UInt8 := dkwX4_isText_0 ++ dktX4_isText_1
theorem dksX4_isText_0 : cX4_isText.data.toList.drop 0 = dktX4_isText_0 := by decide +kernel
theorem dksX4_isText_1 : cX4_isText.data.toList.drop 24 = dktX4_isText_1 := dk_seg dksX4_isText_0 24 rfl rfl
theorem dksX4_isText_2 : cX4_isText.data.toList.drop 48 = dktX4_isText_2 := dk_seg dksX4_isText_1 24 rfl rfl
theorem dX4_isText_0 : decode cX4_isText 0 = .ok (.aload_n 0, 1) := dk_42 (dk_at dksX4_isText_0 0 rfl rfl)
theorem dX4_isText_1 : decode cX4_isText 1 = .ok (.iconst 0, 1) := dk_3 (dk_at dksX4_isText_0 1 rfl rfl)
theorem dX4_isText_2 : decode cX4_isText 2 = .ok (.putfield 79, 3) := dk_181 0 79 (dk_at dksX4_isText_0 2 rfl rfl)
theorem dX4_isText_5 : decode cX4_isText 5 = .ok (.aload_n 0, 1) := dk_42 (dk_at dksX4_isText_0 5 rfl rfl)
theorem dX4_isText_6 : decode cX4_isText 6 = .ok (.iconst 0, 1) := dk_3 (dk_at dksX4_isText_0 6 rfl rfl)
theorem dX4_isText_7 : decode cX4_isText 7 = .ok (.putfield 82, 3) := dk_181 0 82 (dk_at dksX4_isText_0 7 rfl rfl)
theorem dX4_isText_10 : decode cX4_isText 10 = .ok (.aload_n 0, 1) := dk_42 (dk_at dksX4_isText_0 10 rfl rfl)
theorem dX4_isText_11 : decode cX4_isText 11 = .ok (.invokevirtual 230, 3) := dk_182 0 230 (dk_at dksX4_isText_0 11 rfl rfl)
theorem dX4_isText_14 : decode cX4_isText 14 = .ok (.ifCond .ne 5, 3) := dk_154 0 5 (dk_at dksX4_isText_0 14 rfl rfl)
theorem dX4_isText_17 : decode cX4_isText 17 = .ok (.iconst 0, 1) := dk_3 (dk_at dksX4_isText_0 17 rfl rfl)
theorem dX4_isText_18 : decode cX4_isText 18 = .ok (.ireturn, 1) := dk_172 (dk_at dksX4_isText_0 18 rfl rfl)
theorem dX4_isText_19 : decode cX4_isText 19 = .ok (.aload_n 0, 1) := dk_42 (dk_at dksX4_isText_0 19 rfl rfl)
theorem dX4_isText_20 : decode cX4_isText 20 = .ok (.getfield 79, 3) := dk_180 0 79 (dk_at dksX4_isText_0 20 rfl rfl)
theorem dX4_isText_23 : decode cX4_isText 23 = .ok (.aload_n 0, 1) := dk_42 (dk_at dksX4_isText_0 23 rfl rfl)
theorem dX4_isText_24 : decode cX4_isText 24 = .ok (.getfield 76, 3) := dk_180 0 76 (dk_at dksX4_isText_1 0 rfl rfl)
theorem dX4_isText_27 : decode cX4_isText 27 = .ok (.if_icmp .ge 21, 3) := dk_162 0 21 (dk_at dksX4_isText_1 3 rfl rfl)
theorem dX4_isText_30 : decode cX4_isText 30 = .ok (.aload_n 0, 1) := dk_42 (dk_at dksX4_isText_1 6 rfl rfl)
theorem dX4_isText_31 : decode cX4_isText 31 = .ok (.bipush 59, 2) := dk_16 59 (dk_at dksX4_isText_1 7 rfl rfl)
theorem dX4_isText_33 : decode cX4_isText 33 = .ok (.invokevirtual 227, 3) := dk_182 0 227 (dk_at dksX4_isText_1 9 rfl rfl)
theorem dX4_isText_36 : decode cX4_isText 36 = .ok (.ifCond .eq 10, 3) := dk_153 0 10 (dk_at dksX4_isText_1 12 rfl rfl)
theorem dX4_isText_39 : decode cX4_isText 39 = .ok (.aload_n 0, 1) := dk_42 (dk_at dksX4_isText_1 15 rfl rfl)
theorem dX4_isText_40 : decode cX4_isText 40 = .ok (.invokevirtual 230, 3) := dk_182 0 230 (dk_at dksX4_isText_1 16 rfl rfl)
theorem dX4_isText_43 : decode cX4_isText 43 = .ok (.ifCond .ne (-24), 3) := dk_154 255 232 (dk_at dksX4_isText_1 19 rfl rfl)
theorem dX4_isText_46 : decode cX4_isText 46 = .ok (.iconst 0, 1) := dk_3 (dk_at dksX4_isText_1 22 rfl rfl)
theorem dX4_isText_47 : decode cX4_isText 47 = .ok (.ireturn, 1) := dk_172 (dk_at dksX4_isText_1 23 rfl rfl)
theorem dX4_isText_48 : decode cX4_isText 48 = .ok (.iconst 1, 1) := dk_4 (dk_at dksX4_isText_2 0 rfl rfl)
theorem dX4_isText_49 : decode cX4_isText 49 = .ok (.ireturn, 1) := dk_172 (dk_at dksX4_isText_2 1 rfl rfl)
abbrev cX4_isItem : ByteArray := prog_17_method_71_code
def yX4_isItem : MethodName := ⟨RX4, "isItem", "()Z"⟩
def dkwX4_isItem_9 : List UInt8 := [153, 0, 5, 3, 172, 42, 89, 180, 0, 82, 4, 96, 181, 0, 82, 4, 172]
abbrev dktX4_isItem_9 : List UInt8 := dkwX4_isItem_9 ++ []
def dkwX4_isItem_8 : List UInt8 := [180, 0, 82, 42, 182, 0, 224, 79, 42, 180, 0, 97, 42, 180, 0, 82, 46, 156, 0, 11, 3, 172, 28]
abbrev dktX4_isItem_8 : List UInt8 := dkwX4_isItem_8 ++ dktX4_isItem_9
def dkwX4_isItem_7 : List UInt8 := [62, 28, 154, 0, 9, 27, 16, 102, 160, 0, 44, 42, 29, 182, 0, 227, 153, 0, 30, 42, 180, 0, 97, 42]
abbrev dktX4_isItem_7 : List UInt8 := dkwX4_isItem_7 ++ dktX4_isItem_8
def dkwX4_isItem_6 : List UInt8 := [27, 16, 106, 160, 0, 8, 16, 58, 167, 0, 16, 27, 16, 107, 160, 0, 8, 16, 62, 167, 0, 5, 16, 47]
abbrev dktX4_isItem_6 : List UInt8 := dkwX4_isItem_6 ++ dktX4_isItem_7
def dkwX4_isItem_5 : List UInt8 := [46, 156, 0, 5, 3, 172, 27, 16, 106, 159, 0, 9, 27, 16, 107, 160, 0, 7, 4, 167, 0, 4, 3, 61]
abbrev dktX4_isItem_5 : List UInt8 := dkwX4_isItem_5 ++ dktX4_isItem_6
def dkwX4_isItem_4 : List UInt8 := [159, 0, 30, 42, 180, 0, 94, 42, 180, 0, 82, 42, 182, 0, 224, 79, 42, 180, 0, 94, 42, 180, 0, 82]
abbrev dktX4_isItem_4 : List UInt8 := dkwX4_isItem_4 ++ dktX4_isItem_5
def dkwX4_isItem_3 : List UInt8 := [180, 0, 91, 42, 180, 0, 82, 27, 79, 42, 180, 0, 97, 42, 180, 0, 82, 2, 79, 27, 16, 119]
abbrev dktX4_isItem_3 : List UInt8 := dkwX4_isItem_3 ++ dktX4_isItem_4
def dkwX4_isItem_2 : List UInt8 := [16, 117, 159, 0, 11, 27, 16, 115, 159, 0, 5, 3, 172, 42, 89, 180, 0, 79, 4, 96, 181, 0, 79, 42]
abbrev dktX4_isItem_2 : List UInt8 := dkwX4_isItem_2 ++ dktX4_isItem_3
def dkwX4_isItem_1 : List UInt8 := [16, 102, 159, 0, 35, 27, 16, 119, 159, 0, 29, 27, 16, 106, 159, 0, 23, 27, 16, 107, 159, 0, 17, 27]
abbrev dktX4_isItem_1 : List UInt8 := dkwX4_isItem_1 ++ dktX4_isItem_2
def dkwX4_isItem_0 : List UInt8 := [42, 180, 0, 79, 42, 180, 0, 76, 160, 0, 5, 3, 172, 42, 180, 0, 73, 42, 180, 0, 79, 46, 60, 27]
abbrev dktX4_isItem_0 : List UInt8 := dkwX4_isItem_0 ++ dktX4_isItem_1
theorem dksX4_isItem_0 : cX4_isItem.data.toList.drop 0 = dktX4_isItem_0 := by decide +kernel
theorem dksX4_isItem_1 : cX4_isItem.data.toList.drop 24 = dktX4_isItem_1 := dk_seg dksX4_isItem_0 24 rfl rfl
theorem dksX4_isItem_2 : cX4_isItem.data.toList.drop 48 = dktX4_isItem_2 := dk_seg dksX4_isItem_1 24 rfl rfl
theorem dksX4_isItem_3 : cX4_isItem.data.toList.drop 72 = dktX4_isItem_3 := dk_seg dksX4_isItem_2 24 rfl rfl
theorem dksX4_isItem_4 : cX4_isItem.data.toList.drop 94 = dktX4_isItem_4 := dk_seg dksX4_isItem_3 22 rfl rfl
theorem dksX4_isItem_5 : cX4_isItem.data.toList.drop 118 = dktX4_isItem_5 := dk_seg dksX4_isItem_4 24 rfl rfl
theorem dksX4_isItem_6 : cX4_isItem.data.toList.drop 142 = dktX4_isItem_6 := dk_seg dksX4_isItem_5 24 rfl rfl
theorem dksX4_isItem_7 : cX4_isItem.data.toList.drop 166 = dktX4_isItem_7 := dk_seg dksX4_isItem_6 24 rfl rfl
theorem dksX4_isItem_8 : cX4_isItem.data.toList.drop 190 = dktX4_isItem_8 := dk_seg dksX4_isItem_7 24 rfl rfl
theorem dksX4_isItem_9 : cX4_isItem.data.toList.drop 213 = dktX4_isItem_9 := dk_seg dksX4_isItem_8 23 rfl rfl
theorem dX4_isItem_0 : decode cX4_isItem 0 = .ok (.aload_n 0, 1) := dk_42 (dk_at dksX4_isItem_0 0 rfl rfl)
theorem dX4_isItem_1 : decode cX4_isItem 1 = .ok (.getfield 79, 3) := dk_180 0 79 (dk_at dksX4_isItem_0 1 rfl rfl)
theorem dX4_isItem_4 : decode cX4_isItem 4 = .ok (.aload_n 0, 1) := dk_42 (dk_at dksX4_isItem_0 4 rfl rfl)
theorem dX4_isItem_5 : decode cX4_isItem 5 = .ok (.getfield 76, 3) := dk_180 0 76 (dk_at dksX4_isItem_0 5 rfl rfl)
theorem dX4_isItem_8 : decode cX4_isItem 8 = .ok (.if_icmp .ne 5, 3) := dk_160 0 5 (dk_at dksX4_isItem_0 8 rfl rfl)
theorem dX4_isItem_11 : decode cX4_isItem 11 = .ok (.iconst 0, 1) := dk_3 (dk_at dksX4_isItem_0 11 rfl rfl)
theorem dX4_isItem_12 : decode cX4_isItem 12 = .ok (.ireturn, 1) := dk_172 (dk_at dksX4_isItem_0 12 rfl rfl)
theorem dX4_isItem_13 : decode cX4_isItem 13 = .ok (.aload_n 0, 1) := dk_42 (dk_at dksX4_isItem_0 13 rfl rfl)
theorem dX4_isItem_14 : decode cX4_isItem 14 = .ok (.getfield 73, 3) := dk_180 0 73 (dk_at dksX4_isItem_0 14 rfl rfl)
theorem dX4_isItem_17 : decode cX4_isItem 17 = .ok (.aload_n 0, 1) := dk_42 (dk_at dksX4_isItem_0 17 rfl rfl)
theorem dX4_isItem_18 : decode cX4_isItem 18 = .ok (.getfield 79, 3) := dk_180 0 79 (dk_at dksX4_isItem_0 18 rfl rfl)
theorem dX4_isItem_21 : decode cX4_isItem 21 = .ok (.iaload, 1) := dk_46 (dk_at dksX4_isItem_0 21 rfl rfl)
theorem dX4_isItem_22 : decode cX4_isItem 22 = .ok (.istore_n 1, 1) := dk_60 (dk_at dksX4_isItem_0 22 rfl rfl)
theorem dX4_isItem_23 : decode cX4_isItem 23 = .ok (.iload_n 1, 1) := dk_27 (dk_at dksX4_isItem_0 23 rfl rfl)
theorem dX4_isItem_24 : decode cX4_isItem 24 = .ok (.bipush 102, 2) := dk_16 102 (dk_at dksX4_isItem_1 0 rfl rfl)
theorem dX4_isItem_26 : decode cX4_isItem 26 = .ok (.if_icmp .eq 35, 3) := dk_159 0 35 (dk_at dksX4_isItem_1 2 rfl rfl)
theorem dX4_isItem_29 : decode cX4_isItem 29 = .ok (.iload_n 1, 1) := dk_27 (dk_at dksX4_isItem_1 5 rfl rfl)
theorem dX4_isItem_30 : decode cX4_isItem 30 = .ok (.bipush 119, 2) := dk_16 119 (dk_at dksX4_isItem_1 6 rfl rfl)
theorem dX4_isItem_32 : decode cX4_isItem 32 = .ok (.if_icmp .eq 29, 3) := dk_159 0 29 (dk_at dksX4_isItem_1 8 rfl rfl)
theorem dX4_isItem_35 : decode cX4_isItem 35 = .ok (.iload_n 1, 1) := dk_27 (dk_at dksX4_isItem_1 11 rfl rfl)
theorem dX4_isItem_36 : decode cX4_isItem 36 = .ok (.bipush 106, 2) := dk_16 106 (dk_at dksX4_isItem_1 12 rfl rfl)
theorem dX4_isItem_38 : decode cX4_isItem 38 = .ok (.if_icmp .eq 23, 3) := dk_159 0 23 (dk_at dksX4_isItem_1 14 rfl rfl)
theorem dX4_isItem_41 : decode cX4_isItem 41 = .ok (.iload_n 1, 1) := dk_27 (dk_at dksX4_isItem_1 17 rfl rfl)
theorem dX4_isItem_42 : decode cX4_isItem 42 = .ok (.bipush 107, 2) := dk_16 107 (dk_at dksX4_isItem_1 18 rfl rfl)
theorem dX4_isItem_44 : decode cX4_isItem 44 = .ok (.if_icmp .eq 17, 3) := dk_159 0 17 (dk_at dksX4_isItem_1 20 rfl rfl)
theorem dX4_isItem_47 : decode cX4_isItem 47 = .ok (.iload_n 1, 1) := dk_27 (dk_at dksX4_isItem_1 23 rfl rfl)
theorem dX4_isItem_48 : decode cX4_isItem 48 = .ok (.bipush 117, 2) := dk_16 117 (dk_at dksX4_isItem_2 0 rfl rfl)
theorem dX4_isItem_50 : decode cX4_isItem 50 = .ok (.if_icmp .eq 11, 3) := dk_159 0 11 (dk_at dksX4_isItem_2 2 rfl rfl)
theorem dX4_isItem_53 : decode cX4_isItem 53 = .ok (.iload_n 1, 1) := dk_27 (dk_at dksX4_isItem_2 5 rfl rfl)
theorem dX4_isItem_54 : decode cX4_isItem 54 = .ok (.bipush 115, 2) := dk_16 115 (dk_at dksX4_isItem_2 6 rfl rfl)
theorem dX4_isItem_56 : decode cX4_isItem 56 = .ok (.if_icmp .eq 5, 3) := dk_159 0 5 (dk_at dksX4_isItem_2 8 rfl rfl)
theorem dX4_isItem_59 : decode cX4_isItem 59 = .ok (.iconst 0, 1) := dk_3 (dk_at dksX4_isItem_2 11 rfl rfl)
theorem dX4_isItem_60 : decode cX4_isItem 60 = .ok (.ireturn, 1) := dk_172 (dk_at dksX4_isItem_2 12 rfl rfl)
theorem dX4_isItem_61 : decode cX4_isItem 61 = .ok (.aload_n 0, 1) := dk_42 (dk_at dksX4_isItem_2 13 rfl rfl)
theorem dX4_isItem_62 : decode cX4_isItem 62 = .ok (.dup, 1) := dk_89 (dk_at dksX4_isItem_2 14 rfl rfl)
theorem dX4_isItem_63 : decode cX4_isItem 63 = .ok (.getfield 79, 3) := dk_180 0 79 (dk_at dksX4_isItem_2 15 rfl rfl)
theorem dX4_isItem_66 : decode cX4_isItem 66 = .ok (.iconst 1, 1) := dk_4 (dk_at dksX4_isItem_2 18 rfl rfl)
theorem dX4_isItem_67 : decode cX4_isItem 67 = .ok (.iadd, 1) := dk_96 (dk_at dksX4_isItem_2 19 rfl rfl)
theorem dX4_isItem_68 : decode cX4_isItem 68 = .ok (.putfield 79, 3) := dk_181 0 79 (dk_at dksX4_isItem_2 20 rfl rfl)
theorem dX4_isItem_71 : decode cX4_isItem 71 = .ok (.aload_n 0, 1) := dk_42 (dk_at dksX4_isItem_2 23 rfl rfl)
theorem dX4_isItem_72 : decode cX4_isItem 72 = .ok (.getfield 91, 3) := dk_180 0 91 (dk_at dksX4_isItem_3 0 rfl rfl)
theorem dX4_isItem_75 : decode cX4_isItem 75 = .ok (.aload_n 0, 1) := dk_42 (dk_at dksX4_isItem_3 3 rfl rfl)
theorem dX4_isItem_76 : decode cX4_isItem 76 = .ok (.getfield 82, 3) := dk_180 0 82 (dk_at dksX4_isItem_3 4 rfl rfl)
theorem dX4_isItem_79 : decode cX4_isItem 79 = .ok (.iload_n 1, 1) := dk_27 (dk_at dksX4_isItem_3 7 rfl rfl)
theorem dX4_isItem_80 : decode cX4_isItem 80 = .ok (.iastore, 1) := dk_79 (dk_at dksX4_isItem_3 8 rfl rfl)
theorem dX4_isItem_81 : decode cX4_isItem 81 = .ok (.aload_n 0, 1) := dk_42 (dk_at dksX4_isItem_3 9 rfl rfl)
theorem dX4_isItem_82 : decode cX4_isItem 82 = .ok (.getfield 97, 3) := dk_180 0 97 (dk_at dksX4_isItem_3 10 rfl rfl)
theorem dX4_isItem_85 : decode cX4_isItem 85 = .ok (.aload_n 0, 1) := dk_42 (dk_at dksX4_isItem_3 13 rfl rfl)
theorem dX4_isItem_86 : decode cX4_isItem 86 = .ok (.getfield 82, 3) := dk_180 0 82 (dk_at dksX4_isItem_3 14 rfl rfl)
theorem dX4_isItem_89 : decode cX4_isItem 89 = .ok (.iconst (-1), 1) := dk_2 (dk_at dksX4_isItem_3 17 rfl rfl)
theorem dX4_isItem_90 : decode cX4_isItem 90 = .ok (.iastore, 1) := dk_79 (dk_at dksX4_isItem_3 18 rfl rfl)
theorem dX4_isItem_91 : decode cX4_isItem 91 = .ok (.iload_n 1, 1) := dk_27 (dk_at dksX4_isItem_3 19 rfl rfl)
theorem dX4_isItem_92 : decode cX4_isItem 92 = .ok (.bipush 119, 2) := dk_16 119 (dk_at dksX4_isItem_3 20 rfl rfl)
theorem dX4_isItem_94 : decode cX4_isItem 94 = .ok (.if_icmp .eq 30, 3) := dk_159 0 30 (dk_at dksX4_isItem_4 0 rfl rfl)
theorem dX4_isItem_97 : decode cX4_isItem 97 = .ok (.aload_n 0, 1) := dk_42 (dk_at dksX4_isItem_4 3 rfl rfl)
theorem dX4_isItem_98 : decode cX4_isItem 98 = .ok (.getfield 94, 3) := dk_180 0 94 (dk_at dksX4_isItem_4 4 rfl rfl)
theorem dX4_isItem_101 : decode cX4_isItem 101 = .ok (.aload_n 0, 1) := dk_42 (dk_at dksX4_isItem_4 7 rfl rfl)
theorem dX4_isItem_102 : decode cX4_isItem 102 = .ok (.getfield 82, 3) := dk_180 0 82 (dk_at dksX4_isItem_4 8 rfl rfl)
theorem dX4_isItem_105 : decode cX4_isItem 105 = .ok (.aload_n 0, 1) := dk_42 (dk_at dksX4_isItem_4 11 rfl rfl)
theorem dX4_isItem_106 : decode cX4_isItem 106 = .ok (.invokevirtual 224, 3) := dk_182 0 224 (dk_at dksX4_isItem_4 12 rfl rfl)
theorem dX4_isItem_109 : decode cX4_isItem 109 = .ok (.iastore, 1) := dk_79 (dk_at dksX4_isItem_4 15 rfl rfl)
theorem dX4_isItem_110 : decode cX4_isItem 110 = .ok (.aload_n 0, 1) := dk_42 (dk_at dksX4_isItem_4 16 rfl rfl)
theorem dX4_isItem_111 : decode cX4_isItem 111 = .ok (.getfield 94, 3) := dk_180 0 94 (dk_at dksX4_isItem_4 17 rfl rfl)
theorem dX4_isItem_114 : decode cX4_isItem 114 = .ok (.aload_n 0, 1) := dk_42 (dk_at dksX4_isItem_4 20 rfl rfl)
theorem dX4_isItem_115 : decode cX4_isItem 115 = .ok (.getfield 82, 3) := dk_180 0 82 (dk_at dksX4_isItem_4 21 rfl rfl)
theorem dX4_isItem_118 : decode cX4_isItem 118 = .ok (.iaload, 1) := dk_46 (dk_at dksX4_isItem_5 0 rfl rfl)
theorem dX4_isItem_119 : decode cX4_isItem 119 = .ok (.ifCond .ge 5, 3) := dk_156 0 5 (dk_at dksX4_isItem_5 1 rfl rfl)
theorem dX4_isItem_122 : decode cX4_isItem 122 = .ok (.iconst 0, 1) := dk_3 (dk_at dksX4_isItem_5 4 rfl rfl)
theorem dX4_isItem_123 : decode cX4_isItem 123 = .ok (.ireturn, 1) := dk_172 (dk_at dksX4_isItem_5 5 rfl rfl)
theorem dX4_isItem_124 : decode cX4_isItem 124 = .ok (.iload_n 1, 1) := dk_27 (dk_at dksX4_isItem_5 6 rfl rfl)
theorem dX4_isItem_125 : decode cX4_isItem 125 = .ok (.bipush 106, 2) := dk_16 106 (dk_at dksX4_isItem_5 7 rfl rfl)
theorem dX4_isItem_127 : decode cX4_isItem 127 = .ok (.if_icmp .eq 9, 3) := dk_159 0 9 (dk_at dksX4_isItem_5 9 rfl rfl)
theorem dX4_isItem_130 : decode cX4_isItem 130 = .ok (.iload_n 1, 1) := dk_27 (dk_at dksX4_isItem_5 12 rfl rfl)
theorem dX4_isItem_131 : decode cX4_isItem 131 = .ok (.bipush 107, 2) := dk_16 107 (dk_at dksX4_isItem_5 13 rfl rfl)
theorem dX4_isItem_133 : decode cX4_isItem 133 = .ok (.if_icmp .ne 7, 3) := dk_160 0 7 (dk_at dksX4_isItem_5 15 rfl rfl)
theorem dX4_isItem_136 : decode cX4_isItem 136 = .ok (.iconst 1, 1) := dk_4 (dk_at dksX4_isItem_5 18 rfl rfl)
theorem dX4_isItem_137 : decode cX4_isItem 137 = .ok (.goto 4, 3) := dk_167 0 4 (dk_at dksX4_isItem_5 19 rfl rfl)
theorem dX4_isItem_140 : decode cX4_isItem 140 = .ok (.iconst 0, 1) := dk_3 (dk_at dksX4_isItem_5 22 rfl rfl)
theorem dX4_isItem_141 : decode cX4_isItem 141 = .ok (.istore_n 2, 1) := dk_61 (dk_at dksX4_isItem_5 23 rfl rfl)
theorem dX4_isItem_142 : decode cX4_isItem 142 = .ok (.iload_n 1, 1) := dk_27 (dk_at dksX4_isItem_6 0 rfl rfl)
theorem dX4_isItem_143 : decode cX4_isItem 143 = .ok (.bipush 106, 2) := dk_16 106 (dk_at dksX4_isItem_6 1 rfl rfl)
theorem dX4_isItem_145 : decode cX4_isItem 145 = .ok (.if_icmp .ne 8, 3) := dk_160 0 8 (dk_at dksX4_isItem_6 3 rfl rfl)
theorem dX4_isItem_148 : decode cX4_isItem 148 = .ok (.bipush 58, 2) := dk_16 58 (dk_at dksX4_isItem_6 6 rfl rfl)
theorem dX4_isItem_150 : decode cX4_isItem 150 = .ok (.goto 16, 3) := dk_167 0 16 (dk_at dksX4_isItem_6 8 rfl rfl)
theorem dX4_isItem_153 : decode cX4_isItem 153 = .ok (.iload_n 1, 1) := dk_27 (dk_at dksX4_isItem_6 11 rfl rfl)
theorem dX4_isItem_154 : decode cX4_isItem 154 = .ok (.bipush 107, 2) := dk_16 107 (dk_at dksX4_isItem_6 12 rfl rfl)
theorem dX4_isItem_156 : decode cX4_isItem 156 = .ok (.if_icmp .ne 8, 3) := dk_160 0 8 (dk_at dksX4_isItem_6 14 rfl rfl)
theorem dX4_isItem_159 : decode cX4_isItem 159 = .ok (.bipush 62, 2) := dk_16 62 (dk_at dksX4_isItem_6 17 rfl rfl)
theorem dX4_isItem_161 : decode cX4_isItem 161 = .ok (.goto 5, 3) := dk_167 0 5 (dk_at dksX4_isItem_6 19 rfl rfl)
theorem dX4_isItem_164 : decode cX4_isItem 164 = .ok (.bipush 47, 2) := dk_16 47 (dk_at dksX4_isItem_6 22 rfl rfl)
theorem dX4_isItem_166 : decode cX4_isItem 166 = .ok (.istore_n 3, 1) := dk_62 (dk_at dksX4_isItem_7 0 rfl rfl)
theorem dX4_isItem_167 : decode cX4_isItem 167 = .ok (.iload_n 2, 1) := dk_28 (dk_at dksX4_isItem_7 1 rfl rfl)
theorem dX4_isItem_168 : decode cX4_isItem 168 = .ok (.ifCond .ne 9, 3) := dk_154 0 9 (dk_at dksX4_isItem_7 2 rfl rfl)
theorem dX4_isItem_171 : decode cX4_isItem 171 = .ok (.iload_n 1, 1) := dk_27 (dk_at dksX4_isItem_7 5 rfl rfl)
theorem dX4_isItem_172 : decode cX4_isItem 172 = .ok (.bipush 102, 2) := dk_16 102 (dk_at dksX4_isItem_7 6 rfl rfl)
theorem dX4_isItem_174 : decode cX4_isItem 174 = .ok (.if_icmp .ne 44, 3) := dk_160 0 44 (dk_at dksX4_isItem_7 8 rfl rfl)
theorem dX4_isItem_177 : decode cX4_isItem 177 = .ok (.aload_n 0, 1) := dk_42 (dk_at dksX4_isItem_7 11 rfl rfl)
theorem dX4_isItem_178 : decode cX4_isItem 178 = .ok (.iload_n 3, 1) := dk_29 (dk_at dksX4_isItem_7 12 rfl rfl)
theorem dX4_isItem_179 : decode cX4_isItem 179 = .ok (.invokevirtual 227, 3) := dk_182 0 227 (dk_at dksX4_isItem_7 13 rfl rfl)
theorem dX4_isItem_182 : decode cX4_isItem 182 = .ok (.ifCond .eq 30, 3) := dk_153 0 30 (dk_at dksX4_isItem_7 16 rfl rfl)
theorem dX4_isItem_185 : decode cX4_isItem 185 = .ok (.aload_n 0, 1) := dk_42 (dk_at dksX4_isItem_7 19 rfl rfl)
theorem dX4_isItem_186 : decode cX4_isItem 186 = .ok (.getfield 97, 3) := dk_180 0 97 (dk_at dksX4_isItem_7 20 rfl rfl)
theorem dX4_isItem_189 : decode cX4_isItem 189 = .ok (.aload_n 0, 1) := dk_42 (dk_at dksX4_isItem_7 23 rfl rfl)
theorem dX4_isItem_190 : decode cX4_isItem 190 = .ok (.getfield 82, 3) := dk_180 0 82 (dk_at dksX4_isItem_8 0 rfl rfl)
theorem dX4_isItem_193 : decode cX4_isItem 193 = .ok (.aload_n 0, 1) := dk_42 (dk_at dksX4_isItem_8 3 rfl rfl)
theorem dX4_isItem_194 : decode cX4_isItem 194 = .ok (.invokevirtual 224, 3) := dk_182 0 224 (dk_at dksX4_isItem_8 4 rfl rfl)
theorem dX4_isItem_197 : decode cX4_isItem 197 = .ok (.iastore, 1) := dk_79 (dk_at dksX4_isItem_8 7 rfl rfl)
theorem dX4_isItem_198 : decode cX4_isItem 198 = .ok (.aload_n 0, 1) := dk_42 (dk_at dksX4_isItem_8 8 rfl rfl)
theorem dX4_isItem_199 : decode cX4_isItem 199 = .ok (.getfield 97, 3) := dk_180 0 97 (dk_at dksX4_isItem_8 9 rfl rfl)
theorem dX4_isItem_202 : decode cX4_isItem 202 = .ok (.aload_n 0, 1) := dk_42 (dk_at dksX4_isItem_8 12 rfl rfl)
theorem dX4_isItem_203 : decode cX4_isItem 203 = .ok (.getfield 82, 3) := dk_180 0 82 (dk_at dksX4_isItem_8 13 rfl rfl)
theorem dX4_isItem_206 : decode cX4_isItem 206 = .ok (.iaload, 1) := dk_46 (dk_at dksX4_isItem_8 16 rfl rfl)
theorem dX4_isItem_207 : decode cX4_isItem 207 = .ok (.ifCond .ge 11, 3) := dk_156 0 11 (dk_at dksX4_isItem_8 17 rfl rfl)
theorem dX4_isItem_210 : decode cX4_isItem 210 = .ok (.iconst 0, 1) := dk_3 (dk_at dksX4_isItem_8 20 rfl rfl)
theorem dX4_isItem_211 : decode cX4_isItem 211 = .ok (.ireturn, 1) := dk_172 (dk_at dksX4_isItem_8 21 rfl rfl)
theorem dX4_isItem_212 : decode cX4_isItem 212 = .ok (.iload_n 2, 1) := dk_28 (dk_at dksX4_isItem_8 22 rfl rfl)
theorem dX4_isItem_213 : decode cX4_isItem 213 = .ok (.ifCond .eq 5, 3) := dk_153 0 5 (dk_at dksX4_isItem_9 0 rfl rfl)
theorem dX4_isItem_216 : decode cX4_isItem 216 = .ok (.iconst 0, 1) := dk_3 (dk_at dksX4_isItem_9 3 rfl rfl)
theorem dX4_isItem_217 : decode cX4_isItem 217 = .ok (.ireturn, 1) := dk_172 (dk_at dksX4_isItem_9 4 rfl rfl)
theorem dX4_isItem_218 : decode cX4_isItem 218 = .ok (.aload_n 0, 1) := dk_42 (dk_at dksX4_isItem_9 5 rfl rfl)
theorem dX4_isItem_219 : decode cX4_isItem 219 = .ok (.dup, 1) := dk_89 (dk_at dksX4_isItem_9 6 rfl rfl)
theorem dX4_isItem_220 : decode cX4_isItem 220 = .ok (.getfield 82, 3) := dk_180 0 82 (dk_at dksX4_isItem_9 7 rfl rfl)
theorem dX4_isItem_223 : decode cX4_isItem 223 = .ok (.iconst 1, 1) := dk_4 (dk_at dksX4_isItem_9 10 rfl rfl)
theorem dX4_isItem_224 : decode cX4_isItem 224 = .ok (.iadd, 1) := dk_96 (dk_at dksX4_isItem_9 11 rfl rfl)
theorem dX4_isItem_225 : decode cX4_isItem 225 = .ok (.putfield 82, 3) := dk_181 0 82 (dk_at dksX4_isItem_9 12 rfl rfl)
theorem dX4_isItem_228 : decode cX4_isItem 228 = .ok (.iconst 1, 1) := dk_4 (dk_at dksX4_isItem_9 15 rfl rfl)
theorem dX4_isItem_229 : decode cX4_isItem 229 = .ok (.ireturn, 1) := dk_172 (dk_at dksX4_isItem_9 16 rfl rfl)
abbrev cX4_digit : ByteArray := prog_17_method_70_code
def yX4_digit : MethodName := ⟨RX4, "digit", "()I"⟩
def dkwX4_digit_2 : List UInt8 := [180, 0, 79, 4, 100, 46, 16, 48, 100, 172]
abbrev dktX4_digit_2 : List UInt8 := dkwX4_digit_2 ++ []
def dkwX4_digit_1 : List UInt8 := [184, 0, 113, 154, 0, 5, 2, 172, 42, 89, 180, 0, 79, 4, 96, 181, 0, 79, 42, 180, 0, 73, 42]
abbrev dktX4_digit_1 : List UInt8 := dkwX4_digit_1 ++ dktX4_digit_2
def dkwX4_digit_0 : List UInt8 := [42, 180, 0, 79, 42, 180, 0, 76, 159, 0, 22, 42, 180, 0, 73, 42, 180, 0, 79, 46, 16, 48, 16, 57]
abbrev dktX4_digit_0 : List UInt8 := dkwX4_digit_0 ++ dktX4_digit_1
theorem dksX4_digit_0 : cX4_digit.data.toList.drop 0 = dktX4_digit_0 := by decide +kernel
theorem dksX4_digit_1 : cX4_digit.data.toList.drop 24 = dktX4_digit_1 := dk_seg dksX4_digit_0 24 rfl rfl
theorem dksX4_digit_2 : cX4_digit.data.toList.drop 47 = dktX4_digit_2 := dk_seg dksX4_digit_1 23 rfl rfl
theorem dX4_digit_0 : decode cX4_digit 0 = .ok (.aload_n 0, 1) := dk_42 (dk_at dksX4_digit_0 0 rfl rfl)
theorem dX4_digit_1 : decode cX4_digit 1 = .ok (.getfield 79, 3) := dk_180 0 79 (dk_at dksX4_digit_0 1 rfl rfl)
theorem dX4_digit_4 : decode cX4_digit 4 = .ok (.aload_n 0, 1) := dk_42 (dk_at dksX4_digit_0 4 rfl rfl)
theorem dX4_digit_5 : decode cX4_digit 5 = .ok (.getfield 76, 3) := dk_180 0 76 (dk_at dksX4_digit_0 5 rfl rfl)
theorem dX4_digit_8 : decode cX4_digit 8 = .ok (.if_icmp .eq 22, 3) := dk_159 0 22 (dk_at dksX4_digit_0 8 rfl rfl)
theorem dX4_digit_11 : decode cX4_digit 11 = .ok (.aload_n 0, 1) := dk_42 (dk_at dksX4_digit_0 11 rfl rfl)
theorem dX4_digit_12 : decode cX4_digit 12 = .ok (.getfield 73, 3) := dk_180 0 73 (dk_at dksX4_digit_0 12 rfl rfl)
theorem dX4_digit_15 : decode cX4_digit 15 = .ok (.aload_n 0, 1) := dk_42 (dk_at dksX4_digit_0 15 rfl rfl)
theorem dX4_digit_16 : decode cX4_digit 16 = .ok (.getfield 79, 3) := dk_180 0 79 (dk_at dksX4_digit_0 16 rfl rfl)
theorem dX4_digit_19 : decode cX4_digit 19 = .ok (.iaload, 1) := dk_46 (dk_at dksX4_digit_0 19 rfl rfl)
theorem dX4_digit_20 : decode cX4_digit 20 = .ok (.bipush 48, 2) := dk_16 48 (dk_at dksX4_digit_0 20 rfl rfl)
theorem dX4_digit_22 : decode cX4_digit 22 = .ok (.bipush 57, 2) := dk_16 57 (dk_at dksX4_digit_0 22 rfl rfl)
theorem dX4_digit_24 : decode cX4_digit 24 = .ok (.invokestatic 113, 3) := dk_184 0 113 (dk_at dksX4_digit_1 0 rfl rfl)
theorem dX4_digit_27 : decode cX4_digit 27 = .ok (.ifCond .ne 5, 3) := dk_154 0 5 (dk_at dksX4_digit_1 3 rfl rfl)
theorem dX4_digit_30 : decode cX4_digit 30 = .ok (.iconst (-1), 1) := dk_2 (dk_at dksX4_digit_1 6 rfl rfl)
theorem dX4_digit_31 : decode cX4_digit 31 = .ok (.ireturn, 1) := dk_172 (dk_at dksX4_digit_1 7 rfl rfl)
theorem dX4_digit_32 : decode cX4_digit 32 = .ok (.aload_n 0, 1) := dk_42 (dk_at dksX4_digit_1 8 rfl rfl)
theorem dX4_digit_33 : decode cX4_digit 33 = .ok (.dup, 1) := dk_89 (dk_at dksX4_digit_1 9 rfl rfl)
theorem dX4_digit_34 : decode cX4_digit 34 = .ok (.getfield 79, 3) := dk_180 0 79 (dk_at dksX4_digit_1 10 rfl rfl)
theorem dX4_digit_37 : decode cX4_digit 37 = .ok (.iconst 1, 1) := dk_4 (dk_at dksX4_digit_1 13 rfl rfl)
theorem dX4_digit_38 : decode cX4_digit 38 = .ok (.iadd, 1) := dk_96 (dk_at dksX4_digit_1 14 rfl rfl)
theorem dX4_digit_39 : decode cX4_digit 39 = .ok (.putfield 79, 3) := dk_181 0 79 (dk_at dksX4_digit_1 15 rfl rfl)
theorem dX4_digit_42 : decode cX4_digit 42 = .ok (.aload_n 0, 1) := dk_42 (dk_at dksX4_digit_1 18 rfl rfl)
theorem dX4_digit_43 : decode cX4_digit 43 = .ok (.getfield 73, 3) := dk_180 0 73 (dk_at dksX4_digit_1 19 rfl rfl)
theorem dX4_digit_46 : decode cX4_digit 46 = .ok (.aload_n 0, 1) := dk_42 (dk_at dksX4_digit_1 22 rfl rfl)
theorem dX4_digit_47 : decode cX4_digit 47 = .ok (.getfield 79, 3) := dk_180 0 79 (dk_at dksX4_digit_2 0 rfl rfl)
theorem dX4_digit_50 : decode cX4_digit 50 = .ok (.iconst 1, 1) := dk_4 (dk_at dksX4_digit_2 3 rfl rfl)
theorem dX4_digit_51 : decode cX4_digit 51 = .ok (.isub, 1) := dk_100 (dk_at dksX4_digit_2 4 rfl rfl)
theorem dX4_digit_52 : decode cX4_digit 52 = .ok (.iaload, 1) := dk_46 (dk_at dksX4_digit_2 5 rfl rfl)
theorem dX4_digit_53 : decode cX4_digit 53 = .ok (.bipush 48, 2) := dk_16 48 (dk_at dksX4_digit_2 6 rfl rfl)
theorem dX4_digit_55 : decode cX4_digit 55 = .ok (.isub, 1) := dk_100 (dk_at dksX4_digit_2 8 rfl rfl)
theorem dX4_digit_56 : decode cX4_digit 56 = .ok (.ireturn, 1) := dk_172 (dk_at dksX4_digit_2 9 rfl rfl)
abbrev cX4_takes : ByteArray := prog_17_method_69_code
def yX4_takes : MethodName := ⟨RX4, "takes", "(I)Z"⟩
def dkwX4_takes_1 : List UInt8 := [3, 172, 42, 89, 180, 0, 79, 4, 96, 181, 0, 79, 4, 172]
abbrev dktX4_takes_1 : List UInt8 := dkwX4_takes_1 ++ []
def dkwX4_takes_0 : List UInt8 := [42, 180, 0, 79, 42, 180, 0, 76, 159, 0, 16, 42, 180, 0, 73, 42, 180, 0, 79, 46, 27, 159, 0, 5]
abbrev dktX4_takes_0 : List UInt8 := dkwX4_takes_0 ++ dktX4_takes_1
theorem dksX4_takes_0 : cX4_takes.data.toList.drop 0 = dktX4_takes_0 := by decide +kernel
theorem dksX4_takes_1 : cX4_takes.data.toList.drop 24 = dktX4_takes_1 := dk_seg dksX4_takes_0 24 rfl rfl
theorem dX4_takes_0 : decode cX4_takes 0 = .ok (.aload_n 0, 1) := dk_42 (dk_at dksX4_takes_0 0 rfl rfl)
theorem dX4_takes_1 : decode cX4_takes 1 = .ok (.getfield 79, 3) := dk_180 0 79 (dk_at dksX4_takes_0 1 rfl rfl)
theorem dX4_takes_4 : decode cX4_takes 4 = .ok (.aload_n 0, 1) := dk_42 (dk_at dksX4_takes_0 4 rfl rfl)
theorem dX4_takes_5 : decode cX4_takes 5 = .ok (.getfield 76, 3) := dk_180 0 76 (dk_at dksX4_takes_0 5 rfl rfl)
theorem dX4_takes_8 : decode cX4_takes 8 = .ok (.if_icmp .eq 16, 3) := dk_159 0 16 (dk_at dksX4_takes_0 8 rfl rfl)
theorem dX4_takes_11 : decode cX4_takes 11 = .ok (.aload_n 0, 1) := dk_42 (dk_at dksX4_takes_0 11 rfl rfl)
theorem dX4_takes_12 : decode cX4_takes 12 = .ok (.getfield 73, 3) := dk_180 0 73 (dk_at dksX4_takes_0 12 rfl rfl)
theorem dX4_takes_15 : decode cX4_takes 15 = .ok (.aload_n 0, 1) := dk_42 (dk_at dksX4_takes_0 15 rfl rfl)
theorem dX4_takes_16 : decode cX4_takes 16 = .ok (.getfield 79, 3) := dk_180 0 79 (dk_at dksX4_takes_0 16 rfl rfl)
theorem dX4_takes_19 : decode cX4_takes 19 = .ok (.iaload, 1) := dk_46 (dk_at dksX4_takes_0 19 rfl rfl)
theorem dX4_takes_20 : decode cX4_takes 20 = .ok (.iload_n 1, 1) := dk_27 (dk_at dksX4_takes_0 20 rfl rfl)
theorem dX4_takes_21 : decode cX4_takes 21 = .ok (.if_icmp .eq 5, 3) := dk_159 0 5 (dk_at dksX4_takes_0 21 rfl rfl)
theorem dX4_takes_24 : decode cX4_takes 24 = .ok (.iconst 0, 1) := dk_3 (dk_at dksX4_takes_1 0 rfl rfl)
theorem dX4_takes_25 : decode cX4_takes 25 = .ok (.ireturn, 1) := dk_172 (dk_at dksX4_takes_1 1 rfl rfl)
theorem dX4_takes_26 : decode cX4_takes 26 = .ok (.aload_n 0, 1) := dk_42 (dk_at dksX4_takes_1 2 rfl rfl)
theorem dX4_takes_27 : decode cX4_takes 27 = .ok (.dup, 1) := dk_89 (dk_at dksX4_takes_1 3 rfl rfl)
theorem dX4_takes_28 : decode cX4_takes 28 = .ok (.getfield 79, 3) := dk_180 0 79 (dk_at dksX4_takes_1 4 rfl rfl)
theorem dX4_takes_31 : decode cX4_takes 31 = .ok (.iconst 1, 1) := dk_4 (dk_at dksX4_takes_1 7 rfl rfl)
theorem dX4_takes_32 : decode cX4_takes 32 = .ok (.iadd, 1) := dk_96 (dk_at dksX4_takes_1 8 rfl rfl)
theorem dX4_takes_33 : decode cX4_takes 33 = .ok (.putfield 79, 3) := dk_181 0 79 (dk_at dksX4_takes_1 9 rfl rfl)
theorem dX4_takes_36 : decode cX4_takes 36 = .ok (.iconst 1, 1) := dk_4 (dk_at dksX4_takes_1 12 rfl rfl)
theorem dX4_takes_37 : decode cX4_takes 37 = .ok (.ireturn, 1) := dk_172 (dk_at dksX4_takes_1 13 rfl rfl)
abbrev cX4_does : ByteArray := prog_17_method_73_code
def yX4_does : MethodName := ⟨RX4, "does", "(I)V"⟩
def dkwX4_does_4 : List UInt8 := [182, 0, 247, 54, 4, 167, 0, 13, 42, 28, 182, 0, 250, 54, 4, 167, 0, 3, 177]
abbrev dktX4_does_4 : List UInt8 := dkwX4_does_4 ++ []
def dkwX4_does_3 : List UInt8 := [4, 182, 0, 241, 54, 4, 167, 0, 35, 42, 28, 29, 4, 182, 0, 244, 54, 4, 167, 0, 23, 42, 28]
abbrev dktX4_does_3 : List UInt8 := dkwX4_does_3 ++ dktX4_does_4
def dkwX4_does_2 : List UInt8 := [42, 28, 29, 4, 182, 0, 234, 54, 4, 167, 0, 56, 42, 182, 0, 238, 54, 4, 167, 0, 47, 42, 28, 29]
abbrev dktX4_does_2 : List UInt8 := dkwX4_does_2 ++ dktX4_does_3
def dkwX4_does_1 : List UInt8 := [171, 0, 0, 0, 0, 0, 0, 107, 0, 0, 0, 5, 0, 0, 0, 102, 0, 0, 0, 52, 0, 0, 0, 106, 0, 0, 0, 73, 0, 0, 0, 107, 0, 0, 0, 85, 0, 0, 0, 117, 0, 0, 0, 97, 0, 0, 0, 119, 0, 0, 0, 64]
abbrev dktX4_does_1 : List UInt8 := dkwX4_does_1 ++ dktX4_does_2
def dkwX4_does_0 : List UInt8 := [42, 180, 0, 94, 27, 46, 61, 42, 180, 0, 97, 27, 46, 62, 42, 180, 0, 91, 27, 46]
abbrev dktX4_does_0 : List UInt8 := dkwX4_does_0 ++ dktX4_does_1
theorem dksX4_does_0 : cX4_does.data.toList.drop 0 = dktX4_does_0 := by decide +kernel
theorem dksX4_does_1 : cX4_does.data.toList.drop 20 = dktX4_does_1 := dk_seg dksX4_does_0 20 rfl rfl
theorem dksX4_does_2 : cX4_does.data.toList.drop 72 = dktX4_does_2 := dk_seg dksX4_does_1 52 rfl rfl
theorem dksX4_does_3 : cX4_does.data.toList.drop 96 = dktX4_does_3 := dk_seg dksX4_does_2 24 rfl rfl
theorem dksX4_does_4 : cX4_does.data.toList.drop 119 = dktX4_does_4 := dk_seg dksX4_does_3 23 rfl rfl
theorem dX4_does_0 : decode cX4_does 0 = .ok (.aload_n 0, 1) := dk_42 (dk_at dksX4_does_0 0 rfl rfl)
theorem dX4_does_1 : decode cX4_does 1 = .ok (.getfield 94, 3) := dk_180 0 94 (dk_at dksX4_does_0 1 rfl rfl)
theorem dX4_does_4 : decode cX4_does 4 = .ok (.iload_n 1, 1) := dk_27 (dk_at dksX4_does_0 4 rfl rfl)
theorem dX4_does_5 : decode cX4_does 5 = .ok (.iaload, 1) := dk_46 (dk_at dksX4_does_0 5 rfl rfl)
theorem dX4_does_6 : decode cX4_does 6 = .ok (.istore_n 2, 1) := dk_61 (dk_at dksX4_does_0 6 rfl rfl)
theorem dX4_does_7 : decode cX4_does 7 = .ok (.aload_n 0, 1) := dk_42 (dk_at dksX4_does_0 7 rfl rfl)
theorem dX4_does_8 : decode cX4_does 8 = .ok (.getfield 97, 3) := dk_180 0 97 (dk_at dksX4_does_0 8 rfl rfl)
theorem dX4_does_11 : decode cX4_does 11 = .ok (.iload_n 1, 1) := dk_27 (dk_at dksX4_does_0 11 rfl rfl)
theorem dX4_does_12 : decode cX4_does 12 = .ok (.iaload, 1) := dk_46 (dk_at dksX4_does_0 12 rfl rfl)
theorem dX4_does_13 : decode cX4_does 13 = .ok (.istore_n 3, 1) := dk_62 (dk_at dksX4_does_0 13 rfl rfl)
theorem dX4_does_14 : decode cX4_does 14 = .ok (.aload_n 0, 1) := dk_42 (dk_at dksX4_does_0 14 rfl rfl)
theorem dX4_does_15 : decode cX4_does 15 = .ok (.getfield 91, 3) := dk_180 0 91 (dk_at dksX4_does_0 15 rfl rfl)
theorem dX4_does_18 : decode cX4_does 18 = .ok (.iload_n 1, 1) := dk_27 (dk_at dksX4_does_0 18 rfl rfl)
theorem dX4_does_19 : decode cX4_does 19 = .ok (.iaload, 1) := dk_46 (dk_at dksX4_does_0 19 rfl rfl)
theorem dX4_does_20 : decode cX4_does 20 = .ok (.lookupswitch 107 #[(102, 52), (106, 73), (107, 85), (117, 97), (119, 64)], 52) := by decide +kernel
theorem dX4_does_72 : decode cX4_does 72 = .ok (.aload_n 0, 1) := dk_42 (dk_at dksX4_does_2 0 rfl rfl)
theorem dX4_does_73 : decode cX4_does 73 = .ok (.iload_n 2, 1) := dk_28 (dk_at dksX4_does_2 1 rfl rfl)
theorem dX4_does_74 : decode cX4_does 74 = .ok (.iload_n 3, 1) := dk_29 (dk_at dksX4_does_2 2 rfl rfl)
theorem dX4_does_75 : decode cX4_does 75 = .ok (.iconst 1, 1) := dk_4 (dk_at dksX4_does_2 3 rfl rfl)
theorem dX4_does_76 : decode cX4_does 76 = .ok (.invokevirtual 234, 3) := dk_182 0 234 (dk_at dksX4_does_2 4 rfl rfl)
theorem dX4_does_79 : decode cX4_does 79 = .ok (.istore 4, 2) := dk_54 4 (dk_at dksX4_does_2 7 rfl rfl)
theorem dX4_does_81 : decode cX4_does 81 = .ok (.goto 56, 3) := dk_167 0 56 (dk_at dksX4_does_2 9 rfl rfl)
theorem dX4_does_84 : decode cX4_does 84 = .ok (.aload_n 0, 1) := dk_42 (dk_at dksX4_does_2 12 rfl rfl)
theorem dX4_does_85 : decode cX4_does 85 = .ok (.invokevirtual 238, 3) := dk_182 0 238 (dk_at dksX4_does_2 13 rfl rfl)
theorem dX4_does_88 : decode cX4_does 88 = .ok (.istore 4, 2) := dk_54 4 (dk_at dksX4_does_2 16 rfl rfl)
theorem dX4_does_90 : decode cX4_does 90 = .ok (.goto 47, 3) := dk_167 0 47 (dk_at dksX4_does_2 18 rfl rfl)
theorem dX4_does_93 : decode cX4_does 93 = .ok (.aload_n 0, 1) := dk_42 (dk_at dksX4_does_2 21 rfl rfl)
theorem dX4_does_94 : decode cX4_does 94 = .ok (.iload_n 2, 1) := dk_28 (dk_at dksX4_does_2 22 rfl rfl)
theorem dX4_does_95 : decode cX4_does 95 = .ok (.iload_n 3, 1) := dk_29 (dk_at dksX4_does_2 23 rfl rfl)
theorem dX4_does_96 : decode cX4_does 96 = .ok (.iconst 1, 1) := dk_4 (dk_at dksX4_does_3 0 rfl rfl)
theorem dX4_does_97 : decode cX4_does 97 = .ok (.invokevirtual 241, 3) := dk_182 0 241 (dk_at dksX4_does_3 1 rfl rfl)
theorem dX4_does_100 : decode cX4_does 100 = .ok (.istore 4, 2) := dk_54 4 (dk_at dksX4_does_3 4 rfl rfl)
theorem dX4_does_102 : decode cX4_does 102 = .ok (.goto 35, 3) := dk_167 0 35 (dk_at dksX4_does_3 6 rfl rfl)
theorem dX4_does_105 : decode cX4_does 105 = .ok (.aload_n 0, 1) := dk_42 (dk_at dksX4_does_3 9 rfl rfl)
theorem dX4_does_106 : decode cX4_does 106 = .ok (.iload_n 2, 1) := dk_28 (dk_at dksX4_does_3 10 rfl rfl)
theorem dX4_does_107 : decode cX4_does 107 = .ok (.iload_n 3, 1) := dk_29 (dk_at dksX4_does_3 11 rfl rfl)
theorem dX4_does_108 : decode cX4_does 108 = .ok (.iconst 1, 1) := dk_4 (dk_at dksX4_does_3 12 rfl rfl)
theorem dX4_does_109 : decode cX4_does 109 = .ok (.invokevirtual 244, 3) := dk_182 0 244 (dk_at dksX4_does_3 13 rfl rfl)
theorem dX4_does_112 : decode cX4_does 112 = .ok (.istore 4, 2) := dk_54 4 (dk_at dksX4_does_3 16 rfl rfl)
theorem dX4_does_114 : decode cX4_does 114 = .ok (.goto 23, 3) := dk_167 0 23 (dk_at dksX4_does_3 18 rfl rfl)
theorem dX4_does_117 : decode cX4_does 117 = .ok (.aload_n 0, 1) := dk_42 (dk_at dksX4_does_3 21 rfl rfl)
theorem dX4_does_118 : decode cX4_does 118 = .ok (.iload_n 2, 1) := dk_28 (dk_at dksX4_does_3 22 rfl rfl)
theorem dX4_does_119 : decode cX4_does 119 = .ok (.invokevirtual 247, 3) := dk_182 0 247 (dk_at dksX4_does_4 0 rfl rfl)
theorem dX4_does_122 : decode cX4_does 122 = .ok (.istore 4, 2) := dk_54 4 (dk_at dksX4_does_4 3 rfl rfl)
theorem dX4_does_124 : decode cX4_does 124 = .ok (.goto 13, 3) := dk_167 0 13 (dk_at dksX4_does_4 5 rfl rfl)
theorem dX4_does_127 : decode cX4_does 127 = .ok (.aload_n 0, 1) := dk_42 (dk_at dksX4_does_4 8 rfl rfl)
theorem dX4_does_128 : decode cX4_does 128 = .ok (.iload_n 2, 1) := dk_28 (dk_at dksX4_does_4 9 rfl rfl)
theorem dX4_does_129 : decode cX4_does 129 = .ok (.invokevirtual 250, 3) := dk_182 0 250 (dk_at dksX4_does_4 10 rfl rfl)
theorem dX4_does_132 : decode cX4_does 132 = .ok (.istore 4, 2) := dk_54 4 (dk_at dksX4_does_4 13 rfl rfl)
theorem dX4_does_134 : decode cX4_does 134 = .ok (.goto 3, 3) := dk_167 0 3 (dk_at dksX4_does_4 15 rfl rfl)
theorem dX4_does_137 : decode cX4_does 137 = .ok (.return_, 1) := dk_177 (dk_at dksX4_does_4 18 rfl rfl)
abbrev cX4_errorPosition : ByteArray := prog_17_method_75_code
def yX4_errorPosition : MethodName := ⟨RX4, "errorPosition", "()I"⟩
def dkwX4_errorPosition_1 : List UInt8 := [172]
abbrev dktX4_errorPosition_1 : List UInt8 := dkwX4_errorPosition_1 ++ []
def dkwX4_errorPosition_0 : List UInt8 := [42, 3, 181, 0, 9, 42, 180, 0, 85, 156, 0, 11, 42, 4, 182, 0, 120, 167, 0, 7, 42, 180, 0, 85]
abbrev dktX4_errorPosition_0 : List UInt8 := dkwX4_errorPosition_0 ++ dktX4_errorPosition_1
theorem dksX4_errorPosition_0 : cX4_errorPosition.data.toList.drop 0 = dktX4_errorPosition_0 := by decide +kernel
theorem dksX4_errorPosition_1 : cX4_errorPosition.data.toList.drop 24 = dktX4_errorPosition_1 := dk_seg dksX4_errorPosition_0 24 rfl rfl
theorem dX4_errorPosition_0 : decode cX4_errorPosition 0 = .ok (.aload_n 0, 1) := dk_42 (dk_at dksX4_errorPosition_0 0 rfl rfl)
theorem dX4_errorPosition_1 : decode cX4_errorPosition 1 = .ok (.iconst 0, 1) := dk_3 (dk_at dksX4_errorPosition_0 1 rfl rfl)
theorem dX4_errorPosition_2 : decode cX4_errorPosition 2 = .ok (.putfield 9, 3) := dk_181 0 9 (dk_at dksX4_errorPosition_0 2 rfl rfl)
theorem dX4_errorPosition_5 : decode cX4_errorPosition 5 = .ok (.aload_n 0, 1) := dk_42 (dk_at dksX4_errorPosition_0 5 rfl rfl)
theorem dX4_errorPosition_6 : decode cX4_errorPosition 6 = .ok (.getfield 85, 3) := dk_180 0 85 (dk_at dksX4_errorPosition_0 6 rfl rfl)
theorem dX4_errorPosition_9 : decode cX4_errorPosition 9 = .ok (.ifCond .ge 11, 3) := dk_156 0 11 (dk_at dksX4_errorPosition_0 9 rfl rfl)
theorem dX4_errorPosition_12 : decode cX4_errorPosition 12 = .ok (.aload_n 0, 1) := dk_42 (dk_at dksX4_errorPosition_0 12 rfl rfl)
theorem dX4_errorPosition_13 : decode cX4_errorPosition 13 = .ok (.iconst 1, 1) := dk_4 (dk_at dksX4_errorPosition_0 13 rfl rfl)
theorem dX4_errorPosition_14 : decode cX4_errorPosition 14 = .ok (.invokevirtual 120, 3) := dk_182 0 120 (dk_at dksX4_errorPosition_0 14 rfl rfl)
theorem dX4_errorPosition_17 : decode cX4_errorPosition 17 = .ok (.goto 7, 3) := dk_167 0 7 (dk_at dksX4_errorPosition_0 17 rfl rfl)
theorem dX4_errorPosition_20 : decode cX4_errorPosition 20 = .ok (.aload_n 0, 1) := dk_42 (dk_at dksX4_errorPosition_0 20 rfl rfl)
theorem dX4_errorPosition_21 : decode cX4_errorPosition 21 = .ok (.getfield 85, 3) := dk_180 0 85 (dk_at dksX4_errorPosition_0 21 rfl rfl)
theorem dX4_errorPosition_24 : decode cX4_errorPosition 24 = .ok (.ireturn, 1) := dk_172 (dk_at dksX4_errorPosition_1 0 rfl rfl)
abbrev cX4_refusedItem : ByteArray := prog_17_method_76_code
def yX4_refusedItem : MethodName := ⟨RX4, "refusedItem", "()I"⟩
def dkwX4_refusedItem_1 : List UInt8 := [172]
abbrev dktX4_refusedItem_1 : List UInt8 := dkwX4_refusedItem_1 ++ []
def dkwX4_refusedItem_0 : List UInt8 := [42, 3, 181, 0, 9, 42, 180, 0, 88, 156, 0, 11, 42, 4, 182, 0, 120, 167, 0, 7, 42, 180, 0, 88]
abbrev dktX4_refusedItem_0 : List UInt8 := dkwX4_refusedItem_0 ++ dktX4_refusedItem_1
theorem dksX4_refusedItem_0 : cX4_refusedItem.data.toList.drop 0 = dktX4_refusedItem_0 := by decide +kernel
theorem dksX4_refusedItem_1 : cX4_refusedItem.data.toList.drop 24 = dktX4_refusedItem_1 := dk_seg dksX4_refusedItem_0 24 rfl rfl
theorem dX4_refusedItem_0 : decode cX4_refusedItem 0 = .ok (.aload_n 0, 1) := dk_42 (dk_at dksX4_refusedItem_0 0 rfl rfl)
theorem dX4_refusedItem_1 : decode cX4_refusedItem 1 = .ok (.iconst 0, 1) := dk_3 (dk_at dksX4_refusedItem_0 1 rfl rfl)
theorem dX4_refusedItem_2 : decode cX4_refusedItem 2 = .ok (.putfield 9, 3) := dk_181 0 9 (dk_at dksX4_refusedItem_0 2 rfl rfl)
theorem dX4_refusedItem_5 : decode cX4_refusedItem 5 = .ok (.aload_n 0, 1) := dk_42 (dk_at dksX4_refusedItem_0 5 rfl rfl)
theorem dX4_refusedItem_6 : decode cX4_refusedItem 6 = .ok (.getfield 88, 3) := dk_180 0 88 (dk_at dksX4_refusedItem_0 6 rfl rfl)
theorem dX4_refusedItem_9 : decode cX4_refusedItem 9 = .ok (.ifCond .ge 11, 3) := dk_156 0 11 (dk_at dksX4_refusedItem_0 9 rfl rfl)
theorem dX4_refusedItem_12 : decode cX4_refusedItem 12 = .ok (.aload_n 0, 1) := dk_42 (dk_at dksX4_refusedItem_0 12 rfl rfl)
theorem dX4_refusedItem_13 : decode cX4_refusedItem 13 = .ok (.iconst 1, 1) := dk_4 (dk_at dksX4_refusedItem_0 13 rfl rfl)
theorem dX4_refusedItem_14 : decode cX4_refusedItem 14 = .ok (.invokevirtual 120, 3) := dk_182 0 120 (dk_at dksX4_refusedItem_0 14 rfl rfl)
theorem dX4_refusedItem_17 : decode cX4_refusedItem 17 = .ok (.goto 7, 3) := dk_167 0 7 (dk_at dksX4_refusedItem_0 17 rfl rfl)
theorem dX4_refusedItem_20 : decode cX4_refusedItem 20 = .ok (.aload_n 0, 1) := dk_42 (dk_at dksX4_refusedItem_0 20 rfl rfl)
theorem dX4_refusedItem_21 : decode cX4_refusedItem 21 = .ok (.getfield 88, 3) := dk_180 0 88 (dk_at dksX4_refusedItem_0 21 rfl rfl)
theorem dX4_refusedItem_24 : decode cX4_refusedItem 24 = .ok (.ireturn, 1) := dk_172 (dk_at dksX4_refusedItem_1 0 rfl rfl)
abbrev cX4_undo : ByteArray := prog_17_method_77_code
def yX4_undo : MethodName := ⟨RX4, "undo", "()I"⟩
def dkwX4_undo_2 : List UInt8 := [42, 180, 0, 26, 172]
abbrev dktX4_undo_2 : List UInt8 := dkwX4_undo_2 ++ []
def dkwX4_undo_1 : List UInt8 := [100, 181, 0, 26, 42, 180, 0, 23, 17, 6, 36, 42, 180, 0, 26, 104, 42, 180, 0, 13, 3, 184, 0, 109]
abbrev dktX4_undo_1 : List UInt8 := dkwX4_undo_1 ++ dktX4_undo_2
def dkwX4_undo_0 : List UInt8 := [42, 3, 181, 0, 9, 42, 180, 0, 26, 154, 0, 9, 42, 4, 182, 0, 120, 172, 42, 89, 180, 0, 26, 4]
abbrev dktX4_undo_0 : List UInt8 := dkwX4_undo_0 ++ dktX4_undo_1
theorem dksX4_undo_0 : cX4_undo.data.toList.drop 0 = dktX4_undo_0 := by decide +kernel
theorem dksX4_undo_1 : cX4_undo.data.toList.drop 24 = dktX4_undo_1 := dk_seg dksX4_undo_0 24 rfl rfl
theorem dksX4_undo_2 : cX4_undo.data.toList.drop 48 = dktX4_undo_2 := dk_seg dksX4_undo_1 24 rfl rfl
theorem dX4_undo_0 : decode cX4_undo 0 = .ok (.aload_n 0, 1) := dk_42 (dk_at dksX4_undo_0 0 rfl rfl)
theorem dX4_undo_1 : decode cX4_undo 1 = .ok (.iconst 0, 1) := dk_3 (dk_at dksX4_undo_0 1 rfl rfl)
theorem dX4_undo_2 : decode cX4_undo 2 = .ok (.putfield 9, 3) := dk_181 0 9 (dk_at dksX4_undo_0 2 rfl rfl)
theorem dX4_undo_5 : decode cX4_undo 5 = .ok (.aload_n 0, 1) := dk_42 (dk_at dksX4_undo_0 5 rfl rfl)
theorem dX4_undo_6 : decode cX4_undo 6 = .ok (.getfield 26, 3) := dk_180 0 26 (dk_at dksX4_undo_0 6 rfl rfl)
theorem dX4_undo_9 : decode cX4_undo 9 = .ok (.ifCond .ne 9, 3) := dk_154 0 9 (dk_at dksX4_undo_0 9 rfl rfl)
theorem dX4_undo_12 : decode cX4_undo 12 = .ok (.aload_n 0, 1) := dk_42 (dk_at dksX4_undo_0 12 rfl rfl)
theorem dX4_undo_13 : decode cX4_undo 13 = .ok (.iconst 1, 1) := dk_4 (dk_at dksX4_undo_0 13 rfl rfl)
theorem dX4_undo_14 : decode cX4_undo 14 = .ok (.invokevirtual 120, 3) := dk_182 0 120 (dk_at dksX4_undo_0 14 rfl rfl)
theorem dX4_undo_17 : decode cX4_undo 17 = .ok (.ireturn, 1) := dk_172 (dk_at dksX4_undo_0 17 rfl rfl)
theorem dX4_undo_18 : decode cX4_undo 18 = .ok (.aload_n 0, 1) := dk_42 (dk_at dksX4_undo_0 18 rfl rfl)
theorem dX4_undo_19 : decode cX4_undo 19 = .ok (.dup, 1) := dk_89 (dk_at dksX4_undo_0 19 rfl rfl)
theorem dX4_undo_20 : decode cX4_undo 20 = .ok (.getfield 26, 3) := dk_180 0 26 (dk_at dksX4_undo_0 20 rfl rfl)
theorem dX4_undo_23 : decode cX4_undo 23 = .ok (.iconst 1, 1) := dk_4 (dk_at dksX4_undo_0 23 rfl rfl)
theorem dX4_undo_24 : decode cX4_undo 24 = .ok (.isub, 1) := dk_100 (dk_at dksX4_undo_1 0 rfl rfl)
theorem dX4_undo_25 : decode cX4_undo 25 = .ok (.putfield 26, 3) := dk_181 0 26 (dk_at dksX4_undo_1 1 rfl rfl)
theorem dX4_undo_28 : decode cX4_undo 28 = .ok (.aload_n 0, 1) := dk_42 (dk_at dksX4_undo_1 4 rfl rfl)
theorem dX4_undo_29 : decode cX4_undo 29 = .ok (.getfield 23, 3) := dk_180 0 23 (dk_at dksX4_undo_1 5 rfl rfl)
theorem dX4_undo_32 : decode cX4_undo 32 = .ok (.sipush 1572, 3) := dk_17 6 36 (dk_at dksX4_undo_1 8 rfl rfl)
theorem dX4_undo_35 : decode cX4_undo 35 = .ok (.aload_n 0, 1) := dk_42 (dk_at dksX4_undo_1 11 rfl rfl)
theorem dX4_undo_36 : decode cX4_undo 36 = .ok (.getfield 26, 3) := dk_180 0 26 (dk_at dksX4_undo_1 12 rfl rfl)
theorem dX4_undo_39 : decode cX4_undo 39 = .ok (.imul, 1) := dk_104 (dk_at dksX4_undo_1 15 rfl rfl)
theorem dX4_undo_40 : decode cX4_undo 40 = .ok (.aload_n 0, 1) := dk_42 (dk_at dksX4_undo_1 16 rfl rfl)
theorem dX4_undo_41 : decode cX4_undo 41 = .ok (.getfield 13, 3) := dk_180 0 13 (dk_at dksX4_undo_1 17 rfl rfl)
theorem dX4_undo_44 : decode cX4_undo 44 = .ok (.iconst 0, 1) := dk_3 (dk_at dksX4_undo_1 20 rfl rfl)
theorem dX4_undo_45 : decode cX4_undo 45 = .ok (.invokestatic 109, 3) := dk_184 0 109 (dk_at dksX4_undo_1 21 rfl rfl)
theorem dX4_undo_48 : decode cX4_undo 48 = .ok (.aload_n 0, 1) := dk_42 (dk_at dksX4_undo_2 0 rfl rfl)
theorem dX4_undo_49 : decode cX4_undo 49 = .ok (.getfield 26, 3) := dk_180 0 26 (dk_at dksX4_undo_2 1 rfl rfl)
theorem dX4_undo_52 : decode cX4_undo 52 = .ok (.ireturn, 1) := dk_172 (dk_at dksX4_undo_2 4 rfl rfl)
abbrev cX4_snapshot : ByteArray := prog_17_method_78_code
def yX4_snapshot : MethodName := ⟨RX4, "snapshot", "()I"⟩
def dkwX4_snapshot_1 : List UInt8 := [180, 0, 13, 4, 46, 172]
abbrev dktX4_snapshot_1 : List UInt8 := dkwX4_snapshot_1 ++ []
def dkwX4_snapshot_0 : List UInt8 := [42, 3, 181, 0, 9, 42, 180, 0, 13, 3, 42, 180, 0, 20, 3, 184, 0, 109, 42, 4, 181, 0, 29, 42]
abbrev dktX4_snapshot_0 : List UInt8 := dkwX4_snapshot_0 ++ dktX4_snapshot_1
theorem dksX4_snapshot_0 : cX4_snapshot.data.toList.drop 0 = dktX4_snapshot_0 := by decide +kernel
theorem dksX4_snapshot_1 : cX4_snapshot.data.toList.drop 24 = dktX4_snapshot_1 := dk_seg dksX4_snapshot_0 24 rfl rfl
theorem dX4_snapshot_0 : decode cX4_snapshot 0 = .ok (.aload_n 0, 1) := dk_42 (dk_at dksX4_snapshot_0 0 rfl rfl)
theorem dX4_snapshot_1 : decode cX4_snapshot 1 = .ok (.iconst 0, 1) := dk_3 (dk_at dksX4_snapshot_0 1 rfl rfl)
theorem dX4_snapshot_2 : decode cX4_snapshot 2 = .ok (.putfield 9, 3) := dk_181 0 9 (dk_at dksX4_snapshot_0 2 rfl rfl)
theorem dX4_snapshot_5 : decode cX4_snapshot 5 = .ok (.aload_n 0, 1) := dk_42 (dk_at dksX4_snapshot_0 5 rfl rfl)
theorem dX4_snapshot_6 : decode cX4_snapshot 6 = .ok (.getfield 13, 3) := dk_180 0 13 (dk_at dksX4_snapshot_0 6 rfl rfl)
theorem dX4_snapshot_9 : decode cX4_snapshot 9 = .ok (.iconst 0, 1) := dk_3 (dk_at dksX4_snapshot_0 9 rfl rfl)
theorem dX4_snapshot_10 : decode cX4_snapshot 10 = .ok (.aload_n 0, 1) := dk_42 (dk_at dksX4_snapshot_0 10 rfl rfl)
theorem dX4_snapshot_11 : decode cX4_snapshot 11 = .ok (.getfield 20, 3) := dk_180 0 20 (dk_at dksX4_snapshot_0 11 rfl rfl)
theorem dX4_snapshot_14 : decode cX4_snapshot 14 = .ok (.iconst 0, 1) := dk_3 (dk_at dksX4_snapshot_0 14 rfl rfl)
theorem dX4_snapshot_15 : decode cX4_snapshot 15 = .ok (.invokestatic 109, 3) := dk_184 0 109 (dk_at dksX4_snapshot_0 15 rfl rfl)
theorem dX4_snapshot_18 : decode cX4_snapshot 18 = .ok (.aload_n 0, 1) := dk_42 (dk_at dksX4_snapshot_0 18 rfl rfl)
theorem dX4_snapshot_19 : decode cX4_snapshot 19 = .ok (.iconst 1, 1) := dk_4 (dk_at dksX4_snapshot_0 19 rfl rfl)
theorem dX4_snapshot_20 : decode cX4_snapshot 20 = .ok (.putfield 29, 3) := dk_181 0 29 (dk_at dksX4_snapshot_0 20 rfl rfl)
theorem dX4_snapshot_23 : decode cX4_snapshot 23 = .ok (.aload_n 0, 1) := dk_42 (dk_at dksX4_snapshot_0 23 rfl rfl)
theorem dX4_snapshot_24 : decode cX4_snapshot 24 = .ok (.getfield 13, 3) := dk_180 0 13 (dk_at dksX4_snapshot_1 0 rfl rfl)
theorem dX4_snapshot_27 : decode cX4_snapshot 27 = .ok (.iconst 1, 1) := dk_4 (dk_at dksX4_snapshot_1 3 rfl rfl)
theorem dX4_snapshot_28 : decode cX4_snapshot 28 = .ok (.iaload, 1) := dk_46 (dk_at dksX4_snapshot_1 4 rfl rfl)
theorem dX4_snapshot_29 : decode cX4_snapshot 29 = .ok (.ireturn, 1) := dk_172 (dk_at dksX4_snapshot_1 5 rfl rfl)
abbrev cX4_restore : ByteArray := prog_17_method_79_code
def yX4_restore : MethodName := ⟨RX4, "restore", "()I"⟩
def dkwX4_restore_1 : List UInt8 := [180, 0, 13, 3, 184, 0, 109, 42, 3, 181, 0, 26, 42, 180, 0, 13, 4, 46, 172]
abbrev dktX4_restore_1 : List UInt8 := dkwX4_restore_1 ++ []
def dkwX4_restore_0 : List UInt8 := [42, 3, 181, 0, 9, 42, 180, 0, 29, 154, 0, 9, 42, 4, 182, 0, 120, 172, 42, 180, 0, 20, 3, 42]
abbrev dktX4_restore_0 : List UInt8 := dkwX4_restore_0 ++ dktX4_restore_1
theorem dksX4_restore_0 : cX4_restore.data.toList.drop 0 = dktX4_restore_0 := by decide +kernel
theorem dksX4_restore_1 : cX4_restore.data.toList.drop 24 = dktX4_restore_1 := dk_seg dksX4_restore_0 24 rfl rfl
theorem dX4_restore_0 : decode cX4_restore 0 = .ok (.aload_n 0, 1) := dk_42 (dk_at dksX4_restore_0 0 rfl rfl)
theorem dX4_restore_1 : decode cX4_restore 1 = .ok (.iconst 0, 1) := dk_3 (dk_at dksX4_restore_0 1 rfl rfl)
theorem dX4_restore_2 : decode cX4_restore 2 = .ok (.putfield 9, 3) := dk_181 0 9 (dk_at dksX4_restore_0 2 rfl rfl)
theorem dX4_restore_5 : decode cX4_restore 5 = .ok (.aload_n 0, 1) := dk_42 (dk_at dksX4_restore_0 5 rfl rfl)
theorem dX4_restore_6 : decode cX4_restore 6 = .ok (.getfield 29, 3) := dk_180 0 29 (dk_at dksX4_restore_0 6 rfl rfl)
theorem dX4_restore_9 : decode cX4_restore 9 = .ok (.ifCond .ne 9, 3) := dk_154 0 9 (dk_at dksX4_restore_0 9 rfl rfl)
theorem dX4_restore_12 : decode cX4_restore 12 = .ok (.aload_n 0, 1) := dk_42 (dk_at dksX4_restore_0 12 rfl rfl)
theorem dX4_restore_13 : decode cX4_restore 13 = .ok (.iconst 1, 1) := dk_4 (dk_at dksX4_restore_0 13 rfl rfl)
theorem dX4_restore_14 : decode cX4_restore 14 = .ok (.invokevirtual 120, 3) := dk_182 0 120 (dk_at dksX4_restore_0 14 rfl rfl)
theorem dX4_restore_17 : decode cX4_restore 17 = .ok (.ireturn, 1) := dk_172 (dk_at dksX4_restore_0 17 rfl rfl)
theorem dX4_restore_18 : decode cX4_restore 18 = .ok (.aload_n 0, 1) := dk_42 (dk_at dksX4_restore_0 18 rfl rfl)
theorem dX4_restore_19 : decode cX4_restore 19 = .ok (.getfield 20, 3) := dk_180 0 20 (dk_at dksX4_restore_0 19 rfl rfl)
theorem dX4_restore_22 : decode cX4_restore 22 = .ok (.iconst 0, 1) := dk_3 (dk_at dksX4_restore_0 22 rfl rfl)
theorem dX4_restore_23 : decode cX4_restore 23 = .ok (.aload_n 0, 1) := dk_42 (dk_at dksX4_restore_0 23 rfl rfl)
theorem dX4_restore_24 : decode cX4_restore 24 = .ok (.getfield 13, 3) := dk_180 0 13 (dk_at dksX4_restore_1 0 rfl rfl)
theorem dX4_restore_27 : decode cX4_restore 27 = .ok (.iconst 0, 1) := dk_3 (dk_at dksX4_restore_1 3 rfl rfl)
theorem dX4_restore_28 : decode cX4_restore 28 = .ok (.invokestatic 109, 3) := dk_184 0 109 (dk_at dksX4_restore_1 4 rfl rfl)
theorem dX4_restore_31 : decode cX4_restore 31 = .ok (.aload_n 0, 1) := dk_42 (dk_at dksX4_restore_1 7 rfl rfl)
theorem dX4_restore_32 : decode cX4_restore 32 = .ok (.iconst 0, 1) := dk_3 (dk_at dksX4_restore_1 8 rfl rfl)
theorem dX4_restore_33 : decode cX4_restore 33 = .ok (.putfield 26, 3) := dk_181 0 26 (dk_at dksX4_restore_1 9 rfl rfl)
theorem dX4_restore_36 : decode cX4_restore 36 = .ok (.aload_n 0, 1) := dk_42 (dk_at dksX4_restore_1 12 rfl rfl)
theorem dX4_restore_37 : decode cX4_restore 37 = .ok (.getfield 13, 3) := dk_180 0 13 (dk_at dksX4_restore_1 13 rfl rfl)
theorem dX4_restore_40 : decode cX4_restore 40 = .ok (.iconst 1, 1) := dk_4 (dk_at dksX4_restore_1 16 rfl rfl)
theorem dX4_restore_41 : decode cX4_restore 41 = .ok (.iaload, 1) := dk_46 (dk_at dksX4_restore_1 17 rfl rfl)
theorem dX4_restore_42 : decode cX4_restore 42 = .ok (.ireturn, 1) := dk_172 (dk_at dksX4_restore_1 18 rfl rfl)
theorem q80 : (Jvm.Cond.initialized "TermsDeskModel") ∈ lw_all := lw_g (lw_at lw_m1 12 rfl) rfl
theorem q747 : (Jvm.Cond.selects "TermsDeskModel" ({ cls := "java/lang/Object", name := "getClass", desc := "()Ljava/lang/Class;" } : Jvm.MethodName) ({ cls := "java/lang/Object", name := "getClass", desc := "()Ljava/lang/Class;" } : Jvm.MethodName)) ∈ lw_all := lw_g (lw_at lw_m3 199 rfl) rfl
theorem q2053 : (Jvm.Cond.instantiable "TermsDeskModel" (30 : Nat)) ∈ lw_all := lw_g (lw_at lw_m9 65 rfl) rfl
theorem q2055 : (Jvm.Cond.instanceMethod ({ cls := "TermsDeskModel", name := "<init>", desc := "()V" } : Jvm.MethodName)) ∈ lw_all := lw_g (lw_at lw_m9 67 rfl) rfl
theorem q2056 : (Jvm.Cond.code ({ cls := "TermsDeskModel", name := "<init>", desc := "()V" } : Jvm.MethodName) prog_17_method_1_code (1 : Nat) (Option.none : Option Jvm.ClassFile.FieldType)) ∈ lw_all := lw_g (lw_at lw_m9 68 rfl) rfl
theorem q2057 : (Jvm.Cond.methodLink "TermsDeskModel" (3 : Nat) ({ cls := "java/lang/Object", name := "<init>", desc := "()V" } : Jvm.MethodName)) ∈ lw_all := lw_g (lw_at lw_m9 69 rfl) rfl
theorem q2058 : (Jvm.Cond.fieldLink "TermsDeskModel" (9 : Nat) "TermsDeskModel" "thrown" "I") ∈ lw_all := lw_g (lw_at lw_m9 70 rfl) rfl
theorem q2059 : (Jvm.Cond.fieldLink "TermsDeskModel" (13 : Nat) "TermsDeskModel" "now" "[I") ∈ lw_all := lw_g (lw_at lw_m9 71 rfl) rfl
theorem q2060 : (Jvm.Cond.fieldLink "TermsDeskModel" (17 : Nat) "TermsDeskModel" "before" "[I") ∈ lw_all := lw_g (lw_at lw_m9 72 rfl) rfl
theorem q2061 : (Jvm.Cond.fieldLink "TermsDeskModel" (20 : Nat) "TermsDeskModel" "saved" "[I") ∈ lw_all := lw_g (lw_at lw_m9 73 rfl) rfl
theorem q2062 : (Jvm.Cond.fieldLink "TermsDeskModel" (23 : Nat) "TermsDeskModel" "changes" "[I") ∈ lw_all := lw_g (lw_at lw_m9 74 rfl) rfl
theorem q2063 : (Jvm.Cond.fieldLink "TermsDeskModel" (26 : Nat) "TermsDeskModel" "changed" "I") ∈ lw_all := lw_g (lw_at lw_m9 75 rfl) rfl
theorem q2064 : (Jvm.Cond.fieldLink "TermsDeskModel" (29 : Nat) "TermsDeskModel" "isSaved" "Z") ∈ lw_all := lw_g (lw_at lw_m9 76 rfl) rfl
theorem q2065 : (Jvm.Cond.fieldLink "TermsDeskModel" (33 : Nat) "TermsDeskModel" "isWithin" "Z") ∈ lw_all := lw_g (lw_at lw_m9 77 rfl) rfl
theorem q2066 : (Jvm.Cond.fieldLink "TermsDeskModel" (36 : Nat) "TermsDeskModel" "act" "I") ∈ lw_all := lw_g (lw_at lw_m9 78 rfl) rfl
theorem q2067 : (Jvm.Cond.fieldLink "TermsDeskModel" (39 : Nat) "TermsDeskModel" "near" "I") ∈ lw_all := lw_g (lw_at lw_m9 79 rfl) rfl
theorem q2068 : (Jvm.Cond.fieldLink "TermsDeskModel" (42 : Nat) "TermsDeskModel" "far" "I") ∈ lw_all := lw_g (lw_at lw_m9 80 rfl) rfl
theorem q2069 : (Jvm.Cond.fieldLink "TermsDeskModel" (45 : Nat) "TermsDeskModel" "picked" "I") ∈ lw_all := lw_g (lw_at lw_m9 81 rfl) rfl
theorem q2070 : (Jvm.Cond.fieldLink "TermsDeskModel" (48 : Nat) "TermsDeskModel" "isPicked" "Z") ∈ lw_all := lw_g (lw_at lw_m9 82 rfl) rfl
theorem q2071 : (Jvm.Cond.fieldLink "TermsDeskModel" (51 : Nat) "TermsDeskModel" "clash" "[I") ∈ lw_all := lw_g (lw_at lw_m9 83 rfl) rfl
theorem q2072 : (Jvm.Cond.fieldLink "TermsDeskModel" (54 : Nat) "TermsDeskModel" "chain" "[I") ∈ lw_all := lw_g (lw_at lw_m9 84 rfl) rfl
theorem q2073 : (Jvm.Cond.fieldLink "TermsDeskModel" (57 : Nat) "TermsDeskModel" "chained" "I") ∈ lw_all := lw_g (lw_at lw_m9 85 rfl) rfl
theorem q2074 : (Jvm.Cond.fieldLink "TermsDeskModel" (60 : Nat) "TermsDeskModel" "written" "I") ∈ lw_all := lw_g (lw_at lw_m9 86 rfl) rfl
theorem q2075 : (Jvm.Cond.fieldLink "TermsDeskModel" (63 : Nat) "TermsDeskModel" "writtenAt" "I") ∈ lw_all := lw_g (lw_at lw_m9 87 rfl) rfl
theorem q2076 : (Jvm.Cond.fieldLink "TermsDeskModel" (66 : Nat) "TermsDeskModel" "rows" "[J") ∈ lw_all := lw_g (lw_at lw_m9 88 rfl) rfl
theorem q2077 : (Jvm.Cond.fieldLink "TermsDeskModel" (70 : Nat) "TermsDeskModel" "rowed" "[I") ∈ lw_all := lw_g (lw_at lw_m9 89 rfl) rfl
theorem q2078 : (Jvm.Cond.fieldLink "TermsDeskModel" (73 : Nat) "TermsDeskModel" "input" "[I") ∈ lw_all := lw_g (lw_at lw_m9 90 rfl) rfl
theorem q2079 : (Jvm.Cond.fieldLink "TermsDeskModel" (76 : Nat) "TermsDeskModel" "fed" "I") ∈ lw_all := lw_g (lw_at lw_m9 91 rfl) rfl
theorem q2080 : (Jvm.Cond.fieldLink "TermsDeskModel" (79 : Nat) "TermsDeskModel" "at" "I") ∈ lw_all := lw_g (lw_at lw_m9 92 rfl) rfl
theorem q2081 : (Jvm.Cond.fieldLink "TermsDeskModel" (82 : Nat) "TermsDeskModel" "items" "I") ∈ lw_all := lw_g (lw_at lw_m9 93 rfl) rfl
theorem q2082 : (Jvm.Cond.fieldLink "TermsDeskModel" (85 : Nat) "TermsDeskModel" "wrong" "I") ∈ lw_all := lw_g (lw_at lw_m9 94 rfl) rfl
theorem q2083 : (Jvm.Cond.fieldLink "TermsDeskModel" (88 : Nat) "TermsDeskModel" "refused" "I") ∈ lw_all := lw_g (lw_at lw_m9 95 rfl) rfl
theorem q2084 : (Jvm.Cond.fieldLink "TermsDeskModel" (91 : Nat) "TermsDeskModel" "letters" "[I") ∈ lw_all := lw_g (lw_at lw_m9 96 rfl) rfl
theorem q2085 : (Jvm.Cond.fieldLink "TermsDeskModel" (94 : Nat) "TermsDeskModel" "ones" "[I") ∈ lw_all := lw_g (lw_at lw_m9 97 rfl) rfl
theorem q2086 : (Jvm.Cond.fieldLink "TermsDeskModel" (97 : Nat) "TermsDeskModel" "others" "[I") ∈ lw_all := lw_g (lw_at lw_m9 98 rfl) rfl
theorem q2087 : (Jvm.Cond.fieldLink "TermsDeskModel" (100 : Nat) "TermsDeskModel" "ahead" "[I") ∈ lw_all := lw_g (lw_at lw_m9 99 rfl) rfl
theorem q2088 : (Jvm.Cond.lays "TermsDeskModel" "TermsDeskModel" "thrown" "I") ∈ lw_all := lw_g (lw_at lw_m9 100 rfl) rfl
theorem q2089 : (Jvm.Cond.soleField "TermsDeskModel" "thrown") ∈ lw_all := lw_g (lw_at lw_m9 101 rfl) rfl
theorem q2090 : (Jvm.Cond.laysFinal "TermsDeskModel" "TermsDeskModel" "now" "[I") ∈ lw_all := lw_g (lw_at lw_m9 102 rfl) rfl
theorem q2091 : (Jvm.Cond.soleField "TermsDeskModel" "now") ∈ lw_all := lw_g (lw_at lw_m9 103 rfl) rfl
theorem q2092 : (Jvm.Cond.laysFinal "TermsDeskModel" "TermsDeskModel" "before" "[I") ∈ lw_all := lw_g (lw_at lw_m9 104 rfl) rfl
theorem q2093 : (Jvm.Cond.soleField "TermsDeskModel" "before") ∈ lw_all := lw_g (lw_at lw_m9 105 rfl) rfl
theorem q2094 : (Jvm.Cond.laysFinal "TermsDeskModel" "TermsDeskModel" "saved" "[I") ∈ lw_all := lw_g (lw_at lw_m9 106 rfl) rfl
theorem q2095 : (Jvm.Cond.soleField "TermsDeskModel" "saved") ∈ lw_all := lw_g (lw_at lw_m9 107 rfl) rfl
theorem q2096 : (Jvm.Cond.laysFinal "TermsDeskModel" "TermsDeskModel" "changes" "[I") ∈ lw_all := lw_g (lw_at lw_m9 108 rfl) rfl
theorem q2097 : (Jvm.Cond.soleField "TermsDeskModel" "changes") ∈ lw_all := lw_g (lw_at lw_m9 109 rfl) rfl
theorem q2098 : (Jvm.Cond.lays "TermsDeskModel" "TermsDeskModel" "changed" "I") ∈ lw_all := lw_g (lw_at lw_m9 110 rfl) rfl
theorem q2099 : (Jvm.Cond.soleField "TermsDeskModel" "changed") ∈ lw_all := lw_g (lw_at lw_m9 111 rfl) rfl
theorem q2100 : (Jvm.Cond.lays "TermsDeskModel" "TermsDeskModel" "isSaved" "Z") ∈ lw_all := lw_g (lw_at lw_m9 112 rfl) rfl
theorem q2101 : (Jvm.Cond.soleField "TermsDeskModel" "isSaved") ∈ lw_all := lw_g (lw_at lw_m9 113 rfl) rfl
theorem q2102 : (Jvm.Cond.lays "TermsDeskModel" "TermsDeskModel" "isWithin" "Z") ∈ lw_all := lw_g (lw_at lw_m9 114 rfl) rfl
theorem q2103 : (Jvm.Cond.soleField "TermsDeskModel" "isWithin") ∈ lw_all := lw_g (lw_at lw_m9 115 rfl) rfl
theorem q2104 : (Jvm.Cond.lays "TermsDeskModel" "TermsDeskModel" "act" "I") ∈ lw_all := lw_g (lw_at lw_m9 116 rfl) rfl
theorem q2105 : (Jvm.Cond.soleField "TermsDeskModel" "act") ∈ lw_all := lw_g (lw_at lw_m9 117 rfl) rfl
theorem q2106 : (Jvm.Cond.lays "TermsDeskModel" "TermsDeskModel" "near" "I") ∈ lw_all := lw_g (lw_at lw_m9 118 rfl) rfl
theorem q2107 : (Jvm.Cond.soleField "TermsDeskModel" "near") ∈ lw_all := lw_g (lw_at lw_m9 119 rfl) rfl
theorem q2108 : (Jvm.Cond.lays "TermsDeskModel" "TermsDeskModel" "far" "I") ∈ lw_all := lw_g (lw_at lw_m9 120 rfl) rfl
theorem q2109 : (Jvm.Cond.soleField "TermsDeskModel" "far") ∈ lw_all := lw_g (lw_at lw_m9 121 rfl) rfl
theorem q2110 : (Jvm.Cond.lays "TermsDeskModel" "TermsDeskModel" "picked" "I") ∈ lw_all := lw_g (lw_at lw_m9 122 rfl) rfl
theorem q2111 : (Jvm.Cond.soleField "TermsDeskModel" "picked") ∈ lw_all := lw_g (lw_at lw_m9 123 rfl) rfl
theorem q2112 : (Jvm.Cond.lays "TermsDeskModel" "TermsDeskModel" "isPicked" "Z") ∈ lw_all := lw_g (lw_at lw_m9 124 rfl) rfl
theorem q2113 : (Jvm.Cond.soleField "TermsDeskModel" "isPicked") ∈ lw_all := lw_g (lw_at lw_m9 125 rfl) rfl
theorem q2114 : (Jvm.Cond.laysFinal "TermsDeskModel" "TermsDeskModel" "clash" "[I") ∈ lw_all := lw_g (lw_at lw_m9 126 rfl) rfl
theorem q2115 : (Jvm.Cond.soleField "TermsDeskModel" "clash") ∈ lw_all := lw_g (lw_at lw_m9 127 rfl) rfl
theorem q2116 : (Jvm.Cond.laysFinal "TermsDeskModel" "TermsDeskModel" "chain" "[I") ∈ lw_all := lw_g (lw_at lw_m9 128 rfl) rfl
theorem q2117 : (Jvm.Cond.soleField "TermsDeskModel" "chain") ∈ lw_all := lw_g (lw_at lw_m9 129 rfl) rfl
theorem q2118 : (Jvm.Cond.lays "TermsDeskModel" "TermsDeskModel" "chained" "I") ∈ lw_all := lw_g (lw_at lw_m9 130 rfl) rfl
theorem q2119 : (Jvm.Cond.soleField "TermsDeskModel" "chained") ∈ lw_all := lw_g (lw_at lw_m9 131 rfl) rfl
theorem q2120 : (Jvm.Cond.lays "TermsDeskModel" "TermsDeskModel" "written" "I") ∈ lw_all := lw_g (lw_at lw_m9 132 rfl) rfl
theorem q2121 : (Jvm.Cond.soleField "TermsDeskModel" "written") ∈ lw_all := lw_g (lw_at lw_m9 133 rfl) rfl
theorem q2122 : (Jvm.Cond.lays "TermsDeskModel" "TermsDeskModel" "writtenAt" "I") ∈ lw_all := lw_g (lw_at lw_m9 134 rfl) rfl
theorem q2123 : (Jvm.Cond.soleField "TermsDeskModel" "writtenAt") ∈ lw_all := lw_g (lw_at lw_m9 135 rfl) rfl
theorem q2124 : (Jvm.Cond.laysFinal "TermsDeskModel" "TermsDeskModel" "rows" "[J") ∈ lw_all := lw_g (lw_at lw_m9 136 rfl) rfl
theorem q2125 : (Jvm.Cond.soleField "TermsDeskModel" "rows") ∈ lw_all := lw_g (lw_at lw_m9 137 rfl) rfl
theorem q2126 : (Jvm.Cond.laysFinal "TermsDeskModel" "TermsDeskModel" "rowed" "[I") ∈ lw_all := lw_g (lw_at lw_m9 138 rfl) rfl
theorem q2127 : (Jvm.Cond.soleField "TermsDeskModel" "rowed") ∈ lw_all := lw_g (lw_at lw_m9 139 rfl) rfl
theorem q2128 : (Jvm.Cond.laysFinal "TermsDeskModel" "TermsDeskModel" "input" "[I") ∈ lw_all := lw_g (lw_at lw_m9 140 rfl) rfl
theorem q2129 : (Jvm.Cond.soleField "TermsDeskModel" "input") ∈ lw_all := lw_g (lw_at lw_m9 141 rfl) rfl
theorem q2130 : (Jvm.Cond.lays "TermsDeskModel" "TermsDeskModel" "fed" "I") ∈ lw_all := lw_g (lw_at lw_m9 142 rfl) rfl
theorem q2131 : (Jvm.Cond.soleField "TermsDeskModel" "fed") ∈ lw_all := lw_g (lw_at lw_m9 143 rfl) rfl
theorem q2132 : (Jvm.Cond.lays "TermsDeskModel" "TermsDeskModel" "at" "I") ∈ lw_all := lw_g (lw_at lw_m9 144 rfl) rfl
theorem q2133 : (Jvm.Cond.soleField "TermsDeskModel" "at") ∈ lw_all := lw_g (lw_at lw_m9 145 rfl) rfl
theorem q2134 : (Jvm.Cond.lays "TermsDeskModel" "TermsDeskModel" "items" "I") ∈ lw_all := lw_g (lw_at lw_m9 146 rfl) rfl
theorem q2135 : (Jvm.Cond.soleField "TermsDeskModel" "items") ∈ lw_all := lw_g (lw_at lw_m9 147 rfl) rfl
theorem q2136 : (Jvm.Cond.lays "TermsDeskModel" "TermsDeskModel" "wrong" "I") ∈ lw_all := lw_g (lw_at lw_m9 148 rfl) rfl
theorem q2137 : (Jvm.Cond.soleField "TermsDeskModel" "wrong") ∈ lw_all := lw_g (lw_at lw_m9 149 rfl) rfl
theorem q2138 : (Jvm.Cond.lays "TermsDeskModel" "TermsDeskModel" "refused" "I") ∈ lw_all := lw_g (lw_at lw_m9 150 rfl) rfl
theorem q2139 : (Jvm.Cond.soleField "TermsDeskModel" "refused") ∈ lw_all := lw_g (lw_at lw_m9 151 rfl) rfl
theorem q2140 : (Jvm.Cond.laysFinal "TermsDeskModel" "TermsDeskModel" "letters" "[I") ∈ lw_all := lw_g (lw_at lw_m9 152 rfl) rfl
theorem q2141 : (Jvm.Cond.soleField "TermsDeskModel" "letters") ∈ lw_all := lw_g (lw_at lw_m9 153 rfl) rfl
theorem q2142 : (Jvm.Cond.laysFinal "TermsDeskModel" "TermsDeskModel" "ones" "[I") ∈ lw_all := lw_g (lw_at lw_m9 154 rfl) rfl
theorem q2143 : (Jvm.Cond.soleField "TermsDeskModel" "ones") ∈ lw_all := lw_g (lw_at lw_m9 155 rfl) rfl
theorem q2144 : (Jvm.Cond.laysFinal "TermsDeskModel" "TermsDeskModel" "others" "[I") ∈ lw_all := lw_g (lw_at lw_m9 156 rfl) rfl
theorem q2145 : (Jvm.Cond.soleField "TermsDeskModel" "others") ∈ lw_all := lw_g (lw_at lw_m9 157 rfl) rfl
theorem q2146 : (Jvm.Cond.laysFinal "TermsDeskModel" "TermsDeskModel" "ahead" "[I") ∈ lw_all := lw_g (lw_at lw_m9 158 rfl) rfl
theorem q2147 : (Jvm.Cond.soleField "TermsDeskModel" "ahead") ∈ lw_all := lw_g (lw_at lw_m9 159 rfl) rfl
theorem q2148 : (Jvm.Cond.superclass "TermsDeskModel" "java/lang/Object") ∈ lw_all := lw_g (lw_at lw_m9 160 rfl) rfl
theorem q2150 : (Jvm.Cond.instanceMethod ({ cls := "TermsDeskModel", name := "thrown", desc := "()I" } : Jvm.MethodName)) ∈ lw_all := lw_g (lw_at lw_m9 162 rfl) rfl
theorem q2151 : (Jvm.Cond.selects "TermsDeskModel" ({ cls := "TermsDeskModel", name := "thrown", desc := "()I" } : Jvm.MethodName) ({ cls := "TermsDeskModel", name := "thrown", desc := "()I" } : Jvm.MethodName)) ∈ lw_all := lw_g (lw_at lw_m9 163 rfl) rfl
theorem q2152 : (Jvm.Cond.code ({ cls := "TermsDeskModel", name := "thrown", desc := "()I" } : Jvm.MethodName) prog_17_method_2_code (1 : Nat) (Option.some Jvm.ClassFile.FieldType.int)) ∈ lw_all := lw_g (lw_at lw_m9 164 rfl) rfl
theorem q2154 : (Jvm.Cond.instanceMethod ({ cls := "TermsDeskModel", name := "clear", desc := "()I" } : Jvm.MethodName)) ∈ lw_all := lw_g (lw_at lw_m9 166 rfl) rfl
theorem q2155 : (Jvm.Cond.selects "TermsDeskModel" ({ cls := "TermsDeskModel", name := "clear", desc := "()I" } : Jvm.MethodName) ({ cls := "TermsDeskModel", name := "clear", desc := "()I" } : Jvm.MethodName)) ∈ lw_all := lw_g (lw_at lw_m9 167 rfl) rfl
theorem q2156 : (Jvm.Cond.code ({ cls := "TermsDeskModel", name := "clear", desc := "()I" } : Jvm.MethodName) prog_17_method_13_code (3 : Nat) (Option.some Jvm.ClassFile.FieldType.int)) ∈ lw_all := lw_g (lw_at lw_m9 168 rfl) rfl
theorem q2158 : (Jvm.Cond.instanceMethod ({ cls := "TermsDeskModel", name := "addLicence", desc := "(III)I" } : Jvm.MethodName)) ∈ lw_all := lw_g (lw_at lw_m9 170 rfl) rfl
theorem q2159 : (Jvm.Cond.selects "TermsDeskModel" ({ cls := "TermsDeskModel", name := "addLicence", desc := "(III)I" } : Jvm.MethodName) ({ cls := "TermsDeskModel", name := "addLicence", desc := "(III)I" } : Jvm.MethodName)) ∈ lw_all := lw_g (lw_at lw_m9 171 rfl) rfl
theorem q2160 : (Jvm.Cond.code ({ cls := "TermsDeskModel", name := "addLicence", desc := "(III)I" } : Jvm.MethodName) prog_17_method_14_code (5 : Nat) (Option.some Jvm.ClassFile.FieldType.int)) ∈ lw_all := lw_g (lw_at lw_m9 172 rfl) rfl
theorem q2161 : (Jvm.Cond.methodLink "TermsDeskModel" (117 : Nat) ({ cls := "TermsDeskModel", name := "begins", desc := "()V" } : Jvm.MethodName)) ∈ lw_all := lw_g (lw_at lw_m9 173 rfl) rfl
theorem q2162 : (Jvm.Cond.privateMethod ({ cls := "TermsDeskModel", name := "begins", desc := "()V" } : Jvm.MethodName)) ∈ lw_tbl := lw_at lw_m9 174 rfl
theorem q2163 : (Jvm.Cond.instanceMethod ({ cls := "TermsDeskModel", name := "begins", desc := "()V" } : Jvm.MethodName)) ∈ lw_all := lw_g (lw_at lw_m9 175 rfl) rfl
theorem q2164 : (Jvm.Cond.code ({ cls := "TermsDeskModel", name := "begins", desc := "()V" } : Jvm.MethodName) prog_17_method_7_code (1 : Nat) (Option.none : Option Jvm.ClassFile.FieldType)) ∈ lw_all := lw_g (lw_at lw_m9 176 rfl) rfl
theorem q2165 : (Jvm.Cond.methodLink "TermsDeskModel" (109 : Nat) ({ cls := "TermsDeskModel", name := "copies", desc := "([II[II)V" } : Jvm.MethodName)) ∈ lw_all := lw_g (lw_at lw_m9 177 rfl) rfl
theorem q2166 : (Jvm.Cond.static ({ cls := "TermsDeskModel", name := "copies", desc := "([II[II)V" } : Jvm.MethodName)) ∈ lw_all := lw_g (lw_at lw_m9 178 rfl) rfl
theorem q2167 : (Jvm.Cond.code ({ cls := "TermsDeskModel", name := "copies", desc := "([II[II)V" } : Jvm.MethodName) prog_17_method_4_code (4 : Nat) (Option.none : Option Jvm.ClassFile.FieldType)) ∈ lw_all := lw_g (lw_at lw_m9 179 rfl) rfl
theorem q2168 : (Jvm.Cond.methodLink "TermsDeskModel" (103 : Nat) ({ cls := "java/lang/System", name := "arraycopy", desc := "(Ljava/lang/Object;ILjava/lang/Object;II)V" } : Jvm.MethodName)) ∈ lw_all := lw_g (lw_at lw_m9 180 rfl) rfl
theorem q2169 : (Jvm.Cond.methodLink "TermsDeskModel" (113 : Nat) ({ cls := "TermsDeskModel", name := "in", desc := "(III)Z" } : Jvm.MethodName)) ∈ lw_all := lw_g (lw_at lw_m9 181 rfl) rfl
theorem q2170 : (Jvm.Cond.static ({ cls := "TermsDeskModel", name := "in", desc := "(III)Z" } : Jvm.MethodName)) ∈ lw_all := lw_g (lw_at lw_m9 182 rfl) rfl
theorem q2171 : (Jvm.Cond.code ({ cls := "TermsDeskModel", name := "in", desc := "(III)Z" } : Jvm.MethodName) prog_17_method_3_code (3 : Nat) (Option.some Jvm.ClassFile.FieldType.boolean)) ∈ lw_all := lw_g (lw_at lw_m9 183 rfl) rfl
theorem q2172 : (Jvm.Cond.methodLink "TermsDeskModel" (120 : Nat) ({ cls := "TermsDeskModel", name := "no", desc := "(I)I" } : Jvm.MethodName)) ∈ lw_all := lw_g (lw_at lw_m9 184 rfl) rfl
theorem q2173 : (Jvm.Cond.privateMethod ({ cls := "TermsDeskModel", name := "no", desc := "(I)I" } : Jvm.MethodName)) ∈ lw_tbl := lw_at lw_m9 185 rfl
theorem q2174 : (Jvm.Cond.instanceMethod ({ cls := "TermsDeskModel", name := "no", desc := "(I)I" } : Jvm.MethodName)) ∈ lw_all := lw_g (lw_at lw_m9 186 rfl) rfl
theorem q2175 : (Jvm.Cond.code ({ cls := "TermsDeskModel", name := "no", desc := "(I)I" } : Jvm.MethodName) prog_17_method_5_code (2 : Nat) (Option.some Jvm.ClassFile.FieldType.int)) ∈ lw_all := lw_g (lw_at lw_m9 187 rfl) rfl
theorem q2176 : (Jvm.Cond.methodLink "TermsDeskModel" (124 : Nat) ({ cls := "TermsDeskModel", name := "keeps", desc := "()V" } : Jvm.MethodName)) ∈ lw_all := lw_g (lw_at lw_m9 188 rfl) rfl
theorem q2177 : (Jvm.Cond.privateMethod ({ cls := "TermsDeskModel", name := "keeps", desc := "()V" } : Jvm.MethodName)) ∈ lw_tbl := lw_at lw_m9 189 rfl
theorem q2178 : (Jvm.Cond.instanceMethod ({ cls := "TermsDeskModel", name := "keeps", desc := "()V" } : Jvm.MethodName)) ∈ lw_all := lw_g (lw_at lw_m9 190 rfl) rfl
theorem q2179 : (Jvm.Cond.code ({ cls := "TermsDeskModel", name := "keeps", desc := "()V" } : Jvm.MethodName) prog_17_method_8_code (2 : Nat) (Option.none : Option Jvm.ClassFile.FieldType)) ∈ lw_all := lw_g (lw_at lw_m9 191 rfl) rfl
theorem q2181 : (Jvm.Cond.instanceMethod ({ cls := "TermsDeskModel", name := "demand", desc := "(III)I" } : Jvm.MethodName)) ∈ lw_all := lw_g (lw_at lw_m9 193 rfl) rfl
theorem q2182 : (Jvm.Cond.selects "TermsDeskModel" ({ cls := "TermsDeskModel", name := "demand", desc := "(III)I" } : Jvm.MethodName) ({ cls := "TermsDeskModel", name := "demand", desc := "(III)I" } : Jvm.MethodName)) ∈ lw_all := lw_g (lw_at lw_m9 194 rfl) rfl
theorem q2183 : (Jvm.Cond.code ({ cls := "TermsDeskModel", name := "demand", desc := "(III)I" } : Jvm.MethodName) prog_17_method_15_code (5 : Nat) (Option.some Jvm.ClassFile.FieldType.int)) ∈ lw_all := lw_g (lw_at lw_m9 195 rfl) rfl
theorem q2184 : (Jvm.Cond.methodLink "TermsDeskModel" (127 : Nat) ({ cls := "TermsDeskModel", name := "isLicence", desc := "(I)Z" } : Jvm.MethodName)) ∈ lw_all := lw_g (lw_at lw_m9 196 rfl) rfl
theorem q2185 : (Jvm.Cond.privateMethod ({ cls := "TermsDeskModel", name := "isLicence", desc := "(I)Z" } : Jvm.MethodName)) ∈ lw_tbl := lw_at lw_m9 197 rfl
theorem q2186 : (Jvm.Cond.instanceMethod ({ cls := "TermsDeskModel", name := "isLicence", desc := "(I)Z" } : Jvm.MethodName)) ∈ lw_all := lw_g (lw_at lw_m9 198 rfl) rfl
theorem q2187 : (Jvm.Cond.code ({ cls := "TermsDeskModel", name := "isLicence", desc := "(I)Z" } : Jvm.MethodName) prog_17_method_9_code (2 : Nat) (Option.some Jvm.ClassFile.FieldType.boolean)) ∈ lw_all := lw_g (lw_at lw_m9 199 rfl) rfl
theorem q2189 : (Jvm.Cond.instanceMethod ({ cls := "TermsDeskModel", name := "addFile", desc := "(III)I" } : Jvm.MethodName)) ∈ lw_all := lw_g (lw_at lw_m9 201 rfl) rfl
theorem q2190 : (Jvm.Cond.selects "TermsDeskModel" ({ cls := "TermsDeskModel", name := "addFile", desc := "(III)I" } : Jvm.MethodName) ({ cls := "TermsDeskModel", name := "addFile", desc := "(III)I" } : Jvm.MethodName)) ∈ lw_all := lw_g (lw_at lw_m9 202 rfl) rfl
theorem q2191 : (Jvm.Cond.code ({ cls := "TermsDeskModel", name := "addFile", desc := "(III)I" } : Jvm.MethodName) prog_17_method_16_code (5 : Nat) (Option.some Jvm.ClassFile.FieldType.int)) ∈ lw_all := lw_g (lw_at lw_m9 203 rfl) rfl
theorem q2193 : (Jvm.Cond.instanceMethod ({ cls := "TermsDeskModel", name := "flip", desc := "(I)I" } : Jvm.MethodName)) ∈ lw_all := lw_g (lw_at lw_m9 205 rfl) rfl
theorem q2194 : (Jvm.Cond.selects "TermsDeskModel" ({ cls := "TermsDeskModel", name := "flip", desc := "(I)I" } : Jvm.MethodName) ({ cls := "TermsDeskModel", name := "flip", desc := "(I)I" } : Jvm.MethodName)) ∈ lw_all := lw_g (lw_at lw_m9 206 rfl) rfl
theorem q2195 : (Jvm.Cond.code ({ cls := "TermsDeskModel", name := "flip", desc := "(I)I" } : Jvm.MethodName) prog_17_method_19_code (2 : Nat) (Option.some Jvm.ClassFile.FieldType.int)) ∈ lw_all := lw_g (lw_at lw_m9 207 rfl) rfl
theorem q2196 : (Jvm.Cond.methodLink "TermsDeskModel" (131 : Nat) ({ cls := "TermsDeskModel", name := "isFile", desc := "(I)Z" } : Jvm.MethodName)) ∈ lw_all := lw_g (lw_at lw_m9 208 rfl) rfl
theorem q2197 : (Jvm.Cond.privateMethod ({ cls := "TermsDeskModel", name := "isFile", desc := "(I)Z" } : Jvm.MethodName)) ∈ lw_tbl := lw_at lw_m9 209 rfl
theorem q2198 : (Jvm.Cond.instanceMethod ({ cls := "TermsDeskModel", name := "isFile", desc := "(I)Z" } : Jvm.MethodName)) ∈ lw_all := lw_g (lw_at lw_m9 210 rfl) rfl
theorem q2199 : (Jvm.Cond.code ({ cls := "TermsDeskModel", name := "isFile", desc := "(I)Z" } : Jvm.MethodName) prog_17_method_10_code (2 : Nat) (Option.some Jvm.ClassFile.FieldType.boolean)) ∈ lw_all := lw_g (lw_at lw_m9 211 rfl) rfl
theorem q2200 : (Jvm.Cond.methodLink "TermsDeskModel" (134 : Nat) ({ cls := "TermsDeskModel", name := "hasTwo", desc := "(I)Z" } : Jvm.MethodName)) ∈ lw_all := lw_g (lw_at lw_m9 212 rfl) rfl
theorem q2201 : (Jvm.Cond.privateMethod ({ cls := "TermsDeskModel", name := "hasTwo", desc := "(I)Z" } : Jvm.MethodName)) ∈ lw_tbl := lw_at lw_m9 213 rfl
theorem q2202 : (Jvm.Cond.instanceMethod ({ cls := "TermsDeskModel", name := "hasTwo", desc := "(I)Z" } : Jvm.MethodName)) ∈ lw_all := lw_g (lw_at lw_m9 214 rfl) rfl
theorem q2203 : (Jvm.Cond.code ({ cls := "TermsDeskModel", name := "hasTwo", desc := "(I)Z" } : Jvm.MethodName) prog_17_method_17_code (2 : Nat) (Option.some Jvm.ClassFile.FieldType.boolean)) ∈ lw_all := lw_g (lw_at lw_m9 215 rfl) rfl
theorem q2204 : (Jvm.Cond.methodLink "TermsDeskModel" (137 : Nat) ({ cls := "TermsDeskModel", name := "takenBy", desc := "(I)I" } : Jvm.MethodName)) ∈ lw_all := lw_g (lw_at lw_m9 216 rfl) rfl
theorem q2205 : (Jvm.Cond.privateMethod ({ cls := "TermsDeskModel", name := "takenBy", desc := "(I)I" } : Jvm.MethodName)) ∈ lw_tbl := lw_at lw_m9 217 rfl
theorem q2206 : (Jvm.Cond.instanceMethod ({ cls := "TermsDeskModel", name := "takenBy", desc := "(I)I" } : Jvm.MethodName)) ∈ lw_all := lw_g (lw_at lw_m9 218 rfl) rfl
theorem q2207 : (Jvm.Cond.code ({ cls := "TermsDeskModel", name := "takenBy", desc := "(I)I" } : Jvm.MethodName) prog_17_method_18_code (2 : Nat) (Option.some Jvm.ClassFile.FieldType.int)) ∈ lw_all := lw_g (lw_at lw_m9 219 rfl) rfl
theorem q2209 : (Jvm.Cond.instanceMethod ({ cls := "TermsDeskModel", name := "addWork", desc := "()I" } : Jvm.MethodName)) ∈ lw_all := lw_g (lw_at lw_m9 221 rfl) rfl
theorem q2210 : (Jvm.Cond.selects "TermsDeskModel" ({ cls := "TermsDeskModel", name := "addWork", desc := "()I" } : Jvm.MethodName) ({ cls := "TermsDeskModel", name := "addWork", desc := "()I" } : Jvm.MethodName)) ∈ lw_all := lw_g (lw_at lw_m9 222 rfl) rfl
theorem q2211 : (Jvm.Cond.code ({ cls := "TermsDeskModel", name := "addWork", desc := "()I" } : Jvm.MethodName) prog_17_method_20_code (2 : Nat) (Option.some Jvm.ClassFile.FieldType.int)) ∈ lw_all := lw_g (lw_at lw_m9 223 rfl) rfl
theorem q2213 : (Jvm.Cond.instanceMethod ({ cls := "TermsDeskModel", name := "join", desc := "(IIZ)Z" } : Jvm.MethodName)) ∈ lw_all := lw_g (lw_at lw_m9 225 rfl) rfl
theorem q2214 : (Jvm.Cond.selects "TermsDeskModel" ({ cls := "TermsDeskModel", name := "join", desc := "(IIZ)Z" } : Jvm.MethodName) ({ cls := "TermsDeskModel", name := "join", desc := "(IIZ)Z" } : Jvm.MethodName)) ∈ lw_all := lw_g (lw_at lw_m9 226 rfl) rfl
theorem q2215 : (Jvm.Cond.code ({ cls := "TermsDeskModel", name := "join", desc := "(IIZ)Z" } : Jvm.MethodName) prog_17_method_22_code (4 : Nat) (Option.some Jvm.ClassFile.FieldType.boolean)) ∈ lw_all := lw_g (lw_at lw_m9 227 rfl) rfl
theorem q2216 : (Jvm.Cond.methodLink "TermsDeskModel" (140 : Nat) ({ cls := "TermsDeskModel", name := "isWork", desc := "(I)Z" } : Jvm.MethodName)) ∈ lw_all := lw_g (lw_at lw_m9 228 rfl) rfl
theorem q2217 : (Jvm.Cond.privateMethod ({ cls := "TermsDeskModel", name := "isWork", desc := "(I)Z" } : Jvm.MethodName)) ∈ lw_tbl := lw_at lw_m9 229 rfl
theorem q2218 : (Jvm.Cond.instanceMethod ({ cls := "TermsDeskModel", name := "isWork", desc := "(I)Z" } : Jvm.MethodName)) ∈ lw_all := lw_g (lw_at lw_m9 230 rfl) rfl
theorem q2219 : (Jvm.Cond.code ({ cls := "TermsDeskModel", name := "isWork", desc := "(I)Z" } : Jvm.MethodName) prog_17_method_11_code (2 : Nat) (Option.some Jvm.ClassFile.FieldType.boolean)) ∈ lw_all := lw_g (lw_at lw_m9 231 rfl) rfl
theorem q2220 : (Jvm.Cond.methodLink "TermsDeskModel" (143 : Nat) ({ cls := "TermsDeskModel", name := "lays", desc := "(IIZ)Z" } : Jvm.MethodName)) ∈ lw_all := lw_g (lw_at lw_m9 232 rfl) rfl
theorem q2221 : (Jvm.Cond.privateMethod ({ cls := "TermsDeskModel", name := "lays", desc := "(IIZ)Z" } : Jvm.MethodName)) ∈ lw_tbl := lw_at lw_m9 233 rfl
theorem q2222 : (Jvm.Cond.instanceMethod ({ cls := "TermsDeskModel", name := "lays", desc := "(IIZ)Z" } : Jvm.MethodName)) ∈ lw_all := lw_g (lw_at lw_m9 234 rfl) rfl
theorem q2223 : (Jvm.Cond.code ({ cls := "TermsDeskModel", name := "lays", desc := "(IIZ)Z" } : Jvm.MethodName) prog_17_method_21_code (5 : Nat) (Option.some Jvm.ClassFile.FieldType.boolean)) ∈ lw_all := lw_g (lw_at lw_m9 235 rfl) rfl
theorem q2225 : (Jvm.Cond.instanceMethod ({ cls := "TermsDeskModel", name := "link", desc := "(IIZ)Z" } : Jvm.MethodName)) ∈ lw_all := lw_g (lw_at lw_m9 237 rfl) rfl
theorem q2226 : (Jvm.Cond.selects "TermsDeskModel" ({ cls := "TermsDeskModel", name := "link", desc := "(IIZ)Z" } : Jvm.MethodName) ({ cls := "TermsDeskModel", name := "link", desc := "(IIZ)Z" } : Jvm.MethodName)) ∈ lw_all := lw_g (lw_at lw_m9 238 rfl) rfl
theorem q2227 : (Jvm.Cond.code ({ cls := "TermsDeskModel", name := "link", desc := "(IIZ)Z" } : Jvm.MethodName) prog_17_method_23_code (4 : Nat) (Option.some Jvm.ClassFile.FieldType.boolean)) ∈ lw_all := lw_g (lw_at lw_m9 239 rfl) rfl
theorem q2229 : (Jvm.Cond.instanceMethod ({ cls := "TermsDeskModel", name := "clashes", desc := "(II)I" } : Jvm.MethodName)) ∈ lw_all := lw_g (lw_at lw_m10 1 rfl) rfl
theorem q2230 : (Jvm.Cond.selects "TermsDeskModel" ({ cls := "TermsDeskModel", name := "clashes", desc := "(II)I" } : Jvm.MethodName) ({ cls := "TermsDeskModel", name := "clashes", desc := "(II)I" } : Jvm.MethodName)) ∈ lw_all := lw_g (lw_at lw_m10 2 rfl) rfl
theorem q2231 : (Jvm.Cond.code ({ cls := "TermsDeskModel", name := "clashes", desc := "(II)I" } : Jvm.MethodName) prog_17_method_37_code (3 : Nat) (Option.some Jvm.ClassFile.FieldType.int)) ∈ lw_all := lw_g (lw_at lw_m10 3 rfl) rfl
theorem q2232 : (Jvm.Cond.methodLink "TermsDeskModel" (185 : Nat) ({ cls := "TermsDeskModel", name := "isAct", desc := "(I)Z" } : Jvm.MethodName)) ∈ lw_all := lw_g (lw_at lw_m10 4 rfl) rfl
theorem q2233 : (Jvm.Cond.static ({ cls := "TermsDeskModel", name := "isAct", desc := "(I)Z" } : Jvm.MethodName)) ∈ lw_all := lw_g (lw_at lw_m10 5 rfl) rfl
theorem q2234 : (Jvm.Cond.code ({ cls := "TermsDeskModel", name := "isAct", desc := "(I)Z" } : Jvm.MethodName) prog_17_method_12_code (1 : Nat) (Option.some Jvm.ClassFile.FieldType.boolean)) ∈ lw_all := lw_g (lw_at lw_m10 6 rfl) rfl
theorem q2235 : (Jvm.Cond.methodLink "TermsDeskModel" (188 : Nat) ({ cls := "TermsDeskModel", name := "thinks", desc := "(III)V" } : Jvm.MethodName)) ∈ lw_all := lw_g (lw_at lw_m10 7 rfl) rfl
theorem q2236 : (Jvm.Cond.privateMethod ({ cls := "TermsDeskModel", name := "thinks", desc := "(III)V" } : Jvm.MethodName)) ∈ lw_tbl := lw_at lw_m10 8 rfl
theorem q2237 : (Jvm.Cond.instanceMethod ({ cls := "TermsDeskModel", name := "thinks", desc := "(III)V" } : Jvm.MethodName)) ∈ lw_all := lw_g (lw_at lw_m10 9 rfl) rfl
theorem q2238 : (Jvm.Cond.code ({ cls := "TermsDeskModel", name := "thinks", desc := "(III)V" } : Jvm.MethodName) prog_17_method_26_code (4 : Nat) (Option.none : Option Jvm.ClassFile.FieldType)) ∈ lw_all := lw_g (lw_at lw_m10 10 rfl) rfl
theorem q2239 : (Jvm.Cond.methodLink "TermsDeskModel" (150 : Nat) ({ cls := "TermsDeskModel", name := "filesOf", desc := "(I)I" } : Jvm.MethodName)) ∈ lw_all := lw_g (lw_at lw_m10 11 rfl) rfl
theorem q2240 : (Jvm.Cond.privateMethod ({ cls := "TermsDeskModel", name := "filesOf", desc := "(I)I" } : Jvm.MethodName)) ∈ lw_tbl := lw_at lw_m10 12 rfl
theorem q2241 : (Jvm.Cond.instanceMethod ({ cls := "TermsDeskModel", name := "filesOf", desc := "(I)I" } : Jvm.MethodName)) ∈ lw_all := lw_g (lw_at lw_m10 13 rfl) rfl
theorem q2242 : (Jvm.Cond.code ({ cls := "TermsDeskModel", name := "filesOf", desc := "(I)I" } : Jvm.MethodName) prog_17_method_25_code (5 : Nat) (Option.some Jvm.ClassFile.FieldType.int)) ∈ lw_all := lw_g (lw_at lw_m10 14 rfl) rfl
theorem q2243 : (Jvm.Cond.methodLink "TermsDeskModel" (147 : Nat) ({ cls := "TermsDeskModel", name := "worksOf", desc := "(I)I" } : Jvm.MethodName)) ∈ lw_all := lw_g (lw_at lw_m10 15 rfl) rfl
theorem q2244 : (Jvm.Cond.privateMethod ({ cls := "TermsDeskModel", name := "worksOf", desc := "(I)I" } : Jvm.MethodName)) ∈ lw_tbl := lw_at lw_m10 16 rfl
theorem q2245 : (Jvm.Cond.instanceMethod ({ cls := "TermsDeskModel", name := "worksOf", desc := "(I)I" } : Jvm.MethodName)) ∈ lw_all := lw_g (lw_at lw_m10 17 rfl) rfl
theorem q2246 : (Jvm.Cond.code ({ cls := "TermsDeskModel", name := "worksOf", desc := "(I)I" } : Jvm.MethodName) prog_17_method_24_code (4 : Nat) (Option.some Jvm.ClassFile.FieldType.int)) ∈ lw_all := lw_g (lw_at lw_m10 18 rfl) rfl
theorem q2247 : (Jvm.Cond.methodLink "TermsDeskModel" (192 : Nat) ({ cls := "TermsDeskModel", name := "clashesNow", desc := "(I)I" } : Jvm.MethodName)) ∈ lw_all := lw_g (lw_at lw_m10 19 rfl) rfl
theorem q2248 : (Jvm.Cond.privateMethod ({ cls := "TermsDeskModel", name := "clashesNow", desc := "(I)I" } : Jvm.MethodName)) ∈ lw_tbl := lw_at lw_m10 20 rfl
theorem q2249 : (Jvm.Cond.instanceMethod ({ cls := "TermsDeskModel", name := "clashesNow", desc := "(I)I" } : Jvm.MethodName)) ∈ lw_all := lw_g (lw_at lw_m10 21 rfl) rfl
theorem q2250 : (Jvm.Cond.code ({ cls := "TermsDeskModel", name := "clashesNow", desc := "(I)I" } : Jvm.MethodName) prog_17_method_35_code (6 : Nat) (Option.some Jvm.ClassFile.FieldType.int)) ∈ lw_all := lw_g (lw_at lw_m10 22 rfl) rfl
theorem q2251 : (Jvm.Cond.methodLink "TermsDeskModel" (175 : Nat) ({ cls := "TermsDeskModel", name := "comes", desc := "(II)Z" } : Jvm.MethodName)) ∈ lw_all := lw_g (lw_at lw_m10 23 rfl) rfl
theorem q2252 : (Jvm.Cond.privateMethod ({ cls := "TermsDeskModel", name := "comes", desc := "(II)Z" } : Jvm.MethodName)) ∈ lw_tbl := lw_at lw_m10 24 rfl
theorem q2253 : (Jvm.Cond.instanceMethod ({ cls := "TermsDeskModel", name := "comes", desc := "(II)Z" } : Jvm.MethodName)) ∈ lw_all := lw_g (lw_at lw_m10 25 rfl) rfl
theorem q2254 : (Jvm.Cond.code ({ cls := "TermsDeskModel", name := "comes", desc := "(II)Z" } : Jvm.MethodName) prog_17_method_31_code (3 : Nat) (Option.some Jvm.ClassFile.FieldType.boolean)) ∈ lw_all := lw_g (lw_at lw_m10 26 rfl) rfl
theorem q2255 : (Jvm.Cond.methodLink "TermsDeskModel" (156 : Nat) ({ cls := "TermsDeskModel", name := "isNear", desc := "(I)Z" } : Jvm.MethodName)) ∈ lw_all := lw_g (lw_at lw_m10 27 rfl) rfl
theorem q2256 : (Jvm.Cond.privateMethod ({ cls := "TermsDeskModel", name := "isNear", desc := "(I)Z" } : Jvm.MethodName)) ∈ lw_tbl := lw_at lw_m10 28 rfl
theorem q2257 : (Jvm.Cond.instanceMethod ({ cls := "TermsDeskModel", name := "isNear", desc := "(I)Z" } : Jvm.MethodName)) ∈ lw_all := lw_g (lw_at lw_m10 29 rfl) rfl
theorem q2258 : (Jvm.Cond.code ({ cls := "TermsDeskModel", name := "isNear", desc := "(I)Z" } : Jvm.MethodName) prog_17_method_27_code (2 : Nat) (Option.some Jvm.ClassFile.FieldType.boolean)) ∈ lw_all := lw_g (lw_at lw_m10 30 rfl) rfl
theorem q2259 : (Jvm.Cond.methodLink "TermsDeskModel" (159 : Nat) ({ cls := "TermsDeskModel", name := "isFar", desc := "(I)Z" } : Jvm.MethodName)) ∈ lw_all := lw_g (lw_at lw_m10 31 rfl) rfl
theorem q2260 : (Jvm.Cond.privateMethod ({ cls := "TermsDeskModel", name := "isFar", desc := "(I)Z" } : Jvm.MethodName)) ∈ lw_tbl := lw_at lw_m10 32 rfl
theorem q2261 : (Jvm.Cond.instanceMethod ({ cls := "TermsDeskModel", name := "isFar", desc := "(I)Z" } : Jvm.MethodName)) ∈ lw_all := lw_g (lw_at lw_m10 33 rfl) rfl
theorem q2262 : (Jvm.Cond.code ({ cls := "TermsDeskModel", name := "isFar", desc := "(I)Z" } : Jvm.MethodName) prog_17_method_28_code (2 : Nat) (Option.some Jvm.ClassFile.FieldType.boolean)) ∈ lw_all := lw_g (lw_at lw_m10 34 rfl) rfl
theorem q2263 : (Jvm.Cond.methodLink "TermsDeskModel" (162 : Nat) ({ cls := "TermsDeskModel", name := "ones", desc := "(I)I" } : Jvm.MethodName)) ∈ lw_all := lw_g (lw_at lw_m10 35 rfl) rfl
theorem q2264 : (Jvm.Cond.static ({ cls := "TermsDeskModel", name := "ones", desc := "(I)I" } : Jvm.MethodName)) ∈ lw_all := lw_g (lw_at lw_m10 36 rfl) rfl
theorem q2265 : (Jvm.Cond.code ({ cls := "TermsDeskModel", name := "ones", desc := "(I)I" } : Jvm.MethodName) prog_17_method_6_code (3 : Nat) (Option.some Jvm.ClassFile.FieldType.int)) ∈ lw_all := lw_g (lw_at lw_m10 37 rfl) rfl
theorem q2266 : (Jvm.Cond.methodLink "TermsDeskModel" (153 : Nat) ({ cls := "TermsDeskModel", name := "licenceNow", desc := "(I)I" } : Jvm.MethodName)) ∈ lw_all := lw_g (lw_at lw_m10 38 rfl) rfl
theorem q2267 : (Jvm.Cond.privateMethod ({ cls := "TermsDeskModel", name := "licenceNow", desc := "(I)I" } : Jvm.MethodName)) ∈ lw_tbl := lw_at lw_m10 39 rfl
theorem q2268 : (Jvm.Cond.instanceMethod ({ cls := "TermsDeskModel", name := "licenceNow", desc := "(I)I" } : Jvm.MethodName)) ∈ lw_all := lw_g (lw_at lw_m10 40 rfl) rfl
theorem q2269 : (Jvm.Cond.code ({ cls := "TermsDeskModel", name := "licenceNow", desc := "(I)I" } : Jvm.MethodName) prog_17_method_29_code (2 : Nat) (Option.some Jvm.ClassFile.FieldType.int)) ∈ lw_all := lw_g (lw_at lw_m10 41 rfl) rfl
theorem q2270 : (Jvm.Cond.methodLink "TermsDeskModel" (178 : Nat) ({ cls := "TermsDeskModel", name := "tells", desc := "(IIII)V" } : Jvm.MethodName)) ∈ lw_all := lw_g (lw_at lw_m10 42 rfl) rfl
theorem q2271 : (Jvm.Cond.privateMethod ({ cls := "TermsDeskModel", name := "tells", desc := "(IIII)V" } : Jvm.MethodName)) ∈ lw_tbl := lw_at lw_m10 43 rfl
theorem q2272 : (Jvm.Cond.instanceMethod ({ cls := "TermsDeskModel", name := "tells", desc := "(IIII)V" } : Jvm.MethodName)) ∈ lw_all := lw_g (lw_at lw_m10 44 rfl) rfl
theorem q2273 : (Jvm.Cond.code ({ cls := "TermsDeskModel", name := "tells", desc := "(IIII)V" } : Jvm.MethodName) prog_17_method_36_code (5 : Nat) (Option.none : Option Jvm.ClassFile.FieldType)) ∈ lw_all := lw_g (lw_at lw_m10 45 rfl) rfl
theorem q2274 : (Jvm.Cond.methodLink "TermsDeskModel" (182 : Nat) ({ cls := "TermsDeskModel", name := "isAgainst", desc := "(III)Z" } : Jvm.MethodName)) ∈ lw_all := lw_g (lw_at lw_m10 46 rfl) rfl
theorem q2275 : (Jvm.Cond.privateMethod ({ cls := "TermsDeskModel", name := "isAgainst", desc := "(III)Z" } : Jvm.MethodName)) ∈ lw_tbl := lw_at lw_m10 47 rfl
theorem q2276 : (Jvm.Cond.instanceMethod ({ cls := "TermsDeskModel", name := "isAgainst", desc := "(III)Z" } : Jvm.MethodName)) ∈ lw_all := lw_g (lw_at lw_m10 48 rfl) rfl
theorem q2277 : (Jvm.Cond.code ({ cls := "TermsDeskModel", name := "isAgainst", desc := "(III)Z" } : Jvm.MethodName) prog_17_method_34_code (4 : Nat) (Option.some Jvm.ClassFile.FieldType.boolean)) ∈ lw_all := lw_g (lw_at lw_m10 49 rfl) rfl
theorem q2278 : (Jvm.Cond.methodLink "TermsDeskModel" (168 : Nat) ({ cls := "TermsDeskModel", name := "dueNow", desc := "(I)I" } : Jvm.MethodName)) ∈ lw_all := lw_g (lw_at lw_m10 50 rfl) rfl
theorem q2279 : (Jvm.Cond.privateMethod ({ cls := "TermsDeskModel", name := "dueNow", desc := "(I)I" } : Jvm.MethodName)) ∈ lw_tbl := lw_at lw_m10 51 rfl
theorem q2280 : (Jvm.Cond.instanceMethod ({ cls := "TermsDeskModel", name := "dueNow", desc := "(I)I" } : Jvm.MethodName)) ∈ lw_all := lw_g (lw_at lw_m10 52 rfl) rfl
theorem q2281 : (Jvm.Cond.code ({ cls := "TermsDeskModel", name := "dueNow", desc := "(I)I" } : Jvm.MethodName) prog_17_method_32_code (2 : Nat) (Option.some Jvm.ClassFile.FieldType.int)) ∈ lw_all := lw_g (lw_at lw_m10 53 rfl) rfl
theorem q2282 : (Jvm.Cond.methodLink "TermsDeskModel" (164 : Nat) ({ cls := "TermsDeskModel", name := "demands", desc := "(II)I" } : Jvm.MethodName)) ∈ lw_all := lw_g (lw_at lw_m10 54 rfl) rfl
theorem q2283 : (Jvm.Cond.privateMethod ({ cls := "TermsDeskModel", name := "demands", desc := "(II)I" } : Jvm.MethodName)) ∈ lw_tbl := lw_at lw_m10 55 rfl
theorem q2284 : (Jvm.Cond.instanceMethod ({ cls := "TermsDeskModel", name := "demands", desc := "(II)I" } : Jvm.MethodName)) ∈ lw_all := lw_g (lw_at lw_m10 56 rfl) rfl
theorem q2285 : (Jvm.Cond.code ({ cls := "TermsDeskModel", name := "demands", desc := "(II)I" } : Jvm.MethodName) prog_17_method_30_code (3 : Nat) (Option.some Jvm.ClassFile.FieldType.int)) ∈ lw_all := lw_g (lw_at lw_m10 57 rfl) rfl
theorem q2286 : (Jvm.Cond.methodLink "TermsDeskModel" (171 : Nat) ({ cls := "TermsDeskModel", name := "isBound", desc := "(II)Z" } : Jvm.MethodName)) ∈ lw_all := lw_g (lw_at lw_m10 58 rfl) rfl
theorem q2287 : (Jvm.Cond.privateMethod ({ cls := "TermsDeskModel", name := "isBound", desc := "(II)Z" } : Jvm.MethodName)) ∈ lw_tbl := lw_at lw_m10 59 rfl
theorem q2288 : (Jvm.Cond.instanceMethod ({ cls := "TermsDeskModel", name := "isBound", desc := "(II)Z" } : Jvm.MethodName)) ∈ lw_all := lw_g (lw_at lw_m10 60 rfl) rfl
theorem q2289 : (Jvm.Cond.code ({ cls := "TermsDeskModel", name := "isBound", desc := "(II)Z" } : Jvm.MethodName) prog_17_method_33_code (4 : Nat) (Option.some Jvm.ClassFile.FieldType.boolean)) ∈ lw_all := lw_g (lw_at lw_m10 61 rfl) rfl
theorem q2291 : (Jvm.Cond.instanceMethod ({ cls := "TermsDeskModel", name := "clash", desc := "(IIII)I" } : Jvm.MethodName)) ∈ lw_all := lw_g (lw_at lw_m10 63 rfl) rfl
theorem q2292 : (Jvm.Cond.selects "TermsDeskModel" ({ cls := "TermsDeskModel", name := "clash", desc := "(IIII)I" } : Jvm.MethodName) ({ cls := "TermsDeskModel", name := "clash", desc := "(IIII)I" } : Jvm.MethodName)) ∈ lw_all := lw_g (lw_at lw_m10 64 rfl) rfl
theorem q2293 : (Jvm.Cond.code ({ cls := "TermsDeskModel", name := "clash", desc := "(IIII)I" } : Jvm.MethodName) prog_17_method_38_code (6 : Nat) (Option.some Jvm.ClassFile.FieldType.int)) ∈ lw_all := lw_g (lw_at lw_m10 65 rfl) rfl
theorem q2295 : (Jvm.Cond.instanceMethod ({ cls := "TermsDeskModel", name := "due", desc := "(III)I" } : Jvm.MethodName)) ∈ lw_all := lw_g (lw_at lw_m10 67 rfl) rfl
theorem q2296 : (Jvm.Cond.selects "TermsDeskModel" ({ cls := "TermsDeskModel", name := "due", desc := "(III)I" } : Jvm.MethodName) ({ cls := "TermsDeskModel", name := "due", desc := "(III)I" } : Jvm.MethodName)) ∈ lw_all := lw_g (lw_at lw_m10 68 rfl) rfl
theorem q2297 : (Jvm.Cond.code ({ cls := "TermsDeskModel", name := "due", desc := "(III)I" } : Jvm.MethodName) prog_17_method_40_code (4 : Nat) (Option.some Jvm.ClassFile.FieldType.int)) ∈ lw_all := lw_g (lw_at lw_m10 69 rfl) rfl
theorem q2298 : (Jvm.Cond.methodLink "TermsDeskModel" (195 : Nat) ({ cls := "TermsDeskModel", name := "dueOfAll", desc := "()I" } : Jvm.MethodName)) ∈ lw_all := lw_g (lw_at lw_m10 70 rfl) rfl
theorem q2299 : (Jvm.Cond.privateMethod ({ cls := "TermsDeskModel", name := "dueOfAll", desc := "()I" } : Jvm.MethodName)) ∈ lw_tbl := lw_at lw_m10 71 rfl
theorem q2300 : (Jvm.Cond.instanceMethod ({ cls := "TermsDeskModel", name := "dueOfAll", desc := "()I" } : Jvm.MethodName)) ∈ lw_all := lw_g (lw_at lw_m10 72 rfl) rfl
theorem q2301 : (Jvm.Cond.code ({ cls := "TermsDeskModel", name := "dueOfAll", desc := "()I" } : Jvm.MethodName) prog_17_method_39_code (3 : Nat) (Option.some Jvm.ClassFile.FieldType.int)) ∈ lw_all := lw_g (lw_at lw_m10 73 rfl) rfl
theorem q2303 : (Jvm.Cond.instanceMethod ({ cls := "TermsDeskModel", name := "least", desc := "(II)I" } : Jvm.MethodName)) ∈ lw_all := lw_g (lw_at lw_m10 75 rfl) rfl
theorem q2304 : (Jvm.Cond.selects "TermsDeskModel" ({ cls := "TermsDeskModel", name := "least", desc := "(II)I" } : Jvm.MethodName) ({ cls := "TermsDeskModel", name := "least", desc := "(II)I" } : Jvm.MethodName)) ∈ lw_all := lw_g (lw_at lw_m10 76 rfl) rfl
theorem q2305 : (Jvm.Cond.code ({ cls := "TermsDeskModel", name := "least", desc := "(II)I" } : Jvm.MethodName) prog_17_method_42_code (3 : Nat) (Option.some Jvm.ClassFile.FieldType.int)) ∈ lw_all := lw_g (lw_at lw_m10 77 rfl) rfl
theorem q2306 : (Jvm.Cond.methodLink "TermsDeskModel" (199 : Nat) ({ cls := "TermsDeskModel", name := "leastOf", desc := "(II)I" } : Jvm.MethodName)) ∈ lw_all := lw_g (lw_at lw_m10 78 rfl) rfl
theorem q2307 : (Jvm.Cond.privateMethod ({ cls := "TermsDeskModel", name := "leastOf", desc := "(II)I" } : Jvm.MethodName)) ∈ lw_tbl := lw_at lw_m10 79 rfl
theorem q2308 : (Jvm.Cond.instanceMethod ({ cls := "TermsDeskModel", name := "leastOf", desc := "(II)I" } : Jvm.MethodName)) ∈ lw_all := lw_g (lw_at lw_m10 80 rfl) rfl
theorem q2309 : (Jvm.Cond.code ({ cls := "TermsDeskModel", name := "leastOf", desc := "(II)I" } : Jvm.MethodName) prog_17_method_41_code (6 : Nat) (Option.some Jvm.ClassFile.FieldType.int)) ∈ lw_all := lw_g (lw_at lw_m10 81 rfl) rfl
theorem q2311 : (Jvm.Cond.instanceMethod ({ cls := "TermsDeskModel", name := "remove", desc := "(II)I" } : Jvm.MethodName)) ∈ lw_all := lw_g (lw_at lw_m10 83 rfl) rfl
theorem q2312 : (Jvm.Cond.selects "TermsDeskModel" ({ cls := "TermsDeskModel", name := "remove", desc := "(II)I" } : Jvm.MethodName) ({ cls := "TermsDeskModel", name := "remove", desc := "(II)I" } : Jvm.MethodName)) ∈ lw_all := lw_g (lw_at lw_m10 84 rfl) rfl
theorem q2313 : (Jvm.Cond.code ({ cls := "TermsDeskModel", name := "remove", desc := "(II)I" } : Jvm.MethodName) prog_17_method_43_code (6 : Nat) (Option.some Jvm.ClassFile.FieldType.int)) ∈ lw_all := lw_g (lw_at lw_m10 85 rfl) rfl
theorem q2315 : (Jvm.Cond.instanceMethod ({ cls := "TermsDeskModel", name := "choice", desc := "(II)I" } : Jvm.MethodName)) ∈ lw_all := lw_g (lw_at lw_m10 87 rfl) rfl
theorem q2316 : (Jvm.Cond.selects "TermsDeskModel" ({ cls := "TermsDeskModel", name := "choice", desc := "(II)I" } : Jvm.MethodName) ({ cls := "TermsDeskModel", name := "choice", desc := "(II)I" } : Jvm.MethodName)) ∈ lw_all := lw_g (lw_at lw_m10 88 rfl) rfl
theorem q2317 : (Jvm.Cond.code ({ cls := "TermsDeskModel", name := "choice", desc := "(II)I" } : Jvm.MethodName) prog_17_method_46_code (3 : Nat) (Option.some Jvm.ClassFile.FieldType.int)) ∈ lw_all := lw_g (lw_at lw_m10 89 rfl) rfl
theorem q2318 : (Jvm.Cond.methodLink "TermsDeskModel" (205 : Nat) ({ cls := "TermsDeskModel", name := "choiceOf", desc := "(II)I" } : Jvm.MethodName)) ∈ lw_all := lw_g (lw_at lw_m10 90 rfl) rfl
theorem q2319 : (Jvm.Cond.privateMethod ({ cls := "TermsDeskModel", name := "choiceOf", desc := "(II)I" } : Jvm.MethodName)) ∈ lw_tbl := lw_at lw_m10 91 rfl
theorem q2320 : (Jvm.Cond.instanceMethod ({ cls := "TermsDeskModel", name := "choiceOf", desc := "(II)I" } : Jvm.MethodName)) ∈ lw_all := lw_g (lw_at lw_m10 92 rfl) rfl
theorem q2321 : (Jvm.Cond.code ({ cls := "TermsDeskModel", name := "choiceOf", desc := "(II)I" } : Jvm.MethodName) prog_17_method_45_code (8 : Nat) (Option.some Jvm.ClassFile.FieldType.int)) ∈ lw_all := lw_g (lw_at lw_m10 93 rfl) rfl
theorem q2322 : (Jvm.Cond.methodLink "TermsDeskModel" (202 : Nat) ({ cls := "TermsDeskModel", name := "twos", desc := "(I)I" } : Jvm.MethodName)) ∈ lw_all := lw_g (lw_at lw_m10 94 rfl) rfl
theorem q2323 : (Jvm.Cond.privateMethod ({ cls := "TermsDeskModel", name := "twos", desc := "(I)I" } : Jvm.MethodName)) ∈ lw_tbl := lw_at lw_m10 95 rfl
theorem q2324 : (Jvm.Cond.instanceMethod ({ cls := "TermsDeskModel", name := "twos", desc := "(I)I" } : Jvm.MethodName)) ∈ lw_all := lw_g (lw_at lw_m10 96 rfl) rfl
theorem q2325 : (Jvm.Cond.code ({ cls := "TermsDeskModel", name := "twos", desc := "(I)I" } : Jvm.MethodName) prog_17_method_44_code (4 : Nat) (Option.some Jvm.ClassFile.FieldType.int)) ∈ lw_all := lw_g (lw_at lw_m10 97 rfl) rfl
theorem q2327 : (Jvm.Cond.instanceMethod ({ cls := "TermsDeskModel", name := "choose", desc := "(II)I" } : Jvm.MethodName)) ∈ lw_all := lw_g (lw_at lw_m10 99 rfl) rfl
theorem q2328 : (Jvm.Cond.selects "TermsDeskModel" ({ cls := "TermsDeskModel", name := "choose", desc := "(II)I" } : Jvm.MethodName) ({ cls := "TermsDeskModel", name := "choose", desc := "(II)I" } : Jvm.MethodName)) ∈ lw_all := lw_g (lw_at lw_m10 100 rfl) rfl
theorem q2329 : (Jvm.Cond.code ({ cls := "TermsDeskModel", name := "choose", desc := "(II)I" } : Jvm.MethodName) prog_17_method_47_code (6 : Nat) (Option.some Jvm.ClassFile.FieldType.int)) ∈ lw_all := lw_g (lw_at lw_m10 101 rfl) rfl
theorem q2331 : (Jvm.Cond.instanceMethod ({ cls := "TermsDeskModel", name := "ship", desc := "(I)I" } : Jvm.MethodName)) ∈ lw_all := lw_g (lw_at lw_m10 103 rfl) rfl
theorem q2332 : (Jvm.Cond.selects "TermsDeskModel" ({ cls := "TermsDeskModel", name := "ship", desc := "(I)I" } : Jvm.MethodName) ({ cls := "TermsDeskModel", name := "ship", desc := "(I)I" } : Jvm.MethodName)) ∈ lw_all := lw_g (lw_at lw_m10 104 rfl) rfl
theorem q2333 : (Jvm.Cond.code ({ cls := "TermsDeskModel", name := "ship", desc := "(I)I" } : Jvm.MethodName) prog_17_method_51_code (3 : Nat) (Option.some Jvm.ClassFile.FieldType.int)) ∈ lw_all := lw_g (lw_at lw_m10 105 rfl) rfl
theorem q2334 : (Jvm.Cond.methodLink "TermsDeskModel" (215 : Nat) ({ cls := "TermsDeskModel", name := "writesNotice", desc := "(I)V" } : Jvm.MethodName)) ∈ lw_all := lw_g (lw_at lw_m10 106 rfl) rfl
theorem q2335 : (Jvm.Cond.privateMethod ({ cls := "TermsDeskModel", name := "writesNotice", desc := "(I)V" } : Jvm.MethodName)) ∈ lw_tbl := lw_at lw_m10 107 rfl
theorem q2336 : (Jvm.Cond.instanceMethod ({ cls := "TermsDeskModel", name := "writesNotice", desc := "(I)V" } : Jvm.MethodName)) ∈ lw_all := lw_g (lw_at lw_m10 108 rfl) rfl
theorem q2337 : (Jvm.Cond.code ({ cls := "TermsDeskModel", name := "writesNotice", desc := "(I)V" } : Jvm.MethodName) prog_17_method_50_code (6 : Nat) (Option.none : Option Jvm.ClassFile.FieldType)) ∈ lw_all := lw_g (lw_at lw_m10 109 rfl) rfl
theorem q2338 : (Jvm.Cond.methodLink "TermsDeskModel" (208 : Nat) ({ cls := "TermsDeskModel", name := "writes", desc := "(I)V" } : Jvm.MethodName)) ∈ lw_all := lw_g (lw_at lw_m10 110 rfl) rfl
theorem q2339 : (Jvm.Cond.privateMethod ({ cls := "TermsDeskModel", name := "writes", desc := "(I)V" } : Jvm.MethodName)) ∈ lw_tbl := lw_at lw_m10 111 rfl
theorem q2340 : (Jvm.Cond.instanceMethod ({ cls := "TermsDeskModel", name := "writes", desc := "(I)V" } : Jvm.MethodName)) ∈ lw_all := lw_g (lw_at lw_m10 112 rfl) rfl
theorem q2341 : (Jvm.Cond.code ({ cls := "TermsDeskModel", name := "writes", desc := "(I)V" } : Jvm.MethodName) prog_17_method_48_code (2 : Nat) (Option.none : Option Jvm.ClassFile.FieldType)) ∈ lw_all := lw_g (lw_at lw_m10 113 rfl) rfl
theorem q2342 : (Jvm.Cond.methodLink "TermsDeskModel" (212 : Nat) ({ cls := "TermsDeskModel", name := "writesSet", desc := "(I)V" } : Jvm.MethodName)) ∈ lw_all := lw_g (lw_at lw_m10 114 rfl) rfl
theorem q2343 : (Jvm.Cond.privateMethod ({ cls := "TermsDeskModel", name := "writesSet", desc := "(I)V" } : Jvm.MethodName)) ∈ lw_tbl := lw_at lw_m10 115 rfl
theorem q2344 : (Jvm.Cond.instanceMethod ({ cls := "TermsDeskModel", name := "writesSet", desc := "(I)V" } : Jvm.MethodName)) ∈ lw_all := lw_g (lw_at lw_m10 116 rfl) rfl
theorem q2345 : (Jvm.Cond.code ({ cls := "TermsDeskModel", name := "writesSet", desc := "(I)V" } : Jvm.MethodName) prog_17_method_49_code (3 : Nat) (Option.none : Option Jvm.ClassFile.FieldType)) ∈ lw_all := lw_g (lw_at lw_m10 117 rfl) rfl
theorem q2347 : (Jvm.Cond.instanceMethod ({ cls := "TermsDeskModel", name := "refusal", desc := "(I)I" } : Jvm.MethodName)) ∈ lw_all := lw_g (lw_at lw_m10 119 rfl) rfl
theorem q2348 : (Jvm.Cond.selects "TermsDeskModel" ({ cls := "TermsDeskModel", name := "refusal", desc := "(I)I" } : Jvm.MethodName) ({ cls := "TermsDeskModel", name := "refusal", desc := "(I)I" } : Jvm.MethodName)) ∈ lw_all := lw_g (lw_at lw_m10 120 rfl) rfl
theorem q2349 : (Jvm.Cond.code ({ cls := "TermsDeskModel", name := "refusal", desc := "(I)I" } : Jvm.MethodName) prog_17_method_52_code (2 : Nat) (Option.some Jvm.ClassFile.FieldType.int)) ∈ lw_all := lw_g (lw_at lw_m10 121 rfl) rfl
theorem q2351 : (Jvm.Cond.instanceMethod ({ cls := "TermsDeskModel", name := "notice", desc := "(II)C" } : Jvm.MethodName)) ∈ lw_all := lw_g (lw_at lw_m10 123 rfl) rfl
theorem q2352 : (Jvm.Cond.selects "TermsDeskModel" ({ cls := "TermsDeskModel", name := "notice", desc := "(II)C" } : Jvm.MethodName) ({ cls := "TermsDeskModel", name := "notice", desc := "(II)C" } : Jvm.MethodName)) ∈ lw_all := lw_g (lw_at lw_m10 124 rfl) rfl
theorem q2353 : (Jvm.Cond.code ({ cls := "TermsDeskModel", name := "notice", desc := "(II)C" } : Jvm.MethodName) prog_17_method_53_code (3 : Nat) (Option.some Jvm.ClassFile.FieldType.char)) ∈ lw_all := lw_g (lw_at lw_m10 125 rfl) rfl
theorem q2355 : (Jvm.Cond.instanceMethod ({ cls := "TermsDeskModel", name := "desk", desc := "(I)I" } : Jvm.MethodName)) ∈ lw_all := lw_g (lw_at lw_m10 127 rfl) rfl
theorem q2356 : (Jvm.Cond.selects "TermsDeskModel" ({ cls := "TermsDeskModel", name := "desk", desc := "(I)I" } : Jvm.MethodName) ({ cls := "TermsDeskModel", name := "desk", desc := "(I)I" } : Jvm.MethodName)) ∈ lw_all := lw_g (lw_at lw_m10 128 rfl) rfl
theorem q2357 : (Jvm.Cond.code ({ cls := "TermsDeskModel", name := "desk", desc := "(I)I" } : Jvm.MethodName) prog_17_method_54_code (4 : Nat) (Option.some Jvm.ClassFile.FieldType.int)) ∈ lw_all := lw_g (lw_at lw_m10 129 rfl) rfl
theorem q2359 : (Jvm.Cond.instanceMethod ({ cls := "TermsDeskModel", name := "demands", desc := "(I)J" } : Jvm.MethodName)) ∈ lw_all := lw_g (lw_at lw_m10 131 rfl) rfl
theorem q2360 : (Jvm.Cond.selects "TermsDeskModel" ({ cls := "TermsDeskModel", name := "demands", desc := "(I)J" } : Jvm.MethodName) ({ cls := "TermsDeskModel", name := "demands", desc := "(I)J" } : Jvm.MethodName)) ∈ lw_all := lw_g (lw_at lw_m10 132 rfl) rfl
theorem q2361 : (Jvm.Cond.code ({ cls := "TermsDeskModel", name := "demands", desc := "(I)J" } : Jvm.MethodName) prog_17_method_55_code (5 : Nat) (Option.some Jvm.ClassFile.FieldType.long)) ∈ lw_all := lw_g (lw_at lw_m10 133 rfl) rfl
theorem q2363 : (Jvm.Cond.instanceMethod ({ cls := "TermsDeskModel", name := "licence", desc := "(II)I" } : Jvm.MethodName)) ∈ lw_all := lw_g (lw_at lw_m10 135 rfl) rfl
theorem q2364 : (Jvm.Cond.selects "TermsDeskModel" ({ cls := "TermsDeskModel", name := "licence", desc := "(II)I" } : Jvm.MethodName) ({ cls := "TermsDeskModel", name := "licence", desc := "(II)I" } : Jvm.MethodName)) ∈ lw_all := lw_g (lw_at lw_m10 136 rfl) rfl
theorem q2365 : (Jvm.Cond.code ({ cls := "TermsDeskModel", name := "licence", desc := "(II)I" } : Jvm.MethodName) prog_17_method_56_code (5 : Nat) (Option.some Jvm.ClassFile.FieldType.int)) ∈ lw_all := lw_g (lw_at lw_m10 137 rfl) rfl
theorem q2367 : (Jvm.Cond.instanceMethod ({ cls := "TermsDeskModel", name := "file", desc := "(II)I" } : Jvm.MethodName)) ∈ lw_all := lw_g (lw_at lw_m10 139 rfl) rfl
theorem q2368 : (Jvm.Cond.selects "TermsDeskModel" ({ cls := "TermsDeskModel", name := "file", desc := "(II)I" } : Jvm.MethodName) ({ cls := "TermsDeskModel", name := "file", desc := "(II)I" } : Jvm.MethodName)) ∈ lw_all := lw_g (lw_at lw_m10 140 rfl) rfl
theorem q2369 : (Jvm.Cond.code ({ cls := "TermsDeskModel", name := "file", desc := "(II)I" } : Jvm.MethodName) prog_17_method_57_code (5 : Nat) (Option.some Jvm.ClassFile.FieldType.int)) ∈ lw_all := lw_g (lw_at lw_m10 141 rfl) rfl
theorem q2371 : (Jvm.Cond.instanceMethod ({ cls := "TermsDeskModel", name := "work", desc := "(II)I" } : Jvm.MethodName)) ∈ lw_all := lw_g (lw_at lw_m10 143 rfl) rfl
theorem q2372 : (Jvm.Cond.selects "TermsDeskModel" ({ cls := "TermsDeskModel", name := "work", desc := "(II)I" } : Jvm.MethodName) ({ cls := "TermsDeskModel", name := "work", desc := "(II)I" } : Jvm.MethodName)) ∈ lw_all := lw_g (lw_at lw_m10 144 rfl) rfl
theorem q2373 : (Jvm.Cond.code ({ cls := "TermsDeskModel", name := "work", desc := "(II)I" } : Jvm.MethodName) prog_17_method_59_code (3 : Nat) (Option.some Jvm.ClassFile.FieldType.int)) ∈ lw_all := lw_g (lw_at lw_m10 145 rfl) rfl
theorem q2374 : (Jvm.Cond.methodLink "TermsDeskModel" (218 : Nat) ({ cls := "TermsDeskModel", name := "bulkOf", desc := "(I)I" } : Jvm.MethodName)) ∈ lw_all := lw_g (lw_at lw_m10 146 rfl) rfl
theorem q2375 : (Jvm.Cond.privateMethod ({ cls := "TermsDeskModel", name := "bulkOf", desc := "(I)I" } : Jvm.MethodName)) ∈ lw_tbl := lw_at lw_m10 147 rfl
theorem q2376 : (Jvm.Cond.instanceMethod ({ cls := "TermsDeskModel", name := "bulkOf", desc := "(I)I" } : Jvm.MethodName)) ∈ lw_all := lw_g (lw_at lw_m10 148 rfl) rfl
theorem q2377 : (Jvm.Cond.code ({ cls := "TermsDeskModel", name := "bulkOf", desc := "(I)I" } : Jvm.MethodName) prog_17_method_58_code (4 : Nat) (Option.some Jvm.ClassFile.FieldType.int)) ∈ lw_all := lw_g (lw_at lw_m10 149 rfl) rfl
theorem q2379 : (Jvm.Cond.instanceMethod ({ cls := "TermsDeskModel", name := "links", desc := "(II)I" } : Jvm.MethodName)) ∈ lw_all := lw_g (lw_at lw_m10 151 rfl) rfl
theorem q2380 : (Jvm.Cond.selects "TermsDeskModel" ({ cls := "TermsDeskModel", name := "links", desc := "(II)I" } : Jvm.MethodName) ({ cls := "TermsDeskModel", name := "links", desc := "(II)I" } : Jvm.MethodName)) ∈ lw_all := lw_g (lw_at lw_m10 152 rfl) rfl
theorem q2381 : (Jvm.Cond.code ({ cls := "TermsDeskModel", name := "links", desc := "(II)I" } : Jvm.MethodName) prog_17_method_60_code (7 : Nat) (Option.some Jvm.ClassFile.FieldType.int)) ∈ lw_all := lw_g (lw_at lw_m10 153 rfl) rfl
theorem q2382 : (Jvm.Cond.methodLink "TermsDeskModel" (221 : Nat) ({ cls := "TermsDeskModel", name := "joins", desc := "(II)Z" } : Jvm.MethodName)) ∈ lw_all := lw_g (lw_at lw_m10 154 rfl) rfl
theorem q2383 : (Jvm.Cond.privateMethod ({ cls := "TermsDeskModel", name := "joins", desc := "(II)Z" } : Jvm.MethodName)) ∈ lw_tbl := lw_at lw_m10 155 rfl
theorem q2384 : (Jvm.Cond.instanceMethod ({ cls := "TermsDeskModel", name := "joins", desc := "(II)Z" } : Jvm.MethodName)) ∈ lw_all := lw_g (lw_at lw_m10 156 rfl) rfl
theorem q2385 : (Jvm.Cond.code ({ cls := "TermsDeskModel", name := "joins", desc := "(II)Z" } : Jvm.MethodName) prog_17_method_61_code (4 : Nat) (Option.some Jvm.ClassFile.FieldType.boolean)) ∈ lw_all := lw_g (lw_at lw_m10 157 rfl) rfl
theorem q2387 : (Jvm.Cond.instanceMethod ({ cls := "TermsDeskModel", name := "meanSize", desc := "(I)D" } : Jvm.MethodName)) ∈ lw_all := lw_g (lw_at lw_m10 159 rfl) rfl
theorem q2388 : (Jvm.Cond.selects "TermsDeskModel" ({ cls := "TermsDeskModel", name := "meanSize", desc := "(I)D" } : Jvm.MethodName) ({ cls := "TermsDeskModel", name := "meanSize", desc := "(I)D" } : Jvm.MethodName)) ∈ lw_all := lw_g (lw_at lw_m10 160 rfl) rfl
theorem q2389 : (Jvm.Cond.code ({ cls := "TermsDeskModel", name := "meanSize", desc := "(I)D" } : Jvm.MethodName) prog_17_method_62_code (3 : Nat) (Option.some Jvm.ClassFile.FieldType.double)) ∈ lw_all := lw_g (lw_at lw_m10 161 rfl) rfl
theorem q2391 : (Jvm.Cond.instanceMethod ({ cls := "TermsDeskModel", name := "share", desc := "(I)F" } : Jvm.MethodName)) ∈ lw_all := lw_g (lw_at lw_m10 163 rfl) rfl
theorem q2392 : (Jvm.Cond.selects "TermsDeskModel" ({ cls := "TermsDeskModel", name := "share", desc := "(I)F" } : Jvm.MethodName) ({ cls := "TermsDeskModel", name := "share", desc := "(I)F" } : Jvm.MethodName)) ∈ lw_all := lw_g (lw_at lw_m10 164 rfl) rfl
theorem q2393 : (Jvm.Cond.code ({ cls := "TermsDeskModel", name := "share", desc := "(I)F" } : Jvm.MethodName) prog_17_method_63_code (4 : Nat) (Option.some Jvm.ClassFile.FieldType.float)) ∈ lw_all := lw_g (lw_at lw_m10 165 rfl) rfl
theorem q2395 : (Jvm.Cond.instanceMethod ({ cls := "TermsDeskModel", name := "isConsistent", desc := "()Z" } : Jvm.MethodName)) ∈ lw_all := lw_g (lw_at lw_m10 167 rfl) rfl
theorem q2396 : (Jvm.Cond.selects "TermsDeskModel" ({ cls := "TermsDeskModel", name := "isConsistent", desc := "()Z" } : Jvm.MethodName) ({ cls := "TermsDeskModel", name := "isConsistent", desc := "()Z" } : Jvm.MethodName)) ∈ lw_all := lw_g (lw_at lw_m10 168 rfl) rfl
theorem q2397 : (Jvm.Cond.code ({ cls := "TermsDeskModel", name := "isConsistent", desc := "()Z" } : Jvm.MethodName) prog_17_method_64_code (6 : Nat) (Option.some Jvm.ClassFile.FieldType.boolean)) ∈ lw_all := lw_g (lw_at lw_m10 169 rfl) rfl
theorem q2399 : (Jvm.Cond.instanceMethod ({ cls := "TermsDeskModel", name := "store", desc := "(I)I" } : Jvm.MethodName)) ∈ lw_all := lw_g (lw_at lw_m10 171 rfl) rfl
theorem q2400 : (Jvm.Cond.selects "TermsDeskModel" ({ cls := "TermsDeskModel", name := "store", desc := "(I)I" } : Jvm.MethodName) ({ cls := "TermsDeskModel", name := "store", desc := "(I)I" } : Jvm.MethodName)) ∈ lw_all := lw_g (lw_at lw_m10 172 rfl) rfl
theorem q2401 : (Jvm.Cond.code ({ cls := "TermsDeskModel", name := "store", desc := "(I)I" } : Jvm.MethodName) prog_17_method_65_code (6 : Nat) (Option.some Jvm.ClassFile.FieldType.int)) ∈ lw_all := lw_g (lw_at lw_m10 173 rfl) rfl
theorem q2403 : (Jvm.Cond.instanceMethod ({ cls := "TermsDeskModel", name := "mix", desc := "(III)I" } : Jvm.MethodName)) ∈ lw_all := lw_g (lw_at lw_m10 175 rfl) rfl
theorem q2404 : (Jvm.Cond.selects "TermsDeskModel" ({ cls := "TermsDeskModel", name := "mix", desc := "(III)I" } : Jvm.MethodName) ({ cls := "TermsDeskModel", name := "mix", desc := "(III)I" } : Jvm.MethodName)) ∈ lw_all := lw_g (lw_at lw_m10 176 rfl) rfl
theorem q2405 : (Jvm.Cond.code ({ cls := "TermsDeskModel", name := "mix", desc := "(III)I" } : Jvm.MethodName) prog_17_method_66_code (6 : Nat) (Option.some Jvm.ClassFile.FieldType.int)) ∈ lw_all := lw_g (lw_at lw_m10 177 rfl) rfl
theorem q2407 : (Jvm.Cond.instanceMethod ({ cls := "TermsDeskModel", name := "element", desc := "(II)J" } : Jvm.MethodName)) ∈ lw_all := lw_g (lw_at lw_m10 179 rfl) rfl
theorem q2408 : (Jvm.Cond.selects "TermsDeskModel" ({ cls := "TermsDeskModel", name := "element", desc := "(II)J" } : Jvm.MethodName) ({ cls := "TermsDeskModel", name := "element", desc := "(II)J" } : Jvm.MethodName)) ∈ lw_all := lw_g (lw_at lw_m10 180 rfl) rfl
theorem q2409 : (Jvm.Cond.code ({ cls := "TermsDeskModel", name := "element", desc := "(II)J" } : Jvm.MethodName) prog_17_method_67_code (3 : Nat) (Option.some Jvm.ClassFile.FieldType.long)) ∈ lw_all := lw_g (lw_at lw_m10 181 rfl) rfl
theorem q2411 : (Jvm.Cond.instanceMethod ({ cls := "TermsDeskModel", name := "append", desc := "(I)I" } : Jvm.MethodName)) ∈ lw_all := lw_g (lw_at lw_m10 183 rfl) rfl
theorem q2412 : (Jvm.Cond.selects "TermsDeskModel" ({ cls := "TermsDeskModel", name := "append", desc := "(I)I" } : Jvm.MethodName) ({ cls := "TermsDeskModel", name := "append", desc := "(I)I" } : Jvm.MethodName)) ∈ lw_all := lw_g (lw_at lw_m10 184 rfl) rfl
theorem q2413 : (Jvm.Cond.code ({ cls := "TermsDeskModel", name := "append", desc := "(I)I" } : Jvm.MethodName) prog_17_method_68_code (5 : Nat) (Option.some Jvm.ClassFile.FieldType.int)) ∈ lw_all := lw_g (lw_at lw_m10 185 rfl) rfl
theorem q2415 : (Jvm.Cond.instanceMethod ({ cls := "TermsDeskModel", name := "read", desc := "()I" } : Jvm.MethodName)) ∈ lw_all := lw_g (lw_at lw_m10 187 rfl) rfl
theorem q2416 : (Jvm.Cond.selects "TermsDeskModel" ({ cls := "TermsDeskModel", name := "read", desc := "()I" } : Jvm.MethodName) ({ cls := "TermsDeskModel", name := "read", desc := "()I" } : Jvm.MethodName)) ∈ lw_all := lw_g (lw_at lw_m10 188 rfl) rfl
theorem q2417 : (Jvm.Cond.code ({ cls := "TermsDeskModel", name := "read", desc := "()I" } : Jvm.MethodName) prog_17_method_74_code (3 : Nat) (Option.some Jvm.ClassFile.FieldType.int)) ∈ lw_all := lw_g (lw_at lw_m10 189 rfl) rfl
theorem q2418 : (Jvm.Cond.methodLink "TermsDeskModel" (253 : Nat) ({ cls := "TermsDeskModel", name := "isText", desc := "()Z" } : Jvm.MethodName)) ∈ lw_all := lw_g (lw_at lw_m10 190 rfl) rfl
theorem q2419 : (Jvm.Cond.privateMethod ({ cls := "TermsDeskModel", name := "isText", desc := "()Z" } : Jvm.MethodName)) ∈ lw_tbl := lw_at lw_m10 191 rfl
theorem q2420 : (Jvm.Cond.instanceMethod ({ cls := "TermsDeskModel", name := "isText", desc := "()Z" } : Jvm.MethodName)) ∈ lw_all := lw_g (lw_at lw_m10 192 rfl) rfl
theorem q2421 : (Jvm.Cond.code ({ cls := "TermsDeskModel", name := "isText", desc := "()Z" } : Jvm.MethodName) prog_17_method_72_code (1 : Nat) (Option.some Jvm.ClassFile.FieldType.boolean)) ∈ lw_all := lw_g (lw_at lw_m10 193 rfl) rfl
theorem q2422 : (Jvm.Cond.methodLink "TermsDeskModel" (230 : Nat) ({ cls := "TermsDeskModel", name := "isItem", desc := "()Z" } : Jvm.MethodName)) ∈ lw_all := lw_g (lw_at lw_m10 194 rfl) rfl
theorem q2423 : (Jvm.Cond.privateMethod ({ cls := "TermsDeskModel", name := "isItem", desc := "()Z" } : Jvm.MethodName)) ∈ lw_tbl := lw_at lw_m10 195 rfl
theorem q2424 : (Jvm.Cond.instanceMethod ({ cls := "TermsDeskModel", name := "isItem", desc := "()Z" } : Jvm.MethodName)) ∈ lw_all := lw_g (lw_at lw_m10 196 rfl) rfl
theorem q2425 : (Jvm.Cond.code ({ cls := "TermsDeskModel", name := "isItem", desc := "()Z" } : Jvm.MethodName) prog_17_method_71_code (4 : Nat) (Option.some Jvm.ClassFile.FieldType.boolean)) ∈ lw_all := lw_g (lw_at lw_m10 197 rfl) rfl
theorem q2426 : (Jvm.Cond.methodLink "TermsDeskModel" (224 : Nat) ({ cls := "TermsDeskModel", name := "digit", desc := "()I" } : Jvm.MethodName)) ∈ lw_all := lw_g (lw_at lw_m10 198 rfl) rfl
theorem q2427 : (Jvm.Cond.privateMethod ({ cls := "TermsDeskModel", name := "digit", desc := "()I" } : Jvm.MethodName)) ∈ lw_tbl := lw_at lw_m10 199 rfl
theorem q2428 : (Jvm.Cond.instanceMethod ({ cls := "TermsDeskModel", name := "digit", desc := "()I" } : Jvm.MethodName)) ∈ lw_all := lw_g (lw_at lw_m10 200 rfl) rfl
theorem q2429 : (Jvm.Cond.code ({ cls := "TermsDeskModel", name := "digit", desc := "()I" } : Jvm.MethodName) prog_17_method_70_code (1 : Nat) (Option.some Jvm.ClassFile.FieldType.int)) ∈ lw_all := lw_g (lw_at lw_m10 201 rfl) rfl
theorem q2430 : (Jvm.Cond.methodLink "TermsDeskModel" (227 : Nat) ({ cls := "TermsDeskModel", name := "takes", desc := "(I)Z" } : Jvm.MethodName)) ∈ lw_all := lw_g (lw_at lw_m10 202 rfl) rfl
theorem q2431 : (Jvm.Cond.privateMethod ({ cls := "TermsDeskModel", name := "takes", desc := "(I)Z" } : Jvm.MethodName)) ∈ lw_tbl := lw_at lw_m10 203 rfl
theorem q2432 : (Jvm.Cond.instanceMethod ({ cls := "TermsDeskModel", name := "takes", desc := "(I)Z" } : Jvm.MethodName)) ∈ lw_all := lw_g (lw_at lw_m10 204 rfl) rfl
theorem q2433 : (Jvm.Cond.code ({ cls := "TermsDeskModel", name := "takes", desc := "(I)Z" } : Jvm.MethodName) prog_17_method_69_code (2 : Nat) (Option.some Jvm.ClassFile.FieldType.boolean)) ∈ lw_all := lw_g (lw_at lw_m10 205 rfl) rfl
theorem q2434 : (Jvm.Cond.methodLink "TermsDeskModel" (256 : Nat) ({ cls := "TermsDeskModel", name := "does", desc := "(I)V" } : Jvm.MethodName)) ∈ lw_all := lw_g (lw_at lw_m10 206 rfl) rfl
theorem q2435 : (Jvm.Cond.privateMethod ({ cls := "TermsDeskModel", name := "does", desc := "(I)V" } : Jvm.MethodName)) ∈ lw_tbl := lw_at lw_m10 207 rfl
theorem q2436 : (Jvm.Cond.instanceMethod ({ cls := "TermsDeskModel", name := "does", desc := "(I)V" } : Jvm.MethodName)) ∈ lw_all := lw_g (lw_at lw_m10 208 rfl) rfl
theorem q2437 : (Jvm.Cond.code ({ cls := "TermsDeskModel", name := "does", desc := "(I)V" } : Jvm.MethodName) prog_17_method_73_code (5 : Nat) (Option.none : Option Jvm.ClassFile.FieldType)) ∈ lw_all := lw_g (lw_at lw_m10 209 rfl) rfl
theorem q2438 : (Jvm.Cond.methodLink "TermsDeskModel" (234 : Nat) ({ cls := "TermsDeskModel", name := "addFile", desc := "(III)I" } : Jvm.MethodName)) ∈ lw_all := lw_g (lw_at lw_m10 210 rfl) rfl
theorem q2439 : (Jvm.Cond.methodLink "TermsDeskModel" (238 : Nat) ({ cls := "TermsDeskModel", name := "addWork", desc := "()I" } : Jvm.MethodName)) ∈ lw_all := lw_g (lw_at lw_m10 211 rfl) rfl
theorem q2440 : (Jvm.Cond.methodLink "TermsDeskModel" (241 : Nat) ({ cls := "TermsDeskModel", name := "join", desc := "(IIZ)Z" } : Jvm.MethodName)) ∈ lw_all := lw_g (lw_at lw_m10 212 rfl) rfl
theorem q2441 : (Jvm.Cond.methodLink "TermsDeskModel" (244 : Nat) ({ cls := "TermsDeskModel", name := "link", desc := "(IIZ)Z" } : Jvm.MethodName)) ∈ lw_all := lw_g (lw_at lw_m10 213 rfl) rfl
theorem q2442 : (Jvm.Cond.methodLink "TermsDeskModel" (247 : Nat) ({ cls := "TermsDeskModel", name := "flip", desc := "(I)I" } : Jvm.MethodName)) ∈ lw_all := lw_g (lw_at lw_m10 214 rfl) rfl
theorem q2443 : (Jvm.Cond.methodLink "TermsDeskModel" (250 : Nat) ({ cls := "TermsDeskModel", name := "ship", desc := "(I)I" } : Jvm.MethodName)) ∈ lw_all := lw_g (lw_at lw_m10 215 rfl) rfl
theorem q2445 : (Jvm.Cond.instanceMethod ({ cls := "TermsDeskModel", name := "errorPosition", desc := "()I" } : Jvm.MethodName)) ∈ lw_all := lw_g (lw_at lw_m10 217 rfl) rfl
theorem q2446 : (Jvm.Cond.selects "TermsDeskModel" ({ cls := "TermsDeskModel", name := "errorPosition", desc := "()I" } : Jvm.MethodName) ({ cls := "TermsDeskModel", name := "errorPosition", desc := "()I" } : Jvm.MethodName)) ∈ lw_all := lw_g (lw_at lw_m10 218 rfl) rfl
theorem q2447 : (Jvm.Cond.code ({ cls := "TermsDeskModel", name := "errorPosition", desc := "()I" } : Jvm.MethodName) prog_17_method_75_code (1 : Nat) (Option.some Jvm.ClassFile.FieldType.int)) ∈ lw_all := lw_g (lw_at lw_m10 219 rfl) rfl
theorem q2449 : (Jvm.Cond.instanceMethod ({ cls := "TermsDeskModel", name := "refusedItem", desc := "()I" } : Jvm.MethodName)) ∈ lw_all := lw_g (lw_at lw_m10 221 rfl) rfl
theorem q2450 : (Jvm.Cond.selects "TermsDeskModel" ({ cls := "TermsDeskModel", name := "refusedItem", desc := "()I" } : Jvm.MethodName) ({ cls := "TermsDeskModel", name := "refusedItem", desc := "()I" } : Jvm.MethodName)) ∈ lw_all := lw_g (lw_at lw_m10 222 rfl) rfl
theorem q2451 : (Jvm.Cond.code ({ cls := "TermsDeskModel", name := "refusedItem", desc := "()I" } : Jvm.MethodName) prog_17_method_76_code (1 : Nat) (Option.some Jvm.ClassFile.FieldType.int)) ∈ lw_all := lw_g (lw_at lw_m10 223 rfl) rfl
theorem q2453 : (Jvm.Cond.instanceMethod ({ cls := "TermsDeskModel", name := "undo", desc := "()I" } : Jvm.MethodName)) ∈ lw_all := lw_g (lw_at lw_m10 225 rfl) rfl
theorem q2454 : (Jvm.Cond.selects "TermsDeskModel" ({ cls := "TermsDeskModel", name := "undo", desc := "()I" } : Jvm.MethodName) ({ cls := "TermsDeskModel", name := "undo", desc := "()I" } : Jvm.MethodName)) ∈ lw_all := lw_g (lw_at lw_m10 226 rfl) rfl
theorem q2455 : (Jvm.Cond.code ({ cls := "TermsDeskModel", name := "undo", desc := "()I" } : Jvm.MethodName) prog_17_method_77_code (1 : Nat) (Option.some Jvm.ClassFile.FieldType.int)) ∈ lw_all := lw_g (lw_at lw_m10 227 rfl) rfl
theorem q2457 : (Jvm.Cond.instanceMethod ({ cls := "TermsDeskModel", name := "snapshot", desc := "()I" } : Jvm.MethodName)) ∈ lw_all := lw_g (lw_at lw_m10 229 rfl) rfl
theorem q2458 : (Jvm.Cond.selects "TermsDeskModel" ({ cls := "TermsDeskModel", name := "snapshot", desc := "()I" } : Jvm.MethodName) ({ cls := "TermsDeskModel", name := "snapshot", desc := "()I" } : Jvm.MethodName)) ∈ lw_all := lw_g (lw_at lw_m10 230 rfl) rfl
theorem q2459 : (Jvm.Cond.code ({ cls := "TermsDeskModel", name := "snapshot", desc := "()I" } : Jvm.MethodName) prog_17_method_78_code (1 : Nat) (Option.some Jvm.ClassFile.FieldType.int)) ∈ lw_all := lw_g (lw_at lw_m10 231 rfl) rfl
theorem q2461 : (Jvm.Cond.instanceMethod ({ cls := "TermsDeskModel", name := "restore", desc := "()I" } : Jvm.MethodName)) ∈ lw_all := lw_g (lw_at lw_m10 233 rfl) rfl
theorem q2462 : (Jvm.Cond.selects "TermsDeskModel" ({ cls := "TermsDeskModel", name := "restore", desc := "()I" } : Jvm.MethodName) ({ cls := "TermsDeskModel", name := "restore", desc := "()I" } : Jvm.MethodName)) ∈ lw_all := lw_g (lw_at lw_m10 234 rfl) rfl
theorem q2463 : (Jvm.Cond.code ({ cls := "TermsDeskModel", name := "restore", desc := "()I" } : Jvm.MethodName) prog_17_method_79_code (1 : Nat) (Option.some Jvm.ClassFile.FieldType.int)) ∈ lw_all := lw_g (lw_at lw_m10 235 rfl) rfl
theorem q2487 : (Jvm.Cond.castable "TermsDeskModel" "java/lang/Object") ∈ lw_tbl := lw_at lw_m11 19 rfl
theorem in_X4 : ∀ w ∈ wsX40, w ∈ lw_all := lw_in wsX40 [2088, 2090, 2092, 2094, 2096, 2098, 2100, 2102, 2104, 2106, 2108, 2110, 2112, 2114, 2116, 2118, 2120, 2122, 2124, 2126, 2128, 2130, 2132, 2134, 2136, 2138, 2140, 2142, 2144, 2146] (by decide +kernel) (by decide +kernel)
