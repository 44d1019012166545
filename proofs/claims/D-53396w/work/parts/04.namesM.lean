set_option maxRecDepth 100000
/-! BottleLoopModel -/
set_option maxRecDepth 100000
def RX3 : String := "BottleLoopModel"
def TX3 : u_T := fun k => match k with
  | 0 => ("BottleLoopModel", "v", "[I", true)
  | 1 => ("BottleLoopModel", "spare", "[I", true)
  | 2 => ("BottleLoopModel", "saved", "[I", true)
  | 3 => ("BottleLoopModel", "saves", "I", false)
  | 4 => ("BottleLoopModel", "text", "[I", true)
  | 5 => ("BottleLoopModel", "length", "I", false)
  | 6 => ("BottleLoopModel", "thrown", "I", false)
  | 7 => ("BottleLoopModel", "lows", "[I", true)
  | 8 => ("BottleLoopModel", "highs", "[I", true)
  | 9 => ("BottleLoopModel", "place", "I", false)
  | 10 => ("BottleLoopModel", "isWhole", "Z", false)
  | 11 => ("BottleLoopModel", "letter", "I", false)
  | 12 => ("BottleLoopModel", "one", "I", false)
  | 13 => ("BottleLoopModel", "other", "I", false)
  | 14 => ("BottleLoopModel", "number", "I", false)
  | _ => ("BottleLoopModel", "digit", "I", false)
def tyX3 : Nat → FieldType := fun k => match k with
  | 0 => .array .int
  | 1 => .array .int
  | 2 => .array .int
  | 3 => .int
  | 4 => .array .int
  | 5 => .int
  | 6 => .int
  | 7 => .array .int
  | 8 => .array .int
  | 9 => .int
  | 10 => .boolean
  | 11 => .int
  | 12 => .int
  | 13 => .int
  | 14 => .int
  | _ => .int
abbrev wsX30 : List Cond := u_ws RX3 TX3 16
set_option maxRecDepth 100000 in
theorem nmX3 : ∀ a, a < 16 → ∀ b, b < 16 → a ≠ b → (TX3 a).2.1 ≠ (TX3 b).2.1 := by decide +kernel
set_option maxRecDepth 100000 in
theorem tyX3_ok : ∀ k, k < 16 → parseFieldDescriptor (TX3 k).2.2.1 = some (tyX3 k) := by decide +kernel
abbrev cX3_init : ByteArray := prog_23_method_1_code
def yX3_init : MethodName := ⟨RX3, "<init>", "()V"⟩
def dkwX3_init_7 : List UInt8 := [16, 20, 79, 177]
abbrev dktX3_init_7 : List UInt8 := dkwX3_init_7 ++ []
def dkwX3_init_6 : List UInt8 := [180, 0, 7, 16, 10, 17, 0, 150, 79, 42, 180, 0, 7, 16, 11, 16, 6, 79, 42, 180, 0, 7, 16, 12]
abbrev dktX3_init_6 : List UInt8 := dkwX3_init_6 ++ dktX3_init_7
def dkwX3_init_5 : List UInt8 := [16, 8, 79, 42, 180, 0, 7, 16, 8, 16, 15, 79, 42, 180, 0, 7, 16, 9, 16, 25, 79, 42]
abbrev dktX3_init_5 : List UInt8 := dkwX3_init_5 ++ dktX3_init_6
def dkwX3_init_4 : List UInt8 := [17, 1, 244, 79, 89, 7, 16, 100, 79, 89, 8, 17, 3, 232, 79, 181, 0, 25, 42, 180, 0, 7, 16, 7]
abbrev dktX3_init_4 : List UInt8 := dkwX3_init_4 ++ dktX3_init_5
def dkwX3_init_3 : List UInt8 := [42, 16, 6, 188, 10, 89, 3, 16, 100, 79, 89, 4, 16, 100, 79, 89, 5, 16, 100, 79, 89, 6]
abbrev dktX3_init_3 : List UInt8 := dkwX3_init_3 ++ dktX3_init_4
def dkwX3_init_2 : List UInt8 := [79, 89, 4, 4, 79, 89, 5, 4, 79, 89, 6, 3, 79, 89, 7, 3, 79, 89, 8, 5, 79, 181, 0, 22]
abbrev dktX3_init_2 : List UInt8 := dkwX3_init_2 ++ dktX3_init_3
def dkwX3_init_1 : List UInt8 := [17, 6, 162, 188, 10, 181, 0, 16, 42, 16, 60, 188, 10, 181, 0, 19, 42, 16, 6, 188, 10, 89, 3, 4]
abbrev dktX3_init_1 : List UInt8 := dkwX3_init_1 ++ dktX3_init_2
def dkwX3_init_0 : List UInt8 := [42, 183, 0, 1, 42, 17, 1, 27, 188, 10, 181, 0, 7, 42, 17, 1, 27, 188, 10, 181, 0, 13, 42]
abbrev dktX3_init_0 : List UInt8 := dkwX3_init_0 ++ dktX3_init_1
theorem dksX3_init_0 : cX3_init.data.toList.drop 0 = dktX3_init_0 := by decide +kernel
theorem dksX3_init_1 : cX3_init.data.toList.drop 23 = dktX3_init_1 := dk_seg dksX3_init_0 23 rfl rfl
theorem dksX3_init_2 : cX3_init.data.toList.drop 47 = dktX3_init_2 := dk_seg dksX3_init_1 24 rfl rfl
theorem dksX3_init_3 : cX3_init.data.toList.drop 71 = dktX3_init_3 := dk_seg dksX3_init_2 24 rfl rfl
theorem dksX3_init_4 : cX3_init.data.toList.drop 93 = dktX3_init_4 := dk_seg dksX3_init_3 22 rfl rfl
theorem dksX3_init_5 : cX3_init.data.toList.drop 117 = dktX3_init_5 := dk_seg dksX3_init_4 24 rfl rfl
theorem dksX3_init_6 : cX3_init.data.toList.drop 139 = dktX3_init_6 := dk_seg dksX3_init_5 22 rfl rfl
theorem dksX3_init_7 : cX3_init.data.toList.drop 163 = dktX3_init_7 := dk_seg dksX3_init_6 24 rfl rfl
theorem dX3_init_0 : decode cX3_init 0 = .ok (.aload_n 0, 1) := dk_42 (dk_at dksX3_init_0 0 rfl rfl)
theorem dX3_init_1 : decode cX3_init 1 = .ok (.invokespecial 1, 3) := dk_183 0 1 (dk_at dksX3_init_0 1 rfl rfl)
theorem dX3_init_4 : decode cX3_init 4 = .ok (.aload_n 0, 1) := dk_42 (dk_at dksX3_init_0 4 rfl rfl)
theorem dX3_init_5 : decode cX3_init 5 = .ok (.sipush 283, 3) := dk_17 1 27 (dk_at dksX3_init_0 5 rfl rfl)
theorem dX3_init_8 : decode cX3_init 8 = .ok (.newarray .int, 2) := dk_188_10 (dk_at dksX3_init_0 8 rfl rfl)
theorem dX3_init_10 : decode cX3_init 10 = .ok (.putfield 7, 3) := dk_181 0 7 (dk_at dksX3_init_0 10 rfl rfl)
theorem dX3_init_13 : decode cX3_init 13 = .ok (.aload_n 0, 1) := dk_42 (dk_at dksX3_init_0 13 rfl rfl)
theorem dX3_init_14 : decode cX3_init 14 = .ok (.sipush 283, 3) := dk_17 1 27 (dk_at dksX3_init_0 14 rfl rfl)
theorem dX3_init_17 : decode cX3_init 17 = .ok (.newarray .int, 2) := dk_188_10 (dk_at dksX3_init_0 17 rfl rfl)
theorem dX3_init_19 : decode cX3_init 19 = .ok (.putfield 13, 3) := dk_181 0 13 (dk_at dksX3_init_0 19 rfl rfl)
theorem dX3_init_22 : decode cX3_init 22 = .ok (.aload_n 0, 1) := dk_42 (dk_at dksX3_init_0 22 rfl rfl)
theorem dX3_init_23 : decode cX3_init 23 = .ok (.sipush 1698, 3) := dk_17 6 162 (dk_at dksX3_init_1 0 rfl rfl)
theorem dX3_init_26 : decode cX3_init 26 = .ok (.newarray .int, 2) := dk_188_10 (dk_at dksX3_init_1 3 rfl rfl)
theorem dX3_init_28 : decode cX3_init 28 = .ok (.putfield 16, 3) := dk_181 0 16 (dk_at dksX3_init_1 5 rfl rfl)
theorem dX3_init_31 : decode cX3_init 31 = .ok (.aload_n 0, 1) := dk_42 (dk_at dksX3_init_1 8 rfl rfl)
theorem dX3_init_32 : decode cX3_init 32 = .ok (.bipush 60, 2) := dk_16 60 (dk_at dksX3_init_1 9 rfl rfl)
theorem dX3_init_34 : decode cX3_init 34 = .ok (.newarray .int, 2) := dk_188_10 (dk_at dksX3_init_1 11 rfl rfl)
theorem dX3_init_36 : decode cX3_init 36 = .ok (.putfield 19, 3) := dk_181 0 19 (dk_at dksX3_init_1 13 rfl rfl)
theorem dX3_init_39 : decode cX3_init 39 = .ok (.aload_n 0, 1) := dk_42 (dk_at dksX3_init_1 16 rfl rfl)
theorem dX3_init_40 : decode cX3_init 40 = .ok (.bipush 6, 2) := dk_16 6 (dk_at dksX3_init_1 17 rfl rfl)
theorem dX3_init_42 : decode cX3_init 42 = .ok (.newarray .int, 2) := dk_188_10 (dk_at dksX3_init_1 19 rfl rfl)
theorem dX3_init_44 : decode cX3_init 44 = .ok (.dup, 1) := dk_89 (dk_at dksX3_init_1 21 rfl rfl)
theorem dX3_init_45 : decode cX3_init 45 = .ok (.iconst 0, 1) := dk_3 (dk_at dksX3_init_1 22 rfl rfl)
theorem dX3_init_46 : decode cX3_init 46 = .ok (.iconst 1, 1) := dk_4 (dk_at dksX3_init_1 23 rfl rfl)
theorem dX3_init_47 : decode cX3_init 47 = .ok (.iastore, 1) := dk_79 (dk_at dksX3_init_2 0 rfl rfl)
theorem dX3_init_48 : decode cX3_init 48 = .ok (.dup, 1) := dk_89 (dk_at dksX3_init_2 1 rfl rfl)
theorem dX3_init_49 : decode cX3_init 49 = .ok (.iconst 1, 1) := dk_4 (dk_at dksX3_init_2 2 rfl rfl)
theorem dX3_init_50 : decode cX3_init 50 = .ok (.iconst 1, 1) := dk_4 (dk_at dksX3_init_2 3 rfl rfl)
theorem dX3_init_51 : decode cX3_init 51 = .ok (.iastore, 1) := dk_79 (dk_at dksX3_init_2 4 rfl rfl)
theorem dX3_init_52 : decode cX3_init 52 = .ok (.dup, 1) := dk_89 (dk_at dksX3_init_2 5 rfl rfl)
theorem dX3_init_53 : decode cX3_init 53 = .ok (.iconst 2, 1) := dk_5 (dk_at dksX3_init_2 6 rfl rfl)
theorem dX3_init_54 : decode cX3_init 54 = .ok (.iconst 1, 1) := dk_4 (dk_at dksX3_init_2 7 rfl rfl)
theorem dX3_init_55 : decode cX3_init 55 = .ok (.iastore, 1) := dk_79 (dk_at dksX3_init_2 8 rfl rfl)
theorem dX3_init_56 : decode cX3_init 56 = .ok (.dup, 1) := dk_89 (dk_at dksX3_init_2 9 rfl rfl)
theorem dX3_init_57 : decode cX3_init 57 = .ok (.iconst 3, 1) := dk_6 (dk_at dksX3_init_2 10 rfl rfl)
theorem dX3_init_58 : decode cX3_init 58 = .ok (.iconst 0, 1) := dk_3 (dk_at dksX3_init_2 11 rfl rfl)
theorem dX3_init_59 : decode cX3_init 59 = .ok (.iastore, 1) := dk_79 (dk_at dksX3_init_2 12 rfl rfl)
theorem dX3_init_60 : decode cX3_init 60 = .ok (.dup, 1) := dk_89 (dk_at dksX3_init_2 13 rfl rfl)
theorem dX3_init_61 : decode cX3_init 61 = .ok (.iconst 4, 1) := dk_7 (dk_at dksX3_init_2 14 rfl rfl)
theorem dX3_init_62 : decode cX3_init 62 = .ok (.iconst 0, 1) := dk_3 (dk_at dksX3_init_2 15 rfl rfl)
theorem dX3_init_63 : decode cX3_init 63 = .ok (.iastore, 1) := dk_79 (dk_at dksX3_init_2 16 rfl rfl)
theorem dX3_init_64 : decode cX3_init 64 = .ok (.dup, 1) := dk_89 (dk_at dksX3_init_2 17 rfl rfl)
theorem dX3_init_65 : decode cX3_init 65 = .ok (.iconst 5, 1) := dk_8 (dk_at dksX3_init_2 18 rfl rfl)
theorem dX3_init_66 : decode cX3_init 66 = .ok (.iconst 2, 1) := dk_5 (dk_at dksX3_init_2 19 rfl rfl)
theorem dX3_init_67 : decode cX3_init 67 = .ok (.iastore, 1) := dk_79 (dk_at dksX3_init_2 20 rfl rfl)
theorem dX3_init_68 : decode cX3_init 68 = .ok (.putfield 22, 3) := dk_181 0 22 (dk_at dksX3_init_2 21 rfl rfl)
theorem dX3_init_71 : decode cX3_init 71 = .ok (.aload_n 0, 1) := dk_42 (dk_at dksX3_init_3 0 rfl rfl)
theorem dX3_init_72 : decode cX3_init 72 = .ok (.bipush 6, 2) := dk_16 6 (dk_at dksX3_init_3 1 rfl rfl)
theorem dX3_init_74 : decode cX3_init 74 = .ok (.newarray .int, 2) := dk_188_10 (dk_at dksX3_init_3 3 rfl rfl)
theorem dX3_init_76 : decode cX3_init 76 = .ok (.dup, 1) := dk_89 (dk_at dksX3_init_3 5 rfl rfl)
theorem dX3_init_77 : decode cX3_init 77 = .ok (.iconst 0, 1) := dk_3 (dk_at dksX3_init_3 6 rfl rfl)
theorem dX3_init_78 : decode cX3_init 78 = .ok (.bipush 100, 2) := dk_16 100 (dk_at dksX3_init_3 7 rfl rfl)
theorem dX3_init_80 : decode cX3_init 80 = .ok (.iastore, 1) := dk_79 (dk_at dksX3_init_3 9 rfl rfl)
theorem dX3_init_81 : decode cX3_init 81 = .ok (.dup, 1) := dk_89 (dk_at dksX3_init_3 10 rfl rfl)
theorem dX3_init_82 : decode cX3_init 82 = .ok (.iconst 1, 1) := dk_4 (dk_at dksX3_init_3 11 rfl rfl)
theorem dX3_init_83 : decode cX3_init 83 = .ok (.bipush 100, 2) := dk_16 100 (dk_at dksX3_init_3 12 rfl rfl)
theorem dX3_init_85 : decode cX3_init 85 = .ok (.iastore, 1) := dk_79 (dk_at dksX3_init_3 14 rfl rfl)
theorem dX3_init_86 : decode cX3_init 86 = .ok (.dup, 1) := dk_89 (dk_at dksX3_init_3 15 rfl rfl)
theorem dX3_init_87 : decode cX3_init 87 = .ok (.iconst 2, 1) := dk_5 (dk_at dksX3_init_3 16 rfl rfl)
theorem dX3_init_88 : decode cX3_init 88 = .ok (.bipush 100, 2) := dk_16 100 (dk_at dksX3_init_3 17 rfl rfl)
theorem dX3_init_90 : decode cX3_init 90 = .ok (.iastore, 1) := dk_79 (dk_at dksX3_init_3 19 rfl rfl)
theorem dX3_init_91 : decode cX3_init 91 = .ok (.dup, 1) := dk_89 (dk_at dksX3_init_3 20 rfl rfl)
theorem dX3_init_92 : decode cX3_init 92 = .ok (.iconst 3, 1) := dk_6 (dk_at dksX3_init_3 21 rfl rfl)
theorem dX3_init_93 : decode cX3_init 93 = .ok (.sipush 500, 3) := dk_17 1 244 (dk_at dksX3_init_4 0 rfl rfl)
theorem dX3_init_96 : decode cX3_init 96 = .ok (.iastore, 1) := dk_79 (dk_at dksX3_init_4 3 rfl rfl)
theorem dX3_init_97 : decode cX3_init 97 = .ok (.dup, 1) := dk_89 (dk_at dksX3_init_4 4 rfl rfl)
theorem dX3_init_98 : decode cX3_init 98 = .ok (.iconst 4, 1) := dk_7 (dk_at dksX3_init_4 5 rfl rfl)
theorem dX3_init_99 : decode cX3_init 99 = .ok (.bipush 100, 2) := dk_16 100 (dk_at dksX3_init_4 6 rfl rfl)
theorem dX3_init_101 : decode cX3_init 101 = .ok (.iastore, 1) := dk_79 (dk_at dksX3_init_4 8 rfl rfl)
theorem dX3_init_102 : decode cX3_init 102 = .ok (.dup, 1) := dk_89 (dk_at dksX3_init_4 9 rfl rfl)
theorem dX3_init_103 : decode cX3_init 103 = .ok (.iconst 5, 1) := dk_8 (dk_at dksX3_init_4 10 rfl rfl)
theorem dX3_init_104 : decode cX3_init 104 = .ok (.sipush 1000, 3) := dk_17 3 232 (dk_at dksX3_init_4 11 rfl rfl)
theorem dX3_init_107 : decode cX3_init 107 = .ok (.iastore, 1) := dk_79 (dk_at dksX3_init_4 14 rfl rfl)
theorem dX3_init_108 : decode cX3_init 108 = .ok (.putfield 25, 3) := dk_181 0 25 (dk_at dksX3_init_4 15 rfl rfl)
theorem dX3_init_111 : decode cX3_init 111 = .ok (.aload_n 0, 1) := dk_42 (dk_at dksX3_init_4 18 rfl rfl)
theorem dX3_init_112 : decode cX3_init 112 = .ok (.getfield 7, 3) := dk_180 0 7 (dk_at dksX3_init_4 19 rfl rfl)
theorem dX3_init_115 : decode cX3_init 115 = .ok (.bipush 7, 2) := dk_16 7 (dk_at dksX3_init_4 22 rfl rfl)
theorem dX3_init_117 : decode cX3_init 117 = .ok (.bipush 8, 2) := dk_16 8 (dk_at dksX3_init_5 0 rfl rfl)
theorem dX3_init_119 : decode cX3_init 119 = .ok (.iastore, 1) := dk_79 (dk_at dksX3_init_5 2 rfl rfl)
theorem dX3_init_120 : decode cX3_init 120 = .ok (.aload_n 0, 1) := dk_42 (dk_at dksX3_init_5 3 rfl rfl)
theorem dX3_init_121 : decode cX3_init 121 = .ok (.getfield 7, 3) := dk_180 0 7 (dk_at dksX3_init_5 4 rfl rfl)
theorem dX3_init_124 : decode cX3_init 124 = .ok (.bipush 8, 2) := dk_16 8 (dk_at dksX3_init_5 7 rfl rfl)
theorem dX3_init_126 : decode cX3_init 126 = .ok (.bipush 15, 2) := dk_16 15 (dk_at dksX3_init_5 9 rfl rfl)
theorem dX3_init_128 : decode cX3_init 128 = .ok (.iastore, 1) := dk_79 (dk_at dksX3_init_5 11 rfl rfl)
theorem dX3_init_129 : decode cX3_init 129 = .ok (.aload_n 0, 1) := dk_42 (dk_at dksX3_init_5 12 rfl rfl)
theorem dX3_init_130 : decode cX3_init 130 = .ok (.getfield 7, 3) := dk_180 0 7 (dk_at dksX3_init_5 13 rfl rfl)
theorem dX3_init_133 : decode cX3_init 133 = .ok (.bipush 9, 2) := dk_16 9 (dk_at dksX3_init_5 16 rfl rfl)
theorem dX3_init_135 : decode cX3_init 135 = .ok (.bipush 25, 2) := dk_16 25 (dk_at dksX3_init_5 18 rfl rfl)
theorem dX3_init_137 : decode cX3_init 137 = .ok (.iastore, 1) := dk_79 (dk_at dksX3_init_5 20 rfl rfl)
theorem dX3_init_138 : decode cX3_init 138 = .ok (.aload_n 0, 1) := dk_42 (dk_at dksX3_init_5 21 rfl rfl)
theorem dX3_init_139 : decode cX3_init 139 = .ok (.getfield 7, 3) := dk_180 0 7 (dk_at dksX3_init_6 0 rfl rfl)
theorem dX3_init_142 : decode cX3_init 142 = .ok (.bipush 10, 2) := dk_16 10 (dk_at dksX3_init_6 3 rfl rfl)
theorem dX3_init_144 : decode cX3_init 144 = .ok (.sipush 150, 3) := dk_17 0 150 (dk_at dksX3_init_6 5 rfl rfl)
theorem dX3_init_147 : decode cX3_init 147 = .ok (.iastore, 1) := dk_79 (dk_at dksX3_init_6 8 rfl rfl)
theorem dX3_init_148 : decode cX3_init 148 = .ok (.aload_n 0, 1) := dk_42 (dk_at dksX3_init_6 9 rfl rfl)
theorem dX3_init_149 : decode cX3_init 149 = .ok (.getfield 7, 3) := dk_180 0 7 (dk_at dksX3_init_6 10 rfl rfl)
theorem dX3_init_152 : decode cX3_init 152 = .ok (.bipush 11, 2) := dk_16 11 (dk_at dksX3_init_6 13 rfl rfl)
theorem dX3_init_154 : decode cX3_init 154 = .ok (.bipush 6, 2) := dk_16 6 (dk_at dksX3_init_6 15 rfl rfl)
theorem dX3_init_156 : decode cX3_init 156 = .ok (.iastore, 1) := dk_79 (dk_at dksX3_init_6 17 rfl rfl)
theorem dX3_init_157 : decode cX3_init 157 = .ok (.aload_n 0, 1) := dk_42 (dk_at dksX3_init_6 18 rfl rfl)
theorem dX3_init_158 : decode cX3_init 158 = .ok (.getfield 7, 3) := dk_180 0 7 (dk_at dksX3_init_6 19 rfl rfl)
theorem dX3_init_161 : decode cX3_init 161 = .ok (.bipush 12, 2) := dk_16 12 (dk_at dksX3_init_6 22 rfl rfl)
theorem dX3_init_163 : decode cX3_init 163 = .ok (.bipush 20, 2) := dk_16 20 (dk_at dksX3_init_7 0 rfl rfl)
theorem dX3_init_165 : decode cX3_init 165 = .ok (.iastore, 1) := dk_79 (dk_at dksX3_init_7 2 rfl rfl)
theorem dX3_init_166 : decode cX3_init 166 = .ok (.return_, 1) := dk_177 (dk_at dksX3_init_7 3 rfl rfl)
abbrev cX3_thrown : ByteArray := prog_23_method_2_code
def yX3_thrown : MethodName := ⟨RX3, "thrown", "()I"⟩
theorem dX3_thrown_0 : decode cX3_thrown 0 = .ok (.aload_n 0, 1) := by decide +kernel
theorem dX3_thrown_1 : decode cX3_thrown 1 = .ok (.getfield 28, 3) := by decide +kernel
theorem dX3_thrown_4 : decode cX3_thrown 4 = .ok (.ireturn, 1) := by decide +kernel
abbrev cX3_addBrand : ByteArray := prog_23_method_14_code
def yX3_addBrand : MethodName := ⟨RX3, "addBrand", "(II)I"⟩
def dkwX3_addBrand_4 : List UInt8 := [96, 79, 42, 180, 0, 7, 3, 46, 4, 100, 172]
abbrev dktX3_addBrand_4 : List UInt8 := dkwX3_addBrand_4 ++ []
def dkwX3_addBrand_3 : List UInt8 := [42, 180, 0, 7, 42, 180, 0, 7, 3, 46, 4, 184, 0, 39, 28, 79, 42, 180, 0, 7, 3, 92, 46, 4]
abbrev dktX3_addBrand_3 : List UInt8 := dkwX3_addBrand_3 ++ dktX3_addBrand_4
def dkwX3_addBrand_2 : List UInt8 := [182, 0, 49, 172, 42, 182, 0, 53, 42, 180, 0, 7, 42, 180, 0, 7, 3, 46, 3, 184, 0, 39, 27, 79]
abbrev dktX3_addBrand_2 : List UInt8 := dkwX3_addBrand_2 ++ dktX3_addBrand_3
def dkwX3_addBrand_1 : List UInt8 := [154, 0, 9, 42, 4, 182, 0, 49, 172, 42, 180, 0, 7, 3, 46, 16, 8, 160, 0, 9, 42, 5]
abbrev dktX3_addBrand_1 : List UInt8 := dkwX3_addBrand_1 ++ dktX3_addBrand_2
def dkwX3_addBrand_0 : List UInt8 := [42, 3, 181, 0, 28, 27, 3, 5, 184, 0, 35, 153, 0, 14, 28, 3, 17, 19, 136, 184, 0, 35]
abbrev dktX3_addBrand_0 : List UInt8 := dkwX3_addBrand_0 ++ dktX3_addBrand_1
theorem dksX3_addBrand_0 : cX3_addBrand.data.toList.drop 0 = dktX3_addBrand_0 := by decide +kernel
theorem dksX3_addBrand_1 : cX3_addBrand.data.toList.drop 22 = dktX3_addBrand_1 := dk_seg dksX3_addBrand_0 22 rfl rfl
theorem dksX3_addBrand_2 : cX3_addBrand.data.toList.drop 44 = dktX3_addBrand_2 := dk_seg dksX3_addBrand_1 22 rfl rfl
theorem dksX3_addBrand_3 : cX3_addBrand.data.toList.drop 68 = dktX3_addBrand_3 := dk_seg dksX3_addBrand_2 24 rfl rfl
theorem dksX3_addBrand_4 : cX3_addBrand.data.toList.drop 92 = dktX3_addBrand_4 := dk_seg dksX3_addBrand_3 24 rfl rfl
theorem dX3_addBrand_0 : decode cX3_addBrand 0 = .ok (.aload_n 0, 1) := dk_42 (dk_at dksX3_addBrand_0 0 rfl rfl)
theorem dX3_addBrand_1 : decode cX3_addBrand 1 = .ok (.iconst 0, 1) := dk_3 (dk_at dksX3_addBrand_0 1 rfl rfl)
theorem dX3_addBrand_2 : decode cX3_addBrand 2 = .ok (.putfield 28, 3) := dk_181 0 28 (dk_at dksX3_addBrand_0 2 rfl rfl)
theorem dX3_addBrand_5 : decode cX3_addBrand 5 = .ok (.iload_n 1, 1) := dk_27 (dk_at dksX3_addBrand_0 5 rfl rfl)
theorem dX3_addBrand_6 : decode cX3_addBrand 6 = .ok (.iconst 0, 1) := dk_3 (dk_at dksX3_addBrand_0 6 rfl rfl)
theorem dX3_addBrand_7 : decode cX3_addBrand 7 = .ok (.iconst 2, 1) := dk_5 (dk_at dksX3_addBrand_0 7 rfl rfl)
theorem dX3_addBrand_8 : decode cX3_addBrand 8 = .ok (.invokestatic 35, 3) := dk_184 0 35 (dk_at dksX3_addBrand_0 8 rfl rfl)
theorem dX3_addBrand_11 : decode cX3_addBrand 11 = .ok (.ifCond .eq 14, 3) := dk_153 0 14 (dk_at dksX3_addBrand_0 11 rfl rfl)
theorem dX3_addBrand_14 : decode cX3_addBrand 14 = .ok (.iload_n 2, 1) := dk_28 (dk_at dksX3_addBrand_0 14 rfl rfl)
theorem dX3_addBrand_15 : decode cX3_addBrand 15 = .ok (.iconst 0, 1) := dk_3 (dk_at dksX3_addBrand_0 15 rfl rfl)
theorem dX3_addBrand_16 : decode cX3_addBrand 16 = .ok (.sipush 5000, 3) := dk_17 19 136 (dk_at dksX3_addBrand_0 16 rfl rfl)
theorem dX3_addBrand_19 : decode cX3_addBrand 19 = .ok (.invokestatic 35, 3) := dk_184 0 35 (dk_at dksX3_addBrand_0 19 rfl rfl)
theorem dX3_addBrand_22 : decode cX3_addBrand 22 = .ok (.ifCond .ne 9, 3) := dk_154 0 9 (dk_at dksX3_addBrand_1 0 rfl rfl)
theorem dX3_addBrand_25 : decode cX3_addBrand 25 = .ok (.aload_n 0, 1) := dk_42 (dk_at dksX3_addBrand_1 3 rfl rfl)
theorem dX3_addBrand_26 : decode cX3_addBrand 26 = .ok (.iconst 1, 1) := dk_4 (dk_at dksX3_addBrand_1 4 rfl rfl)
theorem dX3_addBrand_27 : decode cX3_addBrand 27 = .ok (.invokevirtual 49, 3) := dk_182 0 49 (dk_at dksX3_addBrand_1 5 rfl rfl)
theorem dX3_addBrand_30 : decode cX3_addBrand 30 = .ok (.ireturn, 1) := dk_172 (dk_at dksX3_addBrand_1 8 rfl rfl)
theorem dX3_addBrand_31 : decode cX3_addBrand 31 = .ok (.aload_n 0, 1) := dk_42 (dk_at dksX3_addBrand_1 9 rfl rfl)
theorem dX3_addBrand_32 : decode cX3_addBrand 32 = .ok (.getfield 7, 3) := dk_180 0 7 (dk_at dksX3_addBrand_1 10 rfl rfl)
theorem dX3_addBrand_35 : decode cX3_addBrand 35 = .ok (.iconst 0, 1) := dk_3 (dk_at dksX3_addBrand_1 13 rfl rfl)
theorem dX3_addBrand_36 : decode cX3_addBrand 36 = .ok (.iaload, 1) := dk_46 (dk_at dksX3_addBrand_1 14 rfl rfl)
theorem dX3_addBrand_37 : decode cX3_addBrand 37 = .ok (.bipush 8, 2) := dk_16 8 (dk_at dksX3_addBrand_1 15 rfl rfl)
theorem dX3_addBrand_39 : decode cX3_addBrand 39 = .ok (.if_icmp .ne 9, 3) := dk_160 0 9 (dk_at dksX3_addBrand_1 17 rfl rfl)
theorem dX3_addBrand_42 : decode cX3_addBrand 42 = .ok (.aload_n 0, 1) := dk_42 (dk_at dksX3_addBrand_1 20 rfl rfl)
theorem dX3_addBrand_43 : decode cX3_addBrand 43 = .ok (.iconst 2, 1) := dk_5 (dk_at dksX3_addBrand_1 21 rfl rfl)
theorem dX3_addBrand_44 : decode cX3_addBrand 44 = .ok (.invokevirtual 49, 3) := dk_182 0 49 (dk_at dksX3_addBrand_2 0 rfl rfl)
theorem dX3_addBrand_47 : decode cX3_addBrand 47 = .ok (.ireturn, 1) := dk_172 (dk_at dksX3_addBrand_2 3 rfl rfl)
theorem dX3_addBrand_48 : decode cX3_addBrand 48 = .ok (.aload_n 0, 1) := dk_42 (dk_at dksX3_addBrand_2 4 rfl rfl)
theorem dX3_addBrand_49 : decode cX3_addBrand 49 = .ok (.invokevirtual 53, 3) := dk_182 0 53 (dk_at dksX3_addBrand_2 5 rfl rfl)
theorem dX3_addBrand_52 : decode cX3_addBrand 52 = .ok (.aload_n 0, 1) := dk_42 (dk_at dksX3_addBrand_2 8 rfl rfl)
theorem dX3_addBrand_53 : decode cX3_addBrand 53 = .ok (.getfield 7, 3) := dk_180 0 7 (dk_at dksX3_addBrand_2 9 rfl rfl)
theorem dX3_addBrand_56 : decode cX3_addBrand 56 = .ok (.aload_n 0, 1) := dk_42 (dk_at dksX3_addBrand_2 12 rfl rfl)
theorem dX3_addBrand_57 : decode cX3_addBrand 57 = .ok (.getfield 7, 3) := dk_180 0 7 (dk_at dksX3_addBrand_2 13 rfl rfl)
theorem dX3_addBrand_60 : decode cX3_addBrand 60 = .ok (.iconst 0, 1) := dk_3 (dk_at dksX3_addBrand_2 16 rfl rfl)
theorem dX3_addBrand_61 : decode cX3_addBrand 61 = .ok (.iaload, 1) := dk_46 (dk_at dksX3_addBrand_2 17 rfl rfl)
theorem dX3_addBrand_62 : decode cX3_addBrand 62 = .ok (.iconst 0, 1) := dk_3 (dk_at dksX3_addBrand_2 18 rfl rfl)
theorem dX3_addBrand_63 : decode cX3_addBrand 63 = .ok (.invokestatic 39, 3) := dk_184 0 39 (dk_at dksX3_addBrand_2 19 rfl rfl)
theorem dX3_addBrand_66 : decode cX3_addBrand 66 = .ok (.iload_n 1, 1) := dk_27 (dk_at dksX3_addBrand_2 22 rfl rfl)
theorem dX3_addBrand_67 : decode cX3_addBrand 67 = .ok (.iastore, 1) := dk_79 (dk_at dksX3_addBrand_2 23 rfl rfl)
theorem dX3_addBrand_68 : decode cX3_addBrand 68 = .ok (.aload_n 0, 1) := dk_42 (dk_at dksX3_addBrand_3 0 rfl rfl)
theorem dX3_addBrand_69 : decode cX3_addBrand 69 = .ok (.getfield 7, 3) := dk_180 0 7 (dk_at dksX3_addBrand_3 1 rfl rfl)
theorem dX3_addBrand_72 : decode cX3_addBrand 72 = .ok (.aload_n 0, 1) := dk_42 (dk_at dksX3_addBrand_3 4 rfl rfl)
theorem dX3_addBrand_73 : decode cX3_addBrand 73 = .ok (.getfield 7, 3) := dk_180 0 7 (dk_at dksX3_addBrand_3 5 rfl rfl)
theorem dX3_addBrand_76 : decode cX3_addBrand 76 = .ok (.iconst 0, 1) := dk_3 (dk_at dksX3_addBrand_3 8 rfl rfl)
theorem dX3_addBrand_77 : decode cX3_addBrand 77 = .ok (.iaload, 1) := dk_46 (dk_at dksX3_addBrand_3 9 rfl rfl)
theorem dX3_addBrand_78 : decode cX3_addBrand 78 = .ok (.iconst 1, 1) := dk_4 (dk_at dksX3_addBrand_3 10 rfl rfl)
theorem dX3_addBrand_79 : decode cX3_addBrand 79 = .ok (.invokestatic 39, 3) := dk_184 0 39 (dk_at dksX3_addBrand_3 11 rfl rfl)
theorem dX3_addBrand_82 : decode cX3_addBrand 82 = .ok (.iload_n 2, 1) := dk_28 (dk_at dksX3_addBrand_3 14 rfl rfl)
theorem dX3_addBrand_83 : decode cX3_addBrand 83 = .ok (.iastore, 1) := dk_79 (dk_at dksX3_addBrand_3 15 rfl rfl)
theorem dX3_addBrand_84 : decode cX3_addBrand 84 = .ok (.aload_n 0, 1) := dk_42 (dk_at dksX3_addBrand_3 16 rfl rfl)
theorem dX3_addBrand_85 : decode cX3_addBrand 85 = .ok (.getfield 7, 3) := dk_180 0 7 (dk_at dksX3_addBrand_3 17 rfl rfl)
theorem dX3_addBrand_88 : decode cX3_addBrand 88 = .ok (.iconst 0, 1) := dk_3 (dk_at dksX3_addBrand_3 20 rfl rfl)
theorem dX3_addBrand_89 : decode cX3_addBrand 89 = .ok (.dup2, 1) := dk_92 (dk_at dksX3_addBrand_3 21 rfl rfl)
theorem dX3_addBrand_90 : decode cX3_addBrand 90 = .ok (.iaload, 1) := dk_46 (dk_at dksX3_addBrand_3 22 rfl rfl)
theorem dX3_addBrand_91 : decode cX3_addBrand 91 = .ok (.iconst 1, 1) := dk_4 (dk_at dksX3_addBrand_3 23 rfl rfl)
theorem dX3_addBrand_92 : decode cX3_addBrand 92 = .ok (.iadd, 1) := dk_96 (dk_at dksX3_addBrand_4 0 rfl rfl)
theorem dX3_addBrand_93 : decode cX3_addBrand 93 = .ok (.iastore, 1) := dk_79 (dk_at dksX3_addBrand_4 1 rfl rfl)
theorem dX3_addBrand_94 : decode cX3_addBrand 94 = .ok (.aload_n 0, 1) := dk_42 (dk_at dksX3_addBrand_4 2 rfl rfl)
theorem dX3_addBrand_95 : decode cX3_addBrand 95 = .ok (.getfield 7, 3) := dk_180 0 7 (dk_at dksX3_addBrand_4 3 rfl rfl)
theorem dX3_addBrand_98 : decode cX3_addBrand 98 = .ok (.iconst 0, 1) := dk_3 (dk_at dksX3_addBrand_4 6 rfl rfl)
theorem dX3_addBrand_99 : decode cX3_addBrand 99 = .ok (.iaload, 1) := dk_46 (dk_at dksX3_addBrand_4 7 rfl rfl)
theorem dX3_addBrand_100 : decode cX3_addBrand 100 = .ok (.iconst 1, 1) := dk_4 (dk_at dksX3_addBrand_4 8 rfl rfl)
theorem dX3_addBrand_101 : decode cX3_addBrand 101 = .ok (.isub, 1) := dk_100 (dk_at dksX3_addBrand_4 9 rfl rfl)
theorem dX3_addBrand_102 : decode cX3_addBrand 102 = .ok (.ireturn, 1) := dk_172 (dk_at dksX3_addBrand_4 10 rfl rfl)
abbrev cX3_in : ByteArray := prog_23_method_3_code
def yX3_in : MethodName := ⟨RX3, "in", "(III)Z"⟩
def dkwX3_in_0 : List UInt8 := [26, 27, 161, 0, 12, 26, 28, 163, 0, 7, 4, 167, 0, 4, 3, 172]
abbrev dktX3_in_0 : List UInt8 := dkwX3_in_0 ++ []
theorem dksX3_in_0 : cX3_in.data.toList.drop 0 = dktX3_in_0 := by decide +kernel
theorem dX3_in_0 : decode cX3_in 0 = .ok (.iload_n 0, 1) := dk_26 (dk_at dksX3_in_0 0 rfl rfl)
theorem dX3_in_1 : decode cX3_in 1 = .ok (.iload_n 1, 1) := dk_27 (dk_at dksX3_in_0 1 rfl rfl)
theorem dX3_in_2 : decode cX3_in 2 = .ok (.if_icmp .lt 12, 3) := dk_161 0 12 (dk_at dksX3_in_0 2 rfl rfl)
theorem dX3_in_5 : decode cX3_in 5 = .ok (.iload_n 0, 1) := dk_26 (dk_at dksX3_in_0 5 rfl rfl)
theorem dX3_in_6 : decode cX3_in 6 = .ok (.iload_n 2, 1) := dk_28 (dk_at dksX3_in_0 6 rfl rfl)
theorem dX3_in_7 : decode cX3_in 7 = .ok (.if_icmp .gt 7, 3) := dk_163 0 7 (dk_at dksX3_in_0 7 rfl rfl)
theorem dX3_in_10 : decode cX3_in 10 = .ok (.iconst 1, 1) := dk_4 (dk_at dksX3_in_0 10 rfl rfl)
theorem dX3_in_11 : decode cX3_in 11 = .ok (.goto 4, 3) := dk_167 0 4 (dk_at dksX3_in_0 11 rfl rfl)
theorem dX3_in_14 : decode cX3_in 14 = .ok (.iconst 0, 1) := dk_3 (dk_at dksX3_in_0 14 rfl rfl)
theorem dX3_in_15 : decode cX3_in 15 = .ok (.ireturn, 1) := dk_172 (dk_at dksX3_in_0 15 rfl rfl)
abbrev cX3_fails : ByteArray := prog_23_method_4_code
def yX3_fails : MethodName := ⟨RX3, "fails", "(I)I"⟩
def dkwX3_fails_0 : List UInt8 := [42, 27, 181, 0, 28, 3, 172]
abbrev dktX3_fails_0 : List UInt8 := dkwX3_fails_0 ++ []
theorem dksX3_fails_0 : cX3_fails.data.toList.drop 0 = dktX3_fails_0 := by decide +kernel
theorem dX3_fails_0 : decode cX3_fails 0 = .ok (.aload_n 0, 1) := dk_42 (dk_at dksX3_fails_0 0 rfl rfl)
theorem dX3_fails_1 : decode cX3_fails 1 = .ok (.iload_n 1, 1) := dk_27 (dk_at dksX3_fails_0 1 rfl rfl)
theorem dX3_fails_2 : decode cX3_fails 2 = .ok (.putfield 28, 3) := dk_181 0 28 (dk_at dksX3_fails_0 2 rfl rfl)
theorem dX3_fails_5 : decode cX3_fails 5 = .ok (.iconst 0, 1) := dk_3 (dk_at dksX3_fails_0 5 rfl rfl)
theorem dX3_fails_6 : decode cX3_fails 6 = .ok (.ireturn, 1) := dk_172 (dk_at dksX3_fails_0 6 rfl rfl)
abbrev cX3_save : ByteArray := prog_23_method_5_code
def yX3_save : MethodName := ⟨RX3, "save", "()V"⟩
def dkwX3_save_4 : List UInt8 := [181, 0, 32, 177]
abbrev dktX3_save_4 : List UInt8 := dkwX3_save_4 ++ []
def dkwX3_save_3 : List UInt8 := [27, 96, 42, 180, 0, 7, 27, 46, 79, 132, 1, 1, 167, 255, 225, 42, 89, 180, 0, 32, 4, 96]
abbrev dktX3_save_3 : List UInt8 := dkwX3_save_3 ++ dktX3_save_4
def dkwX3_save_2 : List UInt8 := [181, 0, 32, 3, 60, 27, 17, 1, 27, 162, 0, 30, 42, 180, 0, 16, 17, 1, 27, 42, 180, 0, 32, 104]
abbrev dktX3_save_2 : List UInt8 := dkwX3_save_2 ++ dktX3_save_3
def dkwX3_save_1 : List UInt8 := [180, 0, 16, 27, 17, 1, 27, 96, 46, 79, 132, 1, 1, 167, 255, 230, 42, 89, 180, 0, 32, 4, 100]
abbrev dktX3_save_1 : List UInt8 := dkwX3_save_1 ++ dktX3_save_2
def dkwX3_save_0 : List UInt8 := [42, 180, 0, 32, 16, 6, 160, 0, 44, 3, 60, 27, 17, 5, 135, 162, 0, 25, 42, 180, 0, 16, 27, 42]
abbrev dktX3_save_0 : List UInt8 := dkwX3_save_0 ++ dktX3_save_1
theorem dksX3_save_0 : cX3_save.data.toList.drop 0 = dktX3_save_0 := by decide +kernel
theorem dksX3_save_1 : cX3_save.data.toList.drop 24 = dktX3_save_1 := dk_seg dksX3_save_0 24 rfl rfl
theorem dksX3_save_2 : cX3_save.data.toList.drop 47 = dktX3_save_2 := dk_seg dksX3_save_1 23 rfl rfl
theorem dksX3_save_3 : cX3_save.data.toList.drop 71 = dktX3_save_3 := dk_seg dksX3_save_2 24 rfl rfl
theorem dksX3_save_4 : cX3_save.data.toList.drop 93 = dktX3_save_4 := dk_seg dksX3_save_3 22 rfl rfl
theorem dX3_save_0 : decode cX3_save 0 = .ok (.aload_n 0, 1) := dk_42 (dk_at dksX3_save_0 0 rfl rfl)
theorem dX3_save_1 : decode cX3_save 1 = .ok (.getfield 32, 3) := dk_180 0 32 (dk_at dksX3_save_0 1 rfl rfl)
theorem dX3_save_4 : decode cX3_save 4 = .ok (.bipush 6, 2) := dk_16 6 (dk_at dksX3_save_0 4 rfl rfl)
theorem dX3_save_6 : decode cX3_save 6 = .ok (.if_icmp .ne 44, 3) := dk_160 0 44 (dk_at dksX3_save_0 6 rfl rfl)
theorem dX3_save_9 : decode cX3_save 9 = .ok (.iconst 0, 1) := dk_3 (dk_at dksX3_save_0 9 rfl rfl)
theorem dX3_save_10 : decode cX3_save 10 = .ok (.istore_n 1, 1) := dk_60 (dk_at dksX3_save_0 10 rfl rfl)
theorem dX3_save_11 : decode cX3_save 11 = .ok (.iload_n 1, 1) := dk_27 (dk_at dksX3_save_0 11 rfl rfl)
theorem dX3_save_12 : decode cX3_save 12 = .ok (.sipush 1415, 3) := dk_17 5 135 (dk_at dksX3_save_0 12 rfl rfl)
theorem dX3_save_15 : decode cX3_save 15 = .ok (.if_icmp .ge 25, 3) := dk_162 0 25 (dk_at dksX3_save_0 15 rfl rfl)
theorem dX3_save_18 : decode cX3_save 18 = .ok (.aload_n 0, 1) := dk_42 (dk_at dksX3_save_0 18 rfl rfl)
theorem dX3_save_19 : decode cX3_save 19 = .ok (.getfield 16, 3) := dk_180 0 16 (dk_at dksX3_save_0 19 rfl rfl)
theorem dX3_save_22 : decode cX3_save 22 = .ok (.iload_n 1, 1) := dk_27 (dk_at dksX3_save_0 22 rfl rfl)
theorem dX3_save_23 : decode cX3_save 23 = .ok (.aload_n 0, 1) := dk_42 (dk_at dksX3_save_0 23 rfl rfl)
theorem dX3_save_24 : decode cX3_save 24 = .ok (.getfield 16, 3) := dk_180 0 16 (dk_at dksX3_save_1 0 rfl rfl)
theorem dX3_save_27 : decode cX3_save 27 = .ok (.iload_n 1, 1) := dk_27 (dk_at dksX3_save_1 3 rfl rfl)
theorem dX3_save_28 : decode cX3_save 28 = .ok (.sipush 283, 3) := dk_17 1 27 (dk_at dksX3_save_1 4 rfl rfl)
theorem dX3_save_31 : decode cX3_save 31 = .ok (.iadd, 1) := dk_96 (dk_at dksX3_save_1 7 rfl rfl)
theorem dX3_save_32 : decode cX3_save 32 = .ok (.iaload, 1) := dk_46 (dk_at dksX3_save_1 8 rfl rfl)
theorem dX3_save_33 : decode cX3_save 33 = .ok (.iastore, 1) := dk_79 (dk_at dksX3_save_1 9 rfl rfl)
theorem dX3_save_34 : decode cX3_save 34 = .ok (.iinc 1 1, 3) := dk_132 1 1 (dk_at dksX3_save_1 10 rfl rfl)
theorem dX3_save_37 : decode cX3_save 37 = .ok (.goto (-26), 3) := dk_167 255 230 (dk_at dksX3_save_1 13 rfl rfl)
theorem dX3_save_40 : decode cX3_save 40 = .ok (.aload_n 0, 1) := dk_42 (dk_at dksX3_save_1 16 rfl rfl)
theorem dX3_save_41 : decode cX3_save 41 = .ok (.dup, 1) := dk_89 (dk_at dksX3_save_1 17 rfl rfl)
theorem dX3_save_42 : decode cX3_save 42 = .ok (.getfield 32, 3) := dk_180 0 32 (dk_at dksX3_save_1 18 rfl rfl)
theorem dX3_save_45 : decode cX3_save 45 = .ok (.iconst 1, 1) := dk_4 (dk_at dksX3_save_1 21 rfl rfl)
theorem dX3_save_46 : decode cX3_save 46 = .ok (.isub, 1) := dk_100 (dk_at dksX3_save_1 22 rfl rfl)
theorem dX3_save_47 : decode cX3_save 47 = .ok (.putfield 32, 3) := dk_181 0 32 (dk_at dksX3_save_2 0 rfl rfl)
theorem dX3_save_50 : decode cX3_save 50 = .ok (.iconst 0, 1) := dk_3 (dk_at dksX3_save_2 3 rfl rfl)
theorem dX3_save_51 : decode cX3_save 51 = .ok (.istore_n 1, 1) := dk_60 (dk_at dksX3_save_2 4 rfl rfl)
theorem dX3_save_52 : decode cX3_save 52 = .ok (.iload_n 1, 1) := dk_27 (dk_at dksX3_save_2 5 rfl rfl)
theorem dX3_save_53 : decode cX3_save 53 = .ok (.sipush 283, 3) := dk_17 1 27 (dk_at dksX3_save_2 6 rfl rfl)
theorem dX3_save_56 : decode cX3_save 56 = .ok (.if_icmp .ge 30, 3) := dk_162 0 30 (dk_at dksX3_save_2 9 rfl rfl)
theorem dX3_save_59 : decode cX3_save 59 = .ok (.aload_n 0, 1) := dk_42 (dk_at dksX3_save_2 12 rfl rfl)
theorem dX3_save_60 : decode cX3_save 60 = .ok (.getfield 16, 3) := dk_180 0 16 (dk_at dksX3_save_2 13 rfl rfl)
theorem dX3_save_63 : decode cX3_save 63 = .ok (.sipush 283, 3) := dk_17 1 27 (dk_at dksX3_save_2 16 rfl rfl)
theorem dX3_save_66 : decode cX3_save 66 = .ok (.aload_n 0, 1) := dk_42 (dk_at dksX3_save_2 19 rfl rfl)
theorem dX3_save_67 : decode cX3_save 67 = .ok (.getfield 32, 3) := dk_180 0 32 (dk_at dksX3_save_2 20 rfl rfl)
theorem dX3_save_70 : decode cX3_save 70 = .ok (.imul, 1) := dk_104 (dk_at dksX3_save_2 23 rfl rfl)
theorem dX3_save_71 : decode cX3_save 71 = .ok (.iload_n 1, 1) := dk_27 (dk_at dksX3_save_3 0 rfl rfl)
theorem dX3_save_72 : decode cX3_save 72 = .ok (.iadd, 1) := dk_96 (dk_at dksX3_save_3 1 rfl rfl)
theorem dX3_save_73 : decode cX3_save 73 = .ok (.aload_n 0, 1) := dk_42 (dk_at dksX3_save_3 2 rfl rfl)
theorem dX3_save_74 : decode cX3_save 74 = .ok (.getfield 7, 3) := dk_180 0 7 (dk_at dksX3_save_3 3 rfl rfl)
theorem dX3_save_77 : decode cX3_save 77 = .ok (.iload_n 1, 1) := dk_27 (dk_at dksX3_save_3 6 rfl rfl)
theorem dX3_save_78 : decode cX3_save 78 = .ok (.iaload, 1) := dk_46 (dk_at dksX3_save_3 7 rfl rfl)
theorem dX3_save_79 : decode cX3_save 79 = .ok (.iastore, 1) := dk_79 (dk_at dksX3_save_3 8 rfl rfl)
theorem dX3_save_80 : decode cX3_save 80 = .ok (.iinc 1 1, 3) := dk_132 1 1 (dk_at dksX3_save_3 9 rfl rfl)
theorem dX3_save_83 : decode cX3_save 83 = .ok (.goto (-31), 3) := dk_167 255 225 (dk_at dksX3_save_3 12 rfl rfl)
theorem dX3_save_86 : decode cX3_save 86 = .ok (.aload_n 0, 1) := dk_42 (dk_at dksX3_save_3 15 rfl rfl)
theorem dX3_save_87 : decode cX3_save 87 = .ok (.dup, 1) := dk_89 (dk_at dksX3_save_3 16 rfl rfl)
theorem dX3_save_88 : decode cX3_save 88 = .ok (.getfield 32, 3) := dk_180 0 32 (dk_at dksX3_save_3 17 rfl rfl)
theorem dX3_save_91 : decode cX3_save 91 = .ok (.iconst 1, 1) := dk_4 (dk_at dksX3_save_3 20 rfl rfl)
theorem dX3_save_92 : decode cX3_save 92 = .ok (.iadd, 1) := dk_96 (dk_at dksX3_save_3 21 rfl rfl)
theorem dX3_save_93 : decode cX3_save 93 = .ok (.putfield 32, 3) := dk_181 0 32 (dk_at dksX3_save_4 0 rfl rfl)
theorem dX3_save_96 : decode cX3_save 96 = .ok (.return_, 1) := dk_177 (dk_at dksX3_save_4 3 rfl rfl)
abbrev cX3_brandAt : ByteArray := prog_23_method_8_code
def yX3_brandAt : MethodName := ⟨RX3, "brandAt", "(II)I"⟩
def dkwX3_brandAt_0 : List UInt8 := [16, 13, 16, 10, 26, 104, 96, 27, 96, 172]
abbrev dktX3_brandAt_0 : List UInt8 := dkwX3_brandAt_0 ++ []
theorem dksX3_brandAt_0 : cX3_brandAt.data.toList.drop 0 = dktX3_brandAt_0 := by decide +kernel
theorem dX3_brandAt_0 : decode cX3_brandAt 0 = .ok (.bipush 13, 2) := dk_16 13 (dk_at dksX3_brandAt_0 0 rfl rfl)
theorem dX3_brandAt_2 : decode cX3_brandAt 2 = .ok (.bipush 10, 2) := dk_16 10 (dk_at dksX3_brandAt_0 2 rfl rfl)
theorem dX3_brandAt_4 : decode cX3_brandAt 4 = .ok (.iload_n 0, 1) := dk_26 (dk_at dksX3_brandAt_0 4 rfl rfl)
theorem dX3_brandAt_5 : decode cX3_brandAt 5 = .ok (.imul, 1) := dk_104 (dk_at dksX3_brandAt_0 5 rfl rfl)
theorem dX3_brandAt_6 : decode cX3_brandAt 6 = .ok (.iadd, 1) := dk_96 (dk_at dksX3_brandAt_0 6 rfl rfl)
theorem dX3_brandAt_7 : decode cX3_brandAt 7 = .ok (.iload_n 1, 1) := dk_27 (dk_at dksX3_brandAt_0 7 rfl rfl)
theorem dX3_brandAt_8 : decode cX3_brandAt 8 = .ok (.iadd, 1) := dk_96 (dk_at dksX3_brandAt_0 8 rfl rfl)
theorem dX3_brandAt_9 : decode cX3_brandAt 9 = .ok (.ireturn, 1) := dk_172 (dk_at dksX3_brandAt_0 9 rfl rfl)
abbrev cX3_addShop : ByteArray := prog_23_method_15_code
def yX3_addShop : MethodName := ⟨RX3, "addShop", "(I)I"⟩
def dkwX3_addShop_3 : List UInt8 := [180, 0, 7, 4, 46, 4, 100, 172]
abbrev dktX3_addShop_3 : List UInt8 := dkwX3_addShop_3 ++ []
def dkwX3_addShop_2 : List UInt8 := [42, 180, 0, 7, 4, 46, 3, 184, 0, 43, 27, 79, 42, 180, 0, 7, 4, 92, 46, 4, 96, 79, 42]
abbrev dktX3_addShop_2 : List UInt8 := dkwX3_addShop_2 ++ dktX3_addShop_3
def dkwX3_addShop_1 : List UInt8 := [180, 0, 7, 4, 46, 16, 6, 160, 0, 9, 42, 5, 182, 0, 49, 172, 42, 182, 0, 53, 42, 180, 0, 7]
abbrev dktX3_addShop_1 : List UInt8 := dkwX3_addShop_1 ++ dktX3_addShop_2
def dkwX3_addShop_0 : List UInt8 := [42, 3, 181, 0, 28, 27, 3, 18, 56, 184, 0, 35, 154, 0, 9, 42, 4, 182, 0, 49, 172, 42]
abbrev dktX3_addShop_0 : List UInt8 := dkwX3_addShop_0 ++ dktX3_addShop_1
theorem dksX3_addShop_0 : cX3_addShop.data.toList.drop 0 = dktX3_addShop_0 := by decide +kernel
theorem dksX3_addShop_1 : cX3_addShop.data.toList.drop 22 = dktX3_addShop_1 := dk_seg dksX3_addShop_0 22 rfl rfl
theorem dksX3_addShop_2 : cX3_addShop.data.toList.drop 46 = dktX3_addShop_2 := dk_seg dksX3_addShop_1 24 rfl rfl
theorem dksX3_addShop_3 : cX3_addShop.data.toList.drop 69 = dktX3_addShop_3 := dk_seg dksX3_addShop_2 23 rfl rfl
theorem dX3_addShop_0 : decode cX3_addShop 0 = .ok (.aload_n 0, 1) := dk_42 (dk_at dksX3_addShop_0 0 rfl rfl)
theorem dX3_addShop_1 : decode cX3_addShop 1 = .ok (.iconst 0, 1) := dk_3 (dk_at dksX3_addShop_0 1 rfl rfl)
theorem dX3_addShop_2 : decode cX3_addShop 2 = .ok (.putfield 28, 3) := dk_181 0 28 (dk_at dksX3_addShop_0 2 rfl rfl)
theorem dX3_addShop_5 : decode cX3_addShop 5 = .ok (.iload_n 1, 1) := dk_27 (dk_at dksX3_addShop_0 5 rfl rfl)
theorem dX3_addShop_6 : decode cX3_addShop 6 = .ok (.iconst 0, 1) := dk_3 (dk_at dksX3_addShop_0 6 rfl rfl)
theorem dX3_addShop_7 : decode cX3_addShop 7 = .ok (.ldc 56, 2) := dk_18 56 (dk_at dksX3_addShop_0 7 rfl rfl)
theorem dX3_addShop_9 : decode cX3_addShop 9 = .ok (.invokestatic 35, 3) := dk_184 0 35 (dk_at dksX3_addShop_0 9 rfl rfl)
theorem dX3_addShop_12 : decode cX3_addShop 12 = .ok (.ifCond .ne 9, 3) := dk_154 0 9 (dk_at dksX3_addShop_0 12 rfl rfl)
theorem dX3_addShop_15 : decode cX3_addShop 15 = .ok (.aload_n 0, 1) := dk_42 (dk_at dksX3_addShop_0 15 rfl rfl)
theorem dX3_addShop_16 : decode cX3_addShop 16 = .ok (.iconst 1, 1) := dk_4 (dk_at dksX3_addShop_0 16 rfl rfl)
theorem dX3_addShop_17 : decode cX3_addShop 17 = .ok (.invokevirtual 49, 3) := dk_182 0 49 (dk_at dksX3_addShop_0 17 rfl rfl)
theorem dX3_addShop_20 : decode cX3_addShop 20 = .ok (.ireturn, 1) := dk_172 (dk_at dksX3_addShop_0 20 rfl rfl)
theorem dX3_addShop_21 : decode cX3_addShop 21 = .ok (.aload_n 0, 1) := dk_42 (dk_at dksX3_addShop_0 21 rfl rfl)
theorem dX3_addShop_22 : decode cX3_addShop 22 = .ok (.getfield 7, 3) := dk_180 0 7 (dk_at dksX3_addShop_1 0 rfl rfl)
theorem dX3_addShop_25 : decode cX3_addShop 25 = .ok (.iconst 1, 1) := dk_4 (dk_at dksX3_addShop_1 3 rfl rfl)
theorem dX3_addShop_26 : decode cX3_addShop 26 = .ok (.iaload, 1) := dk_46 (dk_at dksX3_addShop_1 4 rfl rfl)
theorem dX3_addShop_27 : decode cX3_addShop 27 = .ok (.bipush 6, 2) := dk_16 6 (dk_at dksX3_addShop_1 5 rfl rfl)
theorem dX3_addShop_29 : decode cX3_addShop 29 = .ok (.if_icmp .ne 9, 3) := dk_160 0 9 (dk_at dksX3_addShop_1 7 rfl rfl)
theorem dX3_addShop_32 : decode cX3_addShop 32 = .ok (.aload_n 0, 1) := dk_42 (dk_at dksX3_addShop_1 10 rfl rfl)
theorem dX3_addShop_33 : decode cX3_addShop 33 = .ok (.iconst 2, 1) := dk_5 (dk_at dksX3_addShop_1 11 rfl rfl)
theorem dX3_addShop_34 : decode cX3_addShop 34 = .ok (.invokevirtual 49, 3) := dk_182 0 49 (dk_at dksX3_addShop_1 12 rfl rfl)
theorem dX3_addShop_37 : decode cX3_addShop 37 = .ok (.ireturn, 1) := dk_172 (dk_at dksX3_addShop_1 15 rfl rfl)
theorem dX3_addShop_38 : decode cX3_addShop 38 = .ok (.aload_n 0, 1) := dk_42 (dk_at dksX3_addShop_1 16 rfl rfl)
theorem dX3_addShop_39 : decode cX3_addShop 39 = .ok (.invokevirtual 53, 3) := dk_182 0 53 (dk_at dksX3_addShop_1 17 rfl rfl)
theorem dX3_addShop_42 : decode cX3_addShop 42 = .ok (.aload_n 0, 1) := dk_42 (dk_at dksX3_addShop_1 20 rfl rfl)
theorem dX3_addShop_43 : decode cX3_addShop 43 = .ok (.getfield 7, 3) := dk_180 0 7 (dk_at dksX3_addShop_1 21 rfl rfl)
theorem dX3_addShop_46 : decode cX3_addShop 46 = .ok (.aload_n 0, 1) := dk_42 (dk_at dksX3_addShop_2 0 rfl rfl)
theorem dX3_addShop_47 : decode cX3_addShop 47 = .ok (.getfield 7, 3) := dk_180 0 7 (dk_at dksX3_addShop_2 1 rfl rfl)
theorem dX3_addShop_50 : decode cX3_addShop 50 = .ok (.iconst 1, 1) := dk_4 (dk_at dksX3_addShop_2 4 rfl rfl)
theorem dX3_addShop_51 : decode cX3_addShop 51 = .ok (.iaload, 1) := dk_46 (dk_at dksX3_addShop_2 5 rfl rfl)
theorem dX3_addShop_52 : decode cX3_addShop 52 = .ok (.iconst 0, 1) := dk_3 (dk_at dksX3_addShop_2 6 rfl rfl)
theorem dX3_addShop_53 : decode cX3_addShop 53 = .ok (.invokestatic 43, 3) := dk_184 0 43 (dk_at dksX3_addShop_2 7 rfl rfl)
theorem dX3_addShop_56 : decode cX3_addShop 56 = .ok (.iload_n 1, 1) := dk_27 (dk_at dksX3_addShop_2 10 rfl rfl)
theorem dX3_addShop_57 : decode cX3_addShop 57 = .ok (.iastore, 1) := dk_79 (dk_at dksX3_addShop_2 11 rfl rfl)
theorem dX3_addShop_58 : decode cX3_addShop 58 = .ok (.aload_n 0, 1) := dk_42 (dk_at dksX3_addShop_2 12 rfl rfl)
theorem dX3_addShop_59 : decode cX3_addShop 59 = .ok (.getfield 7, 3) := dk_180 0 7 (dk_at dksX3_addShop_2 13 rfl rfl)
theorem dX3_addShop_62 : decode cX3_addShop 62 = .ok (.iconst 1, 1) := dk_4 (dk_at dksX3_addShop_2 16 rfl rfl)
theorem dX3_addShop_63 : decode cX3_addShop 63 = .ok (.dup2, 1) := dk_92 (dk_at dksX3_addShop_2 17 rfl rfl)
theorem dX3_addShop_64 : decode cX3_addShop 64 = .ok (.iaload, 1) := dk_46 (dk_at dksX3_addShop_2 18 rfl rfl)
theorem dX3_addShop_65 : decode cX3_addShop 65 = .ok (.iconst 1, 1) := dk_4 (dk_at dksX3_addShop_2 19 rfl rfl)
theorem dX3_addShop_66 : decode cX3_addShop 66 = .ok (.iadd, 1) := dk_96 (dk_at dksX3_addShop_2 20 rfl rfl)
theorem dX3_addShop_67 : decode cX3_addShop 67 = .ok (.iastore, 1) := dk_79 (dk_at dksX3_addShop_2 21 rfl rfl)
theorem dX3_addShop_68 : decode cX3_addShop 68 = .ok (.aload_n 0, 1) := dk_42 (dk_at dksX3_addShop_2 22 rfl rfl)
theorem dX3_addShop_69 : decode cX3_addShop 69 = .ok (.getfield 7, 3) := dk_180 0 7 (dk_at dksX3_addShop_3 0 rfl rfl)
theorem dX3_addShop_72 : decode cX3_addShop 72 = .ok (.iconst 1, 1) := dk_4 (dk_at dksX3_addShop_3 3 rfl rfl)
theorem dX3_addShop_73 : decode cX3_addShop 73 = .ok (.iaload, 1) := dk_46 (dk_at dksX3_addShop_3 4 rfl rfl)
theorem dX3_addShop_74 : decode cX3_addShop 74 = .ok (.iconst 1, 1) := dk_4 (dk_at dksX3_addShop_3 5 rfl rfl)
theorem dX3_addShop_75 : decode cX3_addShop 75 = .ok (.isub, 1) := dk_100 (dk_at dksX3_addShop_3 6 rfl rfl)
theorem dX3_addShop_76 : decode cX3_addShop 76 = .ok (.ireturn, 1) := dk_172 (dk_at dksX3_addShop_3 7 rfl rfl)
abbrev cX3_shopAt : ByteArray := prog_23_method_9_code
def yX3_shopAt : MethodName := ⟨RX3, "shopAt", "(II)I"⟩
def dkwX3_shopAt_0 : List UInt8 := [16, 93, 16, 21, 26, 104, 96, 27, 96, 172]
abbrev dktX3_shopAt_0 : List UInt8 := dkwX3_shopAt_0 ++ []
theorem dksX3_shopAt_0 : cX3_shopAt.data.toList.drop 0 = dktX3_shopAt_0 := by decide +kernel
theorem dX3_shopAt_0 : decode cX3_shopAt 0 = .ok (.bipush 93, 2) := dk_16 93 (dk_at dksX3_shopAt_0 0 rfl rfl)
theorem dX3_shopAt_2 : decode cX3_shopAt 2 = .ok (.bipush 21, 2) := dk_16 21 (dk_at dksX3_shopAt_0 2 rfl rfl)
theorem dX3_shopAt_4 : decode cX3_shopAt 4 = .ok (.iload_n 0, 1) := dk_26 (dk_at dksX3_shopAt_0 4 rfl rfl)
theorem dX3_shopAt_5 : decode cX3_shopAt 5 = .ok (.imul, 1) := dk_104 (dk_at dksX3_shopAt_0 5 rfl rfl)
theorem dX3_shopAt_6 : decode cX3_shopAt 6 = .ok (.iadd, 1) := dk_96 (dk_at dksX3_shopAt_0 6 rfl rfl)
theorem dX3_shopAt_7 : decode cX3_shopAt 7 = .ok (.iload_n 1, 1) := dk_27 (dk_at dksX3_shopAt_0 7 rfl rfl)
theorem dX3_shopAt_8 : decode cX3_shopAt 8 = .ok (.iadd, 1) := dk_96 (dk_at dksX3_shopAt_0 8 rfl rfl)
theorem dX3_shopAt_9 : decode cX3_shopAt 9 = .ok (.ireturn, 1) := dk_172 (dk_at dksX3_shopAt_0 9 rfl rfl)
abbrev cX3_buyCrates : ByteArray := prog_23_method_17_code
def yX3_buyCrates : MethodName := ⟨RX3, "buyCrates", "(I)I"⟩
def dkwX3_buyCrates_2 : List UInt8 := [42, 182, 0, 53, 42, 180, 0, 7, 5, 92, 46, 27, 96, 79, 42, 180, 0, 7, 5, 46, 172]
abbrev dktX3_buyCrates_2 : List UInt8 := dkwX3_buyCrates_2 ++ []
def dkwX3_buyCrates_1 : List UInt8 := [180, 0, 7, 5, 46, 42, 182, 0, 60, 96, 27, 96, 17, 3, 232, 164, 0, 9, 42, 5, 182, 0, 49, 172]
abbrev dktX3_buyCrates_1 : List UInt8 := dkwX3_buyCrates_1 ++ dktX3_buyCrates_2
def dkwX3_buyCrates_0 : List UInt8 := [42, 3, 181, 0, 28, 27, 4, 17, 1, 244, 184, 0, 35, 154, 0, 9, 42, 4, 182, 0, 49, 172, 42]
abbrev dktX3_buyCrates_0 : List UInt8 := dkwX3_buyCrates_0 ++ dktX3_buyCrates_1
theorem dksX3_buyCrates_0 : cX3_buyCrates.data.toList.drop 0 = dktX3_buyCrates_0 := by decide +kernel
theorem dksX3_buyCrates_1 : cX3_buyCrates.data.toList.drop 23 = dktX3_buyCrates_1 := dk_seg dksX3_buyCrates_0 23 rfl rfl
theorem dksX3_buyCrates_2 : cX3_buyCrates.data.toList.drop 47 = dktX3_buyCrates_2 := dk_seg dksX3_buyCrates_1 24 rfl rfl
theorem dX3_buyCrates_0 : decode cX3_buyCrates 0 = .ok (.aload_n 0, 1) := dk_42 (dk_at dksX3_buyCrates_0 0 rfl rfl)
theorem dX3_buyCrates_1 : decode cX3_buyCrates 1 = .ok (.iconst 0, 1) := dk_3 (dk_at dksX3_buyCrates_0 1 rfl rfl)
theorem dX3_buyCrates_2 : decode cX3_buyCrates 2 = .ok (.putfield 28, 3) := dk_181 0 28 (dk_at dksX3_buyCrates_0 2 rfl rfl)
theorem dX3_buyCrates_5 : decode cX3_buyCrates 5 = .ok (.iload_n 1, 1) := dk_27 (dk_at dksX3_buyCrates_0 5 rfl rfl)
theorem dX3_buyCrates_6 : decode cX3_buyCrates 6 = .ok (.iconst 1, 1) := dk_4 (dk_at dksX3_buyCrates_0 6 rfl rfl)
theorem dX3_buyCrates_7 : decode cX3_buyCrates 7 = .ok (.sipush 500, 3) := dk_17 1 244 (dk_at dksX3_buyCrates_0 7 rfl rfl)
theorem dX3_buyCrates_10 : decode cX3_buyCrates 10 = .ok (.invokestatic 35, 3) := dk_184 0 35 (dk_at dksX3_buyCrates_0 10 rfl rfl)
theorem dX3_buyCrates_13 : decode cX3_buyCrates 13 = .ok (.ifCond .ne 9, 3) := dk_154 0 9 (dk_at dksX3_buyCrates_0 13 rfl rfl)
theorem dX3_buyCrates_16 : decode cX3_buyCrates 16 = .ok (.aload_n 0, 1) := dk_42 (dk_at dksX3_buyCrates_0 16 rfl rfl)
theorem dX3_buyCrates_17 : decode cX3_buyCrates 17 = .ok (.iconst 1, 1) := dk_4 (dk_at dksX3_buyCrates_0 17 rfl rfl)
theorem dX3_buyCrates_18 : decode cX3_buyCrates 18 = .ok (.invokevirtual 49, 3) := dk_182 0 49 (dk_at dksX3_buyCrates_0 18 rfl rfl)
theorem dX3_buyCrates_21 : decode cX3_buyCrates 21 = .ok (.ireturn, 1) := dk_172 (dk_at dksX3_buyCrates_0 21 rfl rfl)
theorem dX3_buyCrates_22 : decode cX3_buyCrates 22 = .ok (.aload_n 0, 1) := dk_42 (dk_at dksX3_buyCrates_0 22 rfl rfl)
theorem dX3_buyCrates_23 : decode cX3_buyCrates 23 = .ok (.getfield 7, 3) := dk_180 0 7 (dk_at dksX3_buyCrates_1 0 rfl rfl)
theorem dX3_buyCrates_26 : decode cX3_buyCrates 26 = .ok (.iconst 2, 1) := dk_5 (dk_at dksX3_buyCrates_1 3 rfl rfl)
theorem dX3_buyCrates_27 : decode cX3_buyCrates 27 = .ok (.iaload, 1) := dk_46 (dk_at dksX3_buyCrates_1 4 rfl rfl)
theorem dX3_buyCrates_28 : decode cX3_buyCrates 28 = .ok (.aload_n 0, 1) := dk_42 (dk_at dksX3_buyCrates_1 5 rfl rfl)
theorem dX3_buyCrates_29 : decode cX3_buyCrates 29 = .ok (.invokevirtual 60, 3) := dk_182 0 60 (dk_at dksX3_buyCrates_1 6 rfl rfl)
theorem dX3_buyCrates_32 : decode cX3_buyCrates 32 = .ok (.iadd, 1) := dk_96 (dk_at dksX3_buyCrates_1 9 rfl rfl)
theorem dX3_buyCrates_33 : decode cX3_buyCrates 33 = .ok (.iload_n 1, 1) := dk_27 (dk_at dksX3_buyCrates_1 10 rfl rfl)
theorem dX3_buyCrates_34 : decode cX3_buyCrates 34 = .ok (.iadd, 1) := dk_96 (dk_at dksX3_buyCrates_1 11 rfl rfl)
theorem dX3_buyCrates_35 : decode cX3_buyCrates 35 = .ok (.sipush 1000, 3) := dk_17 3 232 (dk_at dksX3_buyCrates_1 12 rfl rfl)
theorem dX3_buyCrates_38 : decode cX3_buyCrates 38 = .ok (.if_icmp .le 9, 3) := dk_164 0 9 (dk_at dksX3_buyCrates_1 15 rfl rfl)
theorem dX3_buyCrates_41 : decode cX3_buyCrates 41 = .ok (.aload_n 0, 1) := dk_42 (dk_at dksX3_buyCrates_1 18 rfl rfl)
theorem dX3_buyCrates_42 : decode cX3_buyCrates 42 = .ok (.iconst 2, 1) := dk_5 (dk_at dksX3_buyCrates_1 19 rfl rfl)
theorem dX3_buyCrates_43 : decode cX3_buyCrates 43 = .ok (.invokevirtual 49, 3) := dk_182 0 49 (dk_at dksX3_buyCrates_1 20 rfl rfl)
theorem dX3_buyCrates_46 : decode cX3_buyCrates 46 = .ok (.ireturn, 1) := dk_172 (dk_at dksX3_buyCrates_1 23 rfl rfl)
theorem dX3_buyCrates_47 : decode cX3_buyCrates 47 = .ok (.aload_n 0, 1) := dk_42 (dk_at dksX3_buyCrates_2 0 rfl rfl)
theorem dX3_buyCrates_48 : decode cX3_buyCrates 48 = .ok (.invokevirtual 53, 3) := dk_182 0 53 (dk_at dksX3_buyCrates_2 1 rfl rfl)
theorem dX3_buyCrates_51 : decode cX3_buyCrates 51 = .ok (.aload_n 0, 1) := dk_42 (dk_at dksX3_buyCrates_2 4 rfl rfl)
theorem dX3_buyCrates_52 : decode cX3_buyCrates 52 = .ok (.getfield 7, 3) := dk_180 0 7 (dk_at dksX3_buyCrates_2 5 rfl rfl)
theorem dX3_buyCrates_55 : decode cX3_buyCrates 55 = .ok (.iconst 2, 1) := dk_5 (dk_at dksX3_buyCrates_2 8 rfl rfl)
theorem dX3_buyCrates_56 : decode cX3_buyCrates 56 = .ok (.dup2, 1) := dk_92 (dk_at dksX3_buyCrates_2 9 rfl rfl)
theorem dX3_buyCrates_57 : decode cX3_buyCrates 57 = .ok (.iaload, 1) := dk_46 (dk_at dksX3_buyCrates_2 10 rfl rfl)
theorem dX3_buyCrates_58 : decode cX3_buyCrates 58 = .ok (.iload_n 1, 1) := dk_27 (dk_at dksX3_buyCrates_2 11 rfl rfl)
theorem dX3_buyCrates_59 : decode cX3_buyCrates 59 = .ok (.iadd, 1) := dk_96 (dk_at dksX3_buyCrates_2 12 rfl rfl)
theorem dX3_buyCrates_60 : decode cX3_buyCrates 60 = .ok (.iastore, 1) := dk_79 (dk_at dksX3_buyCrates_2 13 rfl rfl)
theorem dX3_buyCrates_61 : decode cX3_buyCrates 61 = .ok (.aload_n 0, 1) := dk_42 (dk_at dksX3_buyCrates_2 14 rfl rfl)
theorem dX3_buyCrates_62 : decode cX3_buyCrates 62 = .ok (.getfield 7, 3) := dk_180 0 7 (dk_at dksX3_buyCrates_2 15 rfl rfl)
theorem dX3_buyCrates_65 : decode cX3_buyCrates 65 = .ok (.iconst 2, 1) := dk_5 (dk_at dksX3_buyCrates_2 18 rfl rfl)
theorem dX3_buyCrates_66 : decode cX3_buyCrates 66 = .ok (.iaload, 1) := dk_46 (dk_at dksX3_buyCrates_2 19 rfl rfl)
theorem dX3_buyCrates_67 : decode cX3_buyCrates 67 = .ok (.ireturn, 1) := dk_172 (dk_at dksX3_buyCrates_2 20 rfl rfl)
abbrev cX3_cratesInShops : ByteArray := prog_23_method_16_code
def yX3_cratesInShops : MethodName := ⟨RX3, "cratesInShops", "()I"⟩
def dkwX3_cratesInShops_1 : List UInt8 := [132, 2, 1, 167, 255, 234, 27, 172]
abbrev dktX3_cratesInShops_1 : List UInt8 := dkwX3_cratesInShops_1 ++ []
def dkwX3_cratesInShops_0 : List UInt8 := [3, 60, 3, 61, 28, 42, 180, 0, 7, 4, 46, 162, 0, 18, 27, 42, 28, 4, 182, 0, 57, 96, 60]
abbrev dktX3_cratesInShops_0 : List UInt8 := dkwX3_cratesInShops_0 ++ dktX3_cratesInShops_1
theorem dksX3_cratesInShops_0 : cX3_cratesInShops.data.toList.drop 0 = dktX3_cratesInShops_0 := by decide +kernel
theorem dksX3_cratesInShops_1 : cX3_cratesInShops.data.toList.drop 23 = dktX3_cratesInShops_1 := dk_seg dksX3_cratesInShops_0 23 rfl rfl
theorem dX3_cratesInShops_0 : decode cX3_cratesInShops 0 = .ok (.iconst 0, 1) := dk_3 (dk_at dksX3_cratesInShops_0 0 rfl rfl)
theorem dX3_cratesInShops_1 : decode cX3_cratesInShops 1 = .ok (.istore_n 1, 1) := dk_60 (dk_at dksX3_cratesInShops_0 1 rfl rfl)
theorem dX3_cratesInShops_2 : decode cX3_cratesInShops 2 = .ok (.iconst 0, 1) := dk_3 (dk_at dksX3_cratesInShops_0 2 rfl rfl)
theorem dX3_cratesInShops_3 : decode cX3_cratesInShops 3 = .ok (.istore_n 2, 1) := dk_61 (dk_at dksX3_cratesInShops_0 3 rfl rfl)
theorem dX3_cratesInShops_4 : decode cX3_cratesInShops 4 = .ok (.iload_n 2, 1) := dk_28 (dk_at dksX3_cratesInShops_0 4 rfl rfl)
theorem dX3_cratesInShops_5 : decode cX3_cratesInShops 5 = .ok (.aload_n 0, 1) := dk_42 (dk_at dksX3_cratesInShops_0 5 rfl rfl)
theorem dX3_cratesInShops_6 : decode cX3_cratesInShops 6 = .ok (.getfield 7, 3) := dk_180 0 7 (dk_at dksX3_cratesInShops_0 6 rfl rfl)
theorem dX3_cratesInShops_9 : decode cX3_cratesInShops 9 = .ok (.iconst 1, 1) := dk_4 (dk_at dksX3_cratesInShops_0 9 rfl rfl)
theorem dX3_cratesInShops_10 : decode cX3_cratesInShops 10 = .ok (.iaload, 1) := dk_46 (dk_at dksX3_cratesInShops_0 10 rfl rfl)
theorem dX3_cratesInShops_11 : decode cX3_cratesInShops 11 = .ok (.if_icmp .ge 18, 3) := dk_162 0 18 (dk_at dksX3_cratesInShops_0 11 rfl rfl)
theorem dX3_cratesInShops_14 : decode cX3_cratesInShops 14 = .ok (.iload_n 1, 1) := dk_27 (dk_at dksX3_cratesInShops_0 14 rfl rfl)
theorem dX3_cratesInShops_15 : decode cX3_cratesInShops 15 = .ok (.aload_n 0, 1) := dk_42 (dk_at dksX3_cratesInShops_0 15 rfl rfl)
theorem dX3_cratesInShops_16 : decode cX3_cratesInShops 16 = .ok (.iload_n 2, 1) := dk_28 (dk_at dksX3_cratesInShops_0 16 rfl rfl)
theorem dX3_cratesInShops_17 : decode cX3_cratesInShops 17 = .ok (.iconst 1, 1) := dk_4 (dk_at dksX3_cratesInShops_0 17 rfl rfl)
theorem dX3_cratesInShops_18 : decode cX3_cratesInShops 18 = .ok (.invokevirtual 57, 3) := dk_182 0 57 (dk_at dksX3_cratesInShops_0 18 rfl rfl)
theorem dX3_cratesInShops_21 : decode cX3_cratesInShops 21 = .ok (.iadd, 1) := dk_96 (dk_at dksX3_cratesInShops_0 21 rfl rfl)
theorem dX3_cratesInShops_22 : decode cX3_cratesInShops 22 = .ok (.istore_n 1, 1) := dk_60 (dk_at dksX3_cratesInShops_0 22 rfl rfl)
theorem dX3_cratesInShops_23 : decode cX3_cratesInShops 23 = .ok (.iinc 2 1, 3) := dk_132 2 1 (dk_at dksX3_cratesInShops_1 0 rfl rfl)
theorem dX3_cratesInShops_26 : decode cX3_cratesInShops 26 = .ok (.goto (-22), 3) := dk_167 255 234 (dk_at dksX3_cratesInShops_1 3 rfl rfl)
theorem dX3_cratesInShops_29 : decode cX3_cratesInShops 29 = .ok (.iload_n 1, 1) := dk_27 (dk_at dksX3_cratesInShops_1 6 rfl rfl)
theorem dX3_cratesInShops_30 : decode cX3_cratesInShops 30 = .ok (.ireturn, 1) := dk_172 (dk_at dksX3_cratesInShops_1 7 rfl rfl)
abbrev cX3_ofShop : ByteArray := prog_23_method_11_code
def yX3_ofShop : MethodName := ⟨RX3, "ofShop", "(II)I"⟩
def dkwX3_ofShop_0 : List UInt8 := [42, 180, 0, 7, 27, 28, 184, 0, 43, 46, 172]
abbrev dktX3_ofShop_0 : List UInt8 := dkwX3_ofShop_0 ++ []
theorem dksX3_ofShop_0 : cX3_ofShop.data.toList.drop 0 = dktX3_ofShop_0 := by decide +kernel
theorem dX3_ofShop_0 : decode cX3_ofShop 0 = .ok (.aload_n 0, 1) := dk_42 (dk_at dksX3_ofShop_0 0 rfl rfl)
theorem dX3_ofShop_1 : decode cX3_ofShop 1 = .ok (.getfield 7, 3) := dk_180 0 7 (dk_at dksX3_ofShop_0 1 rfl rfl)
theorem dX3_ofShop_4 : decode cX3_ofShop 4 = .ok (.iload_n 1, 1) := dk_27 (dk_at dksX3_ofShop_0 4 rfl rfl)
theorem dX3_ofShop_5 : decode cX3_ofShop 5 = .ok (.iload_n 2, 1) := dk_28 (dk_at dksX3_ofShop_0 5 rfl rfl)
theorem dX3_ofShop_6 : decode cX3_ofShop 6 = .ok (.invokestatic 43, 3) := dk_184 0 43 (dk_at dksX3_ofShop_0 6 rfl rfl)
theorem dX3_ofShop_9 : decode cX3_ofShop 9 = .ok (.iaload, 1) := dk_46 (dk_at dksX3_ofShop_0 9 rfl rfl)
theorem dX3_ofShop_10 : decode cX3_ofShop 10 = .ok (.ireturn, 1) := dk_172 (dk_at dksX3_ofShop_0 10 rfl rfl)
abbrev cX3_set : ByteArray := prog_23_method_18_code
def yX3_set : MethodName := ⟨RX3, "set", "(II)I"⟩
def dkwX3_set_3 : List UInt8 := [180, 0, 7, 16, 7, 27, 96, 46, 62, 42, 180, 0, 7, 16, 7, 27, 96, 28, 79, 29, 172]
abbrev dktX3_set_3 : List UInt8 := dkwX3_set_3 ++ []
def dkwX3_set_2 : List UInt8 := [7, 162, 0, 18, 42, 180, 0, 7, 6, 46, 158, 0, 9, 42, 6, 182, 0, 49, 172, 42, 182, 0, 53, 42]
abbrev dktX3_set_2 : List UInt8 := dkwX3_set_2 ++ dktX3_set_3
def dkwX3_set_1 : List UInt8 := [180, 0, 22, 27, 46, 42, 180, 0, 25, 27, 46, 184, 0, 35, 154, 0, 9, 42, 5, 182, 0, 49, 172, 27]
abbrev dktX3_set_1 : List UInt8 := dkwX3_set_1 ++ dktX3_set_2
def dkwX3_set_0 : List UInt8 := [42, 3, 181, 0, 28, 27, 3, 8, 184, 0, 35, 154, 0, 9, 42, 4, 182, 0, 49, 172, 28, 42]
abbrev dktX3_set_0 : List UInt8 := dkwX3_set_0 ++ dktX3_set_1
theorem dksX3_set_0 : cX3_set.data.toList.drop 0 = dktX3_set_0 := by decide +kernel
theorem dksX3_set_1 : cX3_set.data.toList.drop 22 = dktX3_set_1 := dk_seg dksX3_set_0 22 rfl rfl
theorem dksX3_set_2 : cX3_set.data.toList.drop 46 = dktX3_set_2 := dk_seg dksX3_set_1 24 rfl rfl
theorem dksX3_set_3 : cX3_set.data.toList.drop 70 = dktX3_set_3 := dk_seg dksX3_set_2 24 rfl rfl
theorem dX3_set_0 : decode cX3_set 0 = .ok (.aload_n 0, 1) := dk_42 (dk_at dksX3_set_0 0 rfl rfl)
theorem dX3_set_1 : decode cX3_set 1 = .ok (.iconst 0, 1) := dk_3 (dk_at dksX3_set_0 1 rfl rfl)
theorem dX3_set_2 : decode cX3_set 2 = .ok (.putfield 28, 3) := dk_181 0 28 (dk_at dksX3_set_0 2 rfl rfl)
theorem dX3_set_5 : decode cX3_set 5 = .ok (.iload_n 1, 1) := dk_27 (dk_at dksX3_set_0 5 rfl rfl)
theorem dX3_set_6 : decode cX3_set 6 = .ok (.iconst 0, 1) := dk_3 (dk_at dksX3_set_0 6 rfl rfl)
theorem dX3_set_7 : decode cX3_set 7 = .ok (.iconst 5, 1) := dk_8 (dk_at dksX3_set_0 7 rfl rfl)
theorem dX3_set_8 : decode cX3_set 8 = .ok (.invokestatic 35, 3) := dk_184 0 35 (dk_at dksX3_set_0 8 rfl rfl)
theorem dX3_set_11 : decode cX3_set 11 = .ok (.ifCond .ne 9, 3) := dk_154 0 9 (dk_at dksX3_set_0 11 rfl rfl)
theorem dX3_set_14 : decode cX3_set 14 = .ok (.aload_n 0, 1) := dk_42 (dk_at dksX3_set_0 14 rfl rfl)
theorem dX3_set_15 : decode cX3_set 15 = .ok (.iconst 1, 1) := dk_4 (dk_at dksX3_set_0 15 rfl rfl)
theorem dX3_set_16 : decode cX3_set 16 = .ok (.invokevirtual 49, 3) := dk_182 0 49 (dk_at dksX3_set_0 16 rfl rfl)
theorem dX3_set_19 : decode cX3_set 19 = .ok (.ireturn, 1) := dk_172 (dk_at dksX3_set_0 19 rfl rfl)
theorem dX3_set_20 : decode cX3_set 20 = .ok (.iload_n 2, 1) := dk_28 (dk_at dksX3_set_0 20 rfl rfl)
theorem dX3_set_21 : decode cX3_set 21 = .ok (.aload_n 0, 1) := dk_42 (dk_at dksX3_set_0 21 rfl rfl)
theorem dX3_set_22 : decode cX3_set 22 = .ok (.getfield 22, 3) := dk_180 0 22 (dk_at dksX3_set_1 0 rfl rfl)
theorem dX3_set_25 : decode cX3_set 25 = .ok (.iload_n 1, 1) := dk_27 (dk_at dksX3_set_1 3 rfl rfl)
theorem dX3_set_26 : decode cX3_set 26 = .ok (.iaload, 1) := dk_46 (dk_at dksX3_set_1 4 rfl rfl)
theorem dX3_set_27 : decode cX3_set 27 = .ok (.aload_n 0, 1) := dk_42 (dk_at dksX3_set_1 5 rfl rfl)
theorem dX3_set_28 : decode cX3_set 28 = .ok (.getfield 25, 3) := dk_180 0 25 (dk_at dksX3_set_1 6 rfl rfl)
theorem dX3_set_31 : decode cX3_set 31 = .ok (.iload_n 1, 1) := dk_27 (dk_at dksX3_set_1 9 rfl rfl)
theorem dX3_set_32 : decode cX3_set 32 = .ok (.iaload, 1) := dk_46 (dk_at dksX3_set_1 10 rfl rfl)
theorem dX3_set_33 : decode cX3_set 33 = .ok (.invokestatic 35, 3) := dk_184 0 35 (dk_at dksX3_set_1 11 rfl rfl)
theorem dX3_set_36 : decode cX3_set 36 = .ok (.ifCond .ne 9, 3) := dk_154 0 9 (dk_at dksX3_set_1 14 rfl rfl)
theorem dX3_set_39 : decode cX3_set 39 = .ok (.aload_n 0, 1) := dk_42 (dk_at dksX3_set_1 17 rfl rfl)
theorem dX3_set_40 : decode cX3_set 40 = .ok (.iconst 2, 1) := dk_5 (dk_at dksX3_set_1 18 rfl rfl)
theorem dX3_set_41 : decode cX3_set 41 = .ok (.invokevirtual 49, 3) := dk_182 0 49 (dk_at dksX3_set_1 19 rfl rfl)
theorem dX3_set_44 : decode cX3_set 44 = .ok (.ireturn, 1) := dk_172 (dk_at dksX3_set_1 22 rfl rfl)
theorem dX3_set_45 : decode cX3_set 45 = .ok (.iload_n 1, 1) := dk_27 (dk_at dksX3_set_1 23 rfl rfl)
theorem dX3_set_46 : decode cX3_set 46 = .ok (.iconst 4, 1) := dk_7 (dk_at dksX3_set_2 0 rfl rfl)
theorem dX3_set_47 : decode cX3_set 47 = .ok (.if_icmp .ge 18, 3) := dk_162 0 18 (dk_at dksX3_set_2 1 rfl rfl)
theorem dX3_set_50 : decode cX3_set 50 = .ok (.aload_n 0, 1) := dk_42 (dk_at dksX3_set_2 4 rfl rfl)
theorem dX3_set_51 : decode cX3_set 51 = .ok (.getfield 7, 3) := dk_180 0 7 (dk_at dksX3_set_2 5 rfl rfl)
theorem dX3_set_54 : decode cX3_set 54 = .ok (.iconst 3, 1) := dk_6 (dk_at dksX3_set_2 8 rfl rfl)
theorem dX3_set_55 : decode cX3_set 55 = .ok (.iaload, 1) := dk_46 (dk_at dksX3_set_2 9 rfl rfl)
theorem dX3_set_56 : decode cX3_set 56 = .ok (.ifCond .le 9, 3) := dk_158 0 9 (dk_at dksX3_set_2 10 rfl rfl)
theorem dX3_set_59 : decode cX3_set 59 = .ok (.aload_n 0, 1) := dk_42 (dk_at dksX3_set_2 13 rfl rfl)
theorem dX3_set_60 : decode cX3_set 60 = .ok (.iconst 3, 1) := dk_6 (dk_at dksX3_set_2 14 rfl rfl)
theorem dX3_set_61 : decode cX3_set 61 = .ok (.invokevirtual 49, 3) := dk_182 0 49 (dk_at dksX3_set_2 15 rfl rfl)
theorem dX3_set_64 : decode cX3_set 64 = .ok (.ireturn, 1) := dk_172 (dk_at dksX3_set_2 18 rfl rfl)
theorem dX3_set_65 : decode cX3_set 65 = .ok (.aload_n 0, 1) := dk_42 (dk_at dksX3_set_2 19 rfl rfl)
theorem dX3_set_66 : decode cX3_set 66 = .ok (.invokevirtual 53, 3) := dk_182 0 53 (dk_at dksX3_set_2 20 rfl rfl)
theorem dX3_set_69 : decode cX3_set 69 = .ok (.aload_n 0, 1) := dk_42 (dk_at dksX3_set_2 23 rfl rfl)
theorem dX3_set_70 : decode cX3_set 70 = .ok (.getfield 7, 3) := dk_180 0 7 (dk_at dksX3_set_3 0 rfl rfl)
theorem dX3_set_73 : decode cX3_set 73 = .ok (.bipush 7, 2) := dk_16 7 (dk_at dksX3_set_3 3 rfl rfl)
theorem dX3_set_75 : decode cX3_set 75 = .ok (.iload_n 1, 1) := dk_27 (dk_at dksX3_set_3 5 rfl rfl)
theorem dX3_set_76 : decode cX3_set 76 = .ok (.iadd, 1) := dk_96 (dk_at dksX3_set_3 6 rfl rfl)
theorem dX3_set_77 : decode cX3_set 77 = .ok (.iaload, 1) := dk_46 (dk_at dksX3_set_3 7 rfl rfl)
theorem dX3_set_78 : decode cX3_set 78 = .ok (.istore_n 3, 1) := dk_62 (dk_at dksX3_set_3 8 rfl rfl)
theorem dX3_set_79 : decode cX3_set 79 = .ok (.aload_n 0, 1) := dk_42 (dk_at dksX3_set_3 9 rfl rfl)
theorem dX3_set_80 : decode cX3_set 80 = .ok (.getfield 7, 3) := dk_180 0 7 (dk_at dksX3_set_3 10 rfl rfl)
theorem dX3_set_83 : decode cX3_set 83 = .ok (.bipush 7, 2) := dk_16 7 (dk_at dksX3_set_3 13 rfl rfl)
theorem dX3_set_85 : decode cX3_set 85 = .ok (.iload_n 1, 1) := dk_27 (dk_at dksX3_set_3 15 rfl rfl)
theorem dX3_set_86 : decode cX3_set 86 = .ok (.iadd, 1) := dk_96 (dk_at dksX3_set_3 16 rfl rfl)
theorem dX3_set_87 : decode cX3_set 87 = .ok (.iload_n 2, 1) := dk_28 (dk_at dksX3_set_3 17 rfl rfl)
theorem dX3_set_88 : decode cX3_set 88 = .ok (.iastore, 1) := dk_79 (dk_at dksX3_set_3 18 rfl rfl)
theorem dX3_set_89 : decode cX3_set 89 = .ok (.iload_n 3, 1) := dk_29 (dk_at dksX3_set_3 19 rfl rfl)
theorem dX3_set_90 : decode cX3_set 90 = .ok (.ireturn, 1) := dk_172 (dk_at dksX3_set_3 20 rfl rfl)
abbrev cX3_fill : ByteArray := prog_23_method_36_code
def yX3_fill : MethodName := ⟨RX3, "fill", "(II)I"⟩
def dkwX3_fill_2 : List UInt8 := [182, 0, 49, 172, 42, 182, 0, 53, 42, 27, 28, 182, 0, 89, 172]
abbrev dktX3_fill_2 : List UInt8 := dkwX3_fill_2 ++ []
def dkwX3_fill_1 : List UInt8 := [184, 0, 35, 154, 0, 9, 42, 5, 182, 0, 49, 172, 42, 27, 4, 182, 0, 46, 28, 162, 0, 9, 42, 6]
abbrev dktX3_fill_1 : List UInt8 := dkwX3_fill_1 ++ dktX3_fill_2
def dkwX3_fill_0 : List UInt8 := [42, 3, 181, 0, 28, 42, 27, 182, 0, 85, 154, 0, 9, 42, 4, 182, 0, 49, 172, 28, 4, 17, 19, 136]
abbrev dktX3_fill_0 : List UInt8 := dkwX3_fill_0 ++ dktX3_fill_1
theorem dksX3_fill_0 : cX3_fill.data.toList.drop 0 = dktX3_fill_0 := by decide +kernel
theorem dksX3_fill_1 : cX3_fill.data.toList.drop 24 = dktX3_fill_1 := dk_seg dksX3_fill_0 24 rfl rfl
theorem dksX3_fill_2 : cX3_fill.data.toList.drop 48 = dktX3_fill_2 := dk_seg dksX3_fill_1 24 rfl rfl
theorem dX3_fill_0 : decode cX3_fill 0 = .ok (.aload_n 0, 1) := dk_42 (dk_at dksX3_fill_0 0 rfl rfl)
theorem dX3_fill_1 : decode cX3_fill 1 = .ok (.iconst 0, 1) := dk_3 (dk_at dksX3_fill_0 1 rfl rfl)
theorem dX3_fill_2 : decode cX3_fill 2 = .ok (.putfield 28, 3) := dk_181 0 28 (dk_at dksX3_fill_0 2 rfl rfl)
theorem dX3_fill_5 : decode cX3_fill 5 = .ok (.aload_n 0, 1) := dk_42 (dk_at dksX3_fill_0 5 rfl rfl)
theorem dX3_fill_6 : decode cX3_fill 6 = .ok (.iload_n 1, 1) := dk_27 (dk_at dksX3_fill_0 6 rfl rfl)
theorem dX3_fill_7 : decode cX3_fill 7 = .ok (.invokevirtual 85, 3) := dk_182 0 85 (dk_at dksX3_fill_0 7 rfl rfl)
theorem dX3_fill_10 : decode cX3_fill 10 = .ok (.ifCond .ne 9, 3) := dk_154 0 9 (dk_at dksX3_fill_0 10 rfl rfl)
theorem dX3_fill_13 : decode cX3_fill 13 = .ok (.aload_n 0, 1) := dk_42 (dk_at dksX3_fill_0 13 rfl rfl)
theorem dX3_fill_14 : decode cX3_fill 14 = .ok (.iconst 1, 1) := dk_4 (dk_at dksX3_fill_0 14 rfl rfl)
theorem dX3_fill_15 : decode cX3_fill 15 = .ok (.invokevirtual 49, 3) := dk_182 0 49 (dk_at dksX3_fill_0 15 rfl rfl)
theorem dX3_fill_18 : decode cX3_fill 18 = .ok (.ireturn, 1) := dk_172 (dk_at dksX3_fill_0 18 rfl rfl)
theorem dX3_fill_19 : decode cX3_fill 19 = .ok (.iload_n 2, 1) := dk_28 (dk_at dksX3_fill_0 19 rfl rfl)
theorem dX3_fill_20 : decode cX3_fill 20 = .ok (.iconst 1, 1) := dk_4 (dk_at dksX3_fill_0 20 rfl rfl)
theorem dX3_fill_21 : decode cX3_fill 21 = .ok (.sipush 5000, 3) := dk_17 19 136 (dk_at dksX3_fill_0 21 rfl rfl)
theorem dX3_fill_24 : decode cX3_fill 24 = .ok (.invokestatic 35, 3) := dk_184 0 35 (dk_at dksX3_fill_1 0 rfl rfl)
theorem dX3_fill_27 : decode cX3_fill 27 = .ok (.ifCond .ne 9, 3) := dk_154 0 9 (dk_at dksX3_fill_1 3 rfl rfl)
theorem dX3_fill_30 : decode cX3_fill 30 = .ok (.aload_n 0, 1) := dk_42 (dk_at dksX3_fill_1 6 rfl rfl)
theorem dX3_fill_31 : decode cX3_fill 31 = .ok (.iconst 2, 1) := dk_5 (dk_at dksX3_fill_1 7 rfl rfl)
theorem dX3_fill_32 : decode cX3_fill 32 = .ok (.invokevirtual 49, 3) := dk_182 0 49 (dk_at dksX3_fill_1 8 rfl rfl)
theorem dX3_fill_35 : decode cX3_fill 35 = .ok (.ireturn, 1) := dk_172 (dk_at dksX3_fill_1 11 rfl rfl)
theorem dX3_fill_36 : decode cX3_fill 36 = .ok (.aload_n 0, 1) := dk_42 (dk_at dksX3_fill_1 12 rfl rfl)
theorem dX3_fill_37 : decode cX3_fill 37 = .ok (.iload_n 1, 1) := dk_27 (dk_at dksX3_fill_1 13 rfl rfl)
theorem dX3_fill_38 : decode cX3_fill 38 = .ok (.iconst 1, 1) := dk_4 (dk_at dksX3_fill_1 14 rfl rfl)
theorem dX3_fill_39 : decode cX3_fill 39 = .ok (.invokevirtual 46, 3) := dk_182 0 46 (dk_at dksX3_fill_1 15 rfl rfl)
theorem dX3_fill_42 : decode cX3_fill 42 = .ok (.iload_n 2, 1) := dk_28 (dk_at dksX3_fill_1 18 rfl rfl)
theorem dX3_fill_43 : decode cX3_fill 43 = .ok (.if_icmp .ge 9, 3) := dk_162 0 9 (dk_at dksX3_fill_1 19 rfl rfl)
theorem dX3_fill_46 : decode cX3_fill 46 = .ok (.aload_n 0, 1) := dk_42 (dk_at dksX3_fill_1 22 rfl rfl)
theorem dX3_fill_47 : decode cX3_fill 47 = .ok (.iconst 3, 1) := dk_6 (dk_at dksX3_fill_1 23 rfl rfl)
theorem dX3_fill_48 : decode cX3_fill 48 = .ok (.invokevirtual 49, 3) := dk_182 0 49 (dk_at dksX3_fill_2 0 rfl rfl)
theorem dX3_fill_51 : decode cX3_fill 51 = .ok (.ireturn, 1) := dk_172 (dk_at dksX3_fill_2 3 rfl rfl)
theorem dX3_fill_52 : decode cX3_fill 52 = .ok (.aload_n 0, 1) := dk_42 (dk_at dksX3_fill_2 4 rfl rfl)
theorem dX3_fill_53 : decode cX3_fill 53 = .ok (.invokevirtual 53, 3) := dk_182 0 53 (dk_at dksX3_fill_2 5 rfl rfl)
theorem dX3_fill_56 : decode cX3_fill 56 = .ok (.aload_n 0, 1) := dk_42 (dk_at dksX3_fill_2 8 rfl rfl)
theorem dX3_fill_57 : decode cX3_fill 57 = .ok (.iload_n 1, 1) := dk_27 (dk_at dksX3_fill_2 9 rfl rfl)
theorem dX3_fill_58 : decode cX3_fill 58 = .ok (.iload_n 2, 1) := dk_28 (dk_at dksX3_fill_2 10 rfl rfl)
theorem dX3_fill_59 : decode cX3_fill 59 = .ok (.invokevirtual 89, 3) := dk_182 0 89 (dk_at dksX3_fill_2 11 rfl rfl)
theorem dX3_fill_62 : decode cX3_fill 62 = .ok (.ireturn, 1) := dk_172 (dk_at dksX3_fill_2 14 rfl rfl)
abbrev cX3_isBrand : ByteArray := prog_23_method_6_code
def yX3_isBrand : MethodName := ⟨RX3, "isBrand", "(I)Z"⟩
def dkwX3_isBrand_0 : List UInt8 := [27, 3, 42, 180, 0, 7, 3, 46, 4, 100, 184, 0, 35, 172]
abbrev dktX3_isBrand_0 : List UInt8 := dkwX3_isBrand_0 ++ []
theorem dksX3_isBrand_0 : cX3_isBrand.data.toList.drop 0 = dktX3_isBrand_0 := by decide +kernel
theorem dX3_isBrand_0 : decode cX3_isBrand 0 = .ok (.iload_n 1, 1) := dk_27 (dk_at dksX3_isBrand_0 0 rfl rfl)
theorem dX3_isBrand_1 : decode cX3_isBrand 1 = .ok (.iconst 0, 1) := dk_3 (dk_at dksX3_isBrand_0 1 rfl rfl)
theorem dX3_isBrand_2 : decode cX3_isBrand 2 = .ok (.aload_n 0, 1) := dk_42 (dk_at dksX3_isBrand_0 2 rfl rfl)
theorem dX3_isBrand_3 : decode cX3_isBrand 3 = .ok (.getfield 7, 3) := dk_180 0 7 (dk_at dksX3_isBrand_0 3 rfl rfl)
theorem dX3_isBrand_6 : decode cX3_isBrand 6 = .ok (.iconst 0, 1) := dk_3 (dk_at dksX3_isBrand_0 6 rfl rfl)
theorem dX3_isBrand_7 : decode cX3_isBrand 7 = .ok (.iaload, 1) := dk_46 (dk_at dksX3_isBrand_0 7 rfl rfl)
theorem dX3_isBrand_8 : decode cX3_isBrand 8 = .ok (.iconst 1, 1) := dk_4 (dk_at dksX3_isBrand_0 8 rfl rfl)
theorem dX3_isBrand_9 : decode cX3_isBrand 9 = .ok (.isub, 1) := dk_100 (dk_at dksX3_isBrand_0 9 rfl rfl)
theorem dX3_isBrand_10 : decode cX3_isBrand 10 = .ok (.invokestatic 35, 3) := dk_184 0 35 (dk_at dksX3_isBrand_0 10 rfl rfl)
theorem dX3_isBrand_13 : decode cX3_isBrand 13 = .ok (.ireturn, 1) := dk_172 (dk_at dksX3_isBrand_0 13 rfl rfl)
abbrev cX3_of : ByteArray := prog_23_method_10_code
def yX3_of : MethodName := ⟨RX3, "of", "(II)I"⟩
def dkwX3_of_0 : List UInt8 := [42, 180, 0, 7, 27, 28, 184, 0, 39, 46, 172]
abbrev dktX3_of_0 : List UInt8 := dkwX3_of_0 ++ []
theorem dksX3_of_0 : cX3_of.data.toList.drop 0 = dktX3_of_0 := by decide +kernel
theorem dX3_of_0 : decode cX3_of 0 = .ok (.aload_n 0, 1) := dk_42 (dk_at dksX3_of_0 0 rfl rfl)
theorem dX3_of_1 : decode cX3_of 1 = .ok (.getfield 7, 3) := dk_180 0 7 (dk_at dksX3_of_0 1 rfl rfl)
theorem dX3_of_4 : decode cX3_of 4 = .ok (.iload_n 1, 1) := dk_27 (dk_at dksX3_of_0 4 rfl rfl)
theorem dX3_of_5 : decode cX3_of 5 = .ok (.iload_n 2, 1) := dk_28 (dk_at dksX3_of_0 5 rfl rfl)
theorem dX3_of_6 : decode cX3_of 6 = .ok (.invokestatic 39, 3) := dk_184 0 39 (dk_at dksX3_of_0 6 rfl rfl)
theorem dX3_of_9 : decode cX3_of 9 = .ok (.iaload, 1) := dk_46 (dk_at dksX3_of_0 9 rfl rfl)
theorem dX3_of_10 : decode cX3_of 10 = .ok (.ireturn, 1) := dk_172 (dk_at dksX3_of_0 10 rfl rfl)
abbrev cX3_fills : ByteArray := prog_23_method_20_code
def yX3_fills : MethodName := ⟨RX3, "fills", "(II)I"⟩
def dkwX3_fills_2 : List UInt8 := [46, 28, 29, 100, 96, 79, 42, 180, 0, 7, 27, 16, 8, 184, 0, 39, 92, 46, 28, 96, 79, 29, 172]
abbrev dktX3_fills_2 : List UInt8 := dkwX3_fills_2 ++ []
def dkwX3_fills_1 : List UInt8 := [180, 0, 7, 27, 5, 184, 0, 39, 92, 46, 29, 96, 79, 42, 180, 0, 7, 27, 16, 7, 184, 0, 39, 92]
abbrev dktX3_fills_1 : List UInt8 := dkwX3_fills_1 ++ dktX3_fills_2
def dkwX3_fills_0 : List UInt8 := [42, 27, 28, 182, 0, 64, 62, 42, 180, 0, 7, 27, 4, 184, 0, 39, 92, 46, 28, 100, 79, 42]
abbrev dktX3_fills_0 : List UInt8 := dkwX3_fills_0 ++ dktX3_fills_1
theorem dksX3_fills_0 : cX3_fills.data.toList.drop 0 = dktX3_fills_0 := by decide +kernel
theorem dksX3_fills_1 : cX3_fills.data.toList.drop 22 = dktX3_fills_1 := dk_seg dksX3_fills_0 22 rfl rfl
theorem dksX3_fills_2 : cX3_fills.data.toList.drop 46 = dktX3_fills_2 := dk_seg dksX3_fills_1 24 rfl rfl
theorem dX3_fills_0 : decode cX3_fills 0 = .ok (.aload_n 0, 1) := dk_42 (dk_at dksX3_fills_0 0 rfl rfl)
theorem dX3_fills_1 : decode cX3_fills 1 = .ok (.iload_n 1, 1) := dk_27 (dk_at dksX3_fills_0 1 rfl rfl)
theorem dX3_fills_2 : decode cX3_fills 2 = .ok (.iload_n 2, 1) := dk_28 (dk_at dksX3_fills_0 2 rfl rfl)
theorem dX3_fills_3 : decode cX3_fills 3 = .ok (.invokevirtual 64, 3) := dk_182 0 64 (dk_at dksX3_fills_0 3 rfl rfl)
theorem dX3_fills_6 : decode cX3_fills 6 = .ok (.istore_n 3, 1) := dk_62 (dk_at dksX3_fills_0 6 rfl rfl)
theorem dX3_fills_7 : decode cX3_fills 7 = .ok (.aload_n 0, 1) := dk_42 (dk_at dksX3_fills_0 7 rfl rfl)
theorem dX3_fills_8 : decode cX3_fills 8 = .ok (.getfield 7, 3) := dk_180 0 7 (dk_at dksX3_fills_0 8 rfl rfl)
theorem dX3_fills_11 : decode cX3_fills 11 = .ok (.iload_n 1, 1) := dk_27 (dk_at dksX3_fills_0 11 rfl rfl)
theorem dX3_fills_12 : decode cX3_fills 12 = .ok (.iconst 1, 1) := dk_4 (dk_at dksX3_fills_0 12 rfl rfl)
theorem dX3_fills_13 : decode cX3_fills 13 = .ok (.invokestatic 39, 3) := dk_184 0 39 (dk_at dksX3_fills_0 13 rfl rfl)
theorem dX3_fills_16 : decode cX3_fills 16 = .ok (.dup2, 1) := dk_92 (dk_at dksX3_fills_0 16 rfl rfl)
theorem dX3_fills_17 : decode cX3_fills 17 = .ok (.iaload, 1) := dk_46 (dk_at dksX3_fills_0 17 rfl rfl)
theorem dX3_fills_18 : decode cX3_fills 18 = .ok (.iload_n 2, 1) := dk_28 (dk_at dksX3_fills_0 18 rfl rfl)
theorem dX3_fills_19 : decode cX3_fills 19 = .ok (.isub, 1) := dk_100 (dk_at dksX3_fills_0 19 rfl rfl)
theorem dX3_fills_20 : decode cX3_fills 20 = .ok (.iastore, 1) := dk_79 (dk_at dksX3_fills_0 20 rfl rfl)
theorem dX3_fills_21 : decode cX3_fills 21 = .ok (.aload_n 0, 1) := dk_42 (dk_at dksX3_fills_0 21 rfl rfl)
theorem dX3_fills_22 : decode cX3_fills 22 = .ok (.getfield 7, 3) := dk_180 0 7 (dk_at dksX3_fills_1 0 rfl rfl)
theorem dX3_fills_25 : decode cX3_fills 25 = .ok (.iload_n 1, 1) := dk_27 (dk_at dksX3_fills_1 3 rfl rfl)
theorem dX3_fills_26 : decode cX3_fills 26 = .ok (.iconst 2, 1) := dk_5 (dk_at dksX3_fills_1 4 rfl rfl)
theorem dX3_fills_27 : decode cX3_fills 27 = .ok (.invokestatic 39, 3) := dk_184 0 39 (dk_at dksX3_fills_1 5 rfl rfl)
theorem dX3_fills_30 : decode cX3_fills 30 = .ok (.dup2, 1) := dk_92 (dk_at dksX3_fills_1 8 rfl rfl)
theorem dX3_fills_31 : decode cX3_fills 31 = .ok (.iaload, 1) := dk_46 (dk_at dksX3_fills_1 9 rfl rfl)
theorem dX3_fills_32 : decode cX3_fills 32 = .ok (.iload_n 3, 1) := dk_29 (dk_at dksX3_fills_1 10 rfl rfl)
theorem dX3_fills_33 : decode cX3_fills 33 = .ok (.iadd, 1) := dk_96 (dk_at dksX3_fills_1 11 rfl rfl)
theorem dX3_fills_34 : decode cX3_fills 34 = .ok (.iastore, 1) := dk_79 (dk_at dksX3_fills_1 12 rfl rfl)
theorem dX3_fills_35 : decode cX3_fills 35 = .ok (.aload_n 0, 1) := dk_42 (dk_at dksX3_fills_1 13 rfl rfl)
theorem dX3_fills_36 : decode cX3_fills 36 = .ok (.getfield 7, 3) := dk_180 0 7 (dk_at dksX3_fills_1 14 rfl rfl)
theorem dX3_fills_39 : decode cX3_fills 39 = .ok (.iload_n 1, 1) := dk_27 (dk_at dksX3_fills_1 17 rfl rfl)
theorem dX3_fills_40 : decode cX3_fills 40 = .ok (.bipush 7, 2) := dk_16 7 (dk_at dksX3_fills_1 18 rfl rfl)
theorem dX3_fills_42 : decode cX3_fills 42 = .ok (.invokestatic 39, 3) := dk_184 0 39 (dk_at dksX3_fills_1 20 rfl rfl)
theorem dX3_fills_45 : decode cX3_fills 45 = .ok (.dup2, 1) := dk_92 (dk_at dksX3_fills_1 23 rfl rfl)
theorem dX3_fills_46 : decode cX3_fills 46 = .ok (.iaload, 1) := dk_46 (dk_at dksX3_fills_2 0 rfl rfl)
theorem dX3_fills_47 : decode cX3_fills 47 = .ok (.iload_n 2, 1) := dk_28 (dk_at dksX3_fills_2 1 rfl rfl)
theorem dX3_fills_48 : decode cX3_fills 48 = .ok (.iload_n 3, 1) := dk_29 (dk_at dksX3_fills_2 2 rfl rfl)
theorem dX3_fills_49 : decode cX3_fills 49 = .ok (.isub, 1) := dk_100 (dk_at dksX3_fills_2 3 rfl rfl)
theorem dX3_fills_50 : decode cX3_fills 50 = .ok (.iadd, 1) := dk_96 (dk_at dksX3_fills_2 4 rfl rfl)
theorem dX3_fills_51 : decode cX3_fills 51 = .ok (.iastore, 1) := dk_79 (dk_at dksX3_fills_2 5 rfl rfl)
theorem dX3_fills_52 : decode cX3_fills 52 = .ok (.aload_n 0, 1) := dk_42 (dk_at dksX3_fills_2 6 rfl rfl)
theorem dX3_fills_53 : decode cX3_fills 53 = .ok (.getfield 7, 3) := dk_180 0 7 (dk_at dksX3_fills_2 7 rfl rfl)
theorem dX3_fills_56 : decode cX3_fills 56 = .ok (.iload_n 1, 1) := dk_27 (dk_at dksX3_fills_2 10 rfl rfl)
theorem dX3_fills_57 : decode cX3_fills 57 = .ok (.bipush 8, 2) := dk_16 8 (dk_at dksX3_fills_2 11 rfl rfl)
theorem dX3_fills_59 : decode cX3_fills 59 = .ok (.invokestatic 39, 3) := dk_184 0 39 (dk_at dksX3_fills_2 13 rfl rfl)
theorem dX3_fills_62 : decode cX3_fills 62 = .ok (.dup2, 1) := dk_92 (dk_at dksX3_fills_2 16 rfl rfl)
theorem dX3_fills_63 : decode cX3_fills 63 = .ok (.iaload, 1) := dk_46 (dk_at dksX3_fills_2 17 rfl rfl)
theorem dX3_fills_64 : decode cX3_fills 64 = .ok (.iload_n 2, 1) := dk_28 (dk_at dksX3_fills_2 18 rfl rfl)
theorem dX3_fills_65 : decode cX3_fills 65 = .ok (.iadd, 1) := dk_96 (dk_at dksX3_fills_2 19 rfl rfl)
theorem dX3_fills_66 : decode cX3_fills 66 = .ok (.iastore, 1) := dk_79 (dk_at dksX3_fills_2 20 rfl rfl)
theorem dX3_fills_67 : decode cX3_fills 67 = .ok (.iload_n 3, 1) := dk_29 (dk_at dksX3_fills_2 21 rfl rfl)
theorem dX3_fills_68 : decode cX3_fills 68 = .ok (.ireturn, 1) := dk_172 (dk_at dksX3_fills_2 22 rfl rfl)
abbrev cX3_full : ByteArray := prog_23_method_19_code
def yX3_full : MethodName := ⟨RX3, "full", "(II)I"⟩
def dkwX3_full_1 : List UInt8 := [182, 0, 46, 29, 108, 100, 100, 172]
abbrev dktX3_full_1 : List UInt8 := dkwX3_full_1 ++ []
def dkwX3_full_0 : List UInt8 := [42, 180, 0, 7, 16, 12, 46, 62, 28, 42, 27, 16, 8, 182, 0, 46, 28, 96, 29, 108, 42, 27, 16, 8]
abbrev dktX3_full_0 : List UInt8 := dkwX3_full_0 ++ dktX3_full_1
theorem dksX3_full_0 : cX3_full.data.toList.drop 0 = dktX3_full_0 := by decide +kernel
theorem dksX3_full_1 : cX3_full.data.toList.drop 24 = dktX3_full_1 := dk_seg dksX3_full_0 24 rfl rfl
theorem dX3_full_0 : decode cX3_full 0 = .ok (.aload_n 0, 1) := dk_42 (dk_at dksX3_full_0 0 rfl rfl)
theorem dX3_full_1 : decode cX3_full 1 = .ok (.getfield 7, 3) := dk_180 0 7 (dk_at dksX3_full_0 1 rfl rfl)
theorem dX3_full_4 : decode cX3_full 4 = .ok (.bipush 12, 2) := dk_16 12 (dk_at dksX3_full_0 4 rfl rfl)
theorem dX3_full_6 : decode cX3_full 6 = .ok (.iaload, 1) := dk_46 (dk_at dksX3_full_0 6 rfl rfl)
theorem dX3_full_7 : decode cX3_full 7 = .ok (.istore_n 3, 1) := dk_62 (dk_at dksX3_full_0 7 rfl rfl)
theorem dX3_full_8 : decode cX3_full 8 = .ok (.iload_n 2, 1) := dk_28 (dk_at dksX3_full_0 8 rfl rfl)
theorem dX3_full_9 : decode cX3_full 9 = .ok (.aload_n 0, 1) := dk_42 (dk_at dksX3_full_0 9 rfl rfl)
theorem dX3_full_10 : decode cX3_full 10 = .ok (.iload_n 1, 1) := dk_27 (dk_at dksX3_full_0 10 rfl rfl)
theorem dX3_full_11 : decode cX3_full 11 = .ok (.bipush 8, 2) := dk_16 8 (dk_at dksX3_full_0 11 rfl rfl)
theorem dX3_full_13 : decode cX3_full 13 = .ok (.invokevirtual 46, 3) := dk_182 0 46 (dk_at dksX3_full_0 13 rfl rfl)
theorem dX3_full_16 : decode cX3_full 16 = .ok (.iload_n 2, 1) := dk_28 (dk_at dksX3_full_0 16 rfl rfl)
theorem dX3_full_17 : decode cX3_full 17 = .ok (.iadd, 1) := dk_96 (dk_at dksX3_full_0 17 rfl rfl)
theorem dX3_full_18 : decode cX3_full 18 = .ok (.iload_n 3, 1) := dk_29 (dk_at dksX3_full_0 18 rfl rfl)
theorem dX3_full_19 : decode cX3_full 19 = .ok (.idiv, 1) := dk_108 (dk_at dksX3_full_0 19 rfl rfl)
theorem dX3_full_20 : decode cX3_full 20 = .ok (.aload_n 0, 1) := dk_42 (dk_at dksX3_full_0 20 rfl rfl)
theorem dX3_full_21 : decode cX3_full 21 = .ok (.iload_n 1, 1) := dk_27 (dk_at dksX3_full_0 21 rfl rfl)
theorem dX3_full_22 : decode cX3_full 22 = .ok (.bipush 8, 2) := dk_16 8 (dk_at dksX3_full_0 22 rfl rfl)
theorem dX3_full_24 : decode cX3_full 24 = .ok (.invokevirtual 46, 3) := dk_182 0 46 (dk_at dksX3_full_1 0 rfl rfl)
theorem dX3_full_27 : decode cX3_full 27 = .ok (.iload_n 3, 1) := dk_29 (dk_at dksX3_full_1 3 rfl rfl)
theorem dX3_full_28 : decode cX3_full 28 = .ok (.idiv, 1) := dk_108 (dk_at dksX3_full_1 4 rfl rfl)
theorem dX3_full_29 : decode cX3_full 29 = .ok (.isub, 1) := dk_100 (dk_at dksX3_full_1 5 rfl rfl)
theorem dX3_full_30 : decode cX3_full 30 = .ok (.isub, 1) := dk_100 (dk_at dksX3_full_1 6 rfl rfl)
theorem dX3_full_31 : decode cX3_full 31 = .ok (.ireturn, 1) := dk_172 (dk_at dksX3_full_1 7 rfl rfl)
abbrev cX3_deliver : ByteArray := prog_23_method_37_code
def yX3_deliver : MethodName := ⟨RX3, "deliver", "(III)I"⟩
def dkwX3_deliver_2 : List UInt8 := [182, 0, 95, 158, 0, 9, 42, 6, 182, 0, 49, 172, 42, 182, 0, 53, 42, 27, 28, 29, 182, 0, 99, 172]
abbrev dktX3_deliver_2 : List UInt8 := dkwX3_deliver_2 ++ []
def dkwX3_deliver_1 : List UInt8 := [182, 0, 49, 172, 29, 4, 16, 50, 184, 0, 35, 154, 0, 9, 42, 5, 182, 0, 49, 172, 42, 27, 28, 29]
abbrev dktX3_deliver_1 : List UInt8 := dkwX3_deliver_1 ++ dktX3_deliver_2
def dkwX3_deliver_0 : List UInt8 := [42, 3, 181, 0, 28, 42, 27, 182, 0, 85, 153, 0, 11, 42, 28, 182, 0, 92, 154, 0, 9, 42, 4]
abbrev dktX3_deliver_0 : List UInt8 := dkwX3_deliver_0 ++ dktX3_deliver_1
theorem dksX3_deliver_0 : cX3_deliver.data.toList.drop 0 = dktX3_deliver_0 := by decide +kernel
theorem dksX3_deliver_1 : cX3_deliver.data.toList.drop 23 = dktX3_deliver_1 := dk_seg dksX3_deliver_0 23 rfl rfl
theorem dksX3_deliver_2 : cX3_deliver.data.toList.drop 47 = dktX3_deliver_2 := dk_seg dksX3_deliver_1 24 rfl rfl
theorem dX3_deliver_0 : decode cX3_deliver 0 = .ok (.aload_n 0, 1) := dk_42 (dk_at dksX3_deliver_0 0 rfl rfl)
theorem dX3_deliver_1 : decode cX3_deliver 1 = .ok (.iconst 0, 1) := dk_3 (dk_at dksX3_deliver_0 1 rfl rfl)
theorem dX3_deliver_2 : decode cX3_deliver 2 = .ok (.putfield 28, 3) := dk_181 0 28 (dk_at dksX3_deliver_0 2 rfl rfl)
theorem dX3_deliver_5 : decode cX3_deliver 5 = .ok (.aload_n 0, 1) := dk_42 (dk_at dksX3_deliver_0 5 rfl rfl)
theorem dX3_deliver_6 : decode cX3_deliver 6 = .ok (.iload_n 1, 1) := dk_27 (dk_at dksX3_deliver_0 6 rfl rfl)
theorem dX3_deliver_7 : decode cX3_deliver 7 = .ok (.invokevirtual 85, 3) := dk_182 0 85 (dk_at dksX3_deliver_0 7 rfl rfl)
theorem dX3_deliver_10 : decode cX3_deliver 10 = .ok (.ifCond .eq 11, 3) := dk_153 0 11 (dk_at dksX3_deliver_0 10 rfl rfl)
theorem dX3_deliver_13 : decode cX3_deliver 13 = .ok (.aload_n 0, 1) := dk_42 (dk_at dksX3_deliver_0 13 rfl rfl)
theorem dX3_deliver_14 : decode cX3_deliver 14 = .ok (.iload_n 2, 1) := dk_28 (dk_at dksX3_deliver_0 14 rfl rfl)
theorem dX3_deliver_15 : decode cX3_deliver 15 = .ok (.invokevirtual 92, 3) := dk_182 0 92 (dk_at dksX3_deliver_0 15 rfl rfl)
theorem dX3_deliver_18 : decode cX3_deliver 18 = .ok (.ifCond .ne 9, 3) := dk_154 0 9 (dk_at dksX3_deliver_0 18 rfl rfl)
theorem dX3_deliver_21 : decode cX3_deliver 21 = .ok (.aload_n 0, 1) := dk_42 (dk_at dksX3_deliver_0 21 rfl rfl)
theorem dX3_deliver_22 : decode cX3_deliver 22 = .ok (.iconst 1, 1) := dk_4 (dk_at dksX3_deliver_0 22 rfl rfl)
theorem dX3_deliver_23 : decode cX3_deliver 23 = .ok (.invokevirtual 49, 3) := dk_182 0 49 (dk_at dksX3_deliver_1 0 rfl rfl)
theorem dX3_deliver_26 : decode cX3_deliver 26 = .ok (.ireturn, 1) := dk_172 (dk_at dksX3_deliver_1 3 rfl rfl)
theorem dX3_deliver_27 : decode cX3_deliver 27 = .ok (.iload_n 3, 1) := dk_29 (dk_at dksX3_deliver_1 4 rfl rfl)
theorem dX3_deliver_28 : decode cX3_deliver 28 = .ok (.iconst 1, 1) := dk_4 (dk_at dksX3_deliver_1 5 rfl rfl)
theorem dX3_deliver_29 : decode cX3_deliver 29 = .ok (.bipush 50, 2) := dk_16 50 (dk_at dksX3_deliver_1 6 rfl rfl)
theorem dX3_deliver_31 : decode cX3_deliver 31 = .ok (.invokestatic 35, 3) := dk_184 0 35 (dk_at dksX3_deliver_1 8 rfl rfl)
theorem dX3_deliver_34 : decode cX3_deliver 34 = .ok (.ifCond .ne 9, 3) := dk_154 0 9 (dk_at dksX3_deliver_1 11 rfl rfl)
theorem dX3_deliver_37 : decode cX3_deliver 37 = .ok (.aload_n 0, 1) := dk_42 (dk_at dksX3_deliver_1 14 rfl rfl)
theorem dX3_deliver_38 : decode cX3_deliver 38 = .ok (.iconst 2, 1) := dk_5 (dk_at dksX3_deliver_1 15 rfl rfl)
theorem dX3_deliver_39 : decode cX3_deliver 39 = .ok (.invokevirtual 49, 3) := dk_182 0 49 (dk_at dksX3_deliver_1 16 rfl rfl)
theorem dX3_deliver_42 : decode cX3_deliver 42 = .ok (.ireturn, 1) := dk_172 (dk_at dksX3_deliver_1 19 rfl rfl)
theorem dX3_deliver_43 : decode cX3_deliver 43 = .ok (.aload_n 0, 1) := dk_42 (dk_at dksX3_deliver_1 20 rfl rfl)
theorem dX3_deliver_44 : decode cX3_deliver 44 = .ok (.iload_n 1, 1) := dk_27 (dk_at dksX3_deliver_1 21 rfl rfl)
theorem dX3_deliver_45 : decode cX3_deliver 45 = .ok (.iload_n 2, 1) := dk_28 (dk_at dksX3_deliver_1 22 rfl rfl)
theorem dX3_deliver_46 : decode cX3_deliver 46 = .ok (.iload_n 3, 1) := dk_29 (dk_at dksX3_deliver_1 23 rfl rfl)
theorem dX3_deliver_47 : decode cX3_deliver 47 = .ok (.invokevirtual 95, 3) := dk_182 0 95 (dk_at dksX3_deliver_2 0 rfl rfl)
theorem dX3_deliver_50 : decode cX3_deliver 50 = .ok (.ifCond .le 9, 3) := dk_158 0 9 (dk_at dksX3_deliver_2 3 rfl rfl)
theorem dX3_deliver_53 : decode cX3_deliver 53 = .ok (.aload_n 0, 1) := dk_42 (dk_at dksX3_deliver_2 6 rfl rfl)
theorem dX3_deliver_54 : decode cX3_deliver 54 = .ok (.iconst 3, 1) := dk_6 (dk_at dksX3_deliver_2 7 rfl rfl)
theorem dX3_deliver_55 : decode cX3_deliver 55 = .ok (.invokevirtual 49, 3) := dk_182 0 49 (dk_at dksX3_deliver_2 8 rfl rfl)
theorem dX3_deliver_58 : decode cX3_deliver 58 = .ok (.ireturn, 1) := dk_172 (dk_at dksX3_deliver_2 11 rfl rfl)
theorem dX3_deliver_59 : decode cX3_deliver 59 = .ok (.aload_n 0, 1) := dk_42 (dk_at dksX3_deliver_2 12 rfl rfl)
theorem dX3_deliver_60 : decode cX3_deliver 60 = .ok (.invokevirtual 53, 3) := dk_182 0 53 (dk_at dksX3_deliver_2 13 rfl rfl)
theorem dX3_deliver_63 : decode cX3_deliver 63 = .ok (.aload_n 0, 1) := dk_42 (dk_at dksX3_deliver_2 16 rfl rfl)
theorem dX3_deliver_64 : decode cX3_deliver 64 = .ok (.iload_n 1, 1) := dk_27 (dk_at dksX3_deliver_2 17 rfl rfl)
theorem dX3_deliver_65 : decode cX3_deliver 65 = .ok (.iload_n 2, 1) := dk_28 (dk_at dksX3_deliver_2 18 rfl rfl)
theorem dX3_deliver_66 : decode cX3_deliver 66 = .ok (.iload_n 3, 1) := dk_29 (dk_at dksX3_deliver_2 19 rfl rfl)
theorem dX3_deliver_67 : decode cX3_deliver 67 = .ok (.invokevirtual 99, 3) := dk_182 0 99 (dk_at dksX3_deliver_2 20 rfl rfl)
theorem dX3_deliver_70 : decode cX3_deliver 70 = .ok (.ireturn, 1) := dk_172 (dk_at dksX3_deliver_2 23 rfl rfl)
abbrev cX3_isShop : ByteArray := prog_23_method_7_code
def yX3_isShop : MethodName := ⟨RX3, "isShop", "(I)Z"⟩
def dkwX3_isShop_0 : List UInt8 := [27, 3, 42, 180, 0, 7, 4, 46, 4, 100, 184, 0, 35, 172]
abbrev dktX3_isShop_0 : List UInt8 := dkwX3_isShop_0 ++ []
theorem dksX3_isShop_0 : cX3_isShop.data.toList.drop 0 = dktX3_isShop_0 := by decide +kernel
theorem dX3_isShop_0 : decode cX3_isShop 0 = .ok (.iload_n 1, 1) := dk_27 (dk_at dksX3_isShop_0 0 rfl rfl)
theorem dX3_isShop_1 : decode cX3_isShop 1 = .ok (.iconst 0, 1) := dk_3 (dk_at dksX3_isShop_0 1 rfl rfl)
theorem dX3_isShop_2 : decode cX3_isShop 2 = .ok (.aload_n 0, 1) := dk_42 (dk_at dksX3_isShop_0 2 rfl rfl)
theorem dX3_isShop_3 : decode cX3_isShop 3 = .ok (.getfield 7, 3) := dk_180 0 7 (dk_at dksX3_isShop_0 3 rfl rfl)
theorem dX3_isShop_6 : decode cX3_isShop 6 = .ok (.iconst 1, 1) := dk_4 (dk_at dksX3_isShop_0 6 rfl rfl)
theorem dX3_isShop_7 : decode cX3_isShop 7 = .ok (.iaload, 1) := dk_46 (dk_at dksX3_isShop_0 7 rfl rfl)
theorem dX3_isShop_8 : decode cX3_isShop 8 = .ok (.iconst 1, 1) := dk_4 (dk_at dksX3_isShop_0 8 rfl rfl)
theorem dX3_isShop_9 : decode cX3_isShop 9 = .ok (.isub, 1) := dk_100 (dk_at dksX3_isShop_0 9 rfl rfl)
theorem dX3_isShop_10 : decode cX3_isShop 10 = .ok (.invokestatic 35, 3) := dk_184 0 35 (dk_at dksX3_isShop_0 10 rfl rfl)
theorem dX3_isShop_13 : decode cX3_isShop 13 = .ok (.ireturn, 1) := dk_172 (dk_at dksX3_isShop_0 13 rfl rfl)
abbrev cX3_againstDeliver : ByteArray := prog_23_method_23_code
def yX3_againstDeliver : MethodName := ⟨RX3, "againstDeliver", "(III)I"⟩
def dkwX3_againstDeliver_2 : List UInt8 := [167, 0, 4, 3, 172]
abbrev dktX3_againstDeliver_2 : List UInt8 := dkwX3_againstDeliver_2 ++ []
def dkwX3_againstDeliver_1 : List UInt8 := [162, 0, 7, 5, 167, 0, 23, 42, 28, 3, 182, 0, 57, 42, 27, 29, 182, 0, 70, 162, 0, 7, 6]
abbrev dktX3_againstDeliver_1 : List UInt8 := dkwX3_againstDeliver_1 ++ dktX3_againstDeliver_2
def dkwX3_againstDeliver_0 : List UInt8 := [42, 27, 5, 182, 0, 46, 16, 12, 29, 104, 162, 0, 7, 4, 167, 0, 37, 42, 180, 0, 7, 5, 46, 29]
abbrev dktX3_againstDeliver_0 : List UInt8 := dkwX3_againstDeliver_0 ++ dktX3_againstDeliver_1
theorem dksX3_againstDeliver_0 : cX3_againstDeliver.data.toList.drop 0 = dktX3_againstDeliver_0 := by decide +kernel
theorem dksX3_againstDeliver_1 : cX3_againstDeliver.data.toList.drop 24 = dktX3_againstDeliver_1 := dk_seg dksX3_againstDeliver_0 24 rfl rfl
theorem dksX3_againstDeliver_2 : cX3_againstDeliver.data.toList.drop 47 = dktX3_againstDeliver_2 := dk_seg dksX3_againstDeliver_1 23 rfl rfl
theorem dX3_againstDeliver_0 : decode cX3_againstDeliver 0 = .ok (.aload_n 0, 1) := dk_42 (dk_at dksX3_againstDeliver_0 0 rfl rfl)
theorem dX3_againstDeliver_1 : decode cX3_againstDeliver 1 = .ok (.iload_n 1, 1) := dk_27 (dk_at dksX3_againstDeliver_0 1 rfl rfl)
theorem dX3_againstDeliver_2 : decode cX3_againstDeliver 2 = .ok (.iconst 2, 1) := dk_5 (dk_at dksX3_againstDeliver_0 2 rfl rfl)
theorem dX3_againstDeliver_3 : decode cX3_againstDeliver 3 = .ok (.invokevirtual 46, 3) := dk_182 0 46 (dk_at dksX3_againstDeliver_0 3 rfl rfl)
theorem dX3_againstDeliver_6 : decode cX3_againstDeliver 6 = .ok (.bipush 12, 2) := dk_16 12 (dk_at dksX3_againstDeliver_0 6 rfl rfl)
theorem dX3_againstDeliver_8 : decode cX3_againstDeliver 8 = .ok (.iload_n 3, 1) := dk_29 (dk_at dksX3_againstDeliver_0 8 rfl rfl)
theorem dX3_againstDeliver_9 : decode cX3_againstDeliver 9 = .ok (.imul, 1) := dk_104 (dk_at dksX3_againstDeliver_0 9 rfl rfl)
theorem dX3_againstDeliver_10 : decode cX3_againstDeliver 10 = .ok (.if_icmp .ge 7, 3) := dk_162 0 7 (dk_at dksX3_againstDeliver_0 10 rfl rfl)
theorem dX3_againstDeliver_13 : decode cX3_againstDeliver 13 = .ok (.iconst 1, 1) := dk_4 (dk_at dksX3_againstDeliver_0 13 rfl rfl)
theorem dX3_againstDeliver_14 : decode cX3_againstDeliver 14 = .ok (.goto 37, 3) := dk_167 0 37 (dk_at dksX3_againstDeliver_0 14 rfl rfl)
theorem dX3_againstDeliver_17 : decode cX3_againstDeliver 17 = .ok (.aload_n 0, 1) := dk_42 (dk_at dksX3_againstDeliver_0 17 rfl rfl)
theorem dX3_againstDeliver_18 : decode cX3_againstDeliver 18 = .ok (.getfield 7, 3) := dk_180 0 7 (dk_at dksX3_againstDeliver_0 18 rfl rfl)
theorem dX3_againstDeliver_21 : decode cX3_againstDeliver 21 = .ok (.iconst 2, 1) := dk_5 (dk_at dksX3_againstDeliver_0 21 rfl rfl)
theorem dX3_againstDeliver_22 : decode cX3_againstDeliver 22 = .ok (.iaload, 1) := dk_46 (dk_at dksX3_againstDeliver_0 22 rfl rfl)
theorem dX3_againstDeliver_23 : decode cX3_againstDeliver 23 = .ok (.iload_n 3, 1) := dk_29 (dk_at dksX3_againstDeliver_0 23 rfl rfl)
theorem dX3_againstDeliver_24 : decode cX3_againstDeliver 24 = .ok (.if_icmp .ge 7, 3) := dk_162 0 7 (dk_at dksX3_againstDeliver_1 0 rfl rfl)
theorem dX3_againstDeliver_27 : decode cX3_againstDeliver 27 = .ok (.iconst 2, 1) := dk_5 (dk_at dksX3_againstDeliver_1 3 rfl rfl)
theorem dX3_againstDeliver_28 : decode cX3_againstDeliver 28 = .ok (.goto 23, 3) := dk_167 0 23 (dk_at dksX3_againstDeliver_1 4 rfl rfl)
theorem dX3_againstDeliver_31 : decode cX3_againstDeliver 31 = .ok (.aload_n 0, 1) := dk_42 (dk_at dksX3_againstDeliver_1 7 rfl rfl)
theorem dX3_againstDeliver_32 : decode cX3_againstDeliver 32 = .ok (.iload_n 2, 1) := dk_28 (dk_at dksX3_againstDeliver_1 8 rfl rfl)
theorem dX3_againstDeliver_33 : decode cX3_againstDeliver 33 = .ok (.iconst 0, 1) := dk_3 (dk_at dksX3_againstDeliver_1 9 rfl rfl)
theorem dX3_againstDeliver_34 : decode cX3_againstDeliver 34 = .ok (.invokevirtual 57, 3) := dk_182 0 57 (dk_at dksX3_againstDeliver_1 10 rfl rfl)
theorem dX3_againstDeliver_37 : decode cX3_againstDeliver 37 = .ok (.aload_n 0, 1) := dk_42 (dk_at dksX3_againstDeliver_1 13 rfl rfl)
theorem dX3_againstDeliver_38 : decode cX3_againstDeliver 38 = .ok (.iload_n 1, 1) := dk_27 (dk_at dksX3_againstDeliver_1 14 rfl rfl)
theorem dX3_againstDeliver_39 : decode cX3_againstDeliver 39 = .ok (.iload_n 3, 1) := dk_29 (dk_at dksX3_againstDeliver_1 15 rfl rfl)
theorem dX3_againstDeliver_40 : decode cX3_againstDeliver 40 = .ok (.invokevirtual 70, 3) := dk_182 0 70 (dk_at dksX3_againstDeliver_1 16 rfl rfl)
theorem dX3_againstDeliver_43 : decode cX3_againstDeliver 43 = .ok (.if_icmp .ge 7, 3) := dk_162 0 7 (dk_at dksX3_againstDeliver_1 19 rfl rfl)
theorem dX3_againstDeliver_46 : decode cX3_againstDeliver 46 = .ok (.iconst 3, 1) := dk_6 (dk_at dksX3_againstDeliver_1 22 rfl rfl)
theorem dX3_againstDeliver_47 : decode cX3_againstDeliver 47 = .ok (.goto 4, 3) := dk_167 0 4 (dk_at dksX3_againstDeliver_2 0 rfl rfl)
theorem dX3_againstDeliver_50 : decode cX3_againstDeliver 50 = .ok (.iconst 0, 1) := dk_3 (dk_at dksX3_againstDeliver_2 3 rfl rfl)
theorem dX3_againstDeliver_51 : decode cX3_againstDeliver 51 = .ok (.ireturn, 1) := dk_172 (dk_at dksX3_againstDeliver_2 4 rfl rfl)
abbrev cX3_priceFor : ByteArray := prog_23_method_22_code
def yX3_priceFor : MethodName := ⟨RX3, "priceFor", "(II)I"⟩
def dkwX3_priceFor_0 : List UInt8 := [42, 42, 27, 3, 182, 0, 46, 28, 182, 0, 67, 28, 42, 180, 0, 7, 16, 11, 46, 104, 96, 172]
abbrev dktX3_priceFor_0 : List UInt8 := dkwX3_priceFor_0 ++ []
theorem dksX3_priceFor_0 : cX3_priceFor.data.toList.drop 0 = dktX3_priceFor_0 := by decide +kernel
theorem dX3_priceFor_0 : decode cX3_priceFor 0 = .ok (.aload_n 0, 1) := dk_42 (dk_at dksX3_priceFor_0 0 rfl rfl)
theorem dX3_priceFor_1 : decode cX3_priceFor 1 = .ok (.aload_n 0, 1) := dk_42 (dk_at dksX3_priceFor_0 1 rfl rfl)
theorem dX3_priceFor_2 : decode cX3_priceFor 2 = .ok (.iload_n 1, 1) := dk_27 (dk_at dksX3_priceFor_0 2 rfl rfl)
theorem dX3_priceFor_3 : decode cX3_priceFor 3 = .ok (.iconst 0, 1) := dk_3 (dk_at dksX3_priceFor_0 3 rfl rfl)
theorem dX3_priceFor_4 : decode cX3_priceFor 4 = .ok (.invokevirtual 46, 3) := dk_182 0 46 (dk_at dksX3_priceFor_0 4 rfl rfl)
theorem dX3_priceFor_7 : decode cX3_priceFor 7 = .ok (.iload_n 2, 1) := dk_28 (dk_at dksX3_priceFor_0 7 rfl rfl)
theorem dX3_priceFor_8 : decode cX3_priceFor 8 = .ok (.invokevirtual 67, 3) := dk_182 0 67 (dk_at dksX3_priceFor_0 8 rfl rfl)
theorem dX3_priceFor_11 : decode cX3_priceFor 11 = .ok (.iload_n 2, 1) := dk_28 (dk_at dksX3_priceFor_0 11 rfl rfl)
theorem dX3_priceFor_12 : decode cX3_priceFor 12 = .ok (.aload_n 0, 1) := dk_42 (dk_at dksX3_priceFor_0 12 rfl rfl)
theorem dX3_priceFor_13 : decode cX3_priceFor 13 = .ok (.getfield 7, 3) := dk_180 0 7 (dk_at dksX3_priceFor_0 13 rfl rfl)
theorem dX3_priceFor_16 : decode cX3_priceFor 16 = .ok (.bipush 11, 2) := dk_16 11 (dk_at dksX3_priceFor_0 16 rfl rfl)
theorem dX3_priceFor_18 : decode cX3_priceFor 18 = .ok (.iaload, 1) := dk_46 (dk_at dksX3_priceFor_0 18 rfl rfl)
theorem dX3_priceFor_19 : decode cX3_priceFor 19 = .ok (.imul, 1) := dk_104 (dk_at dksX3_priceFor_0 19 rfl rfl)
theorem dX3_priceFor_20 : decode cX3_priceFor 20 = .ok (.iadd, 1) := dk_96 (dk_at dksX3_priceFor_0 20 rfl rfl)
theorem dX3_priceFor_21 : decode cX3_priceFor 21 = .ok (.ireturn, 1) := dk_172 (dk_at dksX3_priceFor_0 21 rfl rfl)
abbrev cX3_depositsFor : ByteArray := prog_23_method_21_code
def yX3_depositsFor : MethodName := ⟨RX3, "depositsFor", "(II)I"⟩
def dkwX3_depositsFor_0 : List UInt8 := [28, 16, 12, 42, 180, 0, 7, 16, 7, 27, 96, 46, 104, 42, 180, 0, 7, 16, 10, 46, 96, 104, 172]
abbrev dktX3_depositsFor_0 : List UInt8 := dkwX3_depositsFor_0 ++ []
theorem dksX3_depositsFor_0 : cX3_depositsFor.data.toList.drop 0 = dktX3_depositsFor_0 := by decide +kernel
theorem dX3_depositsFor_0 : decode cX3_depositsFor 0 = .ok (.iload_n 2, 1) := dk_28 (dk_at dksX3_depositsFor_0 0 rfl rfl)
theorem dX3_depositsFor_1 : decode cX3_depositsFor 1 = .ok (.bipush 12, 2) := dk_16 12 (dk_at dksX3_depositsFor_0 1 rfl rfl)
theorem dX3_depositsFor_3 : decode cX3_depositsFor 3 = .ok (.aload_n 0, 1) := dk_42 (dk_at dksX3_depositsFor_0 3 rfl rfl)
theorem dX3_depositsFor_4 : decode cX3_depositsFor 4 = .ok (.getfield 7, 3) := dk_180 0 7 (dk_at dksX3_depositsFor_0 4 rfl rfl)
theorem dX3_depositsFor_7 : decode cX3_depositsFor 7 = .ok (.bipush 7, 2) := dk_16 7 (dk_at dksX3_depositsFor_0 7 rfl rfl)
theorem dX3_depositsFor_9 : decode cX3_depositsFor 9 = .ok (.iload_n 1, 1) := dk_27 (dk_at dksX3_depositsFor_0 9 rfl rfl)
theorem dX3_depositsFor_10 : decode cX3_depositsFor 10 = .ok (.iadd, 1) := dk_96 (dk_at dksX3_depositsFor_0 10 rfl rfl)
theorem dX3_depositsFor_11 : decode cX3_depositsFor 11 = .ok (.iaload, 1) := dk_46 (dk_at dksX3_depositsFor_0 11 rfl rfl)
theorem dX3_depositsFor_12 : decode cX3_depositsFor 12 = .ok (.imul, 1) := dk_104 (dk_at dksX3_depositsFor_0 12 rfl rfl)
theorem dX3_depositsFor_13 : decode cX3_depositsFor 13 = .ok (.aload_n 0, 1) := dk_42 (dk_at dksX3_depositsFor_0 13 rfl rfl)
theorem dX3_depositsFor_14 : decode cX3_depositsFor 14 = .ok (.getfield 7, 3) := dk_180 0 7 (dk_at dksX3_depositsFor_0 14 rfl rfl)
theorem dX3_depositsFor_17 : decode cX3_depositsFor 17 = .ok (.bipush 10, 2) := dk_16 10 (dk_at dksX3_depositsFor_0 17 rfl rfl)
theorem dX3_depositsFor_19 : decode cX3_depositsFor 19 = .ok (.iaload, 1) := dk_46 (dk_at dksX3_depositsFor_0 19 rfl rfl)
theorem dX3_depositsFor_20 : decode cX3_depositsFor 20 = .ok (.iadd, 1) := dk_96 (dk_at dksX3_depositsFor_0 20 rfl rfl)
theorem dX3_depositsFor_21 : decode cX3_depositsFor 21 = .ok (.imul, 1) := dk_104 (dk_at dksX3_depositsFor_0 21 rfl rfl)
theorem dX3_depositsFor_22 : decode cX3_depositsFor 22 = .ok (.ireturn, 1) := dk_172 (dk_at dksX3_depositsFor_0 22 rfl rfl)
abbrev cX3_delivers : ByteArray := prog_23_method_24_code
def yX3_delivers : MethodName := ⟨RX3, "delivers", "(III)I"⟩
def dkwX3_delivers_6 : List UInt8 := [79, 42, 180, 0, 7, 8, 92, 46, 21, 5, 96, 79, 21, 4, 21, 5, 96, 172]
abbrev dktX3_delivers_6 : List UInt8 := dkwX3_delivers_6 ++ []
def dkwX3_delivers_5 : List UInt8 := [180, 0, 7, 28, 6, 184, 0, 43, 92, 46, 21, 5, 96, 79, 42, 180, 0, 7, 6, 92, 46, 21, 4, 96]
abbrev dktX3_delivers_5 : List UInt8 := dkwX3_delivers_5 ++ dktX3_delivers_6
def dkwX3_delivers_4 : List UInt8 := [21, 4, 21, 5, 96, 100, 79, 42, 180, 0, 7, 28, 5, 184, 0, 43, 92, 46, 21, 4, 96, 79, 42]
abbrev dktX3_delivers_4 : List UInt8 := dkwX3_delivers_4 ++ dktX3_delivers_5
def dkwX3_delivers_3 : List UInt8 := [180, 0, 7, 28, 4, 184, 0, 43, 92, 46, 29, 96, 79, 42, 180, 0, 7, 28, 3, 184, 0, 43, 92, 46]
abbrev dktX3_delivers_3 : List UInt8 := dkwX3_delivers_3 ++ dktX3_delivers_4
def dkwX3_delivers_2 : List UInt8 := [96, 184, 0, 43, 92, 46, 16, 12, 29, 104, 96, 79, 42, 180, 0, 7, 5, 92, 46, 29, 100, 79, 42]
abbrev dktX3_delivers_2 : List UInt8 := dkwX3_delivers_2 ++ dktX3_delivers_3
def dkwX3_delivers_1 : List UInt8 := [42, 180, 0, 7, 27, 5, 184, 0, 39, 92, 46, 16, 12, 29, 104, 100, 79, 42, 180, 0, 7, 28, 8, 27]
abbrev dktX3_delivers_1 : List UInt8 := dkwX3_delivers_1 ++ dktX3_delivers_2
def dkwX3_delivers_0 : List UInt8 := [42, 42, 27, 3, 182, 0, 46, 29, 182, 0, 67, 54, 4, 29, 42, 180, 0, 7, 16, 11, 46, 104, 54, 5]
abbrev dktX3_delivers_0 : List UInt8 := dkwX3_delivers_0 ++ dktX3_delivers_1
theorem dksX3_delivers_0 : cX3_delivers.data.toList.drop 0 = dktX3_delivers_0 := by decide +kernel
theorem dksX3_delivers_1 : cX3_delivers.data.toList.drop 24 = dktX3_delivers_1 := dk_seg dksX3_delivers_0 24 rfl rfl
theorem dksX3_delivers_2 : cX3_delivers.data.toList.drop 48 = dktX3_delivers_2 := dk_seg dksX3_delivers_1 24 rfl rfl
theorem dksX3_delivers_3 : cX3_delivers.data.toList.drop 71 = dktX3_delivers_3 := dk_seg dksX3_delivers_2 23 rfl rfl
theorem dksX3_delivers_4 : cX3_delivers.data.toList.drop 95 = dktX3_delivers_4 := dk_seg dksX3_delivers_3 24 rfl rfl
theorem dksX3_delivers_5 : cX3_delivers.data.toList.drop 118 = dktX3_delivers_5 := dk_seg dksX3_delivers_4 23 rfl rfl
theorem dksX3_delivers_6 : cX3_delivers.data.toList.drop 142 = dktX3_delivers_6 := dk_seg dksX3_delivers_5 24 rfl rfl
theorem dX3_delivers_0 : decode cX3_delivers 0 = .ok (.aload_n 0, 1) := dk_42 (dk_at dksX3_delivers_0 0 rfl rfl)
theorem dX3_delivers_1 : decode cX3_delivers 1 = .ok (.aload_n 0, 1) := dk_42 (dk_at dksX3_delivers_0 1 rfl rfl)
theorem dX3_delivers_2 : decode cX3_delivers 2 = .ok (.iload_n 1, 1) := dk_27 (dk_at dksX3_delivers_0 2 rfl rfl)
theorem dX3_delivers_3 : decode cX3_delivers 3 = .ok (.iconst 0, 1) := dk_3 (dk_at dksX3_delivers_0 3 rfl rfl)
theorem dX3_delivers_4 : decode cX3_delivers 4 = .ok (.invokevirtual 46, 3) := dk_182 0 46 (dk_at dksX3_delivers_0 4 rfl rfl)
theorem dX3_delivers_7 : decode cX3_delivers 7 = .ok (.iload_n 3, 1) := dk_29 (dk_at dksX3_delivers_0 7 rfl rfl)
theorem dX3_delivers_8 : decode cX3_delivers 8 = .ok (.invokevirtual 67, 3) := dk_182 0 67 (dk_at dksX3_delivers_0 8 rfl rfl)
theorem dX3_delivers_11 : decode cX3_delivers 11 = .ok (.istore 4, 2) := dk_54 4 (dk_at dksX3_delivers_0 11 rfl rfl)
theorem dX3_delivers_13 : decode cX3_delivers 13 = .ok (.iload_n 3, 1) := dk_29 (dk_at dksX3_delivers_0 13 rfl rfl)
theorem dX3_delivers_14 : decode cX3_delivers 14 = .ok (.aload_n 0, 1) := dk_42 (dk_at dksX3_delivers_0 14 rfl rfl)
theorem dX3_delivers_15 : decode cX3_delivers 15 = .ok (.getfield 7, 3) := dk_180 0 7 (dk_at dksX3_delivers_0 15 rfl rfl)
theorem dX3_delivers_18 : decode cX3_delivers 18 = .ok (.bipush 11, 2) := dk_16 11 (dk_at dksX3_delivers_0 18 rfl rfl)
theorem dX3_delivers_20 : decode cX3_delivers 20 = .ok (.iaload, 1) := dk_46 (dk_at dksX3_delivers_0 20 rfl rfl)
theorem dX3_delivers_21 : decode cX3_delivers 21 = .ok (.imul, 1) := dk_104 (dk_at dksX3_delivers_0 21 rfl rfl)
theorem dX3_delivers_22 : decode cX3_delivers 22 = .ok (.istore 5, 2) := dk_54 5 (dk_at dksX3_delivers_0 22 rfl rfl)
theorem dX3_delivers_24 : decode cX3_delivers 24 = .ok (.aload_n 0, 1) := dk_42 (dk_at dksX3_delivers_1 0 rfl rfl)
theorem dX3_delivers_25 : decode cX3_delivers 25 = .ok (.getfield 7, 3) := dk_180 0 7 (dk_at dksX3_delivers_1 1 rfl rfl)
theorem dX3_delivers_28 : decode cX3_delivers 28 = .ok (.iload_n 1, 1) := dk_27 (dk_at dksX3_delivers_1 4 rfl rfl)
theorem dX3_delivers_29 : decode cX3_delivers 29 = .ok (.iconst 2, 1) := dk_5 (dk_at dksX3_delivers_1 5 rfl rfl)
theorem dX3_delivers_30 : decode cX3_delivers 30 = .ok (.invokestatic 39, 3) := dk_184 0 39 (dk_at dksX3_delivers_1 6 rfl rfl)
theorem dX3_delivers_33 : decode cX3_delivers 33 = .ok (.dup2, 1) := dk_92 (dk_at dksX3_delivers_1 9 rfl rfl)
theorem dX3_delivers_34 : decode cX3_delivers 34 = .ok (.iaload, 1) := dk_46 (dk_at dksX3_delivers_1 10 rfl rfl)
theorem dX3_delivers_35 : decode cX3_delivers 35 = .ok (.bipush 12, 2) := dk_16 12 (dk_at dksX3_delivers_1 11 rfl rfl)
theorem dX3_delivers_37 : decode cX3_delivers 37 = .ok (.iload_n 3, 1) := dk_29 (dk_at dksX3_delivers_1 13 rfl rfl)
theorem dX3_delivers_38 : decode cX3_delivers 38 = .ok (.imul, 1) := dk_104 (dk_at dksX3_delivers_1 14 rfl rfl)
theorem dX3_delivers_39 : decode cX3_delivers 39 = .ok (.isub, 1) := dk_100 (dk_at dksX3_delivers_1 15 rfl rfl)
theorem dX3_delivers_40 : decode cX3_delivers 40 = .ok (.iastore, 1) := dk_79 (dk_at dksX3_delivers_1 16 rfl rfl)
theorem dX3_delivers_41 : decode cX3_delivers 41 = .ok (.aload_n 0, 1) := dk_42 (dk_at dksX3_delivers_1 17 rfl rfl)
theorem dX3_delivers_42 : decode cX3_delivers 42 = .ok (.getfield 7, 3) := dk_180 0 7 (dk_at dksX3_delivers_1 18 rfl rfl)
theorem dX3_delivers_45 : decode cX3_delivers 45 = .ok (.iload_n 2, 1) := dk_28 (dk_at dksX3_delivers_1 21 rfl rfl)
theorem dX3_delivers_46 : decode cX3_delivers 46 = .ok (.iconst 5, 1) := dk_8 (dk_at dksX3_delivers_1 22 rfl rfl)
theorem dX3_delivers_47 : decode cX3_delivers 47 = .ok (.iload_n 1, 1) := dk_27 (dk_at dksX3_delivers_1 23 rfl rfl)
theorem dX3_delivers_48 : decode cX3_delivers 48 = .ok (.iadd, 1) := dk_96 (dk_at dksX3_delivers_2 0 rfl rfl)
theorem dX3_delivers_49 : decode cX3_delivers 49 = .ok (.invokestatic 43, 3) := dk_184 0 43 (dk_at dksX3_delivers_2 1 rfl rfl)
theorem dX3_delivers_52 : decode cX3_delivers 52 = .ok (.dup2, 1) := dk_92 (dk_at dksX3_delivers_2 4 rfl rfl)
theorem dX3_delivers_53 : decode cX3_delivers 53 = .ok (.iaload, 1) := dk_46 (dk_at dksX3_delivers_2 5 rfl rfl)
theorem dX3_delivers_54 : decode cX3_delivers 54 = .ok (.bipush 12, 2) := dk_16 12 (dk_at dksX3_delivers_2 6 rfl rfl)
theorem dX3_delivers_56 : decode cX3_delivers 56 = .ok (.iload_n 3, 1) := dk_29 (dk_at dksX3_delivers_2 8 rfl rfl)
theorem dX3_delivers_57 : decode cX3_delivers 57 = .ok (.imul, 1) := dk_104 (dk_at dksX3_delivers_2 9 rfl rfl)
theorem dX3_delivers_58 : decode cX3_delivers 58 = .ok (.iadd, 1) := dk_96 (dk_at dksX3_delivers_2 10 rfl rfl)
theorem dX3_delivers_59 : decode cX3_delivers 59 = .ok (.iastore, 1) := dk_79 (dk_at dksX3_delivers_2 11 rfl rfl)
theorem dX3_delivers_60 : decode cX3_delivers 60 = .ok (.aload_n 0, 1) := dk_42 (dk_at dksX3_delivers_2 12 rfl rfl)
theorem dX3_delivers_61 : decode cX3_delivers 61 = .ok (.getfield 7, 3) := dk_180 0 7 (dk_at dksX3_delivers_2 13 rfl rfl)
theorem dX3_delivers_64 : decode cX3_delivers 64 = .ok (.iconst 2, 1) := dk_5 (dk_at dksX3_delivers_2 16 rfl rfl)
theorem dX3_delivers_65 : decode cX3_delivers 65 = .ok (.dup2, 1) := dk_92 (dk_at dksX3_delivers_2 17 rfl rfl)
theorem dX3_delivers_66 : decode cX3_delivers 66 = .ok (.iaload, 1) := dk_46 (dk_at dksX3_delivers_2 18 rfl rfl)
theorem dX3_delivers_67 : decode cX3_delivers 67 = .ok (.iload_n 3, 1) := dk_29 (dk_at dksX3_delivers_2 19 rfl rfl)
theorem dX3_delivers_68 : decode cX3_delivers 68 = .ok (.isub, 1) := dk_100 (dk_at dksX3_delivers_2 20 rfl rfl)
theorem dX3_delivers_69 : decode cX3_delivers 69 = .ok (.iastore, 1) := dk_79 (dk_at dksX3_delivers_2 21 rfl rfl)
theorem dX3_delivers_70 : decode cX3_delivers 70 = .ok (.aload_n 0, 1) := dk_42 (dk_at dksX3_delivers_2 22 rfl rfl)
theorem dX3_delivers_71 : decode cX3_delivers 71 = .ok (.getfield 7, 3) := dk_180 0 7 (dk_at dksX3_delivers_3 0 rfl rfl)
theorem dX3_delivers_74 : decode cX3_delivers 74 = .ok (.iload_n 2, 1) := dk_28 (dk_at dksX3_delivers_3 3 rfl rfl)
theorem dX3_delivers_75 : decode cX3_delivers 75 = .ok (.iconst 1, 1) := dk_4 (dk_at dksX3_delivers_3 4 rfl rfl)
theorem dX3_delivers_76 : decode cX3_delivers 76 = .ok (.invokestatic 43, 3) := dk_184 0 43 (dk_at dksX3_delivers_3 5 rfl rfl)
theorem dX3_delivers_79 : decode cX3_delivers 79 = .ok (.dup2, 1) := dk_92 (dk_at dksX3_delivers_3 8 rfl rfl)
theorem dX3_delivers_80 : decode cX3_delivers 80 = .ok (.iaload, 1) := dk_46 (dk_at dksX3_delivers_3 9 rfl rfl)
theorem dX3_delivers_81 : decode cX3_delivers 81 = .ok (.iload_n 3, 1) := dk_29 (dk_at dksX3_delivers_3 10 rfl rfl)
theorem dX3_delivers_82 : decode cX3_delivers 82 = .ok (.iadd, 1) := dk_96 (dk_at dksX3_delivers_3 11 rfl rfl)
theorem dX3_delivers_83 : decode cX3_delivers 83 = .ok (.iastore, 1) := dk_79 (dk_at dksX3_delivers_3 12 rfl rfl)
theorem dX3_delivers_84 : decode cX3_delivers 84 = .ok (.aload_n 0, 1) := dk_42 (dk_at dksX3_delivers_3 13 rfl rfl)
theorem dX3_delivers_85 : decode cX3_delivers 85 = .ok (.getfield 7, 3) := dk_180 0 7 (dk_at dksX3_delivers_3 14 rfl rfl)
theorem dX3_delivers_88 : decode cX3_delivers 88 = .ok (.iload_n 2, 1) := dk_28 (dk_at dksX3_delivers_3 17 rfl rfl)
theorem dX3_delivers_89 : decode cX3_delivers 89 = .ok (.iconst 0, 1) := dk_3 (dk_at dksX3_delivers_3 18 rfl rfl)
theorem dX3_delivers_90 : decode cX3_delivers 90 = .ok (.invokestatic 43, 3) := dk_184 0 43 (dk_at dksX3_delivers_3 19 rfl rfl)
theorem dX3_delivers_93 : decode cX3_delivers 93 = .ok (.dup2, 1) := dk_92 (dk_at dksX3_delivers_3 22 rfl rfl)
theorem dX3_delivers_94 : decode cX3_delivers 94 = .ok (.iaload, 1) := dk_46 (dk_at dksX3_delivers_3 23 rfl rfl)
theorem dX3_delivers_95 : decode cX3_delivers 95 = .ok (.iload 4, 2) := dk_21 4 (dk_at dksX3_delivers_4 0 rfl rfl)
theorem dX3_delivers_97 : decode cX3_delivers 97 = .ok (.iload 5, 2) := dk_21 5 (dk_at dksX3_delivers_4 2 rfl rfl)
theorem dX3_delivers_99 : decode cX3_delivers 99 = .ok (.iadd, 1) := dk_96 (dk_at dksX3_delivers_4 4 rfl rfl)
theorem dX3_delivers_100 : decode cX3_delivers 100 = .ok (.isub, 1) := dk_100 (dk_at dksX3_delivers_4 5 rfl rfl)
theorem dX3_delivers_101 : decode cX3_delivers 101 = .ok (.iastore, 1) := dk_79 (dk_at dksX3_delivers_4 6 rfl rfl)
theorem dX3_delivers_102 : decode cX3_delivers 102 = .ok (.aload_n 0, 1) := dk_42 (dk_at dksX3_delivers_4 7 rfl rfl)
theorem dX3_delivers_103 : decode cX3_delivers 103 = .ok (.getfield 7, 3) := dk_180 0 7 (dk_at dksX3_delivers_4 8 rfl rfl)
theorem dX3_delivers_106 : decode cX3_delivers 106 = .ok (.iload_n 2, 1) := dk_28 (dk_at dksX3_delivers_4 11 rfl rfl)
theorem dX3_delivers_107 : decode cX3_delivers 107 = .ok (.iconst 2, 1) := dk_5 (dk_at dksX3_delivers_4 12 rfl rfl)
theorem dX3_delivers_108 : decode cX3_delivers 108 = .ok (.invokestatic 43, 3) := dk_184 0 43 (dk_at dksX3_delivers_4 13 rfl rfl)
theorem dX3_delivers_111 : decode cX3_delivers 111 = .ok (.dup2, 1) := dk_92 (dk_at dksX3_delivers_4 16 rfl rfl)
theorem dX3_delivers_112 : decode cX3_delivers 112 = .ok (.iaload, 1) := dk_46 (dk_at dksX3_delivers_4 17 rfl rfl)
theorem dX3_delivers_113 : decode cX3_delivers 113 = .ok (.iload 4, 2) := dk_21 4 (dk_at dksX3_delivers_4 18 rfl rfl)
theorem dX3_delivers_115 : decode cX3_delivers 115 = .ok (.iadd, 1) := dk_96 (dk_at dksX3_delivers_4 20 rfl rfl)
theorem dX3_delivers_116 : decode cX3_delivers 116 = .ok (.iastore, 1) := dk_79 (dk_at dksX3_delivers_4 21 rfl rfl)
theorem dX3_delivers_117 : decode cX3_delivers 117 = .ok (.aload_n 0, 1) := dk_42 (dk_at dksX3_delivers_4 22 rfl rfl)
theorem dX3_delivers_118 : decode cX3_delivers 118 = .ok (.getfield 7, 3) := dk_180 0 7 (dk_at dksX3_delivers_5 0 rfl rfl)
theorem dX3_delivers_121 : decode cX3_delivers 121 = .ok (.iload_n 2, 1) := dk_28 (dk_at dksX3_delivers_5 3 rfl rfl)
theorem dX3_delivers_122 : decode cX3_delivers 122 = .ok (.iconst 3, 1) := dk_6 (dk_at dksX3_delivers_5 4 rfl rfl)
theorem dX3_delivers_123 : decode cX3_delivers 123 = .ok (.invokestatic 43, 3) := dk_184 0 43 (dk_at dksX3_delivers_5 5 rfl rfl)
theorem dX3_delivers_126 : decode cX3_delivers 126 = .ok (.dup2, 1) := dk_92 (dk_at dksX3_delivers_5 8 rfl rfl)
theorem dX3_delivers_127 : decode cX3_delivers 127 = .ok (.iaload, 1) := dk_46 (dk_at dksX3_delivers_5 9 rfl rfl)
theorem dX3_delivers_128 : decode cX3_delivers 128 = .ok (.iload 5, 2) := dk_21 5 (dk_at dksX3_delivers_5 10 rfl rfl)
theorem dX3_delivers_130 : decode cX3_delivers 130 = .ok (.iadd, 1) := dk_96 (dk_at dksX3_delivers_5 12 rfl rfl)
theorem dX3_delivers_131 : decode cX3_delivers 131 = .ok (.iastore, 1) := dk_79 (dk_at dksX3_delivers_5 13 rfl rfl)
theorem dX3_delivers_132 : decode cX3_delivers 132 = .ok (.aload_n 0, 1) := dk_42 (dk_at dksX3_delivers_5 14 rfl rfl)
theorem dX3_delivers_133 : decode cX3_delivers 133 = .ok (.getfield 7, 3) := dk_180 0 7 (dk_at dksX3_delivers_5 15 rfl rfl)
theorem dX3_delivers_136 : decode cX3_delivers 136 = .ok (.iconst 3, 1) := dk_6 (dk_at dksX3_delivers_5 18 rfl rfl)
theorem dX3_delivers_137 : decode cX3_delivers 137 = .ok (.dup2, 1) := dk_92 (dk_at dksX3_delivers_5 19 rfl rfl)
theorem dX3_delivers_138 : decode cX3_delivers 138 = .ok (.iaload, 1) := dk_46 (dk_at dksX3_delivers_5 20 rfl rfl)
theorem dX3_delivers_139 : decode cX3_delivers 139 = .ok (.iload 4, 2) := dk_21 4 (dk_at dksX3_delivers_5 21 rfl rfl)
theorem dX3_delivers_141 : decode cX3_delivers 141 = .ok (.iadd, 1) := dk_96 (dk_at dksX3_delivers_5 23 rfl rfl)
theorem dX3_delivers_142 : decode cX3_delivers 142 = .ok (.iastore, 1) := dk_79 (dk_at dksX3_delivers_6 0 rfl rfl)
theorem dX3_delivers_143 : decode cX3_delivers 143 = .ok (.aload_n 0, 1) := dk_42 (dk_at dksX3_delivers_6 1 rfl rfl)
theorem dX3_delivers_144 : decode cX3_delivers 144 = .ok (.getfield 7, 3) := dk_180 0 7 (dk_at dksX3_delivers_6 2 rfl rfl)
theorem dX3_delivers_147 : decode cX3_delivers 147 = .ok (.iconst 5, 1) := dk_8 (dk_at dksX3_delivers_6 5 rfl rfl)
theorem dX3_delivers_148 : decode cX3_delivers 148 = .ok (.dup2, 1) := dk_92 (dk_at dksX3_delivers_6 6 rfl rfl)
theorem dX3_delivers_149 : decode cX3_delivers 149 = .ok (.iaload, 1) := dk_46 (dk_at dksX3_delivers_6 7 rfl rfl)
theorem dX3_delivers_150 : decode cX3_delivers 150 = .ok (.iload 5, 2) := dk_21 5 (dk_at dksX3_delivers_6 8 rfl rfl)
theorem dX3_delivers_152 : decode cX3_delivers 152 = .ok (.iadd, 1) := dk_96 (dk_at dksX3_delivers_6 10 rfl rfl)
theorem dX3_delivers_153 : decode cX3_delivers 153 = .ok (.iastore, 1) := dk_79 (dk_at dksX3_delivers_6 11 rfl rfl)
theorem dX3_delivers_154 : decode cX3_delivers 154 = .ok (.iload 4, 2) := dk_21 4 (dk_at dksX3_delivers_6 12 rfl rfl)
theorem dX3_delivers_156 : decode cX3_delivers 156 = .ok (.iload 5, 2) := dk_21 5 (dk_at dksX3_delivers_6 14 rfl rfl)
theorem dX3_delivers_158 : decode cX3_delivers 158 = .ok (.iadd, 1) := dk_96 (dk_at dksX3_delivers_6 16 rfl rfl)
theorem dX3_delivers_159 : decode cX3_delivers 159 = .ok (.ireturn, 1) := dk_172 (dk_at dksX3_delivers_6 17 rfl rfl)
abbrev cX3_sell : ByteArray := prog_23_method_38_code
def yX3_sell : MethodName := ⟨RX3, "sell", "(III)I"⟩
def dkwX3_sell_3 : List UInt8 := [172]
abbrev dktX3_sell_3 : List UInt8 := dkwX3_sell_3 ++ []
def dkwX3_sell_2 : List UInt8 := [29, 182, 0, 102, 158, 0, 9, 42, 6, 182, 0, 49, 172, 42, 182, 0, 53, 42, 27, 28, 29, 182, 0, 105]
abbrev dktX3_sell_2 : List UInt8 := dkwX3_sell_2 ++ dktX3_sell_3
def dkwX3_sell_1 : List UInt8 := [182, 0, 49, 172, 29, 4, 17, 1, 244, 184, 0, 35, 154, 0, 9, 42, 5, 182, 0, 49, 172, 42, 27, 28]
abbrev dktX3_sell_1 : List UInt8 := dkwX3_sell_1 ++ dktX3_sell_2
def dkwX3_sell_0 : List UInt8 := [42, 3, 181, 0, 28, 42, 27, 182, 0, 92, 153, 0, 11, 42, 28, 182, 0, 85, 154, 0, 9, 42, 4]
abbrev dktX3_sell_0 : List UInt8 := dkwX3_sell_0 ++ dktX3_sell_1
theorem dksX3_sell_0 : cX3_sell.data.toList.drop 0 = dktX3_sell_0 := by decide +kernel
theorem dksX3_sell_1 : cX3_sell.data.toList.drop 23 = dktX3_sell_1 := dk_seg dksX3_sell_0 23 rfl rfl
theorem dksX3_sell_2 : cX3_sell.data.toList.drop 47 = dktX3_sell_2 := dk_seg dksX3_sell_1 24 rfl rfl
theorem dksX3_sell_3 : cX3_sell.data.toList.drop 71 = dktX3_sell_3 := dk_seg dksX3_sell_2 24 rfl rfl
theorem dX3_sell_0 : decode cX3_sell 0 = .ok (.aload_n 0, 1) := dk_42 (dk_at dksX3_sell_0 0 rfl rfl)
theorem dX3_sell_1 : decode cX3_sell 1 = .ok (.iconst 0, 1) := dk_3 (dk_at dksX3_sell_0 1 rfl rfl)
theorem dX3_sell_2 : decode cX3_sell 2 = .ok (.putfield 28, 3) := dk_181 0 28 (dk_at dksX3_sell_0 2 rfl rfl)
theorem dX3_sell_5 : decode cX3_sell 5 = .ok (.aload_n 0, 1) := dk_42 (dk_at dksX3_sell_0 5 rfl rfl)
theorem dX3_sell_6 : decode cX3_sell 6 = .ok (.iload_n 1, 1) := dk_27 (dk_at dksX3_sell_0 6 rfl rfl)
theorem dX3_sell_7 : decode cX3_sell 7 = .ok (.invokevirtual 92, 3) := dk_182 0 92 (dk_at dksX3_sell_0 7 rfl rfl)
theorem dX3_sell_10 : decode cX3_sell 10 = .ok (.ifCond .eq 11, 3) := dk_153 0 11 (dk_at dksX3_sell_0 10 rfl rfl)
theorem dX3_sell_13 : decode cX3_sell 13 = .ok (.aload_n 0, 1) := dk_42 (dk_at dksX3_sell_0 13 rfl rfl)
theorem dX3_sell_14 : decode cX3_sell 14 = .ok (.iload_n 2, 1) := dk_28 (dk_at dksX3_sell_0 14 rfl rfl)
theorem dX3_sell_15 : decode cX3_sell 15 = .ok (.invokevirtual 85, 3) := dk_182 0 85 (dk_at dksX3_sell_0 15 rfl rfl)
theorem dX3_sell_18 : decode cX3_sell 18 = .ok (.ifCond .ne 9, 3) := dk_154 0 9 (dk_at dksX3_sell_0 18 rfl rfl)
theorem dX3_sell_21 : decode cX3_sell 21 = .ok (.aload_n 0, 1) := dk_42 (dk_at dksX3_sell_0 21 rfl rfl)
theorem dX3_sell_22 : decode cX3_sell 22 = .ok (.iconst 1, 1) := dk_4 (dk_at dksX3_sell_0 22 rfl rfl)
theorem dX3_sell_23 : decode cX3_sell 23 = .ok (.invokevirtual 49, 3) := dk_182 0 49 (dk_at dksX3_sell_1 0 rfl rfl)
theorem dX3_sell_26 : decode cX3_sell 26 = .ok (.ireturn, 1) := dk_172 (dk_at dksX3_sell_1 3 rfl rfl)
theorem dX3_sell_27 : decode cX3_sell 27 = .ok (.iload_n 3, 1) := dk_29 (dk_at dksX3_sell_1 4 rfl rfl)
theorem dX3_sell_28 : decode cX3_sell 28 = .ok (.iconst 1, 1) := dk_4 (dk_at dksX3_sell_1 5 rfl rfl)
theorem dX3_sell_29 : decode cX3_sell 29 = .ok (.sipush 500, 3) := dk_17 1 244 (dk_at dksX3_sell_1 6 rfl rfl)
theorem dX3_sell_32 : decode cX3_sell 32 = .ok (.invokestatic 35, 3) := dk_184 0 35 (dk_at dksX3_sell_1 9 rfl rfl)
theorem dX3_sell_35 : decode cX3_sell 35 = .ok (.ifCond .ne 9, 3) := dk_154 0 9 (dk_at dksX3_sell_1 12 rfl rfl)
theorem dX3_sell_38 : decode cX3_sell 38 = .ok (.aload_n 0, 1) := dk_42 (dk_at dksX3_sell_1 15 rfl rfl)
theorem dX3_sell_39 : decode cX3_sell 39 = .ok (.iconst 2, 1) := dk_5 (dk_at dksX3_sell_1 16 rfl rfl)
theorem dX3_sell_40 : decode cX3_sell 40 = .ok (.invokevirtual 49, 3) := dk_182 0 49 (dk_at dksX3_sell_1 17 rfl rfl)
theorem dX3_sell_43 : decode cX3_sell 43 = .ok (.ireturn, 1) := dk_172 (dk_at dksX3_sell_1 20 rfl rfl)
theorem dX3_sell_44 : decode cX3_sell 44 = .ok (.aload_n 0, 1) := dk_42 (dk_at dksX3_sell_1 21 rfl rfl)
theorem dX3_sell_45 : decode cX3_sell 45 = .ok (.iload_n 1, 1) := dk_27 (dk_at dksX3_sell_1 22 rfl rfl)
theorem dX3_sell_46 : decode cX3_sell 46 = .ok (.iload_n 2, 1) := dk_28 (dk_at dksX3_sell_1 23 rfl rfl)
theorem dX3_sell_47 : decode cX3_sell 47 = .ok (.iload_n 3, 1) := dk_29 (dk_at dksX3_sell_2 0 rfl rfl)
theorem dX3_sell_48 : decode cX3_sell 48 = .ok (.invokevirtual 102, 3) := dk_182 0 102 (dk_at dksX3_sell_2 1 rfl rfl)
theorem dX3_sell_51 : decode cX3_sell 51 = .ok (.ifCond .le 9, 3) := dk_158 0 9 (dk_at dksX3_sell_2 4 rfl rfl)
theorem dX3_sell_54 : decode cX3_sell 54 = .ok (.aload_n 0, 1) := dk_42 (dk_at dksX3_sell_2 7 rfl rfl)
theorem dX3_sell_55 : decode cX3_sell 55 = .ok (.iconst 3, 1) := dk_6 (dk_at dksX3_sell_2 8 rfl rfl)
theorem dX3_sell_56 : decode cX3_sell 56 = .ok (.invokevirtual 49, 3) := dk_182 0 49 (dk_at dksX3_sell_2 9 rfl rfl)
theorem dX3_sell_59 : decode cX3_sell 59 = .ok (.ireturn, 1) := dk_172 (dk_at dksX3_sell_2 12 rfl rfl)
theorem dX3_sell_60 : decode cX3_sell 60 = .ok (.aload_n 0, 1) := dk_42 (dk_at dksX3_sell_2 13 rfl rfl)
theorem dX3_sell_61 : decode cX3_sell 61 = .ok (.invokevirtual 53, 3) := dk_182 0 53 (dk_at dksX3_sell_2 14 rfl rfl)
theorem dX3_sell_64 : decode cX3_sell 64 = .ok (.aload_n 0, 1) := dk_42 (dk_at dksX3_sell_2 17 rfl rfl)
theorem dX3_sell_65 : decode cX3_sell 65 = .ok (.iload_n 1, 1) := dk_27 (dk_at dksX3_sell_2 18 rfl rfl)
theorem dX3_sell_66 : decode cX3_sell 66 = .ok (.iload_n 2, 1) := dk_28 (dk_at dksX3_sell_2 19 rfl rfl)
theorem dX3_sell_67 : decode cX3_sell 67 = .ok (.iload_n 3, 1) := dk_29 (dk_at dksX3_sell_2 20 rfl rfl)
theorem dX3_sell_68 : decode cX3_sell 68 = .ok (.invokevirtual 105, 3) := dk_182 0 105 (dk_at dksX3_sell_2 21 rfl rfl)
theorem dX3_sell_71 : decode cX3_sell 71 = .ok (.ireturn, 1) := dk_172 (dk_at dksX3_sell_3 0 rfl rfl)
abbrev cX3_againstSell : ByteArray := prog_23_method_25_code
def yX3_againstSell : MethodName := ⟨RX3, "againstSell", "(III)I"⟩
def dkwX3_againstSell_0 : List UInt8 := [42, 27, 8, 28, 96, 182, 0, 57, 29, 162, 0, 7, 4, 167, 0, 4, 3, 172]
abbrev dktX3_againstSell_0 : List UInt8 := dkwX3_againstSell_0 ++ []
theorem dksX3_againstSell_0 : cX3_againstSell.data.toList.drop 0 = dktX3_againstSell_0 := by decide +kernel
theorem dX3_againstSell_0 : decode cX3_againstSell 0 = .ok (.aload_n 0, 1) := dk_42 (dk_at dksX3_againstSell_0 0 rfl rfl)
theorem dX3_againstSell_1 : decode cX3_againstSell 1 = .ok (.iload_n 1, 1) := dk_27 (dk_at dksX3_againstSell_0 1 rfl rfl)
theorem dX3_againstSell_2 : decode cX3_againstSell 2 = .ok (.iconst 5, 1) := dk_8 (dk_at dksX3_againstSell_0 2 rfl rfl)
theorem dX3_againstSell_3 : decode cX3_againstSell 3 = .ok (.iload_n 2, 1) := dk_28 (dk_at dksX3_againstSell_0 3 rfl rfl)
theorem dX3_againstSell_4 : decode cX3_againstSell 4 = .ok (.iadd, 1) := dk_96 (dk_at dksX3_againstSell_0 4 rfl rfl)
theorem dX3_againstSell_5 : decode cX3_againstSell 5 = .ok (.invokevirtual 57, 3) := dk_182 0 57 (dk_at dksX3_againstSell_0 5 rfl rfl)
theorem dX3_againstSell_8 : decode cX3_againstSell 8 = .ok (.iload_n 3, 1) := dk_29 (dk_at dksX3_againstSell_0 8 rfl rfl)
theorem dX3_againstSell_9 : decode cX3_againstSell 9 = .ok (.if_icmp .ge 7, 3) := dk_162 0 7 (dk_at dksX3_againstSell_0 9 rfl rfl)
theorem dX3_againstSell_12 : decode cX3_againstSell 12 = .ok (.iconst 1, 1) := dk_4 (dk_at dksX3_againstSell_0 12 rfl rfl)
theorem dX3_againstSell_13 : decode cX3_againstSell 13 = .ok (.goto 4, 3) := dk_167 0 4 (dk_at dksX3_againstSell_0 13 rfl rfl)
theorem dX3_againstSell_16 : decode cX3_againstSell 16 = .ok (.iconst 0, 1) := dk_3 (dk_at dksX3_againstSell_0 16 rfl rfl)
theorem dX3_againstSell_17 : decode cX3_againstSell 17 = .ok (.ireturn, 1) := dk_172 (dk_at dksX3_againstSell_0 17 rfl rfl)
abbrev cX3_sells : ByteArray := prog_23_method_26_code
def yX3_sells : MethodName := ⟨RX3, "sells", "(III)I"⟩
def dkwX3_sells_3 : List UInt8 := [182, 0, 57, 172]
abbrev dktX3_sells_3 : List UInt8 := dkwX3_sells_3 ++ []
def dkwX3_sells_2 : List UInt8 := [180, 0, 7, 27, 3, 184, 0, 43, 92, 46, 29, 42, 28, 182, 0, 73, 104, 96, 79, 42, 27, 3]
abbrev dktX3_sells_2 : List UInt8 := dkwX3_sells_2 ++ dktX3_sells_3
def dkwX3_sells_1 : List UInt8 := [184, 0, 39, 92, 46, 29, 96, 79, 42, 180, 0, 7, 27, 7, 184, 0, 43, 92, 46, 29, 96, 79, 42]
abbrev dktX3_sells_1 : List UInt8 := dkwX3_sells_1 ++ dktX3_sells_2
def dkwX3_sells_0 : List UInt8 := [42, 180, 0, 7, 27, 8, 28, 96, 184, 0, 43, 92, 46, 29, 100, 79, 42, 180, 0, 7, 28, 6]
abbrev dktX3_sells_0 : List UInt8 := dkwX3_sells_0 ++ dktX3_sells_1
theorem dksX3_sells_0 : cX3_sells.data.toList.drop 0 = dktX3_sells_0 := by decide +kernel
theorem dksX3_sells_1 : cX3_sells.data.toList.drop 22 = dktX3_sells_1 := dk_seg dksX3_sells_0 22 rfl rfl
theorem dksX3_sells_2 : cX3_sells.data.toList.drop 45 = dktX3_sells_2 := dk_seg dksX3_sells_1 23 rfl rfl
theorem dksX3_sells_3 : cX3_sells.data.toList.drop 67 = dktX3_sells_3 := dk_seg dksX3_sells_2 22 rfl rfl
theorem dX3_sells_0 : decode cX3_sells 0 = .ok (.aload_n 0, 1) := dk_42 (dk_at dksX3_sells_0 0 rfl rfl)
theorem dX3_sells_1 : decode cX3_sells 1 = .ok (.getfield 7, 3) := dk_180 0 7 (dk_at dksX3_sells_0 1 rfl rfl)
theorem dX3_sells_4 : decode cX3_sells 4 = .ok (.iload_n 1, 1) := dk_27 (dk_at dksX3_sells_0 4 rfl rfl)
theorem dX3_sells_5 : decode cX3_sells 5 = .ok (.iconst 5, 1) := dk_8 (dk_at dksX3_sells_0 5 rfl rfl)
theorem dX3_sells_6 : decode cX3_sells 6 = .ok (.iload_n 2, 1) := dk_28 (dk_at dksX3_sells_0 6 rfl rfl)
theorem dX3_sells_7 : decode cX3_sells 7 = .ok (.iadd, 1) := dk_96 (dk_at dksX3_sells_0 7 rfl rfl)
theorem dX3_sells_8 : decode cX3_sells 8 = .ok (.invokestatic 43, 3) := dk_184 0 43 (dk_at dksX3_sells_0 8 rfl rfl)
theorem dX3_sells_11 : decode cX3_sells 11 = .ok (.dup2, 1) := dk_92 (dk_at dksX3_sells_0 11 rfl rfl)
theorem dX3_sells_12 : decode cX3_sells 12 = .ok (.iaload, 1) := dk_46 (dk_at dksX3_sells_0 12 rfl rfl)
theorem dX3_sells_13 : decode cX3_sells 13 = .ok (.iload_n 3, 1) := dk_29 (dk_at dksX3_sells_0 13 rfl rfl)
theorem dX3_sells_14 : decode cX3_sells 14 = .ok (.isub, 1) := dk_100 (dk_at dksX3_sells_0 14 rfl rfl)
theorem dX3_sells_15 : decode cX3_sells 15 = .ok (.iastore, 1) := dk_79 (dk_at dksX3_sells_0 15 rfl rfl)
theorem dX3_sells_16 : decode cX3_sells 16 = .ok (.aload_n 0, 1) := dk_42 (dk_at dksX3_sells_0 16 rfl rfl)
theorem dX3_sells_17 : decode cX3_sells 17 = .ok (.getfield 7, 3) := dk_180 0 7 (dk_at dksX3_sells_0 17 rfl rfl)
theorem dX3_sells_20 : decode cX3_sells 20 = .ok (.iload_n 2, 1) := dk_28 (dk_at dksX3_sells_0 20 rfl rfl)
theorem dX3_sells_21 : decode cX3_sells 21 = .ok (.iconst 3, 1) := dk_6 (dk_at dksX3_sells_0 21 rfl rfl)
theorem dX3_sells_22 : decode cX3_sells 22 = .ok (.invokestatic 39, 3) := dk_184 0 39 (dk_at dksX3_sells_1 0 rfl rfl)
theorem dX3_sells_25 : decode cX3_sells 25 = .ok (.dup2, 1) := dk_92 (dk_at dksX3_sells_1 3 rfl rfl)
theorem dX3_sells_26 : decode cX3_sells 26 = .ok (.iaload, 1) := dk_46 (dk_at dksX3_sells_1 4 rfl rfl)
theorem dX3_sells_27 : decode cX3_sells 27 = .ok (.iload_n 3, 1) := dk_29 (dk_at dksX3_sells_1 5 rfl rfl)
theorem dX3_sells_28 : decode cX3_sells 28 = .ok (.iadd, 1) := dk_96 (dk_at dksX3_sells_1 6 rfl rfl)
theorem dX3_sells_29 : decode cX3_sells 29 = .ok (.iastore, 1) := dk_79 (dk_at dksX3_sells_1 7 rfl rfl)
theorem dX3_sells_30 : decode cX3_sells 30 = .ok (.aload_n 0, 1) := dk_42 (dk_at dksX3_sells_1 8 rfl rfl)
theorem dX3_sells_31 : decode cX3_sells 31 = .ok (.getfield 7, 3) := dk_180 0 7 (dk_at dksX3_sells_1 9 rfl rfl)
theorem dX3_sells_34 : decode cX3_sells 34 = .ok (.iload_n 1, 1) := dk_27 (dk_at dksX3_sells_1 12 rfl rfl)
theorem dX3_sells_35 : decode cX3_sells 35 = .ok (.iconst 4, 1) := dk_7 (dk_at dksX3_sells_1 13 rfl rfl)
theorem dX3_sells_36 : decode cX3_sells 36 = .ok (.invokestatic 43, 3) := dk_184 0 43 (dk_at dksX3_sells_1 14 rfl rfl)
theorem dX3_sells_39 : decode cX3_sells 39 = .ok (.dup2, 1) := dk_92 (dk_at dksX3_sells_1 17 rfl rfl)
theorem dX3_sells_40 : decode cX3_sells 40 = .ok (.iaload, 1) := dk_46 (dk_at dksX3_sells_1 18 rfl rfl)
theorem dX3_sells_41 : decode cX3_sells 41 = .ok (.iload_n 3, 1) := dk_29 (dk_at dksX3_sells_1 19 rfl rfl)
theorem dX3_sells_42 : decode cX3_sells 42 = .ok (.iadd, 1) := dk_96 (dk_at dksX3_sells_1 20 rfl rfl)
theorem dX3_sells_43 : decode cX3_sells 43 = .ok (.iastore, 1) := dk_79 (dk_at dksX3_sells_1 21 rfl rfl)
theorem dX3_sells_44 : decode cX3_sells 44 = .ok (.aload_n 0, 1) := dk_42 (dk_at dksX3_sells_1 22 rfl rfl)
theorem dX3_sells_45 : decode cX3_sells 45 = .ok (.getfield 7, 3) := dk_180 0 7 (dk_at dksX3_sells_2 0 rfl rfl)
theorem dX3_sells_48 : decode cX3_sells 48 = .ok (.iload_n 1, 1) := dk_27 (dk_at dksX3_sells_2 3 rfl rfl)
theorem dX3_sells_49 : decode cX3_sells 49 = .ok (.iconst 0, 1) := dk_3 (dk_at dksX3_sells_2 4 rfl rfl)
theorem dX3_sells_50 : decode cX3_sells 50 = .ok (.invokestatic 43, 3) := dk_184 0 43 (dk_at dksX3_sells_2 5 rfl rfl)
theorem dX3_sells_53 : decode cX3_sells 53 = .ok (.dup2, 1) := dk_92 (dk_at dksX3_sells_2 8 rfl rfl)
theorem dX3_sells_54 : decode cX3_sells 54 = .ok (.iaload, 1) := dk_46 (dk_at dksX3_sells_2 9 rfl rfl)
theorem dX3_sells_55 : decode cX3_sells 55 = .ok (.iload_n 3, 1) := dk_29 (dk_at dksX3_sells_2 10 rfl rfl)
theorem dX3_sells_56 : decode cX3_sells 56 = .ok (.aload_n 0, 1) := dk_42 (dk_at dksX3_sells_2 11 rfl rfl)
theorem dX3_sells_57 : decode cX3_sells 57 = .ok (.iload_n 2, 1) := dk_28 (dk_at dksX3_sells_2 12 rfl rfl)
theorem dX3_sells_58 : decode cX3_sells 58 = .ok (.invokevirtual 73, 3) := dk_182 0 73 (dk_at dksX3_sells_2 13 rfl rfl)
theorem dX3_sells_61 : decode cX3_sells 61 = .ok (.imul, 1) := dk_104 (dk_at dksX3_sells_2 16 rfl rfl)
theorem dX3_sells_62 : decode cX3_sells 62 = .ok (.iadd, 1) := dk_96 (dk_at dksX3_sells_2 17 rfl rfl)
theorem dX3_sells_63 : decode cX3_sells 63 = .ok (.iastore, 1) := dk_79 (dk_at dksX3_sells_2 18 rfl rfl)
theorem dX3_sells_64 : decode cX3_sells 64 = .ok (.aload_n 0, 1) := dk_42 (dk_at dksX3_sells_2 19 rfl rfl)
theorem dX3_sells_65 : decode cX3_sells 65 = .ok (.iload_n 1, 1) := dk_27 (dk_at dksX3_sells_2 20 rfl rfl)
theorem dX3_sells_66 : decode cX3_sells 66 = .ok (.iconst 0, 1) := dk_3 (dk_at dksX3_sells_2 21 rfl rfl)
theorem dX3_sells_67 : decode cX3_sells 67 = .ok (.invokevirtual 57, 3) := dk_182 0 57 (dk_at dksX3_sells_3 0 rfl rfl)
theorem dX3_sells_70 : decode cX3_sells 70 = .ok (.ireturn, 1) := dk_172 (dk_at dksX3_sells_3 3 rfl rfl)
abbrev cX3_deposit : ByteArray := prog_23_method_12_code
def yX3_deposit : MethodName := ⟨RX3, "deposit", "(I)I"⟩
def dkwX3_deposit_0 : List UInt8 := [42, 180, 0, 7, 16, 7, 42, 27, 3, 182, 0, 46, 96, 46, 172]
abbrev dktX3_deposit_0 : List UInt8 := dkwX3_deposit_0 ++ []
theorem dksX3_deposit_0 : cX3_deposit.data.toList.drop 0 = dktX3_deposit_0 := by decide +kernel
theorem dX3_deposit_0 : decode cX3_deposit 0 = .ok (.aload_n 0, 1) := dk_42 (dk_at dksX3_deposit_0 0 rfl rfl)
theorem dX3_deposit_1 : decode cX3_deposit 1 = .ok (.getfield 7, 3) := dk_180 0 7 (dk_at dksX3_deposit_0 1 rfl rfl)
theorem dX3_deposit_4 : decode cX3_deposit 4 = .ok (.bipush 7, 2) := dk_16 7 (dk_at dksX3_deposit_0 4 rfl rfl)
theorem dX3_deposit_6 : decode cX3_deposit 6 = .ok (.aload_n 0, 1) := dk_42 (dk_at dksX3_deposit_0 6 rfl rfl)
theorem dX3_deposit_7 : decode cX3_deposit 7 = .ok (.iload_n 1, 1) := dk_27 (dk_at dksX3_deposit_0 7 rfl rfl)
theorem dX3_deposit_8 : decode cX3_deposit 8 = .ok (.iconst 0, 1) := dk_3 (dk_at dksX3_deposit_0 8 rfl rfl)
theorem dX3_deposit_9 : decode cX3_deposit 9 = .ok (.invokevirtual 46, 3) := dk_182 0 46 (dk_at dksX3_deposit_0 9 rfl rfl)
theorem dX3_deposit_12 : decode cX3_deposit 12 = .ok (.iadd, 1) := dk_96 (dk_at dksX3_deposit_0 12 rfl rfl)
theorem dX3_deposit_13 : decode cX3_deposit 13 = .ok (.iaload, 1) := dk_46 (dk_at dksX3_deposit_0 13 rfl rfl)
theorem dX3_deposit_14 : decode cX3_deposit 14 = .ok (.ireturn, 1) := dk_172 (dk_at dksX3_deposit_0 14 rfl rfl)
abbrev cX3_takeBack : ByteArray := prog_23_method_39_code
def yX3_takeBack : MethodName := ⟨RX3, "takeBack", "(III)I"⟩
def dkwX3_takeBack_3 : List UInt8 := [172]
abbrev dktX3_takeBack_3 : List UInt8 := dkwX3_takeBack_3 ++ []
def dkwX3_takeBack_2 : List UInt8 := [29, 182, 0, 108, 158, 0, 9, 42, 6, 182, 0, 49, 172, 42, 182, 0, 53, 42, 27, 28, 29, 182, 0, 111]
abbrev dktX3_takeBack_2 : List UInt8 := dkwX3_takeBack_2 ++ dktX3_takeBack_3
def dkwX3_takeBack_1 : List UInt8 := [182, 0, 49, 172, 29, 4, 17, 1, 244, 184, 0, 35, 154, 0, 9, 42, 5, 182, 0, 49, 172, 42, 27, 28]
abbrev dktX3_takeBack_1 : List UInt8 := dkwX3_takeBack_1 ++ dktX3_takeBack_2
def dkwX3_takeBack_0 : List UInt8 := [42, 3, 181, 0, 28, 42, 27, 182, 0, 92, 153, 0, 11, 42, 28, 182, 0, 85, 154, 0, 9, 42, 4]
abbrev dktX3_takeBack_0 : List UInt8 := dkwX3_takeBack_0 ++ dktX3_takeBack_1
theorem dksX3_takeBack_0 : cX3_takeBack.data.toList.drop 0 = dktX3_takeBack_0 := by decide +kernel
theorem dksX3_takeBack_1 : cX3_takeBack.data.toList.drop 23 = dktX3_takeBack_1 := dk_seg dksX3_takeBack_0 23 rfl rfl
theorem dksX3_takeBack_2 : cX3_takeBack.data.toList.drop 47 = dktX3_takeBack_2 := dk_seg dksX3_takeBack_1 24 rfl rfl
theorem dksX3_takeBack_3 : cX3_takeBack.data.toList.drop 71 = dktX3_takeBack_3 := dk_seg dksX3_takeBack_2 24 rfl rfl
theorem dX3_takeBack_0 : decode cX3_takeBack 0 = .ok (.aload_n 0, 1) := dk_42 (dk_at dksX3_takeBack_0 0 rfl rfl)
theorem dX3_takeBack_1 : decode cX3_takeBack 1 = .ok (.iconst 0, 1) := dk_3 (dk_at dksX3_takeBack_0 1 rfl rfl)
theorem dX3_takeBack_2 : decode cX3_takeBack 2 = .ok (.putfield 28, 3) := dk_181 0 28 (dk_at dksX3_takeBack_0 2 rfl rfl)
theorem dX3_takeBack_5 : decode cX3_takeBack 5 = .ok (.aload_n 0, 1) := dk_42 (dk_at dksX3_takeBack_0 5 rfl rfl)
theorem dX3_takeBack_6 : decode cX3_takeBack 6 = .ok (.iload_n 1, 1) := dk_27 (dk_at dksX3_takeBack_0 6 rfl rfl)
theorem dX3_takeBack_7 : decode cX3_takeBack 7 = .ok (.invokevirtual 92, 3) := dk_182 0 92 (dk_at dksX3_takeBack_0 7 rfl rfl)
theorem dX3_takeBack_10 : decode cX3_takeBack 10 = .ok (.ifCond .eq 11, 3) := dk_153 0 11 (dk_at dksX3_takeBack_0 10 rfl rfl)
theorem dX3_takeBack_13 : decode cX3_takeBack 13 = .ok (.aload_n 0, 1) := dk_42 (dk_at dksX3_takeBack_0 13 rfl rfl)
theorem dX3_takeBack_14 : decode cX3_takeBack 14 = .ok (.iload_n 2, 1) := dk_28 (dk_at dksX3_takeBack_0 14 rfl rfl)
theorem dX3_takeBack_15 : decode cX3_takeBack 15 = .ok (.invokevirtual 85, 3) := dk_182 0 85 (dk_at dksX3_takeBack_0 15 rfl rfl)
theorem dX3_takeBack_18 : decode cX3_takeBack 18 = .ok (.ifCond .ne 9, 3) := dk_154 0 9 (dk_at dksX3_takeBack_0 18 rfl rfl)
theorem dX3_takeBack_21 : decode cX3_takeBack 21 = .ok (.aload_n 0, 1) := dk_42 (dk_at dksX3_takeBack_0 21 rfl rfl)
theorem dX3_takeBack_22 : decode cX3_takeBack 22 = .ok (.iconst 1, 1) := dk_4 (dk_at dksX3_takeBack_0 22 rfl rfl)
theorem dX3_takeBack_23 : decode cX3_takeBack 23 = .ok (.invokevirtual 49, 3) := dk_182 0 49 (dk_at dksX3_takeBack_1 0 rfl rfl)
theorem dX3_takeBack_26 : decode cX3_takeBack 26 = .ok (.ireturn, 1) := dk_172 (dk_at dksX3_takeBack_1 3 rfl rfl)
theorem dX3_takeBack_27 : decode cX3_takeBack 27 = .ok (.iload_n 3, 1) := dk_29 (dk_at dksX3_takeBack_1 4 rfl rfl)
theorem dX3_takeBack_28 : decode cX3_takeBack 28 = .ok (.iconst 1, 1) := dk_4 (dk_at dksX3_takeBack_1 5 rfl rfl)
theorem dX3_takeBack_29 : decode cX3_takeBack 29 = .ok (.sipush 500, 3) := dk_17 1 244 (dk_at dksX3_takeBack_1 6 rfl rfl)
theorem dX3_takeBack_32 : decode cX3_takeBack 32 = .ok (.invokestatic 35, 3) := dk_184 0 35 (dk_at dksX3_takeBack_1 9 rfl rfl)
theorem dX3_takeBack_35 : decode cX3_takeBack 35 = .ok (.ifCond .ne 9, 3) := dk_154 0 9 (dk_at dksX3_takeBack_1 12 rfl rfl)
theorem dX3_takeBack_38 : decode cX3_takeBack 38 = .ok (.aload_n 0, 1) := dk_42 (dk_at dksX3_takeBack_1 15 rfl rfl)
theorem dX3_takeBack_39 : decode cX3_takeBack 39 = .ok (.iconst 2, 1) := dk_5 (dk_at dksX3_takeBack_1 16 rfl rfl)
theorem dX3_takeBack_40 : decode cX3_takeBack 40 = .ok (.invokevirtual 49, 3) := dk_182 0 49 (dk_at dksX3_takeBack_1 17 rfl rfl)
theorem dX3_takeBack_43 : decode cX3_takeBack 43 = .ok (.ireturn, 1) := dk_172 (dk_at dksX3_takeBack_1 20 rfl rfl)
theorem dX3_takeBack_44 : decode cX3_takeBack 44 = .ok (.aload_n 0, 1) := dk_42 (dk_at dksX3_takeBack_1 21 rfl rfl)
theorem dX3_takeBack_45 : decode cX3_takeBack 45 = .ok (.iload_n 1, 1) := dk_27 (dk_at dksX3_takeBack_1 22 rfl rfl)
theorem dX3_takeBack_46 : decode cX3_takeBack 46 = .ok (.iload_n 2, 1) := dk_28 (dk_at dksX3_takeBack_1 23 rfl rfl)
theorem dX3_takeBack_47 : decode cX3_takeBack 47 = .ok (.iload_n 3, 1) := dk_29 (dk_at dksX3_takeBack_2 0 rfl rfl)
theorem dX3_takeBack_48 : decode cX3_takeBack 48 = .ok (.invokevirtual 108, 3) := dk_182 0 108 (dk_at dksX3_takeBack_2 1 rfl rfl)
theorem dX3_takeBack_51 : decode cX3_takeBack 51 = .ok (.ifCond .le 9, 3) := dk_158 0 9 (dk_at dksX3_takeBack_2 4 rfl rfl)
theorem dX3_takeBack_54 : decode cX3_takeBack 54 = .ok (.aload_n 0, 1) := dk_42 (dk_at dksX3_takeBack_2 7 rfl rfl)
theorem dX3_takeBack_55 : decode cX3_takeBack 55 = .ok (.iconst 3, 1) := dk_6 (dk_at dksX3_takeBack_2 8 rfl rfl)
theorem dX3_takeBack_56 : decode cX3_takeBack 56 = .ok (.invokevirtual 49, 3) := dk_182 0 49 (dk_at dksX3_takeBack_2 9 rfl rfl)
theorem dX3_takeBack_59 : decode cX3_takeBack 59 = .ok (.ireturn, 1) := dk_172 (dk_at dksX3_takeBack_2 12 rfl rfl)
theorem dX3_takeBack_60 : decode cX3_takeBack 60 = .ok (.aload_n 0, 1) := dk_42 (dk_at dksX3_takeBack_2 13 rfl rfl)
theorem dX3_takeBack_61 : decode cX3_takeBack 61 = .ok (.invokevirtual 53, 3) := dk_182 0 53 (dk_at dksX3_takeBack_2 14 rfl rfl)
theorem dX3_takeBack_64 : decode cX3_takeBack 64 = .ok (.aload_n 0, 1) := dk_42 (dk_at dksX3_takeBack_2 17 rfl rfl)
theorem dX3_takeBack_65 : decode cX3_takeBack 65 = .ok (.iload_n 1, 1) := dk_27 (dk_at dksX3_takeBack_2 18 rfl rfl)
theorem dX3_takeBack_66 : decode cX3_takeBack 66 = .ok (.iload_n 2, 1) := dk_28 (dk_at dksX3_takeBack_2 19 rfl rfl)
theorem dX3_takeBack_67 : decode cX3_takeBack 67 = .ok (.iload_n 3, 1) := dk_29 (dk_at dksX3_takeBack_2 20 rfl rfl)
theorem dX3_takeBack_68 : decode cX3_takeBack 68 = .ok (.invokevirtual 111, 3) := dk_182 0 111 (dk_at dksX3_takeBack_2 21 rfl rfl)
theorem dX3_takeBack_71 : decode cX3_takeBack 71 = .ok (.ireturn, 1) := dk_172 (dk_at dksX3_takeBack_3 0 rfl rfl)
abbrev cX3_againstTakeBack : ByteArray := prog_23_method_27_code
def yX3_againstTakeBack : MethodName := ⟨RX3, "againstTakeBack", "(III)I"⟩
def dkwX3_againstTakeBack_1 : List UInt8 := [182, 0, 73, 104, 162, 0, 7, 6, 167, 0, 4, 3, 172]
abbrev dktX3_againstTakeBack_1 : List UInt8 := dkwX3_againstTakeBack_1 ++ []
def dkwX3_againstTakeBack_0 : List UInt8 := [42, 28, 6, 182, 0, 46, 29, 162, 0, 7, 4, 167, 0, 24, 42, 27, 3, 182, 0, 57, 29, 42, 28]
abbrev dktX3_againstTakeBack_0 : List UInt8 := dkwX3_againstTakeBack_0 ++ dktX3_againstTakeBack_1
theorem dksX3_againstTakeBack_0 : cX3_againstTakeBack.data.toList.drop 0 = dktX3_againstTakeBack_0 := by decide +kernel
theorem dksX3_againstTakeBack_1 : cX3_againstTakeBack.data.toList.drop 23 = dktX3_againstTakeBack_1 := dk_seg dksX3_againstTakeBack_0 23 rfl rfl
theorem dX3_againstTakeBack_0 : decode cX3_againstTakeBack 0 = .ok (.aload_n 0, 1) := dk_42 (dk_at dksX3_againstTakeBack_0 0 rfl rfl)
theorem dX3_againstTakeBack_1 : decode cX3_againstTakeBack 1 = .ok (.iload_n 2, 1) := dk_28 (dk_at dksX3_againstTakeBack_0 1 rfl rfl)
theorem dX3_againstTakeBack_2 : decode cX3_againstTakeBack 2 = .ok (.iconst 3, 1) := dk_6 (dk_at dksX3_againstTakeBack_0 2 rfl rfl)
theorem dX3_againstTakeBack_3 : decode cX3_againstTakeBack 3 = .ok (.invokevirtual 46, 3) := dk_182 0 46 (dk_at dksX3_againstTakeBack_0 3 rfl rfl)
theorem dX3_againstTakeBack_6 : decode cX3_againstTakeBack 6 = .ok (.iload_n 3, 1) := dk_29 (dk_at dksX3_againstTakeBack_0 6 rfl rfl)
theorem dX3_againstTakeBack_7 : decode cX3_againstTakeBack 7 = .ok (.if_icmp .ge 7, 3) := dk_162 0 7 (dk_at dksX3_againstTakeBack_0 7 rfl rfl)
theorem dX3_againstTakeBack_10 : decode cX3_againstTakeBack 10 = .ok (.iconst 1, 1) := dk_4 (dk_at dksX3_againstTakeBack_0 10 rfl rfl)
theorem dX3_againstTakeBack_11 : decode cX3_againstTakeBack 11 = .ok (.goto 24, 3) := dk_167 0 24 (dk_at dksX3_againstTakeBack_0 11 rfl rfl)
theorem dX3_againstTakeBack_14 : decode cX3_againstTakeBack 14 = .ok (.aload_n 0, 1) := dk_42 (dk_at dksX3_againstTakeBack_0 14 rfl rfl)
theorem dX3_againstTakeBack_15 : decode cX3_againstTakeBack 15 = .ok (.iload_n 1, 1) := dk_27 (dk_at dksX3_againstTakeBack_0 15 rfl rfl)
theorem dX3_againstTakeBack_16 : decode cX3_againstTakeBack 16 = .ok (.iconst 0, 1) := dk_3 (dk_at dksX3_againstTakeBack_0 16 rfl rfl)
theorem dX3_againstTakeBack_17 : decode cX3_againstTakeBack 17 = .ok (.invokevirtual 57, 3) := dk_182 0 57 (dk_at dksX3_againstTakeBack_0 17 rfl rfl)
theorem dX3_againstTakeBack_20 : decode cX3_againstTakeBack 20 = .ok (.iload_n 3, 1) := dk_29 (dk_at dksX3_againstTakeBack_0 20 rfl rfl)
theorem dX3_againstTakeBack_21 : decode cX3_againstTakeBack 21 = .ok (.aload_n 0, 1) := dk_42 (dk_at dksX3_againstTakeBack_0 21 rfl rfl)
theorem dX3_againstTakeBack_22 : decode cX3_againstTakeBack 22 = .ok (.iload_n 2, 1) := dk_28 (dk_at dksX3_againstTakeBack_0 22 rfl rfl)
theorem dX3_againstTakeBack_23 : decode cX3_againstTakeBack 23 = .ok (.invokevirtual 73, 3) := dk_182 0 73 (dk_at dksX3_againstTakeBack_1 0 rfl rfl)
theorem dX3_againstTakeBack_26 : decode cX3_againstTakeBack 26 = .ok (.imul, 1) := dk_104 (dk_at dksX3_againstTakeBack_1 3 rfl rfl)
theorem dX3_againstTakeBack_27 : decode cX3_againstTakeBack 27 = .ok (.if_icmp .ge 7, 3) := dk_162 0 7 (dk_at dksX3_againstTakeBack_1 4 rfl rfl)
theorem dX3_againstTakeBack_30 : decode cX3_againstTakeBack 30 = .ok (.iconst 3, 1) := dk_6 (dk_at dksX3_againstTakeBack_1 7 rfl rfl)
theorem dX3_againstTakeBack_31 : decode cX3_againstTakeBack 31 = .ok (.goto 4, 3) := dk_167 0 4 (dk_at dksX3_againstTakeBack_1 8 rfl rfl)
theorem dX3_againstTakeBack_34 : decode cX3_againstTakeBack 34 = .ok (.iconst 0, 1) := dk_3 (dk_at dksX3_againstTakeBack_1 11 rfl rfl)
theorem dX3_againstTakeBack_35 : decode cX3_againstTakeBack 35 = .ok (.ireturn, 1) := dk_172 (dk_at dksX3_againstTakeBack_1 12 rfl rfl)
abbrev cX3_takesBack : ByteArray := prog_23_method_28_code
def yX3_takesBack : MethodName := ⟨RX3, "takesBack", "(III)I"⟩
def dkwX3_takesBack_3 : List UInt8 := [182, 0, 57, 172]
abbrev dktX3_takesBack_3 : List UInt8 := dkwX3_takesBack_3 ++ []
def dkwX3_takesBack_2 : List UInt8 := [180, 0, 7, 27, 3, 184, 0, 43, 92, 46, 29, 42, 28, 182, 0, 73, 104, 100, 79, 42, 27, 3]
abbrev dktX3_takesBack_2 : List UInt8 := dkwX3_takesBack_2 ++ dktX3_takesBack_3
def dkwX3_takesBack_1 : List UInt8 := [184, 0, 43, 92, 46, 29, 96, 79, 42, 180, 0, 7, 27, 7, 184, 0, 43, 92, 46, 29, 100, 79, 42]
abbrev dktX3_takesBack_1 : List UInt8 := dkwX3_takesBack_1 ++ dktX3_takesBack_2
def dkwX3_takesBack_0 : List UInt8 := [42, 180, 0, 7, 28, 6, 184, 0, 39, 92, 46, 29, 100, 79, 42, 180, 0, 7, 27, 16, 13, 28, 96]
abbrev dktX3_takesBack_0 : List UInt8 := dkwX3_takesBack_0 ++ dktX3_takesBack_1
theorem dksX3_takesBack_0 : cX3_takesBack.data.toList.drop 0 = dktX3_takesBack_0 := by decide +kernel
theorem dksX3_takesBack_1 : cX3_takesBack.data.toList.drop 23 = dktX3_takesBack_1 := dk_seg dksX3_takesBack_0 23 rfl rfl
theorem dksX3_takesBack_2 : cX3_takesBack.data.toList.drop 46 = dktX3_takesBack_2 := dk_seg dksX3_takesBack_1 23 rfl rfl
theorem dksX3_takesBack_3 : cX3_takesBack.data.toList.drop 68 = dktX3_takesBack_3 := dk_seg dksX3_takesBack_2 22 rfl rfl
theorem dX3_takesBack_0 : decode cX3_takesBack 0 = .ok (.aload_n 0, 1) := dk_42 (dk_at dksX3_takesBack_0 0 rfl rfl)
theorem dX3_takesBack_1 : decode cX3_takesBack 1 = .ok (.getfield 7, 3) := dk_180 0 7 (dk_at dksX3_takesBack_0 1 rfl rfl)
theorem dX3_takesBack_4 : decode cX3_takesBack 4 = .ok (.iload_n 2, 1) := dk_28 (dk_at dksX3_takesBack_0 4 rfl rfl)
theorem dX3_takesBack_5 : decode cX3_takesBack 5 = .ok (.iconst 3, 1) := dk_6 (dk_at dksX3_takesBack_0 5 rfl rfl)
theorem dX3_takesBack_6 : decode cX3_takesBack 6 = .ok (.invokestatic 39, 3) := dk_184 0 39 (dk_at dksX3_takesBack_0 6 rfl rfl)
theorem dX3_takesBack_9 : decode cX3_takesBack 9 = .ok (.dup2, 1) := dk_92 (dk_at dksX3_takesBack_0 9 rfl rfl)
theorem dX3_takesBack_10 : decode cX3_takesBack 10 = .ok (.iaload, 1) := dk_46 (dk_at dksX3_takesBack_0 10 rfl rfl)
theorem dX3_takesBack_11 : decode cX3_takesBack 11 = .ok (.iload_n 3, 1) := dk_29 (dk_at dksX3_takesBack_0 11 rfl rfl)
theorem dX3_takesBack_12 : decode cX3_takesBack 12 = .ok (.isub, 1) := dk_100 (dk_at dksX3_takesBack_0 12 rfl rfl)
theorem dX3_takesBack_13 : decode cX3_takesBack 13 = .ok (.iastore, 1) := dk_79 (dk_at dksX3_takesBack_0 13 rfl rfl)
theorem dX3_takesBack_14 : decode cX3_takesBack 14 = .ok (.aload_n 0, 1) := dk_42 (dk_at dksX3_takesBack_0 14 rfl rfl)
theorem dX3_takesBack_15 : decode cX3_takesBack 15 = .ok (.getfield 7, 3) := dk_180 0 7 (dk_at dksX3_takesBack_0 15 rfl rfl)
theorem dX3_takesBack_18 : decode cX3_takesBack 18 = .ok (.iload_n 1, 1) := dk_27 (dk_at dksX3_takesBack_0 18 rfl rfl)
theorem dX3_takesBack_19 : decode cX3_takesBack 19 = .ok (.bipush 13, 2) := dk_16 13 (dk_at dksX3_takesBack_0 19 rfl rfl)
theorem dX3_takesBack_21 : decode cX3_takesBack 21 = .ok (.iload_n 2, 1) := dk_28 (dk_at dksX3_takesBack_0 21 rfl rfl)
theorem dX3_takesBack_22 : decode cX3_takesBack 22 = .ok (.iadd, 1) := dk_96 (dk_at dksX3_takesBack_0 22 rfl rfl)
theorem dX3_takesBack_23 : decode cX3_takesBack 23 = .ok (.invokestatic 43, 3) := dk_184 0 43 (dk_at dksX3_takesBack_1 0 rfl rfl)
theorem dX3_takesBack_26 : decode cX3_takesBack 26 = .ok (.dup2, 1) := dk_92 (dk_at dksX3_takesBack_1 3 rfl rfl)
theorem dX3_takesBack_27 : decode cX3_takesBack 27 = .ok (.iaload, 1) := dk_46 (dk_at dksX3_takesBack_1 4 rfl rfl)
theorem dX3_takesBack_28 : decode cX3_takesBack 28 = .ok (.iload_n 3, 1) := dk_29 (dk_at dksX3_takesBack_1 5 rfl rfl)
theorem dX3_takesBack_29 : decode cX3_takesBack 29 = .ok (.iadd, 1) := dk_96 (dk_at dksX3_takesBack_1 6 rfl rfl)
theorem dX3_takesBack_30 : decode cX3_takesBack 30 = .ok (.iastore, 1) := dk_79 (dk_at dksX3_takesBack_1 7 rfl rfl)
theorem dX3_takesBack_31 : decode cX3_takesBack 31 = .ok (.aload_n 0, 1) := dk_42 (dk_at dksX3_takesBack_1 8 rfl rfl)
theorem dX3_takesBack_32 : decode cX3_takesBack 32 = .ok (.getfield 7, 3) := dk_180 0 7 (dk_at dksX3_takesBack_1 9 rfl rfl)
theorem dX3_takesBack_35 : decode cX3_takesBack 35 = .ok (.iload_n 1, 1) := dk_27 (dk_at dksX3_takesBack_1 12 rfl rfl)
theorem dX3_takesBack_36 : decode cX3_takesBack 36 = .ok (.iconst 4, 1) := dk_7 (dk_at dksX3_takesBack_1 13 rfl rfl)
theorem dX3_takesBack_37 : decode cX3_takesBack 37 = .ok (.invokestatic 43, 3) := dk_184 0 43 (dk_at dksX3_takesBack_1 14 rfl rfl)
theorem dX3_takesBack_40 : decode cX3_takesBack 40 = .ok (.dup2, 1) := dk_92 (dk_at dksX3_takesBack_1 17 rfl rfl)
theorem dX3_takesBack_41 : decode cX3_takesBack 41 = .ok (.iaload, 1) := dk_46 (dk_at dksX3_takesBack_1 18 rfl rfl)
theorem dX3_takesBack_42 : decode cX3_takesBack 42 = .ok (.iload_n 3, 1) := dk_29 (dk_at dksX3_takesBack_1 19 rfl rfl)
theorem dX3_takesBack_43 : decode cX3_takesBack 43 = .ok (.isub, 1) := dk_100 (dk_at dksX3_takesBack_1 20 rfl rfl)
theorem dX3_takesBack_44 : decode cX3_takesBack 44 = .ok (.iastore, 1) := dk_79 (dk_at dksX3_takesBack_1 21 rfl rfl)
theorem dX3_takesBack_45 : decode cX3_takesBack 45 = .ok (.aload_n 0, 1) := dk_42 (dk_at dksX3_takesBack_1 22 rfl rfl)
theorem dX3_takesBack_46 : decode cX3_takesBack 46 = .ok (.getfield 7, 3) := dk_180 0 7 (dk_at dksX3_takesBack_2 0 rfl rfl)
theorem dX3_takesBack_49 : decode cX3_takesBack 49 = .ok (.iload_n 1, 1) := dk_27 (dk_at dksX3_takesBack_2 3 rfl rfl)
theorem dX3_takesBack_50 : decode cX3_takesBack 50 = .ok (.iconst 0, 1) := dk_3 (dk_at dksX3_takesBack_2 4 rfl rfl)
theorem dX3_takesBack_51 : decode cX3_takesBack 51 = .ok (.invokestatic 43, 3) := dk_184 0 43 (dk_at dksX3_takesBack_2 5 rfl rfl)
theorem dX3_takesBack_54 : decode cX3_takesBack 54 = .ok (.dup2, 1) := dk_92 (dk_at dksX3_takesBack_2 8 rfl rfl)
theorem dX3_takesBack_55 : decode cX3_takesBack 55 = .ok (.iaload, 1) := dk_46 (dk_at dksX3_takesBack_2 9 rfl rfl)
theorem dX3_takesBack_56 : decode cX3_takesBack 56 = .ok (.iload_n 3, 1) := dk_29 (dk_at dksX3_takesBack_2 10 rfl rfl)
theorem dX3_takesBack_57 : decode cX3_takesBack 57 = .ok (.aload_n 0, 1) := dk_42 (dk_at dksX3_takesBack_2 11 rfl rfl)
theorem dX3_takesBack_58 : decode cX3_takesBack 58 = .ok (.iload_n 2, 1) := dk_28 (dk_at dksX3_takesBack_2 12 rfl rfl)
theorem dX3_takesBack_59 : decode cX3_takesBack 59 = .ok (.invokevirtual 73, 3) := dk_182 0 73 (dk_at dksX3_takesBack_2 13 rfl rfl)
theorem dX3_takesBack_62 : decode cX3_takesBack 62 = .ok (.imul, 1) := dk_104 (dk_at dksX3_takesBack_2 16 rfl rfl)
theorem dX3_takesBack_63 : decode cX3_takesBack 63 = .ok (.isub, 1) := dk_100 (dk_at dksX3_takesBack_2 17 rfl rfl)
theorem dX3_takesBack_64 : decode cX3_takesBack 64 = .ok (.iastore, 1) := dk_79 (dk_at dksX3_takesBack_2 18 rfl rfl)
theorem dX3_takesBack_65 : decode cX3_takesBack 65 = .ok (.aload_n 0, 1) := dk_42 (dk_at dksX3_takesBack_2 19 rfl rfl)
theorem dX3_takesBack_66 : decode cX3_takesBack 66 = .ok (.iload_n 1, 1) := dk_27 (dk_at dksX3_takesBack_2 20 rfl rfl)
theorem dX3_takesBack_67 : decode cX3_takesBack 67 = .ok (.iconst 0, 1) := dk_3 (dk_at dksX3_takesBack_2 21 rfl rfl)
theorem dX3_takesBack_68 : decode cX3_takesBack 68 = .ok (.invokevirtual 57, 3) := dk_182 0 57 (dk_at dksX3_takesBack_3 0 rfl rfl)
theorem dX3_takesBack_71 : decode cX3_takesBack 71 = .ok (.ireturn, 1) := dk_172 (dk_at dksX3_takesBack_3 3 rfl rfl)
abbrev cX3_breaks : ByteArray := prog_23_method_40_code
def yX3_breaks : MethodName := ⟨RX3, "breaks", "(III)I"⟩
def dkwX3_breaks_3 : List UInt8 := [172]
abbrev dktX3_breaks_3 : List UInt8 := dkwX3_breaks_3 ++ []
def dkwX3_breaks_2 : List UInt8 := [29, 182, 0, 114, 158, 0, 9, 42, 6, 182, 0, 49, 172, 42, 182, 0, 53, 42, 27, 28, 29, 182, 0, 117]
abbrev dktX3_breaks_2 : List UInt8 := dkwX3_breaks_2 ++ dktX3_breaks_3
def dkwX3_breaks_1 : List UInt8 := [182, 0, 49, 172, 29, 4, 17, 1, 244, 184, 0, 35, 154, 0, 9, 42, 5, 182, 0, 49, 172, 42, 27, 28]
abbrev dktX3_breaks_1 : List UInt8 := dkwX3_breaks_1 ++ dktX3_breaks_2
def dkwX3_breaks_0 : List UInt8 := [42, 3, 181, 0, 28, 42, 27, 182, 0, 92, 153, 0, 11, 42, 28, 182, 0, 85, 154, 0, 9, 42, 4]
abbrev dktX3_breaks_0 : List UInt8 := dkwX3_breaks_0 ++ dktX3_breaks_1
theorem dksX3_breaks_0 : cX3_breaks.data.toList.drop 0 = dktX3_breaks_0 := by decide +kernel
theorem dksX3_breaks_1 : cX3_breaks.data.toList.drop 23 = dktX3_breaks_1 := dk_seg dksX3_breaks_0 23 rfl rfl
theorem dksX3_breaks_2 : cX3_breaks.data.toList.drop 47 = dktX3_breaks_2 := dk_seg dksX3_breaks_1 24 rfl rfl
theorem dksX3_breaks_3 : cX3_breaks.data.toList.drop 71 = dktX3_breaks_3 := dk_seg dksX3_breaks_2 24 rfl rfl
theorem dX3_breaks_0 : decode cX3_breaks 0 = .ok (.aload_n 0, 1) := dk_42 (dk_at dksX3_breaks_0 0 rfl rfl)
theorem dX3_breaks_1 : decode cX3_breaks 1 = .ok (.iconst 0, 1) := dk_3 (dk_at dksX3_breaks_0 1 rfl rfl)
theorem dX3_breaks_2 : decode cX3_breaks 2 = .ok (.putfield 28, 3) := dk_181 0 28 (dk_at dksX3_breaks_0 2 rfl rfl)
theorem dX3_breaks_5 : decode cX3_breaks 5 = .ok (.aload_n 0, 1) := dk_42 (dk_at dksX3_breaks_0 5 rfl rfl)
theorem dX3_breaks_6 : decode cX3_breaks 6 = .ok (.iload_n 1, 1) := dk_27 (dk_at dksX3_breaks_0 6 rfl rfl)
theorem dX3_breaks_7 : decode cX3_breaks 7 = .ok (.invokevirtual 92, 3) := dk_182 0 92 (dk_at dksX3_breaks_0 7 rfl rfl)
theorem dX3_breaks_10 : decode cX3_breaks 10 = .ok (.ifCond .eq 11, 3) := dk_153 0 11 (dk_at dksX3_breaks_0 10 rfl rfl)
theorem dX3_breaks_13 : decode cX3_breaks 13 = .ok (.aload_n 0, 1) := dk_42 (dk_at dksX3_breaks_0 13 rfl rfl)
theorem dX3_breaks_14 : decode cX3_breaks 14 = .ok (.iload_n 2, 1) := dk_28 (dk_at dksX3_breaks_0 14 rfl rfl)
theorem dX3_breaks_15 : decode cX3_breaks 15 = .ok (.invokevirtual 85, 3) := dk_182 0 85 (dk_at dksX3_breaks_0 15 rfl rfl)
theorem dX3_breaks_18 : decode cX3_breaks 18 = .ok (.ifCond .ne 9, 3) := dk_154 0 9 (dk_at dksX3_breaks_0 18 rfl rfl)
theorem dX3_breaks_21 : decode cX3_breaks 21 = .ok (.aload_n 0, 1) := dk_42 (dk_at dksX3_breaks_0 21 rfl rfl)
theorem dX3_breaks_22 : decode cX3_breaks 22 = .ok (.iconst 1, 1) := dk_4 (dk_at dksX3_breaks_0 22 rfl rfl)
theorem dX3_breaks_23 : decode cX3_breaks 23 = .ok (.invokevirtual 49, 3) := dk_182 0 49 (dk_at dksX3_breaks_1 0 rfl rfl)
theorem dX3_breaks_26 : decode cX3_breaks 26 = .ok (.ireturn, 1) := dk_172 (dk_at dksX3_breaks_1 3 rfl rfl)
theorem dX3_breaks_27 : decode cX3_breaks 27 = .ok (.iload_n 3, 1) := dk_29 (dk_at dksX3_breaks_1 4 rfl rfl)
theorem dX3_breaks_28 : decode cX3_breaks 28 = .ok (.iconst 1, 1) := dk_4 (dk_at dksX3_breaks_1 5 rfl rfl)
theorem dX3_breaks_29 : decode cX3_breaks 29 = .ok (.sipush 500, 3) := dk_17 1 244 (dk_at dksX3_breaks_1 6 rfl rfl)
theorem dX3_breaks_32 : decode cX3_breaks 32 = .ok (.invokestatic 35, 3) := dk_184 0 35 (dk_at dksX3_breaks_1 9 rfl rfl)
theorem dX3_breaks_35 : decode cX3_breaks 35 = .ok (.ifCond .ne 9, 3) := dk_154 0 9 (dk_at dksX3_breaks_1 12 rfl rfl)
theorem dX3_breaks_38 : decode cX3_breaks 38 = .ok (.aload_n 0, 1) := dk_42 (dk_at dksX3_breaks_1 15 rfl rfl)
theorem dX3_breaks_39 : decode cX3_breaks 39 = .ok (.iconst 2, 1) := dk_5 (dk_at dksX3_breaks_1 16 rfl rfl)
theorem dX3_breaks_40 : decode cX3_breaks 40 = .ok (.invokevirtual 49, 3) := dk_182 0 49 (dk_at dksX3_breaks_1 17 rfl rfl)
theorem dX3_breaks_43 : decode cX3_breaks 43 = .ok (.ireturn, 1) := dk_172 (dk_at dksX3_breaks_1 20 rfl rfl)
theorem dX3_breaks_44 : decode cX3_breaks 44 = .ok (.aload_n 0, 1) := dk_42 (dk_at dksX3_breaks_1 21 rfl rfl)
theorem dX3_breaks_45 : decode cX3_breaks 45 = .ok (.iload_n 1, 1) := dk_27 (dk_at dksX3_breaks_1 22 rfl rfl)
theorem dX3_breaks_46 : decode cX3_breaks 46 = .ok (.iload_n 2, 1) := dk_28 (dk_at dksX3_breaks_1 23 rfl rfl)
theorem dX3_breaks_47 : decode cX3_breaks 47 = .ok (.iload_n 3, 1) := dk_29 (dk_at dksX3_breaks_2 0 rfl rfl)
theorem dX3_breaks_48 : decode cX3_breaks 48 = .ok (.invokevirtual 114, 3) := dk_182 0 114 (dk_at dksX3_breaks_2 1 rfl rfl)
theorem dX3_breaks_51 : decode cX3_breaks 51 = .ok (.ifCond .le 9, 3) := dk_158 0 9 (dk_at dksX3_breaks_2 4 rfl rfl)
theorem dX3_breaks_54 : decode cX3_breaks 54 = .ok (.aload_n 0, 1) := dk_42 (dk_at dksX3_breaks_2 7 rfl rfl)
theorem dX3_breaks_55 : decode cX3_breaks 55 = .ok (.iconst 3, 1) := dk_6 (dk_at dksX3_breaks_2 8 rfl rfl)
theorem dX3_breaks_56 : decode cX3_breaks 56 = .ok (.invokevirtual 49, 3) := dk_182 0 49 (dk_at dksX3_breaks_2 9 rfl rfl)
theorem dX3_breaks_59 : decode cX3_breaks 59 = .ok (.ireturn, 1) := dk_172 (dk_at dksX3_breaks_2 12 rfl rfl)
theorem dX3_breaks_60 : decode cX3_breaks 60 = .ok (.aload_n 0, 1) := dk_42 (dk_at dksX3_breaks_2 13 rfl rfl)
theorem dX3_breaks_61 : decode cX3_breaks 61 = .ok (.invokevirtual 53, 3) := dk_182 0 53 (dk_at dksX3_breaks_2 14 rfl rfl)
theorem dX3_breaks_64 : decode cX3_breaks 64 = .ok (.aload_n 0, 1) := dk_42 (dk_at dksX3_breaks_2 17 rfl rfl)
theorem dX3_breaks_65 : decode cX3_breaks 65 = .ok (.iload_n 1, 1) := dk_27 (dk_at dksX3_breaks_2 18 rfl rfl)
theorem dX3_breaks_66 : decode cX3_breaks 66 = .ok (.iload_n 2, 1) := dk_28 (dk_at dksX3_breaks_2 19 rfl rfl)
theorem dX3_breaks_67 : decode cX3_breaks 67 = .ok (.iload_n 3, 1) := dk_29 (dk_at dksX3_breaks_2 20 rfl rfl)
theorem dX3_breaks_68 : decode cX3_breaks 68 = .ok (.invokevirtual 117, 3) := dk_182 0 117 (dk_at dksX3_breaks_2 21 rfl rfl)
theorem dX3_breaks_71 : decode cX3_breaks 71 = .ok (.ireturn, 1) := dk_172 (dk_at dksX3_breaks_3 0 rfl rfl)
abbrev cX3_againstBreak : ByteArray := prog_23_method_29_code
def yX3_againstBreak : MethodName := ⟨RX3, "againstBreak", "(III)I"⟩
def dkwX3_againstBreak_0 : List UInt8 := [42, 27, 16, 13, 28, 96, 182, 0, 57, 29, 162, 0, 7, 4, 167, 0, 4, 3, 172]
abbrev dktX3_againstBreak_0 : List UInt8 := dkwX3_againstBreak_0 ++ []
theorem dksX3_againstBreak_0 : cX3_againstBreak.data.toList.drop 0 = dktX3_againstBreak_0 := by decide +kernel
theorem dX3_againstBreak_0 : decode cX3_againstBreak 0 = .ok (.aload_n 0, 1) := dk_42 (dk_at dksX3_againstBreak_0 0 rfl rfl)
theorem dX3_againstBreak_1 : decode cX3_againstBreak 1 = .ok (.iload_n 1, 1) := dk_27 (dk_at dksX3_againstBreak_0 1 rfl rfl)
theorem dX3_againstBreak_2 : decode cX3_againstBreak 2 = .ok (.bipush 13, 2) := dk_16 13 (dk_at dksX3_againstBreak_0 2 rfl rfl)
theorem dX3_againstBreak_4 : decode cX3_againstBreak 4 = .ok (.iload_n 2, 1) := dk_28 (dk_at dksX3_againstBreak_0 4 rfl rfl)
theorem dX3_againstBreak_5 : decode cX3_againstBreak 5 = .ok (.iadd, 1) := dk_96 (dk_at dksX3_againstBreak_0 5 rfl rfl)
theorem dX3_againstBreak_6 : decode cX3_againstBreak 6 = .ok (.invokevirtual 57, 3) := dk_182 0 57 (dk_at dksX3_againstBreak_0 6 rfl rfl)
theorem dX3_againstBreak_9 : decode cX3_againstBreak 9 = .ok (.iload_n 3, 1) := dk_29 (dk_at dksX3_againstBreak_0 9 rfl rfl)
theorem dX3_againstBreak_10 : decode cX3_againstBreak 10 = .ok (.if_icmp .ge 7, 3) := dk_162 0 7 (dk_at dksX3_againstBreak_0 10 rfl rfl)
theorem dX3_againstBreak_13 : decode cX3_againstBreak 13 = .ok (.iconst 1, 1) := dk_4 (dk_at dksX3_againstBreak_0 13 rfl rfl)
theorem dX3_againstBreak_14 : decode cX3_againstBreak 14 = .ok (.goto 4, 3) := dk_167 0 4 (dk_at dksX3_againstBreak_0 14 rfl rfl)
theorem dX3_againstBreak_17 : decode cX3_againstBreak 17 = .ok (.iconst 0, 1) := dk_3 (dk_at dksX3_againstBreak_0 17 rfl rfl)
theorem dX3_againstBreak_18 : decode cX3_againstBreak 18 = .ok (.ireturn, 1) := dk_172 (dk_at dksX3_againstBreak_0 18 rfl rfl)
abbrev cX3_breaksThem : ByteArray := prog_23_method_30_code
def yX3_breaksThem : MethodName := ⟨RX3, "breaksThem", "(III)I"⟩
def dkwX3_breaksThem_4 : List UInt8 := [180, 0, 7, 27, 6, 184, 0, 43, 92, 46, 21, 5, 100, 79, 21, 5, 172]
abbrev dktX3_breaksThem_4 : List UInt8 := dkwX3_breaksThem_4 ++ []
def dkwX3_breaksThem_3 : List UInt8 := [92, 46, 21, 5, 100, 79, 42, 180, 0, 7, 27, 3, 184, 0, 43, 92, 46, 21, 5, 96, 79, 42]
abbrev dktX3_breaksThem_3 : List UInt8 := dkwX3_breaksThem_3 ++ dktX3_breaksThem_4
def dkwX3_breaksThem_2 : List UInt8 := [184, 0, 39, 92, 46, 29, 96, 79, 42, 180, 0, 7, 7, 92, 46, 21, 4, 96, 79, 42, 180, 0, 7, 8]
abbrev dktX3_breaksThem_2 : List UInt8 := dkwX3_breaksThem_2 ++ dktX3_breaksThem_3
def dkwX3_breaksThem_1 : List UInt8 := [180, 0, 7, 27, 16, 13, 28, 96, 184, 0, 43, 92, 46, 29, 100, 79, 42, 180, 0, 7, 28, 8]
abbrev dktX3_breaksThem_1 : List UInt8 := dkwX3_breaksThem_1 ++ dktX3_breaksThem_2
def dkwX3_breaksThem_0 : List UInt8 := [29, 42, 28, 182, 0, 73, 104, 54, 4, 21, 4, 42, 180, 0, 7, 8, 46, 184, 0, 76, 54, 5, 42]
abbrev dktX3_breaksThem_0 : List UInt8 := dkwX3_breaksThem_0 ++ dktX3_breaksThem_1
theorem dksX3_breaksThem_0 : cX3_breaksThem.data.toList.drop 0 = dktX3_breaksThem_0 := by decide +kernel
theorem dksX3_breaksThem_1 : cX3_breaksThem.data.toList.drop 23 = dktX3_breaksThem_1 := dk_seg dksX3_breaksThem_0 23 rfl rfl
theorem dksX3_breaksThem_2 : cX3_breaksThem.data.toList.drop 45 = dktX3_breaksThem_2 := dk_seg dksX3_breaksThem_1 22 rfl rfl
theorem dksX3_breaksThem_3 : cX3_breaksThem.data.toList.drop 69 = dktX3_breaksThem_3 := dk_seg dksX3_breaksThem_2 24 rfl rfl
theorem dksX3_breaksThem_4 : cX3_breaksThem.data.toList.drop 91 = dktX3_breaksThem_4 := dk_seg dksX3_breaksThem_3 22 rfl rfl
theorem dX3_breaksThem_0 : decode cX3_breaksThem 0 = .ok (.iload_n 3, 1) := dk_29 (dk_at dksX3_breaksThem_0 0 rfl rfl)
theorem dX3_breaksThem_1 : decode cX3_breaksThem 1 = .ok (.aload_n 0, 1) := dk_42 (dk_at dksX3_breaksThem_0 1 rfl rfl)
theorem dX3_breaksThem_2 : decode cX3_breaksThem 2 = .ok (.iload_n 2, 1) := dk_28 (dk_at dksX3_breaksThem_0 2 rfl rfl)
theorem dX3_breaksThem_3 : decode cX3_breaksThem 3 = .ok (.invokevirtual 73, 3) := dk_182 0 73 (dk_at dksX3_breaksThem_0 3 rfl rfl)
theorem dX3_breaksThem_6 : decode cX3_breaksThem 6 = .ok (.imul, 1) := dk_104 (dk_at dksX3_breaksThem_0 6 rfl rfl)
theorem dX3_breaksThem_7 : decode cX3_breaksThem 7 = .ok (.istore 4, 2) := dk_54 4 (dk_at dksX3_breaksThem_0 7 rfl rfl)
theorem dX3_breaksThem_9 : decode cX3_breaksThem 9 = .ok (.iload 4, 2) := dk_21 4 (dk_at dksX3_breaksThem_0 9 rfl rfl)
theorem dX3_breaksThem_11 : decode cX3_breaksThem 11 = .ok (.aload_n 0, 1) := dk_42 (dk_at dksX3_breaksThem_0 11 rfl rfl)
theorem dX3_breaksThem_12 : decode cX3_breaksThem 12 = .ok (.getfield 7, 3) := dk_180 0 7 (dk_at dksX3_breaksThem_0 12 rfl rfl)
theorem dX3_breaksThem_15 : decode cX3_breaksThem 15 = .ok (.iconst 5, 1) := dk_8 (dk_at dksX3_breaksThem_0 15 rfl rfl)
theorem dX3_breaksThem_16 : decode cX3_breaksThem 16 = .ok (.iaload, 1) := dk_46 (dk_at dksX3_breaksThem_0 16 rfl rfl)
theorem dX3_breaksThem_17 : decode cX3_breaksThem 17 = .ok (.invokestatic 76, 3) := dk_184 0 76 (dk_at dksX3_breaksThem_0 17 rfl rfl)
theorem dX3_breaksThem_20 : decode cX3_breaksThem 20 = .ok (.istore 5, 2) := dk_54 5 (dk_at dksX3_breaksThem_0 20 rfl rfl)
theorem dX3_breaksThem_22 : decode cX3_breaksThem 22 = .ok (.aload_n 0, 1) := dk_42 (dk_at dksX3_breaksThem_0 22 rfl rfl)
theorem dX3_breaksThem_23 : decode cX3_breaksThem 23 = .ok (.getfield 7, 3) := dk_180 0 7 (dk_at dksX3_breaksThem_1 0 rfl rfl)
theorem dX3_breaksThem_26 : decode cX3_breaksThem 26 = .ok (.iload_n 1, 1) := dk_27 (dk_at dksX3_breaksThem_1 3 rfl rfl)
theorem dX3_breaksThem_27 : decode cX3_breaksThem 27 = .ok (.bipush 13, 2) := dk_16 13 (dk_at dksX3_breaksThem_1 4 rfl rfl)
theorem dX3_breaksThem_29 : decode cX3_breaksThem 29 = .ok (.iload_n 2, 1) := dk_28 (dk_at dksX3_breaksThem_1 6 rfl rfl)
theorem dX3_breaksThem_30 : decode cX3_breaksThem 30 = .ok (.iadd, 1) := dk_96 (dk_at dksX3_breaksThem_1 7 rfl rfl)
theorem dX3_breaksThem_31 : decode cX3_breaksThem 31 = .ok (.invokestatic 43, 3) := dk_184 0 43 (dk_at dksX3_breaksThem_1 8 rfl rfl)
theorem dX3_breaksThem_34 : decode cX3_breaksThem 34 = .ok (.dup2, 1) := dk_92 (dk_at dksX3_breaksThem_1 11 rfl rfl)
theorem dX3_breaksThem_35 : decode cX3_breaksThem 35 = .ok (.iaload, 1) := dk_46 (dk_at dksX3_breaksThem_1 12 rfl rfl)
theorem dX3_breaksThem_36 : decode cX3_breaksThem 36 = .ok (.iload_n 3, 1) := dk_29 (dk_at dksX3_breaksThem_1 13 rfl rfl)
theorem dX3_breaksThem_37 : decode cX3_breaksThem 37 = .ok (.isub, 1) := dk_100 (dk_at dksX3_breaksThem_1 14 rfl rfl)
theorem dX3_breaksThem_38 : decode cX3_breaksThem 38 = .ok (.iastore, 1) := dk_79 (dk_at dksX3_breaksThem_1 15 rfl rfl)
theorem dX3_breaksThem_39 : decode cX3_breaksThem 39 = .ok (.aload_n 0, 1) := dk_42 (dk_at dksX3_breaksThem_1 16 rfl rfl)
theorem dX3_breaksThem_40 : decode cX3_breaksThem 40 = .ok (.getfield 7, 3) := dk_180 0 7 (dk_at dksX3_breaksThem_1 17 rfl rfl)
theorem dX3_breaksThem_43 : decode cX3_breaksThem 43 = .ok (.iload_n 2, 1) := dk_28 (dk_at dksX3_breaksThem_1 20 rfl rfl)
theorem dX3_breaksThem_44 : decode cX3_breaksThem 44 = .ok (.iconst 5, 1) := dk_8 (dk_at dksX3_breaksThem_1 21 rfl rfl)
theorem dX3_breaksThem_45 : decode cX3_breaksThem 45 = .ok (.invokestatic 39, 3) := dk_184 0 39 (dk_at dksX3_breaksThem_2 0 rfl rfl)
theorem dX3_breaksThem_48 : decode cX3_breaksThem 48 = .ok (.dup2, 1) := dk_92 (dk_at dksX3_breaksThem_2 3 rfl rfl)
theorem dX3_breaksThem_49 : decode cX3_breaksThem 49 = .ok (.iaload, 1) := dk_46 (dk_at dksX3_breaksThem_2 4 rfl rfl)
theorem dX3_breaksThem_50 : decode cX3_breaksThem 50 = .ok (.iload_n 3, 1) := dk_29 (dk_at dksX3_breaksThem_2 5 rfl rfl)
theorem dX3_breaksThem_51 : decode cX3_breaksThem 51 = .ok (.iadd, 1) := dk_96 (dk_at dksX3_breaksThem_2 6 rfl rfl)
theorem dX3_breaksThem_52 : decode cX3_breaksThem 52 = .ok (.iastore, 1) := dk_79 (dk_at dksX3_breaksThem_2 7 rfl rfl)
theorem dX3_breaksThem_53 : decode cX3_breaksThem 53 = .ok (.aload_n 0, 1) := dk_42 (dk_at dksX3_breaksThem_2 8 rfl rfl)
theorem dX3_breaksThem_54 : decode cX3_breaksThem 54 = .ok (.getfield 7, 3) := dk_180 0 7 (dk_at dksX3_breaksThem_2 9 rfl rfl)
theorem dX3_breaksThem_57 : decode cX3_breaksThem 57 = .ok (.iconst 4, 1) := dk_7 (dk_at dksX3_breaksThem_2 12 rfl rfl)
theorem dX3_breaksThem_58 : decode cX3_breaksThem 58 = .ok (.dup2, 1) := dk_92 (dk_at dksX3_breaksThem_2 13 rfl rfl)
theorem dX3_breaksThem_59 : decode cX3_breaksThem 59 = .ok (.iaload, 1) := dk_46 (dk_at dksX3_breaksThem_2 14 rfl rfl)
theorem dX3_breaksThem_60 : decode cX3_breaksThem 60 = .ok (.iload 4, 2) := dk_21 4 (dk_at dksX3_breaksThem_2 15 rfl rfl)
theorem dX3_breaksThem_62 : decode cX3_breaksThem 62 = .ok (.iadd, 1) := dk_96 (dk_at dksX3_breaksThem_2 17 rfl rfl)
theorem dX3_breaksThem_63 : decode cX3_breaksThem 63 = .ok (.iastore, 1) := dk_79 (dk_at dksX3_breaksThem_2 18 rfl rfl)
theorem dX3_breaksThem_64 : decode cX3_breaksThem 64 = .ok (.aload_n 0, 1) := dk_42 (dk_at dksX3_breaksThem_2 19 rfl rfl)
theorem dX3_breaksThem_65 : decode cX3_breaksThem 65 = .ok (.getfield 7, 3) := dk_180 0 7 (dk_at dksX3_breaksThem_2 20 rfl rfl)
theorem dX3_breaksThem_68 : decode cX3_breaksThem 68 = .ok (.iconst 5, 1) := dk_8 (dk_at dksX3_breaksThem_2 23 rfl rfl)
theorem dX3_breaksThem_69 : decode cX3_breaksThem 69 = .ok (.dup2, 1) := dk_92 (dk_at dksX3_breaksThem_3 0 rfl rfl)
theorem dX3_breaksThem_70 : decode cX3_breaksThem 70 = .ok (.iaload, 1) := dk_46 (dk_at dksX3_breaksThem_3 1 rfl rfl)
theorem dX3_breaksThem_71 : decode cX3_breaksThem 71 = .ok (.iload 5, 2) := dk_21 5 (dk_at dksX3_breaksThem_3 2 rfl rfl)
theorem dX3_breaksThem_73 : decode cX3_breaksThem 73 = .ok (.isub, 1) := dk_100 (dk_at dksX3_breaksThem_3 4 rfl rfl)
theorem dX3_breaksThem_74 : decode cX3_breaksThem 74 = .ok (.iastore, 1) := dk_79 (dk_at dksX3_breaksThem_3 5 rfl rfl)
theorem dX3_breaksThem_75 : decode cX3_breaksThem 75 = .ok (.aload_n 0, 1) := dk_42 (dk_at dksX3_breaksThem_3 6 rfl rfl)
theorem dX3_breaksThem_76 : decode cX3_breaksThem 76 = .ok (.getfield 7, 3) := dk_180 0 7 (dk_at dksX3_breaksThem_3 7 rfl rfl)
theorem dX3_breaksThem_79 : decode cX3_breaksThem 79 = .ok (.iload_n 1, 1) := dk_27 (dk_at dksX3_breaksThem_3 10 rfl rfl)
theorem dX3_breaksThem_80 : decode cX3_breaksThem 80 = .ok (.iconst 0, 1) := dk_3 (dk_at dksX3_breaksThem_3 11 rfl rfl)
theorem dX3_breaksThem_81 : decode cX3_breaksThem 81 = .ok (.invokestatic 43, 3) := dk_184 0 43 (dk_at dksX3_breaksThem_3 12 rfl rfl)
theorem dX3_breaksThem_84 : decode cX3_breaksThem 84 = .ok (.dup2, 1) := dk_92 (dk_at dksX3_breaksThem_3 15 rfl rfl)
theorem dX3_breaksThem_85 : decode cX3_breaksThem 85 = .ok (.iaload, 1) := dk_46 (dk_at dksX3_breaksThem_3 16 rfl rfl)
theorem dX3_breaksThem_86 : decode cX3_breaksThem 86 = .ok (.iload 5, 2) := dk_21 5 (dk_at dksX3_breaksThem_3 17 rfl rfl)
theorem dX3_breaksThem_88 : decode cX3_breaksThem 88 = .ok (.iadd, 1) := dk_96 (dk_at dksX3_breaksThem_3 19 rfl rfl)
theorem dX3_breaksThem_89 : decode cX3_breaksThem 89 = .ok (.iastore, 1) := dk_79 (dk_at dksX3_breaksThem_3 20 rfl rfl)
theorem dX3_breaksThem_90 : decode cX3_breaksThem 90 = .ok (.aload_n 0, 1) := dk_42 (dk_at dksX3_breaksThem_3 21 rfl rfl)
theorem dX3_breaksThem_91 : decode cX3_breaksThem 91 = .ok (.getfield 7, 3) := dk_180 0 7 (dk_at dksX3_breaksThem_4 0 rfl rfl)
theorem dX3_breaksThem_94 : decode cX3_breaksThem 94 = .ok (.iload_n 1, 1) := dk_27 (dk_at dksX3_breaksThem_4 3 rfl rfl)
theorem dX3_breaksThem_95 : decode cX3_breaksThem 95 = .ok (.iconst 3, 1) := dk_6 (dk_at dksX3_breaksThem_4 4 rfl rfl)
theorem dX3_breaksThem_96 : decode cX3_breaksThem 96 = .ok (.invokestatic 43, 3) := dk_184 0 43 (dk_at dksX3_breaksThem_4 5 rfl rfl)
theorem dX3_breaksThem_99 : decode cX3_breaksThem 99 = .ok (.dup2, 1) := dk_92 (dk_at dksX3_breaksThem_4 8 rfl rfl)
theorem dX3_breaksThem_100 : decode cX3_breaksThem 100 = .ok (.iaload, 1) := dk_46 (dk_at dksX3_breaksThem_4 9 rfl rfl)
theorem dX3_breaksThem_101 : decode cX3_breaksThem 101 = .ok (.iload 5, 2) := dk_21 5 (dk_at dksX3_breaksThem_4 10 rfl rfl)
theorem dX3_breaksThem_103 : decode cX3_breaksThem 103 = .ok (.isub, 1) := dk_100 (dk_at dksX3_breaksThem_4 12 rfl rfl)
theorem dX3_breaksThem_104 : decode cX3_breaksThem 104 = .ok (.iastore, 1) := dk_79 (dk_at dksX3_breaksThem_4 13 rfl rfl)
theorem dX3_breaksThem_105 : decode cX3_breaksThem 105 = .ok (.iload 5, 2) := dk_21 5 (dk_at dksX3_breaksThem_4 14 rfl rfl)
theorem dX3_breaksThem_107 : decode cX3_breaksThem 107 = .ok (.ireturn, 1) := dk_172 (dk_at dksX3_breaksThem_4 16 rfl rfl)
abbrev cX3_least : ByteArray := prog_23_method_13_code
def yX3_least : MethodName := ⟨RX3, "least", "(II)I"⟩
def dkwX3_least_0 : List UInt8 := [26, 27, 162, 0, 7, 26, 167, 0, 4, 27, 172]
abbrev dktX3_least_0 : List UInt8 := dkwX3_least_0 ++ []
theorem dksX3_least_0 : cX3_least.data.toList.drop 0 = dktX3_least_0 := by decide +kernel
theorem dX3_least_0 : decode cX3_least 0 = .ok (.iload_n 0, 1) := dk_26 (dk_at dksX3_least_0 0 rfl rfl)
theorem dX3_least_1 : decode cX3_least 1 = .ok (.iload_n 1, 1) := dk_27 (dk_at dksX3_least_0 1 rfl rfl)
theorem dX3_least_2 : decode cX3_least 2 = .ok (.if_icmp .ge 7, 3) := dk_162 0 7 (dk_at dksX3_least_0 2 rfl rfl)
theorem dX3_least_5 : decode cX3_least 5 = .ok (.iload_n 0, 1) := dk_26 (dk_at dksX3_least_0 5 rfl rfl)
theorem dX3_least_6 : decode cX3_least 6 = .ok (.goto 4, 3) := dk_167 0 4 (dk_at dksX3_least_0 6 rfl rfl)
theorem dX3_least_9 : decode cX3_least 9 = .ok (.iload_n 1, 1) := dk_27 (dk_at dksX3_least_0 9 rfl rfl)
theorem dX3_least_10 : decode cX3_least 10 = .ok (.ireturn, 1) := dk_172 (dk_at dksX3_least_0 10 rfl rfl)
abbrev cX3_lose : ByteArray := prog_23_method_41_code
def yX3_lose : MethodName := ⟨RX3, "lose", "(II)I"⟩
def dkwX3_lose_4 : List UInt8 := [182, 0, 73, 104, 96, 79, 42, 27, 6, 182, 0, 46, 172]
abbrev dktX3_lose_4 : List UInt8 := dkwX3_lose_4 ++ []
def dkwX3_lose_3 : List UInt8 := [180, 0, 7, 27, 16, 6, 184, 0, 39, 92, 46, 28, 96, 79, 42, 180, 0, 7, 7, 92, 46, 28, 42, 27]
abbrev dktX3_lose_3 : List UInt8 := dkwX3_lose_3 ++ dktX3_lose_4
def dkwX3_lose_2 : List UInt8 := [182, 0, 49, 172, 42, 182, 0, 53, 42, 180, 0, 7, 27, 6, 184, 0, 39, 92, 46, 28, 100, 79, 42]
abbrev dktX3_lose_2 : List UInt8 := dkwX3_lose_2 ++ dktX3_lose_3
def dkwX3_lose_1 : List UInt8 := [184, 0, 35, 154, 0, 9, 42, 5, 182, 0, 49, 172, 42, 27, 6, 182, 0, 46, 28, 162, 0, 9, 42, 6]
abbrev dktX3_lose_1 : List UInt8 := dkwX3_lose_1 ++ dktX3_lose_2
def dkwX3_lose_0 : List UInt8 := [42, 3, 181, 0, 28, 42, 27, 182, 0, 85, 154, 0, 9, 42, 4, 182, 0, 49, 172, 28, 4, 17, 19, 136]
abbrev dktX3_lose_0 : List UInt8 := dkwX3_lose_0 ++ dktX3_lose_1
theorem dksX3_lose_0 : cX3_lose.data.toList.drop 0 = dktX3_lose_0 := by decide +kernel
theorem dksX3_lose_1 : cX3_lose.data.toList.drop 24 = dktX3_lose_1 := dk_seg dksX3_lose_0 24 rfl rfl
theorem dksX3_lose_2 : cX3_lose.data.toList.drop 48 = dktX3_lose_2 := dk_seg dksX3_lose_1 24 rfl rfl
theorem dksX3_lose_3 : cX3_lose.data.toList.drop 71 = dktX3_lose_3 := dk_seg dksX3_lose_2 23 rfl rfl
theorem dksX3_lose_4 : cX3_lose.data.toList.drop 95 = dktX3_lose_4 := dk_seg dksX3_lose_3 24 rfl rfl
theorem dX3_lose_0 : decode cX3_lose 0 = .ok (.aload_n 0, 1) := dk_42 (dk_at dksX3_lose_0 0 rfl rfl)
theorem dX3_lose_1 : decode cX3_lose 1 = .ok (.iconst 0, 1) := dk_3 (dk_at dksX3_lose_0 1 rfl rfl)
theorem dX3_lose_2 : decode cX3_lose 2 = .ok (.putfield 28, 3) := dk_181 0 28 (dk_at dksX3_lose_0 2 rfl rfl)
theorem dX3_lose_5 : decode cX3_lose 5 = .ok (.aload_n 0, 1) := dk_42 (dk_at dksX3_lose_0 5 rfl rfl)
theorem dX3_lose_6 : decode cX3_lose 6 = .ok (.iload_n 1, 1) := dk_27 (dk_at dksX3_lose_0 6 rfl rfl)
theorem dX3_lose_7 : decode cX3_lose 7 = .ok (.invokevirtual 85, 3) := dk_182 0 85 (dk_at dksX3_lose_0 7 rfl rfl)
theorem dX3_lose_10 : decode cX3_lose 10 = .ok (.ifCond .ne 9, 3) := dk_154 0 9 (dk_at dksX3_lose_0 10 rfl rfl)
theorem dX3_lose_13 : decode cX3_lose 13 = .ok (.aload_n 0, 1) := dk_42 (dk_at dksX3_lose_0 13 rfl rfl)
theorem dX3_lose_14 : decode cX3_lose 14 = .ok (.iconst 1, 1) := dk_4 (dk_at dksX3_lose_0 14 rfl rfl)
theorem dX3_lose_15 : decode cX3_lose 15 = .ok (.invokevirtual 49, 3) := dk_182 0 49 (dk_at dksX3_lose_0 15 rfl rfl)
theorem dX3_lose_18 : decode cX3_lose 18 = .ok (.ireturn, 1) := dk_172 (dk_at dksX3_lose_0 18 rfl rfl)
theorem dX3_lose_19 : decode cX3_lose 19 = .ok (.iload_n 2, 1) := dk_28 (dk_at dksX3_lose_0 19 rfl rfl)
theorem dX3_lose_20 : decode cX3_lose 20 = .ok (.iconst 1, 1) := dk_4 (dk_at dksX3_lose_0 20 rfl rfl)
theorem dX3_lose_21 : decode cX3_lose 21 = .ok (.sipush 5000, 3) := dk_17 19 136 (dk_at dksX3_lose_0 21 rfl rfl)
theorem dX3_lose_24 : decode cX3_lose 24 = .ok (.invokestatic 35, 3) := dk_184 0 35 (dk_at dksX3_lose_1 0 rfl rfl)
theorem dX3_lose_27 : decode cX3_lose 27 = .ok (.ifCond .ne 9, 3) := dk_154 0 9 (dk_at dksX3_lose_1 3 rfl rfl)
theorem dX3_lose_30 : decode cX3_lose 30 = .ok (.aload_n 0, 1) := dk_42 (dk_at dksX3_lose_1 6 rfl rfl)
theorem dX3_lose_31 : decode cX3_lose 31 = .ok (.iconst 2, 1) := dk_5 (dk_at dksX3_lose_1 7 rfl rfl)
theorem dX3_lose_32 : decode cX3_lose 32 = .ok (.invokevirtual 49, 3) := dk_182 0 49 (dk_at dksX3_lose_1 8 rfl rfl)
theorem dX3_lose_35 : decode cX3_lose 35 = .ok (.ireturn, 1) := dk_172 (dk_at dksX3_lose_1 11 rfl rfl)
theorem dX3_lose_36 : decode cX3_lose 36 = .ok (.aload_n 0, 1) := dk_42 (dk_at dksX3_lose_1 12 rfl rfl)
theorem dX3_lose_37 : decode cX3_lose 37 = .ok (.iload_n 1, 1) := dk_27 (dk_at dksX3_lose_1 13 rfl rfl)
theorem dX3_lose_38 : decode cX3_lose 38 = .ok (.iconst 3, 1) := dk_6 (dk_at dksX3_lose_1 14 rfl rfl)
theorem dX3_lose_39 : decode cX3_lose 39 = .ok (.invokevirtual 46, 3) := dk_182 0 46 (dk_at dksX3_lose_1 15 rfl rfl)
theorem dX3_lose_42 : decode cX3_lose 42 = .ok (.iload_n 2, 1) := dk_28 (dk_at dksX3_lose_1 18 rfl rfl)
theorem dX3_lose_43 : decode cX3_lose 43 = .ok (.if_icmp .ge 9, 3) := dk_162 0 9 (dk_at dksX3_lose_1 19 rfl rfl)
theorem dX3_lose_46 : decode cX3_lose 46 = .ok (.aload_n 0, 1) := dk_42 (dk_at dksX3_lose_1 22 rfl rfl)
theorem dX3_lose_47 : decode cX3_lose 47 = .ok (.iconst 3, 1) := dk_6 (dk_at dksX3_lose_1 23 rfl rfl)
theorem dX3_lose_48 : decode cX3_lose 48 = .ok (.invokevirtual 49, 3) := dk_182 0 49 (dk_at dksX3_lose_2 0 rfl rfl)
theorem dX3_lose_51 : decode cX3_lose 51 = .ok (.ireturn, 1) := dk_172 (dk_at dksX3_lose_2 3 rfl rfl)
theorem dX3_lose_52 : decode cX3_lose 52 = .ok (.aload_n 0, 1) := dk_42 (dk_at dksX3_lose_2 4 rfl rfl)
theorem dX3_lose_53 : decode cX3_lose 53 = .ok (.invokevirtual 53, 3) := dk_182 0 53 (dk_at dksX3_lose_2 5 rfl rfl)
theorem dX3_lose_56 : decode cX3_lose 56 = .ok (.aload_n 0, 1) := dk_42 (dk_at dksX3_lose_2 8 rfl rfl)
theorem dX3_lose_57 : decode cX3_lose 57 = .ok (.getfield 7, 3) := dk_180 0 7 (dk_at dksX3_lose_2 9 rfl rfl)
theorem dX3_lose_60 : decode cX3_lose 60 = .ok (.iload_n 1, 1) := dk_27 (dk_at dksX3_lose_2 12 rfl rfl)
theorem dX3_lose_61 : decode cX3_lose 61 = .ok (.iconst 3, 1) := dk_6 (dk_at dksX3_lose_2 13 rfl rfl)
theorem dX3_lose_62 : decode cX3_lose 62 = .ok (.invokestatic 39, 3) := dk_184 0 39 (dk_at dksX3_lose_2 14 rfl rfl)
theorem dX3_lose_65 : decode cX3_lose 65 = .ok (.dup2, 1) := dk_92 (dk_at dksX3_lose_2 17 rfl rfl)
theorem dX3_lose_66 : decode cX3_lose 66 = .ok (.iaload, 1) := dk_46 (dk_at dksX3_lose_2 18 rfl rfl)
theorem dX3_lose_67 : decode cX3_lose 67 = .ok (.iload_n 2, 1) := dk_28 (dk_at dksX3_lose_2 19 rfl rfl)
theorem dX3_lose_68 : decode cX3_lose 68 = .ok (.isub, 1) := dk_100 (dk_at dksX3_lose_2 20 rfl rfl)
theorem dX3_lose_69 : decode cX3_lose 69 = .ok (.iastore, 1) := dk_79 (dk_at dksX3_lose_2 21 rfl rfl)
theorem dX3_lose_70 : decode cX3_lose 70 = .ok (.aload_n 0, 1) := dk_42 (dk_at dksX3_lose_2 22 rfl rfl)
theorem dX3_lose_71 : decode cX3_lose 71 = .ok (.getfield 7, 3) := dk_180 0 7 (dk_at dksX3_lose_3 0 rfl rfl)
theorem dX3_lose_74 : decode cX3_lose 74 = .ok (.iload_n 1, 1) := dk_27 (dk_at dksX3_lose_3 3 rfl rfl)
theorem dX3_lose_75 : decode cX3_lose 75 = .ok (.bipush 6, 2) := dk_16 6 (dk_at dksX3_lose_3 4 rfl rfl)
theorem dX3_lose_77 : decode cX3_lose 77 = .ok (.invokestatic 39, 3) := dk_184 0 39 (dk_at dksX3_lose_3 6 rfl rfl)
theorem dX3_lose_80 : decode cX3_lose 80 = .ok (.dup2, 1) := dk_92 (dk_at dksX3_lose_3 9 rfl rfl)
theorem dX3_lose_81 : decode cX3_lose 81 = .ok (.iaload, 1) := dk_46 (dk_at dksX3_lose_3 10 rfl rfl)
theorem dX3_lose_82 : decode cX3_lose 82 = .ok (.iload_n 2, 1) := dk_28 (dk_at dksX3_lose_3 11 rfl rfl)
theorem dX3_lose_83 : decode cX3_lose 83 = .ok (.iadd, 1) := dk_96 (dk_at dksX3_lose_3 12 rfl rfl)
theorem dX3_lose_84 : decode cX3_lose 84 = .ok (.iastore, 1) := dk_79 (dk_at dksX3_lose_3 13 rfl rfl)
theorem dX3_lose_85 : decode cX3_lose 85 = .ok (.aload_n 0, 1) := dk_42 (dk_at dksX3_lose_3 14 rfl rfl)
theorem dX3_lose_86 : decode cX3_lose 86 = .ok (.getfield 7, 3) := dk_180 0 7 (dk_at dksX3_lose_3 15 rfl rfl)
theorem dX3_lose_89 : decode cX3_lose 89 = .ok (.iconst 4, 1) := dk_7 (dk_at dksX3_lose_3 18 rfl rfl)
theorem dX3_lose_90 : decode cX3_lose 90 = .ok (.dup2, 1) := dk_92 (dk_at dksX3_lose_3 19 rfl rfl)
theorem dX3_lose_91 : decode cX3_lose 91 = .ok (.iaload, 1) := dk_46 (dk_at dksX3_lose_3 20 rfl rfl)
theorem dX3_lose_92 : decode cX3_lose 92 = .ok (.iload_n 2, 1) := dk_28 (dk_at dksX3_lose_3 21 rfl rfl)
theorem dX3_lose_93 : decode cX3_lose 93 = .ok (.aload_n 0, 1) := dk_42 (dk_at dksX3_lose_3 22 rfl rfl)
theorem dX3_lose_94 : decode cX3_lose 94 = .ok (.iload_n 1, 1) := dk_27 (dk_at dksX3_lose_3 23 rfl rfl)
theorem dX3_lose_95 : decode cX3_lose 95 = .ok (.invokevirtual 73, 3) := dk_182 0 73 (dk_at dksX3_lose_4 0 rfl rfl)
theorem dX3_lose_98 : decode cX3_lose 98 = .ok (.imul, 1) := dk_104 (dk_at dksX3_lose_4 3 rfl rfl)
theorem dX3_lose_99 : decode cX3_lose 99 = .ok (.iadd, 1) := dk_96 (dk_at dksX3_lose_4 4 rfl rfl)
theorem dX3_lose_100 : decode cX3_lose 100 = .ok (.iastore, 1) := dk_79 (dk_at dksX3_lose_4 5 rfl rfl)
theorem dX3_lose_101 : decode cX3_lose 101 = .ok (.aload_n 0, 1) := dk_42 (dk_at dksX3_lose_4 6 rfl rfl)
theorem dX3_lose_102 : decode cX3_lose 102 = .ok (.iload_n 1, 1) := dk_27 (dk_at dksX3_lose_4 7 rfl rfl)
theorem dX3_lose_103 : decode cX3_lose 103 = .ok (.iconst 3, 1) := dk_6 (dk_at dksX3_lose_4 8 rfl rfl)
theorem dX3_lose_104 : decode cX3_lose 104 = .ok (.invokevirtual 46, 3) := dk_182 0 46 (dk_at dksX3_lose_4 9 rfl rfl)
theorem dX3_lose_107 : decode cX3_lose 107 = .ok (.ireturn, 1) := dk_172 (dk_at dksX3_lose_4 12 rfl rfl)
abbrev cX3_collect : ByteArray := prog_23_method_42_code
def yX3_collect : MethodName := ⟨RX3, "collect", "(III)I"⟩
def dkwX3_collect_3 : List UInt8 := [182, 0, 123, 172]
abbrev dktX3_collect_3 : List UInt8 := dkwX3_collect_3 ++ []
def dkwX3_collect_2 : List UInt8 := [28, 29, 182, 0, 120, 158, 0, 9, 42, 6, 182, 0, 49, 172, 42, 182, 0, 53, 42, 27, 28, 29]
abbrev dktX3_collect_2 : List UInt8 := dkwX3_collect_2 ++ dktX3_collect_3
def dkwX3_collect_1 : List UInt8 := [184, 0, 35, 153, 0, 13, 29, 4, 16, 50, 184, 0, 35, 154, 0, 9, 42, 5, 182, 0, 49, 172, 42, 27]
abbrev dktX3_collect_1 : List UInt8 := dkwX3_collect_1 ++ dktX3_collect_2
def dkwX3_collect_0 : List UInt8 := [42, 3, 181, 0, 28, 42, 27, 182, 0, 92, 154, 0, 9, 42, 4, 182, 0, 49, 172, 28, 3, 5]
abbrev dktX3_collect_0 : List UInt8 := dkwX3_collect_0 ++ dktX3_collect_1
theorem dksX3_collect_0 : cX3_collect.data.toList.drop 0 = dktX3_collect_0 := by decide +kernel
theorem dksX3_collect_1 : cX3_collect.data.toList.drop 22 = dktX3_collect_1 := dk_seg dksX3_collect_0 22 rfl rfl
theorem dksX3_collect_2 : cX3_collect.data.toList.drop 46 = dktX3_collect_2 := dk_seg dksX3_collect_1 24 rfl rfl
theorem dksX3_collect_3 : cX3_collect.data.toList.drop 68 = dktX3_collect_3 := dk_seg dksX3_collect_2 22 rfl rfl
theorem dX3_collect_0 : decode cX3_collect 0 = .ok (.aload_n 0, 1) := dk_42 (dk_at dksX3_collect_0 0 rfl rfl)
theorem dX3_collect_1 : decode cX3_collect 1 = .ok (.iconst 0, 1) := dk_3 (dk_at dksX3_collect_0 1 rfl rfl)
theorem dX3_collect_2 : decode cX3_collect 2 = .ok (.putfield 28, 3) := dk_181 0 28 (dk_at dksX3_collect_0 2 rfl rfl)
theorem dX3_collect_5 : decode cX3_collect 5 = .ok (.aload_n 0, 1) := dk_42 (dk_at dksX3_collect_0 5 rfl rfl)
theorem dX3_collect_6 : decode cX3_collect 6 = .ok (.iload_n 1, 1) := dk_27 (dk_at dksX3_collect_0 6 rfl rfl)
theorem dX3_collect_7 : decode cX3_collect 7 = .ok (.invokevirtual 92, 3) := dk_182 0 92 (dk_at dksX3_collect_0 7 rfl rfl)
theorem dX3_collect_10 : decode cX3_collect 10 = .ok (.ifCond .ne 9, 3) := dk_154 0 9 (dk_at dksX3_collect_0 10 rfl rfl)
theorem dX3_collect_13 : decode cX3_collect 13 = .ok (.aload_n 0, 1) := dk_42 (dk_at dksX3_collect_0 13 rfl rfl)
theorem dX3_collect_14 : decode cX3_collect 14 = .ok (.iconst 1, 1) := dk_4 (dk_at dksX3_collect_0 14 rfl rfl)
theorem dX3_collect_15 : decode cX3_collect 15 = .ok (.invokevirtual 49, 3) := dk_182 0 49 (dk_at dksX3_collect_0 15 rfl rfl)
theorem dX3_collect_18 : decode cX3_collect 18 = .ok (.ireturn, 1) := dk_172 (dk_at dksX3_collect_0 18 rfl rfl)
theorem dX3_collect_19 : decode cX3_collect 19 = .ok (.iload_n 2, 1) := dk_28 (dk_at dksX3_collect_0 19 rfl rfl)
theorem dX3_collect_20 : decode cX3_collect 20 = .ok (.iconst 0, 1) := dk_3 (dk_at dksX3_collect_0 20 rfl rfl)
theorem dX3_collect_21 : decode cX3_collect 21 = .ok (.iconst 2, 1) := dk_5 (dk_at dksX3_collect_0 21 rfl rfl)
theorem dX3_collect_22 : decode cX3_collect 22 = .ok (.invokestatic 35, 3) := dk_184 0 35 (dk_at dksX3_collect_1 0 rfl rfl)
theorem dX3_collect_25 : decode cX3_collect 25 = .ok (.ifCond .eq 13, 3) := dk_153 0 13 (dk_at dksX3_collect_1 3 rfl rfl)
theorem dX3_collect_28 : decode cX3_collect 28 = .ok (.iload_n 3, 1) := dk_29 (dk_at dksX3_collect_1 6 rfl rfl)
theorem dX3_collect_29 : decode cX3_collect 29 = .ok (.iconst 1, 1) := dk_4 (dk_at dksX3_collect_1 7 rfl rfl)
theorem dX3_collect_30 : decode cX3_collect 30 = .ok (.bipush 50, 2) := dk_16 50 (dk_at dksX3_collect_1 8 rfl rfl)
theorem dX3_collect_32 : decode cX3_collect 32 = .ok (.invokestatic 35, 3) := dk_184 0 35 (dk_at dksX3_collect_1 10 rfl rfl)
theorem dX3_collect_35 : decode cX3_collect 35 = .ok (.ifCond .ne 9, 3) := dk_154 0 9 (dk_at dksX3_collect_1 13 rfl rfl)
theorem dX3_collect_38 : decode cX3_collect 38 = .ok (.aload_n 0, 1) := dk_42 (dk_at dksX3_collect_1 16 rfl rfl)
theorem dX3_collect_39 : decode cX3_collect 39 = .ok (.iconst 2, 1) := dk_5 (dk_at dksX3_collect_1 17 rfl rfl)
theorem dX3_collect_40 : decode cX3_collect 40 = .ok (.invokevirtual 49, 3) := dk_182 0 49 (dk_at dksX3_collect_1 18 rfl rfl)
theorem dX3_collect_43 : decode cX3_collect 43 = .ok (.ireturn, 1) := dk_172 (dk_at dksX3_collect_1 21 rfl rfl)
theorem dX3_collect_44 : decode cX3_collect 44 = .ok (.aload_n 0, 1) := dk_42 (dk_at dksX3_collect_1 22 rfl rfl)
theorem dX3_collect_45 : decode cX3_collect 45 = .ok (.iload_n 1, 1) := dk_27 (dk_at dksX3_collect_1 23 rfl rfl)
theorem dX3_collect_46 : decode cX3_collect 46 = .ok (.iload_n 2, 1) := dk_28 (dk_at dksX3_collect_2 0 rfl rfl)
theorem dX3_collect_47 : decode cX3_collect 47 = .ok (.iload_n 3, 1) := dk_29 (dk_at dksX3_collect_2 1 rfl rfl)
theorem dX3_collect_48 : decode cX3_collect 48 = .ok (.invokevirtual 120, 3) := dk_182 0 120 (dk_at dksX3_collect_2 2 rfl rfl)
theorem dX3_collect_51 : decode cX3_collect 51 = .ok (.ifCond .le 9, 3) := dk_158 0 9 (dk_at dksX3_collect_2 5 rfl rfl)
theorem dX3_collect_54 : decode cX3_collect 54 = .ok (.aload_n 0, 1) := dk_42 (dk_at dksX3_collect_2 8 rfl rfl)
theorem dX3_collect_55 : decode cX3_collect 55 = .ok (.iconst 3, 1) := dk_6 (dk_at dksX3_collect_2 9 rfl rfl)
theorem dX3_collect_56 : decode cX3_collect 56 = .ok (.invokevirtual 49, 3) := dk_182 0 49 (dk_at dksX3_collect_2 10 rfl rfl)
theorem dX3_collect_59 : decode cX3_collect 59 = .ok (.ireturn, 1) := dk_172 (dk_at dksX3_collect_2 13 rfl rfl)
theorem dX3_collect_60 : decode cX3_collect 60 = .ok (.aload_n 0, 1) := dk_42 (dk_at dksX3_collect_2 14 rfl rfl)
theorem dX3_collect_61 : decode cX3_collect 61 = .ok (.invokevirtual 53, 3) := dk_182 0 53 (dk_at dksX3_collect_2 15 rfl rfl)
theorem dX3_collect_64 : decode cX3_collect 64 = .ok (.aload_n 0, 1) := dk_42 (dk_at dksX3_collect_2 18 rfl rfl)
theorem dX3_collect_65 : decode cX3_collect 65 = .ok (.iload_n 1, 1) := dk_27 (dk_at dksX3_collect_2 19 rfl rfl)
theorem dX3_collect_66 : decode cX3_collect 66 = .ok (.iload_n 2, 1) := dk_28 (dk_at dksX3_collect_2 20 rfl rfl)
theorem dX3_collect_67 : decode cX3_collect 67 = .ok (.iload_n 3, 1) := dk_29 (dk_at dksX3_collect_2 21 rfl rfl)
theorem dX3_collect_68 : decode cX3_collect 68 = .ok (.invokevirtual 123, 3) := dk_182 0 123 (dk_at dksX3_collect_3 0 rfl rfl)
theorem dX3_collect_71 : decode cX3_collect 71 = .ok (.ireturn, 1) := dk_172 (dk_at dksX3_collect_3 3 rfl rfl)
abbrev cX3_againstCollect : ByteArray := prog_23_method_32_code
def yX3_againstCollect : MethodName := ⟨RX3, "againstCollect", "(III)I"⟩
def dkwX3_againstCollect_1 : List UInt8 := [162, 0, 7, 5, 167, 0, 4, 3, 172]
abbrev dktX3_againstCollect_1 : List UInt8 := dkwX3_againstCollect_1 ++ []
def dkwX3_againstCollect_0 : List UInt8 := [42, 27, 28, 182, 0, 79, 16, 12, 29, 104, 162, 0, 7, 4, 167, 0, 18, 42, 27, 4, 182, 0, 57, 29]
abbrev dktX3_againstCollect_0 : List UInt8 := dkwX3_againstCollect_0 ++ dktX3_againstCollect_1
theorem dksX3_againstCollect_0 : cX3_againstCollect.data.toList.drop 0 = dktX3_againstCollect_0 := by decide +kernel
theorem dksX3_againstCollect_1 : cX3_againstCollect.data.toList.drop 24 = dktX3_againstCollect_1 := dk_seg dksX3_againstCollect_0 24 rfl rfl
theorem dX3_againstCollect_0 : decode cX3_againstCollect 0 = .ok (.aload_n 0, 1) := dk_42 (dk_at dksX3_againstCollect_0 0 rfl rfl)
theorem dX3_againstCollect_1 : decode cX3_againstCollect 1 = .ok (.iload_n 1, 1) := dk_27 (dk_at dksX3_againstCollect_0 1 rfl rfl)
theorem dX3_againstCollect_2 : decode cX3_againstCollect 2 = .ok (.iload_n 2, 1) := dk_28 (dk_at dksX3_againstCollect_0 2 rfl rfl)
theorem dX3_againstCollect_3 : decode cX3_againstCollect 3 = .ok (.invokevirtual 79, 3) := dk_182 0 79 (dk_at dksX3_againstCollect_0 3 rfl rfl)
theorem dX3_againstCollect_6 : decode cX3_againstCollect 6 = .ok (.bipush 12, 2) := dk_16 12 (dk_at dksX3_againstCollect_0 6 rfl rfl)
theorem dX3_againstCollect_8 : decode cX3_againstCollect 8 = .ok (.iload_n 3, 1) := dk_29 (dk_at dksX3_againstCollect_0 8 rfl rfl)
theorem dX3_againstCollect_9 : decode cX3_againstCollect 9 = .ok (.imul, 1) := dk_104 (dk_at dksX3_againstCollect_0 9 rfl rfl)
theorem dX3_againstCollect_10 : decode cX3_againstCollect 10 = .ok (.if_icmp .ge 7, 3) := dk_162 0 7 (dk_at dksX3_againstCollect_0 10 rfl rfl)
theorem dX3_againstCollect_13 : decode cX3_againstCollect 13 = .ok (.iconst 1, 1) := dk_4 (dk_at dksX3_againstCollect_0 13 rfl rfl)
theorem dX3_againstCollect_14 : decode cX3_againstCollect 14 = .ok (.goto 18, 3) := dk_167 0 18 (dk_at dksX3_againstCollect_0 14 rfl rfl)
theorem dX3_againstCollect_17 : decode cX3_againstCollect 17 = .ok (.aload_n 0, 1) := dk_42 (dk_at dksX3_againstCollect_0 17 rfl rfl)
theorem dX3_againstCollect_18 : decode cX3_againstCollect 18 = .ok (.iload_n 1, 1) := dk_27 (dk_at dksX3_againstCollect_0 18 rfl rfl)
theorem dX3_againstCollect_19 : decode cX3_againstCollect 19 = .ok (.iconst 1, 1) := dk_4 (dk_at dksX3_againstCollect_0 19 rfl rfl)
theorem dX3_againstCollect_20 : decode cX3_againstCollect 20 = .ok (.invokevirtual 57, 3) := dk_182 0 57 (dk_at dksX3_againstCollect_0 20 rfl rfl)
theorem dX3_againstCollect_23 : decode cX3_againstCollect 23 = .ok (.iload_n 3, 1) := dk_29 (dk_at dksX3_againstCollect_0 23 rfl rfl)
theorem dX3_againstCollect_24 : decode cX3_againstCollect 24 = .ok (.if_icmp .ge 7, 3) := dk_162 0 7 (dk_at dksX3_againstCollect_1 0 rfl rfl)
theorem dX3_againstCollect_27 : decode cX3_againstCollect 27 = .ok (.iconst 2, 1) := dk_5 (dk_at dksX3_againstCollect_1 3 rfl rfl)
theorem dX3_againstCollect_28 : decode cX3_againstCollect 28 = .ok (.goto 4, 3) := dk_167 0 4 (dk_at dksX3_againstCollect_1 4 rfl rfl)
theorem dX3_againstCollect_31 : decode cX3_againstCollect 31 = .ok (.iconst 0, 1) := dk_3 (dk_at dksX3_againstCollect_1 7 rfl rfl)
theorem dX3_againstCollect_32 : decode cX3_againstCollect 32 = .ok (.ireturn, 1) := dk_172 (dk_at dksX3_againstCollect_1 8 rfl rfl)
abbrev cX3_emptiesOf : ByteArray := prog_23_method_31_code
def yX3_emptiesOf : MethodName := ⟨RX3, "emptiesOf", "(II)I"⟩
def dkwX3_emptiesOf_2 : List UInt8 := [167, 255, 214, 29, 172]
abbrev dktX3_emptiesOf_2 : List UInt8 := dkwX3_emptiesOf_2 ++ []
def dkwX3_emptiesOf_1 : List UInt8 := [28, 160, 0, 16, 42, 27, 16, 13, 21, 4, 96, 182, 0, 57, 167, 0, 4, 3, 96, 62, 132, 4, 1]
abbrev dktX3_emptiesOf_1 : List UInt8 := dkwX3_emptiesOf_1 ++ dktX3_emptiesOf_2
def dkwX3_emptiesOf_0 : List UInt8 := [3, 62, 3, 54, 4, 21, 4, 42, 180, 0, 7, 3, 46, 162, 0, 37, 29, 42, 21, 4, 3, 182, 0, 46]
abbrev dktX3_emptiesOf_0 : List UInt8 := dkwX3_emptiesOf_0 ++ dktX3_emptiesOf_1
theorem dksX3_emptiesOf_0 : cX3_emptiesOf.data.toList.drop 0 = dktX3_emptiesOf_0 := by decide +kernel
theorem dksX3_emptiesOf_1 : cX3_emptiesOf.data.toList.drop 24 = dktX3_emptiesOf_1 := dk_seg dksX3_emptiesOf_0 24 rfl rfl
theorem dksX3_emptiesOf_2 : cX3_emptiesOf.data.toList.drop 47 = dktX3_emptiesOf_2 := dk_seg dksX3_emptiesOf_1 23 rfl rfl
theorem dX3_emptiesOf_0 : decode cX3_emptiesOf 0 = .ok (.iconst 0, 1) := dk_3 (dk_at dksX3_emptiesOf_0 0 rfl rfl)
theorem dX3_emptiesOf_1 : decode cX3_emptiesOf 1 = .ok (.istore_n 3, 1) := dk_62 (dk_at dksX3_emptiesOf_0 1 rfl rfl)
theorem dX3_emptiesOf_2 : decode cX3_emptiesOf 2 = .ok (.iconst 0, 1) := dk_3 (dk_at dksX3_emptiesOf_0 2 rfl rfl)
theorem dX3_emptiesOf_3 : decode cX3_emptiesOf 3 = .ok (.istore 4, 2) := dk_54 4 (dk_at dksX3_emptiesOf_0 3 rfl rfl)
theorem dX3_emptiesOf_5 : decode cX3_emptiesOf 5 = .ok (.iload 4, 2) := dk_21 4 (dk_at dksX3_emptiesOf_0 5 rfl rfl)
theorem dX3_emptiesOf_7 : decode cX3_emptiesOf 7 = .ok (.aload_n 0, 1) := dk_42 (dk_at dksX3_emptiesOf_0 7 rfl rfl)
theorem dX3_emptiesOf_8 : decode cX3_emptiesOf 8 = .ok (.getfield 7, 3) := dk_180 0 7 (dk_at dksX3_emptiesOf_0 8 rfl rfl)
theorem dX3_emptiesOf_11 : decode cX3_emptiesOf 11 = .ok (.iconst 0, 1) := dk_3 (dk_at dksX3_emptiesOf_0 11 rfl rfl)
theorem dX3_emptiesOf_12 : decode cX3_emptiesOf 12 = .ok (.iaload, 1) := dk_46 (dk_at dksX3_emptiesOf_0 12 rfl rfl)
theorem dX3_emptiesOf_13 : decode cX3_emptiesOf 13 = .ok (.if_icmp .ge 37, 3) := dk_162 0 37 (dk_at dksX3_emptiesOf_0 13 rfl rfl)
theorem dX3_emptiesOf_16 : decode cX3_emptiesOf 16 = .ok (.iload_n 3, 1) := dk_29 (dk_at dksX3_emptiesOf_0 16 rfl rfl)
theorem dX3_emptiesOf_17 : decode cX3_emptiesOf 17 = .ok (.aload_n 0, 1) := dk_42 (dk_at dksX3_emptiesOf_0 17 rfl rfl)
theorem dX3_emptiesOf_18 : decode cX3_emptiesOf 18 = .ok (.iload 4, 2) := dk_21 4 (dk_at dksX3_emptiesOf_0 18 rfl rfl)
theorem dX3_emptiesOf_20 : decode cX3_emptiesOf 20 = .ok (.iconst 0, 1) := dk_3 (dk_at dksX3_emptiesOf_0 20 rfl rfl)
theorem dX3_emptiesOf_21 : decode cX3_emptiesOf 21 = .ok (.invokevirtual 46, 3) := dk_182 0 46 (dk_at dksX3_emptiesOf_0 21 rfl rfl)
theorem dX3_emptiesOf_24 : decode cX3_emptiesOf 24 = .ok (.iload_n 2, 1) := dk_28 (dk_at dksX3_emptiesOf_1 0 rfl rfl)
theorem dX3_emptiesOf_25 : decode cX3_emptiesOf 25 = .ok (.if_icmp .ne 16, 3) := dk_160 0 16 (dk_at dksX3_emptiesOf_1 1 rfl rfl)
theorem dX3_emptiesOf_28 : decode cX3_emptiesOf 28 = .ok (.aload_n 0, 1) := dk_42 (dk_at dksX3_emptiesOf_1 4 rfl rfl)
theorem dX3_emptiesOf_29 : decode cX3_emptiesOf 29 = .ok (.iload_n 1, 1) := dk_27 (dk_at dksX3_emptiesOf_1 5 rfl rfl)
theorem dX3_emptiesOf_30 : decode cX3_emptiesOf 30 = .ok (.bipush 13, 2) := dk_16 13 (dk_at dksX3_emptiesOf_1 6 rfl rfl)
theorem dX3_emptiesOf_32 : decode cX3_emptiesOf 32 = .ok (.iload 4, 2) := dk_21 4 (dk_at dksX3_emptiesOf_1 8 rfl rfl)
theorem dX3_emptiesOf_34 : decode cX3_emptiesOf 34 = .ok (.iadd, 1) := dk_96 (dk_at dksX3_emptiesOf_1 10 rfl rfl)
theorem dX3_emptiesOf_35 : decode cX3_emptiesOf 35 = .ok (.invokevirtual 57, 3) := dk_182 0 57 (dk_at dksX3_emptiesOf_1 11 rfl rfl)
theorem dX3_emptiesOf_38 : decode cX3_emptiesOf 38 = .ok (.goto 4, 3) := dk_167 0 4 (dk_at dksX3_emptiesOf_1 14 rfl rfl)
theorem dX3_emptiesOf_41 : decode cX3_emptiesOf 41 = .ok (.iconst 0, 1) := dk_3 (dk_at dksX3_emptiesOf_1 17 rfl rfl)
theorem dX3_emptiesOf_42 : decode cX3_emptiesOf 42 = .ok (.iadd, 1) := dk_96 (dk_at dksX3_emptiesOf_1 18 rfl rfl)
theorem dX3_emptiesOf_43 : decode cX3_emptiesOf 43 = .ok (.istore_n 3, 1) := dk_62 (dk_at dksX3_emptiesOf_1 19 rfl rfl)
theorem dX3_emptiesOf_44 : decode cX3_emptiesOf 44 = .ok (.iinc 4 1, 3) := dk_132 4 1 (dk_at dksX3_emptiesOf_1 20 rfl rfl)
theorem dX3_emptiesOf_47 : decode cX3_emptiesOf 47 = .ok (.goto (-42), 3) := dk_167 255 214 (dk_at dksX3_emptiesOf_2 0 rfl rfl)
theorem dX3_emptiesOf_50 : decode cX3_emptiesOf 50 = .ok (.iload_n 3, 1) := dk_29 (dk_at dksX3_emptiesOf_2 3 rfl rfl)
theorem dX3_emptiesOf_51 : decode cX3_emptiesOf 51 = .ok (.ireturn, 1) := dk_172 (dk_at dksX3_emptiesOf_2 4 rfl rfl)
abbrev cX3_collects : ByteArray := prog_23_method_34_code
def yX3_collects : MethodName := ⟨RX3, "collects", "(III)I"⟩
def dkwX3_collects_5 : List UInt8 := [79, 42, 180, 0, 7, 6, 92, 46, 21, 4, 100, 79, 21, 4, 172]
abbrev dktX3_collects_5 : List UInt8 := dkwX3_collects_5 ++ []
def dkwX3_collects_4 : List UInt8 := [3, 184, 0, 43, 92, 46, 21, 4, 96, 79, 42, 180, 0, 7, 27, 5, 184, 0, 43, 92, 46, 21, 4, 100]
abbrev dktX3_collects_4 : List UInt8 := dkwX3_collects_4 ++ dktX3_collects_5
def dkwX3_collects_3 : List UInt8 := [4, 184, 0, 43, 92, 46, 29, 100, 79, 42, 180, 0, 7, 5, 92, 46, 29, 96, 79, 42, 180, 0, 7, 27]
abbrev dktX3_collects_3 : List UInt8 := dkwX3_collects_3 ++ dktX3_collects_4
def dkwX3_collects_2 : List UInt8 := [92, 46, 4, 96, 79, 132, 4, 1, 167, 255, 203, 42, 28, 29, 182, 0, 67, 54, 4, 42, 180, 0, 7, 27]
abbrev dktX3_collects_2 : List UInt8 := dkwX3_collects_2 ++ dktX3_collects_3
def dkwX3_collects_1 : List UInt8 := [27, 16, 13, 21, 5, 96, 184, 0, 43, 92, 46, 4, 100, 79, 42, 180, 0, 7, 21, 5, 7, 184, 0, 39]
abbrev dktX3_collects_1 : List UInt8 := dkwX3_collects_1 ++ dktX3_collects_2
def dkwX3_collects_0 : List UInt8 := [3, 54, 4, 21, 4, 16, 12, 29, 104, 162, 0, 50, 42, 27, 28, 182, 0, 82, 54, 5, 42, 180, 0, 7]
abbrev dktX3_collects_0 : List UInt8 := dkwX3_collects_0 ++ dktX3_collects_1
theorem dksX3_collects_0 : cX3_collects.data.toList.drop 0 = dktX3_collects_0 := by decide +kernel
theorem dksX3_collects_1 : cX3_collects.data.toList.drop 24 = dktX3_collects_1 := dk_seg dksX3_collects_0 24 rfl rfl
theorem dksX3_collects_2 : cX3_collects.data.toList.drop 48 = dktX3_collects_2 := dk_seg dksX3_collects_1 24 rfl rfl
theorem dksX3_collects_3 : cX3_collects.data.toList.drop 72 = dktX3_collects_3 := dk_seg dksX3_collects_2 24 rfl rfl
theorem dksX3_collects_4 : cX3_collects.data.toList.drop 96 = dktX3_collects_4 := dk_seg dksX3_collects_3 24 rfl rfl
theorem dksX3_collects_5 : cX3_collects.data.toList.drop 120 = dktX3_collects_5 := dk_seg dksX3_collects_4 24 rfl rfl
theorem dX3_collects_0 : decode cX3_collects 0 = .ok (.iconst 0, 1) := dk_3 (dk_at dksX3_collects_0 0 rfl rfl)
theorem dX3_collects_1 : decode cX3_collects 1 = .ok (.istore 4, 2) := dk_54 4 (dk_at dksX3_collects_0 1 rfl rfl)
theorem dX3_collects_3 : decode cX3_collects 3 = .ok (.iload 4, 2) := dk_21 4 (dk_at dksX3_collects_0 3 rfl rfl)
theorem dX3_collects_5 : decode cX3_collects 5 = .ok (.bipush 12, 2) := dk_16 12 (dk_at dksX3_collects_0 5 rfl rfl)
theorem dX3_collects_7 : decode cX3_collects 7 = .ok (.iload_n 3, 1) := dk_29 (dk_at dksX3_collects_0 7 rfl rfl)
theorem dX3_collects_8 : decode cX3_collects 8 = .ok (.imul, 1) := dk_104 (dk_at dksX3_collects_0 8 rfl rfl)
theorem dX3_collects_9 : decode cX3_collects 9 = .ok (.if_icmp .ge 50, 3) := dk_162 0 50 (dk_at dksX3_collects_0 9 rfl rfl)
theorem dX3_collects_12 : decode cX3_collects 12 = .ok (.aload_n 0, 1) := dk_42 (dk_at dksX3_collects_0 12 rfl rfl)
theorem dX3_collects_13 : decode cX3_collects 13 = .ok (.iload_n 1, 1) := dk_27 (dk_at dksX3_collects_0 13 rfl rfl)
theorem dX3_collects_14 : decode cX3_collects 14 = .ok (.iload_n 2, 1) := dk_28 (dk_at dksX3_collects_0 14 rfl rfl)
theorem dX3_collects_15 : decode cX3_collects 15 = .ok (.invokevirtual 82, 3) := dk_182 0 82 (dk_at dksX3_collects_0 15 rfl rfl)
theorem dX3_collects_18 : decode cX3_collects 18 = .ok (.istore 5, 2) := dk_54 5 (dk_at dksX3_collects_0 18 rfl rfl)
theorem dX3_collects_20 : decode cX3_collects 20 = .ok (.aload_n 0, 1) := dk_42 (dk_at dksX3_collects_0 20 rfl rfl)
theorem dX3_collects_21 : decode cX3_collects 21 = .ok (.getfield 7, 3) := dk_180 0 7 (dk_at dksX3_collects_0 21 rfl rfl)
theorem dX3_collects_24 : decode cX3_collects 24 = .ok (.iload_n 1, 1) := dk_27 (dk_at dksX3_collects_1 0 rfl rfl)
theorem dX3_collects_25 : decode cX3_collects 25 = .ok (.bipush 13, 2) := dk_16 13 (dk_at dksX3_collects_1 1 rfl rfl)
theorem dX3_collects_27 : decode cX3_collects 27 = .ok (.iload 5, 2) := dk_21 5 (dk_at dksX3_collects_1 3 rfl rfl)
theorem dX3_collects_29 : decode cX3_collects 29 = .ok (.iadd, 1) := dk_96 (dk_at dksX3_collects_1 5 rfl rfl)
theorem dX3_collects_30 : decode cX3_collects 30 = .ok (.invokestatic 43, 3) := dk_184 0 43 (dk_at dksX3_collects_1 6 rfl rfl)
theorem dX3_collects_33 : decode cX3_collects 33 = .ok (.dup2, 1) := dk_92 (dk_at dksX3_collects_1 9 rfl rfl)
theorem dX3_collects_34 : decode cX3_collects 34 = .ok (.iaload, 1) := dk_46 (dk_at dksX3_collects_1 10 rfl rfl)
theorem dX3_collects_35 : decode cX3_collects 35 = .ok (.iconst 1, 1) := dk_4 (dk_at dksX3_collects_1 11 rfl rfl)
theorem dX3_collects_36 : decode cX3_collects 36 = .ok (.isub, 1) := dk_100 (dk_at dksX3_collects_1 12 rfl rfl)
theorem dX3_collects_37 : decode cX3_collects 37 = .ok (.iastore, 1) := dk_79 (dk_at dksX3_collects_1 13 rfl rfl)
theorem dX3_collects_38 : decode cX3_collects 38 = .ok (.aload_n 0, 1) := dk_42 (dk_at dksX3_collects_1 14 rfl rfl)
theorem dX3_collects_39 : decode cX3_collects 39 = .ok (.getfield 7, 3) := dk_180 0 7 (dk_at dksX3_collects_1 15 rfl rfl)
theorem dX3_collects_42 : decode cX3_collects 42 = .ok (.iload 5, 2) := dk_21 5 (dk_at dksX3_collects_1 18 rfl rfl)
theorem dX3_collects_44 : decode cX3_collects 44 = .ok (.iconst 4, 1) := dk_7 (dk_at dksX3_collects_1 20 rfl rfl)
theorem dX3_collects_45 : decode cX3_collects 45 = .ok (.invokestatic 39, 3) := dk_184 0 39 (dk_at dksX3_collects_1 21 rfl rfl)
theorem dX3_collects_48 : decode cX3_collects 48 = .ok (.dup2, 1) := dk_92 (dk_at dksX3_collects_2 0 rfl rfl)
theorem dX3_collects_49 : decode cX3_collects 49 = .ok (.iaload, 1) := dk_46 (dk_at dksX3_collects_2 1 rfl rfl)
theorem dX3_collects_50 : decode cX3_collects 50 = .ok (.iconst 1, 1) := dk_4 (dk_at dksX3_collects_2 2 rfl rfl)
theorem dX3_collects_51 : decode cX3_collects 51 = .ok (.iadd, 1) := dk_96 (dk_at dksX3_collects_2 3 rfl rfl)
theorem dX3_collects_52 : decode cX3_collects 52 = .ok (.iastore, 1) := dk_79 (dk_at dksX3_collects_2 4 rfl rfl)
theorem dX3_collects_53 : decode cX3_collects 53 = .ok (.iinc 4 1, 3) := dk_132 4 1 (dk_at dksX3_collects_2 5 rfl rfl)
theorem dX3_collects_56 : decode cX3_collects 56 = .ok (.goto (-53), 3) := dk_167 255 203 (dk_at dksX3_collects_2 8 rfl rfl)
theorem dX3_collects_59 : decode cX3_collects 59 = .ok (.aload_n 0, 1) := dk_42 (dk_at dksX3_collects_2 11 rfl rfl)
theorem dX3_collects_60 : decode cX3_collects 60 = .ok (.iload_n 2, 1) := dk_28 (dk_at dksX3_collects_2 12 rfl rfl)
theorem dX3_collects_61 : decode cX3_collects 61 = .ok (.iload_n 3, 1) := dk_29 (dk_at dksX3_collects_2 13 rfl rfl)
theorem dX3_collects_62 : decode cX3_collects 62 = .ok (.invokevirtual 67, 3) := dk_182 0 67 (dk_at dksX3_collects_2 14 rfl rfl)
theorem dX3_collects_65 : decode cX3_collects 65 = .ok (.istore 4, 2) := dk_54 4 (dk_at dksX3_collects_2 17 rfl rfl)
theorem dX3_collects_67 : decode cX3_collects 67 = .ok (.aload_n 0, 1) := dk_42 (dk_at dksX3_collects_2 19 rfl rfl)
theorem dX3_collects_68 : decode cX3_collects 68 = .ok (.getfield 7, 3) := dk_180 0 7 (dk_at dksX3_collects_2 20 rfl rfl)
theorem dX3_collects_71 : decode cX3_collects 71 = .ok (.iload_n 1, 1) := dk_27 (dk_at dksX3_collects_2 23 rfl rfl)
theorem dX3_collects_72 : decode cX3_collects 72 = .ok (.iconst 1, 1) := dk_4 (dk_at dksX3_collects_3 0 rfl rfl)
theorem dX3_collects_73 : decode cX3_collects 73 = .ok (.invokestatic 43, 3) := dk_184 0 43 (dk_at dksX3_collects_3 1 rfl rfl)
theorem dX3_collects_76 : decode cX3_collects 76 = .ok (.dup2, 1) := dk_92 (dk_at dksX3_collects_3 4 rfl rfl)
theorem dX3_collects_77 : decode cX3_collects 77 = .ok (.iaload, 1) := dk_46 (dk_at dksX3_collects_3 5 rfl rfl)
theorem dX3_collects_78 : decode cX3_collects 78 = .ok (.iload_n 3, 1) := dk_29 (dk_at dksX3_collects_3 6 rfl rfl)
theorem dX3_collects_79 : decode cX3_collects 79 = .ok (.isub, 1) := dk_100 (dk_at dksX3_collects_3 7 rfl rfl)
theorem dX3_collects_80 : decode cX3_collects 80 = .ok (.iastore, 1) := dk_79 (dk_at dksX3_collects_3 8 rfl rfl)
theorem dX3_collects_81 : decode cX3_collects 81 = .ok (.aload_n 0, 1) := dk_42 (dk_at dksX3_collects_3 9 rfl rfl)
theorem dX3_collects_82 : decode cX3_collects 82 = .ok (.getfield 7, 3) := dk_180 0 7 (dk_at dksX3_collects_3 10 rfl rfl)
theorem dX3_collects_85 : decode cX3_collects 85 = .ok (.iconst 2, 1) := dk_5 (dk_at dksX3_collects_3 13 rfl rfl)
theorem dX3_collects_86 : decode cX3_collects 86 = .ok (.dup2, 1) := dk_92 (dk_at dksX3_collects_3 14 rfl rfl)
theorem dX3_collects_87 : decode cX3_collects 87 = .ok (.iaload, 1) := dk_46 (dk_at dksX3_collects_3 15 rfl rfl)
theorem dX3_collects_88 : decode cX3_collects 88 = .ok (.iload_n 3, 1) := dk_29 (dk_at dksX3_collects_3 16 rfl rfl)
theorem dX3_collects_89 : decode cX3_collects 89 = .ok (.iadd, 1) := dk_96 (dk_at dksX3_collects_3 17 rfl rfl)
theorem dX3_collects_90 : decode cX3_collects 90 = .ok (.iastore, 1) := dk_79 (dk_at dksX3_collects_3 18 rfl rfl)
theorem dX3_collects_91 : decode cX3_collects 91 = .ok (.aload_n 0, 1) := dk_42 (dk_at dksX3_collects_3 19 rfl rfl)
theorem dX3_collects_92 : decode cX3_collects 92 = .ok (.getfield 7, 3) := dk_180 0 7 (dk_at dksX3_collects_3 20 rfl rfl)
theorem dX3_collects_95 : decode cX3_collects 95 = .ok (.iload_n 1, 1) := dk_27 (dk_at dksX3_collects_3 23 rfl rfl)
theorem dX3_collects_96 : decode cX3_collects 96 = .ok (.iconst 0, 1) := dk_3 (dk_at dksX3_collects_4 0 rfl rfl)
theorem dX3_collects_97 : decode cX3_collects 97 = .ok (.invokestatic 43, 3) := dk_184 0 43 (dk_at dksX3_collects_4 1 rfl rfl)
theorem dX3_collects_100 : decode cX3_collects 100 = .ok (.dup2, 1) := dk_92 (dk_at dksX3_collects_4 4 rfl rfl)
theorem dX3_collects_101 : decode cX3_collects 101 = .ok (.iaload, 1) := dk_46 (dk_at dksX3_collects_4 5 rfl rfl)
theorem dX3_collects_102 : decode cX3_collects 102 = .ok (.iload 4, 2) := dk_21 4 (dk_at dksX3_collects_4 6 rfl rfl)
theorem dX3_collects_104 : decode cX3_collects 104 = .ok (.iadd, 1) := dk_96 (dk_at dksX3_collects_4 8 rfl rfl)
theorem dX3_collects_105 : decode cX3_collects 105 = .ok (.iastore, 1) := dk_79 (dk_at dksX3_collects_4 9 rfl rfl)
theorem dX3_collects_106 : decode cX3_collects 106 = .ok (.aload_n 0, 1) := dk_42 (dk_at dksX3_collects_4 10 rfl rfl)
theorem dX3_collects_107 : decode cX3_collects 107 = .ok (.getfield 7, 3) := dk_180 0 7 (dk_at dksX3_collects_4 11 rfl rfl)
theorem dX3_collects_110 : decode cX3_collects 110 = .ok (.iload_n 1, 1) := dk_27 (dk_at dksX3_collects_4 14 rfl rfl)
theorem dX3_collects_111 : decode cX3_collects 111 = .ok (.iconst 2, 1) := dk_5 (dk_at dksX3_collects_4 15 rfl rfl)
theorem dX3_collects_112 : decode cX3_collects 112 = .ok (.invokestatic 43, 3) := dk_184 0 43 (dk_at dksX3_collects_4 16 rfl rfl)
theorem dX3_collects_115 : decode cX3_collects 115 = .ok (.dup2, 1) := dk_92 (dk_at dksX3_collects_4 19 rfl rfl)
theorem dX3_collects_116 : decode cX3_collects 116 = .ok (.iaload, 1) := dk_46 (dk_at dksX3_collects_4 20 rfl rfl)
theorem dX3_collects_117 : decode cX3_collects 117 = .ok (.iload 4, 2) := dk_21 4 (dk_at dksX3_collects_4 21 rfl rfl)
theorem dX3_collects_119 : decode cX3_collects 119 = .ok (.isub, 1) := dk_100 (dk_at dksX3_collects_4 23 rfl rfl)
theorem dX3_collects_120 : decode cX3_collects 120 = .ok (.iastore, 1) := dk_79 (dk_at dksX3_collects_5 0 rfl rfl)
theorem dX3_collects_121 : decode cX3_collects 121 = .ok (.aload_n 0, 1) := dk_42 (dk_at dksX3_collects_5 1 rfl rfl)
theorem dX3_collects_122 : decode cX3_collects 122 = .ok (.getfield 7, 3) := dk_180 0 7 (dk_at dksX3_collects_5 2 rfl rfl)
theorem dX3_collects_125 : decode cX3_collects 125 = .ok (.iconst 3, 1) := dk_6 (dk_at dksX3_collects_5 5 rfl rfl)
theorem dX3_collects_126 : decode cX3_collects 126 = .ok (.dup2, 1) := dk_92 (dk_at dksX3_collects_5 6 rfl rfl)
theorem dX3_collects_127 : decode cX3_collects 127 = .ok (.iaload, 1) := dk_46 (dk_at dksX3_collects_5 7 rfl rfl)
theorem dX3_collects_128 : decode cX3_collects 128 = .ok (.iload 4, 2) := dk_21 4 (dk_at dksX3_collects_5 8 rfl rfl)
theorem dX3_collects_130 : decode cX3_collects 130 = .ok (.isub, 1) := dk_100 (dk_at dksX3_collects_5 10 rfl rfl)
theorem dX3_collects_131 : decode cX3_collects 131 = .ok (.iastore, 1) := dk_79 (dk_at dksX3_collects_5 11 rfl rfl)
theorem dX3_collects_132 : decode cX3_collects 132 = .ok (.iload 4, 2) := dk_21 4 (dk_at dksX3_collects_5 12 rfl rfl)
theorem dX3_collects_134 : decode cX3_collects 134 = .ok (.ireturn, 1) := dk_172 (dk_at dksX3_collects_5 14 rfl rfl)
abbrev cX3_mostEmpties : ByteArray := prog_23_method_33_code
def yX3_mostEmpties : MethodName := ⟨RX3, "mostEmpties", "(II)I"⟩
def dkwX3_mostEmpties_3 : List UInt8 := [62, 132, 4, 1, 167, 255, 186, 29, 172]
abbrev dktX3_mostEmpties_3 : List UInt8 := dkwX3_mostEmpties_3 ++ []
def dkwX3_mostEmpties_2 : List UInt8 := [182, 0, 57, 164, 0, 7, 4, 167, 0, 4, 3, 54, 5, 21, 5, 153, 0, 8, 21, 4, 167, 0, 4, 29]
abbrev dktX3_mostEmpties_2 : List UInt8 := dkwX3_mostEmpties_2 ++ dktX3_mostEmpties_3
def dkwX3_mostEmpties_1 : List UInt8 := [160, 0, 33, 29, 155, 0, 25, 42, 27, 16, 13, 21, 4, 96, 182, 0, 57, 42, 27, 16, 13, 29, 96]
abbrev dktX3_mostEmpties_1 : List UInt8 := dkwX3_mostEmpties_1 ++ dktX3_mostEmpties_2
def dkwX3_mostEmpties_0 : List UInt8 := [2, 62, 3, 54, 4, 21, 4, 42, 180, 0, 7, 3, 46, 162, 0, 65, 42, 21, 4, 3, 182, 0, 46, 28]
abbrev dktX3_mostEmpties_0 : List UInt8 := dkwX3_mostEmpties_0 ++ dktX3_mostEmpties_1
theorem dksX3_mostEmpties_0 : cX3_mostEmpties.data.toList.drop 0 = dktX3_mostEmpties_0 := by decide +kernel
theorem dksX3_mostEmpties_1 : cX3_mostEmpties.data.toList.drop 24 = dktX3_mostEmpties_1 := dk_seg dksX3_mostEmpties_0 24 rfl rfl
theorem dksX3_mostEmpties_2 : cX3_mostEmpties.data.toList.drop 47 = dktX3_mostEmpties_2 := dk_seg dksX3_mostEmpties_1 23 rfl rfl
theorem dksX3_mostEmpties_3 : cX3_mostEmpties.data.toList.drop 71 = dktX3_mostEmpties_3 := dk_seg dksX3_mostEmpties_2 24 rfl rfl
theorem dX3_mostEmpties_0 : decode cX3_mostEmpties 0 = .ok (.iconst (-1), 1) := dk_2 (dk_at dksX3_mostEmpties_0 0 rfl rfl)
theorem dX3_mostEmpties_1 : decode cX3_mostEmpties 1 = .ok (.istore_n 3, 1) := dk_62 (dk_at dksX3_mostEmpties_0 1 rfl rfl)
theorem dX3_mostEmpties_2 : decode cX3_mostEmpties 2 = .ok (.iconst 0, 1) := dk_3 (dk_at dksX3_mostEmpties_0 2 rfl rfl)
theorem dX3_mostEmpties_3 : decode cX3_mostEmpties 3 = .ok (.istore 4, 2) := dk_54 4 (dk_at dksX3_mostEmpties_0 3 rfl rfl)
theorem dX3_mostEmpties_5 : decode cX3_mostEmpties 5 = .ok (.iload 4, 2) := dk_21 4 (dk_at dksX3_mostEmpties_0 5 rfl rfl)
theorem dX3_mostEmpties_7 : decode cX3_mostEmpties 7 = .ok (.aload_n 0, 1) := dk_42 (dk_at dksX3_mostEmpties_0 7 rfl rfl)
theorem dX3_mostEmpties_8 : decode cX3_mostEmpties 8 = .ok (.getfield 7, 3) := dk_180 0 7 (dk_at dksX3_mostEmpties_0 8 rfl rfl)
theorem dX3_mostEmpties_11 : decode cX3_mostEmpties 11 = .ok (.iconst 0, 1) := dk_3 (dk_at dksX3_mostEmpties_0 11 rfl rfl)
theorem dX3_mostEmpties_12 : decode cX3_mostEmpties 12 = .ok (.iaload, 1) := dk_46 (dk_at dksX3_mostEmpties_0 12 rfl rfl)
theorem dX3_mostEmpties_13 : decode cX3_mostEmpties 13 = .ok (.if_icmp .ge 65, 3) := dk_162 0 65 (dk_at dksX3_mostEmpties_0 13 rfl rfl)
theorem dX3_mostEmpties_16 : decode cX3_mostEmpties 16 = .ok (.aload_n 0, 1) := dk_42 (dk_at dksX3_mostEmpties_0 16 rfl rfl)
theorem dX3_mostEmpties_17 : decode cX3_mostEmpties 17 = .ok (.iload 4, 2) := dk_21 4 (dk_at dksX3_mostEmpties_0 17 rfl rfl)
theorem dX3_mostEmpties_19 : decode cX3_mostEmpties 19 = .ok (.iconst 0, 1) := dk_3 (dk_at dksX3_mostEmpties_0 19 rfl rfl)
theorem dX3_mostEmpties_20 : decode cX3_mostEmpties 20 = .ok (.invokevirtual 46, 3) := dk_182 0 46 (dk_at dksX3_mostEmpties_0 20 rfl rfl)
theorem dX3_mostEmpties_23 : decode cX3_mostEmpties 23 = .ok (.iload_n 2, 1) := dk_28 (dk_at dksX3_mostEmpties_0 23 rfl rfl)
theorem dX3_mostEmpties_24 : decode cX3_mostEmpties 24 = .ok (.if_icmp .ne 33, 3) := dk_160 0 33 (dk_at dksX3_mostEmpties_1 0 rfl rfl)
theorem dX3_mostEmpties_27 : decode cX3_mostEmpties 27 = .ok (.iload_n 3, 1) := dk_29 (dk_at dksX3_mostEmpties_1 3 rfl rfl)
theorem dX3_mostEmpties_28 : decode cX3_mostEmpties 28 = .ok (.ifCond .lt 25, 3) := dk_155 0 25 (dk_at dksX3_mostEmpties_1 4 rfl rfl)
theorem dX3_mostEmpties_31 : decode cX3_mostEmpties 31 = .ok (.aload_n 0, 1) := dk_42 (dk_at dksX3_mostEmpties_1 7 rfl rfl)
theorem dX3_mostEmpties_32 : decode cX3_mostEmpties 32 = .ok (.iload_n 1, 1) := dk_27 (dk_at dksX3_mostEmpties_1 8 rfl rfl)
theorem dX3_mostEmpties_33 : decode cX3_mostEmpties 33 = .ok (.bipush 13, 2) := dk_16 13 (dk_at dksX3_mostEmpties_1 9 rfl rfl)
theorem dX3_mostEmpties_35 : decode cX3_mostEmpties 35 = .ok (.iload 4, 2) := dk_21 4 (dk_at dksX3_mostEmpties_1 11 rfl rfl)
theorem dX3_mostEmpties_37 : decode cX3_mostEmpties 37 = .ok (.iadd, 1) := dk_96 (dk_at dksX3_mostEmpties_1 13 rfl rfl)
theorem dX3_mostEmpties_38 : decode cX3_mostEmpties 38 = .ok (.invokevirtual 57, 3) := dk_182 0 57 (dk_at dksX3_mostEmpties_1 14 rfl rfl)
theorem dX3_mostEmpties_41 : decode cX3_mostEmpties 41 = .ok (.aload_n 0, 1) := dk_42 (dk_at dksX3_mostEmpties_1 17 rfl rfl)
theorem dX3_mostEmpties_42 : decode cX3_mostEmpties 42 = .ok (.iload_n 1, 1) := dk_27 (dk_at dksX3_mostEmpties_1 18 rfl rfl)
theorem dX3_mostEmpties_43 : decode cX3_mostEmpties 43 = .ok (.bipush 13, 2) := dk_16 13 (dk_at dksX3_mostEmpties_1 19 rfl rfl)
theorem dX3_mostEmpties_45 : decode cX3_mostEmpties 45 = .ok (.iload_n 3, 1) := dk_29 (dk_at dksX3_mostEmpties_1 21 rfl rfl)
theorem dX3_mostEmpties_46 : decode cX3_mostEmpties 46 = .ok (.iadd, 1) := dk_96 (dk_at dksX3_mostEmpties_1 22 rfl rfl)
theorem dX3_mostEmpties_47 : decode cX3_mostEmpties 47 = .ok (.invokevirtual 57, 3) := dk_182 0 57 (dk_at dksX3_mostEmpties_2 0 rfl rfl)
theorem dX3_mostEmpties_50 : decode cX3_mostEmpties 50 = .ok (.if_icmp .le 7, 3) := dk_164 0 7 (dk_at dksX3_mostEmpties_2 3 rfl rfl)
theorem dX3_mostEmpties_53 : decode cX3_mostEmpties 53 = .ok (.iconst 1, 1) := dk_4 (dk_at dksX3_mostEmpties_2 6 rfl rfl)
theorem dX3_mostEmpties_54 : decode cX3_mostEmpties 54 = .ok (.goto 4, 3) := dk_167 0 4 (dk_at dksX3_mostEmpties_2 7 rfl rfl)
theorem dX3_mostEmpties_57 : decode cX3_mostEmpties 57 = .ok (.iconst 0, 1) := dk_3 (dk_at dksX3_mostEmpties_2 10 rfl rfl)
theorem dX3_mostEmpties_58 : decode cX3_mostEmpties 58 = .ok (.istore 5, 2) := dk_54 5 (dk_at dksX3_mostEmpties_2 11 rfl rfl)
theorem dX3_mostEmpties_60 : decode cX3_mostEmpties 60 = .ok (.iload 5, 2) := dk_21 5 (dk_at dksX3_mostEmpties_2 13 rfl rfl)
theorem dX3_mostEmpties_62 : decode cX3_mostEmpties 62 = .ok (.ifCond .eq 8, 3) := dk_153 0 8 (dk_at dksX3_mostEmpties_2 15 rfl rfl)
theorem dX3_mostEmpties_65 : decode cX3_mostEmpties 65 = .ok (.iload 4, 2) := dk_21 4 (dk_at dksX3_mostEmpties_2 18 rfl rfl)
theorem dX3_mostEmpties_67 : decode cX3_mostEmpties 67 = .ok (.goto 4, 3) := dk_167 0 4 (dk_at dksX3_mostEmpties_2 20 rfl rfl)
theorem dX3_mostEmpties_70 : decode cX3_mostEmpties 70 = .ok (.iload_n 3, 1) := dk_29 (dk_at dksX3_mostEmpties_2 23 rfl rfl)
theorem dX3_mostEmpties_71 : decode cX3_mostEmpties 71 = .ok (.istore_n 3, 1) := dk_62 (dk_at dksX3_mostEmpties_3 0 rfl rfl)
theorem dX3_mostEmpties_72 : decode cX3_mostEmpties 72 = .ok (.iinc 4 1, 3) := dk_132 4 1 (dk_at dksX3_mostEmpties_3 1 rfl rfl)
theorem dX3_mostEmpties_75 : decode cX3_mostEmpties 75 = .ok (.goto (-70), 3) := dk_167 255 186 (dk_at dksX3_mostEmpties_3 4 rfl rfl)
theorem dX3_mostEmpties_78 : decode cX3_mostEmpties 78 = .ok (.iload_n 3, 1) := dk_29 (dk_at dksX3_mostEmpties_3 7 rfl rfl)
theorem dX3_mostEmpties_79 : decode cX3_mostEmpties 79 = .ok (.ireturn, 1) := dk_172 (dk_at dksX3_mostEmpties_3 8 rfl rfl)
abbrev cX3_sort : ByteArray := prog_23_method_43_code
def yX3_sort : MethodName := ⟨RX3, "sort", "(II)I"⟩
def dkwX3_sort_6 : List UInt8 := [182, 0, 126, 172]
abbrev dktX3_sort_6 : List UInt8 := dkwX3_sort_6 ++ []
def dkwX3_sort_5 : List UInt8 := [184, 0, 39, 92, 46, 21, 5, 96, 79, 29, 21, 5, 100, 62, 132, 4, 1, 167, 255, 177, 42, 27]
abbrev dktX3_sort_5 : List UInt8 := dkwX3_sort_5 ++ dktX3_sort_6
def dkwX3_sort_4 : List UInt8 := [42, 180, 0, 7, 21, 4, 7, 184, 0, 39, 92, 46, 21, 5, 100, 79, 42, 180, 0, 7, 21, 4, 4]
abbrev dktX3_sort_4 : List UInt8 := dkwX3_sort_4 ++ dktX3_sort_5
def dkwX3_sort_3 : List UInt8 := [182, 0, 46, 27, 160, 0, 17, 29, 42, 21, 4, 7, 182, 0, 46, 184, 0, 76, 167, 0, 4, 3, 54, 5]
abbrev dktX3_sort_3 : List UInt8 := dkwX3_sort_3 ++ dktX3_sort_4
def dkwX3_sort_2 : List UInt8 := [42, 182, 0, 53, 28, 62, 3, 54, 4, 21, 4, 42, 180, 0, 7, 3, 46, 162, 0, 74, 42, 21, 4, 3]
abbrev dktX3_sort_2 : List UInt8 := dkwX3_sort_2 ++ dktX3_sort_3
def dkwX3_sort_1 : List UInt8 := [154, 0, 9, 42, 4, 182, 0, 49, 172, 42, 27, 182, 0, 126, 28, 162, 0, 9, 42, 5, 182, 0, 49, 172]
abbrev dktX3_sort_1 : List UInt8 := dkwX3_sort_1 ++ dktX3_sort_2
def dkwX3_sort_0 : List UInt8 := [42, 3, 181, 0, 28, 27, 3, 5, 184, 0, 35, 153, 0, 14, 28, 4, 17, 19, 136, 184, 0, 35]
abbrev dktX3_sort_0 : List UInt8 := dkwX3_sort_0 ++ dktX3_sort_1
theorem dksX3_sort_0 : cX3_sort.data.toList.drop 0 = dktX3_sort_0 := by decide +kernel
theorem dksX3_sort_1 : cX3_sort.data.toList.drop 22 = dktX3_sort_1 := dk_seg dksX3_sort_0 22 rfl rfl
theorem dksX3_sort_2 : cX3_sort.data.toList.drop 46 = dktX3_sort_2 := dk_seg dksX3_sort_1 24 rfl rfl
theorem dksX3_sort_3 : cX3_sort.data.toList.drop 70 = dktX3_sort_3 := dk_seg dksX3_sort_2 24 rfl rfl
theorem dksX3_sort_4 : cX3_sort.data.toList.drop 94 = dktX3_sort_4 := dk_seg dksX3_sort_3 24 rfl rfl
theorem dksX3_sort_5 : cX3_sort.data.toList.drop 117 = dktX3_sort_5 := dk_seg dksX3_sort_4 23 rfl rfl
theorem dksX3_sort_6 : cX3_sort.data.toList.drop 139 = dktX3_sort_6 := dk_seg dksX3_sort_5 22 rfl rfl
theorem dX3_sort_0 : decode cX3_sort 0 = .ok (.aload_n 0, 1) := dk_42 (dk_at dksX3_sort_0 0 rfl rfl)
theorem dX3_sort_1 : decode cX3_sort 1 = .ok (.iconst 0, 1) := dk_3 (dk_at dksX3_sort_0 1 rfl rfl)
theorem dX3_sort_2 : decode cX3_sort 2 = .ok (.putfield 28, 3) := dk_181 0 28 (dk_at dksX3_sort_0 2 rfl rfl)
theorem dX3_sort_5 : decode cX3_sort 5 = .ok (.iload_n 1, 1) := dk_27 (dk_at dksX3_sort_0 5 rfl rfl)
theorem dX3_sort_6 : decode cX3_sort 6 = .ok (.iconst 0, 1) := dk_3 (dk_at dksX3_sort_0 6 rfl rfl)
theorem dX3_sort_7 : decode cX3_sort 7 = .ok (.iconst 2, 1) := dk_5 (dk_at dksX3_sort_0 7 rfl rfl)
theorem dX3_sort_8 : decode cX3_sort 8 = .ok (.invokestatic 35, 3) := dk_184 0 35 (dk_at dksX3_sort_0 8 rfl rfl)
theorem dX3_sort_11 : decode cX3_sort 11 = .ok (.ifCond .eq 14, 3) := dk_153 0 14 (dk_at dksX3_sort_0 11 rfl rfl)
theorem dX3_sort_14 : decode cX3_sort 14 = .ok (.iload_n 2, 1) := dk_28 (dk_at dksX3_sort_0 14 rfl rfl)
theorem dX3_sort_15 : decode cX3_sort 15 = .ok (.iconst 1, 1) := dk_4 (dk_at dksX3_sort_0 15 rfl rfl)
theorem dX3_sort_16 : decode cX3_sort 16 = .ok (.sipush 5000, 3) := dk_17 19 136 (dk_at dksX3_sort_0 16 rfl rfl)
theorem dX3_sort_19 : decode cX3_sort 19 = .ok (.invokestatic 35, 3) := dk_184 0 35 (dk_at dksX3_sort_0 19 rfl rfl)
theorem dX3_sort_22 : decode cX3_sort 22 = .ok (.ifCond .ne 9, 3) := dk_154 0 9 (dk_at dksX3_sort_1 0 rfl rfl)
theorem dX3_sort_25 : decode cX3_sort 25 = .ok (.aload_n 0, 1) := dk_42 (dk_at dksX3_sort_1 3 rfl rfl)
theorem dX3_sort_26 : decode cX3_sort 26 = .ok (.iconst 1, 1) := dk_4 (dk_at dksX3_sort_1 4 rfl rfl)
theorem dX3_sort_27 : decode cX3_sort 27 = .ok (.invokevirtual 49, 3) := dk_182 0 49 (dk_at dksX3_sort_1 5 rfl rfl)
theorem dX3_sort_30 : decode cX3_sort 30 = .ok (.ireturn, 1) := dk_172 (dk_at dksX3_sort_1 8 rfl rfl)
theorem dX3_sort_31 : decode cX3_sort 31 = .ok (.aload_n 0, 1) := dk_42 (dk_at dksX3_sort_1 9 rfl rfl)
theorem dX3_sort_32 : decode cX3_sort 32 = .ok (.iload_n 1, 1) := dk_27 (dk_at dksX3_sort_1 10 rfl rfl)
theorem dX3_sort_33 : decode cX3_sort 33 = .ok (.invokevirtual 126, 3) := dk_182 0 126 (dk_at dksX3_sort_1 11 rfl rfl)
theorem dX3_sort_36 : decode cX3_sort 36 = .ok (.iload_n 2, 1) := dk_28 (dk_at dksX3_sort_1 14 rfl rfl)
theorem dX3_sort_37 : decode cX3_sort 37 = .ok (.if_icmp .ge 9, 3) := dk_162 0 9 (dk_at dksX3_sort_1 15 rfl rfl)
theorem dX3_sort_40 : decode cX3_sort 40 = .ok (.aload_n 0, 1) := dk_42 (dk_at dksX3_sort_1 18 rfl rfl)
theorem dX3_sort_41 : decode cX3_sort 41 = .ok (.iconst 2, 1) := dk_5 (dk_at dksX3_sort_1 19 rfl rfl)
theorem dX3_sort_42 : decode cX3_sort 42 = .ok (.invokevirtual 49, 3) := dk_182 0 49 (dk_at dksX3_sort_1 20 rfl rfl)
theorem dX3_sort_45 : decode cX3_sort 45 = .ok (.ireturn, 1) := dk_172 (dk_at dksX3_sort_1 23 rfl rfl)
theorem dX3_sort_46 : decode cX3_sort 46 = .ok (.aload_n 0, 1) := dk_42 (dk_at dksX3_sort_2 0 rfl rfl)
theorem dX3_sort_47 : decode cX3_sort 47 = .ok (.invokevirtual 53, 3) := dk_182 0 53 (dk_at dksX3_sort_2 1 rfl rfl)
theorem dX3_sort_50 : decode cX3_sort 50 = .ok (.iload_n 2, 1) := dk_28 (dk_at dksX3_sort_2 4 rfl rfl)
theorem dX3_sort_51 : decode cX3_sort 51 = .ok (.istore_n 3, 1) := dk_62 (dk_at dksX3_sort_2 5 rfl rfl)
theorem dX3_sort_52 : decode cX3_sort 52 = .ok (.iconst 0, 1) := dk_3 (dk_at dksX3_sort_2 6 rfl rfl)
theorem dX3_sort_53 : decode cX3_sort 53 = .ok (.istore 4, 2) := dk_54 4 (dk_at dksX3_sort_2 7 rfl rfl)
theorem dX3_sort_55 : decode cX3_sort 55 = .ok (.iload 4, 2) := dk_21 4 (dk_at dksX3_sort_2 9 rfl rfl)
theorem dX3_sort_57 : decode cX3_sort 57 = .ok (.aload_n 0, 1) := dk_42 (dk_at dksX3_sort_2 11 rfl rfl)
theorem dX3_sort_58 : decode cX3_sort 58 = .ok (.getfield 7, 3) := dk_180 0 7 (dk_at dksX3_sort_2 12 rfl rfl)
theorem dX3_sort_61 : decode cX3_sort 61 = .ok (.iconst 0, 1) := dk_3 (dk_at dksX3_sort_2 15 rfl rfl)
theorem dX3_sort_62 : decode cX3_sort 62 = .ok (.iaload, 1) := dk_46 (dk_at dksX3_sort_2 16 rfl rfl)
theorem dX3_sort_63 : decode cX3_sort 63 = .ok (.if_icmp .ge 74, 3) := dk_162 0 74 (dk_at dksX3_sort_2 17 rfl rfl)
theorem dX3_sort_66 : decode cX3_sort 66 = .ok (.aload_n 0, 1) := dk_42 (dk_at dksX3_sort_2 20 rfl rfl)
theorem dX3_sort_67 : decode cX3_sort 67 = .ok (.iload 4, 2) := dk_21 4 (dk_at dksX3_sort_2 21 rfl rfl)
theorem dX3_sort_69 : decode cX3_sort 69 = .ok (.iconst 0, 1) := dk_3 (dk_at dksX3_sort_2 23 rfl rfl)
theorem dX3_sort_70 : decode cX3_sort 70 = .ok (.invokevirtual 46, 3) := dk_182 0 46 (dk_at dksX3_sort_3 0 rfl rfl)
theorem dX3_sort_73 : decode cX3_sort 73 = .ok (.iload_n 1, 1) := dk_27 (dk_at dksX3_sort_3 3 rfl rfl)
theorem dX3_sort_74 : decode cX3_sort 74 = .ok (.if_icmp .ne 17, 3) := dk_160 0 17 (dk_at dksX3_sort_3 4 rfl rfl)
theorem dX3_sort_77 : decode cX3_sort 77 = .ok (.iload_n 3, 1) := dk_29 (dk_at dksX3_sort_3 7 rfl rfl)
theorem dX3_sort_78 : decode cX3_sort 78 = .ok (.aload_n 0, 1) := dk_42 (dk_at dksX3_sort_3 8 rfl rfl)
theorem dX3_sort_79 : decode cX3_sort 79 = .ok (.iload 4, 2) := dk_21 4 (dk_at dksX3_sort_3 9 rfl rfl)
theorem dX3_sort_81 : decode cX3_sort 81 = .ok (.iconst 4, 1) := dk_7 (dk_at dksX3_sort_3 11 rfl rfl)
theorem dX3_sort_82 : decode cX3_sort 82 = .ok (.invokevirtual 46, 3) := dk_182 0 46 (dk_at dksX3_sort_3 12 rfl rfl)
theorem dX3_sort_85 : decode cX3_sort 85 = .ok (.invokestatic 76, 3) := dk_184 0 76 (dk_at dksX3_sort_3 15 rfl rfl)
theorem dX3_sort_88 : decode cX3_sort 88 = .ok (.goto 4, 3) := dk_167 0 4 (dk_at dksX3_sort_3 18 rfl rfl)
theorem dX3_sort_91 : decode cX3_sort 91 = .ok (.iconst 0, 1) := dk_3 (dk_at dksX3_sort_3 21 rfl rfl)
theorem dX3_sort_92 : decode cX3_sort 92 = .ok (.istore 5, 2) := dk_54 5 (dk_at dksX3_sort_3 22 rfl rfl)
theorem dX3_sort_94 : decode cX3_sort 94 = .ok (.aload_n 0, 1) := dk_42 (dk_at dksX3_sort_4 0 rfl rfl)
theorem dX3_sort_95 : decode cX3_sort 95 = .ok (.getfield 7, 3) := dk_180 0 7 (dk_at dksX3_sort_4 1 rfl rfl)
theorem dX3_sort_98 : decode cX3_sort 98 = .ok (.iload 4, 2) := dk_21 4 (dk_at dksX3_sort_4 4 rfl rfl)
theorem dX3_sort_100 : decode cX3_sort 100 = .ok (.iconst 4, 1) := dk_7 (dk_at dksX3_sort_4 6 rfl rfl)
theorem dX3_sort_101 : decode cX3_sort 101 = .ok (.invokestatic 39, 3) := dk_184 0 39 (dk_at dksX3_sort_4 7 rfl rfl)
theorem dX3_sort_104 : decode cX3_sort 104 = .ok (.dup2, 1) := dk_92 (dk_at dksX3_sort_4 10 rfl rfl)
theorem dX3_sort_105 : decode cX3_sort 105 = .ok (.iaload, 1) := dk_46 (dk_at dksX3_sort_4 11 rfl rfl)
theorem dX3_sort_106 : decode cX3_sort 106 = .ok (.iload 5, 2) := dk_21 5 (dk_at dksX3_sort_4 12 rfl rfl)
theorem dX3_sort_108 : decode cX3_sort 108 = .ok (.isub, 1) := dk_100 (dk_at dksX3_sort_4 14 rfl rfl)
theorem dX3_sort_109 : decode cX3_sort 109 = .ok (.iastore, 1) := dk_79 (dk_at dksX3_sort_4 15 rfl rfl)
theorem dX3_sort_110 : decode cX3_sort 110 = .ok (.aload_n 0, 1) := dk_42 (dk_at dksX3_sort_4 16 rfl rfl)
theorem dX3_sort_111 : decode cX3_sort 111 = .ok (.getfield 7, 3) := dk_180 0 7 (dk_at dksX3_sort_4 17 rfl rfl)
theorem dX3_sort_114 : decode cX3_sort 114 = .ok (.iload 4, 2) := dk_21 4 (dk_at dksX3_sort_4 20 rfl rfl)
theorem dX3_sort_116 : decode cX3_sort 116 = .ok (.iconst 1, 1) := dk_4 (dk_at dksX3_sort_4 22 rfl rfl)
theorem dX3_sort_117 : decode cX3_sort 117 = .ok (.invokestatic 39, 3) := dk_184 0 39 (dk_at dksX3_sort_5 0 rfl rfl)
theorem dX3_sort_120 : decode cX3_sort 120 = .ok (.dup2, 1) := dk_92 (dk_at dksX3_sort_5 3 rfl rfl)
theorem dX3_sort_121 : decode cX3_sort 121 = .ok (.iaload, 1) := dk_46 (dk_at dksX3_sort_5 4 rfl rfl)
theorem dX3_sort_122 : decode cX3_sort 122 = .ok (.iload 5, 2) := dk_21 5 (dk_at dksX3_sort_5 5 rfl rfl)
theorem dX3_sort_124 : decode cX3_sort 124 = .ok (.iadd, 1) := dk_96 (dk_at dksX3_sort_5 7 rfl rfl)
theorem dX3_sort_125 : decode cX3_sort 125 = .ok (.iastore, 1) := dk_79 (dk_at dksX3_sort_5 8 rfl rfl)
theorem dX3_sort_126 : decode cX3_sort 126 = .ok (.iload_n 3, 1) := dk_29 (dk_at dksX3_sort_5 9 rfl rfl)
theorem dX3_sort_127 : decode cX3_sort 127 = .ok (.iload 5, 2) := dk_21 5 (dk_at dksX3_sort_5 10 rfl rfl)
theorem dX3_sort_129 : decode cX3_sort 129 = .ok (.isub, 1) := dk_100 (dk_at dksX3_sort_5 12 rfl rfl)
theorem dX3_sort_130 : decode cX3_sort 130 = .ok (.istore_n 3, 1) := dk_62 (dk_at dksX3_sort_5 13 rfl rfl)
theorem dX3_sort_131 : decode cX3_sort 131 = .ok (.iinc 4 1, 3) := dk_132 4 1 (dk_at dksX3_sort_5 14 rfl rfl)
theorem dX3_sort_134 : decode cX3_sort 134 = .ok (.goto (-79), 3) := dk_167 255 177 (dk_at dksX3_sort_5 17 rfl rfl)
theorem dX3_sort_137 : decode cX3_sort 137 = .ok (.aload_n 0, 1) := dk_42 (dk_at dksX3_sort_5 20 rfl rfl)
theorem dX3_sort_138 : decode cX3_sort 138 = .ok (.iload_n 1, 1) := dk_27 (dk_at dksX3_sort_5 21 rfl rfl)
theorem dX3_sort_139 : decode cX3_sort 139 = .ok (.invokevirtual 126, 3) := dk_182 0 126 (dk_at dksX3_sort_6 0 rfl rfl)
theorem dX3_sort_142 : decode cX3_sort 142 = .ok (.ireturn, 1) := dk_172 (dk_at dksX3_sort_6 3 rfl rfl)
abbrev cX3_yardOf : ByteArray := prog_23_method_35_code
def yX3_yardOf : MethodName := ⟨RX3, "yardOf", "(I)I"⟩
def dkwX3_yardOf_1 : List UInt8 := [160, 0, 12, 42, 29, 7, 182, 0, 46, 167, 0, 4, 3, 96, 61, 132, 3, 1, 167, 255, 220, 28, 172]
abbrev dktX3_yardOf_1 : List UInt8 := dkwX3_yardOf_1 ++ []
def dkwX3_yardOf_0 : List UInt8 := [3, 61, 3, 62, 29, 42, 180, 0, 7, 3, 46, 162, 0, 32, 28, 42, 29, 3, 182, 0, 46, 27]
abbrev dktX3_yardOf_0 : List UInt8 := dkwX3_yardOf_0 ++ dktX3_yardOf_1
theorem dksX3_yardOf_0 : cX3_yardOf.data.toList.drop 0 = dktX3_yardOf_0 := by decide +kernel
theorem dksX3_yardOf_1 : cX3_yardOf.data.toList.drop 22 = dktX3_yardOf_1 := dk_seg dksX3_yardOf_0 22 rfl rfl
theorem dX3_yardOf_0 : decode cX3_yardOf 0 = .ok (.iconst 0, 1) := dk_3 (dk_at dksX3_yardOf_0 0 rfl rfl)
theorem dX3_yardOf_1 : decode cX3_yardOf 1 = .ok (.istore_n 2, 1) := dk_61 (dk_at dksX3_yardOf_0 1 rfl rfl)
theorem dX3_yardOf_2 : decode cX3_yardOf 2 = .ok (.iconst 0, 1) := dk_3 (dk_at dksX3_yardOf_0 2 rfl rfl)
theorem dX3_yardOf_3 : decode cX3_yardOf 3 = .ok (.istore_n 3, 1) := dk_62 (dk_at dksX3_yardOf_0 3 rfl rfl)
theorem dX3_yardOf_4 : decode cX3_yardOf 4 = .ok (.iload_n 3, 1) := dk_29 (dk_at dksX3_yardOf_0 4 rfl rfl)
theorem dX3_yardOf_5 : decode cX3_yardOf 5 = .ok (.aload_n 0, 1) := dk_42 (dk_at dksX3_yardOf_0 5 rfl rfl)
theorem dX3_yardOf_6 : decode cX3_yardOf 6 = .ok (.getfield 7, 3) := dk_180 0 7 (dk_at dksX3_yardOf_0 6 rfl rfl)
theorem dX3_yardOf_9 : decode cX3_yardOf 9 = .ok (.iconst 0, 1) := dk_3 (dk_at dksX3_yardOf_0 9 rfl rfl)
theorem dX3_yardOf_10 : decode cX3_yardOf 10 = .ok (.iaload, 1) := dk_46 (dk_at dksX3_yardOf_0 10 rfl rfl)
theorem dX3_yardOf_11 : decode cX3_yardOf 11 = .ok (.if_icmp .ge 32, 3) := dk_162 0 32 (dk_at dksX3_yardOf_0 11 rfl rfl)
theorem dX3_yardOf_14 : decode cX3_yardOf 14 = .ok (.iload_n 2, 1) := dk_28 (dk_at dksX3_yardOf_0 14 rfl rfl)
theorem dX3_yardOf_15 : decode cX3_yardOf 15 = .ok (.aload_n 0, 1) := dk_42 (dk_at dksX3_yardOf_0 15 rfl rfl)
theorem dX3_yardOf_16 : decode cX3_yardOf 16 = .ok (.iload_n 3, 1) := dk_29 (dk_at dksX3_yardOf_0 16 rfl rfl)
theorem dX3_yardOf_17 : decode cX3_yardOf 17 = .ok (.iconst 0, 1) := dk_3 (dk_at dksX3_yardOf_0 17 rfl rfl)
theorem dX3_yardOf_18 : decode cX3_yardOf 18 = .ok (.invokevirtual 46, 3) := dk_182 0 46 (dk_at dksX3_yardOf_0 18 rfl rfl)
theorem dX3_yardOf_21 : decode cX3_yardOf 21 = .ok (.iload_n 1, 1) := dk_27 (dk_at dksX3_yardOf_0 21 rfl rfl)
theorem dX3_yardOf_22 : decode cX3_yardOf 22 = .ok (.if_icmp .ne 12, 3) := dk_160 0 12 (dk_at dksX3_yardOf_1 0 rfl rfl)
theorem dX3_yardOf_25 : decode cX3_yardOf 25 = .ok (.aload_n 0, 1) := dk_42 (dk_at dksX3_yardOf_1 3 rfl rfl)
theorem dX3_yardOf_26 : decode cX3_yardOf 26 = .ok (.iload_n 3, 1) := dk_29 (dk_at dksX3_yardOf_1 4 rfl rfl)
theorem dX3_yardOf_27 : decode cX3_yardOf 27 = .ok (.iconst 4, 1) := dk_7 (dk_at dksX3_yardOf_1 5 rfl rfl)
theorem dX3_yardOf_28 : decode cX3_yardOf 28 = .ok (.invokevirtual 46, 3) := dk_182 0 46 (dk_at dksX3_yardOf_1 6 rfl rfl)
theorem dX3_yardOf_31 : decode cX3_yardOf 31 = .ok (.goto 4, 3) := dk_167 0 4 (dk_at dksX3_yardOf_1 9 rfl rfl)
theorem dX3_yardOf_34 : decode cX3_yardOf 34 = .ok (.iconst 0, 1) := dk_3 (dk_at dksX3_yardOf_1 12 rfl rfl)
theorem dX3_yardOf_35 : decode cX3_yardOf 35 = .ok (.iadd, 1) := dk_96 (dk_at dksX3_yardOf_1 13 rfl rfl)
theorem dX3_yardOf_36 : decode cX3_yardOf 36 = .ok (.istore_n 2, 1) := dk_61 (dk_at dksX3_yardOf_1 14 rfl rfl)
theorem dX3_yardOf_37 : decode cX3_yardOf 37 = .ok (.iinc 3 1, 3) := dk_132 3 1 (dk_at dksX3_yardOf_1 15 rfl rfl)
theorem dX3_yardOf_40 : decode cX3_yardOf 40 = .ok (.goto (-36), 3) := dk_167 255 220 (dk_at dksX3_yardOf_1 18 rfl rfl)
theorem dX3_yardOf_43 : decode cX3_yardOf 43 = .ok (.iload_n 2, 1) := dk_28 (dk_at dksX3_yardOf_1 21 rfl rfl)
theorem dX3_yardOf_44 : decode cX3_yardOf 44 = .ok (.ireturn, 1) := dk_172 (dk_at dksX3_yardOf_1 22 rfl rfl)
abbrev cX3_swap : ByteArray := prog_23_method_44_code
def yX3_swap : MethodName := ⟨RX3, "swap", "(III)I"⟩
def dkwX3_swap_8 : List UInt8 := [96, 46, 100, 172]
abbrev dktX3_swap_8 : List UInt8 := dkwX3_swap_8 ++ []
def dkwX3_swap_7 : List UInt8 := [17, 0, 219, 16, 8, 27, 104, 96, 28, 96, 46, 42, 180, 0, 7, 17, 0, 219, 16, 8, 28, 104, 96, 27]
abbrev dktX3_swap_7 : List UInt8 := dkwX3_swap_7 ++ dktX3_swap_8
def dkwX3_swap_6 : List UInt8 := [180, 0, 7, 17, 0, 219, 16, 8, 27, 104, 96, 28, 96, 92, 46, 29, 96, 79, 42, 180, 0, 7]
abbrev dktX3_swap_6 : List UInt8 := dkwX3_swap_6 ++ dktX3_swap_7
def dkwX3_swap_5 : List UInt8 := [184, 0, 39, 92, 46, 29, 96, 79, 42, 180, 0, 7, 28, 16, 9, 184, 0, 39, 92, 46, 29, 100, 79, 42]
abbrev dktX3_swap_5 : List UInt8 := dkwX3_swap_5 ++ dktX3_swap_6
def dkwX3_swap_4 : List UInt8 := [29, 100, 79, 42, 180, 0, 7, 28, 4, 184, 0, 39, 92, 46, 29, 96, 79, 42, 180, 0, 7, 27, 16, 9]
abbrev dktX3_swap_4 : List UInt8 := dkwX3_swap_4 ++ dktX3_swap_5
def dkwX3_swap_3 : List UInt8 := [162, 0, 9, 42, 6, 182, 0, 49, 172, 42, 182, 0, 53, 42, 180, 0, 7, 27, 4, 184, 0, 39, 92, 46]
abbrev dktX3_swap_3 : List UInt8 := dkwX3_swap_3 ++ dktX3_swap_4
def dkwX3_swap_2 : List UInt8 := [29, 4, 17, 19, 136, 184, 0, 35, 154, 0, 9, 42, 5, 182, 0, 49, 172, 42, 27, 4, 182, 0, 46, 29]
abbrev dktX3_swap_2 : List UInt8 := dkwX3_swap_2 ++ dktX3_swap_3
def dkwX3_swap_1 : List UInt8 := [182, 0, 49, 172, 27, 28, 159, 0, 29, 42, 27, 3, 182, 0, 46, 42, 28, 3, 182, 0, 46, 160, 0, 14]
abbrev dktX3_swap_1 : List UInt8 := dkwX3_swap_1 ++ dktX3_swap_2
def dkwX3_swap_0 : List UInt8 := [42, 3, 181, 0, 28, 42, 27, 182, 0, 85, 153, 0, 11, 42, 28, 182, 0, 85, 154, 0, 9, 42, 4]
abbrev dktX3_swap_0 : List UInt8 := dkwX3_swap_0 ++ dktX3_swap_1
theorem dksX3_swap_0 : cX3_swap.data.toList.drop 0 = dktX3_swap_0 := by decide +kernel
theorem dksX3_swap_1 : cX3_swap.data.toList.drop 23 = dktX3_swap_1 := dk_seg dksX3_swap_0 23 rfl rfl
theorem dksX3_swap_2 : cX3_swap.data.toList.drop 47 = dktX3_swap_2 := dk_seg dksX3_swap_1 24 rfl rfl
theorem dksX3_swap_3 : cX3_swap.data.toList.drop 71 = dktX3_swap_3 := dk_seg dksX3_swap_2 24 rfl rfl
theorem dksX3_swap_4 : cX3_swap.data.toList.drop 95 = dktX3_swap_4 := dk_seg dksX3_swap_3 24 rfl rfl
theorem dksX3_swap_5 : cX3_swap.data.toList.drop 119 = dktX3_swap_5 := dk_seg dksX3_swap_4 24 rfl rfl
theorem dksX3_swap_6 : cX3_swap.data.toList.drop 143 = dktX3_swap_6 := dk_seg dksX3_swap_5 24 rfl rfl
theorem dksX3_swap_7 : cX3_swap.data.toList.drop 165 = dktX3_swap_7 := dk_seg dksX3_swap_6 22 rfl rfl
theorem dksX3_swap_8 : cX3_swap.data.toList.drop 189 = dktX3_swap_8 := dk_seg dksX3_swap_7 24 rfl rfl
theorem dX3_swap_0 : decode cX3_swap 0 = .ok (.aload_n 0, 1) := dk_42 (dk_at dksX3_swap_0 0 rfl rfl)
theorem dX3_swap_1 : decode cX3_swap 1 = .ok (.iconst 0, 1) := dk_3 (dk_at dksX3_swap_0 1 rfl rfl)
theorem dX3_swap_2 : decode cX3_swap 2 = .ok (.putfield 28, 3) := dk_181 0 28 (dk_at dksX3_swap_0 2 rfl rfl)
theorem dX3_swap_5 : decode cX3_swap 5 = .ok (.aload_n 0, 1) := dk_42 (dk_at dksX3_swap_0 5 rfl rfl)
theorem dX3_swap_6 : decode cX3_swap 6 = .ok (.iload_n 1, 1) := dk_27 (dk_at dksX3_swap_0 6 rfl rfl)
theorem dX3_swap_7 : decode cX3_swap 7 = .ok (.invokevirtual 85, 3) := dk_182 0 85 (dk_at dksX3_swap_0 7 rfl rfl)
theorem dX3_swap_10 : decode cX3_swap 10 = .ok (.ifCond .eq 11, 3) := dk_153 0 11 (dk_at dksX3_swap_0 10 rfl rfl)
theorem dX3_swap_13 : decode cX3_swap 13 = .ok (.aload_n 0, 1) := dk_42 (dk_at dksX3_swap_0 13 rfl rfl)
theorem dX3_swap_14 : decode cX3_swap 14 = .ok (.iload_n 2, 1) := dk_28 (dk_at dksX3_swap_0 14 rfl rfl)
theorem dX3_swap_15 : decode cX3_swap 15 = .ok (.invokevirtual 85, 3) := dk_182 0 85 (dk_at dksX3_swap_0 15 rfl rfl)
theorem dX3_swap_18 : decode cX3_swap 18 = .ok (.ifCond .ne 9, 3) := dk_154 0 9 (dk_at dksX3_swap_0 18 rfl rfl)
theorem dX3_swap_21 : decode cX3_swap 21 = .ok (.aload_n 0, 1) := dk_42 (dk_at dksX3_swap_0 21 rfl rfl)
theorem dX3_swap_22 : decode cX3_swap 22 = .ok (.iconst 1, 1) := dk_4 (dk_at dksX3_swap_0 22 rfl rfl)
theorem dX3_swap_23 : decode cX3_swap 23 = .ok (.invokevirtual 49, 3) := dk_182 0 49 (dk_at dksX3_swap_1 0 rfl rfl)
theorem dX3_swap_26 : decode cX3_swap 26 = .ok (.ireturn, 1) := dk_172 (dk_at dksX3_swap_1 3 rfl rfl)
theorem dX3_swap_27 : decode cX3_swap 27 = .ok (.iload_n 1, 1) := dk_27 (dk_at dksX3_swap_1 4 rfl rfl)
theorem dX3_swap_28 : decode cX3_swap 28 = .ok (.iload_n 2, 1) := dk_28 (dk_at dksX3_swap_1 5 rfl rfl)
theorem dX3_swap_29 : decode cX3_swap 29 = .ok (.if_icmp .eq 29, 3) := dk_159 0 29 (dk_at dksX3_swap_1 6 rfl rfl)
theorem dX3_swap_32 : decode cX3_swap 32 = .ok (.aload_n 0, 1) := dk_42 (dk_at dksX3_swap_1 9 rfl rfl)
theorem dX3_swap_33 : decode cX3_swap 33 = .ok (.iload_n 1, 1) := dk_27 (dk_at dksX3_swap_1 10 rfl rfl)
theorem dX3_swap_34 : decode cX3_swap 34 = .ok (.iconst 0, 1) := dk_3 (dk_at dksX3_swap_1 11 rfl rfl)
theorem dX3_swap_35 : decode cX3_swap 35 = .ok (.invokevirtual 46, 3) := dk_182 0 46 (dk_at dksX3_swap_1 12 rfl rfl)
theorem dX3_swap_38 : decode cX3_swap 38 = .ok (.aload_n 0, 1) := dk_42 (dk_at dksX3_swap_1 15 rfl rfl)
theorem dX3_swap_39 : decode cX3_swap 39 = .ok (.iload_n 2, 1) := dk_28 (dk_at dksX3_swap_1 16 rfl rfl)
theorem dX3_swap_40 : decode cX3_swap 40 = .ok (.iconst 0, 1) := dk_3 (dk_at dksX3_swap_1 17 rfl rfl)
theorem dX3_swap_41 : decode cX3_swap 41 = .ok (.invokevirtual 46, 3) := dk_182 0 46 (dk_at dksX3_swap_1 18 rfl rfl)
theorem dX3_swap_44 : decode cX3_swap 44 = .ok (.if_icmp .ne 14, 3) := dk_160 0 14 (dk_at dksX3_swap_1 21 rfl rfl)
theorem dX3_swap_47 : decode cX3_swap 47 = .ok (.iload_n 3, 1) := dk_29 (dk_at dksX3_swap_2 0 rfl rfl)
theorem dX3_swap_48 : decode cX3_swap 48 = .ok (.iconst 1, 1) := dk_4 (dk_at dksX3_swap_2 1 rfl rfl)
theorem dX3_swap_49 : decode cX3_swap 49 = .ok (.sipush 5000, 3) := dk_17 19 136 (dk_at dksX3_swap_2 2 rfl rfl)
theorem dX3_swap_52 : decode cX3_swap 52 = .ok (.invokestatic 35, 3) := dk_184 0 35 (dk_at dksX3_swap_2 5 rfl rfl)
theorem dX3_swap_55 : decode cX3_swap 55 = .ok (.ifCond .ne 9, 3) := dk_154 0 9 (dk_at dksX3_swap_2 8 rfl rfl)
theorem dX3_swap_58 : decode cX3_swap 58 = .ok (.aload_n 0, 1) := dk_42 (dk_at dksX3_swap_2 11 rfl rfl)
theorem dX3_swap_59 : decode cX3_swap 59 = .ok (.iconst 2, 1) := dk_5 (dk_at dksX3_swap_2 12 rfl rfl)
theorem dX3_swap_60 : decode cX3_swap 60 = .ok (.invokevirtual 49, 3) := dk_182 0 49 (dk_at dksX3_swap_2 13 rfl rfl)
theorem dX3_swap_63 : decode cX3_swap 63 = .ok (.ireturn, 1) := dk_172 (dk_at dksX3_swap_2 16 rfl rfl)
theorem dX3_swap_64 : decode cX3_swap 64 = .ok (.aload_n 0, 1) := dk_42 (dk_at dksX3_swap_2 17 rfl rfl)
theorem dX3_swap_65 : decode cX3_swap 65 = .ok (.iload_n 1, 1) := dk_27 (dk_at dksX3_swap_2 18 rfl rfl)
theorem dX3_swap_66 : decode cX3_swap 66 = .ok (.iconst 1, 1) := dk_4 (dk_at dksX3_swap_2 19 rfl rfl)
theorem dX3_swap_67 : decode cX3_swap 67 = .ok (.invokevirtual 46, 3) := dk_182 0 46 (dk_at dksX3_swap_2 20 rfl rfl)
theorem dX3_swap_70 : decode cX3_swap 70 = .ok (.iload_n 3, 1) := dk_29 (dk_at dksX3_swap_2 23 rfl rfl)
theorem dX3_swap_71 : decode cX3_swap 71 = .ok (.if_icmp .ge 9, 3) := dk_162 0 9 (dk_at dksX3_swap_3 0 rfl rfl)
theorem dX3_swap_74 : decode cX3_swap 74 = .ok (.aload_n 0, 1) := dk_42 (dk_at dksX3_swap_3 3 rfl rfl)
theorem dX3_swap_75 : decode cX3_swap 75 = .ok (.iconst 3, 1) := dk_6 (dk_at dksX3_swap_3 4 rfl rfl)
theorem dX3_swap_76 : decode cX3_swap 76 = .ok (.invokevirtual 49, 3) := dk_182 0 49 (dk_at dksX3_swap_3 5 rfl rfl)
theorem dX3_swap_79 : decode cX3_swap 79 = .ok (.ireturn, 1) := dk_172 (dk_at dksX3_swap_3 8 rfl rfl)
theorem dX3_swap_80 : decode cX3_swap 80 = .ok (.aload_n 0, 1) := dk_42 (dk_at dksX3_swap_3 9 rfl rfl)
theorem dX3_swap_81 : decode cX3_swap 81 = .ok (.invokevirtual 53, 3) := dk_182 0 53 (dk_at dksX3_swap_3 10 rfl rfl)
theorem dX3_swap_84 : decode cX3_swap 84 = .ok (.aload_n 0, 1) := dk_42 (dk_at dksX3_swap_3 13 rfl rfl)
theorem dX3_swap_85 : decode cX3_swap 85 = .ok (.getfield 7, 3) := dk_180 0 7 (dk_at dksX3_swap_3 14 rfl rfl)
theorem dX3_swap_88 : decode cX3_swap 88 = .ok (.iload_n 1, 1) := dk_27 (dk_at dksX3_swap_3 17 rfl rfl)
theorem dX3_swap_89 : decode cX3_swap 89 = .ok (.iconst 1, 1) := dk_4 (dk_at dksX3_swap_3 18 rfl rfl)
theorem dX3_swap_90 : decode cX3_swap 90 = .ok (.invokestatic 39, 3) := dk_184 0 39 (dk_at dksX3_swap_3 19 rfl rfl)
theorem dX3_swap_93 : decode cX3_swap 93 = .ok (.dup2, 1) := dk_92 (dk_at dksX3_swap_3 22 rfl rfl)
theorem dX3_swap_94 : decode cX3_swap 94 = .ok (.iaload, 1) := dk_46 (dk_at dksX3_swap_3 23 rfl rfl)
theorem dX3_swap_95 : decode cX3_swap 95 = .ok (.iload_n 3, 1) := dk_29 (dk_at dksX3_swap_4 0 rfl rfl)
theorem dX3_swap_96 : decode cX3_swap 96 = .ok (.isub, 1) := dk_100 (dk_at dksX3_swap_4 1 rfl rfl)
theorem dX3_swap_97 : decode cX3_swap 97 = .ok (.iastore, 1) := dk_79 (dk_at dksX3_swap_4 2 rfl rfl)
theorem dX3_swap_98 : decode cX3_swap 98 = .ok (.aload_n 0, 1) := dk_42 (dk_at dksX3_swap_4 3 rfl rfl)
theorem dX3_swap_99 : decode cX3_swap 99 = .ok (.getfield 7, 3) := dk_180 0 7 (dk_at dksX3_swap_4 4 rfl rfl)
theorem dX3_swap_102 : decode cX3_swap 102 = .ok (.iload_n 2, 1) := dk_28 (dk_at dksX3_swap_4 7 rfl rfl)
theorem dX3_swap_103 : decode cX3_swap 103 = .ok (.iconst 1, 1) := dk_4 (dk_at dksX3_swap_4 8 rfl rfl)
theorem dX3_swap_104 : decode cX3_swap 104 = .ok (.invokestatic 39, 3) := dk_184 0 39 (dk_at dksX3_swap_4 9 rfl rfl)
theorem dX3_swap_107 : decode cX3_swap 107 = .ok (.dup2, 1) := dk_92 (dk_at dksX3_swap_4 12 rfl rfl)
theorem dX3_swap_108 : decode cX3_swap 108 = .ok (.iaload, 1) := dk_46 (dk_at dksX3_swap_4 13 rfl rfl)
theorem dX3_swap_109 : decode cX3_swap 109 = .ok (.iload_n 3, 1) := dk_29 (dk_at dksX3_swap_4 14 rfl rfl)
theorem dX3_swap_110 : decode cX3_swap 110 = .ok (.iadd, 1) := dk_96 (dk_at dksX3_swap_4 15 rfl rfl)
theorem dX3_swap_111 : decode cX3_swap 111 = .ok (.iastore, 1) := dk_79 (dk_at dksX3_swap_4 16 rfl rfl)
theorem dX3_swap_112 : decode cX3_swap 112 = .ok (.aload_n 0, 1) := dk_42 (dk_at dksX3_swap_4 17 rfl rfl)
theorem dX3_swap_113 : decode cX3_swap 113 = .ok (.getfield 7, 3) := dk_180 0 7 (dk_at dksX3_swap_4 18 rfl rfl)
theorem dX3_swap_116 : decode cX3_swap 116 = .ok (.iload_n 1, 1) := dk_27 (dk_at dksX3_swap_4 21 rfl rfl)
theorem dX3_swap_117 : decode cX3_swap 117 = .ok (.bipush 9, 2) := dk_16 9 (dk_at dksX3_swap_4 22 rfl rfl)
theorem dX3_swap_119 : decode cX3_swap 119 = .ok (.invokestatic 39, 3) := dk_184 0 39 (dk_at dksX3_swap_5 0 rfl rfl)
theorem dX3_swap_122 : decode cX3_swap 122 = .ok (.dup2, 1) := dk_92 (dk_at dksX3_swap_5 3 rfl rfl)
theorem dX3_swap_123 : decode cX3_swap 123 = .ok (.iaload, 1) := dk_46 (dk_at dksX3_swap_5 4 rfl rfl)
theorem dX3_swap_124 : decode cX3_swap 124 = .ok (.iload_n 3, 1) := dk_29 (dk_at dksX3_swap_5 5 rfl rfl)
theorem dX3_swap_125 : decode cX3_swap 125 = .ok (.iadd, 1) := dk_96 (dk_at dksX3_swap_5 6 rfl rfl)
theorem dX3_swap_126 : decode cX3_swap 126 = .ok (.iastore, 1) := dk_79 (dk_at dksX3_swap_5 7 rfl rfl)
theorem dX3_swap_127 : decode cX3_swap 127 = .ok (.aload_n 0, 1) := dk_42 (dk_at dksX3_swap_5 8 rfl rfl)
theorem dX3_swap_128 : decode cX3_swap 128 = .ok (.getfield 7, 3) := dk_180 0 7 (dk_at dksX3_swap_5 9 rfl rfl)
theorem dX3_swap_131 : decode cX3_swap 131 = .ok (.iload_n 2, 1) := dk_28 (dk_at dksX3_swap_5 12 rfl rfl)
theorem dX3_swap_132 : decode cX3_swap 132 = .ok (.bipush 9, 2) := dk_16 9 (dk_at dksX3_swap_5 13 rfl rfl)
theorem dX3_swap_134 : decode cX3_swap 134 = .ok (.invokestatic 39, 3) := dk_184 0 39 (dk_at dksX3_swap_5 15 rfl rfl)
theorem dX3_swap_137 : decode cX3_swap 137 = .ok (.dup2, 1) := dk_92 (dk_at dksX3_swap_5 18 rfl rfl)
theorem dX3_swap_138 : decode cX3_swap 138 = .ok (.iaload, 1) := dk_46 (dk_at dksX3_swap_5 19 rfl rfl)
theorem dX3_swap_139 : decode cX3_swap 139 = .ok (.iload_n 3, 1) := dk_29 (dk_at dksX3_swap_5 20 rfl rfl)
theorem dX3_swap_140 : decode cX3_swap 140 = .ok (.isub, 1) := dk_100 (dk_at dksX3_swap_5 21 rfl rfl)
theorem dX3_swap_141 : decode cX3_swap 141 = .ok (.iastore, 1) := dk_79 (dk_at dksX3_swap_5 22 rfl rfl)
theorem dX3_swap_142 : decode cX3_swap 142 = .ok (.aload_n 0, 1) := dk_42 (dk_at dksX3_swap_5 23 rfl rfl)
theorem dX3_swap_143 : decode cX3_swap 143 = .ok (.getfield 7, 3) := dk_180 0 7 (dk_at dksX3_swap_6 0 rfl rfl)
theorem dX3_swap_146 : decode cX3_swap 146 = .ok (.sipush 219, 3) := dk_17 0 219 (dk_at dksX3_swap_6 3 rfl rfl)
theorem dX3_swap_149 : decode cX3_swap 149 = .ok (.bipush 8, 2) := dk_16 8 (dk_at dksX3_swap_6 6 rfl rfl)
theorem dX3_swap_151 : decode cX3_swap 151 = .ok (.iload_n 1, 1) := dk_27 (dk_at dksX3_swap_6 8 rfl rfl)
theorem dX3_swap_152 : decode cX3_swap 152 = .ok (.imul, 1) := dk_104 (dk_at dksX3_swap_6 9 rfl rfl)
theorem dX3_swap_153 : decode cX3_swap 153 = .ok (.iadd, 1) := dk_96 (dk_at dksX3_swap_6 10 rfl rfl)
theorem dX3_swap_154 : decode cX3_swap 154 = .ok (.iload_n 2, 1) := dk_28 (dk_at dksX3_swap_6 11 rfl rfl)
theorem dX3_swap_155 : decode cX3_swap 155 = .ok (.iadd, 1) := dk_96 (dk_at dksX3_swap_6 12 rfl rfl)
theorem dX3_swap_156 : decode cX3_swap 156 = .ok (.dup2, 1) := dk_92 (dk_at dksX3_swap_6 13 rfl rfl)
theorem dX3_swap_157 : decode cX3_swap 157 = .ok (.iaload, 1) := dk_46 (dk_at dksX3_swap_6 14 rfl rfl)
theorem dX3_swap_158 : decode cX3_swap 158 = .ok (.iload_n 3, 1) := dk_29 (dk_at dksX3_swap_6 15 rfl rfl)
theorem dX3_swap_159 : decode cX3_swap 159 = .ok (.iadd, 1) := dk_96 (dk_at dksX3_swap_6 16 rfl rfl)
theorem dX3_swap_160 : decode cX3_swap 160 = .ok (.iastore, 1) := dk_79 (dk_at dksX3_swap_6 17 rfl rfl)
theorem dX3_swap_161 : decode cX3_swap 161 = .ok (.aload_n 0, 1) := dk_42 (dk_at dksX3_swap_6 18 rfl rfl)
theorem dX3_swap_162 : decode cX3_swap 162 = .ok (.getfield 7, 3) := dk_180 0 7 (dk_at dksX3_swap_6 19 rfl rfl)
theorem dX3_swap_165 : decode cX3_swap 165 = .ok (.sipush 219, 3) := dk_17 0 219 (dk_at dksX3_swap_7 0 rfl rfl)
theorem dX3_swap_168 : decode cX3_swap 168 = .ok (.bipush 8, 2) := dk_16 8 (dk_at dksX3_swap_7 3 rfl rfl)
theorem dX3_swap_170 : decode cX3_swap 170 = .ok (.iload_n 1, 1) := dk_27 (dk_at dksX3_swap_7 5 rfl rfl)
theorem dX3_swap_171 : decode cX3_swap 171 = .ok (.imul, 1) := dk_104 (dk_at dksX3_swap_7 6 rfl rfl)
theorem dX3_swap_172 : decode cX3_swap 172 = .ok (.iadd, 1) := dk_96 (dk_at dksX3_swap_7 7 rfl rfl)
theorem dX3_swap_173 : decode cX3_swap 173 = .ok (.iload_n 2, 1) := dk_28 (dk_at dksX3_swap_7 8 rfl rfl)
theorem dX3_swap_174 : decode cX3_swap 174 = .ok (.iadd, 1) := dk_96 (dk_at dksX3_swap_7 9 rfl rfl)
theorem dX3_swap_175 : decode cX3_swap 175 = .ok (.iaload, 1) := dk_46 (dk_at dksX3_swap_7 10 rfl rfl)
theorem dX3_swap_176 : decode cX3_swap 176 = .ok (.aload_n 0, 1) := dk_42 (dk_at dksX3_swap_7 11 rfl rfl)
theorem dX3_swap_177 : decode cX3_swap 177 = .ok (.getfield 7, 3) := dk_180 0 7 (dk_at dksX3_swap_7 12 rfl rfl)
theorem dX3_swap_180 : decode cX3_swap 180 = .ok (.sipush 219, 3) := dk_17 0 219 (dk_at dksX3_swap_7 15 rfl rfl)
theorem dX3_swap_183 : decode cX3_swap 183 = .ok (.bipush 8, 2) := dk_16 8 (dk_at dksX3_swap_7 18 rfl rfl)
theorem dX3_swap_185 : decode cX3_swap 185 = .ok (.iload_n 2, 1) := dk_28 (dk_at dksX3_swap_7 20 rfl rfl)
theorem dX3_swap_186 : decode cX3_swap 186 = .ok (.imul, 1) := dk_104 (dk_at dksX3_swap_7 21 rfl rfl)
theorem dX3_swap_187 : decode cX3_swap 187 = .ok (.iadd, 1) := dk_96 (dk_at dksX3_swap_7 22 rfl rfl)
theorem dX3_swap_188 : decode cX3_swap 188 = .ok (.iload_n 1, 1) := dk_27 (dk_at dksX3_swap_7 23 rfl rfl)
theorem dX3_swap_189 : decode cX3_swap 189 = .ok (.iadd, 1) := dk_96 (dk_at dksX3_swap_8 0 rfl rfl)
theorem dX3_swap_190 : decode cX3_swap 190 = .ok (.iaload, 1) := dk_46 (dk_at dksX3_swap_8 1 rfl rfl)
theorem dX3_swap_191 : decode cX3_swap 191 = .ok (.isub, 1) := dk_100 (dk_at dksX3_swap_8 2 rfl rfl)
theorem dX3_swap_192 : decode cX3_swap 192 = .ok (.ireturn, 1) := dk_172 (dk_at dksX3_swap_8 3 rfl rfl)
abbrev cX3_append : ByteArray := prog_23_method_45_code
def yX3_append : MethodName := ⟨RX3, "append", "(I)I"⟩
def dkwX3_append_2 : List UInt8 := [42, 89, 180, 0, 129, 4, 96, 181, 0, 129, 42, 180, 0, 129, 172]
abbrev dktX3_append_2 : List UInt8 := dkwX3_append_2 ++ []
def dkwX3_append_1 : List UInt8 := [180, 0, 129, 16, 60, 160, 0, 9, 42, 5, 182, 0, 49, 172, 42, 180, 0, 19, 42, 180, 0, 129, 27, 79]
abbrev dktX3_append_1 : List UInt8 := dkwX3_append_1 ++ dktX3_append_2
def dkwX3_append_0 : List UInt8 := [42, 3, 181, 0, 28, 27, 16, 33, 16, 126, 184, 0, 35, 154, 0, 9, 42, 4, 182, 0, 49, 172, 42]
abbrev dktX3_append_0 : List UInt8 := dkwX3_append_0 ++ dktX3_append_1
theorem dksX3_append_0 : cX3_append.data.toList.drop 0 = dktX3_append_0 := by decide +kernel
theorem dksX3_append_1 : cX3_append.data.toList.drop 23 = dktX3_append_1 := dk_seg dksX3_append_0 23 rfl rfl
theorem dksX3_append_2 : cX3_append.data.toList.drop 47 = dktX3_append_2 := dk_seg dksX3_append_1 24 rfl rfl
theorem dX3_append_0 : decode cX3_append 0 = .ok (.aload_n 0, 1) := dk_42 (dk_at dksX3_append_0 0 rfl rfl)
theorem dX3_append_1 : decode cX3_append 1 = .ok (.iconst 0, 1) := dk_3 (dk_at dksX3_append_0 1 rfl rfl)
theorem dX3_append_2 : decode cX3_append 2 = .ok (.putfield 28, 3) := dk_181 0 28 (dk_at dksX3_append_0 2 rfl rfl)
theorem dX3_append_5 : decode cX3_append 5 = .ok (.iload_n 1, 1) := dk_27 (dk_at dksX3_append_0 5 rfl rfl)
theorem dX3_append_6 : decode cX3_append 6 = .ok (.bipush 33, 2) := dk_16 33 (dk_at dksX3_append_0 6 rfl rfl)
theorem dX3_append_8 : decode cX3_append 8 = .ok (.bipush 126, 2) := dk_16 126 (dk_at dksX3_append_0 8 rfl rfl)
theorem dX3_append_10 : decode cX3_append 10 = .ok (.invokestatic 35, 3) := dk_184 0 35 (dk_at dksX3_append_0 10 rfl rfl)
theorem dX3_append_13 : decode cX3_append 13 = .ok (.ifCond .ne 9, 3) := dk_154 0 9 (dk_at dksX3_append_0 13 rfl rfl)
theorem dX3_append_16 : decode cX3_append 16 = .ok (.aload_n 0, 1) := dk_42 (dk_at dksX3_append_0 16 rfl rfl)
theorem dX3_append_17 : decode cX3_append 17 = .ok (.iconst 1, 1) := dk_4 (dk_at dksX3_append_0 17 rfl rfl)
theorem dX3_append_18 : decode cX3_append 18 = .ok (.invokevirtual 49, 3) := dk_182 0 49 (dk_at dksX3_append_0 18 rfl rfl)
theorem dX3_append_21 : decode cX3_append 21 = .ok (.ireturn, 1) := dk_172 (dk_at dksX3_append_0 21 rfl rfl)
theorem dX3_append_22 : decode cX3_append 22 = .ok (.aload_n 0, 1) := dk_42 (dk_at dksX3_append_0 22 rfl rfl)
theorem dX3_append_23 : decode cX3_append 23 = .ok (.getfield 129, 3) := dk_180 0 129 (dk_at dksX3_append_1 0 rfl rfl)
theorem dX3_append_26 : decode cX3_append 26 = .ok (.bipush 60, 2) := dk_16 60 (dk_at dksX3_append_1 3 rfl rfl)
theorem dX3_append_28 : decode cX3_append 28 = .ok (.if_icmp .ne 9, 3) := dk_160 0 9 (dk_at dksX3_append_1 5 rfl rfl)
theorem dX3_append_31 : decode cX3_append 31 = .ok (.aload_n 0, 1) := dk_42 (dk_at dksX3_append_1 8 rfl rfl)
theorem dX3_append_32 : decode cX3_append 32 = .ok (.iconst 2, 1) := dk_5 (dk_at dksX3_append_1 9 rfl rfl)
theorem dX3_append_33 : decode cX3_append 33 = .ok (.invokevirtual 49, 3) := dk_182 0 49 (dk_at dksX3_append_1 10 rfl rfl)
theorem dX3_append_36 : decode cX3_append 36 = .ok (.ireturn, 1) := dk_172 (dk_at dksX3_append_1 13 rfl rfl)
theorem dX3_append_37 : decode cX3_append 37 = .ok (.aload_n 0, 1) := dk_42 (dk_at dksX3_append_1 14 rfl rfl)
theorem dX3_append_38 : decode cX3_append 38 = .ok (.getfield 19, 3) := dk_180 0 19 (dk_at dksX3_append_1 15 rfl rfl)
theorem dX3_append_41 : decode cX3_append 41 = .ok (.aload_n 0, 1) := dk_42 (dk_at dksX3_append_1 18 rfl rfl)
theorem dX3_append_42 : decode cX3_append 42 = .ok (.getfield 129, 3) := dk_180 0 129 (dk_at dksX3_append_1 19 rfl rfl)
theorem dX3_append_45 : decode cX3_append 45 = .ok (.iload_n 1, 1) := dk_27 (dk_at dksX3_append_1 22 rfl rfl)
theorem dX3_append_46 : decode cX3_append 46 = .ok (.iastore, 1) := dk_79 (dk_at dksX3_append_1 23 rfl rfl)
theorem dX3_append_47 : decode cX3_append 47 = .ok (.aload_n 0, 1) := dk_42 (dk_at dksX3_append_2 0 rfl rfl)
theorem dX3_append_48 : decode cX3_append 48 = .ok (.dup, 1) := dk_89 (dk_at dksX3_append_2 1 rfl rfl)
theorem dX3_append_49 : decode cX3_append 49 = .ok (.getfield 129, 3) := dk_180 0 129 (dk_at dksX3_append_2 2 rfl rfl)
theorem dX3_append_52 : decode cX3_append 52 = .ok (.iconst 1, 1) := dk_4 (dk_at dksX3_append_2 5 rfl rfl)
theorem dX3_append_53 : decode cX3_append 53 = .ok (.iadd, 1) := dk_96 (dk_at dksX3_append_2 6 rfl rfl)
theorem dX3_append_54 : decode cX3_append 54 = .ok (.putfield 129, 3) := dk_181 0 129 (dk_at dksX3_append_2 7 rfl rfl)
theorem dX3_append_57 : decode cX3_append 57 = .ok (.aload_n 0, 1) := dk_42 (dk_at dksX3_append_2 10 rfl rfl)
theorem dX3_append_58 : decode cX3_append 58 = .ok (.getfield 129, 3) := dk_180 0 129 (dk_at dksX3_append_2 11 rfl rfl)
theorem dX3_append_61 : decode cX3_append 61 = .ok (.ireturn, 1) := dk_172 (dk_at dksX3_append_2 14 rfl rfl)
abbrev cX3_clearBuffer : ByteArray := prog_23_method_46_code
def yX3_clearBuffer : MethodName := ⟨RX3, "clearBuffer", "()I"⟩
def dkwX3_clearBuffer_0 : List UInt8 := [42, 3, 181, 0, 28, 42, 180, 0, 129, 60, 42, 3, 181, 0, 129, 27, 172]
abbrev dktX3_clearBuffer_0 : List UInt8 := dkwX3_clearBuffer_0 ++ []
theorem dksX3_clearBuffer_0 : cX3_clearBuffer.data.toList.drop 0 = dktX3_clearBuffer_0 := by decide +kernel
theorem dX3_clearBuffer_0 : decode cX3_clearBuffer 0 = .ok (.aload_n 0, 1) := dk_42 (dk_at dksX3_clearBuffer_0 0 rfl rfl)
theorem dX3_clearBuffer_1 : decode cX3_clearBuffer 1 = .ok (.iconst 0, 1) := dk_3 (dk_at dksX3_clearBuffer_0 1 rfl rfl)
theorem dX3_clearBuffer_2 : decode cX3_clearBuffer 2 = .ok (.putfield 28, 3) := dk_181 0 28 (dk_at dksX3_clearBuffer_0 2 rfl rfl)
theorem dX3_clearBuffer_5 : decode cX3_clearBuffer 5 = .ok (.aload_n 0, 1) := dk_42 (dk_at dksX3_clearBuffer_0 5 rfl rfl)
theorem dX3_clearBuffer_6 : decode cX3_clearBuffer 6 = .ok (.getfield 129, 3) := dk_180 0 129 (dk_at dksX3_clearBuffer_0 6 rfl rfl)
theorem dX3_clearBuffer_9 : decode cX3_clearBuffer 9 = .ok (.istore_n 1, 1) := dk_60 (dk_at dksX3_clearBuffer_0 9 rfl rfl)
theorem dX3_clearBuffer_10 : decode cX3_clearBuffer 10 = .ok (.aload_n 0, 1) := dk_42 (dk_at dksX3_clearBuffer_0 10 rfl rfl)
theorem dX3_clearBuffer_11 : decode cX3_clearBuffer 11 = .ok (.iconst 0, 1) := dk_3 (dk_at dksX3_clearBuffer_0 11 rfl rfl)
theorem dX3_clearBuffer_12 : decode cX3_clearBuffer 12 = .ok (.putfield 129, 3) := dk_181 0 129 (dk_at dksX3_clearBuffer_0 12 rfl rfl)
theorem dX3_clearBuffer_15 : decode cX3_clearBuffer 15 = .ok (.iload_n 1, 1) := dk_27 (dk_at dksX3_clearBuffer_0 15 rfl rfl)
theorem dX3_clearBuffer_16 : decode cX3_clearBuffer 16 = .ok (.ireturn, 1) := dk_172 (dk_at dksX3_clearBuffer_0 16 rfl rfl)
abbrev cX3_firstError : ByteArray := prog_23_method_52_code
def yX3_firstError : MethodName := ⟨RX3, "firstError", "()I"⟩
def dkwX3_firstError_0 : List UInt8 := [42, 3, 181, 0, 28, 42, 182, 0, 167, 172]
abbrev dktX3_firstError_0 : List UInt8 := dkwX3_firstError_0 ++ []
theorem dksX3_firstError_0 : cX3_firstError.data.toList.drop 0 = dktX3_firstError_0 := by decide +kernel
theorem dX3_firstError_0 : decode cX3_firstError 0 = .ok (.aload_n 0, 1) := dk_42 (dk_at dksX3_firstError_0 0 rfl rfl)
theorem dX3_firstError_1 : decode cX3_firstError 1 = .ok (.iconst 0, 1) := dk_3 (dk_at dksX3_firstError_0 1 rfl rfl)
theorem dX3_firstError_2 : decode cX3_firstError 2 = .ok (.putfield 28, 3) := dk_181 0 28 (dk_at dksX3_firstError_0 2 rfl rfl)
theorem dX3_firstError_5 : decode cX3_firstError 5 = .ok (.aload_n 0, 1) := dk_42 (dk_at dksX3_firstError_0 5 rfl rfl)
theorem dX3_firstError_6 : decode cX3_firstError 6 = .ok (.invokevirtual 167, 3) := dk_182 0 167 (dk_at dksX3_firstError_0 6 rfl rfl)
theorem dX3_firstError_9 : decode cX3_firstError 9 = .ok (.ireturn, 1) := dk_172 (dk_at dksX3_firstError_0 9 rfl rfl)
abbrev cX3_reads : ByteArray := prog_23_method_51_code
def yX3_reads : MethodName := ⟨RX3, "reads", "()I"⟩
def dkwX3_reads_0 : List UInt8 := [42, 3, 181, 0, 132, 4, 60, 27, 153, 0, 11, 42, 182, 0, 163, 60, 167, 255, 247, 42, 180, 0, 132, 172]
abbrev dktX3_reads_0 : List UInt8 := dkwX3_reads_0 ++ []
theorem dksX3_reads_0 : cX3_reads.data.toList.drop 0 = dktX3_reads_0 := by decide +kernel
theorem dX3_reads_0 : decode cX3_reads 0 = .ok (.aload_n 0, 1) := dk_42 (dk_at dksX3_reads_0 0 rfl rfl)
theorem dX3_reads_1 : decode cX3_reads 1 = .ok (.iconst 0, 1) := dk_3 (dk_at dksX3_reads_0 1 rfl rfl)
theorem dX3_reads_2 : decode cX3_reads 2 = .ok (.putfield 132, 3) := dk_181 0 132 (dk_at dksX3_reads_0 2 rfl rfl)
theorem dX3_reads_5 : decode cX3_reads 5 = .ok (.iconst 1, 1) := dk_4 (dk_at dksX3_reads_0 5 rfl rfl)
theorem dX3_reads_6 : decode cX3_reads 6 = .ok (.istore_n 1, 1) := dk_60 (dk_at dksX3_reads_0 6 rfl rfl)
theorem dX3_reads_7 : decode cX3_reads 7 = .ok (.iload_n 1, 1) := dk_27 (dk_at dksX3_reads_0 7 rfl rfl)
theorem dX3_reads_8 : decode cX3_reads 8 = .ok (.ifCond .eq 11, 3) := dk_153 0 11 (dk_at dksX3_reads_0 8 rfl rfl)
theorem dX3_reads_11 : decode cX3_reads 11 = .ok (.aload_n 0, 1) := dk_42 (dk_at dksX3_reads_0 11 rfl rfl)
theorem dX3_reads_12 : decode cX3_reads 12 = .ok (.invokevirtual 163, 3) := dk_182 0 163 (dk_at dksX3_reads_0 12 rfl rfl)
theorem dX3_reads_15 : decode cX3_reads 15 = .ok (.istore_n 1, 1) := dk_60 (dk_at dksX3_reads_0 15 rfl rfl)
theorem dX3_reads_16 : decode cX3_reads 16 = .ok (.goto (-9), 3) := dk_167 255 247 (dk_at dksX3_reads_0 16 rfl rfl)
theorem dX3_reads_19 : decode cX3_reads 19 = .ok (.aload_n 0, 1) := dk_42 (dk_at dksX3_reads_0 19 rfl rfl)
theorem dX3_reads_20 : decode cX3_reads 20 = .ok (.getfield 132, 3) := dk_180 0 132 (dk_at dksX3_reads_0 20 rfl rfl)
theorem dX3_reads_23 : decode cX3_reads 23 = .ok (.ireturn, 1) := dk_172 (dk_at dksX3_reads_0 23 rfl rfl)
abbrev cX3_readOrder : ByteArray := prog_23_method_50_code
def yX3_readOrder : MethodName := ⟨RX3, "readOrder", "()Z"⟩
def dkwX3_readOrder_11 : List UInt8 := [167, 0, 4, 3, 172]
abbrev dktX3_readOrder_11 : List UInt8 := dkwX3_readOrder_11 ++ []
def dkwX3_readOrder_10 : List UInt8 := [167, 0, 4, 3, 181, 0, 141, 42, 180, 0, 141, 153, 0, 16, 42, 16, 59, 182, 0, 154, 153, 0, 7, 4]
abbrev dktX3_readOrder_10 : List UInt8 := dkwX3_readOrder_10 ++ dktX3_readOrder_11
def dkwX3_readOrder_9 : List UInt8 := [180, 0, 145, 16, 99, 160, 0, 8, 16, 50, 167, 0, 6, 17, 1, 244, 182, 0, 160, 153, 0, 7, 4]
abbrev dktX3_readOrder_9 : List UInt8 := dkwX3_readOrder_9 ++ dktX3_readOrder_10
def dkwX3_readOrder_8 : List UInt8 := [181, 0, 157, 42, 28, 153, 0, 44, 42, 16, 42, 182, 0, 154, 153, 0, 35, 42, 27, 154, 0, 12, 42]
abbrev dktX3_readOrder_8 : List UInt8 := dkwX3_readOrder_8 ++ dktX3_readOrder_9
def dkwX3_readOrder_7 : List UInt8 := [5, 167, 0, 5, 16, 7, 182, 0, 148, 153, 0, 7, 4, 167, 0, 4, 3, 61, 42, 42, 180, 0, 135]
abbrev dktX3_readOrder_7 : List UInt8 := dkwX3_readOrder_7 ++ dktX3_readOrder_8
def dkwX3_readOrder_6 : List UInt8 := [182, 0, 154, 153, 0, 37, 42, 27, 153, 0, 7, 8, 167, 0, 18, 42, 180, 0, 145, 16, 99, 160, 0, 7]
abbrev dktX3_readOrder_6 : List UInt8 := dkwX3_readOrder_6 ++ dktX3_readOrder_7
def dkwX3_readOrder_5 : List UInt8 := [42, 180, 0, 135, 181, 0, 151, 28, 153, 0, 55, 42, 27, 153, 0, 8, 16, 62, 167, 0, 5, 16, 58]
abbrev dktX3_readOrder_5 : List UInt8 := dkwX3_readOrder_5 ++ dktX3_readOrder_6
def dkwX3_readOrder_4 : List UInt8 := [180, 0, 132, 4, 96, 181, 0, 132, 42, 27, 153, 0, 8, 16, 7, 167, 0, 4, 8, 182, 0, 148, 61, 42]
abbrev dktX3_readOrder_4 : List UInt8 := dkwX3_readOrder_4 ++ dktX3_readOrder_5
def dkwX3_readOrder_3 : List UInt8 := [42, 180, 0, 145, 16, 98, 159, 0, 14, 42, 180, 0, 145, 16, 99, 159, 0, 5, 3, 172, 42, 89]
abbrev dktX3_readOrder_3 : List UInt8 := dkwX3_readOrder_3 ++ dktX3_readOrder_4
def dkwX3_readOrder_2 : List UInt8 := [3, 60, 27, 154, 0, 41, 42, 180, 0, 145, 16, 115, 159, 0, 32, 42, 180, 0, 145, 16, 114, 159, 0, 23]
abbrev dktX3_readOrder_2 : List UInt8 := dkwX3_readOrder_2 ++ dktX3_readOrder_3
def dkwX3_readOrder_1 : List UInt8 := [180, 0, 132, 46, 167, 0, 4, 3, 181, 0, 145, 42, 180, 0, 145, 16, 100, 160, 0, 7, 4, 167, 0, 4]
abbrev dktX3_readOrder_1 : List UInt8 := dkwX3_readOrder_1 ++ dktX3_readOrder_2
def dkwX3_readOrder_0 : List UInt8 := [42, 3, 181, 0, 141, 42, 42, 180, 0, 132, 42, 180, 0, 129, 162, 0, 15, 42, 180, 0, 19, 42]
abbrev dktX3_readOrder_0 : List UInt8 := dkwX3_readOrder_0 ++ dktX3_readOrder_1
theorem dksX3_readOrder_0 : cX3_readOrder.data.toList.drop 0 = dktX3_readOrder_0 := by decide +kernel
theorem dksX3_readOrder_1 : cX3_readOrder.data.toList.drop 22 = dktX3_readOrder_1 := dk_seg dksX3_readOrder_0 22 rfl rfl
theorem dksX3_readOrder_2 : cX3_readOrder.data.toList.drop 46 = dktX3_readOrder_2 := dk_seg dksX3_readOrder_1 24 rfl rfl
theorem dksX3_readOrder_3 : cX3_readOrder.data.toList.drop 70 = dktX3_readOrder_3 := dk_seg dksX3_readOrder_2 24 rfl rfl
theorem dksX3_readOrder_4 : cX3_readOrder.data.toList.drop 92 = dktX3_readOrder_4 := dk_seg dksX3_readOrder_3 22 rfl rfl
theorem dksX3_readOrder_5 : cX3_readOrder.data.toList.drop 116 = dktX3_readOrder_5 := dk_seg dksX3_readOrder_4 24 rfl rfl
theorem dksX3_readOrder_6 : cX3_readOrder.data.toList.drop 139 = dktX3_readOrder_6 := dk_seg dksX3_readOrder_5 23 rfl rfl
theorem dksX3_readOrder_7 : cX3_readOrder.data.toList.drop 163 = dktX3_readOrder_7 := dk_seg dksX3_readOrder_6 24 rfl rfl
theorem dksX3_readOrder_8 : cX3_readOrder.data.toList.drop 186 = dktX3_readOrder_8 := dk_seg dksX3_readOrder_7 23 rfl rfl
theorem dksX3_readOrder_9 : cX3_readOrder.data.toList.drop 209 = dktX3_readOrder_9 := dk_seg dksX3_readOrder_8 23 rfl rfl
theorem dksX3_readOrder_10 : cX3_readOrder.data.toList.drop 232 = dktX3_readOrder_10 := dk_seg dksX3_readOrder_9 23 rfl rfl
theorem dksX3_readOrder_11 : cX3_readOrder.data.toList.drop 256 = dktX3_readOrder_11 := dk_seg dksX3_readOrder_10 24 rfl rfl
theorem dX3_readOrder_0 : decode cX3_readOrder 0 = .ok (.aload_n 0, 1) := dk_42 (dk_at dksX3_readOrder_0 0 rfl rfl)
theorem dX3_readOrder_1 : decode cX3_readOrder 1 = .ok (.iconst 0, 1) := dk_3 (dk_at dksX3_readOrder_0 1 rfl rfl)
theorem dX3_readOrder_2 : decode cX3_readOrder 2 = .ok (.putfield 141, 3) := dk_181 0 141 (dk_at dksX3_readOrder_0 2 rfl rfl)
theorem dX3_readOrder_5 : decode cX3_readOrder 5 = .ok (.aload_n 0, 1) := dk_42 (dk_at dksX3_readOrder_0 5 rfl rfl)
theorem dX3_readOrder_6 : decode cX3_readOrder 6 = .ok (.aload_n 0, 1) := dk_42 (dk_at dksX3_readOrder_0 6 rfl rfl)
theorem dX3_readOrder_7 : decode cX3_readOrder 7 = .ok (.getfield 132, 3) := dk_180 0 132 (dk_at dksX3_readOrder_0 7 rfl rfl)
theorem dX3_readOrder_10 : decode cX3_readOrder 10 = .ok (.aload_n 0, 1) := dk_42 (dk_at dksX3_readOrder_0 10 rfl rfl)
theorem dX3_readOrder_11 : decode cX3_readOrder 11 = .ok (.getfield 129, 3) := dk_180 0 129 (dk_at dksX3_readOrder_0 11 rfl rfl)
theorem dX3_readOrder_14 : decode cX3_readOrder 14 = .ok (.if_icmp .ge 15, 3) := dk_162 0 15 (dk_at dksX3_readOrder_0 14 rfl rfl)
theorem dX3_readOrder_17 : decode cX3_readOrder 17 = .ok (.aload_n 0, 1) := dk_42 (dk_at dksX3_readOrder_0 17 rfl rfl)
theorem dX3_readOrder_18 : decode cX3_readOrder 18 = .ok (.getfield 19, 3) := dk_180 0 19 (dk_at dksX3_readOrder_0 18 rfl rfl)
theorem dX3_readOrder_21 : decode cX3_readOrder 21 = .ok (.aload_n 0, 1) := dk_42 (dk_at dksX3_readOrder_0 21 rfl rfl)
theorem dX3_readOrder_22 : decode cX3_readOrder 22 = .ok (.getfield 132, 3) := dk_180 0 132 (dk_at dksX3_readOrder_1 0 rfl rfl)
theorem dX3_readOrder_25 : decode cX3_readOrder 25 = .ok (.iaload, 1) := dk_46 (dk_at dksX3_readOrder_1 3 rfl rfl)
theorem dX3_readOrder_26 : decode cX3_readOrder 26 = .ok (.goto 4, 3) := dk_167 0 4 (dk_at dksX3_readOrder_1 4 rfl rfl)
theorem dX3_readOrder_29 : decode cX3_readOrder 29 = .ok (.iconst 0, 1) := dk_3 (dk_at dksX3_readOrder_1 7 rfl rfl)
theorem dX3_readOrder_30 : decode cX3_readOrder 30 = .ok (.putfield 145, 3) := dk_181 0 145 (dk_at dksX3_readOrder_1 8 rfl rfl)
theorem dX3_readOrder_33 : decode cX3_readOrder 33 = .ok (.aload_n 0, 1) := dk_42 (dk_at dksX3_readOrder_1 11 rfl rfl)
theorem dX3_readOrder_34 : decode cX3_readOrder 34 = .ok (.getfield 145, 3) := dk_180 0 145 (dk_at dksX3_readOrder_1 12 rfl rfl)
theorem dX3_readOrder_37 : decode cX3_readOrder 37 = .ok (.bipush 100, 2) := dk_16 100 (dk_at dksX3_readOrder_1 15 rfl rfl)
theorem dX3_readOrder_39 : decode cX3_readOrder 39 = .ok (.if_icmp .ne 7, 3) := dk_160 0 7 (dk_at dksX3_readOrder_1 17 rfl rfl)
theorem dX3_readOrder_42 : decode cX3_readOrder 42 = .ok (.iconst 1, 1) := dk_4 (dk_at dksX3_readOrder_1 20 rfl rfl)
theorem dX3_readOrder_43 : decode cX3_readOrder 43 = .ok (.goto 4, 3) := dk_167 0 4 (dk_at dksX3_readOrder_1 21 rfl rfl)
theorem dX3_readOrder_46 : decode cX3_readOrder 46 = .ok (.iconst 0, 1) := dk_3 (dk_at dksX3_readOrder_2 0 rfl rfl)
theorem dX3_readOrder_47 : decode cX3_readOrder 47 = .ok (.istore_n 1, 1) := dk_60 (dk_at dksX3_readOrder_2 1 rfl rfl)
theorem dX3_readOrder_48 : decode cX3_readOrder 48 = .ok (.iload_n 1, 1) := dk_27 (dk_at dksX3_readOrder_2 2 rfl rfl)
theorem dX3_readOrder_49 : decode cX3_readOrder 49 = .ok (.ifCond .ne 41, 3) := dk_154 0 41 (dk_at dksX3_readOrder_2 3 rfl rfl)
theorem dX3_readOrder_52 : decode cX3_readOrder 52 = .ok (.aload_n 0, 1) := dk_42 (dk_at dksX3_readOrder_2 6 rfl rfl)
theorem dX3_readOrder_53 : decode cX3_readOrder 53 = .ok (.getfield 145, 3) := dk_180 0 145 (dk_at dksX3_readOrder_2 7 rfl rfl)
theorem dX3_readOrder_56 : decode cX3_readOrder 56 = .ok (.bipush 115, 2) := dk_16 115 (dk_at dksX3_readOrder_2 10 rfl rfl)
theorem dX3_readOrder_58 : decode cX3_readOrder 58 = .ok (.if_icmp .eq 32, 3) := dk_159 0 32 (dk_at dksX3_readOrder_2 12 rfl rfl)
theorem dX3_readOrder_61 : decode cX3_readOrder 61 = .ok (.aload_n 0, 1) := dk_42 (dk_at dksX3_readOrder_2 15 rfl rfl)
theorem dX3_readOrder_62 : decode cX3_readOrder 62 = .ok (.getfield 145, 3) := dk_180 0 145 (dk_at dksX3_readOrder_2 16 rfl rfl)
theorem dX3_readOrder_65 : decode cX3_readOrder 65 = .ok (.bipush 114, 2) := dk_16 114 (dk_at dksX3_readOrder_2 19 rfl rfl)
theorem dX3_readOrder_67 : decode cX3_readOrder 67 = .ok (.if_icmp .eq 23, 3) := dk_159 0 23 (dk_at dksX3_readOrder_2 21 rfl rfl)
theorem dX3_readOrder_70 : decode cX3_readOrder 70 = .ok (.aload_n 0, 1) := dk_42 (dk_at dksX3_readOrder_3 0 rfl rfl)
theorem dX3_readOrder_71 : decode cX3_readOrder 71 = .ok (.getfield 145, 3) := dk_180 0 145 (dk_at dksX3_readOrder_3 1 rfl rfl)
theorem dX3_readOrder_74 : decode cX3_readOrder 74 = .ok (.bipush 98, 2) := dk_16 98 (dk_at dksX3_readOrder_3 4 rfl rfl)
theorem dX3_readOrder_76 : decode cX3_readOrder 76 = .ok (.if_icmp .eq 14, 3) := dk_159 0 14 (dk_at dksX3_readOrder_3 6 rfl rfl)
theorem dX3_readOrder_79 : decode cX3_readOrder 79 = .ok (.aload_n 0, 1) := dk_42 (dk_at dksX3_readOrder_3 9 rfl rfl)
theorem dX3_readOrder_80 : decode cX3_readOrder 80 = .ok (.getfield 145, 3) := dk_180 0 145 (dk_at dksX3_readOrder_3 10 rfl rfl)
theorem dX3_readOrder_83 : decode cX3_readOrder 83 = .ok (.bipush 99, 2) := dk_16 99 (dk_at dksX3_readOrder_3 13 rfl rfl)
theorem dX3_readOrder_85 : decode cX3_readOrder 85 = .ok (.if_icmp .eq 5, 3) := dk_159 0 5 (dk_at dksX3_readOrder_3 15 rfl rfl)
theorem dX3_readOrder_88 : decode cX3_readOrder 88 = .ok (.iconst 0, 1) := dk_3 (dk_at dksX3_readOrder_3 18 rfl rfl)
theorem dX3_readOrder_89 : decode cX3_readOrder 89 = .ok (.ireturn, 1) := dk_172 (dk_at dksX3_readOrder_3 19 rfl rfl)
theorem dX3_readOrder_90 : decode cX3_readOrder 90 = .ok (.aload_n 0, 1) := dk_42 (dk_at dksX3_readOrder_3 20 rfl rfl)
theorem dX3_readOrder_91 : decode cX3_readOrder 91 = .ok (.dup, 1) := dk_89 (dk_at dksX3_readOrder_3 21 rfl rfl)
theorem dX3_readOrder_92 : decode cX3_readOrder 92 = .ok (.getfield 132, 3) := dk_180 0 132 (dk_at dksX3_readOrder_4 0 rfl rfl)
theorem dX3_readOrder_95 : decode cX3_readOrder 95 = .ok (.iconst 1, 1) := dk_4 (dk_at dksX3_readOrder_4 3 rfl rfl)
theorem dX3_readOrder_96 : decode cX3_readOrder 96 = .ok (.iadd, 1) := dk_96 (dk_at dksX3_readOrder_4 4 rfl rfl)
theorem dX3_readOrder_97 : decode cX3_readOrder 97 = .ok (.putfield 132, 3) := dk_181 0 132 (dk_at dksX3_readOrder_4 5 rfl rfl)
theorem dX3_readOrder_100 : decode cX3_readOrder 100 = .ok (.aload_n 0, 1) := dk_42 (dk_at dksX3_readOrder_4 8 rfl rfl)
theorem dX3_readOrder_101 : decode cX3_readOrder 101 = .ok (.iload_n 1, 1) := dk_27 (dk_at dksX3_readOrder_4 9 rfl rfl)
theorem dX3_readOrder_102 : decode cX3_readOrder 102 = .ok (.ifCond .eq 8, 3) := dk_153 0 8 (dk_at dksX3_readOrder_4 10 rfl rfl)
theorem dX3_readOrder_105 : decode cX3_readOrder 105 = .ok (.bipush 7, 2) := dk_16 7 (dk_at dksX3_readOrder_4 13 rfl rfl)
theorem dX3_readOrder_107 : decode cX3_readOrder 107 = .ok (.goto 4, 3) := dk_167 0 4 (dk_at dksX3_readOrder_4 15 rfl rfl)
theorem dX3_readOrder_110 : decode cX3_readOrder 110 = .ok (.iconst 5, 1) := dk_8 (dk_at dksX3_readOrder_4 18 rfl rfl)
theorem dX3_readOrder_111 : decode cX3_readOrder 111 = .ok (.invokevirtual 148, 3) := dk_182 0 148 (dk_at dksX3_readOrder_4 19 rfl rfl)
theorem dX3_readOrder_114 : decode cX3_readOrder 114 = .ok (.istore_n 2, 1) := dk_61 (dk_at dksX3_readOrder_4 22 rfl rfl)
theorem dX3_readOrder_115 : decode cX3_readOrder 115 = .ok (.aload_n 0, 1) := dk_42 (dk_at dksX3_readOrder_4 23 rfl rfl)
theorem dX3_readOrder_116 : decode cX3_readOrder 116 = .ok (.aload_n 0, 1) := dk_42 (dk_at dksX3_readOrder_5 0 rfl rfl)
theorem dX3_readOrder_117 : decode cX3_readOrder 117 = .ok (.getfield 135, 3) := dk_180 0 135 (dk_at dksX3_readOrder_5 1 rfl rfl)
theorem dX3_readOrder_120 : decode cX3_readOrder 120 = .ok (.putfield 151, 3) := dk_181 0 151 (dk_at dksX3_readOrder_5 4 rfl rfl)
theorem dX3_readOrder_123 : decode cX3_readOrder 123 = .ok (.iload_n 2, 1) := dk_28 (dk_at dksX3_readOrder_5 7 rfl rfl)
theorem dX3_readOrder_124 : decode cX3_readOrder 124 = .ok (.ifCond .eq 55, 3) := dk_153 0 55 (dk_at dksX3_readOrder_5 8 rfl rfl)
theorem dX3_readOrder_127 : decode cX3_readOrder 127 = .ok (.aload_n 0, 1) := dk_42 (dk_at dksX3_readOrder_5 11 rfl rfl)
theorem dX3_readOrder_128 : decode cX3_readOrder 128 = .ok (.iload_n 1, 1) := dk_27 (dk_at dksX3_readOrder_5 12 rfl rfl)
theorem dX3_readOrder_129 : decode cX3_readOrder 129 = .ok (.ifCond .eq 8, 3) := dk_153 0 8 (dk_at dksX3_readOrder_5 13 rfl rfl)
theorem dX3_readOrder_132 : decode cX3_readOrder 132 = .ok (.bipush 62, 2) := dk_16 62 (dk_at dksX3_readOrder_5 16 rfl rfl)
theorem dX3_readOrder_134 : decode cX3_readOrder 134 = .ok (.goto 5, 3) := dk_167 0 5 (dk_at dksX3_readOrder_5 18 rfl rfl)
theorem dX3_readOrder_137 : decode cX3_readOrder 137 = .ok (.bipush 58, 2) := dk_16 58 (dk_at dksX3_readOrder_5 21 rfl rfl)
theorem dX3_readOrder_139 : decode cX3_readOrder 139 = .ok (.invokevirtual 154, 3) := dk_182 0 154 (dk_at dksX3_readOrder_6 0 rfl rfl)
theorem dX3_readOrder_142 : decode cX3_readOrder 142 = .ok (.ifCond .eq 37, 3) := dk_153 0 37 (dk_at dksX3_readOrder_6 3 rfl rfl)
theorem dX3_readOrder_145 : decode cX3_readOrder 145 = .ok (.aload_n 0, 1) := dk_42 (dk_at dksX3_readOrder_6 6 rfl rfl)
theorem dX3_readOrder_146 : decode cX3_readOrder 146 = .ok (.iload_n 1, 1) := dk_27 (dk_at dksX3_readOrder_6 7 rfl rfl)
theorem dX3_readOrder_147 : decode cX3_readOrder 147 = .ok (.ifCond .eq 7, 3) := dk_153 0 7 (dk_at dksX3_readOrder_6 8 rfl rfl)
theorem dX3_readOrder_150 : decode cX3_readOrder 150 = .ok (.iconst 5, 1) := dk_8 (dk_at dksX3_readOrder_6 11 rfl rfl)
theorem dX3_readOrder_151 : decode cX3_readOrder 151 = .ok (.goto 18, 3) := dk_167 0 18 (dk_at dksX3_readOrder_6 12 rfl rfl)
theorem dX3_readOrder_154 : decode cX3_readOrder 154 = .ok (.aload_n 0, 1) := dk_42 (dk_at dksX3_readOrder_6 15 rfl rfl)
theorem dX3_readOrder_155 : decode cX3_readOrder 155 = .ok (.getfield 145, 3) := dk_180 0 145 (dk_at dksX3_readOrder_6 16 rfl rfl)
theorem dX3_readOrder_158 : decode cX3_readOrder 158 = .ok (.bipush 99, 2) := dk_16 99 (dk_at dksX3_readOrder_6 19 rfl rfl)
theorem dX3_readOrder_160 : decode cX3_readOrder 160 = .ok (.if_icmp .ne 7, 3) := dk_160 0 7 (dk_at dksX3_readOrder_6 21 rfl rfl)
theorem dX3_readOrder_163 : decode cX3_readOrder 163 = .ok (.iconst 2, 1) := dk_5 (dk_at dksX3_readOrder_7 0 rfl rfl)
theorem dX3_readOrder_164 : decode cX3_readOrder 164 = .ok (.goto 5, 3) := dk_167 0 5 (dk_at dksX3_readOrder_7 1 rfl rfl)
theorem dX3_readOrder_167 : decode cX3_readOrder 167 = .ok (.bipush 7, 2) := dk_16 7 (dk_at dksX3_readOrder_7 4 rfl rfl)
theorem dX3_readOrder_169 : decode cX3_readOrder 169 = .ok (.invokevirtual 148, 3) := dk_182 0 148 (dk_at dksX3_readOrder_7 6 rfl rfl)
theorem dX3_readOrder_172 : decode cX3_readOrder 172 = .ok (.ifCond .eq 7, 3) := dk_153 0 7 (dk_at dksX3_readOrder_7 9 rfl rfl)
theorem dX3_readOrder_175 : decode cX3_readOrder 175 = .ok (.iconst 1, 1) := dk_4 (dk_at dksX3_readOrder_7 12 rfl rfl)
theorem dX3_readOrder_176 : decode cX3_readOrder 176 = .ok (.goto 4, 3) := dk_167 0 4 (dk_at dksX3_readOrder_7 13 rfl rfl)
theorem dX3_readOrder_179 : decode cX3_readOrder 179 = .ok (.iconst 0, 1) := dk_3 (dk_at dksX3_readOrder_7 16 rfl rfl)
theorem dX3_readOrder_180 : decode cX3_readOrder 180 = .ok (.istore_n 2, 1) := dk_61 (dk_at dksX3_readOrder_7 17 rfl rfl)
theorem dX3_readOrder_181 : decode cX3_readOrder 181 = .ok (.aload_n 0, 1) := dk_42 (dk_at dksX3_readOrder_7 18 rfl rfl)
theorem dX3_readOrder_182 : decode cX3_readOrder 182 = .ok (.aload_n 0, 1) := dk_42 (dk_at dksX3_readOrder_7 19 rfl rfl)
theorem dX3_readOrder_183 : decode cX3_readOrder 183 = .ok (.getfield 135, 3) := dk_180 0 135 (dk_at dksX3_readOrder_7 20 rfl rfl)
theorem dX3_readOrder_186 : decode cX3_readOrder 186 = .ok (.putfield 157, 3) := dk_181 0 157 (dk_at dksX3_readOrder_8 0 rfl rfl)
theorem dX3_readOrder_189 : decode cX3_readOrder 189 = .ok (.aload_n 0, 1) := dk_42 (dk_at dksX3_readOrder_8 3 rfl rfl)
theorem dX3_readOrder_190 : decode cX3_readOrder 190 = .ok (.iload_n 2, 1) := dk_28 (dk_at dksX3_readOrder_8 4 rfl rfl)
theorem dX3_readOrder_191 : decode cX3_readOrder 191 = .ok (.ifCond .eq 44, 3) := dk_153 0 44 (dk_at dksX3_readOrder_8 5 rfl rfl)
theorem dX3_readOrder_194 : decode cX3_readOrder 194 = .ok (.aload_n 0, 1) := dk_42 (dk_at dksX3_readOrder_8 8 rfl rfl)
theorem dX3_readOrder_195 : decode cX3_readOrder 195 = .ok (.bipush 42, 2) := dk_16 42 (dk_at dksX3_readOrder_8 9 rfl rfl)
theorem dX3_readOrder_197 : decode cX3_readOrder 197 = .ok (.invokevirtual 154, 3) := dk_182 0 154 (dk_at dksX3_readOrder_8 11 rfl rfl)
theorem dX3_readOrder_200 : decode cX3_readOrder 200 = .ok (.ifCond .eq 35, 3) := dk_153 0 35 (dk_at dksX3_readOrder_8 14 rfl rfl)
theorem dX3_readOrder_203 : decode cX3_readOrder 203 = .ok (.aload_n 0, 1) := dk_42 (dk_at dksX3_readOrder_8 17 rfl rfl)
theorem dX3_readOrder_204 : decode cX3_readOrder 204 = .ok (.iload_n 1, 1) := dk_27 (dk_at dksX3_readOrder_8 18 rfl rfl)
theorem dX3_readOrder_205 : decode cX3_readOrder 205 = .ok (.ifCond .ne 12, 3) := dk_154 0 12 (dk_at dksX3_readOrder_8 19 rfl rfl)
theorem dX3_readOrder_208 : decode cX3_readOrder 208 = .ok (.aload_n 0, 1) := dk_42 (dk_at dksX3_readOrder_8 22 rfl rfl)
theorem dX3_readOrder_209 : decode cX3_readOrder 209 = .ok (.getfield 145, 3) := dk_180 0 145 (dk_at dksX3_readOrder_9 0 rfl rfl)
theorem dX3_readOrder_212 : decode cX3_readOrder 212 = .ok (.bipush 99, 2) := dk_16 99 (dk_at dksX3_readOrder_9 3 rfl rfl)
theorem dX3_readOrder_214 : decode cX3_readOrder 214 = .ok (.if_icmp .ne 8, 3) := dk_160 0 8 (dk_at dksX3_readOrder_9 5 rfl rfl)
theorem dX3_readOrder_217 : decode cX3_readOrder 217 = .ok (.bipush 50, 2) := dk_16 50 (dk_at dksX3_readOrder_9 8 rfl rfl)
theorem dX3_readOrder_219 : decode cX3_readOrder 219 = .ok (.goto 6, 3) := dk_167 0 6 (dk_at dksX3_readOrder_9 10 rfl rfl)
theorem dX3_readOrder_222 : decode cX3_readOrder 222 = .ok (.sipush 500, 3) := dk_17 1 244 (dk_at dksX3_readOrder_9 13 rfl rfl)
theorem dX3_readOrder_225 : decode cX3_readOrder 225 = .ok (.invokevirtual 160, 3) := dk_182 0 160 (dk_at dksX3_readOrder_9 16 rfl rfl)
theorem dX3_readOrder_228 : decode cX3_readOrder 228 = .ok (.ifCond .eq 7, 3) := dk_153 0 7 (dk_at dksX3_readOrder_9 19 rfl rfl)
theorem dX3_readOrder_231 : decode cX3_readOrder 231 = .ok (.iconst 1, 1) := dk_4 (dk_at dksX3_readOrder_9 22 rfl rfl)
theorem dX3_readOrder_232 : decode cX3_readOrder 232 = .ok (.goto 4, 3) := dk_167 0 4 (dk_at dksX3_readOrder_10 0 rfl rfl)
theorem dX3_readOrder_235 : decode cX3_readOrder 235 = .ok (.iconst 0, 1) := dk_3 (dk_at dksX3_readOrder_10 3 rfl rfl)
theorem dX3_readOrder_236 : decode cX3_readOrder 236 = .ok (.putfield 141, 3) := dk_181 0 141 (dk_at dksX3_readOrder_10 4 rfl rfl)
theorem dX3_readOrder_239 : decode cX3_readOrder 239 = .ok (.aload_n 0, 1) := dk_42 (dk_at dksX3_readOrder_10 7 rfl rfl)
theorem dX3_readOrder_240 : decode cX3_readOrder 240 = .ok (.getfield 141, 3) := dk_180 0 141 (dk_at dksX3_readOrder_10 8 rfl rfl)
theorem dX3_readOrder_243 : decode cX3_readOrder 243 = .ok (.ifCond .eq 16, 3) := dk_153 0 16 (dk_at dksX3_readOrder_10 11 rfl rfl)
theorem dX3_readOrder_246 : decode cX3_readOrder 246 = .ok (.aload_n 0, 1) := dk_42 (dk_at dksX3_readOrder_10 14 rfl rfl)
theorem dX3_readOrder_247 : decode cX3_readOrder 247 = .ok (.bipush 59, 2) := dk_16 59 (dk_at dksX3_readOrder_10 15 rfl rfl)
theorem dX3_readOrder_249 : decode cX3_readOrder 249 = .ok (.invokevirtual 154, 3) := dk_182 0 154 (dk_at dksX3_readOrder_10 17 rfl rfl)
theorem dX3_readOrder_252 : decode cX3_readOrder 252 = .ok (.ifCond .eq 7, 3) := dk_153 0 7 (dk_at dksX3_readOrder_10 20 rfl rfl)
theorem dX3_readOrder_255 : decode cX3_readOrder 255 = .ok (.iconst 1, 1) := dk_4 (dk_at dksX3_readOrder_10 23 rfl rfl)
theorem dX3_readOrder_256 : decode cX3_readOrder 256 = .ok (.goto 4, 3) := dk_167 0 4 (dk_at dksX3_readOrder_11 0 rfl rfl)
theorem dX3_readOrder_259 : decode cX3_readOrder 259 = .ok (.iconst 0, 1) := dk_3 (dk_at dksX3_readOrder_11 3 rfl rfl)
theorem dX3_readOrder_260 : decode cX3_readOrder 260 = .ok (.ireturn, 1) := dk_172 (dk_at dksX3_readOrder_11 4 rfl rfl)
abbrev cX3_digitTo : ByteArray := prog_23_method_48_code
def yX3_digitTo : MethodName := ⟨RX3, "digitTo", "(I)Z"⟩
def dkwX3_digitTo_2 : List UInt8 := [153, 0, 7, 4, 167, 0, 4, 3, 96, 181, 0, 132, 28, 172]
abbrev dktX3_digitTo_2 : List UInt8 := dkwX3_digitTo_2 ++ []
def dkwX3_digitTo_1 : List UInt8 := [167, 0, 4, 2, 181, 0, 135, 42, 180, 0, 135, 3, 27, 184, 0, 35, 61, 42, 89, 180, 0, 132, 28]
abbrev dktX3_digitTo_1 : List UInt8 := dkwX3_digitTo_1 ++ dktX3_digitTo_2
def dkwX3_digitTo_0 : List UInt8 := [42, 42, 180, 0, 132, 42, 180, 0, 129, 162, 0, 18, 42, 180, 0, 19, 42, 180, 0, 132, 46, 16, 48, 100]
abbrev dktX3_digitTo_0 : List UInt8 := dkwX3_digitTo_0 ++ dktX3_digitTo_1
theorem dksX3_digitTo_0 : cX3_digitTo.data.toList.drop 0 = dktX3_digitTo_0 := by decide +kernel
theorem dksX3_digitTo_1 : cX3_digitTo.data.toList.drop 24 = dktX3_digitTo_1 := dk_seg dksX3_digitTo_0 24 rfl rfl
theorem dksX3_digitTo_2 : cX3_digitTo.data.toList.drop 47 = dktX3_digitTo_2 := dk_seg dksX3_digitTo_1 23 rfl rfl
theorem dX3_digitTo_0 : decode cX3_digitTo 0 = .ok (.aload_n 0, 1) := dk_42 (dk_at dksX3_digitTo_0 0 rfl rfl)
theorem dX3_digitTo_1 : decode cX3_digitTo 1 = .ok (.aload_n 0, 1) := dk_42 (dk_at dksX3_digitTo_0 1 rfl rfl)
theorem dX3_digitTo_2 : decode cX3_digitTo 2 = .ok (.getfield 132, 3) := dk_180 0 132 (dk_at dksX3_digitTo_0 2 rfl rfl)
theorem dX3_digitTo_5 : decode cX3_digitTo 5 = .ok (.aload_n 0, 1) := dk_42 (dk_at dksX3_digitTo_0 5 rfl rfl)
theorem dX3_digitTo_6 : decode cX3_digitTo 6 = .ok (.getfield 129, 3) := dk_180 0 129 (dk_at dksX3_digitTo_0 6 rfl rfl)
theorem dX3_digitTo_9 : decode cX3_digitTo 9 = .ok (.if_icmp .ge 18, 3) := dk_162 0 18 (dk_at dksX3_digitTo_0 9 rfl rfl)
theorem dX3_digitTo_12 : decode cX3_digitTo 12 = .ok (.aload_n 0, 1) := dk_42 (dk_at dksX3_digitTo_0 12 rfl rfl)
theorem dX3_digitTo_13 : decode cX3_digitTo 13 = .ok (.getfield 19, 3) := dk_180 0 19 (dk_at dksX3_digitTo_0 13 rfl rfl)
theorem dX3_digitTo_16 : decode cX3_digitTo 16 = .ok (.aload_n 0, 1) := dk_42 (dk_at dksX3_digitTo_0 16 rfl rfl)
theorem dX3_digitTo_17 : decode cX3_digitTo 17 = .ok (.getfield 132, 3) := dk_180 0 132 (dk_at dksX3_digitTo_0 17 rfl rfl)
theorem dX3_digitTo_20 : decode cX3_digitTo 20 = .ok (.iaload, 1) := dk_46 (dk_at dksX3_digitTo_0 20 rfl rfl)
theorem dX3_digitTo_21 : decode cX3_digitTo 21 = .ok (.bipush 48, 2) := dk_16 48 (dk_at dksX3_digitTo_0 21 rfl rfl)
theorem dX3_digitTo_23 : decode cX3_digitTo 23 = .ok (.isub, 1) := dk_100 (dk_at dksX3_digitTo_0 23 rfl rfl)
theorem dX3_digitTo_24 : decode cX3_digitTo 24 = .ok (.goto 4, 3) := dk_167 0 4 (dk_at dksX3_digitTo_1 0 rfl rfl)
theorem dX3_digitTo_27 : decode cX3_digitTo 27 = .ok (.iconst (-1), 1) := dk_2 (dk_at dksX3_digitTo_1 3 rfl rfl)
theorem dX3_digitTo_28 : decode cX3_digitTo 28 = .ok (.putfield 135, 3) := dk_181 0 135 (dk_at dksX3_digitTo_1 4 rfl rfl)
theorem dX3_digitTo_31 : decode cX3_digitTo 31 = .ok (.aload_n 0, 1) := dk_42 (dk_at dksX3_digitTo_1 7 rfl rfl)
theorem dX3_digitTo_32 : decode cX3_digitTo 32 = .ok (.getfield 135, 3) := dk_180 0 135 (dk_at dksX3_digitTo_1 8 rfl rfl)
theorem dX3_digitTo_35 : decode cX3_digitTo 35 = .ok (.iconst 0, 1) := dk_3 (dk_at dksX3_digitTo_1 11 rfl rfl)
theorem dX3_digitTo_36 : decode cX3_digitTo 36 = .ok (.iload_n 1, 1) := dk_27 (dk_at dksX3_digitTo_1 12 rfl rfl)
theorem dX3_digitTo_37 : decode cX3_digitTo 37 = .ok (.invokestatic 35, 3) := dk_184 0 35 (dk_at dksX3_digitTo_1 13 rfl rfl)
theorem dX3_digitTo_40 : decode cX3_digitTo 40 = .ok (.istore_n 2, 1) := dk_61 (dk_at dksX3_digitTo_1 16 rfl rfl)
theorem dX3_digitTo_41 : decode cX3_digitTo 41 = .ok (.aload_n 0, 1) := dk_42 (dk_at dksX3_digitTo_1 17 rfl rfl)
theorem dX3_digitTo_42 : decode cX3_digitTo 42 = .ok (.dup, 1) := dk_89 (dk_at dksX3_digitTo_1 18 rfl rfl)
theorem dX3_digitTo_43 : decode cX3_digitTo 43 = .ok (.getfield 132, 3) := dk_180 0 132 (dk_at dksX3_digitTo_1 19 rfl rfl)
theorem dX3_digitTo_46 : decode cX3_digitTo 46 = .ok (.iload_n 2, 1) := dk_28 (dk_at dksX3_digitTo_1 22 rfl rfl)
theorem dX3_digitTo_47 : decode cX3_digitTo 47 = .ok (.ifCond .eq 7, 3) := dk_153 0 7 (dk_at dksX3_digitTo_2 0 rfl rfl)
theorem dX3_digitTo_50 : decode cX3_digitTo 50 = .ok (.iconst 1, 1) := dk_4 (dk_at dksX3_digitTo_2 3 rfl rfl)
theorem dX3_digitTo_51 : decode cX3_digitTo 51 = .ok (.goto 4, 3) := dk_167 0 4 (dk_at dksX3_digitTo_2 4 rfl rfl)
theorem dX3_digitTo_54 : decode cX3_digitTo 54 = .ok (.iconst 0, 1) := dk_3 (dk_at dksX3_digitTo_2 7 rfl rfl)
theorem dX3_digitTo_55 : decode cX3_digitTo 55 = .ok (.iadd, 1) := dk_96 (dk_at dksX3_digitTo_2 8 rfl rfl)
theorem dX3_digitTo_56 : decode cX3_digitTo 56 = .ok (.putfield 132, 3) := dk_181 0 132 (dk_at dksX3_digitTo_2 9 rfl rfl)
theorem dX3_digitTo_59 : decode cX3_digitTo 59 = .ok (.iload_n 2, 1) := dk_28 (dk_at dksX3_digitTo_2 12 rfl rfl)
theorem dX3_digitTo_60 : decode cX3_digitTo 60 = .ok (.ireturn, 1) := dk_172 (dk_at dksX3_digitTo_2 13 rfl rfl)
abbrev cX3_sign : ByteArray := prog_23_method_47_code
def yX3_sign : MethodName := ⟨RX3, "sign", "(I)Z"⟩
def dkwX3_sign_2 : List UInt8 := [28, 172]
abbrev dktX3_sign_2 : List UInt8 := dkwX3_sign_2 ++ []
def dkwX3_sign_1 : List UInt8 := [4, 167, 0, 4, 3, 61, 42, 89, 180, 0, 132, 28, 153, 0, 7, 4, 167, 0, 4, 3, 96, 181, 0, 132]
abbrev dktX3_sign_1 : List UInt8 := dkwX3_sign_1 ++ dktX3_sign_2
def dkwX3_sign_0 : List UInt8 := [42, 180, 0, 132, 42, 180, 0, 129, 162, 0, 20, 42, 180, 0, 19, 42, 180, 0, 132, 46, 27, 160, 0, 7]
abbrev dktX3_sign_0 : List UInt8 := dkwX3_sign_0 ++ dktX3_sign_1
theorem dksX3_sign_0 : cX3_sign.data.toList.drop 0 = dktX3_sign_0 := by decide +kernel
theorem dksX3_sign_1 : cX3_sign.data.toList.drop 24 = dktX3_sign_1 := dk_seg dksX3_sign_0 24 rfl rfl
theorem dksX3_sign_2 : cX3_sign.data.toList.drop 48 = dktX3_sign_2 := dk_seg dksX3_sign_1 24 rfl rfl
theorem dX3_sign_0 : decode cX3_sign 0 = .ok (.aload_n 0, 1) := dk_42 (dk_at dksX3_sign_0 0 rfl rfl)
theorem dX3_sign_1 : decode cX3_sign 1 = .ok (.getfield 132, 3) := dk_180 0 132 (dk_at dksX3_sign_0 1 rfl rfl)
theorem dX3_sign_4 : decode cX3_sign 4 = .ok (.aload_n 0, 1) := dk_42 (dk_at dksX3_sign_0 4 rfl rfl)
theorem dX3_sign_5 : decode cX3_sign 5 = .ok (.getfield 129, 3) := dk_180 0 129 (dk_at dksX3_sign_0 5 rfl rfl)
theorem dX3_sign_8 : decode cX3_sign 8 = .ok (.if_icmp .ge 20, 3) := dk_162 0 20 (dk_at dksX3_sign_0 8 rfl rfl)
theorem dX3_sign_11 : decode cX3_sign 11 = .ok (.aload_n 0, 1) := dk_42 (dk_at dksX3_sign_0 11 rfl rfl)
theorem dX3_sign_12 : decode cX3_sign 12 = .ok (.getfield 19, 3) := dk_180 0 19 (dk_at dksX3_sign_0 12 rfl rfl)
theorem dX3_sign_15 : decode cX3_sign 15 = .ok (.aload_n 0, 1) := dk_42 (dk_at dksX3_sign_0 15 rfl rfl)
theorem dX3_sign_16 : decode cX3_sign 16 = .ok (.getfield 132, 3) := dk_180 0 132 (dk_at dksX3_sign_0 16 rfl rfl)
theorem dX3_sign_19 : decode cX3_sign 19 = .ok (.iaload, 1) := dk_46 (dk_at dksX3_sign_0 19 rfl rfl)
theorem dX3_sign_20 : decode cX3_sign 20 = .ok (.iload_n 1, 1) := dk_27 (dk_at dksX3_sign_0 20 rfl rfl)
theorem dX3_sign_21 : decode cX3_sign 21 = .ok (.if_icmp .ne 7, 3) := dk_160 0 7 (dk_at dksX3_sign_0 21 rfl rfl)
theorem dX3_sign_24 : decode cX3_sign 24 = .ok (.iconst 1, 1) := dk_4 (dk_at dksX3_sign_1 0 rfl rfl)
theorem dX3_sign_25 : decode cX3_sign 25 = .ok (.goto 4, 3) := dk_167 0 4 (dk_at dksX3_sign_1 1 rfl rfl)
theorem dX3_sign_28 : decode cX3_sign 28 = .ok (.iconst 0, 1) := dk_3 (dk_at dksX3_sign_1 4 rfl rfl)
theorem dX3_sign_29 : decode cX3_sign 29 = .ok (.istore_n 2, 1) := dk_61 (dk_at dksX3_sign_1 5 rfl rfl)
theorem dX3_sign_30 : decode cX3_sign 30 = .ok (.aload_n 0, 1) := dk_42 (dk_at dksX3_sign_1 6 rfl rfl)
theorem dX3_sign_31 : decode cX3_sign 31 = .ok (.dup, 1) := dk_89 (dk_at dksX3_sign_1 7 rfl rfl)
theorem dX3_sign_32 : decode cX3_sign 32 = .ok (.getfield 132, 3) := dk_180 0 132 (dk_at dksX3_sign_1 8 rfl rfl)
theorem dX3_sign_35 : decode cX3_sign 35 = .ok (.iload_n 2, 1) := dk_28 (dk_at dksX3_sign_1 11 rfl rfl)
theorem dX3_sign_36 : decode cX3_sign 36 = .ok (.ifCond .eq 7, 3) := dk_153 0 7 (dk_at dksX3_sign_1 12 rfl rfl)
theorem dX3_sign_39 : decode cX3_sign 39 = .ok (.iconst 1, 1) := dk_4 (dk_at dksX3_sign_1 15 rfl rfl)
theorem dX3_sign_40 : decode cX3_sign 40 = .ok (.goto 4, 3) := dk_167 0 4 (dk_at dksX3_sign_1 16 rfl rfl)
theorem dX3_sign_43 : decode cX3_sign 43 = .ok (.iconst 0, 1) := dk_3 (dk_at dksX3_sign_1 19 rfl rfl)
theorem dX3_sign_44 : decode cX3_sign 44 = .ok (.iadd, 1) := dk_96 (dk_at dksX3_sign_1 20 rfl rfl)
theorem dX3_sign_45 : decode cX3_sign 45 = .ok (.putfield 132, 3) := dk_181 0 132 (dk_at dksX3_sign_1 21 rfl rfl)
theorem dX3_sign_48 : decode cX3_sign 48 = .ok (.iload_n 2, 1) := dk_28 (dk_at dksX3_sign_2 0 rfl rfl)
theorem dX3_sign_49 : decode cX3_sign 49 = .ok (.ireturn, 1) := dk_172 (dk_at dksX3_sign_2 1 rfl rfl)
abbrev cX3_readNumber : ByteArray := prog_23_method_49_code
def yX3_readNumber : MethodName := ⟨RX3, "readNumber", "(I)Z"⟩
def dkwX3_readNumber_5 : List UInt8 := [3, 172]
abbrev dktX3_readNumber_5 : List UInt8 := dkwX3_readNumber_5 ++ []
def dkwX3_readNumber_4 : List UInt8 := [42, 89, 180, 0, 132, 4, 96, 181, 0, 132, 167, 255, 156, 42, 180, 0, 138, 158, 0, 7, 4, 167, 0, 4]
abbrev dktX3_readNumber_4 : List UInt8 := dkwX3_readNumber_4 ++ dktX3_readNumber_5
def dkwX3_readNumber_3 : List UInt8 := [42, 16, 10, 42, 180, 0, 138, 104, 42, 180, 0, 19, 42, 180, 0, 132, 46, 96, 16, 48, 100, 181, 0, 138]
abbrev dktX3_readNumber_3 : List UInt8 := dkwX3_readNumber_3 ++ dktX3_readNumber_4
def dkwX3_readNumber_2 : List UInt8 := [16, 10, 42, 180, 0, 138, 104, 42, 180, 0, 19, 42, 180, 0, 132, 46, 96, 16, 48, 100, 27, 163, 0, 40]
abbrev dktX3_readNumber_2 : List UInt8 := dkwX3_readNumber_2 ++ dktX3_readNumber_3
def dkwX3_readNumber_1 : List UInt8 := [46, 42, 180, 0, 138, 154, 0, 8, 16, 49, 167, 0, 5, 16, 48, 16, 57, 184, 0, 35, 153, 0, 64]
abbrev dktX3_readNumber_1 : List UInt8 := dkwX3_readNumber_1 ++ dktX3_readNumber_2
def dkwX3_readNumber_0 : List UInt8 := [42, 3, 181, 0, 138, 42, 180, 0, 132, 42, 180, 0, 129, 162, 0, 95, 42, 180, 0, 19, 42, 180, 0, 132]
abbrev dktX3_readNumber_0 : List UInt8 := dkwX3_readNumber_0 ++ dktX3_readNumber_1
theorem dksX3_readNumber_0 : cX3_readNumber.data.toList.drop 0 = dktX3_readNumber_0 := by decide +kernel
theorem dksX3_readNumber_1 : cX3_readNumber.data.toList.drop 24 = dktX3_readNumber_1 := dk_seg dksX3_readNumber_0 24 rfl rfl
theorem dksX3_readNumber_2 : cX3_readNumber.data.toList.drop 47 = dktX3_readNumber_2 := dk_seg dksX3_readNumber_1 23 rfl rfl
theorem dksX3_readNumber_3 : cX3_readNumber.data.toList.drop 71 = dktX3_readNumber_3 := dk_seg dksX3_readNumber_2 24 rfl rfl
theorem dksX3_readNumber_4 : cX3_readNumber.data.toList.drop 95 = dktX3_readNumber_4 := dk_seg dksX3_readNumber_3 24 rfl rfl
theorem dksX3_readNumber_5 : cX3_readNumber.data.toList.drop 119 = dktX3_readNumber_5 := dk_seg dksX3_readNumber_4 24 rfl rfl
theorem dX3_readNumber_0 : decode cX3_readNumber 0 = .ok (.aload_n 0, 1) := dk_42 (dk_at dksX3_readNumber_0 0 rfl rfl)
theorem dX3_readNumber_1 : decode cX3_readNumber 1 = .ok (.iconst 0, 1) := dk_3 (dk_at dksX3_readNumber_0 1 rfl rfl)
theorem dX3_readNumber_2 : decode cX3_readNumber 2 = .ok (.putfield 138, 3) := dk_181 0 138 (dk_at dksX3_readNumber_0 2 rfl rfl)
theorem dX3_readNumber_5 : decode cX3_readNumber 5 = .ok (.aload_n 0, 1) := dk_42 (dk_at dksX3_readNumber_0 5 rfl rfl)
theorem dX3_readNumber_6 : decode cX3_readNumber 6 = .ok (.getfield 132, 3) := dk_180 0 132 (dk_at dksX3_readNumber_0 6 rfl rfl)
theorem dX3_readNumber_9 : decode cX3_readNumber 9 = .ok (.aload_n 0, 1) := dk_42 (dk_at dksX3_readNumber_0 9 rfl rfl)
theorem dX3_readNumber_10 : decode cX3_readNumber 10 = .ok (.getfield 129, 3) := dk_180 0 129 (dk_at dksX3_readNumber_0 10 rfl rfl)
theorem dX3_readNumber_13 : decode cX3_readNumber 13 = .ok (.if_icmp .ge 95, 3) := dk_162 0 95 (dk_at dksX3_readNumber_0 13 rfl rfl)
theorem dX3_readNumber_16 : decode cX3_readNumber 16 = .ok (.aload_n 0, 1) := dk_42 (dk_at dksX3_readNumber_0 16 rfl rfl)
theorem dX3_readNumber_17 : decode cX3_readNumber 17 = .ok (.getfield 19, 3) := dk_180 0 19 (dk_at dksX3_readNumber_0 17 rfl rfl)
theorem dX3_readNumber_20 : decode cX3_readNumber 20 = .ok (.aload_n 0, 1) := dk_42 (dk_at dksX3_readNumber_0 20 rfl rfl)
theorem dX3_readNumber_21 : decode cX3_readNumber 21 = .ok (.getfield 132, 3) := dk_180 0 132 (dk_at dksX3_readNumber_0 21 rfl rfl)
theorem dX3_readNumber_24 : decode cX3_readNumber 24 = .ok (.iaload, 1) := dk_46 (dk_at dksX3_readNumber_1 0 rfl rfl)
theorem dX3_readNumber_25 : decode cX3_readNumber 25 = .ok (.aload_n 0, 1) := dk_42 (dk_at dksX3_readNumber_1 1 rfl rfl)
theorem dX3_readNumber_26 : decode cX3_readNumber 26 = .ok (.getfield 138, 3) := dk_180 0 138 (dk_at dksX3_readNumber_1 2 rfl rfl)
theorem dX3_readNumber_29 : decode cX3_readNumber 29 = .ok (.ifCond .ne 8, 3) := dk_154 0 8 (dk_at dksX3_readNumber_1 5 rfl rfl)
theorem dX3_readNumber_32 : decode cX3_readNumber 32 = .ok (.bipush 49, 2) := dk_16 49 (dk_at dksX3_readNumber_1 8 rfl rfl)
theorem dX3_readNumber_34 : decode cX3_readNumber 34 = .ok (.goto 5, 3) := dk_167 0 5 (dk_at dksX3_readNumber_1 10 rfl rfl)
theorem dX3_readNumber_37 : decode cX3_readNumber 37 = .ok (.bipush 48, 2) := dk_16 48 (dk_at dksX3_readNumber_1 13 rfl rfl)
theorem dX3_readNumber_39 : decode cX3_readNumber 39 = .ok (.bipush 57, 2) := dk_16 57 (dk_at dksX3_readNumber_1 15 rfl rfl)
theorem dX3_readNumber_41 : decode cX3_readNumber 41 = .ok (.invokestatic 35, 3) := dk_184 0 35 (dk_at dksX3_readNumber_1 17 rfl rfl)
theorem dX3_readNumber_44 : decode cX3_readNumber 44 = .ok (.ifCond .eq 64, 3) := dk_153 0 64 (dk_at dksX3_readNumber_1 20 rfl rfl)
theorem dX3_readNumber_47 : decode cX3_readNumber 47 = .ok (.bipush 10, 2) := dk_16 10 (dk_at dksX3_readNumber_2 0 rfl rfl)
theorem dX3_readNumber_49 : decode cX3_readNumber 49 = .ok (.aload_n 0, 1) := dk_42 (dk_at dksX3_readNumber_2 2 rfl rfl)
theorem dX3_readNumber_50 : decode cX3_readNumber 50 = .ok (.getfield 138, 3) := dk_180 0 138 (dk_at dksX3_readNumber_2 3 rfl rfl)
theorem dX3_readNumber_53 : decode cX3_readNumber 53 = .ok (.imul, 1) := dk_104 (dk_at dksX3_readNumber_2 6 rfl rfl)
theorem dX3_readNumber_54 : decode cX3_readNumber 54 = .ok (.aload_n 0, 1) := dk_42 (dk_at dksX3_readNumber_2 7 rfl rfl)
theorem dX3_readNumber_55 : decode cX3_readNumber 55 = .ok (.getfield 19, 3) := dk_180 0 19 (dk_at dksX3_readNumber_2 8 rfl rfl)
theorem dX3_readNumber_58 : decode cX3_readNumber 58 = .ok (.aload_n 0, 1) := dk_42 (dk_at dksX3_readNumber_2 11 rfl rfl)
theorem dX3_readNumber_59 : decode cX3_readNumber 59 = .ok (.getfield 132, 3) := dk_180 0 132 (dk_at dksX3_readNumber_2 12 rfl rfl)
theorem dX3_readNumber_62 : decode cX3_readNumber 62 = .ok (.iaload, 1) := dk_46 (dk_at dksX3_readNumber_2 15 rfl rfl)
theorem dX3_readNumber_63 : decode cX3_readNumber 63 = .ok (.iadd, 1) := dk_96 (dk_at dksX3_readNumber_2 16 rfl rfl)
theorem dX3_readNumber_64 : decode cX3_readNumber 64 = .ok (.bipush 48, 2) := dk_16 48 (dk_at dksX3_readNumber_2 17 rfl rfl)
theorem dX3_readNumber_66 : decode cX3_readNumber 66 = .ok (.isub, 1) := dk_100 (dk_at dksX3_readNumber_2 19 rfl rfl)
theorem dX3_readNumber_67 : decode cX3_readNumber 67 = .ok (.iload_n 1, 1) := dk_27 (dk_at dksX3_readNumber_2 20 rfl rfl)
theorem dX3_readNumber_68 : decode cX3_readNumber 68 = .ok (.if_icmp .gt 40, 3) := dk_163 0 40 (dk_at dksX3_readNumber_2 21 rfl rfl)
theorem dX3_readNumber_71 : decode cX3_readNumber 71 = .ok (.aload_n 0, 1) := dk_42 (dk_at dksX3_readNumber_3 0 rfl rfl)
theorem dX3_readNumber_72 : decode cX3_readNumber 72 = .ok (.bipush 10, 2) := dk_16 10 (dk_at dksX3_readNumber_3 1 rfl rfl)
theorem dX3_readNumber_74 : decode cX3_readNumber 74 = .ok (.aload_n 0, 1) := dk_42 (dk_at dksX3_readNumber_3 3 rfl rfl)
theorem dX3_readNumber_75 : decode cX3_readNumber 75 = .ok (.getfield 138, 3) := dk_180 0 138 (dk_at dksX3_readNumber_3 4 rfl rfl)
theorem dX3_readNumber_78 : decode cX3_readNumber 78 = .ok (.imul, 1) := dk_104 (dk_at dksX3_readNumber_3 7 rfl rfl)
theorem dX3_readNumber_79 : decode cX3_readNumber 79 = .ok (.aload_n 0, 1) := dk_42 (dk_at dksX3_readNumber_3 8 rfl rfl)
theorem dX3_readNumber_80 : decode cX3_readNumber 80 = .ok (.getfield 19, 3) := dk_180 0 19 (dk_at dksX3_readNumber_3 9 rfl rfl)
theorem dX3_readNumber_83 : decode cX3_readNumber 83 = .ok (.aload_n 0, 1) := dk_42 (dk_at dksX3_readNumber_3 12 rfl rfl)
theorem dX3_readNumber_84 : decode cX3_readNumber 84 = .ok (.getfield 132, 3) := dk_180 0 132 (dk_at dksX3_readNumber_3 13 rfl rfl)
theorem dX3_readNumber_87 : decode cX3_readNumber 87 = .ok (.iaload, 1) := dk_46 (dk_at dksX3_readNumber_3 16 rfl rfl)
theorem dX3_readNumber_88 : decode cX3_readNumber 88 = .ok (.iadd, 1) := dk_96 (dk_at dksX3_readNumber_3 17 rfl rfl)
theorem dX3_readNumber_89 : decode cX3_readNumber 89 = .ok (.bipush 48, 2) := dk_16 48 (dk_at dksX3_readNumber_3 18 rfl rfl)
theorem dX3_readNumber_91 : decode cX3_readNumber 91 = .ok (.isub, 1) := dk_100 (dk_at dksX3_readNumber_3 20 rfl rfl)
theorem dX3_readNumber_92 : decode cX3_readNumber 92 = .ok (.putfield 138, 3) := dk_181 0 138 (dk_at dksX3_readNumber_3 21 rfl rfl)
theorem dX3_readNumber_95 : decode cX3_readNumber 95 = .ok (.aload_n 0, 1) := dk_42 (dk_at dksX3_readNumber_4 0 rfl rfl)
theorem dX3_readNumber_96 : decode cX3_readNumber 96 = .ok (.dup, 1) := dk_89 (dk_at dksX3_readNumber_4 1 rfl rfl)
theorem dX3_readNumber_97 : decode cX3_readNumber 97 = .ok (.getfield 132, 3) := dk_180 0 132 (dk_at dksX3_readNumber_4 2 rfl rfl)
theorem dX3_readNumber_100 : decode cX3_readNumber 100 = .ok (.iconst 1, 1) := dk_4 (dk_at dksX3_readNumber_4 5 rfl rfl)
theorem dX3_readNumber_101 : decode cX3_readNumber 101 = .ok (.iadd, 1) := dk_96 (dk_at dksX3_readNumber_4 6 rfl rfl)
theorem dX3_readNumber_102 : decode cX3_readNumber 102 = .ok (.putfield 132, 3) := dk_181 0 132 (dk_at dksX3_readNumber_4 7 rfl rfl)
theorem dX3_readNumber_105 : decode cX3_readNumber 105 = .ok (.goto (-100), 3) := dk_167 255 156 (dk_at dksX3_readNumber_4 10 rfl rfl)
theorem dX3_readNumber_108 : decode cX3_readNumber 108 = .ok (.aload_n 0, 1) := dk_42 (dk_at dksX3_readNumber_4 13 rfl rfl)
theorem dX3_readNumber_109 : decode cX3_readNumber 109 = .ok (.getfield 138, 3) := dk_180 0 138 (dk_at dksX3_readNumber_4 14 rfl rfl)
theorem dX3_readNumber_112 : decode cX3_readNumber 112 = .ok (.ifCond .le 7, 3) := dk_158 0 7 (dk_at dksX3_readNumber_4 17 rfl rfl)
theorem dX3_readNumber_115 : decode cX3_readNumber 115 = .ok (.iconst 1, 1) := dk_4 (dk_at dksX3_readNumber_4 20 rfl rfl)
theorem dX3_readNumber_116 : decode cX3_readNumber 116 = .ok (.goto 4, 3) := dk_167 0 4 (dk_at dksX3_readNumber_4 21 rfl rfl)
theorem dX3_readNumber_119 : decode cX3_readNumber 119 = .ok (.iconst 0, 1) := dk_3 (dk_at dksX3_readNumber_5 0 rfl rfl)
theorem dX3_readNumber_120 : decode cX3_readNumber 120 = .ok (.ireturn, 1) := dk_172 (dk_at dksX3_readNumber_5 1 rfl rfl)
abbrev cX3_run : ByteArray := prog_23_method_55_code
def yX3_run : MethodName := ⟨RX3, "run", "()I"⟩
def dkwX3_run_4 : List UInt8 := [42, 3, 181, 0, 129, 27, 172]
abbrev dktX3_run_4 : List UInt8 := dkwX3_run_4 ++ []
def dkwX3_run_3 : List UInt8 := [180, 0, 7, 16, 6, 46, 154, 0, 13, 42, 182, 0, 173, 132, 1, 1, 167, 255, 219, 3, 61, 167, 255, 214]
abbrev dktX3_run_3 : List UInt8 := dkwX3_run_3 ++ dktX3_run_4
def dkwX3_run_2 : List UInt8 := [4, 61, 28, 153, 0, 44, 42, 182, 0, 163, 61, 42, 180, 0, 7, 16, 6, 42, 182, 0, 170, 79, 42]
abbrev dktX3_run_2 : List UInt8 := dkwX3_run_2 ++ dktX3_run_3
def dkwX3_run_1 : List UInt8 := [4, 182, 0, 49, 172, 42, 182, 0, 53, 42, 180, 0, 7, 16, 6, 3, 79, 42, 3, 181, 0, 132, 3, 60]
abbrev dktX3_run_1 : List UInt8 := dkwX3_run_1 ++ dktX3_run_2
def dkwX3_run_0 : List UInt8 := [42, 3, 181, 0, 28, 42, 182, 0, 167, 42, 180, 0, 129, 161, 0, 10, 42, 180, 0, 141, 154, 0, 9, 42]
abbrev dktX3_run_0 : List UInt8 := dkwX3_run_0 ++ dktX3_run_1
theorem dksX3_run_0 : cX3_run.data.toList.drop 0 = dktX3_run_0 := by decide +kernel
theorem dksX3_run_1 : cX3_run.data.toList.drop 24 = dktX3_run_1 := dk_seg dksX3_run_0 24 rfl rfl
theorem dksX3_run_2 : cX3_run.data.toList.drop 48 = dktX3_run_2 := dk_seg dksX3_run_1 24 rfl rfl
theorem dksX3_run_3 : cX3_run.data.toList.drop 71 = dktX3_run_3 := dk_seg dksX3_run_2 23 rfl rfl
theorem dksX3_run_4 : cX3_run.data.toList.drop 95 = dktX3_run_4 := dk_seg dksX3_run_3 24 rfl rfl
theorem dX3_run_0 : decode cX3_run 0 = .ok (.aload_n 0, 1) := dk_42 (dk_at dksX3_run_0 0 rfl rfl)
theorem dX3_run_1 : decode cX3_run 1 = .ok (.iconst 0, 1) := dk_3 (dk_at dksX3_run_0 1 rfl rfl)
theorem dX3_run_2 : decode cX3_run 2 = .ok (.putfield 28, 3) := dk_181 0 28 (dk_at dksX3_run_0 2 rfl rfl)
theorem dX3_run_5 : decode cX3_run 5 = .ok (.aload_n 0, 1) := dk_42 (dk_at dksX3_run_0 5 rfl rfl)
theorem dX3_run_6 : decode cX3_run 6 = .ok (.invokevirtual 167, 3) := dk_182 0 167 (dk_at dksX3_run_0 6 rfl rfl)
theorem dX3_run_9 : decode cX3_run 9 = .ok (.aload_n 0, 1) := dk_42 (dk_at dksX3_run_0 9 rfl rfl)
theorem dX3_run_10 : decode cX3_run 10 = .ok (.getfield 129, 3) := dk_180 0 129 (dk_at dksX3_run_0 10 rfl rfl)
theorem dX3_run_13 : decode cX3_run 13 = .ok (.if_icmp .lt 10, 3) := dk_161 0 10 (dk_at dksX3_run_0 13 rfl rfl)
theorem dX3_run_16 : decode cX3_run 16 = .ok (.aload_n 0, 1) := dk_42 (dk_at dksX3_run_0 16 rfl rfl)
theorem dX3_run_17 : decode cX3_run 17 = .ok (.getfield 141, 3) := dk_180 0 141 (dk_at dksX3_run_0 17 rfl rfl)
theorem dX3_run_20 : decode cX3_run 20 = .ok (.ifCond .ne 9, 3) := dk_154 0 9 (dk_at dksX3_run_0 20 rfl rfl)
theorem dX3_run_23 : decode cX3_run 23 = .ok (.aload_n 0, 1) := dk_42 (dk_at dksX3_run_0 23 rfl rfl)
theorem dX3_run_24 : decode cX3_run 24 = .ok (.iconst 1, 1) := dk_4 (dk_at dksX3_run_1 0 rfl rfl)
theorem dX3_run_25 : decode cX3_run 25 = .ok (.invokevirtual 49, 3) := dk_182 0 49 (dk_at dksX3_run_1 1 rfl rfl)
theorem dX3_run_28 : decode cX3_run 28 = .ok (.ireturn, 1) := dk_172 (dk_at dksX3_run_1 4 rfl rfl)
theorem dX3_run_29 : decode cX3_run 29 = .ok (.aload_n 0, 1) := dk_42 (dk_at dksX3_run_1 5 rfl rfl)
theorem dX3_run_30 : decode cX3_run 30 = .ok (.invokevirtual 53, 3) := dk_182 0 53 (dk_at dksX3_run_1 6 rfl rfl)
theorem dX3_run_33 : decode cX3_run 33 = .ok (.aload_n 0, 1) := dk_42 (dk_at dksX3_run_1 9 rfl rfl)
theorem dX3_run_34 : decode cX3_run 34 = .ok (.getfield 7, 3) := dk_180 0 7 (dk_at dksX3_run_1 10 rfl rfl)
theorem dX3_run_37 : decode cX3_run 37 = .ok (.bipush 6, 2) := dk_16 6 (dk_at dksX3_run_1 13 rfl rfl)
theorem dX3_run_39 : decode cX3_run 39 = .ok (.iconst 0, 1) := dk_3 (dk_at dksX3_run_1 15 rfl rfl)
theorem dX3_run_40 : decode cX3_run 40 = .ok (.iastore, 1) := dk_79 (dk_at dksX3_run_1 16 rfl rfl)
theorem dX3_run_41 : decode cX3_run 41 = .ok (.aload_n 0, 1) := dk_42 (dk_at dksX3_run_1 17 rfl rfl)
theorem dX3_run_42 : decode cX3_run 42 = .ok (.iconst 0, 1) := dk_3 (dk_at dksX3_run_1 18 rfl rfl)
theorem dX3_run_43 : decode cX3_run 43 = .ok (.putfield 132, 3) := dk_181 0 132 (dk_at dksX3_run_1 19 rfl rfl)
theorem dX3_run_46 : decode cX3_run 46 = .ok (.iconst 0, 1) := dk_3 (dk_at dksX3_run_1 22 rfl rfl)
theorem dX3_run_47 : decode cX3_run 47 = .ok (.istore_n 1, 1) := dk_60 (dk_at dksX3_run_1 23 rfl rfl)
theorem dX3_run_48 : decode cX3_run 48 = .ok (.iconst 1, 1) := dk_4 (dk_at dksX3_run_2 0 rfl rfl)
theorem dX3_run_49 : decode cX3_run 49 = .ok (.istore_n 2, 1) := dk_61 (dk_at dksX3_run_2 1 rfl rfl)
theorem dX3_run_50 : decode cX3_run 50 = .ok (.iload_n 2, 1) := dk_28 (dk_at dksX3_run_2 2 rfl rfl)
theorem dX3_run_51 : decode cX3_run 51 = .ok (.ifCond .eq 44, 3) := dk_153 0 44 (dk_at dksX3_run_2 3 rfl rfl)
theorem dX3_run_54 : decode cX3_run 54 = .ok (.aload_n 0, 1) := dk_42 (dk_at dksX3_run_2 6 rfl rfl)
theorem dX3_run_55 : decode cX3_run 55 = .ok (.invokevirtual 163, 3) := dk_182 0 163 (dk_at dksX3_run_2 7 rfl rfl)
theorem dX3_run_58 : decode cX3_run 58 = .ok (.istore_n 2, 1) := dk_61 (dk_at dksX3_run_2 10 rfl rfl)
theorem dX3_run_59 : decode cX3_run 59 = .ok (.aload_n 0, 1) := dk_42 (dk_at dksX3_run_2 11 rfl rfl)
theorem dX3_run_60 : decode cX3_run 60 = .ok (.getfield 7, 3) := dk_180 0 7 (dk_at dksX3_run_2 12 rfl rfl)
theorem dX3_run_63 : decode cX3_run 63 = .ok (.bipush 6, 2) := dk_16 6 (dk_at dksX3_run_2 15 rfl rfl)
theorem dX3_run_65 : decode cX3_run 65 = .ok (.aload_n 0, 1) := dk_42 (dk_at dksX3_run_2 17 rfl rfl)
theorem dX3_run_66 : decode cX3_run 66 = .ok (.invokevirtual 170, 3) := dk_182 0 170 (dk_at dksX3_run_2 18 rfl rfl)
theorem dX3_run_69 : decode cX3_run 69 = .ok (.iastore, 1) := dk_79 (dk_at dksX3_run_2 21 rfl rfl)
theorem dX3_run_70 : decode cX3_run 70 = .ok (.aload_n 0, 1) := dk_42 (dk_at dksX3_run_2 22 rfl rfl)
theorem dX3_run_71 : decode cX3_run 71 = .ok (.getfield 7, 3) := dk_180 0 7 (dk_at dksX3_run_3 0 rfl rfl)
theorem dX3_run_74 : decode cX3_run 74 = .ok (.bipush 6, 2) := dk_16 6 (dk_at dksX3_run_3 3 rfl rfl)
theorem dX3_run_76 : decode cX3_run 76 = .ok (.iaload, 1) := dk_46 (dk_at dksX3_run_3 5 rfl rfl)
theorem dX3_run_77 : decode cX3_run 77 = .ok (.ifCond .ne 13, 3) := dk_154 0 13 (dk_at dksX3_run_3 6 rfl rfl)
theorem dX3_run_80 : decode cX3_run 80 = .ok (.aload_n 0, 1) := dk_42 (dk_at dksX3_run_3 9 rfl rfl)
theorem dX3_run_81 : decode cX3_run 81 = .ok (.invokevirtual 173, 3) := dk_182 0 173 (dk_at dksX3_run_3 10 rfl rfl)
theorem dX3_run_84 : decode cX3_run 84 = .ok (.iinc 1 1, 3) := dk_132 1 1 (dk_at dksX3_run_3 13 rfl rfl)
theorem dX3_run_87 : decode cX3_run 87 = .ok (.goto (-37), 3) := dk_167 255 219 (dk_at dksX3_run_3 16 rfl rfl)
theorem dX3_run_90 : decode cX3_run 90 = .ok (.iconst 0, 1) := dk_3 (dk_at dksX3_run_3 19 rfl rfl)
theorem dX3_run_91 : decode cX3_run 91 = .ok (.istore_n 2, 1) := dk_61 (dk_at dksX3_run_3 20 rfl rfl)
theorem dX3_run_92 : decode cX3_run 92 = .ok (.goto (-42), 3) := dk_167 255 214 (dk_at dksX3_run_3 21 rfl rfl)
theorem dX3_run_95 : decode cX3_run 95 = .ok (.aload_n 0, 1) := dk_42 (dk_at dksX3_run_4 0 rfl rfl)
theorem dX3_run_96 : decode cX3_run 96 = .ok (.iconst 0, 1) := dk_3 (dk_at dksX3_run_4 1 rfl rfl)
theorem dX3_run_97 : decode cX3_run 97 = .ok (.putfield 129, 3) := dk_181 0 129 (dk_at dksX3_run_4 2 rfl rfl)
theorem dX3_run_100 : decode cX3_run 100 = .ok (.iload_n 1, 1) := dk_27 (dk_at dksX3_run_4 5 rfl rfl)
theorem dX3_run_101 : decode cX3_run 101 = .ok (.ireturn, 1) := dk_172 (dk_at dksX3_run_4 6 rfl rfl)
abbrev cX3_againstOrder : ByteArray := prog_23_method_53_code
def yX3_againstOrder : MethodName := ⟨RX3, "againstOrder", "()I"⟩
def dkwX3_againstOrder_7 : List UInt8 := [180, 0, 138, 182, 0, 120, 172]
abbrev dktX3_againstOrder_7 : List UInt8 := dkwX3_againstOrder_7 ++ []
def dkwX3_againstOrder_6 : List UInt8 := [29, 42, 180, 0, 138, 182, 0, 108, 172, 42, 28, 29, 42, 180, 0, 138, 182, 0, 114, 172, 42, 28, 29, 42]
abbrev dktX3_againstOrder_6 : List UInt8 := dkwX3_againstOrder_6 ++ dktX3_againstOrder_7
def dkwX3_againstOrder_5 : List UInt8 := [42, 29, 28, 42, 180, 0, 138, 182, 0, 95, 172, 42, 28, 29, 42, 180, 0, 138, 182, 0, 102, 172, 42, 28]
abbrev dktX3_againstOrder_5 : List UInt8 := dkwX3_againstOrder_5 ++ dktX3_againstOrder_6
def dkwX3_againstOrder_4 : List UInt8 := [171, 0, 0, 0, 0, 86, 0, 0, 0, 4, 0, 0, 0, 98, 0, 0, 0, 75, 0, 0, 0, 100, 0, 0, 0, 42, 0, 0, 0, 114, 0, 0, 0, 64, 0, 0, 0, 115, 0, 0, 0, 53]
abbrev dktX3_againstOrder_4 : List UInt8 := dkwX3_againstOrder_4 ++ dktX3_againstOrder_5
def dkwX3_againstOrder_3 : List UInt8 := [154, 0, 5, 7, 172, 42, 180, 0, 145]
abbrev dktX3_againstOrder_3 : List UInt8 := dkwX3_againstOrder_3 ++ dktX3_againstOrder_4
def dkwX3_againstOrder_2 : List UInt8 := [42, 28, 182, 0, 92, 153, 0, 20, 42, 180, 0, 145, 16, 99, 159, 0, 13, 42, 29, 182, 0, 85]
abbrev dktX3_againstOrder_2 : List UInt8 := dkwX3_againstOrder_2 ++ dktX3_againstOrder_3
def dkwX3_againstOrder_1 : List UInt8 := [167, 0, 7, 42, 180, 0, 151, 61, 27, 153, 0, 10, 42, 180, 0, 151, 167, 0, 7, 42, 180, 0, 157, 62]
abbrev dktX3_againstOrder_1 : List UInt8 := dkwX3_againstOrder_1 ++ dktX3_againstOrder_2
def dkwX3_againstOrder_0 : List UInt8 := [42, 180, 0, 145, 16, 100, 160, 0, 7, 4, 167, 0, 4, 3, 60, 27, 153, 0, 10, 42, 180, 0, 157]
abbrev dktX3_againstOrder_0 : List UInt8 := dkwX3_againstOrder_0 ++ dktX3_againstOrder_1
theorem dksX3_againstOrder_0 : cX3_againstOrder.data.toList.drop 0 = dktX3_againstOrder_0 := by decide +kernel
theorem dksX3_againstOrder_1 : cX3_againstOrder.data.toList.drop 23 = dktX3_againstOrder_1 := dk_seg dksX3_againstOrder_0 23 rfl rfl
theorem dksX3_againstOrder_2 : cX3_againstOrder.data.toList.drop 47 = dktX3_againstOrder_2 := dk_seg dksX3_againstOrder_1 24 rfl rfl
theorem dksX3_againstOrder_3 : cX3_againstOrder.data.toList.drop 69 = dktX3_againstOrder_3 := dk_seg dksX3_againstOrder_2 22 rfl rfl
theorem dksX3_againstOrder_4 : cX3_againstOrder.data.toList.drop 78 = dktX3_againstOrder_4 := dk_seg dksX3_againstOrder_3 9 rfl rfl
theorem dksX3_againstOrder_5 : cX3_againstOrder.data.toList.drop 120 = dktX3_againstOrder_5 := dk_seg dksX3_againstOrder_4 42 rfl rfl
theorem dksX3_againstOrder_6 : cX3_againstOrder.data.toList.drop 144 = dktX3_againstOrder_6 := dk_seg dksX3_againstOrder_5 24 rfl rfl
theorem dksX3_againstOrder_7 : cX3_againstOrder.data.toList.drop 168 = dktX3_againstOrder_7 := dk_seg dksX3_againstOrder_6 24 rfl rfl
theorem dX3_againstOrder_0 : decode cX3_againstOrder 0 = .ok (.aload_n 0, 1) := dk_42 (dk_at dksX3_againstOrder_0 0 rfl rfl)
theorem dX3_againstOrder_1 : decode cX3_againstOrder 1 = .ok (.getfield 145, 3) := dk_180 0 145 (dk_at dksX3_againstOrder_0 1 rfl rfl)
theorem dX3_againstOrder_4 : decode cX3_againstOrder 4 = .ok (.bipush 100, 2) := dk_16 100 (dk_at dksX3_againstOrder_0 4 rfl rfl)
theorem dX3_againstOrder_6 : decode cX3_againstOrder 6 = .ok (.if_icmp .ne 7, 3) := dk_160 0 7 (dk_at dksX3_againstOrder_0 6 rfl rfl)
theorem dX3_againstOrder_9 : decode cX3_againstOrder 9 = .ok (.iconst 1, 1) := dk_4 (dk_at dksX3_againstOrder_0 9 rfl rfl)
theorem dX3_againstOrder_10 : decode cX3_againstOrder 10 = .ok (.goto 4, 3) := dk_167 0 4 (dk_at dksX3_againstOrder_0 10 rfl rfl)
theorem dX3_againstOrder_13 : decode cX3_againstOrder 13 = .ok (.iconst 0, 1) := dk_3 (dk_at dksX3_againstOrder_0 13 rfl rfl)
theorem dX3_againstOrder_14 : decode cX3_againstOrder 14 = .ok (.istore_n 1, 1) := dk_60 (dk_at dksX3_againstOrder_0 14 rfl rfl)
theorem dX3_againstOrder_15 : decode cX3_againstOrder 15 = .ok (.iload_n 1, 1) := dk_27 (dk_at dksX3_againstOrder_0 15 rfl rfl)
theorem dX3_againstOrder_16 : decode cX3_againstOrder 16 = .ok (.ifCond .eq 10, 3) := dk_153 0 10 (dk_at dksX3_againstOrder_0 16 rfl rfl)
theorem dX3_againstOrder_19 : decode cX3_againstOrder 19 = .ok (.aload_n 0, 1) := dk_42 (dk_at dksX3_againstOrder_0 19 rfl rfl)
theorem dX3_againstOrder_20 : decode cX3_againstOrder 20 = .ok (.getfield 157, 3) := dk_180 0 157 (dk_at dksX3_againstOrder_0 20 rfl rfl)
theorem dX3_againstOrder_23 : decode cX3_againstOrder 23 = .ok (.goto 7, 3) := dk_167 0 7 (dk_at dksX3_againstOrder_1 0 rfl rfl)
theorem dX3_againstOrder_26 : decode cX3_againstOrder 26 = .ok (.aload_n 0, 1) := dk_42 (dk_at dksX3_againstOrder_1 3 rfl rfl)
theorem dX3_againstOrder_27 : decode cX3_againstOrder 27 = .ok (.getfield 151, 3) := dk_180 0 151 (dk_at dksX3_againstOrder_1 4 rfl rfl)
theorem dX3_againstOrder_30 : decode cX3_againstOrder 30 = .ok (.istore_n 2, 1) := dk_61 (dk_at dksX3_againstOrder_1 7 rfl rfl)
theorem dX3_againstOrder_31 : decode cX3_againstOrder 31 = .ok (.iload_n 1, 1) := dk_27 (dk_at dksX3_againstOrder_1 8 rfl rfl)
theorem dX3_againstOrder_32 : decode cX3_againstOrder 32 = .ok (.ifCond .eq 10, 3) := dk_153 0 10 (dk_at dksX3_againstOrder_1 9 rfl rfl)
theorem dX3_againstOrder_35 : decode cX3_againstOrder 35 = .ok (.aload_n 0, 1) := dk_42 (dk_at dksX3_againstOrder_1 12 rfl rfl)
theorem dX3_againstOrder_36 : decode cX3_againstOrder 36 = .ok (.getfield 151, 3) := dk_180 0 151 (dk_at dksX3_againstOrder_1 13 rfl rfl)
theorem dX3_againstOrder_39 : decode cX3_againstOrder 39 = .ok (.goto 7, 3) := dk_167 0 7 (dk_at dksX3_againstOrder_1 16 rfl rfl)
theorem dX3_againstOrder_42 : decode cX3_againstOrder 42 = .ok (.aload_n 0, 1) := dk_42 (dk_at dksX3_againstOrder_1 19 rfl rfl)
theorem dX3_againstOrder_43 : decode cX3_againstOrder 43 = .ok (.getfield 157, 3) := dk_180 0 157 (dk_at dksX3_againstOrder_1 20 rfl rfl)
theorem dX3_againstOrder_46 : decode cX3_againstOrder 46 = .ok (.istore_n 3, 1) := dk_62 (dk_at dksX3_againstOrder_1 23 rfl rfl)
theorem dX3_againstOrder_47 : decode cX3_againstOrder 47 = .ok (.aload_n 0, 1) := dk_42 (dk_at dksX3_againstOrder_2 0 rfl rfl)
theorem dX3_againstOrder_48 : decode cX3_againstOrder 48 = .ok (.iload_n 2, 1) := dk_28 (dk_at dksX3_againstOrder_2 1 rfl rfl)
theorem dX3_againstOrder_49 : decode cX3_againstOrder 49 = .ok (.invokevirtual 92, 3) := dk_182 0 92 (dk_at dksX3_againstOrder_2 2 rfl rfl)
theorem dX3_againstOrder_52 : decode cX3_againstOrder 52 = .ok (.ifCond .eq 20, 3) := dk_153 0 20 (dk_at dksX3_againstOrder_2 5 rfl rfl)
theorem dX3_againstOrder_55 : decode cX3_againstOrder 55 = .ok (.aload_n 0, 1) := dk_42 (dk_at dksX3_againstOrder_2 8 rfl rfl)
theorem dX3_againstOrder_56 : decode cX3_againstOrder 56 = .ok (.getfield 145, 3) := dk_180 0 145 (dk_at dksX3_againstOrder_2 9 rfl rfl)
theorem dX3_againstOrder_59 : decode cX3_againstOrder 59 = .ok (.bipush 99, 2) := dk_16 99 (dk_at dksX3_againstOrder_2 12 rfl rfl)
theorem dX3_againstOrder_61 : decode cX3_againstOrder 61 = .ok (.if_icmp .eq 13, 3) := dk_159 0 13 (dk_at dksX3_againstOrder_2 14 rfl rfl)
theorem dX3_againstOrder_64 : decode cX3_againstOrder 64 = .ok (.aload_n 0, 1) := dk_42 (dk_at dksX3_againstOrder_2 17 rfl rfl)
theorem dX3_againstOrder_65 : decode cX3_againstOrder 65 = .ok (.iload_n 3, 1) := dk_29 (dk_at dksX3_againstOrder_2 18 rfl rfl)
theorem dX3_againstOrder_66 : decode cX3_againstOrder 66 = .ok (.invokevirtual 85, 3) := dk_182 0 85 (dk_at dksX3_againstOrder_2 19 rfl rfl)
theorem dX3_againstOrder_69 : decode cX3_againstOrder 69 = .ok (.ifCond .ne 5, 3) := dk_154 0 5 (dk_at dksX3_againstOrder_3 0 rfl rfl)
theorem dX3_againstOrder_72 : decode cX3_againstOrder 72 = .ok (.iconst 4, 1) := dk_7 (dk_at dksX3_againstOrder_3 3 rfl rfl)
theorem dX3_againstOrder_73 : decode cX3_againstOrder 73 = .ok (.ireturn, 1) := dk_172 (dk_at dksX3_againstOrder_3 4 rfl rfl)
theorem dX3_againstOrder_74 : decode cX3_againstOrder 74 = .ok (.aload_n 0, 1) := dk_42 (dk_at dksX3_againstOrder_3 5 rfl rfl)
theorem dX3_againstOrder_75 : decode cX3_againstOrder 75 = .ok (.getfield 145, 3) := dk_180 0 145 (dk_at dksX3_againstOrder_3 6 rfl rfl)
theorem dX3_againstOrder_78 : decode cX3_againstOrder 78 = .ok (.lookupswitch 86 #[(98, 75), (100, 42), (114, 64), (115, 53)], 42) := by decide +kernel
theorem dX3_againstOrder_120 : decode cX3_againstOrder 120 = .ok (.aload_n 0, 1) := dk_42 (dk_at dksX3_againstOrder_5 0 rfl rfl)
theorem dX3_againstOrder_121 : decode cX3_againstOrder 121 = .ok (.iload_n 3, 1) := dk_29 (dk_at dksX3_againstOrder_5 1 rfl rfl)
theorem dX3_againstOrder_122 : decode cX3_againstOrder 122 = .ok (.iload_n 2, 1) := dk_28 (dk_at dksX3_againstOrder_5 2 rfl rfl)
theorem dX3_againstOrder_123 : decode cX3_againstOrder 123 = .ok (.aload_n 0, 1) := dk_42 (dk_at dksX3_againstOrder_5 3 rfl rfl)
theorem dX3_againstOrder_124 : decode cX3_againstOrder 124 = .ok (.getfield 138, 3) := dk_180 0 138 (dk_at dksX3_againstOrder_5 4 rfl rfl)
theorem dX3_againstOrder_127 : decode cX3_againstOrder 127 = .ok (.invokevirtual 95, 3) := dk_182 0 95 (dk_at dksX3_againstOrder_5 7 rfl rfl)
theorem dX3_againstOrder_130 : decode cX3_againstOrder 130 = .ok (.ireturn, 1) := dk_172 (dk_at dksX3_againstOrder_5 10 rfl rfl)
theorem dX3_againstOrder_131 : decode cX3_againstOrder 131 = .ok (.aload_n 0, 1) := dk_42 (dk_at dksX3_againstOrder_5 11 rfl rfl)
theorem dX3_againstOrder_132 : decode cX3_againstOrder 132 = .ok (.iload_n 2, 1) := dk_28 (dk_at dksX3_againstOrder_5 12 rfl rfl)
theorem dX3_againstOrder_133 : decode cX3_againstOrder 133 = .ok (.iload_n 3, 1) := dk_29 (dk_at dksX3_againstOrder_5 13 rfl rfl)
theorem dX3_againstOrder_134 : decode cX3_againstOrder 134 = .ok (.aload_n 0, 1) := dk_42 (dk_at dksX3_againstOrder_5 14 rfl rfl)
theorem dX3_againstOrder_135 : decode cX3_againstOrder 135 = .ok (.getfield 138, 3) := dk_180 0 138 (dk_at dksX3_againstOrder_5 15 rfl rfl)
theorem dX3_againstOrder_138 : decode cX3_againstOrder 138 = .ok (.invokevirtual 102, 3) := dk_182 0 102 (dk_at dksX3_againstOrder_5 18 rfl rfl)
theorem dX3_againstOrder_141 : decode cX3_againstOrder 141 = .ok (.ireturn, 1) := dk_172 (dk_at dksX3_againstOrder_5 21 rfl rfl)
theorem dX3_againstOrder_142 : decode cX3_againstOrder 142 = .ok (.aload_n 0, 1) := dk_42 (dk_at dksX3_againstOrder_5 22 rfl rfl)
theorem dX3_againstOrder_143 : decode cX3_againstOrder 143 = .ok (.iload_n 2, 1) := dk_28 (dk_at dksX3_againstOrder_5 23 rfl rfl)
theorem dX3_againstOrder_144 : decode cX3_againstOrder 144 = .ok (.iload_n 3, 1) := dk_29 (dk_at dksX3_againstOrder_6 0 rfl rfl)
theorem dX3_againstOrder_145 : decode cX3_againstOrder 145 = .ok (.aload_n 0, 1) := dk_42 (dk_at dksX3_againstOrder_6 1 rfl rfl)
theorem dX3_againstOrder_146 : decode cX3_againstOrder 146 = .ok (.getfield 138, 3) := dk_180 0 138 (dk_at dksX3_againstOrder_6 2 rfl rfl)
theorem dX3_againstOrder_149 : decode cX3_againstOrder 149 = .ok (.invokevirtual 108, 3) := dk_182 0 108 (dk_at dksX3_againstOrder_6 5 rfl rfl)
theorem dX3_againstOrder_152 : decode cX3_againstOrder 152 = .ok (.ireturn, 1) := dk_172 (dk_at dksX3_againstOrder_6 8 rfl rfl)
theorem dX3_againstOrder_153 : decode cX3_againstOrder 153 = .ok (.aload_n 0, 1) := dk_42 (dk_at dksX3_againstOrder_6 9 rfl rfl)
theorem dX3_againstOrder_154 : decode cX3_againstOrder 154 = .ok (.iload_n 2, 1) := dk_28 (dk_at dksX3_againstOrder_6 10 rfl rfl)
theorem dX3_againstOrder_155 : decode cX3_againstOrder 155 = .ok (.iload_n 3, 1) := dk_29 (dk_at dksX3_againstOrder_6 11 rfl rfl)
theorem dX3_againstOrder_156 : decode cX3_againstOrder 156 = .ok (.aload_n 0, 1) := dk_42 (dk_at dksX3_againstOrder_6 12 rfl rfl)
theorem dX3_againstOrder_157 : decode cX3_againstOrder 157 = .ok (.getfield 138, 3) := dk_180 0 138 (dk_at dksX3_againstOrder_6 13 rfl rfl)
theorem dX3_againstOrder_160 : decode cX3_againstOrder 160 = .ok (.invokevirtual 114, 3) := dk_182 0 114 (dk_at dksX3_againstOrder_6 16 rfl rfl)
theorem dX3_againstOrder_163 : decode cX3_againstOrder 163 = .ok (.ireturn, 1) := dk_172 (dk_at dksX3_againstOrder_6 19 rfl rfl)
theorem dX3_againstOrder_164 : decode cX3_againstOrder 164 = .ok (.aload_n 0, 1) := dk_42 (dk_at dksX3_againstOrder_6 20 rfl rfl)
theorem dX3_againstOrder_165 : decode cX3_againstOrder 165 = .ok (.iload_n 2, 1) := dk_28 (dk_at dksX3_againstOrder_6 21 rfl rfl)
theorem dX3_againstOrder_166 : decode cX3_againstOrder 166 = .ok (.iload_n 3, 1) := dk_29 (dk_at dksX3_againstOrder_6 22 rfl rfl)
theorem dX3_againstOrder_167 : decode cX3_againstOrder 167 = .ok (.aload_n 0, 1) := dk_42 (dk_at dksX3_againstOrder_6 23 rfl rfl)
theorem dX3_againstOrder_168 : decode cX3_againstOrder 168 = .ok (.getfield 138, 3) := dk_180 0 138 (dk_at dksX3_againstOrder_7 0 rfl rfl)
theorem dX3_againstOrder_171 : decode cX3_againstOrder 171 = .ok (.invokevirtual 120, 3) := dk_182 0 120 (dk_at dksX3_againstOrder_7 3 rfl rfl)
theorem dX3_againstOrder_174 : decode cX3_againstOrder 174 = .ok (.ireturn, 1) := dk_172 (dk_at dksX3_againstOrder_7 6 rfl rfl)
abbrev cX3_doOrder : ByteArray := prog_23_method_54_code
def yX3_doOrder : MethodName := ⟨RX3, "doOrder", "()V"⟩
def dkwX3_doOrder_6 : List UInt8 := [182, 0, 123, 87, 177]
abbrev dktX3_doOrder_6 : List UInt8 := dkwX3_doOrder_6 ++ []
def dkwX3_doOrder_5 : List UInt8 := [180, 0, 138, 182, 0, 117, 87, 167, 0, 20, 42, 42, 180, 0, 151, 42, 180, 0, 157, 42, 180, 0, 138]
abbrev dktX3_doOrder_5 : List UInt8 := dkwX3_doOrder_5 ++ dktX3_doOrder_6
def dkwX3_doOrder_4 : List UInt8 := [180, 0, 157, 42, 180, 0, 138, 182, 0, 111, 87, 167, 0, 40, 42, 42, 180, 0, 151, 42, 180, 0, 157, 42]
abbrev dktX3_doOrder_4 : List UInt8 := dkwX3_doOrder_4 ++ dktX3_doOrder_5
def dkwX3_doOrder_3 : List UInt8 := [180, 0, 151, 42, 180, 0, 157, 42, 180, 0, 138, 182, 0, 105, 87, 167, 0, 60, 42, 42, 180, 0, 151, 42]
abbrev dktX3_doOrder_3 : List UInt8 := dkwX3_doOrder_3 ++ dktX3_doOrder_4
def dkwX3_doOrder_2 : List UInt8 := [42, 42, 180, 0, 151, 42, 180, 0, 157, 42, 180, 0, 138, 182, 0, 99, 87, 167, 0, 80, 42, 42]
abbrev dktX3_doOrder_2 : List UInt8 := dkwX3_doOrder_2 ++ dktX3_doOrder_3
def dkwX3_doOrder_1 : List UInt8 := [171, 0, 0, 0, 0, 0, 0, 124, 0, 0, 0, 4, 0, 0, 0, 98, 0, 0, 0, 104, 0, 0, 0, 100, 0, 0, 0, 44, 0, 0, 0, 114, 0, 0, 0, 84, 0, 0, 0, 115, 0, 0, 0, 64]
abbrev dktX3_doOrder_1 : List UInt8 := dkwX3_doOrder_1 ++ dktX3_doOrder_2
def dkwX3_doOrder_0 : List UInt8 := [42, 180, 0, 145]
abbrev dktX3_doOrder_0 : List UInt8 := dkwX3_doOrder_0 ++ dktX3_doOrder_1
theorem dksX3_doOrder_0 : cX3_doOrder.data.toList.drop 0 = dktX3_doOrder_0 := by decide +kernel
theorem dksX3_doOrder_1 : cX3_doOrder.data.toList.drop 4 = dktX3_doOrder_1 := dk_seg dksX3_doOrder_0 4 rfl rfl
theorem dksX3_doOrder_2 : cX3_doOrder.data.toList.drop 48 = dktX3_doOrder_2 := dk_seg dksX3_doOrder_1 44 rfl rfl
theorem dksX3_doOrder_3 : cX3_doOrder.data.toList.drop 70 = dktX3_doOrder_3 := dk_seg dksX3_doOrder_2 22 rfl rfl
theorem dksX3_doOrder_4 : cX3_doOrder.data.toList.drop 94 = dktX3_doOrder_4 := dk_seg dksX3_doOrder_3 24 rfl rfl
theorem dksX3_doOrder_5 : cX3_doOrder.data.toList.drop 118 = dktX3_doOrder_5 := dk_seg dksX3_doOrder_4 24 rfl rfl
theorem dksX3_doOrder_6 : cX3_doOrder.data.toList.drop 141 = dktX3_doOrder_6 := dk_seg dksX3_doOrder_5 23 rfl rfl
theorem dX3_doOrder_0 : decode cX3_doOrder 0 = .ok (.aload_n 0, 1) := dk_42 (dk_at dksX3_doOrder_0 0 rfl rfl)
theorem dX3_doOrder_1 : decode cX3_doOrder 1 = .ok (.getfield 145, 3) := dk_180 0 145 (dk_at dksX3_doOrder_0 1 rfl rfl)
theorem dX3_doOrder_4 : decode cX3_doOrder 4 = .ok (.lookupswitch 124 #[(98, 104), (100, 44), (114, 84), (115, 64)], 44) := by decide +kernel
theorem dX3_doOrder_48 : decode cX3_doOrder 48 = .ok (.aload_n 0, 1) := dk_42 (dk_at dksX3_doOrder_2 0 rfl rfl)
theorem dX3_doOrder_49 : decode cX3_doOrder 49 = .ok (.aload_n 0, 1) := dk_42 (dk_at dksX3_doOrder_2 1 rfl rfl)
theorem dX3_doOrder_50 : decode cX3_doOrder 50 = .ok (.getfield 151, 3) := dk_180 0 151 (dk_at dksX3_doOrder_2 2 rfl rfl)
theorem dX3_doOrder_53 : decode cX3_doOrder 53 = .ok (.aload_n 0, 1) := dk_42 (dk_at dksX3_doOrder_2 5 rfl rfl)
theorem dX3_doOrder_54 : decode cX3_doOrder 54 = .ok (.getfield 157, 3) := dk_180 0 157 (dk_at dksX3_doOrder_2 6 rfl rfl)
theorem dX3_doOrder_57 : decode cX3_doOrder 57 = .ok (.aload_n 0, 1) := dk_42 (dk_at dksX3_doOrder_2 9 rfl rfl)
theorem dX3_doOrder_58 : decode cX3_doOrder 58 = .ok (.getfield 138, 3) := dk_180 0 138 (dk_at dksX3_doOrder_2 10 rfl rfl)
theorem dX3_doOrder_61 : decode cX3_doOrder 61 = .ok (.invokevirtual 99, 3) := dk_182 0 99 (dk_at dksX3_doOrder_2 13 rfl rfl)
theorem dX3_doOrder_64 : decode cX3_doOrder 64 = .ok (.pop, 1) := dk_87 (dk_at dksX3_doOrder_2 16 rfl rfl)
theorem dX3_doOrder_65 : decode cX3_doOrder 65 = .ok (.goto 80, 3) := dk_167 0 80 (dk_at dksX3_doOrder_2 17 rfl rfl)
theorem dX3_doOrder_68 : decode cX3_doOrder 68 = .ok (.aload_n 0, 1) := dk_42 (dk_at dksX3_doOrder_2 20 rfl rfl)
theorem dX3_doOrder_69 : decode cX3_doOrder 69 = .ok (.aload_n 0, 1) := dk_42 (dk_at dksX3_doOrder_2 21 rfl rfl)
theorem dX3_doOrder_70 : decode cX3_doOrder 70 = .ok (.getfield 151, 3) := dk_180 0 151 (dk_at dksX3_doOrder_3 0 rfl rfl)
theorem dX3_doOrder_73 : decode cX3_doOrder 73 = .ok (.aload_n 0, 1) := dk_42 (dk_at dksX3_doOrder_3 3 rfl rfl)
theorem dX3_doOrder_74 : decode cX3_doOrder 74 = .ok (.getfield 157, 3) := dk_180 0 157 (dk_at dksX3_doOrder_3 4 rfl rfl)
theorem dX3_doOrder_77 : decode cX3_doOrder 77 = .ok (.aload_n 0, 1) := dk_42 (dk_at dksX3_doOrder_3 7 rfl rfl)
theorem dX3_doOrder_78 : decode cX3_doOrder 78 = .ok (.getfield 138, 3) := dk_180 0 138 (dk_at dksX3_doOrder_3 8 rfl rfl)
theorem dX3_doOrder_81 : decode cX3_doOrder 81 = .ok (.invokevirtual 105, 3) := dk_182 0 105 (dk_at dksX3_doOrder_3 11 rfl rfl)
theorem dX3_doOrder_84 : decode cX3_doOrder 84 = .ok (.pop, 1) := dk_87 (dk_at dksX3_doOrder_3 14 rfl rfl)
theorem dX3_doOrder_85 : decode cX3_doOrder 85 = .ok (.goto 60, 3) := dk_167 0 60 (dk_at dksX3_doOrder_3 15 rfl rfl)
theorem dX3_doOrder_88 : decode cX3_doOrder 88 = .ok (.aload_n 0, 1) := dk_42 (dk_at dksX3_doOrder_3 18 rfl rfl)
theorem dX3_doOrder_89 : decode cX3_doOrder 89 = .ok (.aload_n 0, 1) := dk_42 (dk_at dksX3_doOrder_3 19 rfl rfl)
theorem dX3_doOrder_90 : decode cX3_doOrder 90 = .ok (.getfield 151, 3) := dk_180 0 151 (dk_at dksX3_doOrder_3 20 rfl rfl)
theorem dX3_doOrder_93 : decode cX3_doOrder 93 = .ok (.aload_n 0, 1) := dk_42 (dk_at dksX3_doOrder_3 23 rfl rfl)
theorem dX3_doOrder_94 : decode cX3_doOrder 94 = .ok (.getfield 157, 3) := dk_180 0 157 (dk_at dksX3_doOrder_4 0 rfl rfl)
theorem dX3_doOrder_97 : decode cX3_doOrder 97 = .ok (.aload_n 0, 1) := dk_42 (dk_at dksX3_doOrder_4 3 rfl rfl)
theorem dX3_doOrder_98 : decode cX3_doOrder 98 = .ok (.getfield 138, 3) := dk_180 0 138 (dk_at dksX3_doOrder_4 4 rfl rfl)
theorem dX3_doOrder_101 : decode cX3_doOrder 101 = .ok (.invokevirtual 111, 3) := dk_182 0 111 (dk_at dksX3_doOrder_4 7 rfl rfl)
theorem dX3_doOrder_104 : decode cX3_doOrder 104 = .ok (.pop, 1) := dk_87 (dk_at dksX3_doOrder_4 10 rfl rfl)
theorem dX3_doOrder_105 : decode cX3_doOrder 105 = .ok (.goto 40, 3) := dk_167 0 40 (dk_at dksX3_doOrder_4 11 rfl rfl)
theorem dX3_doOrder_108 : decode cX3_doOrder 108 = .ok (.aload_n 0, 1) := dk_42 (dk_at dksX3_doOrder_4 14 rfl rfl)
theorem dX3_doOrder_109 : decode cX3_doOrder 109 = .ok (.aload_n 0, 1) := dk_42 (dk_at dksX3_doOrder_4 15 rfl rfl)
theorem dX3_doOrder_110 : decode cX3_doOrder 110 = .ok (.getfield 151, 3) := dk_180 0 151 (dk_at dksX3_doOrder_4 16 rfl rfl)
theorem dX3_doOrder_113 : decode cX3_doOrder 113 = .ok (.aload_n 0, 1) := dk_42 (dk_at dksX3_doOrder_4 19 rfl rfl)
theorem dX3_doOrder_114 : decode cX3_doOrder 114 = .ok (.getfield 157, 3) := dk_180 0 157 (dk_at dksX3_doOrder_4 20 rfl rfl)
theorem dX3_doOrder_117 : decode cX3_doOrder 117 = .ok (.aload_n 0, 1) := dk_42 (dk_at dksX3_doOrder_4 23 rfl rfl)
theorem dX3_doOrder_118 : decode cX3_doOrder 118 = .ok (.getfield 138, 3) := dk_180 0 138 (dk_at dksX3_doOrder_5 0 rfl rfl)
theorem dX3_doOrder_121 : decode cX3_doOrder 121 = .ok (.invokevirtual 117, 3) := dk_182 0 117 (dk_at dksX3_doOrder_5 3 rfl rfl)
theorem dX3_doOrder_124 : decode cX3_doOrder 124 = .ok (.pop, 1) := dk_87 (dk_at dksX3_doOrder_5 6 rfl rfl)
theorem dX3_doOrder_125 : decode cX3_doOrder 125 = .ok (.goto 20, 3) := dk_167 0 20 (dk_at dksX3_doOrder_5 7 rfl rfl)
theorem dX3_doOrder_128 : decode cX3_doOrder 128 = .ok (.aload_n 0, 1) := dk_42 (dk_at dksX3_doOrder_5 10 rfl rfl)
theorem dX3_doOrder_129 : decode cX3_doOrder 129 = .ok (.aload_n 0, 1) := dk_42 (dk_at dksX3_doOrder_5 11 rfl rfl)
theorem dX3_doOrder_130 : decode cX3_doOrder 130 = .ok (.getfield 151, 3) := dk_180 0 151 (dk_at dksX3_doOrder_5 12 rfl rfl)
theorem dX3_doOrder_133 : decode cX3_doOrder 133 = .ok (.aload_n 0, 1) := dk_42 (dk_at dksX3_doOrder_5 15 rfl rfl)
theorem dX3_doOrder_134 : decode cX3_doOrder 134 = .ok (.getfield 157, 3) := dk_180 0 157 (dk_at dksX3_doOrder_5 16 rfl rfl)
theorem dX3_doOrder_137 : decode cX3_doOrder 137 = .ok (.aload_n 0, 1) := dk_42 (dk_at dksX3_doOrder_5 19 rfl rfl)
theorem dX3_doOrder_138 : decode cX3_doOrder 138 = .ok (.getfield 138, 3) := dk_180 0 138 (dk_at dksX3_doOrder_5 20 rfl rfl)
theorem dX3_doOrder_141 : decode cX3_doOrder 141 = .ok (.invokevirtual 123, 3) := dk_182 0 123 (dk_at dksX3_doOrder_6 0 rfl rfl)
theorem dX3_doOrder_144 : decode cX3_doOrder 144 = .ok (.pop, 1) := dk_87 (dk_at dksX3_doOrder_6 3 rfl rfl)
theorem dX3_doOrder_145 : decode cX3_doOrder 145 = .ok (.return_, 1) := dk_177 (dk_at dksX3_doOrder_6 4 rfl rfl)
abbrev cX3_undo : ByteArray := prog_23_method_56_code
def yX3_undo : MethodName := ⟨RX3, "undo", "()I"⟩
def dkwX3_undo_2 : List UInt8 := [17, 1, 27, 42, 180, 0, 32, 104, 27, 96, 46, 79, 132, 1, 1, 167, 255, 225, 42, 180, 0, 32, 172]
abbrev dktX3_undo_2 : List UInt8 := dkwX3_undo_2 ++ []
def dkwX3_undo_1 : List UInt8 := [100, 181, 0, 32, 3, 60, 27, 17, 1, 27, 162, 0, 30, 42, 180, 0, 7, 27, 42, 180, 0, 16]
abbrev dktX3_undo_1 : List UInt8 := dkwX3_undo_1 ++ dktX3_undo_2
def dkwX3_undo_0 : List UInt8 := [42, 3, 181, 0, 28, 42, 180, 0, 32, 154, 0, 9, 42, 4, 182, 0, 49, 172, 42, 89, 180, 0, 32, 4]
abbrev dktX3_undo_0 : List UInt8 := dkwX3_undo_0 ++ dktX3_undo_1
theorem dksX3_undo_0 : cX3_undo.data.toList.drop 0 = dktX3_undo_0 := by decide +kernel
theorem dksX3_undo_1 : cX3_undo.data.toList.drop 24 = dktX3_undo_1 := dk_seg dksX3_undo_0 24 rfl rfl
theorem dksX3_undo_2 : cX3_undo.data.toList.drop 46 = dktX3_undo_2 := dk_seg dksX3_undo_1 22 rfl rfl
theorem dX3_undo_0 : decode cX3_undo 0 = .ok (.aload_n 0, 1) := dk_42 (dk_at dksX3_undo_0 0 rfl rfl)
theorem dX3_undo_1 : decode cX3_undo 1 = .ok (.iconst 0, 1) := dk_3 (dk_at dksX3_undo_0 1 rfl rfl)
theorem dX3_undo_2 : decode cX3_undo 2 = .ok (.putfield 28, 3) := dk_181 0 28 (dk_at dksX3_undo_0 2 rfl rfl)
theorem dX3_undo_5 : decode cX3_undo 5 = .ok (.aload_n 0, 1) := dk_42 (dk_at dksX3_undo_0 5 rfl rfl)
theorem dX3_undo_6 : decode cX3_undo 6 = .ok (.getfield 32, 3) := dk_180 0 32 (dk_at dksX3_undo_0 6 rfl rfl)
theorem dX3_undo_9 : decode cX3_undo 9 = .ok (.ifCond .ne 9, 3) := dk_154 0 9 (dk_at dksX3_undo_0 9 rfl rfl)
theorem dX3_undo_12 : decode cX3_undo 12 = .ok (.aload_n 0, 1) := dk_42 (dk_at dksX3_undo_0 12 rfl rfl)
theorem dX3_undo_13 : decode cX3_undo 13 = .ok (.iconst 1, 1) := dk_4 (dk_at dksX3_undo_0 13 rfl rfl)
theorem dX3_undo_14 : decode cX3_undo 14 = .ok (.invokevirtual 49, 3) := dk_182 0 49 (dk_at dksX3_undo_0 14 rfl rfl)
theorem dX3_undo_17 : decode cX3_undo 17 = .ok (.ireturn, 1) := dk_172 (dk_at dksX3_undo_0 17 rfl rfl)
theorem dX3_undo_18 : decode cX3_undo 18 = .ok (.aload_n 0, 1) := dk_42 (dk_at dksX3_undo_0 18 rfl rfl)
theorem dX3_undo_19 : decode cX3_undo 19 = .ok (.dup, 1) := dk_89 (dk_at dksX3_undo_0 19 rfl rfl)
theorem dX3_undo_20 : decode cX3_undo 20 = .ok (.getfield 32, 3) := dk_180 0 32 (dk_at dksX3_undo_0 20 rfl rfl)
theorem dX3_undo_23 : decode cX3_undo 23 = .ok (.iconst 1, 1) := dk_4 (dk_at dksX3_undo_0 23 rfl rfl)
theorem dX3_undo_24 : decode cX3_undo 24 = .ok (.isub, 1) := dk_100 (dk_at dksX3_undo_1 0 rfl rfl)
theorem dX3_undo_25 : decode cX3_undo 25 = .ok (.putfield 32, 3) := dk_181 0 32 (dk_at dksX3_undo_1 1 rfl rfl)
theorem dX3_undo_28 : decode cX3_undo 28 = .ok (.iconst 0, 1) := dk_3 (dk_at dksX3_undo_1 4 rfl rfl)
theorem dX3_undo_29 : decode cX3_undo 29 = .ok (.istore_n 1, 1) := dk_60 (dk_at dksX3_undo_1 5 rfl rfl)
theorem dX3_undo_30 : decode cX3_undo 30 = .ok (.iload_n 1, 1) := dk_27 (dk_at dksX3_undo_1 6 rfl rfl)
theorem dX3_undo_31 : decode cX3_undo 31 = .ok (.sipush 283, 3) := dk_17 1 27 (dk_at dksX3_undo_1 7 rfl rfl)
theorem dX3_undo_34 : decode cX3_undo 34 = .ok (.if_icmp .ge 30, 3) := dk_162 0 30 (dk_at dksX3_undo_1 10 rfl rfl)
theorem dX3_undo_37 : decode cX3_undo 37 = .ok (.aload_n 0, 1) := dk_42 (dk_at dksX3_undo_1 13 rfl rfl)
theorem dX3_undo_38 : decode cX3_undo 38 = .ok (.getfield 7, 3) := dk_180 0 7 (dk_at dksX3_undo_1 14 rfl rfl)
theorem dX3_undo_41 : decode cX3_undo 41 = .ok (.iload_n 1, 1) := dk_27 (dk_at dksX3_undo_1 17 rfl rfl)
theorem dX3_undo_42 : decode cX3_undo 42 = .ok (.aload_n 0, 1) := dk_42 (dk_at dksX3_undo_1 18 rfl rfl)
theorem dX3_undo_43 : decode cX3_undo 43 = .ok (.getfield 16, 3) := dk_180 0 16 (dk_at dksX3_undo_1 19 rfl rfl)
theorem dX3_undo_46 : decode cX3_undo 46 = .ok (.sipush 283, 3) := dk_17 1 27 (dk_at dksX3_undo_2 0 rfl rfl)
theorem dX3_undo_49 : decode cX3_undo 49 = .ok (.aload_n 0, 1) := dk_42 (dk_at dksX3_undo_2 3 rfl rfl)
theorem dX3_undo_50 : decode cX3_undo 50 = .ok (.getfield 32, 3) := dk_180 0 32 (dk_at dksX3_undo_2 4 rfl rfl)
theorem dX3_undo_53 : decode cX3_undo 53 = .ok (.imul, 1) := dk_104 (dk_at dksX3_undo_2 7 rfl rfl)
theorem dX3_undo_54 : decode cX3_undo 54 = .ok (.iload_n 1, 1) := dk_27 (dk_at dksX3_undo_2 8 rfl rfl)
theorem dX3_undo_55 : decode cX3_undo 55 = .ok (.iadd, 1) := dk_96 (dk_at dksX3_undo_2 9 rfl rfl)
theorem dX3_undo_56 : decode cX3_undo 56 = .ok (.iaload, 1) := dk_46 (dk_at dksX3_undo_2 10 rfl rfl)
theorem dX3_undo_57 : decode cX3_undo 57 = .ok (.iastore, 1) := dk_79 (dk_at dksX3_undo_2 11 rfl rfl)
theorem dX3_undo_58 : decode cX3_undo 58 = .ok (.iinc 1 1, 3) := dk_132 1 1 (dk_at dksX3_undo_2 12 rfl rfl)
theorem dX3_undo_61 : decode cX3_undo 61 = .ok (.goto (-31), 3) := dk_167 255 225 (dk_at dksX3_undo_2 15 rfl rfl)
theorem dX3_undo_64 : decode cX3_undo 64 = .ok (.aload_n 0, 1) := dk_42 (dk_at dksX3_undo_2 18 rfl rfl)
theorem dX3_undo_65 : decode cX3_undo 65 = .ok (.getfield 32, 3) := dk_180 0 32 (dk_at dksX3_undo_2 19 rfl rfl)
theorem dX3_undo_68 : decode cX3_undo 68 = .ok (.ireturn, 1) := dk_172 (dk_at dksX3_undo_2 22 rfl rfl)
abbrev cX3_brand : ByteArray := prog_23_method_59_code
def yX3_brand : MethodName := ⟨RX3, "brand", "(II)I"⟩
def dkwX3_brand_1 : List UInt8 := [184, 0, 35, 153, 0, 12, 42, 27, 28, 182, 0, 179, 167, 0, 8, 42, 5, 182, 0, 49, 172]
abbrev dktX3_brand_1 : List UInt8 := dkwX3_brand_1 ++ []
def dkwX3_brand_0 : List UInt8 := [42, 3, 181, 0, 28, 42, 27, 182, 0, 85, 154, 0, 9, 42, 4, 182, 0, 49, 172, 28, 3, 16, 11]
abbrev dktX3_brand_0 : List UInt8 := dkwX3_brand_0 ++ dktX3_brand_1
theorem dksX3_brand_0 : cX3_brand.data.toList.drop 0 = dktX3_brand_0 := by decide +kernel
theorem dksX3_brand_1 : cX3_brand.data.toList.drop 23 = dktX3_brand_1 := dk_seg dksX3_brand_0 23 rfl rfl
theorem dX3_brand_0 : decode cX3_brand 0 = .ok (.aload_n 0, 1) := dk_42 (dk_at dksX3_brand_0 0 rfl rfl)
theorem dX3_brand_1 : decode cX3_brand 1 = .ok (.iconst 0, 1) := dk_3 (dk_at dksX3_brand_0 1 rfl rfl)
theorem dX3_brand_2 : decode cX3_brand 2 = .ok (.putfield 28, 3) := dk_181 0 28 (dk_at dksX3_brand_0 2 rfl rfl)
theorem dX3_brand_5 : decode cX3_brand 5 = .ok (.aload_n 0, 1) := dk_42 (dk_at dksX3_brand_0 5 rfl rfl)
theorem dX3_brand_6 : decode cX3_brand 6 = .ok (.iload_n 1, 1) := dk_27 (dk_at dksX3_brand_0 6 rfl rfl)
theorem dX3_brand_7 : decode cX3_brand 7 = .ok (.invokevirtual 85, 3) := dk_182 0 85 (dk_at dksX3_brand_0 7 rfl rfl)
theorem dX3_brand_10 : decode cX3_brand 10 = .ok (.ifCond .ne 9, 3) := dk_154 0 9 (dk_at dksX3_brand_0 10 rfl rfl)
theorem dX3_brand_13 : decode cX3_brand 13 = .ok (.aload_n 0, 1) := dk_42 (dk_at dksX3_brand_0 13 rfl rfl)
theorem dX3_brand_14 : decode cX3_brand 14 = .ok (.iconst 1, 1) := dk_4 (dk_at dksX3_brand_0 14 rfl rfl)
theorem dX3_brand_15 : decode cX3_brand 15 = .ok (.invokevirtual 49, 3) := dk_182 0 49 (dk_at dksX3_brand_0 15 rfl rfl)
theorem dX3_brand_18 : decode cX3_brand 18 = .ok (.ireturn, 1) := dk_172 (dk_at dksX3_brand_0 18 rfl rfl)
theorem dX3_brand_19 : decode cX3_brand 19 = .ok (.iload_n 2, 1) := dk_28 (dk_at dksX3_brand_0 19 rfl rfl)
theorem dX3_brand_20 : decode cX3_brand 20 = .ok (.iconst 0, 1) := dk_3 (dk_at dksX3_brand_0 20 rfl rfl)
theorem dX3_brand_21 : decode cX3_brand 21 = .ok (.bipush 11, 2) := dk_16 11 (dk_at dksX3_brand_0 21 rfl rfl)
theorem dX3_brand_23 : decode cX3_brand 23 = .ok (.invokestatic 35, 3) := dk_184 0 35 (dk_at dksX3_brand_1 0 rfl rfl)
theorem dX3_brand_26 : decode cX3_brand 26 = .ok (.ifCond .eq 12, 3) := dk_153 0 12 (dk_at dksX3_brand_1 3 rfl rfl)
theorem dX3_brand_29 : decode cX3_brand 29 = .ok (.aload_n 0, 1) := dk_42 (dk_at dksX3_brand_1 6 rfl rfl)
theorem dX3_brand_30 : decode cX3_brand 30 = .ok (.iload_n 1, 1) := dk_27 (dk_at dksX3_brand_1 7 rfl rfl)
theorem dX3_brand_31 : decode cX3_brand 31 = .ok (.iload_n 2, 1) := dk_28 (dk_at dksX3_brand_1 8 rfl rfl)
theorem dX3_brand_32 : decode cX3_brand 32 = .ok (.invokevirtual 179, 3) := dk_182 0 179 (dk_at dksX3_brand_1 9 rfl rfl)
theorem dX3_brand_35 : decode cX3_brand 35 = .ok (.goto 8, 3) := dk_167 0 8 (dk_at dksX3_brand_1 12 rfl rfl)
theorem dX3_brand_38 : decode cX3_brand 38 = .ok (.aload_n 0, 1) := dk_42 (dk_at dksX3_brand_1 15 rfl rfl)
theorem dX3_brand_39 : decode cX3_brand 39 = .ok (.iconst 2, 1) := dk_5 (dk_at dksX3_brand_1 16 rfl rfl)
theorem dX3_brand_40 : decode cX3_brand 40 = .ok (.invokevirtual 49, 3) := dk_182 0 49 (dk_at dksX3_brand_1 17 rfl rfl)
theorem dX3_brand_43 : decode cX3_brand 43 = .ok (.ireturn, 1) := dk_172 (dk_at dksX3_brand_1 20 rfl rfl)
abbrev cX3_aboutBrand : ByteArray := prog_23_method_58_code
def yX3_aboutBrand : MethodName := ⟨RX3, "aboutBrand", "(II)I"⟩
def dkwX3_aboutBrand_2 : List UInt8 := [5, 100, 182, 0, 46, 172]
abbrev dktX3_aboutBrand_2 : List UInt8 := dkwX3_aboutBrand_2 ++ []
def dkwX3_aboutBrand_1 : List UInt8 := [182, 0, 176, 167, 0, 26, 28, 7, 160, 0, 13, 42, 27, 16, 13, 182, 0, 176, 167, 0, 11, 42, 27, 28]
abbrev dktX3_aboutBrand_1 : List UInt8 := dkwX3_aboutBrand_1 ++ dktX3_aboutBrand_2
def dkwX3_aboutBrand_0 : List UInt8 := [28, 6, 162, 0, 12, 42, 27, 28, 182, 0, 46, 167, 0, 40, 28, 6, 160, 0, 12, 42, 27, 8]
abbrev dktX3_aboutBrand_0 : List UInt8 := dkwX3_aboutBrand_0 ++ dktX3_aboutBrand_1
theorem dksX3_aboutBrand_0 : cX3_aboutBrand.data.toList.drop 0 = dktX3_aboutBrand_0 := by decide +kernel
theorem dksX3_aboutBrand_1 : cX3_aboutBrand.data.toList.drop 22 = dktX3_aboutBrand_1 := dk_seg dksX3_aboutBrand_0 22 rfl rfl
theorem dksX3_aboutBrand_2 : cX3_aboutBrand.data.toList.drop 46 = dktX3_aboutBrand_2 := dk_seg dksX3_aboutBrand_1 24 rfl rfl
theorem dX3_aboutBrand_0 : decode cX3_aboutBrand 0 = .ok (.iload_n 2, 1) := dk_28 (dk_at dksX3_aboutBrand_0 0 rfl rfl)
theorem dX3_aboutBrand_1 : decode cX3_aboutBrand 1 = .ok (.iconst 3, 1) := dk_6 (dk_at dksX3_aboutBrand_0 1 rfl rfl)
theorem dX3_aboutBrand_2 : decode cX3_aboutBrand 2 = .ok (.if_icmp .ge 12, 3) := dk_162 0 12 (dk_at dksX3_aboutBrand_0 2 rfl rfl)
theorem dX3_aboutBrand_5 : decode cX3_aboutBrand 5 = .ok (.aload_n 0, 1) := dk_42 (dk_at dksX3_aboutBrand_0 5 rfl rfl)
theorem dX3_aboutBrand_6 : decode cX3_aboutBrand 6 = .ok (.iload_n 1, 1) := dk_27 (dk_at dksX3_aboutBrand_0 6 rfl rfl)
theorem dX3_aboutBrand_7 : decode cX3_aboutBrand 7 = .ok (.iload_n 2, 1) := dk_28 (dk_at dksX3_aboutBrand_0 7 rfl rfl)
theorem dX3_aboutBrand_8 : decode cX3_aboutBrand 8 = .ok (.invokevirtual 46, 3) := dk_182 0 46 (dk_at dksX3_aboutBrand_0 8 rfl rfl)
theorem dX3_aboutBrand_11 : decode cX3_aboutBrand 11 = .ok (.goto 40, 3) := dk_167 0 40 (dk_at dksX3_aboutBrand_0 11 rfl rfl)
theorem dX3_aboutBrand_14 : decode cX3_aboutBrand 14 = .ok (.iload_n 2, 1) := dk_28 (dk_at dksX3_aboutBrand_0 14 rfl rfl)
theorem dX3_aboutBrand_15 : decode cX3_aboutBrand 15 = .ok (.iconst 3, 1) := dk_6 (dk_at dksX3_aboutBrand_0 15 rfl rfl)
theorem dX3_aboutBrand_16 : decode cX3_aboutBrand 16 = .ok (.if_icmp .ne 12, 3) := dk_160 0 12 (dk_at dksX3_aboutBrand_0 16 rfl rfl)
theorem dX3_aboutBrand_19 : decode cX3_aboutBrand 19 = .ok (.aload_n 0, 1) := dk_42 (dk_at dksX3_aboutBrand_0 19 rfl rfl)
theorem dX3_aboutBrand_20 : decode cX3_aboutBrand 20 = .ok (.iload_n 1, 1) := dk_27 (dk_at dksX3_aboutBrand_0 20 rfl rfl)
theorem dX3_aboutBrand_21 : decode cX3_aboutBrand 21 = .ok (.iconst 5, 1) := dk_8 (dk_at dksX3_aboutBrand_0 21 rfl rfl)
theorem dX3_aboutBrand_22 : decode cX3_aboutBrand 22 = .ok (.invokevirtual 176, 3) := dk_182 0 176 (dk_at dksX3_aboutBrand_1 0 rfl rfl)
theorem dX3_aboutBrand_25 : decode cX3_aboutBrand 25 = .ok (.goto 26, 3) := dk_167 0 26 (dk_at dksX3_aboutBrand_1 3 rfl rfl)
theorem dX3_aboutBrand_28 : decode cX3_aboutBrand 28 = .ok (.iload_n 2, 1) := dk_28 (dk_at dksX3_aboutBrand_1 6 rfl rfl)
theorem dX3_aboutBrand_29 : decode cX3_aboutBrand 29 = .ok (.iconst 4, 1) := dk_7 (dk_at dksX3_aboutBrand_1 7 rfl rfl)
theorem dX3_aboutBrand_30 : decode cX3_aboutBrand 30 = .ok (.if_icmp .ne 13, 3) := dk_160 0 13 (dk_at dksX3_aboutBrand_1 8 rfl rfl)
theorem dX3_aboutBrand_33 : decode cX3_aboutBrand 33 = .ok (.aload_n 0, 1) := dk_42 (dk_at dksX3_aboutBrand_1 11 rfl rfl)
theorem dX3_aboutBrand_34 : decode cX3_aboutBrand 34 = .ok (.iload_n 1, 1) := dk_27 (dk_at dksX3_aboutBrand_1 12 rfl rfl)
theorem dX3_aboutBrand_35 : decode cX3_aboutBrand 35 = .ok (.bipush 13, 2) := dk_16 13 (dk_at dksX3_aboutBrand_1 13 rfl rfl)
theorem dX3_aboutBrand_37 : decode cX3_aboutBrand 37 = .ok (.invokevirtual 176, 3) := dk_182 0 176 (dk_at dksX3_aboutBrand_1 15 rfl rfl)
theorem dX3_aboutBrand_40 : decode cX3_aboutBrand 40 = .ok (.goto 11, 3) := dk_167 0 11 (dk_at dksX3_aboutBrand_1 18 rfl rfl)
theorem dX3_aboutBrand_43 : decode cX3_aboutBrand 43 = .ok (.aload_n 0, 1) := dk_42 (dk_at dksX3_aboutBrand_1 21 rfl rfl)
theorem dX3_aboutBrand_44 : decode cX3_aboutBrand 44 = .ok (.iload_n 1, 1) := dk_27 (dk_at dksX3_aboutBrand_1 22 rfl rfl)
theorem dX3_aboutBrand_45 : decode cX3_aboutBrand 45 = .ok (.iload_n 2, 1) := dk_28 (dk_at dksX3_aboutBrand_1 23 rfl rfl)
theorem dX3_aboutBrand_46 : decode cX3_aboutBrand 46 = .ok (.iconst 2, 1) := dk_5 (dk_at dksX3_aboutBrand_2 0 rfl rfl)
theorem dX3_aboutBrand_47 : decode cX3_aboutBrand 47 = .ok (.isub, 1) := dk_100 (dk_at dksX3_aboutBrand_2 1 rfl rfl)
theorem dX3_aboutBrand_48 : decode cX3_aboutBrand 48 = .ok (.invokevirtual 46, 3) := dk_182 0 46 (dk_at dksX3_aboutBrand_2 2 rfl rfl)
theorem dX3_aboutBrand_51 : decode cX3_aboutBrand 51 = .ok (.ireturn, 1) := dk_172 (dk_at dksX3_aboutBrand_2 5 rfl rfl)
abbrev cX3_inShops : ByteArray := prog_23_method_57_code
def yX3_inShops : MethodName := ⟨RX3, "inShops", "(II)I"⟩
def dkwX3_inShops_1 : List UInt8 := [182, 0, 57, 96, 62, 132, 4, 1, 167, 255, 230, 29, 172]
abbrev dktX3_inShops_1 : List UInt8 := dkwX3_inShops_1 ++ []
def dkwX3_inShops_0 : List UInt8 := [3, 62, 3, 54, 4, 21, 4, 42, 180, 0, 7, 4, 46, 162, 0, 21, 29, 42, 21, 4, 28, 27, 96]
abbrev dktX3_inShops_0 : List UInt8 := dkwX3_inShops_0 ++ dktX3_inShops_1
theorem dksX3_inShops_0 : cX3_inShops.data.toList.drop 0 = dktX3_inShops_0 := by decide +kernel
theorem dksX3_inShops_1 : cX3_inShops.data.toList.drop 23 = dktX3_inShops_1 := dk_seg dksX3_inShops_0 23 rfl rfl
theorem dX3_inShops_0 : decode cX3_inShops 0 = .ok (.iconst 0, 1) := dk_3 (dk_at dksX3_inShops_0 0 rfl rfl)
theorem dX3_inShops_1 : decode cX3_inShops 1 = .ok (.istore_n 3, 1) := dk_62 (dk_at dksX3_inShops_0 1 rfl rfl)
theorem dX3_inShops_2 : decode cX3_inShops 2 = .ok (.iconst 0, 1) := dk_3 (dk_at dksX3_inShops_0 2 rfl rfl)
theorem dX3_inShops_3 : decode cX3_inShops 3 = .ok (.istore 4, 2) := dk_54 4 (dk_at dksX3_inShops_0 3 rfl rfl)
theorem dX3_inShops_5 : decode cX3_inShops 5 = .ok (.iload 4, 2) := dk_21 4 (dk_at dksX3_inShops_0 5 rfl rfl)
theorem dX3_inShops_7 : decode cX3_inShops 7 = .ok (.aload_n 0, 1) := dk_42 (dk_at dksX3_inShops_0 7 rfl rfl)
theorem dX3_inShops_8 : decode cX3_inShops 8 = .ok (.getfield 7, 3) := dk_180 0 7 (dk_at dksX3_inShops_0 8 rfl rfl)
theorem dX3_inShops_11 : decode cX3_inShops 11 = .ok (.iconst 1, 1) := dk_4 (dk_at dksX3_inShops_0 11 rfl rfl)
theorem dX3_inShops_12 : decode cX3_inShops 12 = .ok (.iaload, 1) := dk_46 (dk_at dksX3_inShops_0 12 rfl rfl)
theorem dX3_inShops_13 : decode cX3_inShops 13 = .ok (.if_icmp .ge 21, 3) := dk_162 0 21 (dk_at dksX3_inShops_0 13 rfl rfl)
theorem dX3_inShops_16 : decode cX3_inShops 16 = .ok (.iload_n 3, 1) := dk_29 (dk_at dksX3_inShops_0 16 rfl rfl)
theorem dX3_inShops_17 : decode cX3_inShops 17 = .ok (.aload_n 0, 1) := dk_42 (dk_at dksX3_inShops_0 17 rfl rfl)
theorem dX3_inShops_18 : decode cX3_inShops 18 = .ok (.iload 4, 2) := dk_21 4 (dk_at dksX3_inShops_0 18 rfl rfl)
theorem dX3_inShops_20 : decode cX3_inShops 20 = .ok (.iload_n 2, 1) := dk_28 (dk_at dksX3_inShops_0 20 rfl rfl)
theorem dX3_inShops_21 : decode cX3_inShops 21 = .ok (.iload_n 1, 1) := dk_27 (dk_at dksX3_inShops_0 21 rfl rfl)
theorem dX3_inShops_22 : decode cX3_inShops 22 = .ok (.iadd, 1) := dk_96 (dk_at dksX3_inShops_0 22 rfl rfl)
theorem dX3_inShops_23 : decode cX3_inShops 23 = .ok (.invokevirtual 57, 3) := dk_182 0 57 (dk_at dksX3_inShops_1 0 rfl rfl)
theorem dX3_inShops_26 : decode cX3_inShops 26 = .ok (.iadd, 1) := dk_96 (dk_at dksX3_inShops_1 3 rfl rfl)
theorem dX3_inShops_27 : decode cX3_inShops 27 = .ok (.istore_n 3, 1) := dk_62 (dk_at dksX3_inShops_1 4 rfl rfl)
theorem dX3_inShops_28 : decode cX3_inShops 28 = .ok (.iinc 4 1, 3) := dk_132 4 1 (dk_at dksX3_inShops_1 5 rfl rfl)
theorem dX3_inShops_31 : decode cX3_inShops 31 = .ok (.goto (-26), 3) := dk_167 255 230 (dk_at dksX3_inShops_1 8 rfl rfl)
theorem dX3_inShops_34 : decode cX3_inShops 34 = .ok (.iload_n 3, 1) := dk_29 (dk_at dksX3_inShops_1 11 rfl rfl)
theorem dX3_inShops_35 : decode cX3_inShops 35 = .ok (.ireturn, 1) := dk_172 (dk_at dksX3_inShops_1 12 rfl rfl)
abbrev cX3_shop : ByteArray := prog_23_method_62_code
def yX3_shop : MethodName := ⟨RX3, "shop", "(II)I"⟩
def dkwX3_shop_2 : List UInt8 := [184, 0, 35, 153, 0, 12, 42, 27, 28, 182, 0, 185, 167, 0, 8, 42, 5, 182, 0, 49, 172]
abbrev dktX3_shop_2 : List UInt8 := dkwX3_shop_2 ++ []
def dkwX3_shop_1 : List UInt8 := [184, 0, 35, 154, 0, 25, 28, 16, 10, 16, 17, 184, 0, 35, 154, 0, 14, 28, 16, 20, 16, 27]
abbrev dktX3_shop_1 : List UInt8 := dkwX3_shop_1 ++ dktX3_shop_2
def dkwX3_shop_0 : List UInt8 := [42, 3, 181, 0, 28, 42, 27, 182, 0, 92, 154, 0, 9, 42, 4, 182, 0, 49, 172, 28, 3, 16, 6]
abbrev dktX3_shop_0 : List UInt8 := dkwX3_shop_0 ++ dktX3_shop_1
theorem dksX3_shop_0 : cX3_shop.data.toList.drop 0 = dktX3_shop_0 := by decide +kernel
theorem dksX3_shop_1 : cX3_shop.data.toList.drop 23 = dktX3_shop_1 := dk_seg dksX3_shop_0 23 rfl rfl
theorem dksX3_shop_2 : cX3_shop.data.toList.drop 45 = dktX3_shop_2 := dk_seg dksX3_shop_1 22 rfl rfl
theorem dX3_shop_0 : decode cX3_shop 0 = .ok (.aload_n 0, 1) := dk_42 (dk_at dksX3_shop_0 0 rfl rfl)
theorem dX3_shop_1 : decode cX3_shop 1 = .ok (.iconst 0, 1) := dk_3 (dk_at dksX3_shop_0 1 rfl rfl)
theorem dX3_shop_2 : decode cX3_shop 2 = .ok (.putfield 28, 3) := dk_181 0 28 (dk_at dksX3_shop_0 2 rfl rfl)
theorem dX3_shop_5 : decode cX3_shop 5 = .ok (.aload_n 0, 1) := dk_42 (dk_at dksX3_shop_0 5 rfl rfl)
theorem dX3_shop_6 : decode cX3_shop 6 = .ok (.iload_n 1, 1) := dk_27 (dk_at dksX3_shop_0 6 rfl rfl)
theorem dX3_shop_7 : decode cX3_shop 7 = .ok (.invokevirtual 92, 3) := dk_182 0 92 (dk_at dksX3_shop_0 7 rfl rfl)
theorem dX3_shop_10 : decode cX3_shop 10 = .ok (.ifCond .ne 9, 3) := dk_154 0 9 (dk_at dksX3_shop_0 10 rfl rfl)
theorem dX3_shop_13 : decode cX3_shop 13 = .ok (.aload_n 0, 1) := dk_42 (dk_at dksX3_shop_0 13 rfl rfl)
theorem dX3_shop_14 : decode cX3_shop 14 = .ok (.iconst 1, 1) := dk_4 (dk_at dksX3_shop_0 14 rfl rfl)
theorem dX3_shop_15 : decode cX3_shop 15 = .ok (.invokevirtual 49, 3) := dk_182 0 49 (dk_at dksX3_shop_0 15 rfl rfl)
theorem dX3_shop_18 : decode cX3_shop 18 = .ok (.ireturn, 1) := dk_172 (dk_at dksX3_shop_0 18 rfl rfl)
theorem dX3_shop_19 : decode cX3_shop 19 = .ok (.iload_n 2, 1) := dk_28 (dk_at dksX3_shop_0 19 rfl rfl)
theorem dX3_shop_20 : decode cX3_shop 20 = .ok (.iconst 0, 1) := dk_3 (dk_at dksX3_shop_0 20 rfl rfl)
theorem dX3_shop_21 : decode cX3_shop 21 = .ok (.bipush 6, 2) := dk_16 6 (dk_at dksX3_shop_0 21 rfl rfl)
theorem dX3_shop_23 : decode cX3_shop 23 = .ok (.invokestatic 35, 3) := dk_184 0 35 (dk_at dksX3_shop_1 0 rfl rfl)
theorem dX3_shop_26 : decode cX3_shop 26 = .ok (.ifCond .ne 25, 3) := dk_154 0 25 (dk_at dksX3_shop_1 3 rfl rfl)
theorem dX3_shop_29 : decode cX3_shop 29 = .ok (.iload_n 2, 1) := dk_28 (dk_at dksX3_shop_1 6 rfl rfl)
theorem dX3_shop_30 : decode cX3_shop 30 = .ok (.bipush 10, 2) := dk_16 10 (dk_at dksX3_shop_1 7 rfl rfl)
theorem dX3_shop_32 : decode cX3_shop 32 = .ok (.bipush 17, 2) := dk_16 17 (dk_at dksX3_shop_1 9 rfl rfl)
theorem dX3_shop_34 : decode cX3_shop 34 = .ok (.invokestatic 35, 3) := dk_184 0 35 (dk_at dksX3_shop_1 11 rfl rfl)
theorem dX3_shop_37 : decode cX3_shop 37 = .ok (.ifCond .ne 14, 3) := dk_154 0 14 (dk_at dksX3_shop_1 14 rfl rfl)
theorem dX3_shop_40 : decode cX3_shop 40 = .ok (.iload_n 2, 1) := dk_28 (dk_at dksX3_shop_1 17 rfl rfl)
theorem dX3_shop_41 : decode cX3_shop 41 = .ok (.bipush 20, 2) := dk_16 20 (dk_at dksX3_shop_1 18 rfl rfl)
theorem dX3_shop_43 : decode cX3_shop 43 = .ok (.bipush 27, 2) := dk_16 27 (dk_at dksX3_shop_1 20 rfl rfl)
theorem dX3_shop_45 : decode cX3_shop 45 = .ok (.invokestatic 35, 3) := dk_184 0 35 (dk_at dksX3_shop_2 0 rfl rfl)
theorem dX3_shop_48 : decode cX3_shop 48 = .ok (.ifCond .eq 12, 3) := dk_153 0 12 (dk_at dksX3_shop_2 3 rfl rfl)
theorem dX3_shop_51 : decode cX3_shop 51 = .ok (.aload_n 0, 1) := dk_42 (dk_at dksX3_shop_2 6 rfl rfl)
theorem dX3_shop_52 : decode cX3_shop 52 = .ok (.iload_n 1, 1) := dk_27 (dk_at dksX3_shop_2 7 rfl rfl)
theorem dX3_shop_53 : decode cX3_shop 53 = .ok (.iload_n 2, 1) := dk_28 (dk_at dksX3_shop_2 8 rfl rfl)
theorem dX3_shop_54 : decode cX3_shop 54 = .ok (.invokevirtual 185, 3) := dk_182 0 185 (dk_at dksX3_shop_2 9 rfl rfl)
theorem dX3_shop_57 : decode cX3_shop 57 = .ok (.goto 8, 3) := dk_167 0 8 (dk_at dksX3_shop_2 12 rfl rfl)
theorem dX3_shop_60 : decode cX3_shop 60 = .ok (.aload_n 0, 1) := dk_42 (dk_at dksX3_shop_2 15 rfl rfl)
theorem dX3_shop_61 : decode cX3_shop 61 = .ok (.iconst 2, 1) := dk_5 (dk_at dksX3_shop_2 16 rfl rfl)
theorem dX3_shop_62 : decode cX3_shop 62 = .ok (.invokevirtual 49, 3) := dk_182 0 49 (dk_at dksX3_shop_2 17 rfl rfl)
theorem dX3_shop_65 : decode cX3_shop 65 = .ok (.ireturn, 1) := dk_172 (dk_at dksX3_shop_2 20 rfl rfl)
abbrev cX3_aboutShop : ByteArray := prog_23_method_61_code
def yX3_aboutShop : MethodName := ⟨RX3, "aboutShop", "(II)I"⟩
def dkwX3_aboutShop_3 : List UInt8 := [182, 0, 57, 172]
abbrev dktX3_aboutShop_3 : List UInt8 := dkwX3_aboutShop_3 ++ []
def dkwX3_aboutShop_2 : List UInt8 := [42, 27, 16, 13, 182, 0, 182, 167, 0, 20, 42, 27, 28, 5, 162, 0, 7, 28, 167, 0, 6, 28, 5, 100]
abbrev dktX3_aboutShop_2 : List UInt8 := dkwX3_aboutShop_2 ++ dktX3_aboutShop_3
def dkwX3_aboutShop_1 : List UInt8 := [96, 182, 0, 57, 172, 28, 5, 160, 0, 12, 42, 27, 8, 182, 0, 182, 167, 0, 35, 28, 6, 160, 0, 13]
abbrev dktX3_aboutShop_1 : List UInt8 := dkwX3_aboutShop_1 ++ dktX3_aboutShop_2
def dkwX3_aboutShop_0 : List UInt8 := [28, 16, 9, 164, 0, 26, 42, 27, 28, 16, 20, 162, 0, 7, 8, 167, 0, 5, 16, 13, 28, 16, 10, 112]
abbrev dktX3_aboutShop_0 : List UInt8 := dkwX3_aboutShop_0 ++ dktX3_aboutShop_1
theorem dksX3_aboutShop_0 : cX3_aboutShop.data.toList.drop 0 = dktX3_aboutShop_0 := by decide +kernel
theorem dksX3_aboutShop_1 : cX3_aboutShop.data.toList.drop 24 = dktX3_aboutShop_1 := dk_seg dksX3_aboutShop_0 24 rfl rfl
theorem dksX3_aboutShop_2 : cX3_aboutShop.data.toList.drop 48 = dktX3_aboutShop_2 := dk_seg dksX3_aboutShop_1 24 rfl rfl
theorem dksX3_aboutShop_3 : cX3_aboutShop.data.toList.drop 72 = dktX3_aboutShop_3 := dk_seg dksX3_aboutShop_2 24 rfl rfl
theorem dX3_aboutShop_0 : decode cX3_aboutShop 0 = .ok (.iload_n 2, 1) := dk_28 (dk_at dksX3_aboutShop_0 0 rfl rfl)
theorem dX3_aboutShop_1 : decode cX3_aboutShop 1 = .ok (.bipush 9, 2) := dk_16 9 (dk_at dksX3_aboutShop_0 1 rfl rfl)
theorem dX3_aboutShop_3 : decode cX3_aboutShop 3 = .ok (.if_icmp .le 26, 3) := dk_164 0 26 (dk_at dksX3_aboutShop_0 3 rfl rfl)
theorem dX3_aboutShop_6 : decode cX3_aboutShop 6 = .ok (.aload_n 0, 1) := dk_42 (dk_at dksX3_aboutShop_0 6 rfl rfl)
theorem dX3_aboutShop_7 : decode cX3_aboutShop 7 = .ok (.iload_n 1, 1) := dk_27 (dk_at dksX3_aboutShop_0 7 rfl rfl)
theorem dX3_aboutShop_8 : decode cX3_aboutShop 8 = .ok (.iload_n 2, 1) := dk_28 (dk_at dksX3_aboutShop_0 8 rfl rfl)
theorem dX3_aboutShop_9 : decode cX3_aboutShop 9 = .ok (.bipush 20, 2) := dk_16 20 (dk_at dksX3_aboutShop_0 9 rfl rfl)
theorem dX3_aboutShop_11 : decode cX3_aboutShop 11 = .ok (.if_icmp .ge 7, 3) := dk_162 0 7 (dk_at dksX3_aboutShop_0 11 rfl rfl)
theorem dX3_aboutShop_14 : decode cX3_aboutShop 14 = .ok (.iconst 5, 1) := dk_8 (dk_at dksX3_aboutShop_0 14 rfl rfl)
theorem dX3_aboutShop_15 : decode cX3_aboutShop 15 = .ok (.goto 5, 3) := dk_167 0 5 (dk_at dksX3_aboutShop_0 15 rfl rfl)
theorem dX3_aboutShop_18 : decode cX3_aboutShop 18 = .ok (.bipush 13, 2) := dk_16 13 (dk_at dksX3_aboutShop_0 18 rfl rfl)
theorem dX3_aboutShop_20 : decode cX3_aboutShop 20 = .ok (.iload_n 2, 1) := dk_28 (dk_at dksX3_aboutShop_0 20 rfl rfl)
theorem dX3_aboutShop_21 : decode cX3_aboutShop 21 = .ok (.bipush 10, 2) := dk_16 10 (dk_at dksX3_aboutShop_0 21 rfl rfl)
theorem dX3_aboutShop_23 : decode cX3_aboutShop 23 = .ok (.irem, 1) := dk_112 (dk_at dksX3_aboutShop_0 23 rfl rfl)
theorem dX3_aboutShop_24 : decode cX3_aboutShop 24 = .ok (.iadd, 1) := dk_96 (dk_at dksX3_aboutShop_1 0 rfl rfl)
theorem dX3_aboutShop_25 : decode cX3_aboutShop 25 = .ok (.invokevirtual 57, 3) := dk_182 0 57 (dk_at dksX3_aboutShop_1 1 rfl rfl)
theorem dX3_aboutShop_28 : decode cX3_aboutShop 28 = .ok (.ireturn, 1) := dk_172 (dk_at dksX3_aboutShop_1 4 rfl rfl)
theorem dX3_aboutShop_29 : decode cX3_aboutShop 29 = .ok (.iload_n 2, 1) := dk_28 (dk_at dksX3_aboutShop_1 5 rfl rfl)
theorem dX3_aboutShop_30 : decode cX3_aboutShop 30 = .ok (.iconst 2, 1) := dk_5 (dk_at dksX3_aboutShop_1 6 rfl rfl)
theorem dX3_aboutShop_31 : decode cX3_aboutShop 31 = .ok (.if_icmp .ne 12, 3) := dk_160 0 12 (dk_at dksX3_aboutShop_1 7 rfl rfl)
theorem dX3_aboutShop_34 : decode cX3_aboutShop 34 = .ok (.aload_n 0, 1) := dk_42 (dk_at dksX3_aboutShop_1 10 rfl rfl)
theorem dX3_aboutShop_35 : decode cX3_aboutShop 35 = .ok (.iload_n 1, 1) := dk_27 (dk_at dksX3_aboutShop_1 11 rfl rfl)
theorem dX3_aboutShop_36 : decode cX3_aboutShop 36 = .ok (.iconst 5, 1) := dk_8 (dk_at dksX3_aboutShop_1 12 rfl rfl)
theorem dX3_aboutShop_37 : decode cX3_aboutShop 37 = .ok (.invokevirtual 182, 3) := dk_182 0 182 (dk_at dksX3_aboutShop_1 13 rfl rfl)
theorem dX3_aboutShop_40 : decode cX3_aboutShop 40 = .ok (.goto 35, 3) := dk_167 0 35 (dk_at dksX3_aboutShop_1 16 rfl rfl)
theorem dX3_aboutShop_43 : decode cX3_aboutShop 43 = .ok (.iload_n 2, 1) := dk_28 (dk_at dksX3_aboutShop_1 19 rfl rfl)
theorem dX3_aboutShop_44 : decode cX3_aboutShop 44 = .ok (.iconst 3, 1) := dk_6 (dk_at dksX3_aboutShop_1 20 rfl rfl)
theorem dX3_aboutShop_45 : decode cX3_aboutShop 45 = .ok (.if_icmp .ne 13, 3) := dk_160 0 13 (dk_at dksX3_aboutShop_1 21 rfl rfl)
theorem dX3_aboutShop_48 : decode cX3_aboutShop 48 = .ok (.aload_n 0, 1) := dk_42 (dk_at dksX3_aboutShop_2 0 rfl rfl)
theorem dX3_aboutShop_49 : decode cX3_aboutShop 49 = .ok (.iload_n 1, 1) := dk_27 (dk_at dksX3_aboutShop_2 1 rfl rfl)
theorem dX3_aboutShop_50 : decode cX3_aboutShop 50 = .ok (.bipush 13, 2) := dk_16 13 (dk_at dksX3_aboutShop_2 2 rfl rfl)
theorem dX3_aboutShop_52 : decode cX3_aboutShop 52 = .ok (.invokevirtual 182, 3) := dk_182 0 182 (dk_at dksX3_aboutShop_2 4 rfl rfl)
theorem dX3_aboutShop_55 : decode cX3_aboutShop 55 = .ok (.goto 20, 3) := dk_167 0 20 (dk_at dksX3_aboutShop_2 7 rfl rfl)
theorem dX3_aboutShop_58 : decode cX3_aboutShop 58 = .ok (.aload_n 0, 1) := dk_42 (dk_at dksX3_aboutShop_2 10 rfl rfl)
theorem dX3_aboutShop_59 : decode cX3_aboutShop 59 = .ok (.iload_n 1, 1) := dk_27 (dk_at dksX3_aboutShop_2 11 rfl rfl)
theorem dX3_aboutShop_60 : decode cX3_aboutShop 60 = .ok (.iload_n 2, 1) := dk_28 (dk_at dksX3_aboutShop_2 12 rfl rfl)
theorem dX3_aboutShop_61 : decode cX3_aboutShop 61 = .ok (.iconst 2, 1) := dk_5 (dk_at dksX3_aboutShop_2 13 rfl rfl)
theorem dX3_aboutShop_62 : decode cX3_aboutShop 62 = .ok (.if_icmp .ge 7, 3) := dk_162 0 7 (dk_at dksX3_aboutShop_2 14 rfl rfl)
theorem dX3_aboutShop_65 : decode cX3_aboutShop 65 = .ok (.iload_n 2, 1) := dk_28 (dk_at dksX3_aboutShop_2 17 rfl rfl)
theorem dX3_aboutShop_66 : decode cX3_aboutShop 66 = .ok (.goto 6, 3) := dk_167 0 6 (dk_at dksX3_aboutShop_2 18 rfl rfl)
theorem dX3_aboutShop_69 : decode cX3_aboutShop 69 = .ok (.iload_n 2, 1) := dk_28 (dk_at dksX3_aboutShop_2 21 rfl rfl)
theorem dX3_aboutShop_70 : decode cX3_aboutShop 70 = .ok (.iconst 2, 1) := dk_5 (dk_at dksX3_aboutShop_2 22 rfl rfl)
theorem dX3_aboutShop_71 : decode cX3_aboutShop 71 = .ok (.isub, 1) := dk_100 (dk_at dksX3_aboutShop_2 23 rfl rfl)
theorem dX3_aboutShop_72 : decode cX3_aboutShop 72 = .ok (.invokevirtual 57, 3) := dk_182 0 57 (dk_at dksX3_aboutShop_3 0 rfl rfl)
theorem dX3_aboutShop_75 : decode cX3_aboutShop 75 = .ok (.ireturn, 1) := dk_172 (dk_at dksX3_aboutShop_3 3 rfl rfl)
abbrev cX3_sumOf : ByteArray := prog_23_method_60_code
def yX3_sumOf : MethodName := ⟨RX3, "sumOf", "(II)I"⟩
def dkwX3_sumOf_1 : List UInt8 := [132, 4, 1, 167, 255, 234, 29, 172]
abbrev dktX3_sumOf_1 : List UInt8 := dkwX3_sumOf_1 ++ []
def dkwX3_sumOf_0 : List UInt8 := [3, 62, 3, 54, 4, 21, 4, 16, 8, 162, 0, 21, 29, 42, 27, 28, 21, 4, 96, 182, 0, 57, 96, 62]
abbrev dktX3_sumOf_0 : List UInt8 := dkwX3_sumOf_0 ++ dktX3_sumOf_1
theorem dksX3_sumOf_0 : cX3_sumOf.data.toList.drop 0 = dktX3_sumOf_0 := by decide +kernel
theorem dksX3_sumOf_1 : cX3_sumOf.data.toList.drop 24 = dktX3_sumOf_1 := dk_seg dksX3_sumOf_0 24 rfl rfl
theorem dX3_sumOf_0 : decode cX3_sumOf 0 = .ok (.iconst 0, 1) := dk_3 (dk_at dksX3_sumOf_0 0 rfl rfl)
theorem dX3_sumOf_1 : decode cX3_sumOf 1 = .ok (.istore_n 3, 1) := dk_62 (dk_at dksX3_sumOf_0 1 rfl rfl)
theorem dX3_sumOf_2 : decode cX3_sumOf 2 = .ok (.iconst 0, 1) := dk_3 (dk_at dksX3_sumOf_0 2 rfl rfl)
theorem dX3_sumOf_3 : decode cX3_sumOf 3 = .ok (.istore 4, 2) := dk_54 4 (dk_at dksX3_sumOf_0 3 rfl rfl)
theorem dX3_sumOf_5 : decode cX3_sumOf 5 = .ok (.iload 4, 2) := dk_21 4 (dk_at dksX3_sumOf_0 5 rfl rfl)
theorem dX3_sumOf_7 : decode cX3_sumOf 7 = .ok (.bipush 8, 2) := dk_16 8 (dk_at dksX3_sumOf_0 7 rfl rfl)
theorem dX3_sumOf_9 : decode cX3_sumOf 9 = .ok (.if_icmp .ge 21, 3) := dk_162 0 21 (dk_at dksX3_sumOf_0 9 rfl rfl)
theorem dX3_sumOf_12 : decode cX3_sumOf 12 = .ok (.iload_n 3, 1) := dk_29 (dk_at dksX3_sumOf_0 12 rfl rfl)
theorem dX3_sumOf_13 : decode cX3_sumOf 13 = .ok (.aload_n 0, 1) := dk_42 (dk_at dksX3_sumOf_0 13 rfl rfl)
theorem dX3_sumOf_14 : decode cX3_sumOf 14 = .ok (.iload_n 1, 1) := dk_27 (dk_at dksX3_sumOf_0 14 rfl rfl)
theorem dX3_sumOf_15 : decode cX3_sumOf 15 = .ok (.iload_n 2, 1) := dk_28 (dk_at dksX3_sumOf_0 15 rfl rfl)
theorem dX3_sumOf_16 : decode cX3_sumOf 16 = .ok (.iload 4, 2) := dk_21 4 (dk_at dksX3_sumOf_0 16 rfl rfl)
theorem dX3_sumOf_18 : decode cX3_sumOf 18 = .ok (.iadd, 1) := dk_96 (dk_at dksX3_sumOf_0 18 rfl rfl)
theorem dX3_sumOf_19 : decode cX3_sumOf 19 = .ok (.invokevirtual 57, 3) := dk_182 0 57 (dk_at dksX3_sumOf_0 19 rfl rfl)
theorem dX3_sumOf_22 : decode cX3_sumOf 22 = .ok (.iadd, 1) := dk_96 (dk_at dksX3_sumOf_0 22 rfl rfl)
theorem dX3_sumOf_23 : decode cX3_sumOf 23 = .ok (.istore_n 3, 1) := dk_62 (dk_at dksX3_sumOf_0 23 rfl rfl)
theorem dX3_sumOf_24 : decode cX3_sumOf 24 = .ok (.iinc 4 1, 3) := dk_132 4 1 (dk_at dksX3_sumOf_1 0 rfl rfl)
theorem dX3_sumOf_27 : decode cX3_sumOf 27 = .ok (.goto (-22), 3) := dk_167 255 234 (dk_at dksX3_sumOf_1 3 rfl rfl)
theorem dX3_sumOf_30 : decode cX3_sumOf 30 = .ok (.iload_n 3, 1) := dk_29 (dk_at dksX3_sumOf_1 6 rfl rfl)
theorem dX3_sumOf_31 : decode cX3_sumOf 31 = .ok (.ireturn, 1) := dk_172 (dk_at dksX3_sumOf_1 7 rfl rfl)
abbrev cX3_count : ByteArray := prog_23_method_64_code
def yX3_count : MethodName := ⟨RX3, "count", "(I)I"⟩
def dkwX3_count_1 : List UInt8 := [4, 182, 0, 49, 172]
abbrev dktX3_count_1 : List UInt8 := dkwX3_count_1 ++ []
def dkwX3_count_0 : List UInt8 := [42, 3, 181, 0, 28, 27, 3, 16, 10, 184, 0, 35, 153, 0, 11, 42, 27, 182, 0, 188, 167, 0, 8, 42]
abbrev dktX3_count_0 : List UInt8 := dkwX3_count_0 ++ dktX3_count_1
theorem dksX3_count_0 : cX3_count.data.toList.drop 0 = dktX3_count_0 := by decide +kernel
theorem dksX3_count_1 : cX3_count.data.toList.drop 24 = dktX3_count_1 := dk_seg dksX3_count_0 24 rfl rfl
theorem dX3_count_0 : decode cX3_count 0 = .ok (.aload_n 0, 1) := dk_42 (dk_at dksX3_count_0 0 rfl rfl)
theorem dX3_count_1 : decode cX3_count 1 = .ok (.iconst 0, 1) := dk_3 (dk_at dksX3_count_0 1 rfl rfl)
theorem dX3_count_2 : decode cX3_count 2 = .ok (.putfield 28, 3) := dk_181 0 28 (dk_at dksX3_count_0 2 rfl rfl)
theorem dX3_count_5 : decode cX3_count 5 = .ok (.iload_n 1, 1) := dk_27 (dk_at dksX3_count_0 5 rfl rfl)
theorem dX3_count_6 : decode cX3_count 6 = .ok (.iconst 0, 1) := dk_3 (dk_at dksX3_count_0 6 rfl rfl)
theorem dX3_count_7 : decode cX3_count 7 = .ok (.bipush 10, 2) := dk_16 10 (dk_at dksX3_count_0 7 rfl rfl)
theorem dX3_count_9 : decode cX3_count 9 = .ok (.invokestatic 35, 3) := dk_184 0 35 (dk_at dksX3_count_0 9 rfl rfl)
theorem dX3_count_12 : decode cX3_count 12 = .ok (.ifCond .eq 11, 3) := dk_153 0 11 (dk_at dksX3_count_0 12 rfl rfl)
theorem dX3_count_15 : decode cX3_count 15 = .ok (.aload_n 0, 1) := dk_42 (dk_at dksX3_count_0 15 rfl rfl)
theorem dX3_count_16 : decode cX3_count 16 = .ok (.iload_n 1, 1) := dk_27 (dk_at dksX3_count_0 16 rfl rfl)
theorem dX3_count_17 : decode cX3_count 17 = .ok (.invokevirtual 188, 3) := dk_182 0 188 (dk_at dksX3_count_0 17 rfl rfl)
theorem dX3_count_20 : decode cX3_count 20 = .ok (.goto 8, 3) := dk_167 0 8 (dk_at dksX3_count_0 20 rfl rfl)
theorem dX3_count_23 : decode cX3_count 23 = .ok (.aload_n 0, 1) := dk_42 (dk_at dksX3_count_0 23 rfl rfl)
theorem dX3_count_24 : decode cX3_count 24 = .ok (.iconst 1, 1) := dk_4 (dk_at dksX3_count_1 0 rfl rfl)
theorem dX3_count_25 : decode cX3_count 25 = .ok (.invokevirtual 49, 3) := dk_182 0 49 (dk_at dksX3_count_1 1 rfl rfl)
theorem dX3_count_28 : decode cX3_count 28 = .ok (.ireturn, 1) := dk_172 (dk_at dksX3_count_1 4 rfl rfl)
abbrev cX3_number : ByteArray := prog_23_method_63_code
def yX3_number : MethodName := ⟨RX3, "number", "(I)I"⟩
def dkwX3_number_4 : List UInt8 := [172, 42, 180, 0, 7, 16, 6, 46, 172, 42, 180, 0, 32, 172]
abbrev dktX3_number_4 : List UInt8 := dkwX3_number_4 ++ []
def dkwX3_number_3 : List UInt8 := [42, 180, 0, 7, 27, 46, 172, 42, 182, 0, 60, 172, 42, 180, 0, 7, 27, 4, 100, 46, 172, 28, 172, 29]
abbrev dktX3_number_3 : List UInt8 := dkwX3_number_3 ++ dktX3_number_4
def dkwX3_number_2 : List UInt8 := [170, 0, 0, 0, 0, 0, 88, 0, 0, 0, 0, 0, 0, 0, 9, 0, 0, 0, 55, 0, 0, 0, 55, 0, 0, 0, 55, 0, 0, 0, 62, 0, 0, 0, 67, 0, 0, 0, 67, 0, 0, 0, 67, 0, 0, 0, 76, 0, 0, 0, 78, 0, 0, 0, 80]
abbrev dktX3_number_2 : List UInt8 := dkwX3_number_2 ++ dktX3_number_3
def dkwX3_number_1 : List UInt8 := [182, 0, 46, 96, 61, 29, 42, 21, 4, 7, 182, 0, 46, 96, 62, 132, 4, 1, 167, 255, 222, 27]
abbrev dktX3_number_1 : List UInt8 := dkwX3_number_1 ++ dktX3_number_2
def dkwX3_number_0 : List UInt8 := [3, 61, 3, 62, 3, 54, 4, 21, 4, 42, 180, 0, 7, 3, 46, 162, 0, 29, 28, 42, 21, 4, 6]
abbrev dktX3_number_0 : List UInt8 := dkwX3_number_0 ++ dktX3_number_1
theorem dksX3_number_0 : cX3_number.data.toList.drop 0 = dktX3_number_0 := by decide +kernel
theorem dksX3_number_1 : cX3_number.data.toList.drop 23 = dktX3_number_1 := dk_seg dksX3_number_0 23 rfl rfl
theorem dksX3_number_2 : cX3_number.data.toList.drop 45 = dktX3_number_2 := dk_seg dksX3_number_1 22 rfl rfl
theorem dksX3_number_3 : cX3_number.data.toList.drop 100 = dktX3_number_3 := dk_seg dksX3_number_2 55 rfl rfl
theorem dksX3_number_4 : cX3_number.data.toList.drop 124 = dktX3_number_4 := dk_seg dksX3_number_3 24 rfl rfl
theorem dX3_number_0 : decode cX3_number 0 = .ok (.iconst 0, 1) := dk_3 (dk_at dksX3_number_0 0 rfl rfl)
theorem dX3_number_1 : decode cX3_number 1 = .ok (.istore_n 2, 1) := dk_61 (dk_at dksX3_number_0 1 rfl rfl)
theorem dX3_number_2 : decode cX3_number 2 = .ok (.iconst 0, 1) := dk_3 (dk_at dksX3_number_0 2 rfl rfl)
theorem dX3_number_3 : decode cX3_number 3 = .ok (.istore_n 3, 1) := dk_62 (dk_at dksX3_number_0 3 rfl rfl)
theorem dX3_number_4 : decode cX3_number 4 = .ok (.iconst 0, 1) := dk_3 (dk_at dksX3_number_0 4 rfl rfl)
theorem dX3_number_5 : decode cX3_number 5 = .ok (.istore 4, 2) := dk_54 4 (dk_at dksX3_number_0 5 rfl rfl)
theorem dX3_number_7 : decode cX3_number 7 = .ok (.iload 4, 2) := dk_21 4 (dk_at dksX3_number_0 7 rfl rfl)
theorem dX3_number_9 : decode cX3_number 9 = .ok (.aload_n 0, 1) := dk_42 (dk_at dksX3_number_0 9 rfl rfl)
theorem dX3_number_10 : decode cX3_number 10 = .ok (.getfield 7, 3) := dk_180 0 7 (dk_at dksX3_number_0 10 rfl rfl)
theorem dX3_number_13 : decode cX3_number 13 = .ok (.iconst 0, 1) := dk_3 (dk_at dksX3_number_0 13 rfl rfl)
theorem dX3_number_14 : decode cX3_number 14 = .ok (.iaload, 1) := dk_46 (dk_at dksX3_number_0 14 rfl rfl)
theorem dX3_number_15 : decode cX3_number 15 = .ok (.if_icmp .ge 29, 3) := dk_162 0 29 (dk_at dksX3_number_0 15 rfl rfl)
theorem dX3_number_18 : decode cX3_number 18 = .ok (.iload_n 2, 1) := dk_28 (dk_at dksX3_number_0 18 rfl rfl)
theorem dX3_number_19 : decode cX3_number 19 = .ok (.aload_n 0, 1) := dk_42 (dk_at dksX3_number_0 19 rfl rfl)
theorem dX3_number_20 : decode cX3_number 20 = .ok (.iload 4, 2) := dk_21 4 (dk_at dksX3_number_0 20 rfl rfl)
theorem dX3_number_22 : decode cX3_number 22 = .ok (.iconst 3, 1) := dk_6 (dk_at dksX3_number_0 22 rfl rfl)
theorem dX3_number_23 : decode cX3_number 23 = .ok (.invokevirtual 46, 3) := dk_182 0 46 (dk_at dksX3_number_1 0 rfl rfl)
theorem dX3_number_26 : decode cX3_number 26 = .ok (.iadd, 1) := dk_96 (dk_at dksX3_number_1 3 rfl rfl)
theorem dX3_number_27 : decode cX3_number 27 = .ok (.istore_n 2, 1) := dk_61 (dk_at dksX3_number_1 4 rfl rfl)
theorem dX3_number_28 : decode cX3_number 28 = .ok (.iload_n 3, 1) := dk_29 (dk_at dksX3_number_1 5 rfl rfl)
theorem dX3_number_29 : decode cX3_number 29 = .ok (.aload_n 0, 1) := dk_42 (dk_at dksX3_number_1 6 rfl rfl)
theorem dX3_number_30 : decode cX3_number 30 = .ok (.iload 4, 2) := dk_21 4 (dk_at dksX3_number_1 7 rfl rfl)
theorem dX3_number_32 : decode cX3_number 32 = .ok (.iconst 4, 1) := dk_7 (dk_at dksX3_number_1 9 rfl rfl)
theorem dX3_number_33 : decode cX3_number 33 = .ok (.invokevirtual 46, 3) := dk_182 0 46 (dk_at dksX3_number_1 10 rfl rfl)
theorem dX3_number_36 : decode cX3_number 36 = .ok (.iadd, 1) := dk_96 (dk_at dksX3_number_1 13 rfl rfl)
theorem dX3_number_37 : decode cX3_number 37 = .ok (.istore_n 3, 1) := dk_62 (dk_at dksX3_number_1 14 rfl rfl)
theorem dX3_number_38 : decode cX3_number 38 = .ok (.iinc 4 1, 3) := dk_132 4 1 (dk_at dksX3_number_1 15 rfl rfl)
theorem dX3_number_41 : decode cX3_number 41 = .ok (.goto (-34), 3) := dk_167 255 222 (dk_at dksX3_number_1 18 rfl rfl)
theorem dX3_number_44 : decode cX3_number 44 = .ok (.iload_n 1, 1) := dk_27 (dk_at dksX3_number_1 21 rfl rfl)
theorem dX3_number_45 : decode cX3_number 45 = .ok (.tableswitch 88 0 9 #[55, 55, 55, 62, 67, 67, 67, 76, 78, 80], 55) := by decide +kernel
theorem dX3_number_100 : decode cX3_number 100 = .ok (.aload_n 0, 1) := dk_42 (dk_at dksX3_number_3 0 rfl rfl)
theorem dX3_number_101 : decode cX3_number 101 = .ok (.getfield 7, 3) := dk_180 0 7 (dk_at dksX3_number_3 1 rfl rfl)
theorem dX3_number_104 : decode cX3_number 104 = .ok (.iload_n 1, 1) := dk_27 (dk_at dksX3_number_3 4 rfl rfl)
theorem dX3_number_105 : decode cX3_number 105 = .ok (.iaload, 1) := dk_46 (dk_at dksX3_number_3 5 rfl rfl)
theorem dX3_number_106 : decode cX3_number 106 = .ok (.ireturn, 1) := dk_172 (dk_at dksX3_number_3 6 rfl rfl)
theorem dX3_number_107 : decode cX3_number 107 = .ok (.aload_n 0, 1) := dk_42 (dk_at dksX3_number_3 7 rfl rfl)
theorem dX3_number_108 : decode cX3_number 108 = .ok (.invokevirtual 60, 3) := dk_182 0 60 (dk_at dksX3_number_3 8 rfl rfl)
theorem dX3_number_111 : decode cX3_number 111 = .ok (.ireturn, 1) := dk_172 (dk_at dksX3_number_3 11 rfl rfl)
theorem dX3_number_112 : decode cX3_number 112 = .ok (.aload_n 0, 1) := dk_42 (dk_at dksX3_number_3 12 rfl rfl)
theorem dX3_number_113 : decode cX3_number 113 = .ok (.getfield 7, 3) := dk_180 0 7 (dk_at dksX3_number_3 13 rfl rfl)
theorem dX3_number_116 : decode cX3_number 116 = .ok (.iload_n 1, 1) := dk_27 (dk_at dksX3_number_3 16 rfl rfl)
theorem dX3_number_117 : decode cX3_number 117 = .ok (.iconst 1, 1) := dk_4 (dk_at dksX3_number_3 17 rfl rfl)
theorem dX3_number_118 : decode cX3_number 118 = .ok (.isub, 1) := dk_100 (dk_at dksX3_number_3 18 rfl rfl)
theorem dX3_number_119 : decode cX3_number 119 = .ok (.iaload, 1) := dk_46 (dk_at dksX3_number_3 19 rfl rfl)
theorem dX3_number_120 : decode cX3_number 120 = .ok (.ireturn, 1) := dk_172 (dk_at dksX3_number_3 20 rfl rfl)
theorem dX3_number_121 : decode cX3_number 121 = .ok (.iload_n 2, 1) := dk_28 (dk_at dksX3_number_3 21 rfl rfl)
theorem dX3_number_122 : decode cX3_number 122 = .ok (.ireturn, 1) := dk_172 (dk_at dksX3_number_3 22 rfl rfl)
theorem dX3_number_123 : decode cX3_number 123 = .ok (.iload_n 3, 1) := dk_29 (dk_at dksX3_number_3 23 rfl rfl)
theorem dX3_number_124 : decode cX3_number 124 = .ok (.ireturn, 1) := dk_172 (dk_at dksX3_number_4 0 rfl rfl)
theorem dX3_number_125 : decode cX3_number 125 = .ok (.aload_n 0, 1) := dk_42 (dk_at dksX3_number_4 1 rfl rfl)
theorem dX3_number_126 : decode cX3_number 126 = .ok (.getfield 7, 3) := dk_180 0 7 (dk_at dksX3_number_4 2 rfl rfl)
theorem dX3_number_129 : decode cX3_number 129 = .ok (.bipush 6, 2) := dk_16 6 (dk_at dksX3_number_4 5 rfl rfl)
theorem dX3_number_131 : decode cX3_number 131 = .ok (.iaload, 1) := dk_46 (dk_at dksX3_number_4 7 rfl rfl)
theorem dX3_number_132 : decode cX3_number 132 = .ok (.ireturn, 1) := dk_172 (dk_at dksX3_number_4 8 rfl rfl)
theorem dX3_number_133 : decode cX3_number 133 = .ok (.aload_n 0, 1) := dk_42 (dk_at dksX3_number_4 9 rfl rfl)
theorem dX3_number_134 : decode cX3_number 134 = .ok (.getfield 32, 3) := dk_180 0 32 (dk_at dksX3_number_4 10 rfl rfl)
theorem dX3_number_137 : decode cX3_number 137 = .ok (.ireturn, 1) := dk_172 (dk_at dksX3_number_4 13 rfl rfl)
abbrev cX3_setting : ByteArray := prog_23_method_65_code
def yX3_setting : MethodName := ⟨RX3, "setting", "(I)I"⟩
def dkwX3_setting_1 : List UInt8 := [167, 0, 8, 42, 4, 182, 0, 49, 172]
abbrev dktX3_setting_1 : List UInt8 := dkwX3_setting_1 ++ []
def dkwX3_setting_0 : List UInt8 := [42, 3, 181, 0, 28, 27, 3, 8, 184, 0, 35, 153, 0, 15, 42, 180, 0, 7, 16, 7, 27, 96, 46]
abbrev dktX3_setting_0 : List UInt8 := dkwX3_setting_0 ++ dktX3_setting_1
theorem dksX3_setting_0 : cX3_setting.data.toList.drop 0 = dktX3_setting_0 := by decide +kernel
theorem dksX3_setting_1 : cX3_setting.data.toList.drop 23 = dktX3_setting_1 := dk_seg dksX3_setting_0 23 rfl rfl
theorem dX3_setting_0 : decode cX3_setting 0 = .ok (.aload_n 0, 1) := dk_42 (dk_at dksX3_setting_0 0 rfl rfl)
theorem dX3_setting_1 : decode cX3_setting 1 = .ok (.iconst 0, 1) := dk_3 (dk_at dksX3_setting_0 1 rfl rfl)
theorem dX3_setting_2 : decode cX3_setting 2 = .ok (.putfield 28, 3) := dk_181 0 28 (dk_at dksX3_setting_0 2 rfl rfl)
theorem dX3_setting_5 : decode cX3_setting 5 = .ok (.iload_n 1, 1) := dk_27 (dk_at dksX3_setting_0 5 rfl rfl)
theorem dX3_setting_6 : decode cX3_setting 6 = .ok (.iconst 0, 1) := dk_3 (dk_at dksX3_setting_0 6 rfl rfl)
theorem dX3_setting_7 : decode cX3_setting 7 = .ok (.iconst 5, 1) := dk_8 (dk_at dksX3_setting_0 7 rfl rfl)
theorem dX3_setting_8 : decode cX3_setting 8 = .ok (.invokestatic 35, 3) := dk_184 0 35 (dk_at dksX3_setting_0 8 rfl rfl)
theorem dX3_setting_11 : decode cX3_setting 11 = .ok (.ifCond .eq 15, 3) := dk_153 0 15 (dk_at dksX3_setting_0 11 rfl rfl)
theorem dX3_setting_14 : decode cX3_setting 14 = .ok (.aload_n 0, 1) := dk_42 (dk_at dksX3_setting_0 14 rfl rfl)
theorem dX3_setting_15 : decode cX3_setting 15 = .ok (.getfield 7, 3) := dk_180 0 7 (dk_at dksX3_setting_0 15 rfl rfl)
theorem dX3_setting_18 : decode cX3_setting 18 = .ok (.bipush 7, 2) := dk_16 7 (dk_at dksX3_setting_0 18 rfl rfl)
theorem dX3_setting_20 : decode cX3_setting 20 = .ok (.iload_n 1, 1) := dk_27 (dk_at dksX3_setting_0 20 rfl rfl)
theorem dX3_setting_21 : decode cX3_setting 21 = .ok (.iadd, 1) := dk_96 (dk_at dksX3_setting_0 21 rfl rfl)
theorem dX3_setting_22 : decode cX3_setting 22 = .ok (.iaload, 1) := dk_46 (dk_at dksX3_setting_0 22 rfl rfl)
theorem dX3_setting_23 : decode cX3_setting 23 = .ok (.goto 8, 3) := dk_167 0 8 (dk_at dksX3_setting_1 0 rfl rfl)
theorem dX3_setting_26 : decode cX3_setting 26 = .ok (.aload_n 0, 1) := dk_42 (dk_at dksX3_setting_1 3 rfl rfl)
theorem dX3_setting_27 : decode cX3_setting 27 = .ok (.iconst 1, 1) := dk_4 (dk_at dksX3_setting_1 4 rfl rfl)
theorem dX3_setting_28 : decode cX3_setting 28 = .ok (.invokevirtual 49, 3) := dk_182 0 49 (dk_at dksX3_setting_1 5 rfl rfl)
theorem dX3_setting_31 : decode cX3_setting 31 = .ok (.ireturn, 1) := dk_172 (dk_at dksX3_setting_1 8 rfl rfl)
abbrev cX3_whyNotDeliver : ByteArray := prog_23_method_66_code
def yX3_whyNotDeliver : MethodName := ⟨RX3, "whyNotDeliver", "(III)I"⟩
def dkwX3_whyNotDeliver_2 : List UInt8 := [42, 5, 182, 0, 49, 172]
abbrev dktX3_whyNotDeliver_2 : List UInt8 := dkwX3_whyNotDeliver_2 ++ []
def dkwX3_whyNotDeliver_1 : List UInt8 := [182, 0, 49, 172, 29, 4, 16, 50, 184, 0, 35, 153, 0, 13, 42, 27, 28, 29, 182, 0, 95, 167, 0, 8]
abbrev dktX3_whyNotDeliver_1 : List UInt8 := dkwX3_whyNotDeliver_1 ++ dktX3_whyNotDeliver_2
def dkwX3_whyNotDeliver_0 : List UInt8 := [42, 3, 181, 0, 28, 42, 27, 182, 0, 85, 153, 0, 11, 42, 28, 182, 0, 92, 154, 0, 9, 42, 4]
abbrev dktX3_whyNotDeliver_0 : List UInt8 := dkwX3_whyNotDeliver_0 ++ dktX3_whyNotDeliver_1
theorem dksX3_whyNotDeliver_0 : cX3_whyNotDeliver.data.toList.drop 0 = dktX3_whyNotDeliver_0 := by decide +kernel
theorem dksX3_whyNotDeliver_1 : cX3_whyNotDeliver.data.toList.drop 23 = dktX3_whyNotDeliver_1 := dk_seg dksX3_whyNotDeliver_0 23 rfl rfl
theorem dksX3_whyNotDeliver_2 : cX3_whyNotDeliver.data.toList.drop 47 = dktX3_whyNotDeliver_2 := dk_seg dksX3_whyNotDeliver_1 24 rfl rfl
theorem dX3_whyNotDeliver_0 : decode cX3_whyNotDeliver 0 = .ok (.aload_n 0, 1) := dk_42 (dk_at dksX3_whyNotDeliver_0 0 rfl rfl)
theorem dX3_whyNotDeliver_1 : decode cX3_whyNotDeliver 1 = .ok (.iconst 0, 1) := dk_3 (dk_at dksX3_whyNotDeliver_0 1 rfl rfl)
theorem dX3_whyNotDeliver_2 : decode cX3_whyNotDeliver 2 = .ok (.putfield 28, 3) := dk_181 0 28 (dk_at dksX3_whyNotDeliver_0 2 rfl rfl)
theorem dX3_whyNotDeliver_5 : decode cX3_whyNotDeliver 5 = .ok (.aload_n 0, 1) := dk_42 (dk_at dksX3_whyNotDeliver_0 5 rfl rfl)
theorem dX3_whyNotDeliver_6 : decode cX3_whyNotDeliver 6 = .ok (.iload_n 1, 1) := dk_27 (dk_at dksX3_whyNotDeliver_0 6 rfl rfl)
theorem dX3_whyNotDeliver_7 : decode cX3_whyNotDeliver 7 = .ok (.invokevirtual 85, 3) := dk_182 0 85 (dk_at dksX3_whyNotDeliver_0 7 rfl rfl)
theorem dX3_whyNotDeliver_10 : decode cX3_whyNotDeliver 10 = .ok (.ifCond .eq 11, 3) := dk_153 0 11 (dk_at dksX3_whyNotDeliver_0 10 rfl rfl)
theorem dX3_whyNotDeliver_13 : decode cX3_whyNotDeliver 13 = .ok (.aload_n 0, 1) := dk_42 (dk_at dksX3_whyNotDeliver_0 13 rfl rfl)
theorem dX3_whyNotDeliver_14 : decode cX3_whyNotDeliver 14 = .ok (.iload_n 2, 1) := dk_28 (dk_at dksX3_whyNotDeliver_0 14 rfl rfl)
theorem dX3_whyNotDeliver_15 : decode cX3_whyNotDeliver 15 = .ok (.invokevirtual 92, 3) := dk_182 0 92 (dk_at dksX3_whyNotDeliver_0 15 rfl rfl)
theorem dX3_whyNotDeliver_18 : decode cX3_whyNotDeliver 18 = .ok (.ifCond .ne 9, 3) := dk_154 0 9 (dk_at dksX3_whyNotDeliver_0 18 rfl rfl)
theorem dX3_whyNotDeliver_21 : decode cX3_whyNotDeliver 21 = .ok (.aload_n 0, 1) := dk_42 (dk_at dksX3_whyNotDeliver_0 21 rfl rfl)
theorem dX3_whyNotDeliver_22 : decode cX3_whyNotDeliver 22 = .ok (.iconst 1, 1) := dk_4 (dk_at dksX3_whyNotDeliver_0 22 rfl rfl)
theorem dX3_whyNotDeliver_23 : decode cX3_whyNotDeliver 23 = .ok (.invokevirtual 49, 3) := dk_182 0 49 (dk_at dksX3_whyNotDeliver_1 0 rfl rfl)
theorem dX3_whyNotDeliver_26 : decode cX3_whyNotDeliver 26 = .ok (.ireturn, 1) := dk_172 (dk_at dksX3_whyNotDeliver_1 3 rfl rfl)
theorem dX3_whyNotDeliver_27 : decode cX3_whyNotDeliver 27 = .ok (.iload_n 3, 1) := dk_29 (dk_at dksX3_whyNotDeliver_1 4 rfl rfl)
theorem dX3_whyNotDeliver_28 : decode cX3_whyNotDeliver 28 = .ok (.iconst 1, 1) := dk_4 (dk_at dksX3_whyNotDeliver_1 5 rfl rfl)
theorem dX3_whyNotDeliver_29 : decode cX3_whyNotDeliver 29 = .ok (.bipush 50, 2) := dk_16 50 (dk_at dksX3_whyNotDeliver_1 6 rfl rfl)
theorem dX3_whyNotDeliver_31 : decode cX3_whyNotDeliver 31 = .ok (.invokestatic 35, 3) := dk_184 0 35 (dk_at dksX3_whyNotDeliver_1 8 rfl rfl)
theorem dX3_whyNotDeliver_34 : decode cX3_whyNotDeliver 34 = .ok (.ifCond .eq 13, 3) := dk_153 0 13 (dk_at dksX3_whyNotDeliver_1 11 rfl rfl)
theorem dX3_whyNotDeliver_37 : decode cX3_whyNotDeliver 37 = .ok (.aload_n 0, 1) := dk_42 (dk_at dksX3_whyNotDeliver_1 14 rfl rfl)
theorem dX3_whyNotDeliver_38 : decode cX3_whyNotDeliver 38 = .ok (.iload_n 1, 1) := dk_27 (dk_at dksX3_whyNotDeliver_1 15 rfl rfl)
theorem dX3_whyNotDeliver_39 : decode cX3_whyNotDeliver 39 = .ok (.iload_n 2, 1) := dk_28 (dk_at dksX3_whyNotDeliver_1 16 rfl rfl)
theorem dX3_whyNotDeliver_40 : decode cX3_whyNotDeliver 40 = .ok (.iload_n 3, 1) := dk_29 (dk_at dksX3_whyNotDeliver_1 17 rfl rfl)
theorem dX3_whyNotDeliver_41 : decode cX3_whyNotDeliver 41 = .ok (.invokevirtual 95, 3) := dk_182 0 95 (dk_at dksX3_whyNotDeliver_1 18 rfl rfl)
theorem dX3_whyNotDeliver_44 : decode cX3_whyNotDeliver 44 = .ok (.goto 8, 3) := dk_167 0 8 (dk_at dksX3_whyNotDeliver_1 21 rfl rfl)
theorem dX3_whyNotDeliver_47 : decode cX3_whyNotDeliver 47 = .ok (.aload_n 0, 1) := dk_42 (dk_at dksX3_whyNotDeliver_2 0 rfl rfl)
theorem dX3_whyNotDeliver_48 : decode cX3_whyNotDeliver 48 = .ok (.iconst 2, 1) := dk_5 (dk_at dksX3_whyNotDeliver_2 1 rfl rfl)
theorem dX3_whyNotDeliver_49 : decode cX3_whyNotDeliver 49 = .ok (.invokevirtual 49, 3) := dk_182 0 49 (dk_at dksX3_whyNotDeliver_2 2 rfl rfl)
theorem dX3_whyNotDeliver_52 : decode cX3_whyNotDeliver 52 = .ok (.ireturn, 1) := dk_172 (dk_at dksX3_whyNotDeliver_2 5 rfl rfl)
abbrev cX3_whyNotCollect : ByteArray := prog_23_method_67_code
def yX3_whyNotCollect : MethodName := ⟨RX3, "whyNotCollect", "(III)I"⟩
def dkwX3_whyNotCollect_2 : List UInt8 := [167, 0, 8, 42, 5, 182, 0, 49, 172]
abbrev dktX3_whyNotCollect_2 : List UInt8 := dkwX3_whyNotCollect_2 ++ []
def dkwX3_whyNotCollect_1 : List UInt8 := [184, 0, 35, 153, 0, 23, 29, 4, 16, 50, 184, 0, 35, 153, 0, 13, 42, 27, 28, 29, 182, 0, 120]
abbrev dktX3_whyNotCollect_1 : List UInt8 := dkwX3_whyNotCollect_1 ++ dktX3_whyNotCollect_2
def dkwX3_whyNotCollect_0 : List UInt8 := [42, 3, 181, 0, 28, 42, 27, 182, 0, 92, 154, 0, 9, 42, 4, 182, 0, 49, 172, 28, 3, 5]
abbrev dktX3_whyNotCollect_0 : List UInt8 := dkwX3_whyNotCollect_0 ++ dktX3_whyNotCollect_1
theorem dksX3_whyNotCollect_0 : cX3_whyNotCollect.data.toList.drop 0 = dktX3_whyNotCollect_0 := by decide +kernel
theorem dksX3_whyNotCollect_1 : cX3_whyNotCollect.data.toList.drop 22 = dktX3_whyNotCollect_1 := dk_seg dksX3_whyNotCollect_0 22 rfl rfl
theorem dksX3_whyNotCollect_2 : cX3_whyNotCollect.data.toList.drop 45 = dktX3_whyNotCollect_2 := dk_seg dksX3_whyNotCollect_1 23 rfl rfl
theorem dX3_whyNotCollect_0 : decode cX3_whyNotCollect 0 = .ok (.aload_n 0, 1) := dk_42 (dk_at dksX3_whyNotCollect_0 0 rfl rfl)
theorem dX3_whyNotCollect_1 : decode cX3_whyNotCollect 1 = .ok (.iconst 0, 1) := dk_3 (dk_at dksX3_whyNotCollect_0 1 rfl rfl)
theorem dX3_whyNotCollect_2 : decode cX3_whyNotCollect 2 = .ok (.putfield 28, 3) := dk_181 0 28 (dk_at dksX3_whyNotCollect_0 2 rfl rfl)
theorem dX3_whyNotCollect_5 : decode cX3_whyNotCollect 5 = .ok (.aload_n 0, 1) := dk_42 (dk_at dksX3_whyNotCollect_0 5 rfl rfl)
theorem dX3_whyNotCollect_6 : decode cX3_whyNotCollect 6 = .ok (.iload_n 1, 1) := dk_27 (dk_at dksX3_whyNotCollect_0 6 rfl rfl)
theorem dX3_whyNotCollect_7 : decode cX3_whyNotCollect 7 = .ok (.invokevirtual 92, 3) := dk_182 0 92 (dk_at dksX3_whyNotCollect_0 7 rfl rfl)
theorem dX3_whyNotCollect_10 : decode cX3_whyNotCollect 10 = .ok (.ifCond .ne 9, 3) := dk_154 0 9 (dk_at dksX3_whyNotCollect_0 10 rfl rfl)
theorem dX3_whyNotCollect_13 : decode cX3_whyNotCollect 13 = .ok (.aload_n 0, 1) := dk_42 (dk_at dksX3_whyNotCollect_0 13 rfl rfl)
theorem dX3_whyNotCollect_14 : decode cX3_whyNotCollect 14 = .ok (.iconst 1, 1) := dk_4 (dk_at dksX3_whyNotCollect_0 14 rfl rfl)
theorem dX3_whyNotCollect_15 : decode cX3_whyNotCollect 15 = .ok (.invokevirtual 49, 3) := dk_182 0 49 (dk_at dksX3_whyNotCollect_0 15 rfl rfl)
theorem dX3_whyNotCollect_18 : decode cX3_whyNotCollect 18 = .ok (.ireturn, 1) := dk_172 (dk_at dksX3_whyNotCollect_0 18 rfl rfl)
theorem dX3_whyNotCollect_19 : decode cX3_whyNotCollect 19 = .ok (.iload_n 2, 1) := dk_28 (dk_at dksX3_whyNotCollect_0 19 rfl rfl)
theorem dX3_whyNotCollect_20 : decode cX3_whyNotCollect 20 = .ok (.iconst 0, 1) := dk_3 (dk_at dksX3_whyNotCollect_0 20 rfl rfl)
theorem dX3_whyNotCollect_21 : decode cX3_whyNotCollect 21 = .ok (.iconst 2, 1) := dk_5 (dk_at dksX3_whyNotCollect_0 21 rfl rfl)
theorem dX3_whyNotCollect_22 : decode cX3_whyNotCollect 22 = .ok (.invokestatic 35, 3) := dk_184 0 35 (dk_at dksX3_whyNotCollect_1 0 rfl rfl)
theorem dX3_whyNotCollect_25 : decode cX3_whyNotCollect 25 = .ok (.ifCond .eq 23, 3) := dk_153 0 23 (dk_at dksX3_whyNotCollect_1 3 rfl rfl)
theorem dX3_whyNotCollect_28 : decode cX3_whyNotCollect 28 = .ok (.iload_n 3, 1) := dk_29 (dk_at dksX3_whyNotCollect_1 6 rfl rfl)
theorem dX3_whyNotCollect_29 : decode cX3_whyNotCollect 29 = .ok (.iconst 1, 1) := dk_4 (dk_at dksX3_whyNotCollect_1 7 rfl rfl)
theorem dX3_whyNotCollect_30 : decode cX3_whyNotCollect 30 = .ok (.bipush 50, 2) := dk_16 50 (dk_at dksX3_whyNotCollect_1 8 rfl rfl)
theorem dX3_whyNotCollect_32 : decode cX3_whyNotCollect 32 = .ok (.invokestatic 35, 3) := dk_184 0 35 (dk_at dksX3_whyNotCollect_1 10 rfl rfl)
theorem dX3_whyNotCollect_35 : decode cX3_whyNotCollect 35 = .ok (.ifCond .eq 13, 3) := dk_153 0 13 (dk_at dksX3_whyNotCollect_1 13 rfl rfl)
theorem dX3_whyNotCollect_38 : decode cX3_whyNotCollect 38 = .ok (.aload_n 0, 1) := dk_42 (dk_at dksX3_whyNotCollect_1 16 rfl rfl)
theorem dX3_whyNotCollect_39 : decode cX3_whyNotCollect 39 = .ok (.iload_n 1, 1) := dk_27 (dk_at dksX3_whyNotCollect_1 17 rfl rfl)
theorem dX3_whyNotCollect_40 : decode cX3_whyNotCollect 40 = .ok (.iload_n 2, 1) := dk_28 (dk_at dksX3_whyNotCollect_1 18 rfl rfl)
theorem dX3_whyNotCollect_41 : decode cX3_whyNotCollect 41 = .ok (.iload_n 3, 1) := dk_29 (dk_at dksX3_whyNotCollect_1 19 rfl rfl)
theorem dX3_whyNotCollect_42 : decode cX3_whyNotCollect 42 = .ok (.invokevirtual 120, 3) := dk_182 0 120 (dk_at dksX3_whyNotCollect_1 20 rfl rfl)
theorem dX3_whyNotCollect_45 : decode cX3_whyNotCollect 45 = .ok (.goto 8, 3) := dk_167 0 8 (dk_at dksX3_whyNotCollect_2 0 rfl rfl)
theorem dX3_whyNotCollect_48 : decode cX3_whyNotCollect 48 = .ok (.aload_n 0, 1) := dk_42 (dk_at dksX3_whyNotCollect_2 3 rfl rfl)
theorem dX3_whyNotCollect_49 : decode cX3_whyNotCollect 49 = .ok (.iconst 2, 1) := dk_5 (dk_at dksX3_whyNotCollect_2 4 rfl rfl)
theorem dX3_whyNotCollect_50 : decode cX3_whyNotCollect 50 = .ok (.invokevirtual 49, 3) := dk_182 0 49 (dk_at dksX3_whyNotCollect_2 5 rfl rfl)
theorem dX3_whyNotCollect_53 : decode cX3_whyNotCollect 53 = .ok (.ireturn, 1) := dk_172 (dk_at dksX3_whyNotCollect_2 8 rfl rfl)
abbrev cX3_mostCrates : ByteArray := prog_23_method_69_code
def yX3_mostCrates : MethodName := ⟨RX3, "mostCrates", "(II)I"⟩
def dkwX3_mostCrates_1 : List UInt8 := [182, 0, 190, 167, 0, 8, 42, 4, 182, 0, 49, 172]
abbrev dktX3_mostCrates_1 : List UInt8 := dkwX3_mostCrates_1 ++ []
def dkwX3_mostCrates_0 : List UInt8 := [42, 3, 181, 0, 28, 42, 27, 182, 0, 85, 153, 0, 20, 42, 28, 182, 0, 92, 153, 0, 12, 42, 27, 28]
abbrev dktX3_mostCrates_0 : List UInt8 := dkwX3_mostCrates_0 ++ dktX3_mostCrates_1
theorem dksX3_mostCrates_0 : cX3_mostCrates.data.toList.drop 0 = dktX3_mostCrates_0 := by decide +kernel
theorem dksX3_mostCrates_1 : cX3_mostCrates.data.toList.drop 24 = dktX3_mostCrates_1 := dk_seg dksX3_mostCrates_0 24 rfl rfl
theorem dX3_mostCrates_0 : decode cX3_mostCrates 0 = .ok (.aload_n 0, 1) := dk_42 (dk_at dksX3_mostCrates_0 0 rfl rfl)
theorem dX3_mostCrates_1 : decode cX3_mostCrates 1 = .ok (.iconst 0, 1) := dk_3 (dk_at dksX3_mostCrates_0 1 rfl rfl)
theorem dX3_mostCrates_2 : decode cX3_mostCrates 2 = .ok (.putfield 28, 3) := dk_181 0 28 (dk_at dksX3_mostCrates_0 2 rfl rfl)
theorem dX3_mostCrates_5 : decode cX3_mostCrates 5 = .ok (.aload_n 0, 1) := dk_42 (dk_at dksX3_mostCrates_0 5 rfl rfl)
theorem dX3_mostCrates_6 : decode cX3_mostCrates 6 = .ok (.iload_n 1, 1) := dk_27 (dk_at dksX3_mostCrates_0 6 rfl rfl)
theorem dX3_mostCrates_7 : decode cX3_mostCrates 7 = .ok (.invokevirtual 85, 3) := dk_182 0 85 (dk_at dksX3_mostCrates_0 7 rfl rfl)
theorem dX3_mostCrates_10 : decode cX3_mostCrates 10 = .ok (.ifCond .eq 20, 3) := dk_153 0 20 (dk_at dksX3_mostCrates_0 10 rfl rfl)
theorem dX3_mostCrates_13 : decode cX3_mostCrates 13 = .ok (.aload_n 0, 1) := dk_42 (dk_at dksX3_mostCrates_0 13 rfl rfl)
theorem dX3_mostCrates_14 : decode cX3_mostCrates 14 = .ok (.iload_n 2, 1) := dk_28 (dk_at dksX3_mostCrates_0 14 rfl rfl)
theorem dX3_mostCrates_15 : decode cX3_mostCrates 15 = .ok (.invokevirtual 92, 3) := dk_182 0 92 (dk_at dksX3_mostCrates_0 15 rfl rfl)
theorem dX3_mostCrates_18 : decode cX3_mostCrates 18 = .ok (.ifCond .eq 12, 3) := dk_153 0 12 (dk_at dksX3_mostCrates_0 18 rfl rfl)
theorem dX3_mostCrates_21 : decode cX3_mostCrates 21 = .ok (.aload_n 0, 1) := dk_42 (dk_at dksX3_mostCrates_0 21 rfl rfl)
theorem dX3_mostCrates_22 : decode cX3_mostCrates 22 = .ok (.iload_n 1, 1) := dk_27 (dk_at dksX3_mostCrates_0 22 rfl rfl)
theorem dX3_mostCrates_23 : decode cX3_mostCrates 23 = .ok (.iload_n 2, 1) := dk_28 (dk_at dksX3_mostCrates_0 23 rfl rfl)
theorem dX3_mostCrates_24 : decode cX3_mostCrates 24 = .ok (.invokevirtual 190, 3) := dk_182 0 190 (dk_at dksX3_mostCrates_1 0 rfl rfl)
theorem dX3_mostCrates_27 : decode cX3_mostCrates 27 = .ok (.goto 8, 3) := dk_167 0 8 (dk_at dksX3_mostCrates_1 3 rfl rfl)
theorem dX3_mostCrates_30 : decode cX3_mostCrates 30 = .ok (.aload_n 0, 1) := dk_42 (dk_at dksX3_mostCrates_1 6 rfl rfl)
theorem dX3_mostCrates_31 : decode cX3_mostCrates 31 = .ok (.iconst 1, 1) := dk_4 (dk_at dksX3_mostCrates_1 7 rfl rfl)
theorem dX3_mostCrates_32 : decode cX3_mostCrates 32 = .ok (.invokevirtual 49, 3) := dk_182 0 49 (dk_at dksX3_mostCrates_1 8 rfl rfl)
theorem dX3_mostCrates_35 : decode cX3_mostCrates 35 = .ok (.ireturn, 1) := dk_172 (dk_at dksX3_mostCrates_1 11 rfl rfl)
abbrev cX3_deliverable : ByteArray := prog_23_method_68_code
def yX3_deliverable : MethodName := ⟨RX3, "deliverable", "(II)I"⟩
def dkwX3_deliverable_1 : List UInt8 := [167, 255, 235, 29, 172]
abbrev dktX3_deliverable_1 : List UInt8 := dkwX3_deliverable_1 ++ []
def dkwX3_deliverable_0 : List UInt8 := [3, 62, 29, 16, 50, 162, 0, 21, 42, 27, 28, 29, 4, 96, 182, 0, 95, 154, 0, 9, 132, 3, 1]
abbrev dktX3_deliverable_0 : List UInt8 := dkwX3_deliverable_0 ++ dktX3_deliverable_1
theorem dksX3_deliverable_0 : cX3_deliverable.data.toList.drop 0 = dktX3_deliverable_0 := by decide +kernel
theorem dksX3_deliverable_1 : cX3_deliverable.data.toList.drop 23 = dktX3_deliverable_1 := dk_seg dksX3_deliverable_0 23 rfl rfl
theorem dX3_deliverable_0 : decode cX3_deliverable 0 = .ok (.iconst 0, 1) := dk_3 (dk_at dksX3_deliverable_0 0 rfl rfl)
theorem dX3_deliverable_1 : decode cX3_deliverable 1 = .ok (.istore_n 3, 1) := dk_62 (dk_at dksX3_deliverable_0 1 rfl rfl)
theorem dX3_deliverable_2 : decode cX3_deliverable 2 = .ok (.iload_n 3, 1) := dk_29 (dk_at dksX3_deliverable_0 2 rfl rfl)
theorem dX3_deliverable_3 : decode cX3_deliverable 3 = .ok (.bipush 50, 2) := dk_16 50 (dk_at dksX3_deliverable_0 3 rfl rfl)
theorem dX3_deliverable_5 : decode cX3_deliverable 5 = .ok (.if_icmp .ge 21, 3) := dk_162 0 21 (dk_at dksX3_deliverable_0 5 rfl rfl)
theorem dX3_deliverable_8 : decode cX3_deliverable 8 = .ok (.aload_n 0, 1) := dk_42 (dk_at dksX3_deliverable_0 8 rfl rfl)
theorem dX3_deliverable_9 : decode cX3_deliverable 9 = .ok (.iload_n 1, 1) := dk_27 (dk_at dksX3_deliverable_0 9 rfl rfl)
theorem dX3_deliverable_10 : decode cX3_deliverable 10 = .ok (.iload_n 2, 1) := dk_28 (dk_at dksX3_deliverable_0 10 rfl rfl)
theorem dX3_deliverable_11 : decode cX3_deliverable 11 = .ok (.iload_n 3, 1) := dk_29 (dk_at dksX3_deliverable_0 11 rfl rfl)
theorem dX3_deliverable_12 : decode cX3_deliverable 12 = .ok (.iconst 1, 1) := dk_4 (dk_at dksX3_deliverable_0 12 rfl rfl)
theorem dX3_deliverable_13 : decode cX3_deliverable 13 = .ok (.iadd, 1) := dk_96 (dk_at dksX3_deliverable_0 13 rfl rfl)
theorem dX3_deliverable_14 : decode cX3_deliverable 14 = .ok (.invokevirtual 95, 3) := dk_182 0 95 (dk_at dksX3_deliverable_0 14 rfl rfl)
theorem dX3_deliverable_17 : decode cX3_deliverable 17 = .ok (.ifCond .ne 9, 3) := dk_154 0 9 (dk_at dksX3_deliverable_0 17 rfl rfl)
theorem dX3_deliverable_20 : decode cX3_deliverable 20 = .ok (.iinc 3 1, 3) := dk_132 3 1 (dk_at dksX3_deliverable_0 20 rfl rfl)
theorem dX3_deliverable_23 : decode cX3_deliverable 23 = .ok (.goto (-21), 3) := dk_167 255 235 (dk_at dksX3_deliverable_1 0 rfl rfl)
theorem dX3_deliverable_26 : decode cX3_deliverable 26 = .ok (.iload_n 3, 1) := dk_29 (dk_at dksX3_deliverable_1 3 rfl rfl)
theorem dX3_deliverable_27 : decode cX3_deliverable 27 = .ok (.ireturn, 1) := dk_172 (dk_at dksX3_deliverable_1 4 rfl rfl)
abbrev cX3_collected : ByteArray := prog_23_method_71_code
def yX3_collected : MethodName := ⟨RX3, "collected", "(III)I"⟩
def dkwX3_collected_2 : List UInt8 := [42, 5, 182, 0, 49, 172]
abbrev dktX3_collected_2 : List UInt8 := dkwX3_collected_2 ++ []
def dkwX3_collected_1 : List UInt8 := [182, 0, 49, 172, 29, 4, 16, 50, 184, 0, 35, 153, 0, 13, 42, 27, 28, 29, 182, 0, 193, 167, 0, 8]
abbrev dktX3_collected_1 : List UInt8 := dkwX3_collected_1 ++ dktX3_collected_2
def dkwX3_collected_0 : List UInt8 := [42, 3, 181, 0, 28, 42, 27, 182, 0, 92, 153, 0, 11, 42, 28, 182, 0, 85, 154, 0, 9, 42, 4]
abbrev dktX3_collected_0 : List UInt8 := dkwX3_collected_0 ++ dktX3_collected_1
theorem dksX3_collected_0 : cX3_collected.data.toList.drop 0 = dktX3_collected_0 := by decide +kernel
theorem dksX3_collected_1 : cX3_collected.data.toList.drop 23 = dktX3_collected_1 := dk_seg dksX3_collected_0 23 rfl rfl
theorem dksX3_collected_2 : cX3_collected.data.toList.drop 47 = dktX3_collected_2 := dk_seg dksX3_collected_1 24 rfl rfl
theorem dX3_collected_0 : decode cX3_collected 0 = .ok (.aload_n 0, 1) := dk_42 (dk_at dksX3_collected_0 0 rfl rfl)
theorem dX3_collected_1 : decode cX3_collected 1 = .ok (.iconst 0, 1) := dk_3 (dk_at dksX3_collected_0 1 rfl rfl)
theorem dX3_collected_2 : decode cX3_collected 2 = .ok (.putfield 28, 3) := dk_181 0 28 (dk_at dksX3_collected_0 2 rfl rfl)
theorem dX3_collected_5 : decode cX3_collected 5 = .ok (.aload_n 0, 1) := dk_42 (dk_at dksX3_collected_0 5 rfl rfl)
theorem dX3_collected_6 : decode cX3_collected 6 = .ok (.iload_n 1, 1) := dk_27 (dk_at dksX3_collected_0 6 rfl rfl)
theorem dX3_collected_7 : decode cX3_collected 7 = .ok (.invokevirtual 92, 3) := dk_182 0 92 (dk_at dksX3_collected_0 7 rfl rfl)
theorem dX3_collected_10 : decode cX3_collected 10 = .ok (.ifCond .eq 11, 3) := dk_153 0 11 (dk_at dksX3_collected_0 10 rfl rfl)
theorem dX3_collected_13 : decode cX3_collected 13 = .ok (.aload_n 0, 1) := dk_42 (dk_at dksX3_collected_0 13 rfl rfl)
theorem dX3_collected_14 : decode cX3_collected 14 = .ok (.iload_n 2, 1) := dk_28 (dk_at dksX3_collected_0 14 rfl rfl)
theorem dX3_collected_15 : decode cX3_collected 15 = .ok (.invokevirtual 85, 3) := dk_182 0 85 (dk_at dksX3_collected_0 15 rfl rfl)
theorem dX3_collected_18 : decode cX3_collected 18 = .ok (.ifCond .ne 9, 3) := dk_154 0 9 (dk_at dksX3_collected_0 18 rfl rfl)
theorem dX3_collected_21 : decode cX3_collected 21 = .ok (.aload_n 0, 1) := dk_42 (dk_at dksX3_collected_0 21 rfl rfl)
theorem dX3_collected_22 : decode cX3_collected 22 = .ok (.iconst 1, 1) := dk_4 (dk_at dksX3_collected_0 22 rfl rfl)
theorem dX3_collected_23 : decode cX3_collected 23 = .ok (.invokevirtual 49, 3) := dk_182 0 49 (dk_at dksX3_collected_1 0 rfl rfl)
theorem dX3_collected_26 : decode cX3_collected 26 = .ok (.ireturn, 1) := dk_172 (dk_at dksX3_collected_1 3 rfl rfl)
theorem dX3_collected_27 : decode cX3_collected 27 = .ok (.iload_n 3, 1) := dk_29 (dk_at dksX3_collected_1 4 rfl rfl)
theorem dX3_collected_28 : decode cX3_collected 28 = .ok (.iconst 1, 1) := dk_4 (dk_at dksX3_collected_1 5 rfl rfl)
theorem dX3_collected_29 : decode cX3_collected 29 = .ok (.bipush 50, 2) := dk_16 50 (dk_at dksX3_collected_1 6 rfl rfl)
theorem dX3_collected_31 : decode cX3_collected 31 = .ok (.invokestatic 35, 3) := dk_184 0 35 (dk_at dksX3_collected_1 8 rfl rfl)
theorem dX3_collected_34 : decode cX3_collected 34 = .ok (.ifCond .eq 13, 3) := dk_153 0 13 (dk_at dksX3_collected_1 11 rfl rfl)
theorem dX3_collected_37 : decode cX3_collected 37 = .ok (.aload_n 0, 1) := dk_42 (dk_at dksX3_collected_1 14 rfl rfl)
theorem dX3_collected_38 : decode cX3_collected 38 = .ok (.iload_n 1, 1) := dk_27 (dk_at dksX3_collected_1 15 rfl rfl)
theorem dX3_collected_39 : decode cX3_collected 39 = .ok (.iload_n 2, 1) := dk_28 (dk_at dksX3_collected_1 16 rfl rfl)
theorem dX3_collected_40 : decode cX3_collected 40 = .ok (.iload_n 3, 1) := dk_29 (dk_at dksX3_collected_1 17 rfl rfl)
theorem dX3_collected_41 : decode cX3_collected 41 = .ok (.invokevirtual 193, 3) := dk_182 0 193 (dk_at dksX3_collected_1 18 rfl rfl)
theorem dX3_collected_44 : decode cX3_collected 44 = .ok (.goto 8, 3) := dk_167 0 8 (dk_at dksX3_collected_1 21 rfl rfl)
theorem dX3_collected_47 : decode cX3_collected 47 = .ok (.aload_n 0, 1) := dk_42 (dk_at dksX3_collected_2 0 rfl rfl)
theorem dX3_collected_48 : decode cX3_collected 48 = .ok (.iconst 2, 1) := dk_5 (dk_at dksX3_collected_2 1 rfl rfl)
theorem dX3_collected_49 : decode cX3_collected 49 = .ok (.invokevirtual 49, 3) := dk_182 0 49 (dk_at dksX3_collected_2 2 rfl rfl)
theorem dX3_collected_52 : decode cX3_collected 52 = .ok (.ireturn, 1) := dk_172 (dk_at dksX3_collected_2 5 rfl rfl)
abbrev cX3_wouldCollect : ByteArray := prog_23_method_70_code
def yX3_wouldCollect : MethodName := ⟨RX3, "wouldCollect", "(III)I"⟩
def dkwX3_wouldCollect_4 : List UInt8 := [132, 6, 1, 167, 255, 231, 21, 5, 42, 28, 7, 182, 0, 46, 100, 172]
abbrev dktX3_wouldCollect_4 : List UInt8 := dkwX3_wouldCollect_4 ++ []
def dkwX3_wouldCollect_3 : List UInt8 := [54, 6, 21, 6, 17, 1, 27, 162, 0, 23, 42, 180, 0, 7, 21, 6, 42, 180, 0, 13, 21, 6, 46, 79]
abbrev dktX3_wouldCollect_3 : List UInt8 := dkwX3_wouldCollect_3 ++ dktX3_wouldCollect_4
def dkwX3_wouldCollect_2 : List UInt8 := [132, 5, 1, 167, 255, 231, 42, 27, 21, 4, 29, 182, 0, 123, 87, 42, 28, 7, 182, 0, 46, 54, 5, 3]
abbrev dktX3_wouldCollect_2 : List UInt8 := dkwX3_wouldCollect_2 ++ dktX3_wouldCollect_3
def dkwX3_wouldCollect_1 : List UInt8 := [21, 5, 17, 1, 27, 162, 0, 23, 42, 180, 0, 13, 21, 5, 42, 180, 0, 7, 21, 5, 46, 79]
abbrev dktX3_wouldCollect_1 : List UInt8 := dkwX3_wouldCollect_1 ++ dktX3_wouldCollect_2
def dkwX3_wouldCollect_0 : List UInt8 := [42, 28, 3, 182, 0, 46, 54, 4, 42, 27, 21, 4, 29, 182, 0, 120, 158, 0, 5, 2, 172, 3, 54, 5]
abbrev dktX3_wouldCollect_0 : List UInt8 := dkwX3_wouldCollect_0 ++ dktX3_wouldCollect_1
theorem dksX3_wouldCollect_0 : cX3_wouldCollect.data.toList.drop 0 = dktX3_wouldCollect_0 := by decide +kernel
theorem dksX3_wouldCollect_1 : cX3_wouldCollect.data.toList.drop 24 = dktX3_wouldCollect_1 := dk_seg dksX3_wouldCollect_0 24 rfl rfl
theorem dksX3_wouldCollect_2 : cX3_wouldCollect.data.toList.drop 46 = dktX3_wouldCollect_2 := dk_seg dksX3_wouldCollect_1 22 rfl rfl
theorem dksX3_wouldCollect_3 : cX3_wouldCollect.data.toList.drop 70 = dktX3_wouldCollect_3 := dk_seg dksX3_wouldCollect_2 24 rfl rfl
theorem dksX3_wouldCollect_4 : cX3_wouldCollect.data.toList.drop 94 = dktX3_wouldCollect_4 := dk_seg dksX3_wouldCollect_3 24 rfl rfl
theorem dX3_wouldCollect_0 : decode cX3_wouldCollect 0 = .ok (.aload_n 0, 1) := dk_42 (dk_at dksX3_wouldCollect_0 0 rfl rfl)
theorem dX3_wouldCollect_1 : decode cX3_wouldCollect 1 = .ok (.iload_n 2, 1) := dk_28 (dk_at dksX3_wouldCollect_0 1 rfl rfl)
theorem dX3_wouldCollect_2 : decode cX3_wouldCollect 2 = .ok (.iconst 0, 1) := dk_3 (dk_at dksX3_wouldCollect_0 2 rfl rfl)
theorem dX3_wouldCollect_3 : decode cX3_wouldCollect 3 = .ok (.invokevirtual 46, 3) := dk_182 0 46 (dk_at dksX3_wouldCollect_0 3 rfl rfl)
theorem dX3_wouldCollect_6 : decode cX3_wouldCollect 6 = .ok (.istore 4, 2) := dk_54 4 (dk_at dksX3_wouldCollect_0 6 rfl rfl)
theorem dX3_wouldCollect_8 : decode cX3_wouldCollect 8 = .ok (.aload_n 0, 1) := dk_42 (dk_at dksX3_wouldCollect_0 8 rfl rfl)
theorem dX3_wouldCollect_9 : decode cX3_wouldCollect 9 = .ok (.iload_n 1, 1) := dk_27 (dk_at dksX3_wouldCollect_0 9 rfl rfl)
theorem dX3_wouldCollect_10 : decode cX3_wouldCollect 10 = .ok (.iload 4, 2) := dk_21 4 (dk_at dksX3_wouldCollect_0 10 rfl rfl)
theorem dX3_wouldCollect_12 : decode cX3_wouldCollect 12 = .ok (.iload_n 3, 1) := dk_29 (dk_at dksX3_wouldCollect_0 12 rfl rfl)
theorem dX3_wouldCollect_13 : decode cX3_wouldCollect 13 = .ok (.invokevirtual 120, 3) := dk_182 0 120 (dk_at dksX3_wouldCollect_0 13 rfl rfl)
theorem dX3_wouldCollect_16 : decode cX3_wouldCollect 16 = .ok (.ifCond .le 5, 3) := dk_158 0 5 (dk_at dksX3_wouldCollect_0 16 rfl rfl)
theorem dX3_wouldCollect_19 : decode cX3_wouldCollect 19 = .ok (.iconst (-1), 1) := dk_2 (dk_at dksX3_wouldCollect_0 19 rfl rfl)
theorem dX3_wouldCollect_20 : decode cX3_wouldCollect 20 = .ok (.ireturn, 1) := dk_172 (dk_at dksX3_wouldCollect_0 20 rfl rfl)
theorem dX3_wouldCollect_21 : decode cX3_wouldCollect 21 = .ok (.iconst 0, 1) := dk_3 (dk_at dksX3_wouldCollect_0 21 rfl rfl)
theorem dX3_wouldCollect_22 : decode cX3_wouldCollect 22 = .ok (.istore 5, 2) := dk_54 5 (dk_at dksX3_wouldCollect_0 22 rfl rfl)
theorem dX3_wouldCollect_24 : decode cX3_wouldCollect 24 = .ok (.iload 5, 2) := dk_21 5 (dk_at dksX3_wouldCollect_1 0 rfl rfl)
theorem dX3_wouldCollect_26 : decode cX3_wouldCollect 26 = .ok (.sipush 283, 3) := dk_17 1 27 (dk_at dksX3_wouldCollect_1 2 rfl rfl)
theorem dX3_wouldCollect_29 : decode cX3_wouldCollect 29 = .ok (.if_icmp .ge 23, 3) := dk_162 0 23 (dk_at dksX3_wouldCollect_1 5 rfl rfl)
theorem dX3_wouldCollect_32 : decode cX3_wouldCollect 32 = .ok (.aload_n 0, 1) := dk_42 (dk_at dksX3_wouldCollect_1 8 rfl rfl)
theorem dX3_wouldCollect_33 : decode cX3_wouldCollect 33 = .ok (.getfield 13, 3) := dk_180 0 13 (dk_at dksX3_wouldCollect_1 9 rfl rfl)
theorem dX3_wouldCollect_36 : decode cX3_wouldCollect 36 = .ok (.iload 5, 2) := dk_21 5 (dk_at dksX3_wouldCollect_1 12 rfl rfl)
theorem dX3_wouldCollect_38 : decode cX3_wouldCollect 38 = .ok (.aload_n 0, 1) := dk_42 (dk_at dksX3_wouldCollect_1 14 rfl rfl)
theorem dX3_wouldCollect_39 : decode cX3_wouldCollect 39 = .ok (.getfield 7, 3) := dk_180 0 7 (dk_at dksX3_wouldCollect_1 15 rfl rfl)
theorem dX3_wouldCollect_42 : decode cX3_wouldCollect 42 = .ok (.iload 5, 2) := dk_21 5 (dk_at dksX3_wouldCollect_1 18 rfl rfl)
theorem dX3_wouldCollect_44 : decode cX3_wouldCollect 44 = .ok (.iaload, 1) := dk_46 (dk_at dksX3_wouldCollect_1 20 rfl rfl)
theorem dX3_wouldCollect_45 : decode cX3_wouldCollect 45 = .ok (.iastore, 1) := dk_79 (dk_at dksX3_wouldCollect_1 21 rfl rfl)
theorem dX3_wouldCollect_46 : decode cX3_wouldCollect 46 = .ok (.iinc 5 1, 3) := dk_132 5 1 (dk_at dksX3_wouldCollect_2 0 rfl rfl)
theorem dX3_wouldCollect_49 : decode cX3_wouldCollect 49 = .ok (.goto (-25), 3) := dk_167 255 231 (dk_at dksX3_wouldCollect_2 3 rfl rfl)
theorem dX3_wouldCollect_52 : decode cX3_wouldCollect 52 = .ok (.aload_n 0, 1) := dk_42 (dk_at dksX3_wouldCollect_2 6 rfl rfl)
theorem dX3_wouldCollect_53 : decode cX3_wouldCollect 53 = .ok (.iload_n 1, 1) := dk_27 (dk_at dksX3_wouldCollect_2 7 rfl rfl)
theorem dX3_wouldCollect_54 : decode cX3_wouldCollect 54 = .ok (.iload 4, 2) := dk_21 4 (dk_at dksX3_wouldCollect_2 8 rfl rfl)
theorem dX3_wouldCollect_56 : decode cX3_wouldCollect 56 = .ok (.iload_n 3, 1) := dk_29 (dk_at dksX3_wouldCollect_2 10 rfl rfl)
theorem dX3_wouldCollect_57 : decode cX3_wouldCollect 57 = .ok (.invokevirtual 123, 3) := dk_182 0 123 (dk_at dksX3_wouldCollect_2 11 rfl rfl)
theorem dX3_wouldCollect_60 : decode cX3_wouldCollect 60 = .ok (.pop, 1) := dk_87 (dk_at dksX3_wouldCollect_2 14 rfl rfl)
theorem dX3_wouldCollect_61 : decode cX3_wouldCollect 61 = .ok (.aload_n 0, 1) := dk_42 (dk_at dksX3_wouldCollect_2 15 rfl rfl)
theorem dX3_wouldCollect_62 : decode cX3_wouldCollect 62 = .ok (.iload_n 2, 1) := dk_28 (dk_at dksX3_wouldCollect_2 16 rfl rfl)
theorem dX3_wouldCollect_63 : decode cX3_wouldCollect 63 = .ok (.iconst 4, 1) := dk_7 (dk_at dksX3_wouldCollect_2 17 rfl rfl)
theorem dX3_wouldCollect_64 : decode cX3_wouldCollect 64 = .ok (.invokevirtual 46, 3) := dk_182 0 46 (dk_at dksX3_wouldCollect_2 18 rfl rfl)
theorem dX3_wouldCollect_67 : decode cX3_wouldCollect 67 = .ok (.istore 5, 2) := dk_54 5 (dk_at dksX3_wouldCollect_2 21 rfl rfl)
theorem dX3_wouldCollect_69 : decode cX3_wouldCollect 69 = .ok (.iconst 0, 1) := dk_3 (dk_at dksX3_wouldCollect_2 23 rfl rfl)
theorem dX3_wouldCollect_70 : decode cX3_wouldCollect 70 = .ok (.istore 6, 2) := dk_54 6 (dk_at dksX3_wouldCollect_3 0 rfl rfl)
theorem dX3_wouldCollect_72 : decode cX3_wouldCollect 72 = .ok (.iload 6, 2) := dk_21 6 (dk_at dksX3_wouldCollect_3 2 rfl rfl)
theorem dX3_wouldCollect_74 : decode cX3_wouldCollect 74 = .ok (.sipush 283, 3) := dk_17 1 27 (dk_at dksX3_wouldCollect_3 4 rfl rfl)
theorem dX3_wouldCollect_77 : decode cX3_wouldCollect 77 = .ok (.if_icmp .ge 23, 3) := dk_162 0 23 (dk_at dksX3_wouldCollect_3 7 rfl rfl)
theorem dX3_wouldCollect_80 : decode cX3_wouldCollect 80 = .ok (.aload_n 0, 1) := dk_42 (dk_at dksX3_wouldCollect_3 10 rfl rfl)
theorem dX3_wouldCollect_81 : decode cX3_wouldCollect 81 = .ok (.getfield 7, 3) := dk_180 0 7 (dk_at dksX3_wouldCollect_3 11 rfl rfl)
theorem dX3_wouldCollect_84 : decode cX3_wouldCollect 84 = .ok (.iload 6, 2) := dk_21 6 (dk_at dksX3_wouldCollect_3 14 rfl rfl)
theorem dX3_wouldCollect_86 : decode cX3_wouldCollect 86 = .ok (.aload_n 0, 1) := dk_42 (dk_at dksX3_wouldCollect_3 16 rfl rfl)
theorem dX3_wouldCollect_87 : decode cX3_wouldCollect 87 = .ok (.getfield 13, 3) := dk_180 0 13 (dk_at dksX3_wouldCollect_3 17 rfl rfl)
theorem dX3_wouldCollect_90 : decode cX3_wouldCollect 90 = .ok (.iload 6, 2) := dk_21 6 (dk_at dksX3_wouldCollect_3 20 rfl rfl)
theorem dX3_wouldCollect_92 : decode cX3_wouldCollect 92 = .ok (.iaload, 1) := dk_46 (dk_at dksX3_wouldCollect_3 22 rfl rfl)
theorem dX3_wouldCollect_93 : decode cX3_wouldCollect 93 = .ok (.iastore, 1) := dk_79 (dk_at dksX3_wouldCollect_3 23 rfl rfl)
theorem dX3_wouldCollect_94 : decode cX3_wouldCollect 94 = .ok (.iinc 6 1, 3) := dk_132 6 1 (dk_at dksX3_wouldCollect_4 0 rfl rfl)
theorem dX3_wouldCollect_97 : decode cX3_wouldCollect 97 = .ok (.goto (-25), 3) := dk_167 255 231 (dk_at dksX3_wouldCollect_4 3 rfl rfl)
theorem dX3_wouldCollect_100 : decode cX3_wouldCollect 100 = .ok (.iload 5, 2) := dk_21 5 (dk_at dksX3_wouldCollect_4 6 rfl rfl)
theorem dX3_wouldCollect_102 : decode cX3_wouldCollect 102 = .ok (.aload_n 0, 1) := dk_42 (dk_at dksX3_wouldCollect_4 8 rfl rfl)
theorem dX3_wouldCollect_103 : decode cX3_wouldCollect 103 = .ok (.iload_n 2, 1) := dk_28 (dk_at dksX3_wouldCollect_4 9 rfl rfl)
theorem dX3_wouldCollect_104 : decode cX3_wouldCollect 104 = .ok (.iconst 4, 1) := dk_7 (dk_at dksX3_wouldCollect_4 10 rfl rfl)
theorem dX3_wouldCollect_105 : decode cX3_wouldCollect 105 = .ok (.invokevirtual 46, 3) := dk_182 0 46 (dk_at dksX3_wouldCollect_4 11 rfl rfl)
theorem dX3_wouldCollect_108 : decode cX3_wouldCollect 108 = .ok (.isub, 1) := dk_100 (dk_at dksX3_wouldCollect_4 14 rfl rfl)
theorem dX3_wouldCollect_109 : decode cX3_wouldCollect 109 = .ok (.ireturn, 1) := dk_172 (dk_at dksX3_wouldCollect_4 15 rfl rfl)
abbrev cX3_filled : ByteArray := prog_23_method_72_code
def yX3_filled : MethodName := ⟨RX3, "filled", "(II)I"⟩
def dkwX3_filled_1 : List UInt8 := [184, 0, 35, 153, 0, 12, 42, 27, 28, 182, 0, 64, 167, 0, 8, 42, 5, 182, 0, 49, 172]
abbrev dktX3_filled_1 : List UInt8 := dkwX3_filled_1 ++ []
def dkwX3_filled_0 : List UInt8 := [42, 3, 181, 0, 28, 42, 27, 182, 0, 85, 154, 0, 9, 42, 4, 182, 0, 49, 172, 28, 4, 17, 19, 136]
abbrev dktX3_filled_0 : List UInt8 := dkwX3_filled_0 ++ dktX3_filled_1
theorem dksX3_filled_0 : cX3_filled.data.toList.drop 0 = dktX3_filled_0 := by decide +kernel
theorem dksX3_filled_1 : cX3_filled.data.toList.drop 24 = dktX3_filled_1 := dk_seg dksX3_filled_0 24 rfl rfl
theorem dX3_filled_0 : decode cX3_filled 0 = .ok (.aload_n 0, 1) := dk_42 (dk_at dksX3_filled_0 0 rfl rfl)
theorem dX3_filled_1 : decode cX3_filled 1 = .ok (.iconst 0, 1) := dk_3 (dk_at dksX3_filled_0 1 rfl rfl)
theorem dX3_filled_2 : decode cX3_filled 2 = .ok (.putfield 28, 3) := dk_181 0 28 (dk_at dksX3_filled_0 2 rfl rfl)
theorem dX3_filled_5 : decode cX3_filled 5 = .ok (.aload_n 0, 1) := dk_42 (dk_at dksX3_filled_0 5 rfl rfl)
theorem dX3_filled_6 : decode cX3_filled 6 = .ok (.iload_n 1, 1) := dk_27 (dk_at dksX3_filled_0 6 rfl rfl)
theorem dX3_filled_7 : decode cX3_filled 7 = .ok (.invokevirtual 85, 3) := dk_182 0 85 (dk_at dksX3_filled_0 7 rfl rfl)
theorem dX3_filled_10 : decode cX3_filled 10 = .ok (.ifCond .ne 9, 3) := dk_154 0 9 (dk_at dksX3_filled_0 10 rfl rfl)
theorem dX3_filled_13 : decode cX3_filled 13 = .ok (.aload_n 0, 1) := dk_42 (dk_at dksX3_filled_0 13 rfl rfl)
theorem dX3_filled_14 : decode cX3_filled 14 = .ok (.iconst 1, 1) := dk_4 (dk_at dksX3_filled_0 14 rfl rfl)
theorem dX3_filled_15 : decode cX3_filled 15 = .ok (.invokevirtual 49, 3) := dk_182 0 49 (dk_at dksX3_filled_0 15 rfl rfl)
theorem dX3_filled_18 : decode cX3_filled 18 = .ok (.ireturn, 1) := dk_172 (dk_at dksX3_filled_0 18 rfl rfl)
theorem dX3_filled_19 : decode cX3_filled 19 = .ok (.iload_n 2, 1) := dk_28 (dk_at dksX3_filled_0 19 rfl rfl)
theorem dX3_filled_20 : decode cX3_filled 20 = .ok (.iconst 1, 1) := dk_4 (dk_at dksX3_filled_0 20 rfl rfl)
theorem dX3_filled_21 : decode cX3_filled 21 = .ok (.sipush 5000, 3) := dk_17 19 136 (dk_at dksX3_filled_0 21 rfl rfl)
theorem dX3_filled_24 : decode cX3_filled 24 = .ok (.invokestatic 35, 3) := dk_184 0 35 (dk_at dksX3_filled_1 0 rfl rfl)
theorem dX3_filled_27 : decode cX3_filled 27 = .ok (.ifCond .eq 12, 3) := dk_153 0 12 (dk_at dksX3_filled_1 3 rfl rfl)
theorem dX3_filled_30 : decode cX3_filled 30 = .ok (.aload_n 0, 1) := dk_42 (dk_at dksX3_filled_1 6 rfl rfl)
theorem dX3_filled_31 : decode cX3_filled 31 = .ok (.iload_n 1, 1) := dk_27 (dk_at dksX3_filled_1 7 rfl rfl)
theorem dX3_filled_32 : decode cX3_filled 32 = .ok (.iload_n 2, 1) := dk_28 (dk_at dksX3_filled_1 8 rfl rfl)
theorem dX3_filled_33 : decode cX3_filled 33 = .ok (.invokevirtual 64, 3) := dk_182 0 64 (dk_at dksX3_filled_1 9 rfl rfl)
theorem dX3_filled_36 : decode cX3_filled 36 = .ok (.goto 8, 3) := dk_167 0 8 (dk_at dksX3_filled_1 12 rfl rfl)
theorem dX3_filled_39 : decode cX3_filled 39 = .ok (.aload_n 0, 1) := dk_42 (dk_at dksX3_filled_1 15 rfl rfl)
theorem dX3_filled_40 : decode cX3_filled 40 = .ok (.iconst 2, 1) := dk_5 (dk_at dksX3_filled_1 16 rfl rfl)
theorem dX3_filled_41 : decode cX3_filled 41 = .ok (.invokevirtual 49, 3) := dk_182 0 49 (dk_at dksX3_filled_1 17 rfl rfl)
theorem dX3_filled_44 : decode cX3_filled 44 = .ok (.ireturn, 1) := dk_172 (dk_at dksX3_filled_1 20 rfl rfl)
abbrev cX3_bestShop : ByteArray := prog_23_method_74_code
def yX3_bestShop : MethodName := ⟨RX3, "bestShop", "(I)I"⟩
def dkwX3_bestShop_1 : List UInt8 := [182, 0, 49, 172]
abbrev dktX3_bestShop_1 : List UInt8 := dkwX3_bestShop_1 ++ []
def dkwX3_bestShop_0 : List UInt8 := [42, 3, 181, 0, 28, 27, 3, 5, 184, 0, 35, 153, 0, 11, 42, 27, 182, 0, 196, 167, 0, 8, 42, 4]
abbrev dktX3_bestShop_0 : List UInt8 := dkwX3_bestShop_0 ++ dktX3_bestShop_1
theorem dksX3_bestShop_0 : cX3_bestShop.data.toList.drop 0 = dktX3_bestShop_0 := by decide +kernel
theorem dksX3_bestShop_1 : cX3_bestShop.data.toList.drop 24 = dktX3_bestShop_1 := dk_seg dksX3_bestShop_0 24 rfl rfl
theorem dX3_bestShop_0 : decode cX3_bestShop 0 = .ok (.aload_n 0, 1) := dk_42 (dk_at dksX3_bestShop_0 0 rfl rfl)
theorem dX3_bestShop_1 : decode cX3_bestShop 1 = .ok (.iconst 0, 1) := dk_3 (dk_at dksX3_bestShop_0 1 rfl rfl)
theorem dX3_bestShop_2 : decode cX3_bestShop 2 = .ok (.putfield 28, 3) := dk_181 0 28 (dk_at dksX3_bestShop_0 2 rfl rfl)
theorem dX3_bestShop_5 : decode cX3_bestShop 5 = .ok (.iload_n 1, 1) := dk_27 (dk_at dksX3_bestShop_0 5 rfl rfl)
theorem dX3_bestShop_6 : decode cX3_bestShop 6 = .ok (.iconst 0, 1) := dk_3 (dk_at dksX3_bestShop_0 6 rfl rfl)
theorem dX3_bestShop_7 : decode cX3_bestShop 7 = .ok (.iconst 2, 1) := dk_5 (dk_at dksX3_bestShop_0 7 rfl rfl)
theorem dX3_bestShop_8 : decode cX3_bestShop 8 = .ok (.invokestatic 35, 3) := dk_184 0 35 (dk_at dksX3_bestShop_0 8 rfl rfl)
theorem dX3_bestShop_11 : decode cX3_bestShop 11 = .ok (.ifCond .eq 11, 3) := dk_153 0 11 (dk_at dksX3_bestShop_0 11 rfl rfl)
theorem dX3_bestShop_14 : decode cX3_bestShop 14 = .ok (.aload_n 0, 1) := dk_42 (dk_at dksX3_bestShop_0 14 rfl rfl)
theorem dX3_bestShop_15 : decode cX3_bestShop 15 = .ok (.iload_n 1, 1) := dk_27 (dk_at dksX3_bestShop_0 15 rfl rfl)
theorem dX3_bestShop_16 : decode cX3_bestShop 16 = .ok (.invokevirtual 196, 3) := dk_182 0 196 (dk_at dksX3_bestShop_0 16 rfl rfl)
theorem dX3_bestShop_19 : decode cX3_bestShop 19 = .ok (.goto 8, 3) := dk_167 0 8 (dk_at dksX3_bestShop_0 19 rfl rfl)
theorem dX3_bestShop_22 : decode cX3_bestShop 22 = .ok (.aload_n 0, 1) := dk_42 (dk_at dksX3_bestShop_0 22 rfl rfl)
theorem dX3_bestShop_23 : decode cX3_bestShop 23 = .ok (.iconst 1, 1) := dk_4 (dk_at dksX3_bestShop_0 23 rfl rfl)
theorem dX3_bestShop_24 : decode cX3_bestShop 24 = .ok (.invokevirtual 49, 3) := dk_182 0 49 (dk_at dksX3_bestShop_1 0 rfl rfl)
theorem dX3_bestShop_27 : decode cX3_bestShop 27 = .ok (.ireturn, 1) := dk_172 (dk_at dksX3_bestShop_1 3 rfl rfl)
abbrev cX3_shopFor : ByteArray := prog_23_method_73_code
def yX3_shopFor : MethodName := ⟨RX3, "shopFor", "(I)I"⟩
def dkwX3_shopFor_3 : List UInt8 := [132, 4, 1, 167, 255, 189, 28, 172]
abbrev dktX3_shopFor_3 : List UInt8 := dkwX3_shopFor_3 ++ []
def dkwX3_shopFor_2 : List UInt8 := [164, 0, 8, 21, 4, 167, 0, 4, 28, 61, 21, 5, 29, 164, 0, 8, 21, 5, 167, 0, 4, 29, 62]
abbrev dktX3_shopFor_2 : List UInt8 := dkwX3_shopFor_2 ++ dktX3_shopFor_3
def dkwX3_shopFor_1 : List UInt8 := [182, 0, 79, 16, 12, 108, 42, 21, 4, 4, 182, 0, 57, 184, 0, 76, 184, 0, 76, 54, 5, 21, 5, 29]
abbrev dktX3_shopFor_1 : List UInt8 := dkwX3_shopFor_1 ++ dktX3_shopFor_2
def dkwX3_shopFor_0 : List UInt8 := [2, 61, 3, 62, 3, 54, 4, 21, 4, 42, 180, 0, 7, 4, 46, 162, 0, 62, 16, 50, 42, 21, 4, 27]
abbrev dktX3_shopFor_0 : List UInt8 := dkwX3_shopFor_0 ++ dktX3_shopFor_1
theorem dksX3_shopFor_0 : cX3_shopFor.data.toList.drop 0 = dktX3_shopFor_0 := by decide +kernel
theorem dksX3_shopFor_1 : cX3_shopFor.data.toList.drop 24 = dktX3_shopFor_1 := dk_seg dksX3_shopFor_0 24 rfl rfl
theorem dksX3_shopFor_2 : cX3_shopFor.data.toList.drop 48 = dktX3_shopFor_2 := dk_seg dksX3_shopFor_1 24 rfl rfl
theorem dksX3_shopFor_3 : cX3_shopFor.data.toList.drop 71 = dktX3_shopFor_3 := dk_seg dksX3_shopFor_2 23 rfl rfl
theorem dX3_shopFor_0 : decode cX3_shopFor 0 = .ok (.iconst (-1), 1) := dk_2 (dk_at dksX3_shopFor_0 0 rfl rfl)
theorem dX3_shopFor_1 : decode cX3_shopFor 1 = .ok (.istore_n 2, 1) := dk_61 (dk_at dksX3_shopFor_0 1 rfl rfl)
theorem dX3_shopFor_2 : decode cX3_shopFor 2 = .ok (.iconst 0, 1) := dk_3 (dk_at dksX3_shopFor_0 2 rfl rfl)
theorem dX3_shopFor_3 : decode cX3_shopFor 3 = .ok (.istore_n 3, 1) := dk_62 (dk_at dksX3_shopFor_0 3 rfl rfl)
theorem dX3_shopFor_4 : decode cX3_shopFor 4 = .ok (.iconst 0, 1) := dk_3 (dk_at dksX3_shopFor_0 4 rfl rfl)
theorem dX3_shopFor_5 : decode cX3_shopFor 5 = .ok (.istore 4, 2) := dk_54 4 (dk_at dksX3_shopFor_0 5 rfl rfl)
theorem dX3_shopFor_7 : decode cX3_shopFor 7 = .ok (.iload 4, 2) := dk_21 4 (dk_at dksX3_shopFor_0 7 rfl rfl)
theorem dX3_shopFor_9 : decode cX3_shopFor 9 = .ok (.aload_n 0, 1) := dk_42 (dk_at dksX3_shopFor_0 9 rfl rfl)
theorem dX3_shopFor_10 : decode cX3_shopFor 10 = .ok (.getfield 7, 3) := dk_180 0 7 (dk_at dksX3_shopFor_0 10 rfl rfl)
theorem dX3_shopFor_13 : decode cX3_shopFor 13 = .ok (.iconst 1, 1) := dk_4 (dk_at dksX3_shopFor_0 13 rfl rfl)
theorem dX3_shopFor_14 : decode cX3_shopFor 14 = .ok (.iaload, 1) := dk_46 (dk_at dksX3_shopFor_0 14 rfl rfl)
theorem dX3_shopFor_15 : decode cX3_shopFor 15 = .ok (.if_icmp .ge 62, 3) := dk_162 0 62 (dk_at dksX3_shopFor_0 15 rfl rfl)
theorem dX3_shopFor_18 : decode cX3_shopFor 18 = .ok (.bipush 50, 2) := dk_16 50 (dk_at dksX3_shopFor_0 18 rfl rfl)
theorem dX3_shopFor_20 : decode cX3_shopFor 20 = .ok (.aload_n 0, 1) := dk_42 (dk_at dksX3_shopFor_0 20 rfl rfl)
theorem dX3_shopFor_21 : decode cX3_shopFor 21 = .ok (.iload 4, 2) := dk_21 4 (dk_at dksX3_shopFor_0 21 rfl rfl)
theorem dX3_shopFor_23 : decode cX3_shopFor 23 = .ok (.iload_n 1, 1) := dk_27 (dk_at dksX3_shopFor_0 23 rfl rfl)
theorem dX3_shopFor_24 : decode cX3_shopFor 24 = .ok (.invokevirtual 79, 3) := dk_182 0 79 (dk_at dksX3_shopFor_1 0 rfl rfl)
theorem dX3_shopFor_27 : decode cX3_shopFor 27 = .ok (.bipush 12, 2) := dk_16 12 (dk_at dksX3_shopFor_1 3 rfl rfl)
theorem dX3_shopFor_29 : decode cX3_shopFor 29 = .ok (.idiv, 1) := dk_108 (dk_at dksX3_shopFor_1 5 rfl rfl)
theorem dX3_shopFor_30 : decode cX3_shopFor 30 = .ok (.aload_n 0, 1) := dk_42 (dk_at dksX3_shopFor_1 6 rfl rfl)
theorem dX3_shopFor_31 : decode cX3_shopFor 31 = .ok (.iload 4, 2) := dk_21 4 (dk_at dksX3_shopFor_1 7 rfl rfl)
theorem dX3_shopFor_33 : decode cX3_shopFor 33 = .ok (.iconst 1, 1) := dk_4 (dk_at dksX3_shopFor_1 9 rfl rfl)
theorem dX3_shopFor_34 : decode cX3_shopFor 34 = .ok (.invokevirtual 57, 3) := dk_182 0 57 (dk_at dksX3_shopFor_1 10 rfl rfl)
theorem dX3_shopFor_37 : decode cX3_shopFor 37 = .ok (.invokestatic 76, 3) := dk_184 0 76 (dk_at dksX3_shopFor_1 13 rfl rfl)
theorem dX3_shopFor_40 : decode cX3_shopFor 40 = .ok (.invokestatic 76, 3) := dk_184 0 76 (dk_at dksX3_shopFor_1 16 rfl rfl)
theorem dX3_shopFor_43 : decode cX3_shopFor 43 = .ok (.istore 5, 2) := dk_54 5 (dk_at dksX3_shopFor_1 19 rfl rfl)
theorem dX3_shopFor_45 : decode cX3_shopFor 45 = .ok (.iload 5, 2) := dk_21 5 (dk_at dksX3_shopFor_1 21 rfl rfl)
theorem dX3_shopFor_47 : decode cX3_shopFor 47 = .ok (.iload_n 3, 1) := dk_29 (dk_at dksX3_shopFor_1 23 rfl rfl)
theorem dX3_shopFor_48 : decode cX3_shopFor 48 = .ok (.if_icmp .le 8, 3) := dk_164 0 8 (dk_at dksX3_shopFor_2 0 rfl rfl)
theorem dX3_shopFor_51 : decode cX3_shopFor 51 = .ok (.iload 4, 2) := dk_21 4 (dk_at dksX3_shopFor_2 3 rfl rfl)
theorem dX3_shopFor_53 : decode cX3_shopFor 53 = .ok (.goto 4, 3) := dk_167 0 4 (dk_at dksX3_shopFor_2 5 rfl rfl)
theorem dX3_shopFor_56 : decode cX3_shopFor 56 = .ok (.iload_n 2, 1) := dk_28 (dk_at dksX3_shopFor_2 8 rfl rfl)
theorem dX3_shopFor_57 : decode cX3_shopFor 57 = .ok (.istore_n 2, 1) := dk_61 (dk_at dksX3_shopFor_2 9 rfl rfl)
theorem dX3_shopFor_58 : decode cX3_shopFor 58 = .ok (.iload 5, 2) := dk_21 5 (dk_at dksX3_shopFor_2 10 rfl rfl)
theorem dX3_shopFor_60 : decode cX3_shopFor 60 = .ok (.iload_n 3, 1) := dk_29 (dk_at dksX3_shopFor_2 12 rfl rfl)
theorem dX3_shopFor_61 : decode cX3_shopFor 61 = .ok (.if_icmp .le 8, 3) := dk_164 0 8 (dk_at dksX3_shopFor_2 13 rfl rfl)
theorem dX3_shopFor_64 : decode cX3_shopFor 64 = .ok (.iload 5, 2) := dk_21 5 (dk_at dksX3_shopFor_2 16 rfl rfl)
theorem dX3_shopFor_66 : decode cX3_shopFor 66 = .ok (.goto 4, 3) := dk_167 0 4 (dk_at dksX3_shopFor_2 18 rfl rfl)
theorem dX3_shopFor_69 : decode cX3_shopFor 69 = .ok (.iload_n 3, 1) := dk_29 (dk_at dksX3_shopFor_2 21 rfl rfl)
theorem dX3_shopFor_70 : decode cX3_shopFor 70 = .ok (.istore_n 3, 1) := dk_62 (dk_at dksX3_shopFor_2 22 rfl rfl)
theorem dX3_shopFor_71 : decode cX3_shopFor 71 = .ok (.iinc 4 1, 3) := dk_132 4 1 (dk_at dksX3_shopFor_3 0 rfl rfl)
theorem dX3_shopFor_74 : decode cX3_shopFor 74 = .ok (.goto (-67), 3) := dk_167 255 189 (dk_at dksX3_shopFor_3 3 rfl rfl)
theorem dX3_shopFor_77 : decode cX3_shopFor 77 = .ok (.iload_n 2, 1) := dk_28 (dk_at dksX3_shopFor_3 6 rfl rfl)
theorem dX3_shopFor_78 : decode cX3_shopFor 78 = .ok (.ireturn, 1) := dk_172 (dk_at dksX3_shopFor_3 7 rfl rfl)
abbrev cX3_goneShare : ByteArray := prog_23_method_76_code
def yX3_goneShare : MethodName := ⟨RX3, "goneShare", "()D"⟩
def dkwX3_goneShare_0 : List UInt8 := [42, 3, 181, 0, 28, 42, 182, 0, 199, 175]
abbrev dktX3_goneShare_0 : List UInt8 := dkwX3_goneShare_0 ++ []
theorem dksX3_goneShare_0 : cX3_goneShare.data.toList.drop 0 = dktX3_goneShare_0 := by decide +kernel
theorem dX3_goneShare_0 : decode cX3_goneShare 0 = .ok (.aload_n 0, 1) := dk_42 (dk_at dksX3_goneShare_0 0 rfl rfl)
theorem dX3_goneShare_1 : decode cX3_goneShare 1 = .ok (.iconst 0, 1) := dk_3 (dk_at dksX3_goneShare_0 1 rfl rfl)
theorem dX3_goneShare_2 : decode cX3_goneShare 2 = .ok (.putfield 28, 3) := dk_181 0 28 (dk_at dksX3_goneShare_0 2 rfl rfl)
theorem dX3_goneShare_5 : decode cX3_goneShare 5 = .ok (.aload_n 0, 1) := dk_42 (dk_at dksX3_goneShare_0 5 rfl rfl)
theorem dX3_goneShare_6 : decode cX3_goneShare 6 = .ok (.invokevirtual 199, 3) := dk_182 0 199 (dk_at dksX3_goneShare_0 6 rfl rfl)
theorem dX3_goneShare_9 : decode cX3_goneShare 9 = .ok (.dreturn, 1) := dk_175 (dk_at dksX3_goneShare_0 9 rfl rfl)
abbrev cX3_gone : ByteArray := prog_23_method_75_code
def yX3_gone : MethodName := ⟨RX3, "gone", "()D"⟩
def dkwX3_gone_3 : List UInt8 := [154, 0, 7, 14, 167, 0, 8, 28, 135, 27, 135, 111, 175]
abbrev dktX3_gone_3 : List UInt8 := dkwX3_gone_3 ++ []
def dkwX3_gone_2 : List UInt8 := [21, 4, 182, 0, 179, 167, 0, 4, 3, 96, 61, 132, 4, 1, 167, 255, 215, 132, 3, 1, 167, 255, 196, 27]
abbrev dktX3_gone_2 : List UInt8 := dkwX3_gone_2 ++ dktX3_gone_3
def dkwX3_gone_1 : List UInt8 := [162, 0, 40, 27, 42, 29, 21, 4, 182, 0, 179, 96, 60, 28, 21, 4, 16, 6, 164, 0, 13, 42, 29]
abbrev dktX3_gone_1 : List UInt8 := dkwX3_gone_1 ++ dktX3_gone_2
def dkwX3_gone_0 : List UInt8 := [3, 60, 3, 61, 3, 62, 29, 42, 180, 0, 7, 3, 46, 162, 0, 56, 4, 54, 4, 21, 4, 16, 10]
abbrev dktX3_gone_0 : List UInt8 := dkwX3_gone_0 ++ dktX3_gone_1
theorem dksX3_gone_0 : cX3_gone.data.toList.drop 0 = dktX3_gone_0 := by decide +kernel
theorem dksX3_gone_1 : cX3_gone.data.toList.drop 23 = dktX3_gone_1 := dk_seg dksX3_gone_0 23 rfl rfl
theorem dksX3_gone_2 : cX3_gone.data.toList.drop 46 = dktX3_gone_2 := dk_seg dksX3_gone_1 23 rfl rfl
theorem dksX3_gone_3 : cX3_gone.data.toList.drop 70 = dktX3_gone_3 := dk_seg dksX3_gone_2 24 rfl rfl
theorem dX3_gone_0 : decode cX3_gone 0 = .ok (.iconst 0, 1) := dk_3 (dk_at dksX3_gone_0 0 rfl rfl)
theorem dX3_gone_1 : decode cX3_gone 1 = .ok (.istore_n 1, 1) := dk_60 (dk_at dksX3_gone_0 1 rfl rfl)
theorem dX3_gone_2 : decode cX3_gone 2 = .ok (.iconst 0, 1) := dk_3 (dk_at dksX3_gone_0 2 rfl rfl)
theorem dX3_gone_3 : decode cX3_gone 3 = .ok (.istore_n 2, 1) := dk_61 (dk_at dksX3_gone_0 3 rfl rfl)
theorem dX3_gone_4 : decode cX3_gone 4 = .ok (.iconst 0, 1) := dk_3 (dk_at dksX3_gone_0 4 rfl rfl)
theorem dX3_gone_5 : decode cX3_gone 5 = .ok (.istore_n 3, 1) := dk_62 (dk_at dksX3_gone_0 5 rfl rfl)
theorem dX3_gone_6 : decode cX3_gone 6 = .ok (.iload_n 3, 1) := dk_29 (dk_at dksX3_gone_0 6 rfl rfl)
theorem dX3_gone_7 : decode cX3_gone 7 = .ok (.aload_n 0, 1) := dk_42 (dk_at dksX3_gone_0 7 rfl rfl)
theorem dX3_gone_8 : decode cX3_gone 8 = .ok (.getfield 7, 3) := dk_180 0 7 (dk_at dksX3_gone_0 8 rfl rfl)
theorem dX3_gone_11 : decode cX3_gone 11 = .ok (.iconst 0, 1) := dk_3 (dk_at dksX3_gone_0 11 rfl rfl)
theorem dX3_gone_12 : decode cX3_gone 12 = .ok (.iaload, 1) := dk_46 (dk_at dksX3_gone_0 12 rfl rfl)
theorem dX3_gone_13 : decode cX3_gone 13 = .ok (.if_icmp .ge 56, 3) := dk_162 0 56 (dk_at dksX3_gone_0 13 rfl rfl)
theorem dX3_gone_16 : decode cX3_gone 16 = .ok (.iconst 1, 1) := dk_4 (dk_at dksX3_gone_0 16 rfl rfl)
theorem dX3_gone_17 : decode cX3_gone 17 = .ok (.istore 4, 2) := dk_54 4 (dk_at dksX3_gone_0 17 rfl rfl)
theorem dX3_gone_19 : decode cX3_gone 19 = .ok (.iload 4, 2) := dk_21 4 (dk_at dksX3_gone_0 19 rfl rfl)
theorem dX3_gone_21 : decode cX3_gone 21 = .ok (.bipush 10, 2) := dk_16 10 (dk_at dksX3_gone_0 21 rfl rfl)
theorem dX3_gone_23 : decode cX3_gone 23 = .ok (.if_icmp .ge 40, 3) := dk_162 0 40 (dk_at dksX3_gone_1 0 rfl rfl)
theorem dX3_gone_26 : decode cX3_gone 26 = .ok (.iload_n 1, 1) := dk_27 (dk_at dksX3_gone_1 3 rfl rfl)
theorem dX3_gone_27 : decode cX3_gone 27 = .ok (.aload_n 0, 1) := dk_42 (dk_at dksX3_gone_1 4 rfl rfl)
theorem dX3_gone_28 : decode cX3_gone 28 = .ok (.iload_n 3, 1) := dk_29 (dk_at dksX3_gone_1 5 rfl rfl)
theorem dX3_gone_29 : decode cX3_gone 29 = .ok (.iload 4, 2) := dk_21 4 (dk_at dksX3_gone_1 6 rfl rfl)
theorem dX3_gone_31 : decode cX3_gone 31 = .ok (.invokevirtual 179, 3) := dk_182 0 179 (dk_at dksX3_gone_1 8 rfl rfl)
theorem dX3_gone_34 : decode cX3_gone 34 = .ok (.iadd, 1) := dk_96 (dk_at dksX3_gone_1 11 rfl rfl)
theorem dX3_gone_35 : decode cX3_gone 35 = .ok (.istore_n 1, 1) := dk_60 (dk_at dksX3_gone_1 12 rfl rfl)
theorem dX3_gone_36 : decode cX3_gone 36 = .ok (.iload_n 2, 1) := dk_28 (dk_at dksX3_gone_1 13 rfl rfl)
theorem dX3_gone_37 : decode cX3_gone 37 = .ok (.iload 4, 2) := dk_21 4 (dk_at dksX3_gone_1 14 rfl rfl)
theorem dX3_gone_39 : decode cX3_gone 39 = .ok (.bipush 6, 2) := dk_16 6 (dk_at dksX3_gone_1 16 rfl rfl)
theorem dX3_gone_41 : decode cX3_gone 41 = .ok (.if_icmp .le 13, 3) := dk_164 0 13 (dk_at dksX3_gone_1 18 rfl rfl)
theorem dX3_gone_44 : decode cX3_gone 44 = .ok (.aload_n 0, 1) := dk_42 (dk_at dksX3_gone_1 21 rfl rfl)
theorem dX3_gone_45 : decode cX3_gone 45 = .ok (.iload_n 3, 1) := dk_29 (dk_at dksX3_gone_1 22 rfl rfl)
theorem dX3_gone_46 : decode cX3_gone 46 = .ok (.iload 4, 2) := dk_21 4 (dk_at dksX3_gone_2 0 rfl rfl)
theorem dX3_gone_48 : decode cX3_gone 48 = .ok (.invokevirtual 179, 3) := dk_182 0 179 (dk_at dksX3_gone_2 2 rfl rfl)
theorem dX3_gone_51 : decode cX3_gone 51 = .ok (.goto 4, 3) := dk_167 0 4 (dk_at dksX3_gone_2 5 rfl rfl)
theorem dX3_gone_54 : decode cX3_gone 54 = .ok (.iconst 0, 1) := dk_3 (dk_at dksX3_gone_2 8 rfl rfl)
theorem dX3_gone_55 : decode cX3_gone 55 = .ok (.iadd, 1) := dk_96 (dk_at dksX3_gone_2 9 rfl rfl)
theorem dX3_gone_56 : decode cX3_gone 56 = .ok (.istore_n 2, 1) := dk_61 (dk_at dksX3_gone_2 10 rfl rfl)
theorem dX3_gone_57 : decode cX3_gone 57 = .ok (.iinc 4 1, 3) := dk_132 4 1 (dk_at dksX3_gone_2 11 rfl rfl)
theorem dX3_gone_60 : decode cX3_gone 60 = .ok (.goto (-41), 3) := dk_167 255 215 (dk_at dksX3_gone_2 14 rfl rfl)
theorem dX3_gone_63 : decode cX3_gone 63 = .ok (.iinc 3 1, 3) := dk_132 3 1 (dk_at dksX3_gone_2 17 rfl rfl)
theorem dX3_gone_66 : decode cX3_gone 66 = .ok (.goto (-60), 3) := dk_167 255 196 (dk_at dksX3_gone_2 20 rfl rfl)
theorem dX3_gone_69 : decode cX3_gone 69 = .ok (.iload_n 1, 1) := dk_27 (dk_at dksX3_gone_2 23 rfl rfl)
theorem dX3_gone_70 : decode cX3_gone 70 = .ok (.ifCond .ne 7, 3) := dk_154 0 7 (dk_at dksX3_gone_3 0 rfl rfl)
theorem dX3_gone_73 : decode cX3_gone 73 = .ok (.dconst 0, 1) := dk_14 (dk_at dksX3_gone_3 3 rfl rfl)
theorem dX3_gone_74 : decode cX3_gone 74 = .ok (.goto 8, 3) := dk_167 0 8 (dk_at dksX3_gone_3 4 rfl rfl)
theorem dX3_gone_77 : decode cX3_gone 77 = .ok (.iload_n 2, 1) := dk_28 (dk_at dksX3_gone_3 7 rfl rfl)
theorem dX3_gone_78 : decode cX3_gone 78 = .ok (.i2d, 1) := dk_135 (dk_at dksX3_gone_3 8 rfl rfl)
theorem dX3_gone_79 : decode cX3_gone 79 = .ok (.iload_n 1, 1) := dk_27 (dk_at dksX3_gone_3 9 rfl rfl)
theorem dX3_gone_80 : decode cX3_gone 80 = .ok (.i2d, 1) := dk_135 (dk_at dksX3_gone_3 10 rfl rfl)
theorem dX3_gone_81 : decode cX3_gone 81 = .ok (.ddiv, 1) := dk_111 (dk_at dksX3_gone_3 11 rfl rfl)
theorem dX3_gone_82 : decode cX3_gone 82 = .ok (.dreturn, 1) := dk_175 (dk_at dksX3_gone_3 12 rfl rfl)
abbrev cX3_digest : ByteArray := prog_23_method_77_code
def yX3_digest : MethodName := ⟨RX3, "digest", "()J"⟩
def dkwX3_digest_16 : List UInt8 := [167, 255, 231, 31, 173]
abbrev dktX3_digest_16 : List UInt8 := dkwX3_digest_16 ++ []
def dkwX3_digest_15 : List UInt8 := [180, 0, 129, 162, 0, 23, 20, 0, 205, 31, 105, 42, 180, 0, 19, 29, 46, 133, 97, 64, 132, 3, 1]
abbrev dktX3_digest_15 : List UInt8 := dkwX3_digest_15 ++ dktX3_digest_16
def dkwX3_digest_14 : List UInt8 := [182, 0, 199, 184, 0, 207, 97, 64, 20, 0, 205, 31, 105, 42, 180, 0, 129, 133, 97, 64, 3, 62, 29, 42]
abbrev dktX3_digest_14 : List UInt8 := dkwX3_digest_14 ++ dktX3_digest_15
def dkwX3_digest_13 : List UInt8 := [182, 0, 193, 133, 97, 64, 132, 4, 1, 167, 255, 226, 132, 3, 1, 167, 255, 207, 20, 0, 205, 31, 105, 42]
abbrev dktX3_digest_13 : List UInt8 := dkwX3_digest_13 ++ dktX3_digest_14
def dkwX3_digest_12 : List UInt8 := [3, 54, 4, 21, 4, 42, 180, 0, 7, 3, 46, 162, 0, 25, 20, 0, 205, 31, 105, 42, 29, 21, 4, 4]
abbrev dktX3_digest_12 : List UInt8 := dkwX3_digest_12 ++ dktX3_digest_13
def dkwX3_digest_11 : List UInt8 := [182, 0, 196, 133, 97, 64, 132, 3, 1, 167, 255, 235, 3, 62, 29, 42, 180, 0, 7, 4, 46, 162, 0, 45]
abbrev dktX3_digest_11 : List UInt8 := dkwX3_digest_11 ++ dktX3_digest_12
def dkwX3_digest_10 : List UInt8 := [167, 255, 203, 132, 3, 1, 167, 255, 184, 3, 62, 29, 6, 162, 0, 22, 20, 0, 205, 31, 105, 42, 29]
abbrev dktX3_digest_10 : List UInt8 := dkwX3_digest_10 ++ dktX3_digest_11
def dkwX3_digest_9 : List UInt8 := [20, 0, 205, 31, 105, 42, 29, 21, 4, 182, 0, 185, 133, 97, 167, 0, 4, 31, 64, 132, 4, 1]
abbrev dktX3_digest_9 : List UInt8 := dkwX3_digest_9 ++ dktX3_digest_10
def dkwX3_digest_8 : List UInt8 := [16, 7, 161, 0, 20, 21, 4, 16, 10, 112, 16, 8, 162, 0, 27, 21, 4, 16, 9, 164, 0, 20]
abbrev dktX3_digest_8 : List UInt8 := dkwX3_digest_8 ++ dktX3_digest_9
def dkwX3_digest_7 : List UInt8 := [62, 29, 42, 180, 0, 7, 4, 46, 162, 0, 68, 3, 54, 4, 21, 4, 16, 28, 162, 0, 52, 21, 4]
abbrev dktX3_digest_7 : List UInt8 := dkwX3_digest_7 ++ dktX3_digest_8
def dkwX3_digest_6 : List UInt8 := [105, 42, 29, 21, 4, 182, 0, 190, 133, 97, 64, 132, 4, 1, 167, 255, 227, 132, 3, 1, 167, 255, 162, 3]
abbrev dktX3_digest_6 : List UInt8 := dkwX3_digest_6 ++ dktX3_digest_7
def dkwX3_digest_5 : List UInt8 := [182, 0, 64, 133, 97, 64, 3, 54, 4, 21, 4, 42, 180, 0, 7, 4, 46, 162, 0, 24, 20, 0, 205, 31]
abbrev dktX3_digest_5 : List UInt8 := dkwX3_digest_5 ++ dktX3_digest_6
def dkwX3_digest_4 : List UInt8 := [29, 21, 4, 182, 0, 179, 133, 97, 64, 132, 4, 1, 167, 255, 231, 20, 0, 205, 31, 105, 42, 29, 16, 25]
abbrev dktX3_digest_4 : List UInt8 := dkwX3_digest_4 ++ dktX3_digest_5
def dkwX3_digest_3 : List UInt8 := [180, 0, 7, 3, 46, 162, 0, 90, 3, 54, 4, 21, 4, 16, 12, 162, 0, 24, 20, 0, 205, 31, 105, 42]
abbrev dktX3_digest_3 : List UInt8 := dkwX3_digest_3 ++ dktX3_digest_4
def dkwX3_digest_2 : List UInt8 := [105, 42, 180, 0, 7, 16, 7, 29, 96, 46, 133, 97, 64, 132, 3, 1, 167, 255, 230, 3, 62, 29, 42]
abbrev dktX3_digest_2 : List UInt8 := dkwX3_digest_2 ++ dktX3_digest_3
def dkwX3_digest_1 : List UInt8 := [182, 0, 188, 133, 97, 64, 132, 3, 1, 167, 255, 234, 3, 62, 29, 16, 6, 162, 0, 26, 20, 0, 205, 31]
abbrev dktX3_digest_1 : List UInt8 := dkwX3_digest_1 ++ dktX3_digest_2
def dkwX3_digest_0 : List UInt8 := [42, 3, 181, 0, 28, 20, 0, 203, 64, 3, 62, 29, 16, 11, 162, 0, 22, 20, 0, 205, 31, 105, 42, 29]
abbrev dktX3_digest_0 : List UInt8 := dkwX3_digest_0 ++ dktX3_digest_1
theorem dksX3_digest_0 : cX3_digest.data.toList.drop 0 = dktX3_digest_0 := by decide +kernel
theorem dksX3_digest_1 : cX3_digest.data.toList.drop 24 = dktX3_digest_1 := dk_seg dksX3_digest_0 24 rfl rfl
theorem dksX3_digest_2 : cX3_digest.data.toList.drop 48 = dktX3_digest_2 := dk_seg dksX3_digest_1 24 rfl rfl
theorem dksX3_digest_3 : cX3_digest.data.toList.drop 71 = dktX3_digest_3 := dk_seg dksX3_digest_2 23 rfl rfl
theorem dksX3_digest_4 : cX3_digest.data.toList.drop 95 = dktX3_digest_4 := dk_seg dksX3_digest_3 24 rfl rfl
theorem dksX3_digest_5 : cX3_digest.data.toList.drop 119 = dktX3_digest_5 := dk_seg dksX3_digest_4 24 rfl rfl
theorem dksX3_digest_6 : cX3_digest.data.toList.drop 143 = dktX3_digest_6 := dk_seg dksX3_digest_5 24 rfl rfl
theorem dksX3_digest_7 : cX3_digest.data.toList.drop 167 = dktX3_digest_7 := dk_seg dksX3_digest_6 24 rfl rfl
theorem dksX3_digest_8 : cX3_digest.data.toList.drop 190 = dktX3_digest_8 := dk_seg dksX3_digest_7 23 rfl rfl
theorem dksX3_digest_9 : cX3_digest.data.toList.drop 212 = dktX3_digest_9 := dk_seg dksX3_digest_8 22 rfl rfl
theorem dksX3_digest_10 : cX3_digest.data.toList.drop 234 = dktX3_digest_10 := dk_seg dksX3_digest_9 22 rfl rfl
theorem dksX3_digest_11 : cX3_digest.data.toList.drop 257 = dktX3_digest_11 := dk_seg dksX3_digest_10 23 rfl rfl
theorem dksX3_digest_12 : cX3_digest.data.toList.drop 281 = dktX3_digest_12 := dk_seg dksX3_digest_11 24 rfl rfl
theorem dksX3_digest_13 : cX3_digest.data.toList.drop 305 = dktX3_digest_13 := dk_seg dksX3_digest_12 24 rfl rfl
theorem dksX3_digest_14 : cX3_digest.data.toList.drop 329 = dktX3_digest_14 := dk_seg dksX3_digest_13 24 rfl rfl
theorem dksX3_digest_15 : cX3_digest.data.toList.drop 353 = dktX3_digest_15 := dk_seg dksX3_digest_14 24 rfl rfl
theorem dksX3_digest_16 : cX3_digest.data.toList.drop 376 = dktX3_digest_16 := dk_seg dksX3_digest_15 23 rfl rfl
theorem dX3_digest_0 : decode cX3_digest 0 = .ok (.aload_n 0, 1) := dk_42 (dk_at dksX3_digest_0 0 rfl rfl)
theorem dX3_digest_1 : decode cX3_digest 1 = .ok (.iconst 0, 1) := dk_3 (dk_at dksX3_digest_0 1 rfl rfl)
theorem dX3_digest_2 : decode cX3_digest 2 = .ok (.putfield 28, 3) := dk_181 0 28 (dk_at dksX3_digest_0 2 rfl rfl)
theorem dX3_digest_5 : decode cX3_digest 5 = .ok (.ldc2_w 203, 3) := dk_20 0 203 (dk_at dksX3_digest_0 5 rfl rfl)
theorem dX3_digest_8 : decode cX3_digest 8 = .ok (.lstore_n 1, 1) := dk_64 (dk_at dksX3_digest_0 8 rfl rfl)
theorem dX3_digest_9 : decode cX3_digest 9 = .ok (.iconst 0, 1) := dk_3 (dk_at dksX3_digest_0 9 rfl rfl)
theorem dX3_digest_10 : decode cX3_digest 10 = .ok (.istore_n 3, 1) := dk_62 (dk_at dksX3_digest_0 10 rfl rfl)
theorem dX3_digest_11 : decode cX3_digest 11 = .ok (.iload_n 3, 1) := dk_29 (dk_at dksX3_digest_0 11 rfl rfl)
theorem dX3_digest_12 : decode cX3_digest 12 = .ok (.bipush 11, 2) := dk_16 11 (dk_at dksX3_digest_0 12 rfl rfl)
theorem dX3_digest_14 : decode cX3_digest 14 = .ok (.if_icmp .ge 22, 3) := dk_162 0 22 (dk_at dksX3_digest_0 14 rfl rfl)
theorem dX3_digest_17 : decode cX3_digest 17 = .ok (.ldc2_w 205, 3) := dk_20 0 205 (dk_at dksX3_digest_0 17 rfl rfl)
theorem dX3_digest_20 : decode cX3_digest 20 = .ok (.lload_n 1, 1) := dk_31 (dk_at dksX3_digest_0 20 rfl rfl)
theorem dX3_digest_21 : decode cX3_digest 21 = .ok (.lmul, 1) := dk_105 (dk_at dksX3_digest_0 21 rfl rfl)
theorem dX3_digest_22 : decode cX3_digest 22 = .ok (.aload_n 0, 1) := dk_42 (dk_at dksX3_digest_0 22 rfl rfl)
theorem dX3_digest_23 : decode cX3_digest 23 = .ok (.iload_n 3, 1) := dk_29 (dk_at dksX3_digest_0 23 rfl rfl)
theorem dX3_digest_24 : decode cX3_digest 24 = .ok (.invokevirtual 188, 3) := dk_182 0 188 (dk_at dksX3_digest_1 0 rfl rfl)
theorem dX3_digest_27 : decode cX3_digest 27 = .ok (.i2l, 1) := dk_133 (dk_at dksX3_digest_1 3 rfl rfl)
theorem dX3_digest_28 : decode cX3_digest 28 = .ok (.ladd, 1) := dk_97 (dk_at dksX3_digest_1 4 rfl rfl)
theorem dX3_digest_29 : decode cX3_digest 29 = .ok (.lstore_n 1, 1) := dk_64 (dk_at dksX3_digest_1 5 rfl rfl)
theorem dX3_digest_30 : decode cX3_digest 30 = .ok (.iinc 3 1, 3) := dk_132 3 1 (dk_at dksX3_digest_1 6 rfl rfl)
theorem dX3_digest_33 : decode cX3_digest 33 = .ok (.goto (-22), 3) := dk_167 255 234 (dk_at dksX3_digest_1 9 rfl rfl)
theorem dX3_digest_36 : decode cX3_digest 36 = .ok (.iconst 0, 1) := dk_3 (dk_at dksX3_digest_1 12 rfl rfl)
theorem dX3_digest_37 : decode cX3_digest 37 = .ok (.istore_n 3, 1) := dk_62 (dk_at dksX3_digest_1 13 rfl rfl)
theorem dX3_digest_38 : decode cX3_digest 38 = .ok (.iload_n 3, 1) := dk_29 (dk_at dksX3_digest_1 14 rfl rfl)
theorem dX3_digest_39 : decode cX3_digest 39 = .ok (.bipush 6, 2) := dk_16 6 (dk_at dksX3_digest_1 15 rfl rfl)
theorem dX3_digest_41 : decode cX3_digest 41 = .ok (.if_icmp .ge 26, 3) := dk_162 0 26 (dk_at dksX3_digest_1 17 rfl rfl)
theorem dX3_digest_44 : decode cX3_digest 44 = .ok (.ldc2_w 205, 3) := dk_20 0 205 (dk_at dksX3_digest_1 20 rfl rfl)
theorem dX3_digest_47 : decode cX3_digest 47 = .ok (.lload_n 1, 1) := dk_31 (dk_at dksX3_digest_1 23 rfl rfl)
theorem dX3_digest_48 : decode cX3_digest 48 = .ok (.lmul, 1) := dk_105 (dk_at dksX3_digest_2 0 rfl rfl)
theorem dX3_digest_49 : decode cX3_digest 49 = .ok (.aload_n 0, 1) := dk_42 (dk_at dksX3_digest_2 1 rfl rfl)
theorem dX3_digest_50 : decode cX3_digest 50 = .ok (.getfield 7, 3) := dk_180 0 7 (dk_at dksX3_digest_2 2 rfl rfl)
theorem dX3_digest_53 : decode cX3_digest 53 = .ok (.bipush 7, 2) := dk_16 7 (dk_at dksX3_digest_2 5 rfl rfl)
theorem dX3_digest_55 : decode cX3_digest 55 = .ok (.iload_n 3, 1) := dk_29 (dk_at dksX3_digest_2 7 rfl rfl)
theorem dX3_digest_56 : decode cX3_digest 56 = .ok (.iadd, 1) := dk_96 (dk_at dksX3_digest_2 8 rfl rfl)
theorem dX3_digest_57 : decode cX3_digest 57 = .ok (.iaload, 1) := dk_46 (dk_at dksX3_digest_2 9 rfl rfl)
theorem dX3_digest_58 : decode cX3_digest 58 = .ok (.i2l, 1) := dk_133 (dk_at dksX3_digest_2 10 rfl rfl)
theorem dX3_digest_59 : decode cX3_digest 59 = .ok (.ladd, 1) := dk_97 (dk_at dksX3_digest_2 11 rfl rfl)
theorem dX3_digest_60 : decode cX3_digest 60 = .ok (.lstore_n 1, 1) := dk_64 (dk_at dksX3_digest_2 12 rfl rfl)
theorem dX3_digest_61 : decode cX3_digest 61 = .ok (.iinc 3 1, 3) := dk_132 3 1 (dk_at dksX3_digest_2 13 rfl rfl)
theorem dX3_digest_64 : decode cX3_digest 64 = .ok (.goto (-26), 3) := dk_167 255 230 (dk_at dksX3_digest_2 16 rfl rfl)
theorem dX3_digest_67 : decode cX3_digest 67 = .ok (.iconst 0, 1) := dk_3 (dk_at dksX3_digest_2 19 rfl rfl)
theorem dX3_digest_68 : decode cX3_digest 68 = .ok (.istore_n 3, 1) := dk_62 (dk_at dksX3_digest_2 20 rfl rfl)
theorem dX3_digest_69 : decode cX3_digest 69 = .ok (.iload_n 3, 1) := dk_29 (dk_at dksX3_digest_2 21 rfl rfl)
theorem dX3_digest_70 : decode cX3_digest 70 = .ok (.aload_n 0, 1) := dk_42 (dk_at dksX3_digest_2 22 rfl rfl)
theorem dX3_digest_71 : decode cX3_digest 71 = .ok (.getfield 7, 3) := dk_180 0 7 (dk_at dksX3_digest_3 0 rfl rfl)
theorem dX3_digest_74 : decode cX3_digest 74 = .ok (.iconst 0, 1) := dk_3 (dk_at dksX3_digest_3 3 rfl rfl)
theorem dX3_digest_75 : decode cX3_digest 75 = .ok (.iaload, 1) := dk_46 (dk_at dksX3_digest_3 4 rfl rfl)
theorem dX3_digest_76 : decode cX3_digest 76 = .ok (.if_icmp .ge 90, 3) := dk_162 0 90 (dk_at dksX3_digest_3 5 rfl rfl)
theorem dX3_digest_79 : decode cX3_digest 79 = .ok (.iconst 0, 1) := dk_3 (dk_at dksX3_digest_3 8 rfl rfl)
theorem dX3_digest_80 : decode cX3_digest 80 = .ok (.istore 4, 2) := dk_54 4 (dk_at dksX3_digest_3 9 rfl rfl)
theorem dX3_digest_82 : decode cX3_digest 82 = .ok (.iload 4, 2) := dk_21 4 (dk_at dksX3_digest_3 11 rfl rfl)
theorem dX3_digest_84 : decode cX3_digest 84 = .ok (.bipush 12, 2) := dk_16 12 (dk_at dksX3_digest_3 13 rfl rfl)
theorem dX3_digest_86 : decode cX3_digest 86 = .ok (.if_icmp .ge 24, 3) := dk_162 0 24 (dk_at dksX3_digest_3 15 rfl rfl)
theorem dX3_digest_89 : decode cX3_digest 89 = .ok (.ldc2_w 205, 3) := dk_20 0 205 (dk_at dksX3_digest_3 18 rfl rfl)
theorem dX3_digest_92 : decode cX3_digest 92 = .ok (.lload_n 1, 1) := dk_31 (dk_at dksX3_digest_3 21 rfl rfl)
theorem dX3_digest_93 : decode cX3_digest 93 = .ok (.lmul, 1) := dk_105 (dk_at dksX3_digest_3 22 rfl rfl)
theorem dX3_digest_94 : decode cX3_digest 94 = .ok (.aload_n 0, 1) := dk_42 (dk_at dksX3_digest_3 23 rfl rfl)
theorem dX3_digest_95 : decode cX3_digest 95 = .ok (.iload_n 3, 1) := dk_29 (dk_at dksX3_digest_4 0 rfl rfl)
theorem dX3_digest_96 : decode cX3_digest 96 = .ok (.iload 4, 2) := dk_21 4 (dk_at dksX3_digest_4 1 rfl rfl)
theorem dX3_digest_98 : decode cX3_digest 98 = .ok (.invokevirtual 179, 3) := dk_182 0 179 (dk_at dksX3_digest_4 3 rfl rfl)
theorem dX3_digest_101 : decode cX3_digest 101 = .ok (.i2l, 1) := dk_133 (dk_at dksX3_digest_4 6 rfl rfl)
theorem dX3_digest_102 : decode cX3_digest 102 = .ok (.ladd, 1) := dk_97 (dk_at dksX3_digest_4 7 rfl rfl)
theorem dX3_digest_103 : decode cX3_digest 103 = .ok (.lstore_n 1, 1) := dk_64 (dk_at dksX3_digest_4 8 rfl rfl)
theorem dX3_digest_104 : decode cX3_digest 104 = .ok (.iinc 4 1, 3) := dk_132 4 1 (dk_at dksX3_digest_4 9 rfl rfl)
theorem dX3_digest_107 : decode cX3_digest 107 = .ok (.goto (-25), 3) := dk_167 255 231 (dk_at dksX3_digest_4 12 rfl rfl)
theorem dX3_digest_110 : decode cX3_digest 110 = .ok (.ldc2_w 205, 3) := dk_20 0 205 (dk_at dksX3_digest_4 15 rfl rfl)
theorem dX3_digest_113 : decode cX3_digest 113 = .ok (.lload_n 1, 1) := dk_31 (dk_at dksX3_digest_4 18 rfl rfl)
theorem dX3_digest_114 : decode cX3_digest 114 = .ok (.lmul, 1) := dk_105 (dk_at dksX3_digest_4 19 rfl rfl)
theorem dX3_digest_115 : decode cX3_digest 115 = .ok (.aload_n 0, 1) := dk_42 (dk_at dksX3_digest_4 20 rfl rfl)
theorem dX3_digest_116 : decode cX3_digest 116 = .ok (.iload_n 3, 1) := dk_29 (dk_at dksX3_digest_4 21 rfl rfl)
theorem dX3_digest_117 : decode cX3_digest 117 = .ok (.bipush 25, 2) := dk_16 25 (dk_at dksX3_digest_4 22 rfl rfl)
theorem dX3_digest_119 : decode cX3_digest 119 = .ok (.invokevirtual 64, 3) := dk_182 0 64 (dk_at dksX3_digest_5 0 rfl rfl)
theorem dX3_digest_122 : decode cX3_digest 122 = .ok (.i2l, 1) := dk_133 (dk_at dksX3_digest_5 3 rfl rfl)
theorem dX3_digest_123 : decode cX3_digest 123 = .ok (.ladd, 1) := dk_97 (dk_at dksX3_digest_5 4 rfl rfl)
theorem dX3_digest_124 : decode cX3_digest 124 = .ok (.lstore_n 1, 1) := dk_64 (dk_at dksX3_digest_5 5 rfl rfl)
theorem dX3_digest_125 : decode cX3_digest 125 = .ok (.iconst 0, 1) := dk_3 (dk_at dksX3_digest_5 6 rfl rfl)
theorem dX3_digest_126 : decode cX3_digest 126 = .ok (.istore 4, 2) := dk_54 4 (dk_at dksX3_digest_5 7 rfl rfl)
theorem dX3_digest_128 : decode cX3_digest 128 = .ok (.iload 4, 2) := dk_21 4 (dk_at dksX3_digest_5 9 rfl rfl)
theorem dX3_digest_130 : decode cX3_digest 130 = .ok (.aload_n 0, 1) := dk_42 (dk_at dksX3_digest_5 11 rfl rfl)
theorem dX3_digest_131 : decode cX3_digest 131 = .ok (.getfield 7, 3) := dk_180 0 7 (dk_at dksX3_digest_5 12 rfl rfl)
theorem dX3_digest_134 : decode cX3_digest 134 = .ok (.iconst 1, 1) := dk_4 (dk_at dksX3_digest_5 15 rfl rfl)
theorem dX3_digest_135 : decode cX3_digest 135 = .ok (.iaload, 1) := dk_46 (dk_at dksX3_digest_5 16 rfl rfl)
theorem dX3_digest_136 : decode cX3_digest 136 = .ok (.if_icmp .ge 24, 3) := dk_162 0 24 (dk_at dksX3_digest_5 17 rfl rfl)
theorem dX3_digest_139 : decode cX3_digest 139 = .ok (.ldc2_w 205, 3) := dk_20 0 205 (dk_at dksX3_digest_5 20 rfl rfl)
theorem dX3_digest_142 : decode cX3_digest 142 = .ok (.lload_n 1, 1) := dk_31 (dk_at dksX3_digest_5 23 rfl rfl)
theorem dX3_digest_143 : decode cX3_digest 143 = .ok (.lmul, 1) := dk_105 (dk_at dksX3_digest_6 0 rfl rfl)
theorem dX3_digest_144 : decode cX3_digest 144 = .ok (.aload_n 0, 1) := dk_42 (dk_at dksX3_digest_6 1 rfl rfl)
theorem dX3_digest_145 : decode cX3_digest 145 = .ok (.iload_n 3, 1) := dk_29 (dk_at dksX3_digest_6 2 rfl rfl)
theorem dX3_digest_146 : decode cX3_digest 146 = .ok (.iload 4, 2) := dk_21 4 (dk_at dksX3_digest_6 3 rfl rfl)
theorem dX3_digest_148 : decode cX3_digest 148 = .ok (.invokevirtual 190, 3) := dk_182 0 190 (dk_at dksX3_digest_6 5 rfl rfl)
theorem dX3_digest_151 : decode cX3_digest 151 = .ok (.i2l, 1) := dk_133 (dk_at dksX3_digest_6 8 rfl rfl)
theorem dX3_digest_152 : decode cX3_digest 152 = .ok (.ladd, 1) := dk_97 (dk_at dksX3_digest_6 9 rfl rfl)
theorem dX3_digest_153 : decode cX3_digest 153 = .ok (.lstore_n 1, 1) := dk_64 (dk_at dksX3_digest_6 10 rfl rfl)
theorem dX3_digest_154 : decode cX3_digest 154 = .ok (.iinc 4 1, 3) := dk_132 4 1 (dk_at dksX3_digest_6 11 rfl rfl)
theorem dX3_digest_157 : decode cX3_digest 157 = .ok (.goto (-29), 3) := dk_167 255 227 (dk_at dksX3_digest_6 14 rfl rfl)
theorem dX3_digest_160 : decode cX3_digest 160 = .ok (.iinc 3 1, 3) := dk_132 3 1 (dk_at dksX3_digest_6 17 rfl rfl)
theorem dX3_digest_163 : decode cX3_digest 163 = .ok (.goto (-94), 3) := dk_167 255 162 (dk_at dksX3_digest_6 20 rfl rfl)
theorem dX3_digest_166 : decode cX3_digest 166 = .ok (.iconst 0, 1) := dk_3 (dk_at dksX3_digest_6 23 rfl rfl)
theorem dX3_digest_167 : decode cX3_digest 167 = .ok (.istore_n 3, 1) := dk_62 (dk_at dksX3_digest_7 0 rfl rfl)
theorem dX3_digest_168 : decode cX3_digest 168 = .ok (.iload_n 3, 1) := dk_29 (dk_at dksX3_digest_7 1 rfl rfl)
theorem dX3_digest_169 : decode cX3_digest 169 = .ok (.aload_n 0, 1) := dk_42 (dk_at dksX3_digest_7 2 rfl rfl)
theorem dX3_digest_170 : decode cX3_digest 170 = .ok (.getfield 7, 3) := dk_180 0 7 (dk_at dksX3_digest_7 3 rfl rfl)
theorem dX3_digest_173 : decode cX3_digest 173 = .ok (.iconst 1, 1) := dk_4 (dk_at dksX3_digest_7 6 rfl rfl)
theorem dX3_digest_174 : decode cX3_digest 174 = .ok (.iaload, 1) := dk_46 (dk_at dksX3_digest_7 7 rfl rfl)
theorem dX3_digest_175 : decode cX3_digest 175 = .ok (.if_icmp .ge 68, 3) := dk_162 0 68 (dk_at dksX3_digest_7 8 rfl rfl)
theorem dX3_digest_178 : decode cX3_digest 178 = .ok (.iconst 0, 1) := dk_3 (dk_at dksX3_digest_7 11 rfl rfl)
theorem dX3_digest_179 : decode cX3_digest 179 = .ok (.istore 4, 2) := dk_54 4 (dk_at dksX3_digest_7 12 rfl rfl)
theorem dX3_digest_181 : decode cX3_digest 181 = .ok (.iload 4, 2) := dk_21 4 (dk_at dksX3_digest_7 14 rfl rfl)
theorem dX3_digest_183 : decode cX3_digest 183 = .ok (.bipush 28, 2) := dk_16 28 (dk_at dksX3_digest_7 16 rfl rfl)
theorem dX3_digest_185 : decode cX3_digest 185 = .ok (.if_icmp .ge 52, 3) := dk_162 0 52 (dk_at dksX3_digest_7 18 rfl rfl)
theorem dX3_digest_188 : decode cX3_digest 188 = .ok (.iload 4, 2) := dk_21 4 (dk_at dksX3_digest_7 21 rfl rfl)
theorem dX3_digest_190 : decode cX3_digest 190 = .ok (.bipush 7, 2) := dk_16 7 (dk_at dksX3_digest_8 0 rfl rfl)
theorem dX3_digest_192 : decode cX3_digest 192 = .ok (.if_icmp .lt 20, 3) := dk_161 0 20 (dk_at dksX3_digest_8 2 rfl rfl)
theorem dX3_digest_195 : decode cX3_digest 195 = .ok (.iload 4, 2) := dk_21 4 (dk_at dksX3_digest_8 5 rfl rfl)
theorem dX3_digest_197 : decode cX3_digest 197 = .ok (.bipush 10, 2) := dk_16 10 (dk_at dksX3_digest_8 7 rfl rfl)
theorem dX3_digest_199 : decode cX3_digest 199 = .ok (.irem, 1) := dk_112 (dk_at dksX3_digest_8 9 rfl rfl)
theorem dX3_digest_200 : decode cX3_digest 200 = .ok (.bipush 8, 2) := dk_16 8 (dk_at dksX3_digest_8 10 rfl rfl)
theorem dX3_digest_202 : decode cX3_digest 202 = .ok (.if_icmp .ge 27, 3) := dk_162 0 27 (dk_at dksX3_digest_8 12 rfl rfl)
theorem dX3_digest_205 : decode cX3_digest 205 = .ok (.iload 4, 2) := dk_21 4 (dk_at dksX3_digest_8 15 rfl rfl)
theorem dX3_digest_207 : decode cX3_digest 207 = .ok (.bipush 9, 2) := dk_16 9 (dk_at dksX3_digest_8 17 rfl rfl)
theorem dX3_digest_209 : decode cX3_digest 209 = .ok (.if_icmp .le 20, 3) := dk_164 0 20 (dk_at dksX3_digest_8 19 rfl rfl)
theorem dX3_digest_212 : decode cX3_digest 212 = .ok (.ldc2_w 205, 3) := dk_20 0 205 (dk_at dksX3_digest_9 0 rfl rfl)
theorem dX3_digest_215 : decode cX3_digest 215 = .ok (.lload_n 1, 1) := dk_31 (dk_at dksX3_digest_9 3 rfl rfl)
theorem dX3_digest_216 : decode cX3_digest 216 = .ok (.lmul, 1) := dk_105 (dk_at dksX3_digest_9 4 rfl rfl)
theorem dX3_digest_217 : decode cX3_digest 217 = .ok (.aload_n 0, 1) := dk_42 (dk_at dksX3_digest_9 5 rfl rfl)
theorem dX3_digest_218 : decode cX3_digest 218 = .ok (.iload_n 3, 1) := dk_29 (dk_at dksX3_digest_9 6 rfl rfl)
theorem dX3_digest_219 : decode cX3_digest 219 = .ok (.iload 4, 2) := dk_21 4 (dk_at dksX3_digest_9 7 rfl rfl)
theorem dX3_digest_221 : decode cX3_digest 221 = .ok (.invokevirtual 185, 3) := dk_182 0 185 (dk_at dksX3_digest_9 9 rfl rfl)
theorem dX3_digest_224 : decode cX3_digest 224 = .ok (.i2l, 1) := dk_133 (dk_at dksX3_digest_9 12 rfl rfl)
theorem dX3_digest_225 : decode cX3_digest 225 = .ok (.ladd, 1) := dk_97 (dk_at dksX3_digest_9 13 rfl rfl)
theorem dX3_digest_226 : decode cX3_digest 226 = .ok (.goto 4, 3) := dk_167 0 4 (dk_at dksX3_digest_9 14 rfl rfl)
theorem dX3_digest_229 : decode cX3_digest 229 = .ok (.lload_n 1, 1) := dk_31 (dk_at dksX3_digest_9 17 rfl rfl)
theorem dX3_digest_230 : decode cX3_digest 230 = .ok (.lstore_n 1, 1) := dk_64 (dk_at dksX3_digest_9 18 rfl rfl)
theorem dX3_digest_231 : decode cX3_digest 231 = .ok (.iinc 4 1, 3) := dk_132 4 1 (dk_at dksX3_digest_9 19 rfl rfl)
theorem dX3_digest_234 : decode cX3_digest 234 = .ok (.goto (-53), 3) := dk_167 255 203 (dk_at dksX3_digest_10 0 rfl rfl)
theorem dX3_digest_237 : decode cX3_digest 237 = .ok (.iinc 3 1, 3) := dk_132 3 1 (dk_at dksX3_digest_10 3 rfl rfl)
theorem dX3_digest_240 : decode cX3_digest 240 = .ok (.goto (-72), 3) := dk_167 255 184 (dk_at dksX3_digest_10 6 rfl rfl)
theorem dX3_digest_243 : decode cX3_digest 243 = .ok (.iconst 0, 1) := dk_3 (dk_at dksX3_digest_10 9 rfl rfl)
theorem dX3_digest_244 : decode cX3_digest 244 = .ok (.istore_n 3, 1) := dk_62 (dk_at dksX3_digest_10 10 rfl rfl)
theorem dX3_digest_245 : decode cX3_digest 245 = .ok (.iload_n 3, 1) := dk_29 (dk_at dksX3_digest_10 11 rfl rfl)
theorem dX3_digest_246 : decode cX3_digest 246 = .ok (.iconst 3, 1) := dk_6 (dk_at dksX3_digest_10 12 rfl rfl)
theorem dX3_digest_247 : decode cX3_digest 247 = .ok (.if_icmp .ge 22, 3) := dk_162 0 22 (dk_at dksX3_digest_10 13 rfl rfl)
theorem dX3_digest_250 : decode cX3_digest 250 = .ok (.ldc2_w 205, 3) := dk_20 0 205 (dk_at dksX3_digest_10 16 rfl rfl)
theorem dX3_digest_253 : decode cX3_digest 253 = .ok (.lload_n 1, 1) := dk_31 (dk_at dksX3_digest_10 19 rfl rfl)
theorem dX3_digest_254 : decode cX3_digest 254 = .ok (.lmul, 1) := dk_105 (dk_at dksX3_digest_10 20 rfl rfl)
theorem dX3_digest_255 : decode cX3_digest 255 = .ok (.aload_n 0, 1) := dk_42 (dk_at dksX3_digest_10 21 rfl rfl)
theorem dX3_digest_256 : decode cX3_digest 256 = .ok (.iload_n 3, 1) := dk_29 (dk_at dksX3_digest_10 22 rfl rfl)
theorem dX3_digest_257 : decode cX3_digest 257 = .ok (.invokevirtual 196, 3) := dk_182 0 196 (dk_at dksX3_digest_11 0 rfl rfl)
theorem dX3_digest_260 : decode cX3_digest 260 = .ok (.i2l, 1) := dk_133 (dk_at dksX3_digest_11 3 rfl rfl)
theorem dX3_digest_261 : decode cX3_digest 261 = .ok (.ladd, 1) := dk_97 (dk_at dksX3_digest_11 4 rfl rfl)
theorem dX3_digest_262 : decode cX3_digest 262 = .ok (.lstore_n 1, 1) := dk_64 (dk_at dksX3_digest_11 5 rfl rfl)
theorem dX3_digest_263 : decode cX3_digest 263 = .ok (.iinc 3 1, 3) := dk_132 3 1 (dk_at dksX3_digest_11 6 rfl rfl)
theorem dX3_digest_266 : decode cX3_digest 266 = .ok (.goto (-21), 3) := dk_167 255 235 (dk_at dksX3_digest_11 9 rfl rfl)
theorem dX3_digest_269 : decode cX3_digest 269 = .ok (.iconst 0, 1) := dk_3 (dk_at dksX3_digest_11 12 rfl rfl)
theorem dX3_digest_270 : decode cX3_digest 270 = .ok (.istore_n 3, 1) := dk_62 (dk_at dksX3_digest_11 13 rfl rfl)
theorem dX3_digest_271 : decode cX3_digest 271 = .ok (.iload_n 3, 1) := dk_29 (dk_at dksX3_digest_11 14 rfl rfl)
theorem dX3_digest_272 : decode cX3_digest 272 = .ok (.aload_n 0, 1) := dk_42 (dk_at dksX3_digest_11 15 rfl rfl)
theorem dX3_digest_273 : decode cX3_digest 273 = .ok (.getfield 7, 3) := dk_180 0 7 (dk_at dksX3_digest_11 16 rfl rfl)
theorem dX3_digest_276 : decode cX3_digest 276 = .ok (.iconst 1, 1) := dk_4 (dk_at dksX3_digest_11 19 rfl rfl)
theorem dX3_digest_277 : decode cX3_digest 277 = .ok (.iaload, 1) := dk_46 (dk_at dksX3_digest_11 20 rfl rfl)
theorem dX3_digest_278 : decode cX3_digest 278 = .ok (.if_icmp .ge 45, 3) := dk_162 0 45 (dk_at dksX3_digest_11 21 rfl rfl)
theorem dX3_digest_281 : decode cX3_digest 281 = .ok (.iconst 0, 1) := dk_3 (dk_at dksX3_digest_12 0 rfl rfl)
theorem dX3_digest_282 : decode cX3_digest 282 = .ok (.istore 4, 2) := dk_54 4 (dk_at dksX3_digest_12 1 rfl rfl)
theorem dX3_digest_284 : decode cX3_digest 284 = .ok (.iload 4, 2) := dk_21 4 (dk_at dksX3_digest_12 3 rfl rfl)
theorem dX3_digest_286 : decode cX3_digest 286 = .ok (.aload_n 0, 1) := dk_42 (dk_at dksX3_digest_12 5 rfl rfl)
theorem dX3_digest_287 : decode cX3_digest 287 = .ok (.getfield 7, 3) := dk_180 0 7 (dk_at dksX3_digest_12 6 rfl rfl)
theorem dX3_digest_290 : decode cX3_digest 290 = .ok (.iconst 0, 1) := dk_3 (dk_at dksX3_digest_12 9 rfl rfl)
theorem dX3_digest_291 : decode cX3_digest 291 = .ok (.iaload, 1) := dk_46 (dk_at dksX3_digest_12 10 rfl rfl)
theorem dX3_digest_292 : decode cX3_digest 292 = .ok (.if_icmp .ge 25, 3) := dk_162 0 25 (dk_at dksX3_digest_12 11 rfl rfl)
theorem dX3_digest_295 : decode cX3_digest 295 = .ok (.ldc2_w 205, 3) := dk_20 0 205 (dk_at dksX3_digest_12 14 rfl rfl)
theorem dX3_digest_298 : decode cX3_digest 298 = .ok (.lload_n 1, 1) := dk_31 (dk_at dksX3_digest_12 17 rfl rfl)
theorem dX3_digest_299 : decode cX3_digest 299 = .ok (.lmul, 1) := dk_105 (dk_at dksX3_digest_12 18 rfl rfl)
theorem dX3_digest_300 : decode cX3_digest 300 = .ok (.aload_n 0, 1) := dk_42 (dk_at dksX3_digest_12 19 rfl rfl)
theorem dX3_digest_301 : decode cX3_digest 301 = .ok (.iload_n 3, 1) := dk_29 (dk_at dksX3_digest_12 20 rfl rfl)
theorem dX3_digest_302 : decode cX3_digest 302 = .ok (.iload 4, 2) := dk_21 4 (dk_at dksX3_digest_12 21 rfl rfl)
theorem dX3_digest_304 : decode cX3_digest 304 = .ok (.iconst 1, 1) := dk_4 (dk_at dksX3_digest_12 23 rfl rfl)
theorem dX3_digest_305 : decode cX3_digest 305 = .ok (.invokevirtual 193, 3) := dk_182 0 193 (dk_at dksX3_digest_13 0 rfl rfl)
theorem dX3_digest_308 : decode cX3_digest 308 = .ok (.i2l, 1) := dk_133 (dk_at dksX3_digest_13 3 rfl rfl)
theorem dX3_digest_309 : decode cX3_digest 309 = .ok (.ladd, 1) := dk_97 (dk_at dksX3_digest_13 4 rfl rfl)
theorem dX3_digest_310 : decode cX3_digest 310 = .ok (.lstore_n 1, 1) := dk_64 (dk_at dksX3_digest_13 5 rfl rfl)
theorem dX3_digest_311 : decode cX3_digest 311 = .ok (.iinc 4 1, 3) := dk_132 4 1 (dk_at dksX3_digest_13 6 rfl rfl)
theorem dX3_digest_314 : decode cX3_digest 314 = .ok (.goto (-30), 3) := dk_167 255 226 (dk_at dksX3_digest_13 9 rfl rfl)
theorem dX3_digest_317 : decode cX3_digest 317 = .ok (.iinc 3 1, 3) := dk_132 3 1 (dk_at dksX3_digest_13 12 rfl rfl)
theorem dX3_digest_320 : decode cX3_digest 320 = .ok (.goto (-49), 3) := dk_167 255 207 (dk_at dksX3_digest_13 15 rfl rfl)
theorem dX3_digest_323 : decode cX3_digest 323 = .ok (.ldc2_w 205, 3) := dk_20 0 205 (dk_at dksX3_digest_13 18 rfl rfl)
theorem dX3_digest_326 : decode cX3_digest 326 = .ok (.lload_n 1, 1) := dk_31 (dk_at dksX3_digest_13 21 rfl rfl)
theorem dX3_digest_327 : decode cX3_digest 327 = .ok (.lmul, 1) := dk_105 (dk_at dksX3_digest_13 22 rfl rfl)
theorem dX3_digest_328 : decode cX3_digest 328 = .ok (.aload_n 0, 1) := dk_42 (dk_at dksX3_digest_13 23 rfl rfl)
theorem dX3_digest_329 : decode cX3_digest 329 = .ok (.invokevirtual 199, 3) := dk_182 0 199 (dk_at dksX3_digest_14 0 rfl rfl)
theorem dX3_digest_332 : decode cX3_digest 332 = .ok (.invokestatic 207, 3) := dk_184 0 207 (dk_at dksX3_digest_14 3 rfl rfl)
theorem dX3_digest_335 : decode cX3_digest 335 = .ok (.ladd, 1) := dk_97 (dk_at dksX3_digest_14 6 rfl rfl)
theorem dX3_digest_336 : decode cX3_digest 336 = .ok (.lstore_n 1, 1) := dk_64 (dk_at dksX3_digest_14 7 rfl rfl)
theorem dX3_digest_337 : decode cX3_digest 337 = .ok (.ldc2_w 205, 3) := dk_20 0 205 (dk_at dksX3_digest_14 8 rfl rfl)
theorem dX3_digest_340 : decode cX3_digest 340 = .ok (.lload_n 1, 1) := dk_31 (dk_at dksX3_digest_14 11 rfl rfl)
theorem dX3_digest_341 : decode cX3_digest 341 = .ok (.lmul, 1) := dk_105 (dk_at dksX3_digest_14 12 rfl rfl)
theorem dX3_digest_342 : decode cX3_digest 342 = .ok (.aload_n 0, 1) := dk_42 (dk_at dksX3_digest_14 13 rfl rfl)
theorem dX3_digest_343 : decode cX3_digest 343 = .ok (.getfield 129, 3) := dk_180 0 129 (dk_at dksX3_digest_14 14 rfl rfl)
theorem dX3_digest_346 : decode cX3_digest 346 = .ok (.i2l, 1) := dk_133 (dk_at dksX3_digest_14 17 rfl rfl)
theorem dX3_digest_347 : decode cX3_digest 347 = .ok (.ladd, 1) := dk_97 (dk_at dksX3_digest_14 18 rfl rfl)
theorem dX3_digest_348 : decode cX3_digest 348 = .ok (.lstore_n 1, 1) := dk_64 (dk_at dksX3_digest_14 19 rfl rfl)
theorem dX3_digest_349 : decode cX3_digest 349 = .ok (.iconst 0, 1) := dk_3 (dk_at dksX3_digest_14 20 rfl rfl)
theorem dX3_digest_350 : decode cX3_digest 350 = .ok (.istore_n 3, 1) := dk_62 (dk_at dksX3_digest_14 21 rfl rfl)
theorem dX3_digest_351 : decode cX3_digest 351 = .ok (.iload_n 3, 1) := dk_29 (dk_at dksX3_digest_14 22 rfl rfl)
theorem dX3_digest_352 : decode cX3_digest 352 = .ok (.aload_n 0, 1) := dk_42 (dk_at dksX3_digest_14 23 rfl rfl)
theorem dX3_digest_353 : decode cX3_digest 353 = .ok (.getfield 129, 3) := dk_180 0 129 (dk_at dksX3_digest_15 0 rfl rfl)
theorem dX3_digest_356 : decode cX3_digest 356 = .ok (.if_icmp .ge 23, 3) := dk_162 0 23 (dk_at dksX3_digest_15 3 rfl rfl)
theorem dX3_digest_359 : decode cX3_digest 359 = .ok (.ldc2_w 205, 3) := dk_20 0 205 (dk_at dksX3_digest_15 6 rfl rfl)
theorem dX3_digest_362 : decode cX3_digest 362 = .ok (.lload_n 1, 1) := dk_31 (dk_at dksX3_digest_15 9 rfl rfl)
theorem dX3_digest_363 : decode cX3_digest 363 = .ok (.lmul, 1) := dk_105 (dk_at dksX3_digest_15 10 rfl rfl)
theorem dX3_digest_364 : decode cX3_digest 364 = .ok (.aload_n 0, 1) := dk_42 (dk_at dksX3_digest_15 11 rfl rfl)
theorem dX3_digest_365 : decode cX3_digest 365 = .ok (.getfield 19, 3) := dk_180 0 19 (dk_at dksX3_digest_15 12 rfl rfl)
theorem dX3_digest_368 : decode cX3_digest 368 = .ok (.iload_n 3, 1) := dk_29 (dk_at dksX3_digest_15 15 rfl rfl)
theorem dX3_digest_369 : decode cX3_digest 369 = .ok (.iaload, 1) := dk_46 (dk_at dksX3_digest_15 16 rfl rfl)
theorem dX3_digest_370 : decode cX3_digest 370 = .ok (.i2l, 1) := dk_133 (dk_at dksX3_digest_15 17 rfl rfl)
theorem dX3_digest_371 : decode cX3_digest 371 = .ok (.ladd, 1) := dk_97 (dk_at dksX3_digest_15 18 rfl rfl)
theorem dX3_digest_372 : decode cX3_digest 372 = .ok (.lstore_n 1, 1) := dk_64 (dk_at dksX3_digest_15 19 rfl rfl)
theorem dX3_digest_373 : decode cX3_digest 373 = .ok (.iinc 3 1, 3) := dk_132 3 1 (dk_at dksX3_digest_15 20 rfl rfl)
theorem dX3_digest_376 : decode cX3_digest 376 = .ok (.goto (-25), 3) := dk_167 255 231 (dk_at dksX3_digest_16 0 rfl rfl)
theorem dX3_digest_379 : decode cX3_digest 379 = .ok (.lload_n 1, 1) := dk_31 (dk_at dksX3_digest_16 3 rfl rfl)
theorem dX3_digest_380 : decode cX3_digest 380 = .ok (.lreturn, 1) := dk_173 (dk_at dksX3_digest_16 4 rfl rfl)
theorem q88 : (Jvm.Cond.initialized "BottleLoopModel") ∈ lw_all := lw_g (lw_at lw_m1 10 rfl) rfl
theorem q765 : (Jvm.Cond.selects "BottleLoopModel" ({ cls := "java/lang/Object", name := "getClass", desc := "()Ljava/lang/Class;" } : Jvm.MethodName) ({ cls := "java/lang/Object", name := "getClass", desc := "()Ljava/lang/Class;" } : Jvm.MethodName)) ∈ lw_all := lw_g (lw_at lw_m3 207 rfl) rfl
theorem q1841 : (Jvm.Cond.instantiable "BottleLoopModel" (16 : Nat)) ∈ lw_all := lw_g (lw_at lw_m8 83 rfl) rfl
theorem q1843 : (Jvm.Cond.instanceMethod ({ cls := "BottleLoopModel", name := "<init>", desc := "()V" } : Jvm.MethodName)) ∈ lw_all := lw_g (lw_at lw_m8 85 rfl) rfl
theorem q1844 : (Jvm.Cond.code ({ cls := "BottleLoopModel", name := "<init>", desc := "()V" } : Jvm.MethodName) prog_23_method_1_code (1 : Nat) (Option.none : Option Jvm.ClassFile.FieldType)) ∈ lw_all := lw_g (lw_at lw_m8 86 rfl) rfl
theorem q1845 : (Jvm.Cond.methodLink "BottleLoopModel" (1 : Nat) ({ cls := "java/lang/Object", name := "<init>", desc := "()V" } : Jvm.MethodName)) ∈ lw_all := lw_g (lw_at lw_m8 87 rfl) rfl
theorem q1846 : (Jvm.Cond.fieldLink "BottleLoopModel" (7 : Nat) "BottleLoopModel" "v" "[I") ∈ lw_all := lw_g (lw_at lw_m8 88 rfl) rfl
theorem q1847 : (Jvm.Cond.fieldLink "BottleLoopModel" (13 : Nat) "BottleLoopModel" "spare" "[I") ∈ lw_all := lw_g (lw_at lw_m8 89 rfl) rfl
theorem q1848 : (Jvm.Cond.fieldLink "BottleLoopModel" (16 : Nat) "BottleLoopModel" "saved" "[I") ∈ lw_all := lw_g (lw_at lw_m8 90 rfl) rfl
theorem q1849 : (Jvm.Cond.fieldLink "BottleLoopModel" (32 : Nat) "BottleLoopModel" "saves" "I") ∈ lw_all := lw_g (lw_at lw_m8 91 rfl) rfl
theorem q1850 : (Jvm.Cond.fieldLink "BottleLoopModel" (19 : Nat) "BottleLoopModel" "text" "[I") ∈ lw_all := lw_g (lw_at lw_m8 92 rfl) rfl
theorem q1851 : (Jvm.Cond.fieldLink "BottleLoopModel" (129 : Nat) "BottleLoopModel" "length" "I") ∈ lw_all := lw_g (lw_at lw_m8 93 rfl) rfl
theorem q1852 : (Jvm.Cond.fieldLink "BottleLoopModel" (28 : Nat) "BottleLoopModel" "thrown" "I") ∈ lw_all := lw_g (lw_at lw_m8 94 rfl) rfl
theorem q1853 : (Jvm.Cond.fieldLink "BottleLoopModel" (22 : Nat) "BottleLoopModel" "lows" "[I") ∈ lw_all := lw_g (lw_at lw_m8 95 rfl) rfl
theorem q1854 : (Jvm.Cond.fieldLink "BottleLoopModel" (25 : Nat) "BottleLoopModel" "highs" "[I") ∈ lw_all := lw_g (lw_at lw_m8 96 rfl) rfl
theorem q1855 : (Jvm.Cond.fieldLink "BottleLoopModel" (132 : Nat) "BottleLoopModel" "place" "I") ∈ lw_all := lw_g (lw_at lw_m8 97 rfl) rfl
theorem q1856 : (Jvm.Cond.fieldLink "BottleLoopModel" (141 : Nat) "BottleLoopModel" "isWhole" "Z") ∈ lw_all := lw_g (lw_at lw_m8 98 rfl) rfl
theorem q1857 : (Jvm.Cond.fieldLink "BottleLoopModel" (145 : Nat) "BottleLoopModel" "letter" "I") ∈ lw_all := lw_g (lw_at lw_m8 99 rfl) rfl
theorem q1858 : (Jvm.Cond.fieldLink "BottleLoopModel" (151 : Nat) "BottleLoopModel" "one" "I") ∈ lw_all := lw_g (lw_at lw_m8 100 rfl) rfl
theorem q1859 : (Jvm.Cond.fieldLink "BottleLoopModel" (157 : Nat) "BottleLoopModel" "other" "I") ∈ lw_all := lw_g (lw_at lw_m8 101 rfl) rfl
theorem q1860 : (Jvm.Cond.fieldLink "BottleLoopModel" (138 : Nat) "BottleLoopModel" "number" "I") ∈ lw_all := lw_g (lw_at lw_m8 102 rfl) rfl
theorem q1861 : (Jvm.Cond.fieldLink "BottleLoopModel" (135 : Nat) "BottleLoopModel" "digit" "I") ∈ lw_all := lw_g (lw_at lw_m8 103 rfl) rfl
theorem q1862 : (Jvm.Cond.laysFinal "BottleLoopModel" "BottleLoopModel" "v" "[I") ∈ lw_all := lw_g (lw_at lw_m8 104 rfl) rfl
theorem q1863 : (Jvm.Cond.soleField "BottleLoopModel" "v") ∈ lw_all := lw_g (lw_at lw_m8 105 rfl) rfl
theorem q1864 : (Jvm.Cond.laysFinal "BottleLoopModel" "BottleLoopModel" "spare" "[I") ∈ lw_all := lw_g (lw_at lw_m8 106 rfl) rfl
theorem q1865 : (Jvm.Cond.soleField "BottleLoopModel" "spare") ∈ lw_all := lw_g (lw_at lw_m8 107 rfl) rfl
theorem q1866 : (Jvm.Cond.laysFinal "BottleLoopModel" "BottleLoopModel" "saved" "[I") ∈ lw_all := lw_g (lw_at lw_m8 108 rfl) rfl
theorem q1867 : (Jvm.Cond.soleField "BottleLoopModel" "saved") ∈ lw_all := lw_g (lw_at lw_m8 109 rfl) rfl
theorem q1868 : (Jvm.Cond.lays "BottleLoopModel" "BottleLoopModel" "saves" "I") ∈ lw_all := lw_g (lw_at lw_m8 110 rfl) rfl
theorem q1869 : (Jvm.Cond.soleField "BottleLoopModel" "saves") ∈ lw_all := lw_g (lw_at lw_m8 111 rfl) rfl
theorem q1870 : (Jvm.Cond.laysFinal "BottleLoopModel" "BottleLoopModel" "text" "[I") ∈ lw_all := lw_g (lw_at lw_m8 112 rfl) rfl
theorem q1871 : (Jvm.Cond.soleField "BottleLoopModel" "text") ∈ lw_all := lw_g (lw_at lw_m8 113 rfl) rfl
theorem q1872 : (Jvm.Cond.lays "BottleLoopModel" "BottleLoopModel" "length" "I") ∈ lw_all := lw_g (lw_at lw_m8 114 rfl) rfl
theorem q1873 : (Jvm.Cond.soleField "BottleLoopModel" "length") ∈ lw_all := lw_g (lw_at lw_m8 115 rfl) rfl
theorem q1874 : (Jvm.Cond.lays "BottleLoopModel" "BottleLoopModel" "thrown" "I") ∈ lw_all := lw_g (lw_at lw_m8 116 rfl) rfl
theorem q1875 : (Jvm.Cond.soleField "BottleLoopModel" "thrown") ∈ lw_all := lw_g (lw_at lw_m8 117 rfl) rfl
theorem q1876 : (Jvm.Cond.laysFinal "BottleLoopModel" "BottleLoopModel" "lows" "[I") ∈ lw_all := lw_g (lw_at lw_m8 118 rfl) rfl
theorem q1877 : (Jvm.Cond.soleField "BottleLoopModel" "lows") ∈ lw_all := lw_g (lw_at lw_m8 119 rfl) rfl
theorem q1878 : (Jvm.Cond.laysFinal "BottleLoopModel" "BottleLoopModel" "highs" "[I") ∈ lw_all := lw_g (lw_at lw_m8 120 rfl) rfl
theorem q1879 : (Jvm.Cond.soleField "BottleLoopModel" "highs") ∈ lw_all := lw_g (lw_at lw_m8 121 rfl) rfl
theorem q1880 : (Jvm.Cond.lays "BottleLoopModel" "BottleLoopModel" "place" "I") ∈ lw_all := lw_g (lw_at lw_m8 122 rfl) rfl
theorem q1881 : (Jvm.Cond.soleField "BottleLoopModel" "place") ∈ lw_all := lw_g (lw_at lw_m8 123 rfl) rfl
theorem q1882 : (Jvm.Cond.lays "BottleLoopModel" "BottleLoopModel" "isWhole" "Z") ∈ lw_all := lw_g (lw_at lw_m8 124 rfl) rfl
theorem q1883 : (Jvm.Cond.soleField "BottleLoopModel" "isWhole") ∈ lw_all := lw_g (lw_at lw_m8 125 rfl) rfl
theorem q1884 : (Jvm.Cond.lays "BottleLoopModel" "BottleLoopModel" "letter" "I") ∈ lw_all := lw_g (lw_at lw_m8 126 rfl) rfl
theorem q1885 : (Jvm.Cond.soleField "BottleLoopModel" "letter") ∈ lw_all := lw_g (lw_at lw_m8 127 rfl) rfl
theorem q1886 : (Jvm.Cond.lays "BottleLoopModel" "BottleLoopModel" "one" "I") ∈ lw_all := lw_g (lw_at lw_m8 128 rfl) rfl
theorem q1887 : (Jvm.Cond.soleField "BottleLoopModel" "one") ∈ lw_all := lw_g (lw_at lw_m8 129 rfl) rfl
theorem q1888 : (Jvm.Cond.lays "BottleLoopModel" "BottleLoopModel" "other" "I") ∈ lw_all := lw_g (lw_at lw_m8 130 rfl) rfl
theorem q1889 : (Jvm.Cond.soleField "BottleLoopModel" "other") ∈ lw_all := lw_g (lw_at lw_m8 131 rfl) rfl
theorem q1890 : (Jvm.Cond.lays "BottleLoopModel" "BottleLoopModel" "number" "I") ∈ lw_all := lw_g (lw_at lw_m8 132 rfl) rfl
theorem q1891 : (Jvm.Cond.soleField "BottleLoopModel" "number") ∈ lw_all := lw_g (lw_at lw_m8 133 rfl) rfl
theorem q1892 : (Jvm.Cond.lays "BottleLoopModel" "BottleLoopModel" "digit" "I") ∈ lw_all := lw_g (lw_at lw_m8 134 rfl) rfl
theorem q1893 : (Jvm.Cond.soleField "BottleLoopModel" "digit") ∈ lw_all := lw_g (lw_at lw_m8 135 rfl) rfl
theorem q1894 : (Jvm.Cond.superclass "BottleLoopModel" "java/lang/Object") ∈ lw_all := lw_g (lw_at lw_m8 136 rfl) rfl
theorem q1896 : (Jvm.Cond.instanceMethod ({ cls := "BottleLoopModel", name := "thrown", desc := "()I" } : Jvm.MethodName)) ∈ lw_all := lw_g (lw_at lw_m8 138 rfl) rfl
theorem q1897 : (Jvm.Cond.selects "BottleLoopModel" ({ cls := "BottleLoopModel", name := "thrown", desc := "()I" } : Jvm.MethodName) ({ cls := "BottleLoopModel", name := "thrown", desc := "()I" } : Jvm.MethodName)) ∈ lw_all := lw_g (lw_at lw_m8 139 rfl) rfl
theorem q1898 : (Jvm.Cond.code ({ cls := "BottleLoopModel", name := "thrown", desc := "()I" } : Jvm.MethodName) prog_23_method_2_code (1 : Nat) (Option.some Jvm.ClassFile.FieldType.int)) ∈ lw_all := lw_g (lw_at lw_m8 140 rfl) rfl
theorem q1900 : (Jvm.Cond.instanceMethod ({ cls := "BottleLoopModel", name := "addBrand", desc := "(II)I" } : Jvm.MethodName)) ∈ lw_all := lw_g (lw_at lw_m8 142 rfl) rfl
theorem q1901 : (Jvm.Cond.selects "BottleLoopModel" ({ cls := "BottleLoopModel", name := "addBrand", desc := "(II)I" } : Jvm.MethodName) ({ cls := "BottleLoopModel", name := "addBrand", desc := "(II)I" } : Jvm.MethodName)) ∈ lw_all := lw_g (lw_at lw_m8 143 rfl) rfl
theorem q1902 : (Jvm.Cond.code ({ cls := "BottleLoopModel", name := "addBrand", desc := "(II)I" } : Jvm.MethodName) prog_23_method_14_code (3 : Nat) (Option.some Jvm.ClassFile.FieldType.int)) ∈ lw_all := lw_g (lw_at lw_m8 144 rfl) rfl
theorem q1903 : (Jvm.Cond.methodLink "BottleLoopModel" (35 : Nat) ({ cls := "BottleLoopModel", name := "in", desc := "(III)Z" } : Jvm.MethodName)) ∈ lw_all := lw_g (lw_at lw_m8 145 rfl) rfl
theorem q1904 : (Jvm.Cond.static ({ cls := "BottleLoopModel", name := "in", desc := "(III)Z" } : Jvm.MethodName)) ∈ lw_all := lw_g (lw_at lw_m8 146 rfl) rfl
theorem q1905 : (Jvm.Cond.code ({ cls := "BottleLoopModel", name := "in", desc := "(III)Z" } : Jvm.MethodName) prog_23_method_3_code (3 : Nat) (Option.some Jvm.ClassFile.FieldType.boolean)) ∈ lw_all := lw_g (lw_at lw_m8 147 rfl) rfl
theorem q1906 : (Jvm.Cond.methodLink "BottleLoopModel" (49 : Nat) ({ cls := "BottleLoopModel", name := "fails", desc := "(I)I" } : Jvm.MethodName)) ∈ lw_all := lw_g (lw_at lw_m8 148 rfl) rfl
theorem q1907 : (Jvm.Cond.privateMethod ({ cls := "BottleLoopModel", name := "fails", desc := "(I)I" } : Jvm.MethodName)) ∈ lw_tbl := lw_at lw_m8 149 rfl
theorem q1908 : (Jvm.Cond.instanceMethod ({ cls := "BottleLoopModel", name := "fails", desc := "(I)I" } : Jvm.MethodName)) ∈ lw_all := lw_g (lw_at lw_m8 150 rfl) rfl
theorem q1909 : (Jvm.Cond.code ({ cls := "BottleLoopModel", name := "fails", desc := "(I)I" } : Jvm.MethodName) prog_23_method_4_code (2 : Nat) (Option.some Jvm.ClassFile.FieldType.int)) ∈ lw_all := lw_g (lw_at lw_m8 151 rfl) rfl
theorem q1910 : (Jvm.Cond.methodLink "BottleLoopModel" (53 : Nat) ({ cls := "BottleLoopModel", name := "save", desc := "()V" } : Jvm.MethodName)) ∈ lw_all := lw_g (lw_at lw_m8 152 rfl) rfl
theorem q1911 : (Jvm.Cond.privateMethod ({ cls := "BottleLoopModel", name := "save", desc := "()V" } : Jvm.MethodName)) ∈ lw_tbl := lw_at lw_m8 153 rfl
theorem q1912 : (Jvm.Cond.instanceMethod ({ cls := "BottleLoopModel", name := "save", desc := "()V" } : Jvm.MethodName)) ∈ lw_all := lw_g (lw_at lw_m8 154 rfl) rfl
theorem q1913 : (Jvm.Cond.code ({ cls := "BottleLoopModel", name := "save", desc := "()V" } : Jvm.MethodName) prog_23_method_5_code (2 : Nat) (Option.none : Option Jvm.ClassFile.FieldType)) ∈ lw_all := lw_g (lw_at lw_m8 155 rfl) rfl
theorem q1914 : (Jvm.Cond.methodLink "BottleLoopModel" (39 : Nat) ({ cls := "BottleLoopModel", name := "brandAt", desc := "(II)I" } : Jvm.MethodName)) ∈ lw_all := lw_g (lw_at lw_m8 156 rfl) rfl
theorem q1915 : (Jvm.Cond.static ({ cls := "BottleLoopModel", name := "brandAt", desc := "(II)I" } : Jvm.MethodName)) ∈ lw_all := lw_g (lw_at lw_m8 157 rfl) rfl
theorem q1916 : (Jvm.Cond.code ({ cls := "BottleLoopModel", name := "brandAt", desc := "(II)I" } : Jvm.MethodName) prog_23_method_8_code (2 : Nat) (Option.some Jvm.ClassFile.FieldType.int)) ∈ lw_all := lw_g (lw_at lw_m8 158 rfl) rfl
theorem q1918 : (Jvm.Cond.instanceMethod ({ cls := "BottleLoopModel", name := "addShop", desc := "(I)I" } : Jvm.MethodName)) ∈ lw_all := lw_g (lw_at lw_m8 160 rfl) rfl
theorem q1919 : (Jvm.Cond.selects "BottleLoopModel" ({ cls := "BottleLoopModel", name := "addShop", desc := "(I)I" } : Jvm.MethodName) ({ cls := "BottleLoopModel", name := "addShop", desc := "(I)I" } : Jvm.MethodName)) ∈ lw_all := lw_g (lw_at lw_m8 161 rfl) rfl
theorem q1920 : (Jvm.Cond.code ({ cls := "BottleLoopModel", name := "addShop", desc := "(I)I" } : Jvm.MethodName) prog_23_method_15_code (2 : Nat) (Option.some Jvm.ClassFile.FieldType.int)) ∈ lw_all := lw_g (lw_at lw_m8 162 rfl) rfl
theorem q1921 : (Jvm.Cond.constant "BottleLoopModel" (56 : Nat) (100000 : Int32)) ∈ lw_all := lw_g (lw_at lw_m8 163 rfl) rfl
theorem q1922 : (Jvm.Cond.methodLink "BottleLoopModel" (43 : Nat) ({ cls := "BottleLoopModel", name := "shopAt", desc := "(II)I" } : Jvm.MethodName)) ∈ lw_all := lw_g (lw_at lw_m8 164 rfl) rfl
theorem q1923 : (Jvm.Cond.static ({ cls := "BottleLoopModel", name := "shopAt", desc := "(II)I" } : Jvm.MethodName)) ∈ lw_all := lw_g (lw_at lw_m8 165 rfl) rfl
theorem q1924 : (Jvm.Cond.code ({ cls := "BottleLoopModel", name := "shopAt", desc := "(II)I" } : Jvm.MethodName) prog_23_method_9_code (2 : Nat) (Option.some Jvm.ClassFile.FieldType.int)) ∈ lw_all := lw_g (lw_at lw_m8 166 rfl) rfl
theorem q1926 : (Jvm.Cond.instanceMethod ({ cls := "BottleLoopModel", name := "buyCrates", desc := "(I)I" } : Jvm.MethodName)) ∈ lw_all := lw_g (lw_at lw_m8 168 rfl) rfl
theorem q1927 : (Jvm.Cond.selects "BottleLoopModel" ({ cls := "BottleLoopModel", name := "buyCrates", desc := "(I)I" } : Jvm.MethodName) ({ cls := "BottleLoopModel", name := "buyCrates", desc := "(I)I" } : Jvm.MethodName)) ∈ lw_all := lw_g (lw_at lw_m8 169 rfl) rfl
theorem q1928 : (Jvm.Cond.code ({ cls := "BottleLoopModel", name := "buyCrates", desc := "(I)I" } : Jvm.MethodName) prog_23_method_17_code (2 : Nat) (Option.some Jvm.ClassFile.FieldType.int)) ∈ lw_all := lw_g (lw_at lw_m8 170 rfl) rfl
theorem q1929 : (Jvm.Cond.methodLink "BottleLoopModel" (60 : Nat) ({ cls := "BottleLoopModel", name := "cratesInShops", desc := "()I" } : Jvm.MethodName)) ∈ lw_all := lw_g (lw_at lw_m8 171 rfl) rfl
theorem q1930 : (Jvm.Cond.privateMethod ({ cls := "BottleLoopModel", name := "cratesInShops", desc := "()I" } : Jvm.MethodName)) ∈ lw_tbl := lw_at lw_m8 172 rfl
theorem q1931 : (Jvm.Cond.instanceMethod ({ cls := "BottleLoopModel", name := "cratesInShops", desc := "()I" } : Jvm.MethodName)) ∈ lw_all := lw_g (lw_at lw_m8 173 rfl) rfl
theorem q1932 : (Jvm.Cond.code ({ cls := "BottleLoopModel", name := "cratesInShops", desc := "()I" } : Jvm.MethodName) prog_23_method_16_code (3 : Nat) (Option.some Jvm.ClassFile.FieldType.int)) ∈ lw_all := lw_g (lw_at lw_m8 174 rfl) rfl
theorem q1933 : (Jvm.Cond.methodLink "BottleLoopModel" (57 : Nat) ({ cls := "BottleLoopModel", name := "ofShop", desc := "(II)I" } : Jvm.MethodName)) ∈ lw_all := lw_g (lw_at lw_m8 175 rfl) rfl
theorem q1934 : (Jvm.Cond.privateMethod ({ cls := "BottleLoopModel", name := "ofShop", desc := "(II)I" } : Jvm.MethodName)) ∈ lw_tbl := lw_at lw_m8 176 rfl
theorem q1935 : (Jvm.Cond.instanceMethod ({ cls := "BottleLoopModel", name := "ofShop", desc := "(II)I" } : Jvm.MethodName)) ∈ lw_all := lw_g (lw_at lw_m8 177 rfl) rfl
theorem q1936 : (Jvm.Cond.code ({ cls := "BottleLoopModel", name := "ofShop", desc := "(II)I" } : Jvm.MethodName) prog_23_method_11_code (3 : Nat) (Option.some Jvm.ClassFile.FieldType.int)) ∈ lw_all := lw_g (lw_at lw_m8 178 rfl) rfl
theorem q1938 : (Jvm.Cond.instanceMethod ({ cls := "BottleLoopModel", name := "set", desc := "(II)I" } : Jvm.MethodName)) ∈ lw_all := lw_g (lw_at lw_m8 180 rfl) rfl
theorem q1939 : (Jvm.Cond.selects "BottleLoopModel" ({ cls := "BottleLoopModel", name := "set", desc := "(II)I" } : Jvm.MethodName) ({ cls := "BottleLoopModel", name := "set", desc := "(II)I" } : Jvm.MethodName)) ∈ lw_all := lw_g (lw_at lw_m8 181 rfl) rfl
theorem q1940 : (Jvm.Cond.code ({ cls := "BottleLoopModel", name := "set", desc := "(II)I" } : Jvm.MethodName) prog_23_method_18_code (4 : Nat) (Option.some Jvm.ClassFile.FieldType.int)) ∈ lw_all := lw_g (lw_at lw_m8 182 rfl) rfl
theorem q1942 : (Jvm.Cond.instanceMethod ({ cls := "BottleLoopModel", name := "fill", desc := "(II)I" } : Jvm.MethodName)) ∈ lw_all := lw_g (lw_at lw_m8 184 rfl) rfl
theorem q1943 : (Jvm.Cond.selects "BottleLoopModel" ({ cls := "BottleLoopModel", name := "fill", desc := "(II)I" } : Jvm.MethodName) ({ cls := "BottleLoopModel", name := "fill", desc := "(II)I" } : Jvm.MethodName)) ∈ lw_all := lw_g (lw_at lw_m8 185 rfl) rfl
theorem q1944 : (Jvm.Cond.code ({ cls := "BottleLoopModel", name := "fill", desc := "(II)I" } : Jvm.MethodName) prog_23_method_36_code (3 : Nat) (Option.some Jvm.ClassFile.FieldType.int)) ∈ lw_all := lw_g (lw_at lw_m8 186 rfl) rfl
theorem q1945 : (Jvm.Cond.methodLink "BottleLoopModel" (85 : Nat) ({ cls := "BottleLoopModel", name := "isBrand", desc := "(I)Z" } : Jvm.MethodName)) ∈ lw_all := lw_g (lw_at lw_m8 187 rfl) rfl
theorem q1946 : (Jvm.Cond.privateMethod ({ cls := "BottleLoopModel", name := "isBrand", desc := "(I)Z" } : Jvm.MethodName)) ∈ lw_tbl := lw_at lw_m8 188 rfl
theorem q1947 : (Jvm.Cond.instanceMethod ({ cls := "BottleLoopModel", name := "isBrand", desc := "(I)Z" } : Jvm.MethodName)) ∈ lw_all := lw_g (lw_at lw_m8 189 rfl) rfl
theorem q1948 : (Jvm.Cond.code ({ cls := "BottleLoopModel", name := "isBrand", desc := "(I)Z" } : Jvm.MethodName) prog_23_method_6_code (2 : Nat) (Option.some Jvm.ClassFile.FieldType.boolean)) ∈ lw_all := lw_g (lw_at lw_m8 190 rfl) rfl
theorem q1949 : (Jvm.Cond.methodLink "BottleLoopModel" (46 : Nat) ({ cls := "BottleLoopModel", name := "of", desc := "(II)I" } : Jvm.MethodName)) ∈ lw_all := lw_g (lw_at lw_m8 191 rfl) rfl
theorem q1950 : (Jvm.Cond.privateMethod ({ cls := "BottleLoopModel", name := "of", desc := "(II)I" } : Jvm.MethodName)) ∈ lw_tbl := lw_at lw_m8 192 rfl
theorem q1951 : (Jvm.Cond.instanceMethod ({ cls := "BottleLoopModel", name := "of", desc := "(II)I" } : Jvm.MethodName)) ∈ lw_all := lw_g (lw_at lw_m8 193 rfl) rfl
theorem q1952 : (Jvm.Cond.code ({ cls := "BottleLoopModel", name := "of", desc := "(II)I" } : Jvm.MethodName) prog_23_method_10_code (3 : Nat) (Option.some Jvm.ClassFile.FieldType.int)) ∈ lw_all := lw_g (lw_at lw_m8 194 rfl) rfl
theorem q1953 : (Jvm.Cond.methodLink "BottleLoopModel" (89 : Nat) ({ cls := "BottleLoopModel", name := "fills", desc := "(II)I" } : Jvm.MethodName)) ∈ lw_all := lw_g (lw_at lw_m8 195 rfl) rfl
theorem q1954 : (Jvm.Cond.privateMethod ({ cls := "BottleLoopModel", name := "fills", desc := "(II)I" } : Jvm.MethodName)) ∈ lw_tbl := lw_at lw_m8 196 rfl
theorem q1955 : (Jvm.Cond.instanceMethod ({ cls := "BottleLoopModel", name := "fills", desc := "(II)I" } : Jvm.MethodName)) ∈ lw_all := lw_g (lw_at lw_m8 197 rfl) rfl
theorem q1956 : (Jvm.Cond.code ({ cls := "BottleLoopModel", name := "fills", desc := "(II)I" } : Jvm.MethodName) prog_23_method_20_code (4 : Nat) (Option.some Jvm.ClassFile.FieldType.int)) ∈ lw_all := lw_g (lw_at lw_m8 198 rfl) rfl
theorem q1957 : (Jvm.Cond.methodLink "BottleLoopModel" (64 : Nat) ({ cls := "BottleLoopModel", name := "full", desc := "(II)I" } : Jvm.MethodName)) ∈ lw_all := lw_g (lw_at lw_m8 199 rfl) rfl
theorem q1958 : (Jvm.Cond.privateMethod ({ cls := "BottleLoopModel", name := "full", desc := "(II)I" } : Jvm.MethodName)) ∈ lw_tbl := lw_at lw_m8 200 rfl
theorem q1959 : (Jvm.Cond.instanceMethod ({ cls := "BottleLoopModel", name := "full", desc := "(II)I" } : Jvm.MethodName)) ∈ lw_all := lw_g (lw_at lw_m8 201 rfl) rfl
theorem q1960 : (Jvm.Cond.code ({ cls := "BottleLoopModel", name := "full", desc := "(II)I" } : Jvm.MethodName) prog_23_method_19_code (4 : Nat) (Option.some Jvm.ClassFile.FieldType.int)) ∈ lw_all := lw_g (lw_at lw_m8 202 rfl) rfl
theorem q1962 : (Jvm.Cond.instanceMethod ({ cls := "BottleLoopModel", name := "deliver", desc := "(III)I" } : Jvm.MethodName)) ∈ lw_all := lw_g (lw_at lw_m8 204 rfl) rfl
theorem q1963 : (Jvm.Cond.selects "BottleLoopModel" ({ cls := "BottleLoopModel", name := "deliver", desc := "(III)I" } : Jvm.MethodName) ({ cls := "BottleLoopModel", name := "deliver", desc := "(III)I" } : Jvm.MethodName)) ∈ lw_all := lw_g (lw_at lw_m8 205 rfl) rfl
theorem q1964 : (Jvm.Cond.code ({ cls := "BottleLoopModel", name := "deliver", desc := "(III)I" } : Jvm.MethodName) prog_23_method_37_code (4 : Nat) (Option.some Jvm.ClassFile.FieldType.int)) ∈ lw_all := lw_g (lw_at lw_m8 206 rfl) rfl
theorem q1965 : (Jvm.Cond.methodLink "BottleLoopModel" (92 : Nat) ({ cls := "BottleLoopModel", name := "isShop", desc := "(I)Z" } : Jvm.MethodName)) ∈ lw_all := lw_g (lw_at lw_m8 207 rfl) rfl
theorem q1966 : (Jvm.Cond.privateMethod ({ cls := "BottleLoopModel", name := "isShop", desc := "(I)Z" } : Jvm.MethodName)) ∈ lw_tbl := lw_at lw_m8 208 rfl
theorem q1967 : (Jvm.Cond.instanceMethod ({ cls := "BottleLoopModel", name := "isShop", desc := "(I)Z" } : Jvm.MethodName)) ∈ lw_all := lw_g (lw_at lw_m8 209 rfl) rfl
theorem q1968 : (Jvm.Cond.code ({ cls := "BottleLoopModel", name := "isShop", desc := "(I)Z" } : Jvm.MethodName) prog_23_method_7_code (2 : Nat) (Option.some Jvm.ClassFile.FieldType.boolean)) ∈ lw_all := lw_g (lw_at lw_m8 210 rfl) rfl
theorem q1969 : (Jvm.Cond.methodLink "BottleLoopModel" (95 : Nat) ({ cls := "BottleLoopModel", name := "againstDeliver", desc := "(III)I" } : Jvm.MethodName)) ∈ lw_all := lw_g (lw_at lw_m8 211 rfl) rfl
theorem q1970 : (Jvm.Cond.privateMethod ({ cls := "BottleLoopModel", name := "againstDeliver", desc := "(III)I" } : Jvm.MethodName)) ∈ lw_tbl := lw_at lw_m8 212 rfl
theorem q1971 : (Jvm.Cond.instanceMethod ({ cls := "BottleLoopModel", name := "againstDeliver", desc := "(III)I" } : Jvm.MethodName)) ∈ lw_all := lw_g (lw_at lw_m8 213 rfl) rfl
theorem q1972 : (Jvm.Cond.code ({ cls := "BottleLoopModel", name := "againstDeliver", desc := "(III)I" } : Jvm.MethodName) prog_23_method_23_code (4 : Nat) (Option.some Jvm.ClassFile.FieldType.int)) ∈ lw_all := lw_g (lw_at lw_m8 214 rfl) rfl
theorem q1973 : (Jvm.Cond.methodLink "BottleLoopModel" (70 : Nat) ({ cls := "BottleLoopModel", name := "priceFor", desc := "(II)I" } : Jvm.MethodName)) ∈ lw_all := lw_g (lw_at lw_m8 215 rfl) rfl
theorem q1974 : (Jvm.Cond.privateMethod ({ cls := "BottleLoopModel", name := "priceFor", desc := "(II)I" } : Jvm.MethodName)) ∈ lw_tbl := lw_at lw_m8 216 rfl
theorem q1975 : (Jvm.Cond.instanceMethod ({ cls := "BottleLoopModel", name := "priceFor", desc := "(II)I" } : Jvm.MethodName)) ∈ lw_all := lw_g (lw_at lw_m8 217 rfl) rfl
theorem q1976 : (Jvm.Cond.code ({ cls := "BottleLoopModel", name := "priceFor", desc := "(II)I" } : Jvm.MethodName) prog_23_method_22_code (3 : Nat) (Option.some Jvm.ClassFile.FieldType.int)) ∈ lw_all := lw_g (lw_at lw_m8 218 rfl) rfl
theorem q1977 : (Jvm.Cond.methodLink "BottleLoopModel" (67 : Nat) ({ cls := "BottleLoopModel", name := "depositsFor", desc := "(II)I" } : Jvm.MethodName)) ∈ lw_all := lw_g (lw_at lw_m8 219 rfl) rfl
theorem q1978 : (Jvm.Cond.privateMethod ({ cls := "BottleLoopModel", name := "depositsFor", desc := "(II)I" } : Jvm.MethodName)) ∈ lw_tbl := lw_at lw_m8 220 rfl
theorem q1979 : (Jvm.Cond.instanceMethod ({ cls := "BottleLoopModel", name := "depositsFor", desc := "(II)I" } : Jvm.MethodName)) ∈ lw_all := lw_g (lw_at lw_m8 221 rfl) rfl
theorem q1980 : (Jvm.Cond.code ({ cls := "BottleLoopModel", name := "depositsFor", desc := "(II)I" } : Jvm.MethodName) prog_23_method_21_code (3 : Nat) (Option.some Jvm.ClassFile.FieldType.int)) ∈ lw_all := lw_g (lw_at lw_m8 222 rfl) rfl
theorem q1981 : (Jvm.Cond.methodLink "BottleLoopModel" (99 : Nat) ({ cls := "BottleLoopModel", name := "delivers", desc := "(III)I" } : Jvm.MethodName)) ∈ lw_all := lw_g (lw_at lw_m8 223 rfl) rfl
theorem q1982 : (Jvm.Cond.privateMethod ({ cls := "BottleLoopModel", name := "delivers", desc := "(III)I" } : Jvm.MethodName)) ∈ lw_tbl := lw_at lw_m8 224 rfl
theorem q1983 : (Jvm.Cond.instanceMethod ({ cls := "BottleLoopModel", name := "delivers", desc := "(III)I" } : Jvm.MethodName)) ∈ lw_all := lw_g (lw_at lw_m8 225 rfl) rfl
theorem q1984 : (Jvm.Cond.code ({ cls := "BottleLoopModel", name := "delivers", desc := "(III)I" } : Jvm.MethodName) prog_23_method_24_code (6 : Nat) (Option.some Jvm.ClassFile.FieldType.int)) ∈ lw_all := lw_g (lw_at lw_m8 226 rfl) rfl
theorem q1986 : (Jvm.Cond.instanceMethod ({ cls := "BottleLoopModel", name := "sell", desc := "(III)I" } : Jvm.MethodName)) ∈ lw_all := lw_g (lw_at lw_m8 228 rfl) rfl
theorem q1987 : (Jvm.Cond.selects "BottleLoopModel" ({ cls := "BottleLoopModel", name := "sell", desc := "(III)I" } : Jvm.MethodName) ({ cls := "BottleLoopModel", name := "sell", desc := "(III)I" } : Jvm.MethodName)) ∈ lw_all := lw_g (lw_at lw_m8 229 rfl) rfl
theorem q1988 : (Jvm.Cond.code ({ cls := "BottleLoopModel", name := "sell", desc := "(III)I" } : Jvm.MethodName) prog_23_method_38_code (4 : Nat) (Option.some Jvm.ClassFile.FieldType.int)) ∈ lw_all := lw_g (lw_at lw_m8 230 rfl) rfl
theorem q1989 : (Jvm.Cond.methodLink "BottleLoopModel" (102 : Nat) ({ cls := "BottleLoopModel", name := "againstSell", desc := "(III)I" } : Jvm.MethodName)) ∈ lw_all := lw_g (lw_at lw_m8 231 rfl) rfl
theorem q1990 : (Jvm.Cond.privateMethod ({ cls := "BottleLoopModel", name := "againstSell", desc := "(III)I" } : Jvm.MethodName)) ∈ lw_tbl := lw_at lw_m8 232 rfl
theorem q1991 : (Jvm.Cond.instanceMethod ({ cls := "BottleLoopModel", name := "againstSell", desc := "(III)I" } : Jvm.MethodName)) ∈ lw_all := lw_g (lw_at lw_m8 233 rfl) rfl
theorem q1992 : (Jvm.Cond.code ({ cls := "BottleLoopModel", name := "againstSell", desc := "(III)I" } : Jvm.MethodName) prog_23_method_25_code (4 : Nat) (Option.some Jvm.ClassFile.FieldType.int)) ∈ lw_all := lw_g (lw_at lw_m8 234 rfl) rfl
theorem q1993 : (Jvm.Cond.methodLink "BottleLoopModel" (105 : Nat) ({ cls := "BottleLoopModel", name := "sells", desc := "(III)I" } : Jvm.MethodName)) ∈ lw_all := lw_g (lw_at lw_m8 235 rfl) rfl
theorem q1994 : (Jvm.Cond.privateMethod ({ cls := "BottleLoopModel", name := "sells", desc := "(III)I" } : Jvm.MethodName)) ∈ lw_tbl := lw_at lw_m8 236 rfl
theorem q1995 : (Jvm.Cond.instanceMethod ({ cls := "BottleLoopModel", name := "sells", desc := "(III)I" } : Jvm.MethodName)) ∈ lw_all := lw_g (lw_at lw_m8 237 rfl) rfl
theorem q1996 : (Jvm.Cond.code ({ cls := "BottleLoopModel", name := "sells", desc := "(III)I" } : Jvm.MethodName) prog_23_method_26_code (4 : Nat) (Option.some Jvm.ClassFile.FieldType.int)) ∈ lw_all := lw_g (lw_at lw_m8 238 rfl) rfl
theorem q1997 : (Jvm.Cond.methodLink "BottleLoopModel" (73 : Nat) ({ cls := "BottleLoopModel", name := "deposit", desc := "(I)I" } : Jvm.MethodName)) ∈ lw_all := lw_g (lw_at lw_m8 239 rfl) rfl
theorem q1998 : (Jvm.Cond.privateMethod ({ cls := "BottleLoopModel", name := "deposit", desc := "(I)I" } : Jvm.MethodName)) ∈ lw_tbl := lw_at lw_m9 0 rfl
theorem q1999 : (Jvm.Cond.instanceMethod ({ cls := "BottleLoopModel", name := "deposit", desc := "(I)I" } : Jvm.MethodName)) ∈ lw_all := lw_g (lw_at lw_m9 1 rfl) rfl
theorem q2000 : (Jvm.Cond.code ({ cls := "BottleLoopModel", name := "deposit", desc := "(I)I" } : Jvm.MethodName) prog_23_method_12_code (2 : Nat) (Option.some Jvm.ClassFile.FieldType.int)) ∈ lw_all := lw_g (lw_at lw_m9 2 rfl) rfl
theorem q2002 : (Jvm.Cond.instanceMethod ({ cls := "BottleLoopModel", name := "takeBack", desc := "(III)I" } : Jvm.MethodName)) ∈ lw_all := lw_g (lw_at lw_m9 4 rfl) rfl
theorem q2003 : (Jvm.Cond.selects "BottleLoopModel" ({ cls := "BottleLoopModel", name := "takeBack", desc := "(III)I" } : Jvm.MethodName) ({ cls := "BottleLoopModel", name := "takeBack", desc := "(III)I" } : Jvm.MethodName)) ∈ lw_all := lw_g (lw_at lw_m9 5 rfl) rfl
theorem q2004 : (Jvm.Cond.code ({ cls := "BottleLoopModel", name := "takeBack", desc := "(III)I" } : Jvm.MethodName) prog_23_method_39_code (4 : Nat) (Option.some Jvm.ClassFile.FieldType.int)) ∈ lw_all := lw_g (lw_at lw_m9 6 rfl) rfl
theorem q2005 : (Jvm.Cond.methodLink "BottleLoopModel" (108 : Nat) ({ cls := "BottleLoopModel", name := "againstTakeBack", desc := "(III)I" } : Jvm.MethodName)) ∈ lw_all := lw_g (lw_at lw_m9 7 rfl) rfl
theorem q2006 : (Jvm.Cond.privateMethod ({ cls := "BottleLoopModel", name := "againstTakeBack", desc := "(III)I" } : Jvm.MethodName)) ∈ lw_tbl := lw_at lw_m9 8 rfl
theorem q2007 : (Jvm.Cond.instanceMethod ({ cls := "BottleLoopModel", name := "againstTakeBack", desc := "(III)I" } : Jvm.MethodName)) ∈ lw_all := lw_g (lw_at lw_m9 9 rfl) rfl
theorem q2008 : (Jvm.Cond.code ({ cls := "BottleLoopModel", name := "againstTakeBack", desc := "(III)I" } : Jvm.MethodName) prog_23_method_27_code (4 : Nat) (Option.some Jvm.ClassFile.FieldType.int)) ∈ lw_all := lw_g (lw_at lw_m9 10 rfl) rfl
theorem q2009 : (Jvm.Cond.methodLink "BottleLoopModel" (111 : Nat) ({ cls := "BottleLoopModel", name := "takesBack", desc := "(III)I" } : Jvm.MethodName)) ∈ lw_all := lw_g (lw_at lw_m9 11 rfl) rfl
theorem q2010 : (Jvm.Cond.privateMethod ({ cls := "BottleLoopModel", name := "takesBack", desc := "(III)I" } : Jvm.MethodName)) ∈ lw_tbl := lw_at lw_m9 12 rfl
theorem q2011 : (Jvm.Cond.instanceMethod ({ cls := "BottleLoopModel", name := "takesBack", desc := "(III)I" } : Jvm.MethodName)) ∈ lw_all := lw_g (lw_at lw_m9 13 rfl) rfl
theorem q2012 : (Jvm.Cond.code ({ cls := "BottleLoopModel", name := "takesBack", desc := "(III)I" } : Jvm.MethodName) prog_23_method_28_code (4 : Nat) (Option.some Jvm.ClassFile.FieldType.int)) ∈ lw_all := lw_g (lw_at lw_m9 14 rfl) rfl
theorem q2014 : (Jvm.Cond.instanceMethod ({ cls := "BottleLoopModel", name := "breaks", desc := "(III)I" } : Jvm.MethodName)) ∈ lw_all := lw_g (lw_at lw_m9 16 rfl) rfl
theorem q2015 : (Jvm.Cond.selects "BottleLoopModel" ({ cls := "BottleLoopModel", name := "breaks", desc := "(III)I" } : Jvm.MethodName) ({ cls := "BottleLoopModel", name := "breaks", desc := "(III)I" } : Jvm.MethodName)) ∈ lw_all := lw_g (lw_at lw_m9 17 rfl) rfl
theorem q2016 : (Jvm.Cond.code ({ cls := "BottleLoopModel", name := "breaks", desc := "(III)I" } : Jvm.MethodName) prog_23_method_40_code (4 : Nat) (Option.some Jvm.ClassFile.FieldType.int)) ∈ lw_all := lw_g (lw_at lw_m9 18 rfl) rfl
theorem q2017 : (Jvm.Cond.methodLink "BottleLoopModel" (114 : Nat) ({ cls := "BottleLoopModel", name := "againstBreak", desc := "(III)I" } : Jvm.MethodName)) ∈ lw_all := lw_g (lw_at lw_m9 19 rfl) rfl
theorem q2018 : (Jvm.Cond.privateMethod ({ cls := "BottleLoopModel", name := "againstBreak", desc := "(III)I" } : Jvm.MethodName)) ∈ lw_tbl := lw_at lw_m9 20 rfl
theorem q2019 : (Jvm.Cond.instanceMethod ({ cls := "BottleLoopModel", name := "againstBreak", desc := "(III)I" } : Jvm.MethodName)) ∈ lw_all := lw_g (lw_at lw_m9 21 rfl) rfl
theorem q2020 : (Jvm.Cond.code ({ cls := "BottleLoopModel", name := "againstBreak", desc := "(III)I" } : Jvm.MethodName) prog_23_method_29_code (4 : Nat) (Option.some Jvm.ClassFile.FieldType.int)) ∈ lw_all := lw_g (lw_at lw_m9 22 rfl) rfl
theorem q2021 : (Jvm.Cond.methodLink "BottleLoopModel" (117 : Nat) ({ cls := "BottleLoopModel", name := "breaksThem", desc := "(III)I" } : Jvm.MethodName)) ∈ lw_all := lw_g (lw_at lw_m9 23 rfl) rfl
theorem q2022 : (Jvm.Cond.privateMethod ({ cls := "BottleLoopModel", name := "breaksThem", desc := "(III)I" } : Jvm.MethodName)) ∈ lw_tbl := lw_at lw_m9 24 rfl
theorem q2023 : (Jvm.Cond.instanceMethod ({ cls := "BottleLoopModel", name := "breaksThem", desc := "(III)I" } : Jvm.MethodName)) ∈ lw_all := lw_g (lw_at lw_m9 25 rfl) rfl
theorem q2024 : (Jvm.Cond.code ({ cls := "BottleLoopModel", name := "breaksThem", desc := "(III)I" } : Jvm.MethodName) prog_23_method_30_code (6 : Nat) (Option.some Jvm.ClassFile.FieldType.int)) ∈ lw_all := lw_g (lw_at lw_m9 26 rfl) rfl
theorem q2025 : (Jvm.Cond.methodLink "BottleLoopModel" (76 : Nat) ({ cls := "BottleLoopModel", name := "least", desc := "(II)I" } : Jvm.MethodName)) ∈ lw_all := lw_g (lw_at lw_m9 27 rfl) rfl
theorem q2026 : (Jvm.Cond.static ({ cls := "BottleLoopModel", name := "least", desc := "(II)I" } : Jvm.MethodName)) ∈ lw_all := lw_g (lw_at lw_m9 28 rfl) rfl
theorem q2027 : (Jvm.Cond.code ({ cls := "BottleLoopModel", name := "least", desc := "(II)I" } : Jvm.MethodName) prog_23_method_13_code (2 : Nat) (Option.some Jvm.ClassFile.FieldType.int)) ∈ lw_all := lw_g (lw_at lw_m9 29 rfl) rfl
theorem q2029 : (Jvm.Cond.instanceMethod ({ cls := "BottleLoopModel", name := "lose", desc := "(II)I" } : Jvm.MethodName)) ∈ lw_all := lw_g (lw_at lw_m9 31 rfl) rfl
theorem q2030 : (Jvm.Cond.selects "BottleLoopModel" ({ cls := "BottleLoopModel", name := "lose", desc := "(II)I" } : Jvm.MethodName) ({ cls := "BottleLoopModel", name := "lose", desc := "(II)I" } : Jvm.MethodName)) ∈ lw_all := lw_g (lw_at lw_m9 32 rfl) rfl
theorem q2031 : (Jvm.Cond.code ({ cls := "BottleLoopModel", name := "lose", desc := "(II)I" } : Jvm.MethodName) prog_23_method_41_code (3 : Nat) (Option.some Jvm.ClassFile.FieldType.int)) ∈ lw_all := lw_g (lw_at lw_m9 33 rfl) rfl
theorem q2033 : (Jvm.Cond.instanceMethod ({ cls := "BottleLoopModel", name := "collect", desc := "(III)I" } : Jvm.MethodName)) ∈ lw_all := lw_g (lw_at lw_m9 35 rfl) rfl
theorem q2034 : (Jvm.Cond.selects "BottleLoopModel" ({ cls := "BottleLoopModel", name := "collect", desc := "(III)I" } : Jvm.MethodName) ({ cls := "BottleLoopModel", name := "collect", desc := "(III)I" } : Jvm.MethodName)) ∈ lw_all := lw_g (lw_at lw_m9 36 rfl) rfl
theorem q2035 : (Jvm.Cond.code ({ cls := "BottleLoopModel", name := "collect", desc := "(III)I" } : Jvm.MethodName) prog_23_method_42_code (4 : Nat) (Option.some Jvm.ClassFile.FieldType.int)) ∈ lw_all := lw_g (lw_at lw_m9 37 rfl) rfl
theorem q2036 : (Jvm.Cond.methodLink "BottleLoopModel" (120 : Nat) ({ cls := "BottleLoopModel", name := "againstCollect", desc := "(III)I" } : Jvm.MethodName)) ∈ lw_all := lw_g (lw_at lw_m9 38 rfl) rfl
theorem q2037 : (Jvm.Cond.privateMethod ({ cls := "BottleLoopModel", name := "againstCollect", desc := "(III)I" } : Jvm.MethodName)) ∈ lw_tbl := lw_at lw_m9 39 rfl
theorem q2038 : (Jvm.Cond.instanceMethod ({ cls := "BottleLoopModel", name := "againstCollect", desc := "(III)I" } : Jvm.MethodName)) ∈ lw_all := lw_g (lw_at lw_m9 40 rfl) rfl
theorem q2039 : (Jvm.Cond.code ({ cls := "BottleLoopModel", name := "againstCollect", desc := "(III)I" } : Jvm.MethodName) prog_23_method_32_code (4 : Nat) (Option.some Jvm.ClassFile.FieldType.int)) ∈ lw_all := lw_g (lw_at lw_m9 41 rfl) rfl
theorem q2040 : (Jvm.Cond.methodLink "BottleLoopModel" (79 : Nat) ({ cls := "BottleLoopModel", name := "emptiesOf", desc := "(II)I" } : Jvm.MethodName)) ∈ lw_all := lw_g (lw_at lw_m9 42 rfl) rfl
theorem q2041 : (Jvm.Cond.privateMethod ({ cls := "BottleLoopModel", name := "emptiesOf", desc := "(II)I" } : Jvm.MethodName)) ∈ lw_tbl := lw_at lw_m9 43 rfl
theorem q2042 : (Jvm.Cond.instanceMethod ({ cls := "BottleLoopModel", name := "emptiesOf", desc := "(II)I" } : Jvm.MethodName)) ∈ lw_all := lw_g (lw_at lw_m9 44 rfl) rfl
theorem q2043 : (Jvm.Cond.code ({ cls := "BottleLoopModel", name := "emptiesOf", desc := "(II)I" } : Jvm.MethodName) prog_23_method_31_code (5 : Nat) (Option.some Jvm.ClassFile.FieldType.int)) ∈ lw_all := lw_g (lw_at lw_m9 45 rfl) rfl
theorem q2044 : (Jvm.Cond.methodLink "BottleLoopModel" (123 : Nat) ({ cls := "BottleLoopModel", name := "collects", desc := "(III)I" } : Jvm.MethodName)) ∈ lw_all := lw_g (lw_at lw_m9 46 rfl) rfl
theorem q2045 : (Jvm.Cond.privateMethod ({ cls := "BottleLoopModel", name := "collects", desc := "(III)I" } : Jvm.MethodName)) ∈ lw_tbl := lw_at lw_m9 47 rfl
theorem q2046 : (Jvm.Cond.instanceMethod ({ cls := "BottleLoopModel", name := "collects", desc := "(III)I" } : Jvm.MethodName)) ∈ lw_all := lw_g (lw_at lw_m9 48 rfl) rfl
theorem q2047 : (Jvm.Cond.code ({ cls := "BottleLoopModel", name := "collects", desc := "(III)I" } : Jvm.MethodName) prog_23_method_34_code (6 : Nat) (Option.some Jvm.ClassFile.FieldType.int)) ∈ lw_all := lw_g (lw_at lw_m9 49 rfl) rfl
theorem q2048 : (Jvm.Cond.methodLink "BottleLoopModel" (82 : Nat) ({ cls := "BottleLoopModel", name := "mostEmpties", desc := "(II)I" } : Jvm.MethodName)) ∈ lw_all := lw_g (lw_at lw_m9 50 rfl) rfl
theorem q2049 : (Jvm.Cond.privateMethod ({ cls := "BottleLoopModel", name := "mostEmpties", desc := "(II)I" } : Jvm.MethodName)) ∈ lw_tbl := lw_at lw_m9 51 rfl
theorem q2050 : (Jvm.Cond.instanceMethod ({ cls := "BottleLoopModel", name := "mostEmpties", desc := "(II)I" } : Jvm.MethodName)) ∈ lw_all := lw_g (lw_at lw_m9 52 rfl) rfl
theorem q2051 : (Jvm.Cond.code ({ cls := "BottleLoopModel", name := "mostEmpties", desc := "(II)I" } : Jvm.MethodName) prog_23_method_33_code (6 : Nat) (Option.some Jvm.ClassFile.FieldType.int)) ∈ lw_all := lw_g (lw_at lw_m9 53 rfl) rfl
theorem q2053 : (Jvm.Cond.instanceMethod ({ cls := "BottleLoopModel", name := "sort", desc := "(II)I" } : Jvm.MethodName)) ∈ lw_all := lw_g (lw_at lw_m9 55 rfl) rfl
theorem q2054 : (Jvm.Cond.selects "BottleLoopModel" ({ cls := "BottleLoopModel", name := "sort", desc := "(II)I" } : Jvm.MethodName) ({ cls := "BottleLoopModel", name := "sort", desc := "(II)I" } : Jvm.MethodName)) ∈ lw_all := lw_g (lw_at lw_m9 56 rfl) rfl
theorem q2055 : (Jvm.Cond.code ({ cls := "BottleLoopModel", name := "sort", desc := "(II)I" } : Jvm.MethodName) prog_23_method_43_code (6 : Nat) (Option.some Jvm.ClassFile.FieldType.int)) ∈ lw_all := lw_g (lw_at lw_m9 57 rfl) rfl
theorem q2056 : (Jvm.Cond.methodLink "BottleLoopModel" (126 : Nat) ({ cls := "BottleLoopModel", name := "yardOf", desc := "(I)I" } : Jvm.MethodName)) ∈ lw_all := lw_g (lw_at lw_m9 58 rfl) rfl
theorem q2057 : (Jvm.Cond.privateMethod ({ cls := "BottleLoopModel", name := "yardOf", desc := "(I)I" } : Jvm.MethodName)) ∈ lw_tbl := lw_at lw_m9 59 rfl
theorem q2058 : (Jvm.Cond.instanceMethod ({ cls := "BottleLoopModel", name := "yardOf", desc := "(I)I" } : Jvm.MethodName)) ∈ lw_all := lw_g (lw_at lw_m9 60 rfl) rfl
theorem q2059 : (Jvm.Cond.code ({ cls := "BottleLoopModel", name := "yardOf", desc := "(I)I" } : Jvm.MethodName) prog_23_method_35_code (4 : Nat) (Option.some Jvm.ClassFile.FieldType.int)) ∈ lw_all := lw_g (lw_at lw_m9 61 rfl) rfl
theorem q2061 : (Jvm.Cond.instanceMethod ({ cls := "BottleLoopModel", name := "swap", desc := "(III)I" } : Jvm.MethodName)) ∈ lw_all := lw_g (lw_at lw_m9 63 rfl) rfl
theorem q2062 : (Jvm.Cond.selects "BottleLoopModel" ({ cls := "BottleLoopModel", name := "swap", desc := "(III)I" } : Jvm.MethodName) ({ cls := "BottleLoopModel", name := "swap", desc := "(III)I" } : Jvm.MethodName)) ∈ lw_all := lw_g (lw_at lw_m9 64 rfl) rfl
theorem q2063 : (Jvm.Cond.code ({ cls := "BottleLoopModel", name := "swap", desc := "(III)I" } : Jvm.MethodName) prog_23_method_44_code (4 : Nat) (Option.some Jvm.ClassFile.FieldType.int)) ∈ lw_all := lw_g (lw_at lw_m9 65 rfl) rfl
theorem q2065 : (Jvm.Cond.instanceMethod ({ cls := "BottleLoopModel", name := "append", desc := "(I)I" } : Jvm.MethodName)) ∈ lw_all := lw_g (lw_at lw_m9 67 rfl) rfl
theorem q2066 : (Jvm.Cond.selects "BottleLoopModel" ({ cls := "BottleLoopModel", name := "append", desc := "(I)I" } : Jvm.MethodName) ({ cls := "BottleLoopModel", name := "append", desc := "(I)I" } : Jvm.MethodName)) ∈ lw_all := lw_g (lw_at lw_m9 68 rfl) rfl
theorem q2067 : (Jvm.Cond.code ({ cls := "BottleLoopModel", name := "append", desc := "(I)I" } : Jvm.MethodName) prog_23_method_45_code (2 : Nat) (Option.some Jvm.ClassFile.FieldType.int)) ∈ lw_all := lw_g (lw_at lw_m9 69 rfl) rfl
theorem q2069 : (Jvm.Cond.instanceMethod ({ cls := "BottleLoopModel", name := "clearBuffer", desc := "()I" } : Jvm.MethodName)) ∈ lw_all := lw_g (lw_at lw_m9 71 rfl) rfl
theorem q2070 : (Jvm.Cond.selects "BottleLoopModel" ({ cls := "BottleLoopModel", name := "clearBuffer", desc := "()I" } : Jvm.MethodName) ({ cls := "BottleLoopModel", name := "clearBuffer", desc := "()I" } : Jvm.MethodName)) ∈ lw_all := lw_g (lw_at lw_m9 72 rfl) rfl
theorem q2071 : (Jvm.Cond.code ({ cls := "BottleLoopModel", name := "clearBuffer", desc := "()I" } : Jvm.MethodName) prog_23_method_46_code (2 : Nat) (Option.some Jvm.ClassFile.FieldType.int)) ∈ lw_all := lw_g (lw_at lw_m9 73 rfl) rfl
theorem q2073 : (Jvm.Cond.instanceMethod ({ cls := "BottleLoopModel", name := "firstError", desc := "()I" } : Jvm.MethodName)) ∈ lw_all := lw_g (lw_at lw_m9 75 rfl) rfl
theorem q2074 : (Jvm.Cond.selects "BottleLoopModel" ({ cls := "BottleLoopModel", name := "firstError", desc := "()I" } : Jvm.MethodName) ({ cls := "BottleLoopModel", name := "firstError", desc := "()I" } : Jvm.MethodName)) ∈ lw_all := lw_g (lw_at lw_m9 76 rfl) rfl
theorem q2075 : (Jvm.Cond.code ({ cls := "BottleLoopModel", name := "firstError", desc := "()I" } : Jvm.MethodName) prog_23_method_52_code (1 : Nat) (Option.some Jvm.ClassFile.FieldType.int)) ∈ lw_all := lw_g (lw_at lw_m9 77 rfl) rfl
theorem q2076 : (Jvm.Cond.methodLink "BottleLoopModel" (167 : Nat) ({ cls := "BottleLoopModel", name := "reads", desc := "()I" } : Jvm.MethodName)) ∈ lw_all := lw_g (lw_at lw_m9 78 rfl) rfl
theorem q2077 : (Jvm.Cond.privateMethod ({ cls := "BottleLoopModel", name := "reads", desc := "()I" } : Jvm.MethodName)) ∈ lw_tbl := lw_at lw_m9 79 rfl
theorem q2078 : (Jvm.Cond.instanceMethod ({ cls := "BottleLoopModel", name := "reads", desc := "()I" } : Jvm.MethodName)) ∈ lw_all := lw_g (lw_at lw_m9 80 rfl) rfl
theorem q2079 : (Jvm.Cond.code ({ cls := "BottleLoopModel", name := "reads", desc := "()I" } : Jvm.MethodName) prog_23_method_51_code (2 : Nat) (Option.some Jvm.ClassFile.FieldType.int)) ∈ lw_all := lw_g (lw_at lw_m9 81 rfl) rfl
theorem q2080 : (Jvm.Cond.methodLink "BottleLoopModel" (163 : Nat) ({ cls := "BottleLoopModel", name := "readOrder", desc := "()Z" } : Jvm.MethodName)) ∈ lw_all := lw_g (lw_at lw_m9 82 rfl) rfl
theorem q2081 : (Jvm.Cond.privateMethod ({ cls := "BottleLoopModel", name := "readOrder", desc := "()Z" } : Jvm.MethodName)) ∈ lw_tbl := lw_at lw_m9 83 rfl
theorem q2082 : (Jvm.Cond.instanceMethod ({ cls := "BottleLoopModel", name := "readOrder", desc := "()Z" } : Jvm.MethodName)) ∈ lw_all := lw_g (lw_at lw_m9 84 rfl) rfl
theorem q2083 : (Jvm.Cond.code ({ cls := "BottleLoopModel", name := "readOrder", desc := "()Z" } : Jvm.MethodName) prog_23_method_50_code (3 : Nat) (Option.some Jvm.ClassFile.FieldType.boolean)) ∈ lw_all := lw_g (lw_at lw_m9 85 rfl) rfl
theorem q2084 : (Jvm.Cond.methodLink "BottleLoopModel" (148 : Nat) ({ cls := "BottleLoopModel", name := "digitTo", desc := "(I)Z" } : Jvm.MethodName)) ∈ lw_all := lw_g (lw_at lw_m9 86 rfl) rfl
theorem q2085 : (Jvm.Cond.privateMethod ({ cls := "BottleLoopModel", name := "digitTo", desc := "(I)Z" } : Jvm.MethodName)) ∈ lw_tbl := lw_at lw_m9 87 rfl
theorem q2086 : (Jvm.Cond.instanceMethod ({ cls := "BottleLoopModel", name := "digitTo", desc := "(I)Z" } : Jvm.MethodName)) ∈ lw_all := lw_g (lw_at lw_m9 88 rfl) rfl
theorem q2087 : (Jvm.Cond.code ({ cls := "BottleLoopModel", name := "digitTo", desc := "(I)Z" } : Jvm.MethodName) prog_23_method_48_code (3 : Nat) (Option.some Jvm.ClassFile.FieldType.boolean)) ∈ lw_all := lw_g (lw_at lw_m9 89 rfl) rfl
theorem q2088 : (Jvm.Cond.methodLink "BottleLoopModel" (154 : Nat) ({ cls := "BottleLoopModel", name := "sign", desc := "(I)Z" } : Jvm.MethodName)) ∈ lw_all := lw_g (lw_at lw_m9 90 rfl) rfl
theorem q2089 : (Jvm.Cond.privateMethod ({ cls := "BottleLoopModel", name := "sign", desc := "(I)Z" } : Jvm.MethodName)) ∈ lw_tbl := lw_at lw_m9 91 rfl
theorem q2090 : (Jvm.Cond.instanceMethod ({ cls := "BottleLoopModel", name := "sign", desc := "(I)Z" } : Jvm.MethodName)) ∈ lw_all := lw_g (lw_at lw_m9 92 rfl) rfl
theorem q2091 : (Jvm.Cond.code ({ cls := "BottleLoopModel", name := "sign", desc := "(I)Z" } : Jvm.MethodName) prog_23_method_47_code (3 : Nat) (Option.some Jvm.ClassFile.FieldType.boolean)) ∈ lw_all := lw_g (lw_at lw_m9 93 rfl) rfl
theorem q2092 : (Jvm.Cond.methodLink "BottleLoopModel" (160 : Nat) ({ cls := "BottleLoopModel", name := "readNumber", desc := "(I)Z" } : Jvm.MethodName)) ∈ lw_all := lw_g (lw_at lw_m9 94 rfl) rfl
theorem q2093 : (Jvm.Cond.privateMethod ({ cls := "BottleLoopModel", name := "readNumber", desc := "(I)Z" } : Jvm.MethodName)) ∈ lw_tbl := lw_at lw_m9 95 rfl
theorem q2094 : (Jvm.Cond.instanceMethod ({ cls := "BottleLoopModel", name := "readNumber", desc := "(I)Z" } : Jvm.MethodName)) ∈ lw_all := lw_g (lw_at lw_m9 96 rfl) rfl
theorem q2095 : (Jvm.Cond.code ({ cls := "BottleLoopModel", name := "readNumber", desc := "(I)Z" } : Jvm.MethodName) prog_23_method_49_code (2 : Nat) (Option.some Jvm.ClassFile.FieldType.boolean)) ∈ lw_all := lw_g (lw_at lw_m9 97 rfl) rfl
theorem q2097 : (Jvm.Cond.instanceMethod ({ cls := "BottleLoopModel", name := "run", desc := "()I" } : Jvm.MethodName)) ∈ lw_all := lw_g (lw_at lw_m9 99 rfl) rfl
theorem q2098 : (Jvm.Cond.selects "BottleLoopModel" ({ cls := "BottleLoopModel", name := "run", desc := "()I" } : Jvm.MethodName) ({ cls := "BottleLoopModel", name := "run", desc := "()I" } : Jvm.MethodName)) ∈ lw_all := lw_g (lw_at lw_m9 100 rfl) rfl
theorem q2099 : (Jvm.Cond.code ({ cls := "BottleLoopModel", name := "run", desc := "()I" } : Jvm.MethodName) prog_23_method_55_code (3 : Nat) (Option.some Jvm.ClassFile.FieldType.int)) ∈ lw_all := lw_g (lw_at lw_m9 101 rfl) rfl
theorem q2100 : (Jvm.Cond.methodLink "BottleLoopModel" (170 : Nat) ({ cls := "BottleLoopModel", name := "againstOrder", desc := "()I" } : Jvm.MethodName)) ∈ lw_all := lw_g (lw_at lw_m9 102 rfl) rfl
theorem q2101 : (Jvm.Cond.privateMethod ({ cls := "BottleLoopModel", name := "againstOrder", desc := "()I" } : Jvm.MethodName)) ∈ lw_tbl := lw_at lw_m9 103 rfl
theorem q2102 : (Jvm.Cond.instanceMethod ({ cls := "BottleLoopModel", name := "againstOrder", desc := "()I" } : Jvm.MethodName)) ∈ lw_all := lw_g (lw_at lw_m9 104 rfl) rfl
theorem q2103 : (Jvm.Cond.code ({ cls := "BottleLoopModel", name := "againstOrder", desc := "()I" } : Jvm.MethodName) prog_23_method_53_code (4 : Nat) (Option.some Jvm.ClassFile.FieldType.int)) ∈ lw_all := lw_g (lw_at lw_m9 105 rfl) rfl
theorem q2104 : (Jvm.Cond.methodLink "BottleLoopModel" (173 : Nat) ({ cls := "BottleLoopModel", name := "doOrder", desc := "()V" } : Jvm.MethodName)) ∈ lw_all := lw_g (lw_at lw_m9 106 rfl) rfl
theorem q2105 : (Jvm.Cond.privateMethod ({ cls := "BottleLoopModel", name := "doOrder", desc := "()V" } : Jvm.MethodName)) ∈ lw_tbl := lw_at lw_m9 107 rfl
theorem q2106 : (Jvm.Cond.instanceMethod ({ cls := "BottleLoopModel", name := "doOrder", desc := "()V" } : Jvm.MethodName)) ∈ lw_all := lw_g (lw_at lw_m9 108 rfl) rfl
theorem q2107 : (Jvm.Cond.code ({ cls := "BottleLoopModel", name := "doOrder", desc := "()V" } : Jvm.MethodName) prog_23_method_54_code (1 : Nat) (Option.none : Option Jvm.ClassFile.FieldType)) ∈ lw_all := lw_g (lw_at lw_m9 109 rfl) rfl
theorem q2109 : (Jvm.Cond.instanceMethod ({ cls := "BottleLoopModel", name := "undo", desc := "()I" } : Jvm.MethodName)) ∈ lw_all := lw_g (lw_at lw_m9 111 rfl) rfl
theorem q2110 : (Jvm.Cond.selects "BottleLoopModel" ({ cls := "BottleLoopModel", name := "undo", desc := "()I" } : Jvm.MethodName) ({ cls := "BottleLoopModel", name := "undo", desc := "()I" } : Jvm.MethodName)) ∈ lw_all := lw_g (lw_at lw_m9 112 rfl) rfl
theorem q2111 : (Jvm.Cond.code ({ cls := "BottleLoopModel", name := "undo", desc := "()I" } : Jvm.MethodName) prog_23_method_56_code (2 : Nat) (Option.some Jvm.ClassFile.FieldType.int)) ∈ lw_all := lw_g (lw_at lw_m9 113 rfl) rfl
theorem q2113 : (Jvm.Cond.instanceMethod ({ cls := "BottleLoopModel", name := "brand", desc := "(II)I" } : Jvm.MethodName)) ∈ lw_all := lw_g (lw_at lw_m9 115 rfl) rfl
theorem q2114 : (Jvm.Cond.selects "BottleLoopModel" ({ cls := "BottleLoopModel", name := "brand", desc := "(II)I" } : Jvm.MethodName) ({ cls := "BottleLoopModel", name := "brand", desc := "(II)I" } : Jvm.MethodName)) ∈ lw_all := lw_g (lw_at lw_m9 116 rfl) rfl
theorem q2115 : (Jvm.Cond.code ({ cls := "BottleLoopModel", name := "brand", desc := "(II)I" } : Jvm.MethodName) prog_23_method_59_code (3 : Nat) (Option.some Jvm.ClassFile.FieldType.int)) ∈ lw_all := lw_g (lw_at lw_m9 117 rfl) rfl
theorem q2116 : (Jvm.Cond.methodLink "BottleLoopModel" (179 : Nat) ({ cls := "BottleLoopModel", name := "aboutBrand", desc := "(II)I" } : Jvm.MethodName)) ∈ lw_all := lw_g (lw_at lw_m9 118 rfl) rfl
theorem q2117 : (Jvm.Cond.privateMethod ({ cls := "BottleLoopModel", name := "aboutBrand", desc := "(II)I" } : Jvm.MethodName)) ∈ lw_tbl := lw_at lw_m9 119 rfl
theorem q2118 : (Jvm.Cond.instanceMethod ({ cls := "BottleLoopModel", name := "aboutBrand", desc := "(II)I" } : Jvm.MethodName)) ∈ lw_all := lw_g (lw_at lw_m9 120 rfl) rfl
theorem q2119 : (Jvm.Cond.code ({ cls := "BottleLoopModel", name := "aboutBrand", desc := "(II)I" } : Jvm.MethodName) prog_23_method_58_code (3 : Nat) (Option.some Jvm.ClassFile.FieldType.int)) ∈ lw_all := lw_g (lw_at lw_m9 121 rfl) rfl
theorem q2120 : (Jvm.Cond.methodLink "BottleLoopModel" (176 : Nat) ({ cls := "BottleLoopModel", name := "inShops", desc := "(II)I" } : Jvm.MethodName)) ∈ lw_all := lw_g (lw_at lw_m9 122 rfl) rfl
theorem q2121 : (Jvm.Cond.privateMethod ({ cls := "BottleLoopModel", name := "inShops", desc := "(II)I" } : Jvm.MethodName)) ∈ lw_tbl := lw_at lw_m9 123 rfl
theorem q2122 : (Jvm.Cond.instanceMethod ({ cls := "BottleLoopModel", name := "inShops", desc := "(II)I" } : Jvm.MethodName)) ∈ lw_all := lw_g (lw_at lw_m9 124 rfl) rfl
theorem q2123 : (Jvm.Cond.code ({ cls := "BottleLoopModel", name := "inShops", desc := "(II)I" } : Jvm.MethodName) prog_23_method_57_code (5 : Nat) (Option.some Jvm.ClassFile.FieldType.int)) ∈ lw_all := lw_g (lw_at lw_m9 125 rfl) rfl
theorem q2125 : (Jvm.Cond.instanceMethod ({ cls := "BottleLoopModel", name := "shop", desc := "(II)I" } : Jvm.MethodName)) ∈ lw_all := lw_g (lw_at lw_m9 127 rfl) rfl
theorem q2126 : (Jvm.Cond.selects "BottleLoopModel" ({ cls := "BottleLoopModel", name := "shop", desc := "(II)I" } : Jvm.MethodName) ({ cls := "BottleLoopModel", name := "shop", desc := "(II)I" } : Jvm.MethodName)) ∈ lw_all := lw_g (lw_at lw_m9 128 rfl) rfl
theorem q2127 : (Jvm.Cond.code ({ cls := "BottleLoopModel", name := "shop", desc := "(II)I" } : Jvm.MethodName) prog_23_method_62_code (3 : Nat) (Option.some Jvm.ClassFile.FieldType.int)) ∈ lw_all := lw_g (lw_at lw_m9 129 rfl) rfl
theorem q2128 : (Jvm.Cond.methodLink "BottleLoopModel" (185 : Nat) ({ cls := "BottleLoopModel", name := "aboutShop", desc := "(II)I" } : Jvm.MethodName)) ∈ lw_all := lw_g (lw_at lw_m9 130 rfl) rfl
theorem q2129 : (Jvm.Cond.privateMethod ({ cls := "BottleLoopModel", name := "aboutShop", desc := "(II)I" } : Jvm.MethodName)) ∈ lw_tbl := lw_at lw_m9 131 rfl
theorem q2130 : (Jvm.Cond.instanceMethod ({ cls := "BottleLoopModel", name := "aboutShop", desc := "(II)I" } : Jvm.MethodName)) ∈ lw_all := lw_g (lw_at lw_m9 132 rfl) rfl
theorem q2131 : (Jvm.Cond.code ({ cls := "BottleLoopModel", name := "aboutShop", desc := "(II)I" } : Jvm.MethodName) prog_23_method_61_code (3 : Nat) (Option.some Jvm.ClassFile.FieldType.int)) ∈ lw_all := lw_g (lw_at lw_m9 133 rfl) rfl
theorem q2132 : (Jvm.Cond.methodLink "BottleLoopModel" (182 : Nat) ({ cls := "BottleLoopModel", name := "sumOf", desc := "(II)I" } : Jvm.MethodName)) ∈ lw_all := lw_g (lw_at lw_m9 134 rfl) rfl
theorem q2133 : (Jvm.Cond.privateMethod ({ cls := "BottleLoopModel", name := "sumOf", desc := "(II)I" } : Jvm.MethodName)) ∈ lw_tbl := lw_at lw_m9 135 rfl
theorem q2134 : (Jvm.Cond.instanceMethod ({ cls := "BottleLoopModel", name := "sumOf", desc := "(II)I" } : Jvm.MethodName)) ∈ lw_all := lw_g (lw_at lw_m9 136 rfl) rfl
theorem q2135 : (Jvm.Cond.code ({ cls := "BottleLoopModel", name := "sumOf", desc := "(II)I" } : Jvm.MethodName) prog_23_method_60_code (5 : Nat) (Option.some Jvm.ClassFile.FieldType.int)) ∈ lw_all := lw_g (lw_at lw_m9 137 rfl) rfl
theorem q2137 : (Jvm.Cond.instanceMethod ({ cls := "BottleLoopModel", name := "count", desc := "(I)I" } : Jvm.MethodName)) ∈ lw_all := lw_g (lw_at lw_m9 139 rfl) rfl
theorem q2138 : (Jvm.Cond.selects "BottleLoopModel" ({ cls := "BottleLoopModel", name := "count", desc := "(I)I" } : Jvm.MethodName) ({ cls := "BottleLoopModel", name := "count", desc := "(I)I" } : Jvm.MethodName)) ∈ lw_all := lw_g (lw_at lw_m9 140 rfl) rfl
theorem q2139 : (Jvm.Cond.code ({ cls := "BottleLoopModel", name := "count", desc := "(I)I" } : Jvm.MethodName) prog_23_method_64_code (2 : Nat) (Option.some Jvm.ClassFile.FieldType.int)) ∈ lw_all := lw_g (lw_at lw_m9 141 rfl) rfl
theorem q2140 : (Jvm.Cond.methodLink "BottleLoopModel" (188 : Nat) ({ cls := "BottleLoopModel", name := "number", desc := "(I)I" } : Jvm.MethodName)) ∈ lw_all := lw_g (lw_at lw_m9 142 rfl) rfl
theorem q2141 : (Jvm.Cond.privateMethod ({ cls := "BottleLoopModel", name := "number", desc := "(I)I" } : Jvm.MethodName)) ∈ lw_tbl := lw_at lw_m9 143 rfl
theorem q2142 : (Jvm.Cond.instanceMethod ({ cls := "BottleLoopModel", name := "number", desc := "(I)I" } : Jvm.MethodName)) ∈ lw_all := lw_g (lw_at lw_m9 144 rfl) rfl
theorem q2143 : (Jvm.Cond.code ({ cls := "BottleLoopModel", name := "number", desc := "(I)I" } : Jvm.MethodName) prog_23_method_63_code (5 : Nat) (Option.some Jvm.ClassFile.FieldType.int)) ∈ lw_all := lw_g (lw_at lw_m9 145 rfl) rfl
theorem q2145 : (Jvm.Cond.instanceMethod ({ cls := "BottleLoopModel", name := "setting", desc := "(I)I" } : Jvm.MethodName)) ∈ lw_all := lw_g (lw_at lw_m9 147 rfl) rfl
theorem q2146 : (Jvm.Cond.selects "BottleLoopModel" ({ cls := "BottleLoopModel", name := "setting", desc := "(I)I" } : Jvm.MethodName) ({ cls := "BottleLoopModel", name := "setting", desc := "(I)I" } : Jvm.MethodName)) ∈ lw_all := lw_g (lw_at lw_m9 148 rfl) rfl
theorem q2147 : (Jvm.Cond.code ({ cls := "BottleLoopModel", name := "setting", desc := "(I)I" } : Jvm.MethodName) prog_23_method_65_code (2 : Nat) (Option.some Jvm.ClassFile.FieldType.int)) ∈ lw_all := lw_g (lw_at lw_m9 149 rfl) rfl
theorem q2149 : (Jvm.Cond.instanceMethod ({ cls := "BottleLoopModel", name := "whyNotDeliver", desc := "(III)I" } : Jvm.MethodName)) ∈ lw_all := lw_g (lw_at lw_m9 151 rfl) rfl
theorem q2150 : (Jvm.Cond.selects "BottleLoopModel" ({ cls := "BottleLoopModel", name := "whyNotDeliver", desc := "(III)I" } : Jvm.MethodName) ({ cls := "BottleLoopModel", name := "whyNotDeliver", desc := "(III)I" } : Jvm.MethodName)) ∈ lw_all := lw_g (lw_at lw_m9 152 rfl) rfl
theorem q2151 : (Jvm.Cond.code ({ cls := "BottleLoopModel", name := "whyNotDeliver", desc := "(III)I" } : Jvm.MethodName) prog_23_method_66_code (4 : Nat) (Option.some Jvm.ClassFile.FieldType.int)) ∈ lw_all := lw_g (lw_at lw_m9 153 rfl) rfl
theorem q2153 : (Jvm.Cond.instanceMethod ({ cls := "BottleLoopModel", name := "whyNotCollect", desc := "(III)I" } : Jvm.MethodName)) ∈ lw_all := lw_g (lw_at lw_m9 155 rfl) rfl
theorem q2154 : (Jvm.Cond.selects "BottleLoopModel" ({ cls := "BottleLoopModel", name := "whyNotCollect", desc := "(III)I" } : Jvm.MethodName) ({ cls := "BottleLoopModel", name := "whyNotCollect", desc := "(III)I" } : Jvm.MethodName)) ∈ lw_all := lw_g (lw_at lw_m9 156 rfl) rfl
theorem q2155 : (Jvm.Cond.code ({ cls := "BottleLoopModel", name := "whyNotCollect", desc := "(III)I" } : Jvm.MethodName) prog_23_method_67_code (4 : Nat) (Option.some Jvm.ClassFile.FieldType.int)) ∈ lw_all := lw_g (lw_at lw_m9 157 rfl) rfl
theorem q2157 : (Jvm.Cond.instanceMethod ({ cls := "BottleLoopModel", name := "mostCrates", desc := "(II)I" } : Jvm.MethodName)) ∈ lw_all := lw_g (lw_at lw_m9 159 rfl) rfl
theorem q2158 : (Jvm.Cond.selects "BottleLoopModel" ({ cls := "BottleLoopModel", name := "mostCrates", desc := "(II)I" } : Jvm.MethodName) ({ cls := "BottleLoopModel", name := "mostCrates", desc := "(II)I" } : Jvm.MethodName)) ∈ lw_all := lw_g (lw_at lw_m9 160 rfl) rfl
theorem q2159 : (Jvm.Cond.code ({ cls := "BottleLoopModel", name := "mostCrates", desc := "(II)I" } : Jvm.MethodName) prog_23_method_69_code (3 : Nat) (Option.some Jvm.ClassFile.FieldType.int)) ∈ lw_all := lw_g (lw_at lw_m9 161 rfl) rfl
theorem q2160 : (Jvm.Cond.methodLink "BottleLoopModel" (190 : Nat) ({ cls := "BottleLoopModel", name := "deliverable", desc := "(II)I" } : Jvm.MethodName)) ∈ lw_all := lw_g (lw_at lw_m9 162 rfl) rfl
theorem q2161 : (Jvm.Cond.privateMethod ({ cls := "BottleLoopModel", name := "deliverable", desc := "(II)I" } : Jvm.MethodName)) ∈ lw_tbl := lw_at lw_m9 163 rfl
theorem q2162 : (Jvm.Cond.instanceMethod ({ cls := "BottleLoopModel", name := "deliverable", desc := "(II)I" } : Jvm.MethodName)) ∈ lw_all := lw_g (lw_at lw_m9 164 rfl) rfl
theorem q2163 : (Jvm.Cond.code ({ cls := "BottleLoopModel", name := "deliverable", desc := "(II)I" } : Jvm.MethodName) prog_23_method_68_code (4 : Nat) (Option.some Jvm.ClassFile.FieldType.int)) ∈ lw_all := lw_g (lw_at lw_m9 165 rfl) rfl
theorem q2165 : (Jvm.Cond.instanceMethod ({ cls := "BottleLoopModel", name := "collected", desc := "(III)I" } : Jvm.MethodName)) ∈ lw_all := lw_g (lw_at lw_m9 167 rfl) rfl
theorem q2166 : (Jvm.Cond.selects "BottleLoopModel" ({ cls := "BottleLoopModel", name := "collected", desc := "(III)I" } : Jvm.MethodName) ({ cls := "BottleLoopModel", name := "collected", desc := "(III)I" } : Jvm.MethodName)) ∈ lw_all := lw_g (lw_at lw_m9 168 rfl) rfl
theorem q2167 : (Jvm.Cond.code ({ cls := "BottleLoopModel", name := "collected", desc := "(III)I" } : Jvm.MethodName) prog_23_method_71_code (4 : Nat) (Option.some Jvm.ClassFile.FieldType.int)) ∈ lw_all := lw_g (lw_at lw_m9 169 rfl) rfl
theorem q2168 : (Jvm.Cond.methodLink "BottleLoopModel" (193 : Nat) ({ cls := "BottleLoopModel", name := "wouldCollect", desc := "(III)I" } : Jvm.MethodName)) ∈ lw_all := lw_g (lw_at lw_m9 170 rfl) rfl
theorem q2169 : (Jvm.Cond.privateMethod ({ cls := "BottleLoopModel", name := "wouldCollect", desc := "(III)I" } : Jvm.MethodName)) ∈ lw_tbl := lw_at lw_m9 171 rfl
theorem q2170 : (Jvm.Cond.instanceMethod ({ cls := "BottleLoopModel", name := "wouldCollect", desc := "(III)I" } : Jvm.MethodName)) ∈ lw_all := lw_g (lw_at lw_m9 172 rfl) rfl
theorem q2171 : (Jvm.Cond.code ({ cls := "BottleLoopModel", name := "wouldCollect", desc := "(III)I" } : Jvm.MethodName) prog_23_method_70_code (7 : Nat) (Option.some Jvm.ClassFile.FieldType.int)) ∈ lw_all := lw_g (lw_at lw_m9 173 rfl) rfl
theorem q2173 : (Jvm.Cond.instanceMethod ({ cls := "BottleLoopModel", name := "filled", desc := "(II)I" } : Jvm.MethodName)) ∈ lw_all := lw_g (lw_at lw_m9 175 rfl) rfl
theorem q2174 : (Jvm.Cond.selects "BottleLoopModel" ({ cls := "BottleLoopModel", name := "filled", desc := "(II)I" } : Jvm.MethodName) ({ cls := "BottleLoopModel", name := "filled", desc := "(II)I" } : Jvm.MethodName)) ∈ lw_all := lw_g (lw_at lw_m9 176 rfl) rfl
theorem q2175 : (Jvm.Cond.code ({ cls := "BottleLoopModel", name := "filled", desc := "(II)I" } : Jvm.MethodName) prog_23_method_72_code (3 : Nat) (Option.some Jvm.ClassFile.FieldType.int)) ∈ lw_all := lw_g (lw_at lw_m9 177 rfl) rfl
theorem q2177 : (Jvm.Cond.instanceMethod ({ cls := "BottleLoopModel", name := "bestShop", desc := "(I)I" } : Jvm.MethodName)) ∈ lw_all := lw_g (lw_at lw_m9 179 rfl) rfl
theorem q2178 : (Jvm.Cond.selects "BottleLoopModel" ({ cls := "BottleLoopModel", name := "bestShop", desc := "(I)I" } : Jvm.MethodName) ({ cls := "BottleLoopModel", name := "bestShop", desc := "(I)I" } : Jvm.MethodName)) ∈ lw_all := lw_g (lw_at lw_m9 180 rfl) rfl
theorem q2179 : (Jvm.Cond.code ({ cls := "BottleLoopModel", name := "bestShop", desc := "(I)I" } : Jvm.MethodName) prog_23_method_74_code (2 : Nat) (Option.some Jvm.ClassFile.FieldType.int)) ∈ lw_all := lw_g (lw_at lw_m9 181 rfl) rfl
theorem q2180 : (Jvm.Cond.methodLink "BottleLoopModel" (196 : Nat) ({ cls := "BottleLoopModel", name := "shopFor", desc := "(I)I" } : Jvm.MethodName)) ∈ lw_all := lw_g (lw_at lw_m9 182 rfl) rfl
theorem q2181 : (Jvm.Cond.privateMethod ({ cls := "BottleLoopModel", name := "shopFor", desc := "(I)I" } : Jvm.MethodName)) ∈ lw_tbl := lw_at lw_m9 183 rfl
theorem q2182 : (Jvm.Cond.instanceMethod ({ cls := "BottleLoopModel", name := "shopFor", desc := "(I)I" } : Jvm.MethodName)) ∈ lw_all := lw_g (lw_at lw_m9 184 rfl) rfl
theorem q2183 : (Jvm.Cond.code ({ cls := "BottleLoopModel", name := "shopFor", desc := "(I)I" } : Jvm.MethodName) prog_23_method_73_code (6 : Nat) (Option.some Jvm.ClassFile.FieldType.int)) ∈ lw_all := lw_g (lw_at lw_m9 185 rfl) rfl
theorem q2185 : (Jvm.Cond.instanceMethod ({ cls := "BottleLoopModel", name := "goneShare", desc := "()D" } : Jvm.MethodName)) ∈ lw_all := lw_g (lw_at lw_m9 187 rfl) rfl
theorem q2186 : (Jvm.Cond.selects "BottleLoopModel" ({ cls := "BottleLoopModel", name := "goneShare", desc := "()D" } : Jvm.MethodName) ({ cls := "BottleLoopModel", name := "goneShare", desc := "()D" } : Jvm.MethodName)) ∈ lw_all := lw_g (lw_at lw_m9 188 rfl) rfl
theorem q2187 : (Jvm.Cond.code ({ cls := "BottleLoopModel", name := "goneShare", desc := "()D" } : Jvm.MethodName) prog_23_method_76_code (1 : Nat) (Option.some Jvm.ClassFile.FieldType.double)) ∈ lw_all := lw_g (lw_at lw_m9 189 rfl) rfl
theorem q2188 : (Jvm.Cond.methodLink "BottleLoopModel" (199 : Nat) ({ cls := "BottleLoopModel", name := "gone", desc := "()D" } : Jvm.MethodName)) ∈ lw_all := lw_g (lw_at lw_m9 190 rfl) rfl
theorem q2189 : (Jvm.Cond.privateMethod ({ cls := "BottleLoopModel", name := "gone", desc := "()D" } : Jvm.MethodName)) ∈ lw_tbl := lw_at lw_m9 191 rfl
theorem q2190 : (Jvm.Cond.instanceMethod ({ cls := "BottleLoopModel", name := "gone", desc := "()D" } : Jvm.MethodName)) ∈ lw_all := lw_g (lw_at lw_m9 192 rfl) rfl
theorem q2191 : (Jvm.Cond.code ({ cls := "BottleLoopModel", name := "gone", desc := "()D" } : Jvm.MethodName) prog_23_method_75_code (5 : Nat) (Option.some Jvm.ClassFile.FieldType.double)) ∈ lw_all := lw_g (lw_at lw_m9 193 rfl) rfl
theorem q2193 : (Jvm.Cond.instanceMethod ({ cls := "BottleLoopModel", name := "digest", desc := "()J" } : Jvm.MethodName)) ∈ lw_all := lw_g (lw_at lw_m9 195 rfl) rfl
theorem q2194 : (Jvm.Cond.selects "BottleLoopModel" ({ cls := "BottleLoopModel", name := "digest", desc := "()J" } : Jvm.MethodName) ({ cls := "BottleLoopModel", name := "digest", desc := "()J" } : Jvm.MethodName)) ∈ lw_all := lw_g (lw_at lw_m9 196 rfl) rfl
theorem q2195 : (Jvm.Cond.code ({ cls := "BottleLoopModel", name := "digest", desc := "()J" } : Jvm.MethodName) prog_23_method_77_code (5 : Nat) (Option.some Jvm.ClassFile.FieldType.long)) ∈ lw_all := lw_g (lw_at lw_m9 197 rfl) rfl
theorem q2196 : (Jvm.Cond.constantLong "BottleLoopModel" (203 : Nat) (2411 : Int64)) ∈ lw_all := lw_g (lw_at lw_m9 198 rfl) rfl
theorem q2197 : (Jvm.Cond.constantLong "BottleLoopModel" (205 : Nat) (31 : Int64)) ∈ lw_all := lw_g (lw_at lw_m9 199 rfl) rfl
theorem q2198 : (Jvm.Cond.methodLink "BottleLoopModel" (207 : Nat) ({ cls := "java/lang/Double", name := "doubleToLongBits", desc := "(D)J" } : Jvm.MethodName)) ∈ lw_all := lw_g (lw_at lw_m9 200 rfl) rfl
theorem q2234 : (Jvm.Cond.castable "BottleLoopModel" "java/lang/Object") ∈ lw_tbl := lw_at lw_m9 236 rfl
theorem in_X3 : ∀ w ∈ wsX30, w ∈ lw_all := lw_in wsX30 [1862, 1864, 1866, 1868, 1870, 1872, 1874, 1876, 1878, 1880, 1882, 1884, 1886, 1888, 1890, 1892] (by decide +kernel) (by decide +kernel)
