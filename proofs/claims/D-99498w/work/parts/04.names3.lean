/-! TollsForLateModel -/
set_option maxRecDepth 100000
def RX2 : String := "TollsForLateModel"
def TX2 : u_T := fun k => match k with
  | 0 => ("TollsForLateModel", "a", "[I", true)
  | 1 => ("TollsForLateModel", "image", "[I", true)
  | 2 => ("TollsForLateModel", "texts", "[I", true)
  | 3 => ("TollsForLateModel", "tape", "[I", true)
  | 4 => ("TollsForLateModel", "taped", "I", false)
  | 5 => ("TollsForLateModel", "fault", "I", false)
  | 6 => ("TollsForLateModel", "faultPlace", "I", false)
  | 7 => ("TollsForLateModel", "at", "I", false)
  | 8 => ("TollsForLateModel", "place", "I", false)
  | 9 => ("TollsForLateModel", "token", "I", false)
  | 10 => ("TollsForLateModel", "number", "I", false)
  | 11 => ("TollsForLateModel", "word", "J", false)
  | 12 => ("TollsForLateModel", "text0", "I", false)
  | 13 => ("TollsForLateModel", "written", "I", false)
  | 14 => ("TollsForLateModel", "sort0", "I", false)
  | 15 => ("TollsForLateModel", "pile", "[I", true)
  | 16 => ("TollsForLateModel", "piled", "I", false)
  | 17 => ("TollsForLateModel", "opens", "I", false)
  | 18 => ("TollsForLateModel", "isWhole", "Z", false)
  | 19 => ("TollsForLateModel", "once", "I", false)
  | 20 => ("TollsForLateModel", "named", "[I", true)
  | 21 => ("TollsForLateModel", "ringsAsked", "I", false)
  | 22 => ("TollsForLateModel", "values", "[J", true)
  | 23 => ("TollsForLateModel", "truth", "[Z", true)
  | 24 => ("TollsForLateModel", "isWritten", "Z", false)
  | 25 => ("TollsForLateModel", "lateOnes", "I", false)
  | 26 => ("TollsForLateModel", "aside", "[I", true)
  | 27 => ("TollsForLateModel", "leads", "[I", true)
  | 28 => ("TollsForLateModel", "raced", "[I", true)
  | 29 => ("TollsForLateModel", "days", "[I", true)
  | _ => ("TollsForLateModel", "asks", "[I", true)
def tyX2 : Nat → FieldType := fun k => match k with
  | 0 => .array .int
  | 1 => .array .int
  | 2 => .array .int
  | 3 => .array .int
  | 4 => .int
  | 5 => .int
  | 6 => .int
  | 7 => .int
  | 8 => .int
  | 9 => .int
  | 10 => .int
  | 11 => .long
  | 12 => .int
  | 13 => .int
  | 14 => .int
  | 15 => .array .int
  | 16 => .int
  | 17 => .int
  | 18 => .boolean
  | 19 => .int
  | 20 => .array .int
  | 21 => .int
  | 22 => .array .long
  | 23 => .array .boolean
  | 24 => .boolean
  | 25 => .int
  | 26 => .array .int
  | 27 => .array .int
  | 28 => .array .int
  | 29 => .array .int
  | _ => .array .int
abbrev wsX20 : List Cond := u_ws RX2 TX2 31
set_option maxRecDepth 100000 in
theorem nmX2 : ∀ a, a < 31 → ∀ b, b < 31 → a ≠ b → (TX2 a).2.1 ≠ (TX2 b).2.1 := by decide +kernel
set_option maxRecDepth 100000 in
theorem tyX2_ok : ∀ k, k < 31 → parseFieldDescriptor (TX2 k).2.2.1 = some (tyX2 k) := by decide +kernel
abbrev cX2_init : ByteArray := prog_21_method_1_code
def yX2_init : MethodName := ⟨RX2, "<init>", "()V"⟩
def dkwX2_init_8 : List UInt8 := [184, 0, 62, 177]
abbrev dktX2_init_8 : List UInt8 := dkwX2_init_8 ++ []
def dkwX2_init_7 : List UInt8 := [16, 67, 27, 96, 17, 0, 255, 79, 132, 1, 1, 167, 255, 235, 42, 180, 0, 7, 42, 180, 0, 13]
abbrev dktX2_init_7 : List UInt8 := dkwX2_init_7 ++ dktX2_init_8
def dkwX2_init_6 : List UInt8 := [17, 0, 229, 79, 42, 180, 0, 7, 5, 2, 79, 3, 60, 27, 16, 8, 162, 0, 21, 42, 180, 0, 7]
abbrev dktX2_init_6 : List UInt8 := dkwX2_init_6 ++ dktX2_init_7
def dkwX2_init_5 : List UInt8 := [17, 1, 0, 188, 10, 181, 0, 56, 42, 17, 16, 0, 188, 10, 181, 0, 59, 42, 180, 0, 7, 16, 9]
abbrev dktX2_init_5 : List UInt8 := dkwX2_init_5 ++ dktX2_init_6
def dkwX2_init_4 : List UInt8 := [181, 0, 47, 42, 17, 1, 0, 188, 10, 181, 0, 50, 42, 17, 1, 0, 188, 10, 181, 0, 53, 42]
abbrev dktX2_init_4 : List UInt8 := dkwX2_init_4 ++ dktX2_init_5
def dkwX2_init_3 : List UInt8 := [188, 11, 181, 0, 35, 42, 17, 1, 74, 188, 4, 181, 0, 39, 42, 4, 181, 0, 43, 42, 16, 67, 188, 10]
abbrev dktX2_init_3 : List UInt8 := dkwX2_init_3 ++ dktX2_init_4
def dkwX2_init_2 : List UInt8 := [181, 0, 26, 42, 17, 0, 160, 188, 10, 181, 0, 29, 42, 16, 10, 188, 10, 181, 0, 32, 42, 17, 1, 74]
abbrev dktX2_init_2 : List UInt8 := dkwX2_init_2 ++ dktX2_init_3
def dkwX2_init_1 : List UInt8 := [17, 11, 100, 188, 10, 181, 0, 16, 42, 17, 1, 44, 188, 10, 181, 0, 19, 42, 2, 181, 0, 22, 42, 2]
abbrev dktX2_init_1 : List UInt8 := dkwX2_init_1 ++ dktX2_init_2
def dkwX2_init_0 : List UInt8 := [42, 183, 0, 1, 42, 17, 11, 51, 188, 10, 181, 0, 7, 42, 17, 11, 51, 188, 10, 181, 0, 13, 42]
abbrev dktX2_init_0 : List UInt8 := dkwX2_init_0 ++ dktX2_init_1
theorem dksX2_init_0 : cX2_init.data.toList.drop 0 = dktX2_init_0 := by decide +kernel
theorem dksX2_init_1 : cX2_init.data.toList.drop 23 = dktX2_init_1 := dk_seg dksX2_init_0 23 rfl rfl
theorem dksX2_init_2 : cX2_init.data.toList.drop 47 = dktX2_init_2 := dk_seg dksX2_init_1 24 rfl rfl
theorem dksX2_init_3 : cX2_init.data.toList.drop 71 = dktX2_init_3 := dk_seg dksX2_init_2 24 rfl rfl
theorem dksX2_init_4 : cX2_init.data.toList.drop 95 = dktX2_init_4 := dk_seg dksX2_init_3 24 rfl rfl
theorem dksX2_init_5 : cX2_init.data.toList.drop 117 = dktX2_init_5 := dk_seg dksX2_init_4 22 rfl rfl
theorem dksX2_init_6 : cX2_init.data.toList.drop 140 = dktX2_init_6 := dk_seg dksX2_init_5 23 rfl rfl
theorem dksX2_init_7 : cX2_init.data.toList.drop 163 = dktX2_init_7 := dk_seg dksX2_init_6 23 rfl rfl
theorem dksX2_init_8 : cX2_init.data.toList.drop 185 = dktX2_init_8 := dk_seg dksX2_init_7 22 rfl rfl
theorem dX2_init_0 : decode cX2_init 0 = .ok (.aload_n 0, 1) := dk_42 (dk_at dksX2_init_0 0 rfl rfl)
theorem dX2_init_1 : decode cX2_init 1 = .ok (.invokespecial 1, 3) := dk_183 0 1 (dk_at dksX2_init_0 1 rfl rfl)
theorem dX2_init_4 : decode cX2_init 4 = .ok (.aload_n 0, 1) := dk_42 (dk_at dksX2_init_0 4 rfl rfl)
theorem dX2_init_5 : decode cX2_init 5 = .ok (.sipush 2867, 3) := dk_17 11 51 (dk_at dksX2_init_0 5 rfl rfl)
theorem dX2_init_8 : decode cX2_init 8 = .ok (.newarray .int, 2) := dk_188_10 (dk_at dksX2_init_0 8 rfl rfl)
theorem dX2_init_10 : decode cX2_init 10 = .ok (.putfield 7, 3) := dk_181 0 7 (dk_at dksX2_init_0 10 rfl rfl)
theorem dX2_init_13 : decode cX2_init 13 = .ok (.aload_n 0, 1) := dk_42 (dk_at dksX2_init_0 13 rfl rfl)
theorem dX2_init_14 : decode cX2_init 14 = .ok (.sipush 2867, 3) := dk_17 11 51 (dk_at dksX2_init_0 14 rfl rfl)
theorem dX2_init_17 : decode cX2_init 17 = .ok (.newarray .int, 2) := dk_188_10 (dk_at dksX2_init_0 17 rfl rfl)
theorem dX2_init_19 : decode cX2_init 19 = .ok (.putfield 13, 3) := dk_181 0 13 (dk_at dksX2_init_0 19 rfl rfl)
theorem dX2_init_22 : decode cX2_init 22 = .ok (.aload_n 0, 1) := dk_42 (dk_at dksX2_init_0 22 rfl rfl)
theorem dX2_init_23 : decode cX2_init 23 = .ok (.sipush 2916, 3) := dk_17 11 100 (dk_at dksX2_init_1 0 rfl rfl)
theorem dX2_init_26 : decode cX2_init 26 = .ok (.newarray .int, 2) := dk_188_10 (dk_at dksX2_init_1 3 rfl rfl)
theorem dX2_init_28 : decode cX2_init 28 = .ok (.putfield 16, 3) := dk_181 0 16 (dk_at dksX2_init_1 5 rfl rfl)
theorem dX2_init_31 : decode cX2_init 31 = .ok (.aload_n 0, 1) := dk_42 (dk_at dksX2_init_1 8 rfl rfl)
theorem dX2_init_32 : decode cX2_init 32 = .ok (.sipush 300, 3) := dk_17 1 44 (dk_at dksX2_init_1 9 rfl rfl)
theorem dX2_init_35 : decode cX2_init 35 = .ok (.newarray .int, 2) := dk_188_10 (dk_at dksX2_init_1 12 rfl rfl)
theorem dX2_init_37 : decode cX2_init 37 = .ok (.putfield 19, 3) := dk_181 0 19 (dk_at dksX2_init_1 14 rfl rfl)
theorem dX2_init_40 : decode cX2_init 40 = .ok (.aload_n 0, 1) := dk_42 (dk_at dksX2_init_1 17 rfl rfl)
theorem dX2_init_41 : decode cX2_init 41 = .ok (.iconst (-1), 1) := dk_2 (dk_at dksX2_init_1 18 rfl rfl)
theorem dX2_init_42 : decode cX2_init 42 = .ok (.putfield 22, 3) := dk_181 0 22 (dk_at dksX2_init_1 19 rfl rfl)
theorem dX2_init_45 : decode cX2_init 45 = .ok (.aload_n 0, 1) := dk_42 (dk_at dksX2_init_1 22 rfl rfl)
theorem dX2_init_46 : decode cX2_init 46 = .ok (.iconst (-1), 1) := dk_2 (dk_at dksX2_init_1 23 rfl rfl)
theorem dX2_init_47 : decode cX2_init 47 = .ok (.putfield 26, 3) := dk_181 0 26 (dk_at dksX2_init_2 0 rfl rfl)
theorem dX2_init_50 : decode cX2_init 50 = .ok (.aload_n 0, 1) := dk_42 (dk_at dksX2_init_2 3 rfl rfl)
theorem dX2_init_51 : decode cX2_init 51 = .ok (.sipush 160, 3) := dk_17 0 160 (dk_at dksX2_init_2 4 rfl rfl)
theorem dX2_init_54 : decode cX2_init 54 = .ok (.newarray .int, 2) := dk_188_10 (dk_at dksX2_init_2 7 rfl rfl)
theorem dX2_init_56 : decode cX2_init 56 = .ok (.putfield 29, 3) := dk_181 0 29 (dk_at dksX2_init_2 9 rfl rfl)
theorem dX2_init_59 : decode cX2_init 59 = .ok (.aload_n 0, 1) := dk_42 (dk_at dksX2_init_2 12 rfl rfl)
theorem dX2_init_60 : decode cX2_init 60 = .ok (.bipush 10, 2) := dk_16 10 (dk_at dksX2_init_2 13 rfl rfl)
theorem dX2_init_62 : decode cX2_init 62 = .ok (.newarray .int, 2) := dk_188_10 (dk_at dksX2_init_2 15 rfl rfl)
theorem dX2_init_64 : decode cX2_init 64 = .ok (.putfield 32, 3) := dk_181 0 32 (dk_at dksX2_init_2 17 rfl rfl)
theorem dX2_init_67 : decode cX2_init 67 = .ok (.aload_n 0, 1) := dk_42 (dk_at dksX2_init_2 20 rfl rfl)
theorem dX2_init_68 : decode cX2_init 68 = .ok (.sipush 330, 3) := dk_17 1 74 (dk_at dksX2_init_2 21 rfl rfl)
theorem dX2_init_71 : decode cX2_init 71 = .ok (.newarray .long, 2) := dk_188_11 (dk_at dksX2_init_3 0 rfl rfl)
theorem dX2_init_73 : decode cX2_init 73 = .ok (.putfield 35, 3) := dk_181 0 35 (dk_at dksX2_init_3 2 rfl rfl)
theorem dX2_init_76 : decode cX2_init 76 = .ok (.aload_n 0, 1) := dk_42 (dk_at dksX2_init_3 5 rfl rfl)
theorem dX2_init_77 : decode cX2_init 77 = .ok (.sipush 330, 3) := dk_17 1 74 (dk_at dksX2_init_3 6 rfl rfl)
theorem dX2_init_80 : decode cX2_init 80 = .ok (.newarray .boolean, 2) := dk_188_4 (dk_at dksX2_init_3 9 rfl rfl)
theorem dX2_init_82 : decode cX2_init 82 = .ok (.putfield 39, 3) := dk_181 0 39 (dk_at dksX2_init_3 11 rfl rfl)
theorem dX2_init_85 : decode cX2_init 85 = .ok (.aload_n 0, 1) := dk_42 (dk_at dksX2_init_3 14 rfl rfl)
theorem dX2_init_86 : decode cX2_init 86 = .ok (.iconst 1, 1) := dk_4 (dk_at dksX2_init_3 15 rfl rfl)
theorem dX2_init_87 : decode cX2_init 87 = .ok (.putfield 43, 3) := dk_181 0 43 (dk_at dksX2_init_3 16 rfl rfl)
theorem dX2_init_90 : decode cX2_init 90 = .ok (.aload_n 0, 1) := dk_42 (dk_at dksX2_init_3 19 rfl rfl)
theorem dX2_init_91 : decode cX2_init 91 = .ok (.bipush 67, 2) := dk_16 67 (dk_at dksX2_init_3 20 rfl rfl)
theorem dX2_init_93 : decode cX2_init 93 = .ok (.newarray .int, 2) := dk_188_10 (dk_at dksX2_init_3 22 rfl rfl)
theorem dX2_init_95 : decode cX2_init 95 = .ok (.putfield 47, 3) := dk_181 0 47 (dk_at dksX2_init_4 0 rfl rfl)
theorem dX2_init_98 : decode cX2_init 98 = .ok (.aload_n 0, 1) := dk_42 (dk_at dksX2_init_4 3 rfl rfl)
theorem dX2_init_99 : decode cX2_init 99 = .ok (.sipush 256, 3) := dk_17 1 0 (dk_at dksX2_init_4 4 rfl rfl)
theorem dX2_init_102 : decode cX2_init 102 = .ok (.newarray .int, 2) := dk_188_10 (dk_at dksX2_init_4 7 rfl rfl)
theorem dX2_init_104 : decode cX2_init 104 = .ok (.putfield 50, 3) := dk_181 0 50 (dk_at dksX2_init_4 9 rfl rfl)
theorem dX2_init_107 : decode cX2_init 107 = .ok (.aload_n 0, 1) := dk_42 (dk_at dksX2_init_4 12 rfl rfl)
theorem dX2_init_108 : decode cX2_init 108 = .ok (.sipush 256, 3) := dk_17 1 0 (dk_at dksX2_init_4 13 rfl rfl)
theorem dX2_init_111 : decode cX2_init 111 = .ok (.newarray .int, 2) := dk_188_10 (dk_at dksX2_init_4 16 rfl rfl)
theorem dX2_init_113 : decode cX2_init 113 = .ok (.putfield 53, 3) := dk_181 0 53 (dk_at dksX2_init_4 18 rfl rfl)
theorem dX2_init_116 : decode cX2_init 116 = .ok (.aload_n 0, 1) := dk_42 (dk_at dksX2_init_4 21 rfl rfl)
theorem dX2_init_117 : decode cX2_init 117 = .ok (.sipush 256, 3) := dk_17 1 0 (dk_at dksX2_init_5 0 rfl rfl)
theorem dX2_init_120 : decode cX2_init 120 = .ok (.newarray .int, 2) := dk_188_10 (dk_at dksX2_init_5 3 rfl rfl)
theorem dX2_init_122 : decode cX2_init 122 = .ok (.putfield 56, 3) := dk_181 0 56 (dk_at dksX2_init_5 5 rfl rfl)
theorem dX2_init_125 : decode cX2_init 125 = .ok (.aload_n 0, 1) := dk_42 (dk_at dksX2_init_5 8 rfl rfl)
theorem dX2_init_126 : decode cX2_init 126 = .ok (.sipush 4096, 3) := dk_17 16 0 (dk_at dksX2_init_5 9 rfl rfl)
theorem dX2_init_129 : decode cX2_init 129 = .ok (.newarray .int, 2) := dk_188_10 (dk_at dksX2_init_5 12 rfl rfl)
theorem dX2_init_131 : decode cX2_init 131 = .ok (.putfield 59, 3) := dk_181 0 59 (dk_at dksX2_init_5 14 rfl rfl)
theorem dX2_init_134 : decode cX2_init 134 = .ok (.aload_n 0, 1) := dk_42 (dk_at dksX2_init_5 17 rfl rfl)
theorem dX2_init_135 : decode cX2_init 135 = .ok (.getfield 7, 3) := dk_180 0 7 (dk_at dksX2_init_5 18 rfl rfl)
theorem dX2_init_138 : decode cX2_init 138 = .ok (.bipush 9, 2) := dk_16 9 (dk_at dksX2_init_5 21 rfl rfl)
theorem dX2_init_140 : decode cX2_init 140 = .ok (.sipush 229, 3) := dk_17 0 229 (dk_at dksX2_init_6 0 rfl rfl)
theorem dX2_init_143 : decode cX2_init 143 = .ok (.iastore, 1) := dk_79 (dk_at dksX2_init_6 3 rfl rfl)
theorem dX2_init_144 : decode cX2_init 144 = .ok (.aload_n 0, 1) := dk_42 (dk_at dksX2_init_6 4 rfl rfl)
theorem dX2_init_145 : decode cX2_init 145 = .ok (.getfield 7, 3) := dk_180 0 7 (dk_at dksX2_init_6 5 rfl rfl)
theorem dX2_init_148 : decode cX2_init 148 = .ok (.iconst 2, 1) := dk_5 (dk_at dksX2_init_6 8 rfl rfl)
theorem dX2_init_149 : decode cX2_init 149 = .ok (.iconst (-1), 1) := dk_2 (dk_at dksX2_init_6 9 rfl rfl)
theorem dX2_init_150 : decode cX2_init 150 = .ok (.iastore, 1) := dk_79 (dk_at dksX2_init_6 10 rfl rfl)
theorem dX2_init_151 : decode cX2_init 151 = .ok (.iconst 0, 1) := dk_3 (dk_at dksX2_init_6 11 rfl rfl)
theorem dX2_init_152 : decode cX2_init 152 = .ok (.istore_n 1, 1) := dk_60 (dk_at dksX2_init_6 12 rfl rfl)
theorem dX2_init_153 : decode cX2_init 153 = .ok (.iload_n 1, 1) := dk_27 (dk_at dksX2_init_6 13 rfl rfl)
theorem dX2_init_154 : decode cX2_init 154 = .ok (.bipush 8, 2) := dk_16 8 (dk_at dksX2_init_6 14 rfl rfl)
theorem dX2_init_156 : decode cX2_init 156 = .ok (.if_icmp .ge 21, 3) := dk_162 0 21 (dk_at dksX2_init_6 16 rfl rfl)
theorem dX2_init_159 : decode cX2_init 159 = .ok (.aload_n 0, 1) := dk_42 (dk_at dksX2_init_6 19 rfl rfl)
theorem dX2_init_160 : decode cX2_init 160 = .ok (.getfield 7, 3) := dk_180 0 7 (dk_at dksX2_init_6 20 rfl rfl)
theorem dX2_init_163 : decode cX2_init 163 = .ok (.bipush 67, 2) := dk_16 67 (dk_at dksX2_init_7 0 rfl rfl)
theorem dX2_init_165 : decode cX2_init 165 = .ok (.iload_n 1, 1) := dk_27 (dk_at dksX2_init_7 2 rfl rfl)
theorem dX2_init_166 : decode cX2_init 166 = .ok (.iadd, 1) := dk_96 (dk_at dksX2_init_7 3 rfl rfl)
theorem dX2_init_167 : decode cX2_init 167 = .ok (.sipush 255, 3) := dk_17 0 255 (dk_at dksX2_init_7 4 rfl rfl)
theorem dX2_init_170 : decode cX2_init 170 = .ok (.iastore, 1) := dk_79 (dk_at dksX2_init_7 7 rfl rfl)
theorem dX2_init_171 : decode cX2_init 171 = .ok (.iinc 1 1, 3) := dk_132 1 1 (dk_at dksX2_init_7 8 rfl rfl)
theorem dX2_init_174 : decode cX2_init 174 = .ok (.goto (-21), 3) := dk_167 255 235 (dk_at dksX2_init_7 11 rfl rfl)
theorem dX2_init_177 : decode cX2_init 177 = .ok (.aload_n 0, 1) := dk_42 (dk_at dksX2_init_7 14 rfl rfl)
theorem dX2_init_178 : decode cX2_init 178 = .ok (.getfield 7, 3) := dk_180 0 7 (dk_at dksX2_init_7 15 rfl rfl)
theorem dX2_init_181 : decode cX2_init 181 = .ok (.aload_n 0, 1) := dk_42 (dk_at dksX2_init_7 18 rfl rfl)
theorem dX2_init_182 : decode cX2_init 182 = .ok (.getfield 13, 3) := dk_180 0 13 (dk_at dksX2_init_7 19 rfl rfl)
theorem dX2_init_185 : decode cX2_init 185 = .ok (.invokestatic 62, 3) := dk_184 0 62 (dk_at dksX2_init_8 0 rfl rfl)
theorem dX2_init_188 : decode cX2_init 188 = .ok (.return_, 1) := dk_177 (dk_at dksX2_init_8 3 rfl rfl)
abbrev cX2_copy : ByteArray := prog_21_method_2_code
def yX2_copy : MethodName := ⟨RX2, "copy", "([I[I)V"⟩
def dkwX2_copy_0 : List UInt8 := [3, 61, 28, 17, 11, 51, 162, 0, 15, 43, 28, 42, 28, 46, 79, 132, 2, 1, 167, 255, 240, 177]
abbrev dktX2_copy_0 : List UInt8 := dkwX2_copy_0 ++ []
theorem dksX2_copy_0 : cX2_copy.data.toList.drop 0 = dktX2_copy_0 := by decide +kernel
theorem dX2_copy_0 : decode cX2_copy 0 = .ok (.iconst 0, 1) := dk_3 (dk_at dksX2_copy_0 0 rfl rfl)
theorem dX2_copy_1 : decode cX2_copy 1 = .ok (.istore_n 2, 1) := dk_61 (dk_at dksX2_copy_0 1 rfl rfl)
theorem dX2_copy_2 : decode cX2_copy 2 = .ok (.iload_n 2, 1) := dk_28 (dk_at dksX2_copy_0 2 rfl rfl)
theorem dX2_copy_3 : decode cX2_copy 3 = .ok (.sipush 2867, 3) := dk_17 11 51 (dk_at dksX2_copy_0 3 rfl rfl)
theorem dX2_copy_6 : decode cX2_copy 6 = .ok (.if_icmp .ge 15, 3) := dk_162 0 15 (dk_at dksX2_copy_0 6 rfl rfl)
theorem dX2_copy_9 : decode cX2_copy 9 = .ok (.aload_n 1, 1) := dk_43 (dk_at dksX2_copy_0 9 rfl rfl)
theorem dX2_copy_10 : decode cX2_copy 10 = .ok (.iload_n 2, 1) := dk_28 (dk_at dksX2_copy_0 10 rfl rfl)
theorem dX2_copy_11 : decode cX2_copy 11 = .ok (.aload_n 0, 1) := dk_42 (dk_at dksX2_copy_0 11 rfl rfl)
theorem dX2_copy_12 : decode cX2_copy 12 = .ok (.iload_n 2, 1) := dk_28 (dk_at dksX2_copy_0 12 rfl rfl)
theorem dX2_copy_13 : decode cX2_copy 13 = .ok (.iaload, 1) := dk_46 (dk_at dksX2_copy_0 13 rfl rfl)
theorem dX2_copy_14 : decode cX2_copy 14 = .ok (.iastore, 1) := dk_79 (dk_at dksX2_copy_0 14 rfl rfl)
theorem dX2_copy_15 : decode cX2_copy 15 = .ok (.iinc 2 1, 3) := dk_132 2 1 (dk_at dksX2_copy_0 15 rfl rfl)
theorem dX2_copy_18 : decode cX2_copy 18 = .ok (.goto (-16), 3) := dk_167 255 240 (dk_at dksX2_copy_0 18 rfl rfl)
theorem dX2_copy_21 : decode cX2_copy 21 = .ok (.return_, 1) := dk_177 (dk_at dksX2_copy_0 21 rfl rfl)
abbrev cX2_person : ByteArray := prog_21_method_13_code
def yX2_person : MethodName := ⟨RX2, "person", "(IIII)I"⟩
def dkwX2_person_4 : List UInt8 := [182, 0, 78, 42, 21, 5, 182, 0, 82, 42, 180, 0, 7, 3, 92, 46, 4, 96, 79, 21, 5, 172]
abbrev dktX2_person_4 : List UInt8 := dkwX2_person_4 ++ []
def dkwX2_person_3 : List UInt8 := [21, 5, 7, 28, 182, 0, 78, 42, 21, 5, 8, 29, 182, 0, 78, 42, 21, 5, 16, 6, 21, 4]
abbrev dktX2_person_3 : List UInt8 := dkwX2_person_3 ++ dktX2_person_4
def dkwX2_person_2 : List UInt8 := [16, 8, 160, 0, 5, 2, 172, 42, 180, 0, 7, 3, 46, 54, 5, 42, 21, 5, 6, 27, 182, 0, 78, 42]
abbrev dktX2_person_2 : List UInt8 := dkwX2_person_2 ++ dktX2_person_3
def dkwX2_person_1 : List UInt8 := [184, 0, 66, 153, 0, 25, 21, 4, 3, 16, 99, 184, 0, 66, 153, 0, 14, 42, 180, 0, 7, 3, 46]
abbrev dktX2_person_1 : List UInt8 := dkwX2_person_1 ++ dktX2_person_2
def dkwX2_person_0 : List UInt8 := [27, 3, 6, 184, 0, 66, 153, 0, 45, 28, 4, 16, 99, 184, 0, 66, 153, 0, 35, 29, 4, 16, 99]
abbrev dktX2_person_0 : List UInt8 := dkwX2_person_0 ++ dktX2_person_1
theorem dksX2_person_0 : cX2_person.data.toList.drop 0 = dktX2_person_0 := by decide +kernel
theorem dksX2_person_1 : cX2_person.data.toList.drop 23 = dktX2_person_1 := dk_seg dksX2_person_0 23 rfl rfl
theorem dksX2_person_2 : cX2_person.data.toList.drop 46 = dktX2_person_2 := dk_seg dksX2_person_1 23 rfl rfl
theorem dksX2_person_3 : cX2_person.data.toList.drop 70 = dktX2_person_3 := dk_seg dksX2_person_2 24 rfl rfl
theorem dksX2_person_4 : cX2_person.data.toList.drop 92 = dktX2_person_4 := dk_seg dksX2_person_3 22 rfl rfl
theorem dX2_person_0 : decode cX2_person 0 = .ok (.iload_n 1, 1) := dk_27 (dk_at dksX2_person_0 0 rfl rfl)
theorem dX2_person_1 : decode cX2_person 1 = .ok (.iconst 0, 1) := dk_3 (dk_at dksX2_person_0 1 rfl rfl)
theorem dX2_person_2 : decode cX2_person 2 = .ok (.iconst 3, 1) := dk_6 (dk_at dksX2_person_0 2 rfl rfl)
theorem dX2_person_3 : decode cX2_person 3 = .ok (.invokestatic 66, 3) := dk_184 0 66 (dk_at dksX2_person_0 3 rfl rfl)
theorem dX2_person_6 : decode cX2_person 6 = .ok (.ifCond .eq 45, 3) := dk_153 0 45 (dk_at dksX2_person_0 6 rfl rfl)
theorem dX2_person_9 : decode cX2_person 9 = .ok (.iload_n 2, 1) := dk_28 (dk_at dksX2_person_0 9 rfl rfl)
theorem dX2_person_10 : decode cX2_person 10 = .ok (.iconst 1, 1) := dk_4 (dk_at dksX2_person_0 10 rfl rfl)
theorem dX2_person_11 : decode cX2_person 11 = .ok (.bipush 99, 2) := dk_16 99 (dk_at dksX2_person_0 11 rfl rfl)
theorem dX2_person_13 : decode cX2_person 13 = .ok (.invokestatic 66, 3) := dk_184 0 66 (dk_at dksX2_person_0 13 rfl rfl)
theorem dX2_person_16 : decode cX2_person 16 = .ok (.ifCond .eq 35, 3) := dk_153 0 35 (dk_at dksX2_person_0 16 rfl rfl)
theorem dX2_person_19 : decode cX2_person 19 = .ok (.iload_n 3, 1) := dk_29 (dk_at dksX2_person_0 19 rfl rfl)
theorem dX2_person_20 : decode cX2_person 20 = .ok (.iconst 1, 1) := dk_4 (dk_at dksX2_person_0 20 rfl rfl)
theorem dX2_person_21 : decode cX2_person 21 = .ok (.bipush 99, 2) := dk_16 99 (dk_at dksX2_person_0 21 rfl rfl)
theorem dX2_person_23 : decode cX2_person 23 = .ok (.invokestatic 66, 3) := dk_184 0 66 (dk_at dksX2_person_1 0 rfl rfl)
theorem dX2_person_26 : decode cX2_person 26 = .ok (.ifCond .eq 25, 3) := dk_153 0 25 (dk_at dksX2_person_1 3 rfl rfl)
theorem dX2_person_29 : decode cX2_person 29 = .ok (.iload 4, 2) := dk_21 4 (dk_at dksX2_person_1 6 rfl rfl)
theorem dX2_person_31 : decode cX2_person 31 = .ok (.iconst 0, 1) := dk_3 (dk_at dksX2_person_1 8 rfl rfl)
theorem dX2_person_32 : decode cX2_person 32 = .ok (.bipush 99, 2) := dk_16 99 (dk_at dksX2_person_1 9 rfl rfl)
theorem dX2_person_34 : decode cX2_person 34 = .ok (.invokestatic 66, 3) := dk_184 0 66 (dk_at dksX2_person_1 11 rfl rfl)
theorem dX2_person_37 : decode cX2_person 37 = .ok (.ifCond .eq 14, 3) := dk_153 0 14 (dk_at dksX2_person_1 14 rfl rfl)
theorem dX2_person_40 : decode cX2_person 40 = .ok (.aload_n 0, 1) := dk_42 (dk_at dksX2_person_1 17 rfl rfl)
theorem dX2_person_41 : decode cX2_person 41 = .ok (.getfield 7, 3) := dk_180 0 7 (dk_at dksX2_person_1 18 rfl rfl)
theorem dX2_person_44 : decode cX2_person 44 = .ok (.iconst 0, 1) := dk_3 (dk_at dksX2_person_1 21 rfl rfl)
theorem dX2_person_45 : decode cX2_person 45 = .ok (.iaload, 1) := dk_46 (dk_at dksX2_person_1 22 rfl rfl)
theorem dX2_person_46 : decode cX2_person 46 = .ok (.bipush 8, 2) := dk_16 8 (dk_at dksX2_person_2 0 rfl rfl)
theorem dX2_person_48 : decode cX2_person 48 = .ok (.if_icmp .ne 5, 3) := dk_160 0 5 (dk_at dksX2_person_2 2 rfl rfl)
theorem dX2_person_51 : decode cX2_person 51 = .ok (.iconst (-1), 1) := dk_2 (dk_at dksX2_person_2 5 rfl rfl)
theorem dX2_person_52 : decode cX2_person 52 = .ok (.ireturn, 1) := dk_172 (dk_at dksX2_person_2 6 rfl rfl)
theorem dX2_person_53 : decode cX2_person 53 = .ok (.aload_n 0, 1) := dk_42 (dk_at dksX2_person_2 7 rfl rfl)
theorem dX2_person_54 : decode cX2_person 54 = .ok (.getfield 7, 3) := dk_180 0 7 (dk_at dksX2_person_2 8 rfl rfl)
theorem dX2_person_57 : decode cX2_person 57 = .ok (.iconst 0, 1) := dk_3 (dk_at dksX2_person_2 11 rfl rfl)
theorem dX2_person_58 : decode cX2_person 58 = .ok (.iaload, 1) := dk_46 (dk_at dksX2_person_2 12 rfl rfl)
theorem dX2_person_59 : decode cX2_person 59 = .ok (.istore 5, 2) := dk_54 5 (dk_at dksX2_person_2 13 rfl rfl)
theorem dX2_person_61 : decode cX2_person 61 = .ok (.aload_n 0, 1) := dk_42 (dk_at dksX2_person_2 15 rfl rfl)
theorem dX2_person_62 : decode cX2_person 62 = .ok (.iload 5, 2) := dk_21 5 (dk_at dksX2_person_2 16 rfl rfl)
theorem dX2_person_64 : decode cX2_person 64 = .ok (.iconst 3, 1) := dk_6 (dk_at dksX2_person_2 18 rfl rfl)
theorem dX2_person_65 : decode cX2_person 65 = .ok (.iload_n 1, 1) := dk_27 (dk_at dksX2_person_2 19 rfl rfl)
theorem dX2_person_66 : decode cX2_person 66 = .ok (.invokevirtual 78, 3) := dk_182 0 78 (dk_at dksX2_person_2 20 rfl rfl)
theorem dX2_person_69 : decode cX2_person 69 = .ok (.aload_n 0, 1) := dk_42 (dk_at dksX2_person_2 23 rfl rfl)
theorem dX2_person_70 : decode cX2_person 70 = .ok (.iload 5, 2) := dk_21 5 (dk_at dksX2_person_3 0 rfl rfl)
theorem dX2_person_72 : decode cX2_person 72 = .ok (.iconst 4, 1) := dk_7 (dk_at dksX2_person_3 2 rfl rfl)
theorem dX2_person_73 : decode cX2_person 73 = .ok (.iload_n 2, 1) := dk_28 (dk_at dksX2_person_3 3 rfl rfl)
theorem dX2_person_74 : decode cX2_person 74 = .ok (.invokevirtual 78, 3) := dk_182 0 78 (dk_at dksX2_person_3 4 rfl rfl)
theorem dX2_person_77 : decode cX2_person 77 = .ok (.aload_n 0, 1) := dk_42 (dk_at dksX2_person_3 7 rfl rfl)
theorem dX2_person_78 : decode cX2_person 78 = .ok (.iload 5, 2) := dk_21 5 (dk_at dksX2_person_3 8 rfl rfl)
theorem dX2_person_80 : decode cX2_person 80 = .ok (.iconst 5, 1) := dk_8 (dk_at dksX2_person_3 10 rfl rfl)
theorem dX2_person_81 : decode cX2_person 81 = .ok (.iload_n 3, 1) := dk_29 (dk_at dksX2_person_3 11 rfl rfl)
theorem dX2_person_82 : decode cX2_person 82 = .ok (.invokevirtual 78, 3) := dk_182 0 78 (dk_at dksX2_person_3 12 rfl rfl)
theorem dX2_person_85 : decode cX2_person 85 = .ok (.aload_n 0, 1) := dk_42 (dk_at dksX2_person_3 15 rfl rfl)
theorem dX2_person_86 : decode cX2_person 86 = .ok (.iload 5, 2) := dk_21 5 (dk_at dksX2_person_3 16 rfl rfl)
theorem dX2_person_88 : decode cX2_person 88 = .ok (.bipush 6, 2) := dk_16 6 (dk_at dksX2_person_3 18 rfl rfl)
theorem dX2_person_90 : decode cX2_person 90 = .ok (.iload 4, 2) := dk_21 4 (dk_at dksX2_person_3 20 rfl rfl)
theorem dX2_person_92 : decode cX2_person 92 = .ok (.invokevirtual 78, 3) := dk_182 0 78 (dk_at dksX2_person_4 0 rfl rfl)
theorem dX2_person_95 : decode cX2_person 95 = .ok (.aload_n 0, 1) := dk_42 (dk_at dksX2_person_4 3 rfl rfl)
theorem dX2_person_96 : decode cX2_person 96 = .ok (.iload 5, 2) := dk_21 5 (dk_at dksX2_person_4 4 rfl rfl)
theorem dX2_person_98 : decode cX2_person 98 = .ok (.invokevirtual 82, 3) := dk_182 0 82 (dk_at dksX2_person_4 6 rfl rfl)
theorem dX2_person_101 : decode cX2_person 101 = .ok (.aload_n 0, 1) := dk_42 (dk_at dksX2_person_4 9 rfl rfl)
theorem dX2_person_102 : decode cX2_person 102 = .ok (.getfield 7, 3) := dk_180 0 7 (dk_at dksX2_person_4 10 rfl rfl)
theorem dX2_person_105 : decode cX2_person 105 = .ok (.iconst 0, 1) := dk_3 (dk_at dksX2_person_4 13 rfl rfl)
theorem dX2_person_106 : decode cX2_person 106 = .ok (.dup2, 1) := dk_92 (dk_at dksX2_person_4 14 rfl rfl)
theorem dX2_person_107 : decode cX2_person 107 = .ok (.iaload, 1) := dk_46 (dk_at dksX2_person_4 15 rfl rfl)
theorem dX2_person_108 : decode cX2_person 108 = .ok (.iconst 1, 1) := dk_4 (dk_at dksX2_person_4 16 rfl rfl)
theorem dX2_person_109 : decode cX2_person 109 = .ok (.iadd, 1) := dk_96 (dk_at dksX2_person_4 17 rfl rfl)
theorem dX2_person_110 : decode cX2_person 110 = .ok (.iastore, 1) := dk_79 (dk_at dksX2_person_4 18 rfl rfl)
theorem dX2_person_111 : decode cX2_person 111 = .ok (.iload 5, 2) := dk_21 5 (dk_at dksX2_person_4 19 rfl rfl)
theorem dX2_person_113 : decode cX2_person 113 = .ok (.ireturn, 1) := dk_172 (dk_at dksX2_person_4 21 rfl rfl)
abbrev cX2_isIn : ByteArray := prog_21_method_3_code
def yX2_isIn : MethodName := ⟨RX2, "isIn", "(III)Z"⟩
def dkwX2_isIn_0 : List UInt8 := [26, 27, 161, 0, 12, 26, 28, 163, 0, 7, 4, 167, 0, 4, 3, 172]
abbrev dktX2_isIn_0 : List UInt8 := dkwX2_isIn_0 ++ []
theorem dksX2_isIn_0 : cX2_isIn.data.toList.drop 0 = dktX2_isIn_0 := by decide +kernel
theorem dX2_isIn_0 : decode cX2_isIn 0 = .ok (.iload_n 0, 1) := dk_26 (dk_at dksX2_isIn_0 0 rfl rfl)
theorem dX2_isIn_1 : decode cX2_isIn 1 = .ok (.iload_n 1, 1) := dk_27 (dk_at dksX2_isIn_0 1 rfl rfl)
theorem dX2_isIn_2 : decode cX2_isIn 2 = .ok (.if_icmp .lt 12, 3) := dk_161 0 12 (dk_at dksX2_isIn_0 2 rfl rfl)
theorem dX2_isIn_5 : decode cX2_isIn 5 = .ok (.iload_n 0, 1) := dk_26 (dk_at dksX2_isIn_0 5 rfl rfl)
theorem dX2_isIn_6 : decode cX2_isIn 6 = .ok (.iload_n 2, 1) := dk_28 (dk_at dksX2_isIn_0 6 rfl rfl)
theorem dX2_isIn_7 : decode cX2_isIn 7 = .ok (.if_icmp .gt 7, 3) := dk_163 0 7 (dk_at dksX2_isIn_0 7 rfl rfl)
theorem dX2_isIn_10 : decode cX2_isIn 10 = .ok (.iconst 1, 1) := dk_4 (dk_at dksX2_isIn_0 10 rfl rfl)
theorem dX2_isIn_11 : decode cX2_isIn 11 = .ok (.goto 4, 3) := dk_167 0 4 (dk_at dksX2_isIn_0 11 rfl rfl)
theorem dX2_isIn_14 : decode cX2_isIn 14 = .ok (.iconst 0, 1) := dk_3 (dk_at dksX2_isIn_0 14 rfl rfl)
theorem dX2_isIn_15 : decode cX2_isIn 15 = .ok (.ireturn, 1) := dk_172 (dk_at dksX2_isIn_0 15 rfl rfl)
abbrev cX2_put : ByteArray := prog_21_method_11_code
def yX2_put : MethodName := ⟨RX2, "put", "(III)V"⟩
def dkwX2_put_0 : List UInt8 := [42, 180, 0, 7, 16, 11, 16, 7, 27, 104, 96, 28, 96, 29, 79, 177]
abbrev dktX2_put_0 : List UInt8 := dkwX2_put_0 ++ []
theorem dksX2_put_0 : cX2_put.data.toList.drop 0 = dktX2_put_0 := by decide +kernel
theorem dX2_put_0 : decode cX2_put 0 = .ok (.aload_n 0, 1) := dk_42 (dk_at dksX2_put_0 0 rfl rfl)
theorem dX2_put_1 : decode cX2_put 1 = .ok (.getfield 7, 3) := dk_180 0 7 (dk_at dksX2_put_0 1 rfl rfl)
theorem dX2_put_4 : decode cX2_put 4 = .ok (.bipush 11, 2) := dk_16 11 (dk_at dksX2_put_0 4 rfl rfl)
theorem dX2_put_6 : decode cX2_put 6 = .ok (.bipush 7, 2) := dk_16 7 (dk_at dksX2_put_0 6 rfl rfl)
theorem dX2_put_8 : decode cX2_put 8 = .ok (.iload_n 1, 1) := dk_27 (dk_at dksX2_put_0 8 rfl rfl)
theorem dX2_put_9 : decode cX2_put 9 = .ok (.imul, 1) := dk_104 (dk_at dksX2_put_0 9 rfl rfl)
theorem dX2_put_10 : decode cX2_put 10 = .ok (.iadd, 1) := dk_96 (dk_at dksX2_put_0 10 rfl rfl)
theorem dX2_put_11 : decode cX2_put 11 = .ok (.iload_n 2, 1) := dk_28 (dk_at dksX2_put_0 11 rfl rfl)
theorem dX2_put_12 : decode cX2_put 12 = .ok (.iadd, 1) := dk_96 (dk_at dksX2_put_0 12 rfl rfl)
theorem dX2_put_13 : decode cX2_put 13 = .ok (.iload_n 3, 1) := dk_29 (dk_at dksX2_put_0 13 rfl rfl)
theorem dX2_put_14 : decode cX2_put 14 = .ok (.iastore, 1) := dk_79 (dk_at dksX2_put_0 14 rfl rfl)
theorem dX2_put_15 : decode cX2_put 15 = .ok (.return_, 1) := dk_177 (dk_at dksX2_put_0 15 rfl rfl)
abbrev cX2_begin : ByteArray := prog_21_method_14_code
def yX2_begin : MethodName := ⟨RX2, "begin", "(I)V"⟩
def dkwX2_begin_1 : List UInt8 := [182, 0, 78, 177]
abbrev dktX2_begin_1 : List UInt8 := dkwX2_begin_1 ++ []
def dkwX2_begin_0 : List UInt8 := [42, 27, 3, 42, 27, 16, 6, 182, 0, 74, 182, 0, 78, 42, 27, 4, 3, 182, 0, 78, 42, 27, 5, 3]
abbrev dktX2_begin_0 : List UInt8 := dkwX2_begin_0 ++ dktX2_begin_1
theorem dksX2_begin_0 : cX2_begin.data.toList.drop 0 = dktX2_begin_0 := by decide +kernel
theorem dksX2_begin_1 : cX2_begin.data.toList.drop 24 = dktX2_begin_1 := dk_seg dksX2_begin_0 24 rfl rfl
theorem dX2_begin_0 : decode cX2_begin 0 = .ok (.aload_n 0, 1) := dk_42 (dk_at dksX2_begin_0 0 rfl rfl)
theorem dX2_begin_1 : decode cX2_begin 1 = .ok (.iload_n 1, 1) := dk_27 (dk_at dksX2_begin_0 1 rfl rfl)
theorem dX2_begin_2 : decode cX2_begin 2 = .ok (.iconst 0, 1) := dk_3 (dk_at dksX2_begin_0 2 rfl rfl)
theorem dX2_begin_3 : decode cX2_begin 3 = .ok (.aload_n 0, 1) := dk_42 (dk_at dksX2_begin_0 3 rfl rfl)
theorem dX2_begin_4 : decode cX2_begin 4 = .ok (.iload_n 1, 1) := dk_27 (dk_at dksX2_begin_0 4 rfl rfl)
theorem dX2_begin_5 : decode cX2_begin 5 = .ok (.bipush 6, 2) := dk_16 6 (dk_at dksX2_begin_0 5 rfl rfl)
theorem dX2_begin_7 : decode cX2_begin 7 = .ok (.invokevirtual 74, 3) := dk_182 0 74 (dk_at dksX2_begin_0 7 rfl rfl)
theorem dX2_begin_10 : decode cX2_begin 10 = .ok (.invokevirtual 78, 3) := dk_182 0 78 (dk_at dksX2_begin_0 10 rfl rfl)
theorem dX2_begin_13 : decode cX2_begin 13 = .ok (.aload_n 0, 1) := dk_42 (dk_at dksX2_begin_0 13 rfl rfl)
theorem dX2_begin_14 : decode cX2_begin 14 = .ok (.iload_n 1, 1) := dk_27 (dk_at dksX2_begin_0 14 rfl rfl)
theorem dX2_begin_15 : decode cX2_begin 15 = .ok (.iconst 1, 1) := dk_4 (dk_at dksX2_begin_0 15 rfl rfl)
theorem dX2_begin_16 : decode cX2_begin 16 = .ok (.iconst 0, 1) := dk_3 (dk_at dksX2_begin_0 16 rfl rfl)
theorem dX2_begin_17 : decode cX2_begin 17 = .ok (.invokevirtual 78, 3) := dk_182 0 78 (dk_at dksX2_begin_0 17 rfl rfl)
theorem dX2_begin_20 : decode cX2_begin 20 = .ok (.aload_n 0, 1) := dk_42 (dk_at dksX2_begin_0 20 rfl rfl)
theorem dX2_begin_21 : decode cX2_begin 21 = .ok (.iload_n 1, 1) := dk_27 (dk_at dksX2_begin_0 21 rfl rfl)
theorem dX2_begin_22 : decode cX2_begin 22 = .ok (.iconst 2, 1) := dk_5 (dk_at dksX2_begin_0 22 rfl rfl)
theorem dX2_begin_23 : decode cX2_begin 23 = .ok (.iconst 0, 1) := dk_3 (dk_at dksX2_begin_0 23 rfl rfl)
theorem dX2_begin_24 : decode cX2_begin 24 = .ok (.invokevirtual 78, 3) := dk_182 0 78 (dk_at dksX2_begin_1 0 rfl rfl)
theorem dX2_begin_27 : decode cX2_begin 27 = .ok (.return_, 1) := dk_177 (dk_at dksX2_begin_1 3 rfl rfl)
abbrev cX2_get : ByteArray := prog_21_method_10_code
def yX2_get : MethodName := ⟨RX2, "get", "(II)I"⟩
def dkwX2_get_0 : List UInt8 := [42, 180, 0, 7, 16, 11, 16, 7, 27, 104, 96, 28, 96, 46, 172]
abbrev dktX2_get_0 : List UInt8 := dkwX2_get_0 ++ []
theorem dksX2_get_0 : cX2_get.data.toList.drop 0 = dktX2_get_0 := by decide +kernel
theorem dX2_get_0 : decode cX2_get 0 = .ok (.aload_n 0, 1) := dk_42 (dk_at dksX2_get_0 0 rfl rfl)
theorem dX2_get_1 : decode cX2_get 1 = .ok (.getfield 7, 3) := dk_180 0 7 (dk_at dksX2_get_0 1 rfl rfl)
theorem dX2_get_4 : decode cX2_get 4 = .ok (.bipush 11, 2) := dk_16 11 (dk_at dksX2_get_0 4 rfl rfl)
theorem dX2_get_6 : decode cX2_get 6 = .ok (.bipush 7, 2) := dk_16 7 (dk_at dksX2_get_0 6 rfl rfl)
theorem dX2_get_8 : decode cX2_get 8 = .ok (.iload_n 1, 1) := dk_27 (dk_at dksX2_get_0 8 rfl rfl)
theorem dX2_get_9 : decode cX2_get 9 = .ok (.imul, 1) := dk_104 (dk_at dksX2_get_0 9 rfl rfl)
theorem dX2_get_10 : decode cX2_get 10 = .ok (.iadd, 1) := dk_96 (dk_at dksX2_get_0 10 rfl rfl)
theorem dX2_get_11 : decode cX2_get 11 = .ok (.iload_n 2, 1) := dk_28 (dk_at dksX2_get_0 11 rfl rfl)
theorem dX2_get_12 : decode cX2_get 12 = .ok (.iadd, 1) := dk_96 (dk_at dksX2_get_0 12 rfl rfl)
theorem dX2_get_13 : decode cX2_get 13 = .ok (.iaload, 1) := dk_46 (dk_at dksX2_get_0 13 rfl rfl)
theorem dX2_get_14 : decode cX2_get 14 = .ok (.ireturn, 1) := dk_172 (dk_at dksX2_get_0 14 rfl rfl)
abbrev cX2_hears : ByteArray := prog_21_method_15_code
def yX2_hears : MethodName := ⟨RX2, "hears", "(IIZ)Z"⟩
def dkwX2_hears_2 : List UInt8 := [167, 0, 18, 42, 180, 0, 7, 16, 67, 27, 96, 46, 4, 28, 120, 2, 130, 126, 79, 4, 172]
abbrev dktX2_hears_2 : List UInt8 := dkwX2_hears_2 ++ []
def dkwX2_hears_1 : List UInt8 := [180, 0, 7, 16, 67, 27, 96, 29, 153, 0, 19, 42, 180, 0, 7, 16, 67, 27, 96, 46, 4, 28, 120, 128]
abbrev dktX2_hears_1 : List UInt8 := dkwX2_hears_1 ++ dktX2_hears_2
def dkwX2_hears_0 : List UInt8 := [27, 3, 16, 7, 184, 0, 66, 153, 0, 13, 28, 3, 16, 7, 184, 0, 66, 154, 0, 5, 3, 172, 42]
abbrev dktX2_hears_0 : List UInt8 := dkwX2_hears_0 ++ dktX2_hears_1
theorem dksX2_hears_0 : cX2_hears.data.toList.drop 0 = dktX2_hears_0 := by decide +kernel
theorem dksX2_hears_1 : cX2_hears.data.toList.drop 23 = dktX2_hears_1 := dk_seg dksX2_hears_0 23 rfl rfl
theorem dksX2_hears_2 : cX2_hears.data.toList.drop 47 = dktX2_hears_2 := dk_seg dksX2_hears_1 24 rfl rfl
theorem dX2_hears_0 : decode cX2_hears 0 = .ok (.iload_n 1, 1) := dk_27 (dk_at dksX2_hears_0 0 rfl rfl)
theorem dX2_hears_1 : decode cX2_hears 1 = .ok (.iconst 0, 1) := dk_3 (dk_at dksX2_hears_0 1 rfl rfl)
theorem dX2_hears_2 : decode cX2_hears 2 = .ok (.bipush 7, 2) := dk_16 7 (dk_at dksX2_hears_0 2 rfl rfl)
theorem dX2_hears_4 : decode cX2_hears 4 = .ok (.invokestatic 66, 3) := dk_184 0 66 (dk_at dksX2_hears_0 4 rfl rfl)
theorem dX2_hears_7 : decode cX2_hears 7 = .ok (.ifCond .eq 13, 3) := dk_153 0 13 (dk_at dksX2_hears_0 7 rfl rfl)
theorem dX2_hears_10 : decode cX2_hears 10 = .ok (.iload_n 2, 1) := dk_28 (dk_at dksX2_hears_0 10 rfl rfl)
theorem dX2_hears_11 : decode cX2_hears 11 = .ok (.iconst 0, 1) := dk_3 (dk_at dksX2_hears_0 11 rfl rfl)
theorem dX2_hears_12 : decode cX2_hears 12 = .ok (.bipush 7, 2) := dk_16 7 (dk_at dksX2_hears_0 12 rfl rfl)
theorem dX2_hears_14 : decode cX2_hears 14 = .ok (.invokestatic 66, 3) := dk_184 0 66 (dk_at dksX2_hears_0 14 rfl rfl)
theorem dX2_hears_17 : decode cX2_hears 17 = .ok (.ifCond .ne 5, 3) := dk_154 0 5 (dk_at dksX2_hears_0 17 rfl rfl)
theorem dX2_hears_20 : decode cX2_hears 20 = .ok (.iconst 0, 1) := dk_3 (dk_at dksX2_hears_0 20 rfl rfl)
theorem dX2_hears_21 : decode cX2_hears 21 = .ok (.ireturn, 1) := dk_172 (dk_at dksX2_hears_0 21 rfl rfl)
theorem dX2_hears_22 : decode cX2_hears 22 = .ok (.aload_n 0, 1) := dk_42 (dk_at dksX2_hears_0 22 rfl rfl)
theorem dX2_hears_23 : decode cX2_hears 23 = .ok (.getfield 7, 3) := dk_180 0 7 (dk_at dksX2_hears_1 0 rfl rfl)
theorem dX2_hears_26 : decode cX2_hears 26 = .ok (.bipush 67, 2) := dk_16 67 (dk_at dksX2_hears_1 3 rfl rfl)
theorem dX2_hears_28 : decode cX2_hears 28 = .ok (.iload_n 1, 1) := dk_27 (dk_at dksX2_hears_1 5 rfl rfl)
theorem dX2_hears_29 : decode cX2_hears 29 = .ok (.iadd, 1) := dk_96 (dk_at dksX2_hears_1 6 rfl rfl)
theorem dX2_hears_30 : decode cX2_hears 30 = .ok (.iload_n 3, 1) := dk_29 (dk_at dksX2_hears_1 7 rfl rfl)
theorem dX2_hears_31 : decode cX2_hears 31 = .ok (.ifCond .eq 19, 3) := dk_153 0 19 (dk_at dksX2_hears_1 8 rfl rfl)
theorem dX2_hears_34 : decode cX2_hears 34 = .ok (.aload_n 0, 1) := dk_42 (dk_at dksX2_hears_1 11 rfl rfl)
theorem dX2_hears_35 : decode cX2_hears 35 = .ok (.getfield 7, 3) := dk_180 0 7 (dk_at dksX2_hears_1 12 rfl rfl)
theorem dX2_hears_38 : decode cX2_hears 38 = .ok (.bipush 67, 2) := dk_16 67 (dk_at dksX2_hears_1 15 rfl rfl)
theorem dX2_hears_40 : decode cX2_hears 40 = .ok (.iload_n 1, 1) := dk_27 (dk_at dksX2_hears_1 17 rfl rfl)
theorem dX2_hears_41 : decode cX2_hears 41 = .ok (.iadd, 1) := dk_96 (dk_at dksX2_hears_1 18 rfl rfl)
theorem dX2_hears_42 : decode cX2_hears 42 = .ok (.iaload, 1) := dk_46 (dk_at dksX2_hears_1 19 rfl rfl)
theorem dX2_hears_43 : decode cX2_hears 43 = .ok (.iconst 1, 1) := dk_4 (dk_at dksX2_hears_1 20 rfl rfl)
theorem dX2_hears_44 : decode cX2_hears 44 = .ok (.iload_n 2, 1) := dk_28 (dk_at dksX2_hears_1 21 rfl rfl)
theorem dX2_hears_45 : decode cX2_hears 45 = .ok (.ishl, 1) := dk_120 (dk_at dksX2_hears_1 22 rfl rfl)
theorem dX2_hears_46 : decode cX2_hears 46 = .ok (.ior, 1) := dk_128 (dk_at dksX2_hears_1 23 rfl rfl)
theorem dX2_hears_47 : decode cX2_hears 47 = .ok (.goto 18, 3) := dk_167 0 18 (dk_at dksX2_hears_2 0 rfl rfl)
theorem dX2_hears_50 : decode cX2_hears 50 = .ok (.aload_n 0, 1) := dk_42 (dk_at dksX2_hears_2 3 rfl rfl)
theorem dX2_hears_51 : decode cX2_hears 51 = .ok (.getfield 7, 3) := dk_180 0 7 (dk_at dksX2_hears_2 4 rfl rfl)
theorem dX2_hears_54 : decode cX2_hears 54 = .ok (.bipush 67, 2) := dk_16 67 (dk_at dksX2_hears_2 7 rfl rfl)
theorem dX2_hears_56 : decode cX2_hears 56 = .ok (.iload_n 1, 1) := dk_27 (dk_at dksX2_hears_2 9 rfl rfl)
theorem dX2_hears_57 : decode cX2_hears 57 = .ok (.iadd, 1) := dk_96 (dk_at dksX2_hears_2 10 rfl rfl)
theorem dX2_hears_58 : decode cX2_hears 58 = .ok (.iaload, 1) := dk_46 (dk_at dksX2_hears_2 11 rfl rfl)
theorem dX2_hears_59 : decode cX2_hears 59 = .ok (.iconst 1, 1) := dk_4 (dk_at dksX2_hears_2 12 rfl rfl)
theorem dX2_hears_60 : decode cX2_hears 60 = .ok (.iload_n 2, 1) := dk_28 (dk_at dksX2_hears_2 13 rfl rfl)
theorem dX2_hears_61 : decode cX2_hears 61 = .ok (.ishl, 1) := dk_120 (dk_at dksX2_hears_2 14 rfl rfl)
theorem dX2_hears_62 : decode cX2_hears 62 = .ok (.iconst (-1), 1) := dk_2 (dk_at dksX2_hears_2 15 rfl rfl)
theorem dX2_hears_63 : decode cX2_hears 63 = .ok (.ixor, 1) := dk_130 (dk_at dksX2_hears_2 16 rfl rfl)
theorem dX2_hears_64 : decode cX2_hears 64 = .ok (.iand, 1) := dk_126 (dk_at dksX2_hears_2 17 rfl rfl)
theorem dX2_hears_65 : decode cX2_hears 65 = .ok (.iastore, 1) := dk_79 (dk_at dksX2_hears_2 18 rfl rfl)
theorem dX2_hears_66 : decode cX2_hears 66 = .ok (.iconst 1, 1) := dk_4 (dk_at dksX2_hears_2 19 rfl rfl)
theorem dX2_hears_67 : decode cX2_hears 67 = .ok (.ireturn, 1) := dk_172 (dk_at dksX2_hears_2 20 rfl rfl)
abbrev cX2_feed : ByteArray := prog_21_method_17_code
def yX2_feed : MethodName := ⟨RX2, "feed", "(IIIII)I"⟩
def dkwX2_feed_2 : List UInt8 := [172]
abbrev dktX2_feed_2 : List UInt8 := dkwX2_feed_2 ++ []
def dkwX2_feed_1 : List UInt8 := [182, 0, 89, 42, 29, 182, 0, 89, 42, 21, 4, 182, 0, 89, 42, 21, 5, 182, 0, 89, 42, 180, 0, 86]
abbrev dktX2_feed_1 : List UInt8 := dkwX2_feed_1 ++ dktX2_feed_2
def dkwX2_feed_0 : List UInt8 := [42, 180, 0, 86, 16, 20, 96, 17, 1, 44, 164, 0, 5, 2, 172, 42, 27, 182, 0, 89, 42, 28]
abbrev dktX2_feed_0 : List UInt8 := dkwX2_feed_0 ++ dktX2_feed_1
theorem dksX2_feed_0 : cX2_feed.data.toList.drop 0 = dktX2_feed_0 := by decide +kernel
theorem dksX2_feed_1 : cX2_feed.data.toList.drop 22 = dktX2_feed_1 := dk_seg dksX2_feed_0 22 rfl rfl
theorem dksX2_feed_2 : cX2_feed.data.toList.drop 46 = dktX2_feed_2 := dk_seg dksX2_feed_1 24 rfl rfl
theorem dX2_feed_0 : decode cX2_feed 0 = .ok (.aload_n 0, 1) := dk_42 (dk_at dksX2_feed_0 0 rfl rfl)
theorem dX2_feed_1 : decode cX2_feed 1 = .ok (.getfield 86, 3) := dk_180 0 86 (dk_at dksX2_feed_0 1 rfl rfl)
theorem dX2_feed_4 : decode cX2_feed 4 = .ok (.bipush 20, 2) := dk_16 20 (dk_at dksX2_feed_0 4 rfl rfl)
theorem dX2_feed_6 : decode cX2_feed 6 = .ok (.iadd, 1) := dk_96 (dk_at dksX2_feed_0 6 rfl rfl)
theorem dX2_feed_7 : decode cX2_feed 7 = .ok (.sipush 300, 3) := dk_17 1 44 (dk_at dksX2_feed_0 7 rfl rfl)
theorem dX2_feed_10 : decode cX2_feed 10 = .ok (.if_icmp .le 5, 3) := dk_164 0 5 (dk_at dksX2_feed_0 10 rfl rfl)
theorem dX2_feed_13 : decode cX2_feed 13 = .ok (.iconst (-1), 1) := dk_2 (dk_at dksX2_feed_0 13 rfl rfl)
theorem dX2_feed_14 : decode cX2_feed 14 = .ok (.ireturn, 1) := dk_172 (dk_at dksX2_feed_0 14 rfl rfl)
theorem dX2_feed_15 : decode cX2_feed 15 = .ok (.aload_n 0, 1) := dk_42 (dk_at dksX2_feed_0 15 rfl rfl)
theorem dX2_feed_16 : decode cX2_feed 16 = .ok (.iload_n 1, 1) := dk_27 (dk_at dksX2_feed_0 16 rfl rfl)
theorem dX2_feed_17 : decode cX2_feed 17 = .ok (.invokevirtual 89, 3) := dk_182 0 89 (dk_at dksX2_feed_0 17 rfl rfl)
theorem dX2_feed_20 : decode cX2_feed 20 = .ok (.aload_n 0, 1) := dk_42 (dk_at dksX2_feed_0 20 rfl rfl)
theorem dX2_feed_21 : decode cX2_feed 21 = .ok (.iload_n 2, 1) := dk_28 (dk_at dksX2_feed_0 21 rfl rfl)
theorem dX2_feed_22 : decode cX2_feed 22 = .ok (.invokevirtual 89, 3) := dk_182 0 89 (dk_at dksX2_feed_1 0 rfl rfl)
theorem dX2_feed_25 : decode cX2_feed 25 = .ok (.aload_n 0, 1) := dk_42 (dk_at dksX2_feed_1 3 rfl rfl)
theorem dX2_feed_26 : decode cX2_feed 26 = .ok (.iload_n 3, 1) := dk_29 (dk_at dksX2_feed_1 4 rfl rfl)
theorem dX2_feed_27 : decode cX2_feed 27 = .ok (.invokevirtual 89, 3) := dk_182 0 89 (dk_at dksX2_feed_1 5 rfl rfl)
theorem dX2_feed_30 : decode cX2_feed 30 = .ok (.aload_n 0, 1) := dk_42 (dk_at dksX2_feed_1 8 rfl rfl)
theorem dX2_feed_31 : decode cX2_feed 31 = .ok (.iload 4, 2) := dk_21 4 (dk_at dksX2_feed_1 9 rfl rfl)
theorem dX2_feed_33 : decode cX2_feed 33 = .ok (.invokevirtual 89, 3) := dk_182 0 89 (dk_at dksX2_feed_1 11 rfl rfl)
theorem dX2_feed_36 : decode cX2_feed 36 = .ok (.aload_n 0, 1) := dk_42 (dk_at dksX2_feed_1 14 rfl rfl)
theorem dX2_feed_37 : decode cX2_feed 37 = .ok (.iload 5, 2) := dk_21 5 (dk_at dksX2_feed_1 15 rfl rfl)
theorem dX2_feed_39 : decode cX2_feed 39 = .ok (.invokevirtual 89, 3) := dk_182 0 89 (dk_at dksX2_feed_1 17 rfl rfl)
theorem dX2_feed_42 : decode cX2_feed 42 = .ok (.aload_n 0, 1) := dk_42 (dk_at dksX2_feed_1 20 rfl rfl)
theorem dX2_feed_43 : decode cX2_feed 43 = .ok (.getfield 86, 3) := dk_180 0 86 (dk_at dksX2_feed_1 21 rfl rfl)
theorem dX2_feed_46 : decode cX2_feed 46 = .ok (.ireturn, 1) := dk_172 (dk_at dksX2_feed_2 0 rfl rfl)
abbrev cX2_four : ByteArray := prog_21_method_16_code
def yX2_four : MethodName := ⟨RX2, "four", "(I)V"⟩
def dkwX2_four_1 : List UInt8 := [89, 180, 0, 86, 4, 96, 181, 0, 86, 132, 2, 248, 167, 255, 223, 177]
abbrev dktX2_four_1 : List UInt8 := dkwX2_four_1 ++ []
def dkwX2_four_0 : List UInt8 := [16, 24, 61, 28, 155, 0, 35, 42, 180, 0, 19, 42, 180, 0, 86, 27, 28, 122, 17, 0, 255, 126, 79, 42]
abbrev dktX2_four_0 : List UInt8 := dkwX2_four_0 ++ dktX2_four_1
theorem dksX2_four_0 : cX2_four.data.toList.drop 0 = dktX2_four_0 := by decide +kernel
theorem dksX2_four_1 : cX2_four.data.toList.drop 24 = dktX2_four_1 := dk_seg dksX2_four_0 24 rfl rfl
theorem dX2_four_0 : decode cX2_four 0 = .ok (.bipush 24, 2) := dk_16 24 (dk_at dksX2_four_0 0 rfl rfl)
theorem dX2_four_2 : decode cX2_four 2 = .ok (.istore_n 2, 1) := dk_61 (dk_at dksX2_four_0 2 rfl rfl)
theorem dX2_four_3 : decode cX2_four 3 = .ok (.iload_n 2, 1) := dk_28 (dk_at dksX2_four_0 3 rfl rfl)
theorem dX2_four_4 : decode cX2_four 4 = .ok (.ifCond .lt 35, 3) := dk_155 0 35 (dk_at dksX2_four_0 4 rfl rfl)
theorem dX2_four_7 : decode cX2_four 7 = .ok (.aload_n 0, 1) := dk_42 (dk_at dksX2_four_0 7 rfl rfl)
theorem dX2_four_8 : decode cX2_four 8 = .ok (.getfield 19, 3) := dk_180 0 19 (dk_at dksX2_four_0 8 rfl rfl)
theorem dX2_four_11 : decode cX2_four 11 = .ok (.aload_n 0, 1) := dk_42 (dk_at dksX2_four_0 11 rfl rfl)
theorem dX2_four_12 : decode cX2_four 12 = .ok (.getfield 86, 3) := dk_180 0 86 (dk_at dksX2_four_0 12 rfl rfl)
theorem dX2_four_15 : decode cX2_four 15 = .ok (.iload_n 1, 1) := dk_27 (dk_at dksX2_four_0 15 rfl rfl)
theorem dX2_four_16 : decode cX2_four 16 = .ok (.iload_n 2, 1) := dk_28 (dk_at dksX2_four_0 16 rfl rfl)
theorem dX2_four_17 : decode cX2_four 17 = .ok (.ishr, 1) := dk_122 (dk_at dksX2_four_0 17 rfl rfl)
theorem dX2_four_18 : decode cX2_four 18 = .ok (.sipush 255, 3) := dk_17 0 255 (dk_at dksX2_four_0 18 rfl rfl)
theorem dX2_four_21 : decode cX2_four 21 = .ok (.iand, 1) := dk_126 (dk_at dksX2_four_0 21 rfl rfl)
theorem dX2_four_22 : decode cX2_four 22 = .ok (.iastore, 1) := dk_79 (dk_at dksX2_four_0 22 rfl rfl)
theorem dX2_four_23 : decode cX2_four 23 = .ok (.aload_n 0, 1) := dk_42 (dk_at dksX2_four_0 23 rfl rfl)
theorem dX2_four_24 : decode cX2_four 24 = .ok (.dup, 1) := dk_89 (dk_at dksX2_four_1 0 rfl rfl)
theorem dX2_four_25 : decode cX2_four 25 = .ok (.getfield 86, 3) := dk_180 0 86 (dk_at dksX2_four_1 1 rfl rfl)
theorem dX2_four_28 : decode cX2_four 28 = .ok (.iconst 1, 1) := dk_4 (dk_at dksX2_four_1 4 rfl rfl)
theorem dX2_four_29 : decode cX2_four 29 = .ok (.iadd, 1) := dk_96 (dk_at dksX2_four_1 5 rfl rfl)
theorem dX2_four_30 : decode cX2_four 30 = .ok (.putfield 86, 3) := dk_181 0 86 (dk_at dksX2_four_1 6 rfl rfl)
theorem dX2_four_33 : decode cX2_four 33 = .ok (.iinc 2 (-8), 3) := dk_132 2 248 (dk_at dksX2_four_1 9 rfl rfl)
theorem dX2_four_36 : decode cX2_four 36 = .ok (.goto (-33), 3) := dk_167 255 223 (dk_at dksX2_four_1 12 rfl rfl)
theorem dX2_four_39 : decode cX2_four 39 = .ok (.return_, 1) := dk_177 (dk_at dksX2_four_1 15 rfl rfl)
abbrev cX2_end : ByteArray := prog_21_method_18_code
def yX2_end : MethodName := ⟨RX2, "end", "(I)I"⟩
def dkwX2_end_0 : List UInt8 := [27, 3, 42, 180, 0, 86, 184, 0, 66, 154, 0, 5, 2, 172, 42, 27, 181, 0, 86, 27, 172]
abbrev dktX2_end_0 : List UInt8 := dkwX2_end_0 ++ []
theorem dksX2_end_0 : cX2_end.data.toList.drop 0 = dktX2_end_0 := by decide +kernel
theorem dX2_end_0 : decode cX2_end 0 = .ok (.iload_n 1, 1) := dk_27 (dk_at dksX2_end_0 0 rfl rfl)
theorem dX2_end_1 : decode cX2_end 1 = .ok (.iconst 0, 1) := dk_3 (dk_at dksX2_end_0 1 rfl rfl)
theorem dX2_end_2 : decode cX2_end 2 = .ok (.aload_n 0, 1) := dk_42 (dk_at dksX2_end_0 2 rfl rfl)
theorem dX2_end_3 : decode cX2_end 3 = .ok (.getfield 86, 3) := dk_180 0 86 (dk_at dksX2_end_0 3 rfl rfl)
theorem dX2_end_6 : decode cX2_end 6 = .ok (.invokestatic 66, 3) := dk_184 0 66 (dk_at dksX2_end_0 6 rfl rfl)
theorem dX2_end_9 : decode cX2_end 9 = .ok (.ifCond .ne 5, 3) := dk_154 0 5 (dk_at dksX2_end_0 9 rfl rfl)
theorem dX2_end_12 : decode cX2_end 12 = .ok (.iconst (-1), 1) := dk_2 (dk_at dksX2_end_0 12 rfl rfl)
theorem dX2_end_13 : decode cX2_end 13 = .ok (.ireturn, 1) := dk_172 (dk_at dksX2_end_0 13 rfl rfl)
theorem dX2_end_14 : decode cX2_end 14 = .ok (.aload_n 0, 1) := dk_42 (dk_at dksX2_end_0 14 rfl rfl)
theorem dX2_end_15 : decode cX2_end 15 = .ok (.iload_n 1, 1) := dk_27 (dk_at dksX2_end_0 15 rfl rfl)
theorem dX2_end_16 : decode cX2_end 16 = .ok (.putfield 86, 3) := dk_181 0 86 (dk_at dksX2_end_0 16 rfl rfl)
theorem dX2_end_19 : decode cX2_end 19 = .ok (.iload_n 1, 1) := dk_27 (dk_at dksX2_end_0 19 rfl rfl)
theorem dX2_end_20 : decode cX2_end 20 = .ok (.ireturn, 1) := dk_172 (dk_at dksX2_end_0 20 rfl rfl)
abbrev cX2_text : ByteArray := prog_21_method_56_code
def yX2_text : MethodName := ⟨RX2, "text", "()I"⟩
def dkwX2_text_3 : List UInt8 := [4, 100, 172]
abbrev dktX2_text_3 : List UInt8 := dkwX2_text_3 ++ []
def dkwX2_text_2 : List UInt8 := [180, 0, 22, 153, 0, 5, 2, 172, 42, 180, 0, 7, 4, 92, 46, 4, 96, 79, 42, 180, 0, 7, 4, 46]
abbrev dktX2_text_2 : List UInt8 := dkwX2_text_2 ++ dktX2_text_3
def dkwX2_text_1 : List UInt8 := [180, 0, 22, 154, 0, 7, 2, 167, 0, 7, 42, 180, 0, 99, 181, 0, 26, 42, 3, 181, 0, 86, 42]
abbrev dktX2_text_1 : List UInt8 := dkwX2_text_1 ++ dktX2_text_2
def dkwX2_text_0 : List UInt8 := [42, 180, 0, 7, 4, 46, 7, 160, 0, 5, 2, 172, 42, 42, 182, 1, 0, 181, 0, 22, 42, 42]
abbrev dktX2_text_0 : List UInt8 := dkwX2_text_0 ++ dktX2_text_1
theorem dksX2_text_0 : cX2_text.data.toList.drop 0 = dktX2_text_0 := by decide +kernel
theorem dksX2_text_1 : cX2_text.data.toList.drop 22 = dktX2_text_1 := dk_seg dksX2_text_0 22 rfl rfl
theorem dksX2_text_2 : cX2_text.data.toList.drop 45 = dktX2_text_2 := dk_seg dksX2_text_1 23 rfl rfl
theorem dksX2_text_3 : cX2_text.data.toList.drop 69 = dktX2_text_3 := dk_seg dksX2_text_2 24 rfl rfl
theorem dX2_text_0 : decode cX2_text 0 = .ok (.aload_n 0, 1) := dk_42 (dk_at dksX2_text_0 0 rfl rfl)
theorem dX2_text_1 : decode cX2_text 1 = .ok (.getfield 7, 3) := dk_180 0 7 (dk_at dksX2_text_0 1 rfl rfl)
theorem dX2_text_4 : decode cX2_text 4 = .ok (.iconst 1, 1) := dk_4 (dk_at dksX2_text_0 4 rfl rfl)
theorem dX2_text_5 : decode cX2_text 5 = .ok (.iaload, 1) := dk_46 (dk_at dksX2_text_0 5 rfl rfl)
theorem dX2_text_6 : decode cX2_text 6 = .ok (.iconst 4, 1) := dk_7 (dk_at dksX2_text_0 6 rfl rfl)
theorem dX2_text_7 : decode cX2_text 7 = .ok (.if_icmp .ne 5, 3) := dk_160 0 5 (dk_at dksX2_text_0 7 rfl rfl)
theorem dX2_text_10 : decode cX2_text 10 = .ok (.iconst (-1), 1) := dk_2 (dk_at dksX2_text_0 10 rfl rfl)
theorem dX2_text_11 : decode cX2_text 11 = .ok (.ireturn, 1) := dk_172 (dk_at dksX2_text_0 11 rfl rfl)
theorem dX2_text_12 : decode cX2_text 12 = .ok (.aload_n 0, 1) := dk_42 (dk_at dksX2_text_0 12 rfl rfl)
theorem dX2_text_13 : decode cX2_text 13 = .ok (.aload_n 0, 1) := dk_42 (dk_at dksX2_text_0 13 rfl rfl)
theorem dX2_text_14 : decode cX2_text 14 = .ok (.invokevirtual 256, 3) := dk_182 1 0 (dk_at dksX2_text_0 14 rfl rfl)
theorem dX2_text_17 : decode cX2_text 17 = .ok (.putfield 22, 3) := dk_181 0 22 (dk_at dksX2_text_0 17 rfl rfl)
theorem dX2_text_20 : decode cX2_text 20 = .ok (.aload_n 0, 1) := dk_42 (dk_at dksX2_text_0 20 rfl rfl)
theorem dX2_text_21 : decode cX2_text 21 = .ok (.aload_n 0, 1) := dk_42 (dk_at dksX2_text_0 21 rfl rfl)
theorem dX2_text_22 : decode cX2_text 22 = .ok (.getfield 22, 3) := dk_180 0 22 (dk_at dksX2_text_1 0 rfl rfl)
theorem dX2_text_25 : decode cX2_text 25 = .ok (.ifCond .ne 7, 3) := dk_154 0 7 (dk_at dksX2_text_1 3 rfl rfl)
theorem dX2_text_28 : decode cX2_text 28 = .ok (.iconst (-1), 1) := dk_2 (dk_at dksX2_text_1 6 rfl rfl)
theorem dX2_text_29 : decode cX2_text 29 = .ok (.goto 7, 3) := dk_167 0 7 (dk_at dksX2_text_1 7 rfl rfl)
theorem dX2_text_32 : decode cX2_text 32 = .ok (.aload_n 0, 1) := dk_42 (dk_at dksX2_text_1 10 rfl rfl)
theorem dX2_text_33 : decode cX2_text 33 = .ok (.getfield 99, 3) := dk_180 0 99 (dk_at dksX2_text_1 11 rfl rfl)
theorem dX2_text_36 : decode cX2_text 36 = .ok (.putfield 26, 3) := dk_181 0 26 (dk_at dksX2_text_1 14 rfl rfl)
theorem dX2_text_39 : decode cX2_text 39 = .ok (.aload_n 0, 1) := dk_42 (dk_at dksX2_text_1 17 rfl rfl)
theorem dX2_text_40 : decode cX2_text 40 = .ok (.iconst 0, 1) := dk_3 (dk_at dksX2_text_1 18 rfl rfl)
theorem dX2_text_41 : decode cX2_text 41 = .ok (.putfield 86, 3) := dk_181 0 86 (dk_at dksX2_text_1 19 rfl rfl)
theorem dX2_text_44 : decode cX2_text 44 = .ok (.aload_n 0, 1) := dk_42 (dk_at dksX2_text_1 22 rfl rfl)
theorem dX2_text_45 : decode cX2_text 45 = .ok (.getfield 22, 3) := dk_180 0 22 (dk_at dksX2_text_2 0 rfl rfl)
theorem dX2_text_48 : decode cX2_text 48 = .ok (.ifCond .eq 5, 3) := dk_153 0 5 (dk_at dksX2_text_2 3 rfl rfl)
theorem dX2_text_51 : decode cX2_text 51 = .ok (.iconst (-1), 1) := dk_2 (dk_at dksX2_text_2 6 rfl rfl)
theorem dX2_text_52 : decode cX2_text 52 = .ok (.ireturn, 1) := dk_172 (dk_at dksX2_text_2 7 rfl rfl)
theorem dX2_text_53 : decode cX2_text 53 = .ok (.aload_n 0, 1) := dk_42 (dk_at dksX2_text_2 8 rfl rfl)
theorem dX2_text_54 : decode cX2_text 54 = .ok (.getfield 7, 3) := dk_180 0 7 (dk_at dksX2_text_2 9 rfl rfl)
theorem dX2_text_57 : decode cX2_text 57 = .ok (.iconst 1, 1) := dk_4 (dk_at dksX2_text_2 12 rfl rfl)
theorem dX2_text_58 : decode cX2_text 58 = .ok (.dup2, 1) := dk_92 (dk_at dksX2_text_2 13 rfl rfl)
theorem dX2_text_59 : decode cX2_text 59 = .ok (.iaload, 1) := dk_46 (dk_at dksX2_text_2 14 rfl rfl)
theorem dX2_text_60 : decode cX2_text 60 = .ok (.iconst 1, 1) := dk_4 (dk_at dksX2_text_2 15 rfl rfl)
theorem dX2_text_61 : decode cX2_text 61 = .ok (.iadd, 1) := dk_96 (dk_at dksX2_text_2 16 rfl rfl)
theorem dX2_text_62 : decode cX2_text 62 = .ok (.iastore, 1) := dk_79 (dk_at dksX2_text_2 17 rfl rfl)
theorem dX2_text_63 : decode cX2_text 63 = .ok (.aload_n 0, 1) := dk_42 (dk_at dksX2_text_2 18 rfl rfl)
theorem dX2_text_64 : decode cX2_text 64 = .ok (.getfield 7, 3) := dk_180 0 7 (dk_at dksX2_text_2 19 rfl rfl)
theorem dX2_text_67 : decode cX2_text 67 = .ok (.iconst 1, 1) := dk_4 (dk_at dksX2_text_2 22 rfl rfl)
theorem dX2_text_68 : decode cX2_text 68 = .ok (.iaload, 1) := dk_46 (dk_at dksX2_text_2 23 rfl rfl)
theorem dX2_text_69 : decode cX2_text 69 = .ok (.iconst 1, 1) := dk_4 (dk_at dksX2_text_3 0 rfl rfl)
theorem dX2_text_70 : decode cX2_text 70 = .ok (.isub, 1) := dk_100 (dk_at dksX2_text_3 1 rfl rfl)
theorem dX2_text_71 : decode cX2_text 71 = .ok (.ireturn, 1) := dk_172 (dk_at dksX2_text_3 2 rfl rfl)
abbrev cX2_readText : ByteArray := prog_21_method_55_code
def yX2_readText : MethodName := ⟨RX2, "readText", "()I"⟩
def dkwX2_readText_2 : List UInt8 := [153, 0, 17, 42, 182, 0, 253, 60, 27, 153, 0, 5, 27, 172, 167, 255, 238, 3, 172]
abbrev dktX2_readText_2 : List UInt8 := dkwX2_readText_2 ++ []
def dkwX2_readText_1 : List UInt8 := [42, 3, 181, 0, 144, 42, 3, 181, 0, 243, 42, 3, 181, 0, 92, 42, 182, 0, 173, 42, 180, 0, 102]
abbrev dktX2_readText_1 : List UInt8 := dkwX2_readText_1 ++ dktX2_readText_2
def dkwX2_readText_0 : List UInt8 := [42, 17, 2, 217, 42, 180, 0, 7, 4, 46, 104, 181, 0, 141, 42, 180, 0, 16, 42, 180, 0, 141, 3, 79]
abbrev dktX2_readText_0 : List UInt8 := dkwX2_readText_0 ++ dktX2_readText_1
theorem dksX2_readText_0 : cX2_readText.data.toList.drop 0 = dktX2_readText_0 := by decide +kernel
theorem dksX2_readText_1 : cX2_readText.data.toList.drop 24 = dktX2_readText_1 := dk_seg dksX2_readText_0 24 rfl rfl
theorem dksX2_readText_2 : cX2_readText.data.toList.drop 47 = dktX2_readText_2 := dk_seg dksX2_readText_1 23 rfl rfl
theorem dX2_readText_0 : decode cX2_readText 0 = .ok (.aload_n 0, 1) := dk_42 (dk_at dksX2_readText_0 0 rfl rfl)
theorem dX2_readText_1 : decode cX2_readText 1 = .ok (.sipush 729, 3) := dk_17 2 217 (dk_at dksX2_readText_0 1 rfl rfl)
theorem dX2_readText_4 : decode cX2_readText 4 = .ok (.aload_n 0, 1) := dk_42 (dk_at dksX2_readText_0 4 rfl rfl)
theorem dX2_readText_5 : decode cX2_readText 5 = .ok (.getfield 7, 3) := dk_180 0 7 (dk_at dksX2_readText_0 5 rfl rfl)
theorem dX2_readText_8 : decode cX2_readText 8 = .ok (.iconst 1, 1) := dk_4 (dk_at dksX2_readText_0 8 rfl rfl)
theorem dX2_readText_9 : decode cX2_readText 9 = .ok (.iaload, 1) := dk_46 (dk_at dksX2_readText_0 9 rfl rfl)
theorem dX2_readText_10 : decode cX2_readText 10 = .ok (.imul, 1) := dk_104 (dk_at dksX2_readText_0 10 rfl rfl)
theorem dX2_readText_11 : decode cX2_readText 11 = .ok (.putfield 141, 3) := dk_181 0 141 (dk_at dksX2_readText_0 11 rfl rfl)
theorem dX2_readText_14 : decode cX2_readText 14 = .ok (.aload_n 0, 1) := dk_42 (dk_at dksX2_readText_0 14 rfl rfl)
theorem dX2_readText_15 : decode cX2_readText 15 = .ok (.getfield 16, 3) := dk_180 0 16 (dk_at dksX2_readText_0 15 rfl rfl)
theorem dX2_readText_18 : decode cX2_readText 18 = .ok (.aload_n 0, 1) := dk_42 (dk_at dksX2_readText_0 18 rfl rfl)
theorem dX2_readText_19 : decode cX2_readText 19 = .ok (.getfield 141, 3) := dk_180 0 141 (dk_at dksX2_readText_0 19 rfl rfl)
theorem dX2_readText_22 : decode cX2_readText 22 = .ok (.iconst 0, 1) := dk_3 (dk_at dksX2_readText_0 22 rfl rfl)
theorem dX2_readText_23 : decode cX2_readText 23 = .ok (.iastore, 1) := dk_79 (dk_at dksX2_readText_0 23 rfl rfl)
theorem dX2_readText_24 : decode cX2_readText 24 = .ok (.aload_n 0, 1) := dk_42 (dk_at dksX2_readText_1 0 rfl rfl)
theorem dX2_readText_25 : decode cX2_readText 25 = .ok (.iconst 0, 1) := dk_3 (dk_at dksX2_readText_1 1 rfl rfl)
theorem dX2_readText_26 : decode cX2_readText 26 = .ok (.putfield 144, 3) := dk_181 0 144 (dk_at dksX2_readText_1 2 rfl rfl)
theorem dX2_readText_29 : decode cX2_readText 29 = .ok (.aload_n 0, 1) := dk_42 (dk_at dksX2_readText_1 5 rfl rfl)
theorem dX2_readText_30 : decode cX2_readText 30 = .ok (.iconst 0, 1) := dk_3 (dk_at dksX2_readText_1 6 rfl rfl)
theorem dX2_readText_31 : decode cX2_readText 31 = .ok (.putfield 243, 3) := dk_181 0 243 (dk_at dksX2_readText_1 7 rfl rfl)
theorem dX2_readText_34 : decode cX2_readText 34 = .ok (.aload_n 0, 1) := dk_42 (dk_at dksX2_readText_1 10 rfl rfl)
theorem dX2_readText_35 : decode cX2_readText 35 = .ok (.iconst 0, 1) := dk_3 (dk_at dksX2_readText_1 11 rfl rfl)
theorem dX2_readText_36 : decode cX2_readText 36 = .ok (.putfield 92, 3) := dk_181 0 92 (dk_at dksX2_readText_1 12 rfl rfl)
theorem dX2_readText_39 : decode cX2_readText 39 = .ok (.aload_n 0, 1) := dk_42 (dk_at dksX2_readText_1 15 rfl rfl)
theorem dX2_readText_40 : decode cX2_readText 40 = .ok (.invokevirtual 173, 3) := dk_182 0 173 (dk_at dksX2_readText_1 16 rfl rfl)
theorem dX2_readText_43 : decode cX2_readText 43 = .ok (.aload_n 0, 1) := dk_42 (dk_at dksX2_readText_1 19 rfl rfl)
theorem dX2_readText_44 : decode cX2_readText 44 = .ok (.getfield 102, 3) := dk_180 0 102 (dk_at dksX2_readText_1 20 rfl rfl)
theorem dX2_readText_47 : decode cX2_readText 47 = .ok (.ifCond .eq 17, 3) := dk_153 0 17 (dk_at dksX2_readText_2 0 rfl rfl)
theorem dX2_readText_50 : decode cX2_readText 50 = .ok (.aload_n 0, 1) := dk_42 (dk_at dksX2_readText_2 3 rfl rfl)
theorem dX2_readText_51 : decode cX2_readText 51 = .ok (.invokevirtual 253, 3) := dk_182 0 253 (dk_at dksX2_readText_2 4 rfl rfl)
theorem dX2_readText_54 : decode cX2_readText 54 = .ok (.istore_n 1, 1) := dk_60 (dk_at dksX2_readText_2 7 rfl rfl)
theorem dX2_readText_55 : decode cX2_readText 55 = .ok (.iload_n 1, 1) := dk_27 (dk_at dksX2_readText_2 8 rfl rfl)
theorem dX2_readText_56 : decode cX2_readText 56 = .ok (.ifCond .eq 5, 3) := dk_153 0 5 (dk_at dksX2_readText_2 9 rfl rfl)
theorem dX2_readText_59 : decode cX2_readText 59 = .ok (.iload_n 1, 1) := dk_27 (dk_at dksX2_readText_2 12 rfl rfl)
theorem dX2_readText_60 : decode cX2_readText 60 = .ok (.ireturn, 1) := dk_172 (dk_at dksX2_readText_2 13 rfl rfl)
theorem dX2_readText_61 : decode cX2_readText 61 = .ok (.goto (-18), 3) := dk_167 255 238 (dk_at dksX2_readText_2 14 rfl rfl)
theorem dX2_readText_64 : decode cX2_readText 64 = .ok (.iconst 0, 1) := dk_3 (dk_at dksX2_readText_2 17 rfl rfl)
theorem dX2_readText_65 : decode cX2_readText 65 = .ok (.ireturn, 1) := dk_172 (dk_at dksX2_readText_2 18 rfl rfl)
abbrev cX2_nextToken : ByteArray := prog_21_method_23_code
def yX2_nextToken : MethodName := ⟨RX2, "nextToken", "()V"⟩
def dkwX2_nextToken_13 : List UInt8 := [180, 0, 92, 4, 96, 181, 0, 92, 177]
abbrev dktX2_nextToken_13 : List UInt8 := dkwX2_nextToken_13 ++ []
def dkwX2_nextToken_12 : List UInt8 := [16, 61, 160, 0, 28, 42, 27, 16, 60, 160, 0, 7, 7, 167, 0, 4, 8, 181, 0, 102, 42, 89]
abbrev dktX2_nextToken_12 : List UInt8 := dkwX2_nextToken_12 ++ dktX2_nextToken_13
def dkwX2_nextToken_11 : List UInt8 := [181, 0, 92, 27, 16, 60, 159, 0, 9, 27, 16, 62, 160, 0, 41, 42, 42, 180, 0, 92, 182, 0, 95]
abbrev dktX2_nextToken_11 : List UInt8 := dkwX2_nextToken_11 ++ dktX2_nextToken_12
def dkwX2_nextToken_10 : List UInt8 := [42, 27, 184, 0, 122, 153, 0, 7, 27, 167, 0, 4, 6, 181, 0, 102, 42, 89, 180, 0, 92, 4, 96]
abbrev dktX2_nextToken_10 : List UInt8 := dkwX2_nextToken_10 ++ dktX2_nextToken_11
def dkwX2_nextToken_9 : List UInt8 := [180, 0, 92, 182, 0, 95, 133, 129, 181, 0, 116, 42, 89, 180, 0, 92, 4, 96, 181, 0, 92, 167, 255, 193]
abbrev dktX2_nextToken_9 : List UInt8 := dkwX2_nextToken_9 ++ dktX2_nextToken_10
def dkwX2_nextToken_8 : List UInt8 := [16, 48, 123, 9, 148, 153, 0, 9, 20, 0, 120, 167, 0, 20, 42, 180, 0, 116, 16, 8, 121, 42, 42]
abbrev dktX2_nextToken_8 : List UInt8 := dkwX2_nextToken_8 ++ dktX2_nextToken_9
def dkwX2_nextToken_7 : List UInt8 := [9, 181, 0, 116, 42, 42, 180, 0, 92, 182, 0, 95, 184, 0, 113, 153, 0, 131, 42, 42, 180, 0, 116]
abbrev dktX2_nextToken_7 : List UInt8 := dkwX2_nextToken_7 ++ dktX2_nextToken_8
def dkwX2_nextToken_6 : List UInt8 := [180, 0, 92, 4, 96, 181, 0, 92, 167, 255, 193, 27, 184, 0, 113, 153, 0, 79, 42, 5, 181, 0, 102, 42]
abbrev dktX2_nextToken_6 : List UInt8 := dkwX2_nextToken_6 ++ dktX2_nextToken_7
def dkwX2_nextToken_5 : List UInt8 := [16, 10, 42, 180, 0, 109, 104, 42, 42, 180, 0, 92, 182, 0, 95, 96, 16, 48, 100, 181, 0, 109, 42, 89]
abbrev dktX2_nextToken_5 : List UInt8 := dkwX2_nextToken_5 ++ dktX2_nextToken_6
def dkwX2_nextToken_4 : List UInt8 := [184, 0, 105, 153, 0, 214, 42, 42, 180, 0, 109, 18, 112, 164, 0, 10, 42, 180, 0, 109, 167, 0, 22]
abbrev dktX2_nextToken_4 : List UInt8 := dkwX2_nextToken_4 ++ dktX2_nextToken_5
def dkwX2_nextToken_3 : List UInt8 := [184, 0, 105, 153, 0, 79, 42, 4, 181, 0, 102, 42, 3, 181, 0, 109, 42, 42, 180, 0, 92, 182, 0, 95]
abbrev dktX2_nextToken_3 : List UInt8 := dkwX2_nextToken_3 ++ dktX2_nextToken_4
def dkwX2_nextToken_2 : List UInt8 := [42, 42, 180, 0, 92, 182, 0, 95, 60, 27, 156, 0, 11, 42, 3, 181, 0, 102, 167, 0, 245, 27]
abbrev dktX2_nextToken_2 : List UInt8 := dkwX2_nextToken_2 ++ dktX2_nextToken_3
def dkwX2_nextToken_1 : List UInt8 := [160, 0, 16, 42, 89, 180, 0, 92, 4, 96, 181, 0, 92, 167, 255, 220, 42, 42, 180, 0, 92, 181, 0, 99]
abbrev dktX2_nextToken_1 : List UInt8 := dkwX2_nextToken_1 ++ dktX2_nextToken_2
def dkwX2_nextToken_0 : List UInt8 := [42, 42, 180, 0, 92, 182, 0, 95, 16, 32, 159, 0, 16, 42, 42, 180, 0, 92, 182, 0, 95, 16, 10]
abbrev dktX2_nextToken_0 : List UInt8 := dkwX2_nextToken_0 ++ dktX2_nextToken_1
theorem dksX2_nextToken_0 : cX2_nextToken.data.toList.drop 0 = dktX2_nextToken_0 := by decide +kernel
theorem dksX2_nextToken_1 : cX2_nextToken.data.toList.drop 23 = dktX2_nextToken_1 := dk_seg dksX2_nextToken_0 23 rfl rfl
theorem dksX2_nextToken_2 : cX2_nextToken.data.toList.drop 47 = dktX2_nextToken_2 := dk_seg dksX2_nextToken_1 24 rfl rfl
theorem dksX2_nextToken_3 : cX2_nextToken.data.toList.drop 69 = dktX2_nextToken_3 := dk_seg dksX2_nextToken_2 22 rfl rfl
theorem dksX2_nextToken_4 : cX2_nextToken.data.toList.drop 93 = dktX2_nextToken_4 := dk_seg dksX2_nextToken_3 24 rfl rfl
theorem dksX2_nextToken_5 : cX2_nextToken.data.toList.drop 116 = dktX2_nextToken_5 := dk_seg dksX2_nextToken_4 23 rfl rfl
theorem dksX2_nextToken_6 : cX2_nextToken.data.toList.drop 140 = dktX2_nextToken_6 := dk_seg dksX2_nextToken_5 24 rfl rfl
theorem dksX2_nextToken_7 : cX2_nextToken.data.toList.drop 164 = dktX2_nextToken_7 := dk_seg dksX2_nextToken_6 24 rfl rfl
theorem dksX2_nextToken_8 : cX2_nextToken.data.toList.drop 187 = dktX2_nextToken_8 := dk_seg dksX2_nextToken_7 23 rfl rfl
theorem dksX2_nextToken_9 : cX2_nextToken.data.toList.drop 210 = dktX2_nextToken_9 := dk_seg dksX2_nextToken_8 23 rfl rfl
theorem dksX2_nextToken_10 : cX2_nextToken.data.toList.drop 234 = dktX2_nextToken_10 := dk_seg dksX2_nextToken_9 24 rfl rfl
theorem dksX2_nextToken_11 : cX2_nextToken.data.toList.drop 257 = dktX2_nextToken_11 := dk_seg dksX2_nextToken_10 23 rfl rfl
theorem dksX2_nextToken_12 : cX2_nextToken.data.toList.drop 280 = dktX2_nextToken_12 := dk_seg dksX2_nextToken_11 23 rfl rfl
theorem dksX2_nextToken_13 : cX2_nextToken.data.toList.drop 302 = dktX2_nextToken_13 := dk_seg dksX2_nextToken_12 22 rfl rfl
theorem dX2_nextToken_0 : decode cX2_nextToken 0 = .ok (.aload_n 0, 1) := dk_42 (dk_at dksX2_nextToken_0 0 rfl rfl)
theorem dX2_nextToken_1 : decode cX2_nextToken 1 = .ok (.aload_n 0, 1) := dk_42 (dk_at dksX2_nextToken_0 1 rfl rfl)
theorem dX2_nextToken_2 : decode cX2_nextToken 2 = .ok (.getfield 92, 3) := dk_180 0 92 (dk_at dksX2_nextToken_0 2 rfl rfl)
theorem dX2_nextToken_5 : decode cX2_nextToken 5 = .ok (.invokevirtual 95, 3) := dk_182 0 95 (dk_at dksX2_nextToken_0 5 rfl rfl)
theorem dX2_nextToken_8 : decode cX2_nextToken 8 = .ok (.bipush 32, 2) := dk_16 32 (dk_at dksX2_nextToken_0 8 rfl rfl)
theorem dX2_nextToken_10 : decode cX2_nextToken 10 = .ok (.if_icmp .eq 16, 3) := dk_159 0 16 (dk_at dksX2_nextToken_0 10 rfl rfl)
theorem dX2_nextToken_13 : decode cX2_nextToken 13 = .ok (.aload_n 0, 1) := dk_42 (dk_at dksX2_nextToken_0 13 rfl rfl)
theorem dX2_nextToken_14 : decode cX2_nextToken 14 = .ok (.aload_n 0, 1) := dk_42 (dk_at dksX2_nextToken_0 14 rfl rfl)
theorem dX2_nextToken_15 : decode cX2_nextToken 15 = .ok (.getfield 92, 3) := dk_180 0 92 (dk_at dksX2_nextToken_0 15 rfl rfl)
theorem dX2_nextToken_18 : decode cX2_nextToken 18 = .ok (.invokevirtual 95, 3) := dk_182 0 95 (dk_at dksX2_nextToken_0 18 rfl rfl)
theorem dX2_nextToken_21 : decode cX2_nextToken 21 = .ok (.bipush 10, 2) := dk_16 10 (dk_at dksX2_nextToken_0 21 rfl rfl)
theorem dX2_nextToken_23 : decode cX2_nextToken 23 = .ok (.if_icmp .ne 16, 3) := dk_160 0 16 (dk_at dksX2_nextToken_1 0 rfl rfl)
theorem dX2_nextToken_26 : decode cX2_nextToken 26 = .ok (.aload_n 0, 1) := dk_42 (dk_at dksX2_nextToken_1 3 rfl rfl)
theorem dX2_nextToken_27 : decode cX2_nextToken 27 = .ok (.dup, 1) := dk_89 (dk_at dksX2_nextToken_1 4 rfl rfl)
theorem dX2_nextToken_28 : decode cX2_nextToken 28 = .ok (.getfield 92, 3) := dk_180 0 92 (dk_at dksX2_nextToken_1 5 rfl rfl)
theorem dX2_nextToken_31 : decode cX2_nextToken 31 = .ok (.iconst 1, 1) := dk_4 (dk_at dksX2_nextToken_1 8 rfl rfl)
theorem dX2_nextToken_32 : decode cX2_nextToken 32 = .ok (.iadd, 1) := dk_96 (dk_at dksX2_nextToken_1 9 rfl rfl)
theorem dX2_nextToken_33 : decode cX2_nextToken 33 = .ok (.putfield 92, 3) := dk_181 0 92 (dk_at dksX2_nextToken_1 10 rfl rfl)
theorem dX2_nextToken_36 : decode cX2_nextToken 36 = .ok (.goto (-36), 3) := dk_167 255 220 (dk_at dksX2_nextToken_1 13 rfl rfl)
theorem dX2_nextToken_39 : decode cX2_nextToken 39 = .ok (.aload_n 0, 1) := dk_42 (dk_at dksX2_nextToken_1 16 rfl rfl)
theorem dX2_nextToken_40 : decode cX2_nextToken 40 = .ok (.aload_n 0, 1) := dk_42 (dk_at dksX2_nextToken_1 17 rfl rfl)
theorem dX2_nextToken_41 : decode cX2_nextToken 41 = .ok (.getfield 92, 3) := dk_180 0 92 (dk_at dksX2_nextToken_1 18 rfl rfl)
theorem dX2_nextToken_44 : decode cX2_nextToken 44 = .ok (.putfield 99, 3) := dk_181 0 99 (dk_at dksX2_nextToken_1 21 rfl rfl)
theorem dX2_nextToken_47 : decode cX2_nextToken 47 = .ok (.aload_n 0, 1) := dk_42 (dk_at dksX2_nextToken_2 0 rfl rfl)
theorem dX2_nextToken_48 : decode cX2_nextToken 48 = .ok (.aload_n 0, 1) := dk_42 (dk_at dksX2_nextToken_2 1 rfl rfl)
theorem dX2_nextToken_49 : decode cX2_nextToken 49 = .ok (.getfield 92, 3) := dk_180 0 92 (dk_at dksX2_nextToken_2 2 rfl rfl)
theorem dX2_nextToken_52 : decode cX2_nextToken 52 = .ok (.invokevirtual 95, 3) := dk_182 0 95 (dk_at dksX2_nextToken_2 5 rfl rfl)
theorem dX2_nextToken_55 : decode cX2_nextToken 55 = .ok (.istore_n 1, 1) := dk_60 (dk_at dksX2_nextToken_2 8 rfl rfl)
theorem dX2_nextToken_56 : decode cX2_nextToken 56 = .ok (.iload_n 1, 1) := dk_27 (dk_at dksX2_nextToken_2 9 rfl rfl)
theorem dX2_nextToken_57 : decode cX2_nextToken 57 = .ok (.ifCond .ge 11, 3) := dk_156 0 11 (dk_at dksX2_nextToken_2 10 rfl rfl)
theorem dX2_nextToken_60 : decode cX2_nextToken 60 = .ok (.aload_n 0, 1) := dk_42 (dk_at dksX2_nextToken_2 13 rfl rfl)
theorem dX2_nextToken_61 : decode cX2_nextToken 61 = .ok (.iconst 0, 1) := dk_3 (dk_at dksX2_nextToken_2 14 rfl rfl)
theorem dX2_nextToken_62 : decode cX2_nextToken 62 = .ok (.putfield 102, 3) := dk_181 0 102 (dk_at dksX2_nextToken_2 15 rfl rfl)
theorem dX2_nextToken_65 : decode cX2_nextToken 65 = .ok (.goto 245, 3) := dk_167 0 245 (dk_at dksX2_nextToken_2 18 rfl rfl)
theorem dX2_nextToken_68 : decode cX2_nextToken 68 = .ok (.iload_n 1, 1) := dk_27 (dk_at dksX2_nextToken_2 21 rfl rfl)
theorem dX2_nextToken_69 : decode cX2_nextToken 69 = .ok (.invokestatic 105, 3) := dk_184 0 105 (dk_at dksX2_nextToken_3 0 rfl rfl)
theorem dX2_nextToken_72 : decode cX2_nextToken 72 = .ok (.ifCond .eq 79, 3) := dk_153 0 79 (dk_at dksX2_nextToken_3 3 rfl rfl)
theorem dX2_nextToken_75 : decode cX2_nextToken 75 = .ok (.aload_n 0, 1) := dk_42 (dk_at dksX2_nextToken_3 6 rfl rfl)
theorem dX2_nextToken_76 : decode cX2_nextToken 76 = .ok (.iconst 1, 1) := dk_4 (dk_at dksX2_nextToken_3 7 rfl rfl)
theorem dX2_nextToken_77 : decode cX2_nextToken 77 = .ok (.putfield 102, 3) := dk_181 0 102 (dk_at dksX2_nextToken_3 8 rfl rfl)
theorem dX2_nextToken_80 : decode cX2_nextToken 80 = .ok (.aload_n 0, 1) := dk_42 (dk_at dksX2_nextToken_3 11 rfl rfl)
theorem dX2_nextToken_81 : decode cX2_nextToken 81 = .ok (.iconst 0, 1) := dk_3 (dk_at dksX2_nextToken_3 12 rfl rfl)
theorem dX2_nextToken_82 : decode cX2_nextToken 82 = .ok (.putfield 109, 3) := dk_181 0 109 (dk_at dksX2_nextToken_3 13 rfl rfl)
theorem dX2_nextToken_85 : decode cX2_nextToken 85 = .ok (.aload_n 0, 1) := dk_42 (dk_at dksX2_nextToken_3 16 rfl rfl)
theorem dX2_nextToken_86 : decode cX2_nextToken 86 = .ok (.aload_n 0, 1) := dk_42 (dk_at dksX2_nextToken_3 17 rfl rfl)
theorem dX2_nextToken_87 : decode cX2_nextToken 87 = .ok (.getfield 92, 3) := dk_180 0 92 (dk_at dksX2_nextToken_3 18 rfl rfl)
theorem dX2_nextToken_90 : decode cX2_nextToken 90 = .ok (.invokevirtual 95, 3) := dk_182 0 95 (dk_at dksX2_nextToken_3 21 rfl rfl)
theorem dX2_nextToken_93 : decode cX2_nextToken 93 = .ok (.invokestatic 105, 3) := dk_184 0 105 (dk_at dksX2_nextToken_4 0 rfl rfl)
theorem dX2_nextToken_96 : decode cX2_nextToken 96 = .ok (.ifCond .eq 214, 3) := dk_153 0 214 (dk_at dksX2_nextToken_4 3 rfl rfl)
theorem dX2_nextToken_99 : decode cX2_nextToken 99 = .ok (.aload_n 0, 1) := dk_42 (dk_at dksX2_nextToken_4 6 rfl rfl)
theorem dX2_nextToken_100 : decode cX2_nextToken 100 = .ok (.aload_n 0, 1) := dk_42 (dk_at dksX2_nextToken_4 7 rfl rfl)
theorem dX2_nextToken_101 : decode cX2_nextToken 101 = .ok (.getfield 109, 3) := dk_180 0 109 (dk_at dksX2_nextToken_4 8 rfl rfl)
theorem dX2_nextToken_104 : decode cX2_nextToken 104 = .ok (.ldc 112, 2) := dk_18 112 (dk_at dksX2_nextToken_4 11 rfl rfl)
theorem dX2_nextToken_106 : decode cX2_nextToken 106 = .ok (.if_icmp .le 10, 3) := dk_164 0 10 (dk_at dksX2_nextToken_4 13 rfl rfl)
theorem dX2_nextToken_109 : decode cX2_nextToken 109 = .ok (.aload_n 0, 1) := dk_42 (dk_at dksX2_nextToken_4 16 rfl rfl)
theorem dX2_nextToken_110 : decode cX2_nextToken 110 = .ok (.getfield 109, 3) := dk_180 0 109 (dk_at dksX2_nextToken_4 17 rfl rfl)
theorem dX2_nextToken_113 : decode cX2_nextToken 113 = .ok (.goto 22, 3) := dk_167 0 22 (dk_at dksX2_nextToken_4 20 rfl rfl)
theorem dX2_nextToken_116 : decode cX2_nextToken 116 = .ok (.bipush 10, 2) := dk_16 10 (dk_at dksX2_nextToken_5 0 rfl rfl)
theorem dX2_nextToken_118 : decode cX2_nextToken 118 = .ok (.aload_n 0, 1) := dk_42 (dk_at dksX2_nextToken_5 2 rfl rfl)
theorem dX2_nextToken_119 : decode cX2_nextToken 119 = .ok (.getfield 109, 3) := dk_180 0 109 (dk_at dksX2_nextToken_5 3 rfl rfl)
theorem dX2_nextToken_122 : decode cX2_nextToken 122 = .ok (.imul, 1) := dk_104 (dk_at dksX2_nextToken_5 6 rfl rfl)
theorem dX2_nextToken_123 : decode cX2_nextToken 123 = .ok (.aload_n 0, 1) := dk_42 (dk_at dksX2_nextToken_5 7 rfl rfl)
theorem dX2_nextToken_124 : decode cX2_nextToken 124 = .ok (.aload_n 0, 1) := dk_42 (dk_at dksX2_nextToken_5 8 rfl rfl)
theorem dX2_nextToken_125 : decode cX2_nextToken 125 = .ok (.getfield 92, 3) := dk_180 0 92 (dk_at dksX2_nextToken_5 9 rfl rfl)
theorem dX2_nextToken_128 : decode cX2_nextToken 128 = .ok (.invokevirtual 95, 3) := dk_182 0 95 (dk_at dksX2_nextToken_5 12 rfl rfl)
theorem dX2_nextToken_131 : decode cX2_nextToken 131 = .ok (.iadd, 1) := dk_96 (dk_at dksX2_nextToken_5 15 rfl rfl)
theorem dX2_nextToken_132 : decode cX2_nextToken 132 = .ok (.bipush 48, 2) := dk_16 48 (dk_at dksX2_nextToken_5 16 rfl rfl)
theorem dX2_nextToken_134 : decode cX2_nextToken 134 = .ok (.isub, 1) := dk_100 (dk_at dksX2_nextToken_5 18 rfl rfl)
theorem dX2_nextToken_135 : decode cX2_nextToken 135 = .ok (.putfield 109, 3) := dk_181 0 109 (dk_at dksX2_nextToken_5 19 rfl rfl)
theorem dX2_nextToken_138 : decode cX2_nextToken 138 = .ok (.aload_n 0, 1) := dk_42 (dk_at dksX2_nextToken_5 22 rfl rfl)
theorem dX2_nextToken_139 : decode cX2_nextToken 139 = .ok (.dup, 1) := dk_89 (dk_at dksX2_nextToken_5 23 rfl rfl)
theorem dX2_nextToken_140 : decode cX2_nextToken 140 = .ok (.getfield 92, 3) := dk_180 0 92 (dk_at dksX2_nextToken_6 0 rfl rfl)
theorem dX2_nextToken_143 : decode cX2_nextToken 143 = .ok (.iconst 1, 1) := dk_4 (dk_at dksX2_nextToken_6 3 rfl rfl)
theorem dX2_nextToken_144 : decode cX2_nextToken 144 = .ok (.iadd, 1) := dk_96 (dk_at dksX2_nextToken_6 4 rfl rfl)
theorem dX2_nextToken_145 : decode cX2_nextToken 145 = .ok (.putfield 92, 3) := dk_181 0 92 (dk_at dksX2_nextToken_6 5 rfl rfl)
theorem dX2_nextToken_148 : decode cX2_nextToken 148 = .ok (.goto (-63), 3) := dk_167 255 193 (dk_at dksX2_nextToken_6 8 rfl rfl)
theorem dX2_nextToken_151 : decode cX2_nextToken 151 = .ok (.iload_n 1, 1) := dk_27 (dk_at dksX2_nextToken_6 11 rfl rfl)
theorem dX2_nextToken_152 : decode cX2_nextToken 152 = .ok (.invokestatic 113, 3) := dk_184 0 113 (dk_at dksX2_nextToken_6 12 rfl rfl)
theorem dX2_nextToken_155 : decode cX2_nextToken 155 = .ok (.ifCond .eq 79, 3) := dk_153 0 79 (dk_at dksX2_nextToken_6 15 rfl rfl)
theorem dX2_nextToken_158 : decode cX2_nextToken 158 = .ok (.aload_n 0, 1) := dk_42 (dk_at dksX2_nextToken_6 18 rfl rfl)
theorem dX2_nextToken_159 : decode cX2_nextToken 159 = .ok (.iconst 2, 1) := dk_5 (dk_at dksX2_nextToken_6 19 rfl rfl)
theorem dX2_nextToken_160 : decode cX2_nextToken 160 = .ok (.putfield 102, 3) := dk_181 0 102 (dk_at dksX2_nextToken_6 20 rfl rfl)
theorem dX2_nextToken_163 : decode cX2_nextToken 163 = .ok (.aload_n 0, 1) := dk_42 (dk_at dksX2_nextToken_6 23 rfl rfl)
theorem dX2_nextToken_164 : decode cX2_nextToken 164 = .ok (.lconst 0, 1) := dk_9 (dk_at dksX2_nextToken_7 0 rfl rfl)
theorem dX2_nextToken_165 : decode cX2_nextToken 165 = .ok (.putfield 116, 3) := dk_181 0 116 (dk_at dksX2_nextToken_7 1 rfl rfl)
theorem dX2_nextToken_168 : decode cX2_nextToken 168 = .ok (.aload_n 0, 1) := dk_42 (dk_at dksX2_nextToken_7 4 rfl rfl)
theorem dX2_nextToken_169 : decode cX2_nextToken 169 = .ok (.aload_n 0, 1) := dk_42 (dk_at dksX2_nextToken_7 5 rfl rfl)
theorem dX2_nextToken_170 : decode cX2_nextToken 170 = .ok (.getfield 92, 3) := dk_180 0 92 (dk_at dksX2_nextToken_7 6 rfl rfl)
theorem dX2_nextToken_173 : decode cX2_nextToken 173 = .ok (.invokevirtual 95, 3) := dk_182 0 95 (dk_at dksX2_nextToken_7 9 rfl rfl)
theorem dX2_nextToken_176 : decode cX2_nextToken 176 = .ok (.invokestatic 113, 3) := dk_184 0 113 (dk_at dksX2_nextToken_7 12 rfl rfl)
theorem dX2_nextToken_179 : decode cX2_nextToken 179 = .ok (.ifCond .eq 131, 3) := dk_153 0 131 (dk_at dksX2_nextToken_7 15 rfl rfl)
theorem dX2_nextToken_182 : decode cX2_nextToken 182 = .ok (.aload_n 0, 1) := dk_42 (dk_at dksX2_nextToken_7 18 rfl rfl)
theorem dX2_nextToken_183 : decode cX2_nextToken 183 = .ok (.aload_n 0, 1) := dk_42 (dk_at dksX2_nextToken_7 19 rfl rfl)
theorem dX2_nextToken_184 : decode cX2_nextToken 184 = .ok (.getfield 116, 3) := dk_180 0 116 (dk_at dksX2_nextToken_7 20 rfl rfl)
theorem dX2_nextToken_187 : decode cX2_nextToken 187 = .ok (.bipush 48, 2) := dk_16 48 (dk_at dksX2_nextToken_8 0 rfl rfl)
theorem dX2_nextToken_189 : decode cX2_nextToken 189 = .ok (.lshr, 1) := dk_123 (dk_at dksX2_nextToken_8 2 rfl rfl)
theorem dX2_nextToken_190 : decode cX2_nextToken 190 = .ok (.lconst 0, 1) := dk_9 (dk_at dksX2_nextToken_8 3 rfl rfl)
theorem dX2_nextToken_191 : decode cX2_nextToken 191 = .ok (.lcmp, 1) := dk_148 (dk_at dksX2_nextToken_8 4 rfl rfl)
theorem dX2_nextToken_192 : decode cX2_nextToken 192 = .ok (.ifCond .eq 9, 3) := dk_153 0 9 (dk_at dksX2_nextToken_8 5 rfl rfl)
theorem dX2_nextToken_195 : decode cX2_nextToken 195 = .ok (.ldc2_w 120, 3) := dk_20 0 120 (dk_at dksX2_nextToken_8 8 rfl rfl)
theorem dX2_nextToken_198 : decode cX2_nextToken 198 = .ok (.goto 20, 3) := dk_167 0 20 (dk_at dksX2_nextToken_8 11 rfl rfl)
theorem dX2_nextToken_201 : decode cX2_nextToken 201 = .ok (.aload_n 0, 1) := dk_42 (dk_at dksX2_nextToken_8 14 rfl rfl)
theorem dX2_nextToken_202 : decode cX2_nextToken 202 = .ok (.getfield 116, 3) := dk_180 0 116 (dk_at dksX2_nextToken_8 15 rfl rfl)
theorem dX2_nextToken_205 : decode cX2_nextToken 205 = .ok (.bipush 8, 2) := dk_16 8 (dk_at dksX2_nextToken_8 18 rfl rfl)
theorem dX2_nextToken_207 : decode cX2_nextToken 207 = .ok (.lshl, 1) := dk_121 (dk_at dksX2_nextToken_8 20 rfl rfl)
theorem dX2_nextToken_208 : decode cX2_nextToken 208 = .ok (.aload_n 0, 1) := dk_42 (dk_at dksX2_nextToken_8 21 rfl rfl)
theorem dX2_nextToken_209 : decode cX2_nextToken 209 = .ok (.aload_n 0, 1) := dk_42 (dk_at dksX2_nextToken_8 22 rfl rfl)
theorem dX2_nextToken_210 : decode cX2_nextToken 210 = .ok (.getfield 92, 3) := dk_180 0 92 (dk_at dksX2_nextToken_9 0 rfl rfl)
theorem dX2_nextToken_213 : decode cX2_nextToken 213 = .ok (.invokevirtual 95, 3) := dk_182 0 95 (dk_at dksX2_nextToken_9 3 rfl rfl)
theorem dX2_nextToken_216 : decode cX2_nextToken 216 = .ok (.i2l, 1) := dk_133 (dk_at dksX2_nextToken_9 6 rfl rfl)
theorem dX2_nextToken_217 : decode cX2_nextToken 217 = .ok (.lor, 1) := dk_129 (dk_at dksX2_nextToken_9 7 rfl rfl)
theorem dX2_nextToken_218 : decode cX2_nextToken 218 = .ok (.putfield 116, 3) := dk_181 0 116 (dk_at dksX2_nextToken_9 8 rfl rfl)
theorem dX2_nextToken_221 : decode cX2_nextToken 221 = .ok (.aload_n 0, 1) := dk_42 (dk_at dksX2_nextToken_9 11 rfl rfl)
theorem dX2_nextToken_222 : decode cX2_nextToken 222 = .ok (.dup, 1) := dk_89 (dk_at dksX2_nextToken_9 12 rfl rfl)
theorem dX2_nextToken_223 : decode cX2_nextToken 223 = .ok (.getfield 92, 3) := dk_180 0 92 (dk_at dksX2_nextToken_9 13 rfl rfl)
theorem dX2_nextToken_226 : decode cX2_nextToken 226 = .ok (.iconst 1, 1) := dk_4 (dk_at dksX2_nextToken_9 16 rfl rfl)
theorem dX2_nextToken_227 : decode cX2_nextToken 227 = .ok (.iadd, 1) := dk_96 (dk_at dksX2_nextToken_9 17 rfl rfl)
theorem dX2_nextToken_228 : decode cX2_nextToken 228 = .ok (.putfield 92, 3) := dk_181 0 92 (dk_at dksX2_nextToken_9 18 rfl rfl)
theorem dX2_nextToken_231 : decode cX2_nextToken 231 = .ok (.goto (-63), 3) := dk_167 255 193 (dk_at dksX2_nextToken_9 21 rfl rfl)
theorem dX2_nextToken_234 : decode cX2_nextToken 234 = .ok (.aload_n 0, 1) := dk_42 (dk_at dksX2_nextToken_10 0 rfl rfl)
theorem dX2_nextToken_235 : decode cX2_nextToken 235 = .ok (.iload_n 1, 1) := dk_27 (dk_at dksX2_nextToken_10 1 rfl rfl)
theorem dX2_nextToken_236 : decode cX2_nextToken 236 = .ok (.invokestatic 122, 3) := dk_184 0 122 (dk_at dksX2_nextToken_10 2 rfl rfl)
theorem dX2_nextToken_239 : decode cX2_nextToken 239 = .ok (.ifCond .eq 7, 3) := dk_153 0 7 (dk_at dksX2_nextToken_10 5 rfl rfl)
theorem dX2_nextToken_242 : decode cX2_nextToken 242 = .ok (.iload_n 1, 1) := dk_27 (dk_at dksX2_nextToken_10 8 rfl rfl)
theorem dX2_nextToken_243 : decode cX2_nextToken 243 = .ok (.goto 4, 3) := dk_167 0 4 (dk_at dksX2_nextToken_10 9 rfl rfl)
theorem dX2_nextToken_246 : decode cX2_nextToken 246 = .ok (.iconst 3, 1) := dk_6 (dk_at dksX2_nextToken_10 12 rfl rfl)
theorem dX2_nextToken_247 : decode cX2_nextToken 247 = .ok (.putfield 102, 3) := dk_181 0 102 (dk_at dksX2_nextToken_10 13 rfl rfl)
theorem dX2_nextToken_250 : decode cX2_nextToken 250 = .ok (.aload_n 0, 1) := dk_42 (dk_at dksX2_nextToken_10 16 rfl rfl)
theorem dX2_nextToken_251 : decode cX2_nextToken 251 = .ok (.dup, 1) := dk_89 (dk_at dksX2_nextToken_10 17 rfl rfl)
theorem dX2_nextToken_252 : decode cX2_nextToken 252 = .ok (.getfield 92, 3) := dk_180 0 92 (dk_at dksX2_nextToken_10 18 rfl rfl)
theorem dX2_nextToken_255 : decode cX2_nextToken 255 = .ok (.iconst 1, 1) := dk_4 (dk_at dksX2_nextToken_10 21 rfl rfl)
theorem dX2_nextToken_256 : decode cX2_nextToken 256 = .ok (.iadd, 1) := dk_96 (dk_at dksX2_nextToken_10 22 rfl rfl)
theorem dX2_nextToken_257 : decode cX2_nextToken 257 = .ok (.putfield 92, 3) := dk_181 0 92 (dk_at dksX2_nextToken_11 0 rfl rfl)
theorem dX2_nextToken_260 : decode cX2_nextToken 260 = .ok (.iload_n 1, 1) := dk_27 (dk_at dksX2_nextToken_11 3 rfl rfl)
theorem dX2_nextToken_261 : decode cX2_nextToken 261 = .ok (.bipush 60, 2) := dk_16 60 (dk_at dksX2_nextToken_11 4 rfl rfl)
theorem dX2_nextToken_263 : decode cX2_nextToken 263 = .ok (.if_icmp .eq 9, 3) := dk_159 0 9 (dk_at dksX2_nextToken_11 6 rfl rfl)
theorem dX2_nextToken_266 : decode cX2_nextToken 266 = .ok (.iload_n 1, 1) := dk_27 (dk_at dksX2_nextToken_11 9 rfl rfl)
theorem dX2_nextToken_267 : decode cX2_nextToken 267 = .ok (.bipush 62, 2) := dk_16 62 (dk_at dksX2_nextToken_11 10 rfl rfl)
theorem dX2_nextToken_269 : decode cX2_nextToken 269 = .ok (.if_icmp .ne 41, 3) := dk_160 0 41 (dk_at dksX2_nextToken_11 12 rfl rfl)
theorem dX2_nextToken_272 : decode cX2_nextToken 272 = .ok (.aload_n 0, 1) := dk_42 (dk_at dksX2_nextToken_11 15 rfl rfl)
theorem dX2_nextToken_273 : decode cX2_nextToken 273 = .ok (.aload_n 0, 1) := dk_42 (dk_at dksX2_nextToken_11 16 rfl rfl)
theorem dX2_nextToken_274 : decode cX2_nextToken 274 = .ok (.getfield 92, 3) := dk_180 0 92 (dk_at dksX2_nextToken_11 17 rfl rfl)
theorem dX2_nextToken_277 : decode cX2_nextToken 277 = .ok (.invokevirtual 95, 3) := dk_182 0 95 (dk_at dksX2_nextToken_11 20 rfl rfl)
theorem dX2_nextToken_280 : decode cX2_nextToken 280 = .ok (.bipush 61, 2) := dk_16 61 (dk_at dksX2_nextToken_12 0 rfl rfl)
theorem dX2_nextToken_282 : decode cX2_nextToken 282 = .ok (.if_icmp .ne 28, 3) := dk_160 0 28 (dk_at dksX2_nextToken_12 2 rfl rfl)
theorem dX2_nextToken_285 : decode cX2_nextToken 285 = .ok (.aload_n 0, 1) := dk_42 (dk_at dksX2_nextToken_12 5 rfl rfl)
theorem dX2_nextToken_286 : decode cX2_nextToken 286 = .ok (.iload_n 1, 1) := dk_27 (dk_at dksX2_nextToken_12 6 rfl rfl)
theorem dX2_nextToken_287 : decode cX2_nextToken 287 = .ok (.bipush 60, 2) := dk_16 60 (dk_at dksX2_nextToken_12 7 rfl rfl)
theorem dX2_nextToken_289 : decode cX2_nextToken 289 = .ok (.if_icmp .ne 7, 3) := dk_160 0 7 (dk_at dksX2_nextToken_12 9 rfl rfl)
theorem dX2_nextToken_292 : decode cX2_nextToken 292 = .ok (.iconst 4, 1) := dk_7 (dk_at dksX2_nextToken_12 12 rfl rfl)
theorem dX2_nextToken_293 : decode cX2_nextToken 293 = .ok (.goto 4, 3) := dk_167 0 4 (dk_at dksX2_nextToken_12 13 rfl rfl)
theorem dX2_nextToken_296 : decode cX2_nextToken 296 = .ok (.iconst 5, 1) := dk_8 (dk_at dksX2_nextToken_12 16 rfl rfl)
theorem dX2_nextToken_297 : decode cX2_nextToken 297 = .ok (.putfield 102, 3) := dk_181 0 102 (dk_at dksX2_nextToken_12 17 rfl rfl)
theorem dX2_nextToken_300 : decode cX2_nextToken 300 = .ok (.aload_n 0, 1) := dk_42 (dk_at dksX2_nextToken_12 20 rfl rfl)
theorem dX2_nextToken_301 : decode cX2_nextToken 301 = .ok (.dup, 1) := dk_89 (dk_at dksX2_nextToken_12 21 rfl rfl)
theorem dX2_nextToken_302 : decode cX2_nextToken 302 = .ok (.getfield 92, 3) := dk_180 0 92 (dk_at dksX2_nextToken_13 0 rfl rfl)
theorem dX2_nextToken_305 : decode cX2_nextToken 305 = .ok (.iconst 1, 1) := dk_4 (dk_at dksX2_nextToken_13 3 rfl rfl)
theorem dX2_nextToken_306 : decode cX2_nextToken 306 = .ok (.iadd, 1) := dk_96 (dk_at dksX2_nextToken_13 4 rfl rfl)
theorem dX2_nextToken_307 : decode cX2_nextToken 307 = .ok (.putfield 92, 3) := dk_181 0 92 (dk_at dksX2_nextToken_13 5 rfl rfl)
theorem dX2_nextToken_310 : decode cX2_nextToken 310 = .ok (.return_, 1) := dk_177 (dk_at dksX2_nextToken_13 8 rfl rfl)
abbrev cX2_byteAt : ByteArray := prog_21_method_19_code
def yX2_byteAt : MethodName := ⟨RX2, "byteAt", "(I)I"⟩
def dkwX2_byteAt_0 : List UInt8 := [27, 42, 180, 0, 86, 162, 0, 12, 42, 180, 0, 19, 27, 46, 167, 0, 4, 2, 172]
abbrev dktX2_byteAt_0 : List UInt8 := dkwX2_byteAt_0 ++ []
theorem dksX2_byteAt_0 : cX2_byteAt.data.toList.drop 0 = dktX2_byteAt_0 := by decide +kernel
theorem dX2_byteAt_0 : decode cX2_byteAt 0 = .ok (.iload_n 1, 1) := dk_27 (dk_at dksX2_byteAt_0 0 rfl rfl)
theorem dX2_byteAt_1 : decode cX2_byteAt 1 = .ok (.aload_n 0, 1) := dk_42 (dk_at dksX2_byteAt_0 1 rfl rfl)
theorem dX2_byteAt_2 : decode cX2_byteAt 2 = .ok (.getfield 86, 3) := dk_180 0 86 (dk_at dksX2_byteAt_0 2 rfl rfl)
theorem dX2_byteAt_5 : decode cX2_byteAt 5 = .ok (.if_icmp .ge 12, 3) := dk_162 0 12 (dk_at dksX2_byteAt_0 5 rfl rfl)
theorem dX2_byteAt_8 : decode cX2_byteAt 8 = .ok (.aload_n 0, 1) := dk_42 (dk_at dksX2_byteAt_0 8 rfl rfl)
theorem dX2_byteAt_9 : decode cX2_byteAt 9 = .ok (.getfield 19, 3) := dk_180 0 19 (dk_at dksX2_byteAt_0 9 rfl rfl)
theorem dX2_byteAt_12 : decode cX2_byteAt 12 = .ok (.iload_n 1, 1) := dk_27 (dk_at dksX2_byteAt_0 12 rfl rfl)
theorem dX2_byteAt_13 : decode cX2_byteAt 13 = .ok (.iaload, 1) := dk_46 (dk_at dksX2_byteAt_0 13 rfl rfl)
theorem dX2_byteAt_14 : decode cX2_byteAt 14 = .ok (.goto 4, 3) := dk_167 0 4 (dk_at dksX2_byteAt_0 14 rfl rfl)
theorem dX2_byteAt_17 : decode cX2_byteAt 17 = .ok (.iconst (-1), 1) := dk_2 (dk_at dksX2_byteAt_0 17 rfl rfl)
theorem dX2_byteAt_18 : decode cX2_byteAt 18 = .ok (.ireturn, 1) := dk_172 (dk_at dksX2_byteAt_0 18 rfl rfl)
abbrev cX2_isFigure : ByteArray := prog_21_method_21_code
def yX2_isFigure : MethodName := ⟨RX2, "isFigure", "(I)Z"⟩
def dkwX2_isFigure_0 : List UInt8 := [26, 16, 48, 161, 0, 13, 26, 16, 57, 163, 0, 7, 4, 167, 0, 4, 3, 172]
abbrev dktX2_isFigure_0 : List UInt8 := dkwX2_isFigure_0 ++ []
theorem dksX2_isFigure_0 : cX2_isFigure.data.toList.drop 0 = dktX2_isFigure_0 := by decide +kernel
theorem dX2_isFigure_0 : decode cX2_isFigure 0 = .ok (.iload_n 0, 1) := dk_26 (dk_at dksX2_isFigure_0 0 rfl rfl)
theorem dX2_isFigure_1 : decode cX2_isFigure 1 = .ok (.bipush 48, 2) := dk_16 48 (dk_at dksX2_isFigure_0 1 rfl rfl)
theorem dX2_isFigure_3 : decode cX2_isFigure 3 = .ok (.if_icmp .lt 13, 3) := dk_161 0 13 (dk_at dksX2_isFigure_0 3 rfl rfl)
theorem dX2_isFigure_6 : decode cX2_isFigure 6 = .ok (.iload_n 0, 1) := dk_26 (dk_at dksX2_isFigure_0 6 rfl rfl)
theorem dX2_isFigure_7 : decode cX2_isFigure 7 = .ok (.bipush 57, 2) := dk_16 57 (dk_at dksX2_isFigure_0 7 rfl rfl)
theorem dX2_isFigure_9 : decode cX2_isFigure 9 = .ok (.if_icmp .gt 7, 3) := dk_163 0 7 (dk_at dksX2_isFigure_0 9 rfl rfl)
theorem dX2_isFigure_12 : decode cX2_isFigure 12 = .ok (.iconst 1, 1) := dk_4 (dk_at dksX2_isFigure_0 12 rfl rfl)
theorem dX2_isFigure_13 : decode cX2_isFigure 13 = .ok (.goto 4, 3) := dk_167 0 4 (dk_at dksX2_isFigure_0 13 rfl rfl)
theorem dX2_isFigure_16 : decode cX2_isFigure 16 = .ok (.iconst 0, 1) := dk_3 (dk_at dksX2_isFigure_0 16 rfl rfl)
theorem dX2_isFigure_17 : decode cX2_isFigure 17 = .ok (.ireturn, 1) := dk_172 (dk_at dksX2_isFigure_0 17 rfl rfl)
abbrev cX2_isLetterByte : ByteArray := prog_21_method_20_code
def yX2_isLetterByte : MethodName := ⟨RX2, "isLetterByte", "(I)Z"⟩
def dkwX2_isLetterByte_1 : List UInt8 := [4, 167, 0, 4, 3, 172]
abbrev dktX2_isLetterByte_1 : List UInt8 := dkwX2_isLetterByte_1 ++ []
def dkwX2_isLetterByte_0 : List UInt8 := [26, 16, 97, 161, 0, 9, 26, 16, 122, 164, 0, 15, 26, 16, 65, 161, 0, 13, 26, 16, 90, 163, 0, 7]
abbrev dktX2_isLetterByte_0 : List UInt8 := dkwX2_isLetterByte_0 ++ dktX2_isLetterByte_1
theorem dksX2_isLetterByte_0 : cX2_isLetterByte.data.toList.drop 0 = dktX2_isLetterByte_0 := by decide +kernel
theorem dksX2_isLetterByte_1 : cX2_isLetterByte.data.toList.drop 24 = dktX2_isLetterByte_1 := dk_seg dksX2_isLetterByte_0 24 rfl rfl
theorem dX2_isLetterByte_0 : decode cX2_isLetterByte 0 = .ok (.iload_n 0, 1) := dk_26 (dk_at dksX2_isLetterByte_0 0 rfl rfl)
theorem dX2_isLetterByte_1 : decode cX2_isLetterByte 1 = .ok (.bipush 97, 2) := dk_16 97 (dk_at dksX2_isLetterByte_0 1 rfl rfl)
theorem dX2_isLetterByte_3 : decode cX2_isLetterByte 3 = .ok (.if_icmp .lt 9, 3) := dk_161 0 9 (dk_at dksX2_isLetterByte_0 3 rfl rfl)
theorem dX2_isLetterByte_6 : decode cX2_isLetterByte 6 = .ok (.iload_n 0, 1) := dk_26 (dk_at dksX2_isLetterByte_0 6 rfl rfl)
theorem dX2_isLetterByte_7 : decode cX2_isLetterByte 7 = .ok (.bipush 122, 2) := dk_16 122 (dk_at dksX2_isLetterByte_0 7 rfl rfl)
theorem dX2_isLetterByte_9 : decode cX2_isLetterByte 9 = .ok (.if_icmp .le 15, 3) := dk_164 0 15 (dk_at dksX2_isLetterByte_0 9 rfl rfl)
theorem dX2_isLetterByte_12 : decode cX2_isLetterByte 12 = .ok (.iload_n 0, 1) := dk_26 (dk_at dksX2_isLetterByte_0 12 rfl rfl)
theorem dX2_isLetterByte_13 : decode cX2_isLetterByte 13 = .ok (.bipush 65, 2) := dk_16 65 (dk_at dksX2_isLetterByte_0 13 rfl rfl)
theorem dX2_isLetterByte_15 : decode cX2_isLetterByte 15 = .ok (.if_icmp .lt 13, 3) := dk_161 0 13 (dk_at dksX2_isLetterByte_0 15 rfl rfl)
theorem dX2_isLetterByte_18 : decode cX2_isLetterByte 18 = .ok (.iload_n 0, 1) := dk_26 (dk_at dksX2_isLetterByte_0 18 rfl rfl)
theorem dX2_isLetterByte_19 : decode cX2_isLetterByte 19 = .ok (.bipush 90, 2) := dk_16 90 (dk_at dksX2_isLetterByte_0 19 rfl rfl)
theorem dX2_isLetterByte_21 : decode cX2_isLetterByte 21 = .ok (.if_icmp .gt 7, 3) := dk_163 0 7 (dk_at dksX2_isLetterByte_0 21 rfl rfl)
theorem dX2_isLetterByte_24 : decode cX2_isLetterByte 24 = .ok (.iconst 1, 1) := dk_4 (dk_at dksX2_isLetterByte_1 0 rfl rfl)
theorem dX2_isLetterByte_25 : decode cX2_isLetterByte 25 = .ok (.goto 4, 3) := dk_167 0 4 (dk_at dksX2_isLetterByte_1 1 rfl rfl)
theorem dX2_isLetterByte_28 : decode cX2_isLetterByte 28 = .ok (.iconst 0, 1) := dk_3 (dk_at dksX2_isLetterByte_1 4 rfl rfl)
theorem dX2_isLetterByte_29 : decode cX2_isLetterByte 29 = .ok (.ireturn, 1) := dk_172 (dk_at dksX2_isLetterByte_1 5 rfl rfl)
abbrev cX2_isSign : ByteArray := prog_21_method_22_code
def yX2_isSign : MethodName := ⟨RX2, "isSign", "(I)Z"⟩
def dkwX2_isSign_2 : List UInt8 := [4, 172, 3, 172]
abbrev dktX2_isSign_2 : List UInt8 := dkwX2_isSign_2 ++ []
def dkwX2_isSign_1 : List UInt8 := [170, 0, 0, 0, 0, 0, 129, 0, 0, 0, 35, 0, 0, 0, 62, 0, 0, 0, 127, 0, 0, 0, 129, 0, 0, 0, 129, 0, 0, 0, 129, 0, 0, 0, 129, 0, 0, 0, 127, 0, 0, 0, 127, 0, 0, 0, 127, 0, 0, 0, 127, 0, 0, 0, 129, 0, 0, 0, 127, 0, 0, 0, 129, 0, 0, 0, 127, 0, 0, 0, 129, 0, 0, 0, 129, 0, 0, 0, 129, 0, 0, 0, 129, 0, 0, 0, 129, 0, 0, 0, 129, 0, 0, 0, 129, 0, 0, 0, 129, 0, 0, 0, 129, 0, 0, 0, 129, 0, 0, 0, 127, 0, 0, 0, 127, 0, 0, 0, 127, 0, 0, 0, 127, 0, 0, 0, 127]
abbrev dktX2_isSign_1 : List UInt8 := dkwX2_isSign_1 ++ dktX2_isSign_2
def dkwX2_isSign_0 : List UInt8 := [26]
abbrev dktX2_isSign_0 : List UInt8 := dkwX2_isSign_0 ++ dktX2_isSign_1
theorem dksX2_isSign_0 : cX2_isSign.data.toList.drop 0 = dktX2_isSign_0 := by decide +kernel
theorem dksX2_isSign_1 : cX2_isSign.data.toList.drop 1 = dktX2_isSign_1 := dk_seg dksX2_isSign_0 1 rfl rfl
theorem dksX2_isSign_2 : cX2_isSign.data.toList.drop 128 = dktX2_isSign_2 := dk_seg dksX2_isSign_1 127 rfl rfl
theorem dX2_isSign_0 : decode cX2_isSign 0 = .ok (.iload_n 0, 1) := dk_26 (dk_at dksX2_isSign_0 0 rfl rfl)
theorem dX2_isSign_1 : decode cX2_isSign 1 = .ok (.tableswitch 129 35 62 #[127, 129, 129, 129, 129, 127, 127, 127, 127, 129, 127, 129, 127, 129, 129, 129, 129, 129, 129, 129, 129, 129, 129, 127, 127, 127, 127, 127], 127) := by decide +kernel
theorem dX2_isSign_128 : decode cX2_isSign 128 = .ok (.iconst 1, 1) := dk_4 (dk_at dksX2_isSign_2 0 rfl rfl)
theorem dX2_isSign_129 : decode cX2_isSign 129 = .ok (.ireturn, 1) := dk_172 (dk_at dksX2_isSign_2 1 rfl rfl)
theorem dX2_isSign_130 : decode cX2_isSign 130 = .ok (.iconst 0, 1) := dk_3 (dk_at dksX2_isSign_2 2 rfl rfl)
theorem dX2_isSign_131 : decode cX2_isSign 131 = .ok (.ireturn, 1) := dk_172 (dk_at dksX2_isSign_2 3 rfl rfl)
abbrev cX2_clause : ByteArray := prog_21_method_54_code
def yX2_clause : MethodName := ⟨RX2, "clause", "()I"⟩
def dkwX2_clause_5 : List UInt8 := [96, 79, 42, 180, 0, 102, 16, 59, 159, 0, 5, 4, 172, 42, 182, 0, 173, 3, 172]
abbrev dktX2_clause_5 : List UInt8 := dkwX2_clause_5 ++ []
def dkwX2_clause_4 : List UInt8 := [182, 0, 250, 54, 4, 21, 4, 153, 0, 6, 21, 4, 172, 42, 180, 0, 16, 42, 180, 0, 141, 92, 46, 4]
abbrev dktX2_clause_4 : List UInt8 := dkwX2_clause_4 ++ dktX2_clause_5
def dkwX2_clause_3 : List UInt8 := [182, 0, 173, 42, 180, 0, 141, 4, 96, 8, 28, 104, 96, 62, 42, 180, 0, 16, 29, 27, 79, 42, 27, 29]
abbrev dktX2_clause_3 : List UInt8 := dkwX2_clause_3 ++ dktX2_clause_4
def dkwX2_clause_2 : List UInt8 := [27, 4, 163, 0, 15, 42, 89, 180, 0, 243, 4, 27, 120, 128, 181, 0, 243, 42, 27, 181, 0, 151, 42]
abbrev dktX2_clause_2 : List UInt8 := dkwX2_clause_2 ++ dktX2_clause_3
def dkwX2_clause_1 : List UInt8 := [153, 0, 5, 7, 172, 42, 180, 0, 16, 42, 180, 0, 141, 46, 61, 28, 16, 24, 160, 0, 6, 16, 6, 172]
abbrev dktX2_clause_1 : List UInt8 := dkwX2_clause_1 ++ dktX2_clause_2
def dkwX2_clause_0 : List UInt8 := [42, 182, 0, 240, 60, 27, 156, 0, 5, 4, 172, 27, 4, 163, 0, 16, 42, 180, 0, 243, 27, 184, 0, 246]
abbrev dktX2_clause_0 : List UInt8 := dkwX2_clause_0 ++ dktX2_clause_1
theorem dksX2_clause_0 : cX2_clause.data.toList.drop 0 = dktX2_clause_0 := by decide +kernel
theorem dksX2_clause_1 : cX2_clause.data.toList.drop 24 = dktX2_clause_1 := dk_seg dksX2_clause_0 24 rfl rfl
theorem dksX2_clause_2 : cX2_clause.data.toList.drop 48 = dktX2_clause_2 := dk_seg dksX2_clause_1 24 rfl rfl
theorem dksX2_clause_3 : cX2_clause.data.toList.drop 71 = dktX2_clause_3 := dk_seg dksX2_clause_2 23 rfl rfl
theorem dksX2_clause_4 : cX2_clause.data.toList.drop 95 = dktX2_clause_4 := dk_seg dksX2_clause_3 24 rfl rfl
theorem dksX2_clause_5 : cX2_clause.data.toList.drop 119 = dktX2_clause_5 := dk_seg dksX2_clause_4 24 rfl rfl
theorem dX2_clause_0 : decode cX2_clause 0 = .ok (.aload_n 0, 1) := dk_42 (dk_at dksX2_clause_0 0 rfl rfl)
theorem dX2_clause_1 : decode cX2_clause 1 = .ok (.invokevirtual 240, 3) := dk_182 0 240 (dk_at dksX2_clause_0 1 rfl rfl)
theorem dX2_clause_4 : decode cX2_clause 4 = .ok (.istore_n 1, 1) := dk_60 (dk_at dksX2_clause_0 4 rfl rfl)
theorem dX2_clause_5 : decode cX2_clause 5 = .ok (.iload_n 1, 1) := dk_27 (dk_at dksX2_clause_0 5 rfl rfl)
theorem dX2_clause_6 : decode cX2_clause 6 = .ok (.ifCond .ge 5, 3) := dk_156 0 5 (dk_at dksX2_clause_0 6 rfl rfl)
theorem dX2_clause_9 : decode cX2_clause 9 = .ok (.iconst 1, 1) := dk_4 (dk_at dksX2_clause_0 9 rfl rfl)
theorem dX2_clause_10 : decode cX2_clause 10 = .ok (.ireturn, 1) := dk_172 (dk_at dksX2_clause_0 10 rfl rfl)
theorem dX2_clause_11 : decode cX2_clause 11 = .ok (.iload_n 1, 1) := dk_27 (dk_at dksX2_clause_0 11 rfl rfl)
theorem dX2_clause_12 : decode cX2_clause 12 = .ok (.iconst 1, 1) := dk_4 (dk_at dksX2_clause_0 12 rfl rfl)
theorem dX2_clause_13 : decode cX2_clause 13 = .ok (.if_icmp .gt 16, 3) := dk_163 0 16 (dk_at dksX2_clause_0 13 rfl rfl)
theorem dX2_clause_16 : decode cX2_clause 16 = .ok (.aload_n 0, 1) := dk_42 (dk_at dksX2_clause_0 16 rfl rfl)
theorem dX2_clause_17 : decode cX2_clause 17 = .ok (.getfield 243, 3) := dk_180 0 243 (dk_at dksX2_clause_0 17 rfl rfl)
theorem dX2_clause_20 : decode cX2_clause 20 = .ok (.iload_n 1, 1) := dk_27 (dk_at dksX2_clause_0 20 rfl rfl)
theorem dX2_clause_21 : decode cX2_clause 21 = .ok (.invokestatic 246, 3) := dk_184 0 246 (dk_at dksX2_clause_0 21 rfl rfl)
theorem dX2_clause_24 : decode cX2_clause 24 = .ok (.ifCond .eq 5, 3) := dk_153 0 5 (dk_at dksX2_clause_1 0 rfl rfl)
theorem dX2_clause_27 : decode cX2_clause 27 = .ok (.iconst 4, 1) := dk_7 (dk_at dksX2_clause_1 3 rfl rfl)
theorem dX2_clause_28 : decode cX2_clause 28 = .ok (.ireturn, 1) := dk_172 (dk_at dksX2_clause_1 4 rfl rfl)
theorem dX2_clause_29 : decode cX2_clause 29 = .ok (.aload_n 0, 1) := dk_42 (dk_at dksX2_clause_1 5 rfl rfl)
theorem dX2_clause_30 : decode cX2_clause 30 = .ok (.getfield 16, 3) := dk_180 0 16 (dk_at dksX2_clause_1 6 rfl rfl)
theorem dX2_clause_33 : decode cX2_clause 33 = .ok (.aload_n 0, 1) := dk_42 (dk_at dksX2_clause_1 9 rfl rfl)
theorem dX2_clause_34 : decode cX2_clause 34 = .ok (.getfield 141, 3) := dk_180 0 141 (dk_at dksX2_clause_1 10 rfl rfl)
theorem dX2_clause_37 : decode cX2_clause 37 = .ok (.iaload, 1) := dk_46 (dk_at dksX2_clause_1 13 rfl rfl)
theorem dX2_clause_38 : decode cX2_clause 38 = .ok (.istore_n 2, 1) := dk_61 (dk_at dksX2_clause_1 14 rfl rfl)
theorem dX2_clause_39 : decode cX2_clause 39 = .ok (.iload_n 2, 1) := dk_28 (dk_at dksX2_clause_1 15 rfl rfl)
theorem dX2_clause_40 : decode cX2_clause 40 = .ok (.bipush 24, 2) := dk_16 24 (dk_at dksX2_clause_1 16 rfl rfl)
theorem dX2_clause_42 : decode cX2_clause 42 = .ok (.if_icmp .ne 6, 3) := dk_160 0 6 (dk_at dksX2_clause_1 18 rfl rfl)
theorem dX2_clause_45 : decode cX2_clause 45 = .ok (.bipush 6, 2) := dk_16 6 (dk_at dksX2_clause_1 21 rfl rfl)
theorem dX2_clause_47 : decode cX2_clause 47 = .ok (.ireturn, 1) := dk_172 (dk_at dksX2_clause_1 23 rfl rfl)
theorem dX2_clause_48 : decode cX2_clause 48 = .ok (.iload_n 1, 1) := dk_27 (dk_at dksX2_clause_2 0 rfl rfl)
theorem dX2_clause_49 : decode cX2_clause 49 = .ok (.iconst 1, 1) := dk_4 (dk_at dksX2_clause_2 1 rfl rfl)
theorem dX2_clause_50 : decode cX2_clause 50 = .ok (.if_icmp .gt 15, 3) := dk_163 0 15 (dk_at dksX2_clause_2 2 rfl rfl)
theorem dX2_clause_53 : decode cX2_clause 53 = .ok (.aload_n 0, 1) := dk_42 (dk_at dksX2_clause_2 5 rfl rfl)
theorem dX2_clause_54 : decode cX2_clause 54 = .ok (.dup, 1) := dk_89 (dk_at dksX2_clause_2 6 rfl rfl)
theorem dX2_clause_55 : decode cX2_clause 55 = .ok (.getfield 243, 3) := dk_180 0 243 (dk_at dksX2_clause_2 7 rfl rfl)
theorem dX2_clause_58 : decode cX2_clause 58 = .ok (.iconst 1, 1) := dk_4 (dk_at dksX2_clause_2 10 rfl rfl)
theorem dX2_clause_59 : decode cX2_clause 59 = .ok (.iload_n 1, 1) := dk_27 (dk_at dksX2_clause_2 11 rfl rfl)
theorem dX2_clause_60 : decode cX2_clause 60 = .ok (.ishl, 1) := dk_120 (dk_at dksX2_clause_2 12 rfl rfl)
theorem dX2_clause_61 : decode cX2_clause 61 = .ok (.ior, 1) := dk_128 (dk_at dksX2_clause_2 13 rfl rfl)
theorem dX2_clause_62 : decode cX2_clause 62 = .ok (.putfield 243, 3) := dk_181 0 243 (dk_at dksX2_clause_2 14 rfl rfl)
theorem dX2_clause_65 : decode cX2_clause 65 = .ok (.aload_n 0, 1) := dk_42 (dk_at dksX2_clause_2 17 rfl rfl)
theorem dX2_clause_66 : decode cX2_clause 66 = .ok (.iload_n 1, 1) := dk_27 (dk_at dksX2_clause_2 18 rfl rfl)
theorem dX2_clause_67 : decode cX2_clause 67 = .ok (.putfield 151, 3) := dk_181 0 151 (dk_at dksX2_clause_2 19 rfl rfl)
theorem dX2_clause_70 : decode cX2_clause 70 = .ok (.aload_n 0, 1) := dk_42 (dk_at dksX2_clause_2 22 rfl rfl)
theorem dX2_clause_71 : decode cX2_clause 71 = .ok (.invokevirtual 173, 3) := dk_182 0 173 (dk_at dksX2_clause_3 0 rfl rfl)
theorem dX2_clause_74 : decode cX2_clause 74 = .ok (.aload_n 0, 1) := dk_42 (dk_at dksX2_clause_3 3 rfl rfl)
theorem dX2_clause_75 : decode cX2_clause 75 = .ok (.getfield 141, 3) := dk_180 0 141 (dk_at dksX2_clause_3 4 rfl rfl)
theorem dX2_clause_78 : decode cX2_clause 78 = .ok (.iconst 1, 1) := dk_4 (dk_at dksX2_clause_3 7 rfl rfl)
theorem dX2_clause_79 : decode cX2_clause 79 = .ok (.iadd, 1) := dk_96 (dk_at dksX2_clause_3 8 rfl rfl)
theorem dX2_clause_80 : decode cX2_clause 80 = .ok (.iconst 5, 1) := dk_8 (dk_at dksX2_clause_3 9 rfl rfl)
theorem dX2_clause_81 : decode cX2_clause 81 = .ok (.iload_n 2, 1) := dk_28 (dk_at dksX2_clause_3 10 rfl rfl)
theorem dX2_clause_82 : decode cX2_clause 82 = .ok (.imul, 1) := dk_104 (dk_at dksX2_clause_3 11 rfl rfl)
theorem dX2_clause_83 : decode cX2_clause 83 = .ok (.iadd, 1) := dk_96 (dk_at dksX2_clause_3 12 rfl rfl)
theorem dX2_clause_84 : decode cX2_clause 84 = .ok (.istore_n 3, 1) := dk_62 (dk_at dksX2_clause_3 13 rfl rfl)
theorem dX2_clause_85 : decode cX2_clause 85 = .ok (.aload_n 0, 1) := dk_42 (dk_at dksX2_clause_3 14 rfl rfl)
theorem dX2_clause_86 : decode cX2_clause 86 = .ok (.getfield 16, 3) := dk_180 0 16 (dk_at dksX2_clause_3 15 rfl rfl)
theorem dX2_clause_89 : decode cX2_clause 89 = .ok (.iload_n 3, 1) := dk_29 (dk_at dksX2_clause_3 18 rfl rfl)
theorem dX2_clause_90 : decode cX2_clause 90 = .ok (.iload_n 1, 1) := dk_27 (dk_at dksX2_clause_3 19 rfl rfl)
theorem dX2_clause_91 : decode cX2_clause 91 = .ok (.iastore, 1) := dk_79 (dk_at dksX2_clause_3 20 rfl rfl)
theorem dX2_clause_92 : decode cX2_clause 92 = .ok (.aload_n 0, 1) := dk_42 (dk_at dksX2_clause_3 21 rfl rfl)
theorem dX2_clause_93 : decode cX2_clause 93 = .ok (.iload_n 1, 1) := dk_27 (dk_at dksX2_clause_3 22 rfl rfl)
theorem dX2_clause_94 : decode cX2_clause 94 = .ok (.iload_n 3, 1) := dk_29 (dk_at dksX2_clause_3 23 rfl rfl)
theorem dX2_clause_95 : decode cX2_clause 95 = .ok (.invokevirtual 250, 3) := dk_182 0 250 (dk_at dksX2_clause_4 0 rfl rfl)
theorem dX2_clause_98 : decode cX2_clause 98 = .ok (.istore 4, 2) := dk_54 4 (dk_at dksX2_clause_4 3 rfl rfl)
theorem dX2_clause_100 : decode cX2_clause 100 = .ok (.iload 4, 2) := dk_21 4 (dk_at dksX2_clause_4 5 rfl rfl)
theorem dX2_clause_102 : decode cX2_clause 102 = .ok (.ifCond .eq 6, 3) := dk_153 0 6 (dk_at dksX2_clause_4 7 rfl rfl)
theorem dX2_clause_105 : decode cX2_clause 105 = .ok (.iload 4, 2) := dk_21 4 (dk_at dksX2_clause_4 10 rfl rfl)
theorem dX2_clause_107 : decode cX2_clause 107 = .ok (.ireturn, 1) := dk_172 (dk_at dksX2_clause_4 12 rfl rfl)
theorem dX2_clause_108 : decode cX2_clause 108 = .ok (.aload_n 0, 1) := dk_42 (dk_at dksX2_clause_4 13 rfl rfl)
theorem dX2_clause_109 : decode cX2_clause 109 = .ok (.getfield 16, 3) := dk_180 0 16 (dk_at dksX2_clause_4 14 rfl rfl)
theorem dX2_clause_112 : decode cX2_clause 112 = .ok (.aload_n 0, 1) := dk_42 (dk_at dksX2_clause_4 17 rfl rfl)
theorem dX2_clause_113 : decode cX2_clause 113 = .ok (.getfield 141, 3) := dk_180 0 141 (dk_at dksX2_clause_4 18 rfl rfl)
theorem dX2_clause_116 : decode cX2_clause 116 = .ok (.dup2, 1) := dk_92 (dk_at dksX2_clause_4 21 rfl rfl)
theorem dX2_clause_117 : decode cX2_clause 117 = .ok (.iaload, 1) := dk_46 (dk_at dksX2_clause_4 22 rfl rfl)
theorem dX2_clause_118 : decode cX2_clause 118 = .ok (.iconst 1, 1) := dk_4 (dk_at dksX2_clause_4 23 rfl rfl)
theorem dX2_clause_119 : decode cX2_clause 119 = .ok (.iadd, 1) := dk_96 (dk_at dksX2_clause_5 0 rfl rfl)
theorem dX2_clause_120 : decode cX2_clause 120 = .ok (.iastore, 1) := dk_79 (dk_at dksX2_clause_5 1 rfl rfl)
theorem dX2_clause_121 : decode cX2_clause 121 = .ok (.aload_n 0, 1) := dk_42 (dk_at dksX2_clause_5 2 rfl rfl)
theorem dX2_clause_122 : decode cX2_clause 122 = .ok (.getfield 102, 3) := dk_180 0 102 (dk_at dksX2_clause_5 3 rfl rfl)
theorem dX2_clause_125 : decode cX2_clause 125 = .ok (.bipush 59, 2) := dk_16 59 (dk_at dksX2_clause_5 6 rfl rfl)
theorem dX2_clause_127 : decode cX2_clause 127 = .ok (.if_icmp .eq 5, 3) := dk_159 0 5 (dk_at dksX2_clause_5 8 rfl rfl)
theorem dX2_clause_130 : decode cX2_clause 130 = .ok (.iconst 1, 1) := dk_4 (dk_at dksX2_clause_5 11 rfl rfl)
theorem dX2_clause_131 : decode cX2_clause 131 = .ok (.ireturn, 1) := dk_172 (dk_at dksX2_clause_5 12 rfl rfl)
theorem dX2_clause_132 : decode cX2_clause 132 = .ok (.aload_n 0, 1) := dk_42 (dk_at dksX2_clause_5 13 rfl rfl)
theorem dX2_clause_133 : decode cX2_clause 133 = .ok (.invokevirtual 173, 3) := dk_182 0 173 (dk_at dksX2_clause_5 14 rfl rfl)
theorem dX2_clause_136 : decode cX2_clause 136 = .ok (.iconst 0, 1) := dk_3 (dk_at dksX2_clause_5 17 rfl rfl)
theorem dX2_clause_137 : decode cX2_clause 137 = .ok (.ireturn, 1) := dk_172 (dk_at dksX2_clause_5 18 rfl rfl)
abbrev cX2_sortOf : ByteArray := prog_21_method_53_code
def yX2_sortOf : MethodName := ⟨RX2, "sortOf", "()I"⟩
def dkwX2_sortOf_6 : List UInt8 := [42, 16, 100, 16, 97, 16, 121, 184, 0, 129, 182, 0, 191, 153, 0, 8, 16, 7, 167, 0, 4, 2, 172]
abbrev dktX2_sortOf_6 : List UInt8 := dkwX2_sortOf_6 ++ []
def dkwX2_sortOf_5 : List UInt8 := [153, 0, 5, 8, 172, 42, 16, 117, 16, 112, 184, 0, 125, 182, 0, 191, 153, 0, 8, 16, 6, 167, 0, 25]
abbrev dktX2_sortOf_5 : List UInt8 := dkwX2_sortOf_5 ++ dktX2_sortOf_6
def dkwX2_sortOf_4 : List UInt8 := [184, 0, 129, 182, 0, 191, 153, 0, 5, 7, 172, 42, 16, 98, 16, 101, 16, 100, 184, 0, 129, 182, 0, 191]
abbrev dktX2_sortOf_4 : List UInt8 := dkwX2_sortOf_4 ++ dktX2_sortOf_5
def dkwX2_sortOf_3 : List UInt8 := [16, 110, 16, 103, 184, 0, 133, 182, 0, 191, 153, 0, 5, 6, 172, 42, 16, 100, 16, 117, 16, 101]
abbrev dktX2_sortOf_3 : List UInt8 := dkwX2_sortOf_3 ++ dktX2_sortOf_4
def dkwX2_sortOf_2 : List UInt8 := [16, 114, 16, 115, 16, 111, 16, 110, 184, 0, 236, 182, 0, 191, 153, 0, 5, 5, 172, 42, 16, 114, 16, 105]
abbrev dktX2_sortOf_2 : List UInt8 := dkwX2_sortOf_2 ++ dktX2_sortOf_3
def dkwX2_sortOf_1 : List UInt8 := [16, 97, 16, 107, 16, 101, 16, 115, 184, 0, 137, 182, 0, 191, 153, 0, 5, 4, 172, 42, 16, 112, 16, 101]
abbrev dktX2_sortOf_1 : List UInt8 := dkwX2_sortOf_1 ++ dktX2_sortOf_2
def dkwX2_sortOf_0 : List UInt8 := [42, 16, 114, 16, 117, 16, 110, 16, 115, 184, 0, 133, 182, 0, 191, 153, 0, 5, 3, 172, 42, 16, 116]
abbrev dktX2_sortOf_0 : List UInt8 := dkwX2_sortOf_0 ++ dktX2_sortOf_1
theorem dksX2_sortOf_0 : cX2_sortOf.data.toList.drop 0 = dktX2_sortOf_0 := by decide +kernel
theorem dksX2_sortOf_1 : cX2_sortOf.data.toList.drop 23 = dktX2_sortOf_1 := dk_seg dksX2_sortOf_0 23 rfl rfl
theorem dksX2_sortOf_2 : cX2_sortOf.data.toList.drop 47 = dktX2_sortOf_2 := dk_seg dksX2_sortOf_1 24 rfl rfl
theorem dksX2_sortOf_3 : cX2_sortOf.data.toList.drop 71 = dktX2_sortOf_3 := dk_seg dksX2_sortOf_2 24 rfl rfl
theorem dksX2_sortOf_4 : cX2_sortOf.data.toList.drop 93 = dktX2_sortOf_4 := dk_seg dksX2_sortOf_3 22 rfl rfl
theorem dksX2_sortOf_5 : cX2_sortOf.data.toList.drop 117 = dktX2_sortOf_5 := dk_seg dksX2_sortOf_4 24 rfl rfl
theorem dksX2_sortOf_6 : cX2_sortOf.data.toList.drop 141 = dktX2_sortOf_6 := dk_seg dksX2_sortOf_5 24 rfl rfl
theorem dX2_sortOf_0 : decode cX2_sortOf 0 = .ok (.aload_n 0, 1) := dk_42 (dk_at dksX2_sortOf_0 0 rfl rfl)
theorem dX2_sortOf_1 : decode cX2_sortOf 1 = .ok (.bipush 114, 2) := dk_16 114 (dk_at dksX2_sortOf_0 1 rfl rfl)
theorem dX2_sortOf_3 : decode cX2_sortOf 3 = .ok (.bipush 117, 2) := dk_16 117 (dk_at dksX2_sortOf_0 3 rfl rfl)
theorem dX2_sortOf_5 : decode cX2_sortOf 5 = .ok (.bipush 110, 2) := dk_16 110 (dk_at dksX2_sortOf_0 5 rfl rfl)
theorem dX2_sortOf_7 : decode cX2_sortOf 7 = .ok (.bipush 115, 2) := dk_16 115 (dk_at dksX2_sortOf_0 7 rfl rfl)
theorem dX2_sortOf_9 : decode cX2_sortOf 9 = .ok (.invokestatic 133, 3) := dk_184 0 133 (dk_at dksX2_sortOf_0 9 rfl rfl)
theorem dX2_sortOf_12 : decode cX2_sortOf 12 = .ok (.invokevirtual 191, 3) := dk_182 0 191 (dk_at dksX2_sortOf_0 12 rfl rfl)
theorem dX2_sortOf_15 : decode cX2_sortOf 15 = .ok (.ifCond .eq 5, 3) := dk_153 0 5 (dk_at dksX2_sortOf_0 15 rfl rfl)
theorem dX2_sortOf_18 : decode cX2_sortOf 18 = .ok (.iconst 0, 1) := dk_3 (dk_at dksX2_sortOf_0 18 rfl rfl)
theorem dX2_sortOf_19 : decode cX2_sortOf 19 = .ok (.ireturn, 1) := dk_172 (dk_at dksX2_sortOf_0 19 rfl rfl)
theorem dX2_sortOf_20 : decode cX2_sortOf 20 = .ok (.aload_n 0, 1) := dk_42 (dk_at dksX2_sortOf_0 20 rfl rfl)
theorem dX2_sortOf_21 : decode cX2_sortOf 21 = .ok (.bipush 116, 2) := dk_16 116 (dk_at dksX2_sortOf_0 21 rfl rfl)
theorem dX2_sortOf_23 : decode cX2_sortOf 23 = .ok (.bipush 97, 2) := dk_16 97 (dk_at dksX2_sortOf_1 0 rfl rfl)
theorem dX2_sortOf_25 : decode cX2_sortOf 25 = .ok (.bipush 107, 2) := dk_16 107 (dk_at dksX2_sortOf_1 2 rfl rfl)
theorem dX2_sortOf_27 : decode cX2_sortOf 27 = .ok (.bipush 101, 2) := dk_16 101 (dk_at dksX2_sortOf_1 4 rfl rfl)
theorem dX2_sortOf_29 : decode cX2_sortOf 29 = .ok (.bipush 115, 2) := dk_16 115 (dk_at dksX2_sortOf_1 6 rfl rfl)
theorem dX2_sortOf_31 : decode cX2_sortOf 31 = .ok (.invokestatic 137, 3) := dk_184 0 137 (dk_at dksX2_sortOf_1 8 rfl rfl)
theorem dX2_sortOf_34 : decode cX2_sortOf 34 = .ok (.invokevirtual 191, 3) := dk_182 0 191 (dk_at dksX2_sortOf_1 11 rfl rfl)
theorem dX2_sortOf_37 : decode cX2_sortOf 37 = .ok (.ifCond .eq 5, 3) := dk_153 0 5 (dk_at dksX2_sortOf_1 14 rfl rfl)
theorem dX2_sortOf_40 : decode cX2_sortOf 40 = .ok (.iconst 1, 1) := dk_4 (dk_at dksX2_sortOf_1 17 rfl rfl)
theorem dX2_sortOf_41 : decode cX2_sortOf 41 = .ok (.ireturn, 1) := dk_172 (dk_at dksX2_sortOf_1 18 rfl rfl)
theorem dX2_sortOf_42 : decode cX2_sortOf 42 = .ok (.aload_n 0, 1) := dk_42 (dk_at dksX2_sortOf_1 19 rfl rfl)
theorem dX2_sortOf_43 : decode cX2_sortOf 43 = .ok (.bipush 112, 2) := dk_16 112 (dk_at dksX2_sortOf_1 20 rfl rfl)
theorem dX2_sortOf_45 : decode cX2_sortOf 45 = .ok (.bipush 101, 2) := dk_16 101 (dk_at dksX2_sortOf_1 22 rfl rfl)
theorem dX2_sortOf_47 : decode cX2_sortOf 47 = .ok (.bipush 114, 2) := dk_16 114 (dk_at dksX2_sortOf_2 0 rfl rfl)
theorem dX2_sortOf_49 : decode cX2_sortOf 49 = .ok (.bipush 115, 2) := dk_16 115 (dk_at dksX2_sortOf_2 2 rfl rfl)
theorem dX2_sortOf_51 : decode cX2_sortOf 51 = .ok (.bipush 111, 2) := dk_16 111 (dk_at dksX2_sortOf_2 4 rfl rfl)
theorem dX2_sortOf_53 : decode cX2_sortOf 53 = .ok (.bipush 110, 2) := dk_16 110 (dk_at dksX2_sortOf_2 6 rfl rfl)
theorem dX2_sortOf_55 : decode cX2_sortOf 55 = .ok (.invokestatic 236, 3) := dk_184 0 236 (dk_at dksX2_sortOf_2 8 rfl rfl)
theorem dX2_sortOf_58 : decode cX2_sortOf 58 = .ok (.invokevirtual 191, 3) := dk_182 0 191 (dk_at dksX2_sortOf_2 11 rfl rfl)
theorem dX2_sortOf_61 : decode cX2_sortOf 61 = .ok (.ifCond .eq 5, 3) := dk_153 0 5 (dk_at dksX2_sortOf_2 14 rfl rfl)
theorem dX2_sortOf_64 : decode cX2_sortOf 64 = .ok (.iconst 2, 1) := dk_5 (dk_at dksX2_sortOf_2 17 rfl rfl)
theorem dX2_sortOf_65 : decode cX2_sortOf 65 = .ok (.ireturn, 1) := dk_172 (dk_at dksX2_sortOf_2 18 rfl rfl)
theorem dX2_sortOf_66 : decode cX2_sortOf 66 = .ok (.aload_n 0, 1) := dk_42 (dk_at dksX2_sortOf_2 19 rfl rfl)
theorem dX2_sortOf_67 : decode cX2_sortOf 67 = .ok (.bipush 114, 2) := dk_16 114 (dk_at dksX2_sortOf_2 20 rfl rfl)
theorem dX2_sortOf_69 : decode cX2_sortOf 69 = .ok (.bipush 105, 2) := dk_16 105 (dk_at dksX2_sortOf_2 22 rfl rfl)
theorem dX2_sortOf_71 : decode cX2_sortOf 71 = .ok (.bipush 110, 2) := dk_16 110 (dk_at dksX2_sortOf_3 0 rfl rfl)
theorem dX2_sortOf_73 : decode cX2_sortOf 73 = .ok (.bipush 103, 2) := dk_16 103 (dk_at dksX2_sortOf_3 2 rfl rfl)
theorem dX2_sortOf_75 : decode cX2_sortOf 75 = .ok (.invokestatic 133, 3) := dk_184 0 133 (dk_at dksX2_sortOf_3 4 rfl rfl)
theorem dX2_sortOf_78 : decode cX2_sortOf 78 = .ok (.invokevirtual 191, 3) := dk_182 0 191 (dk_at dksX2_sortOf_3 7 rfl rfl)
theorem dX2_sortOf_81 : decode cX2_sortOf 81 = .ok (.ifCond .eq 5, 3) := dk_153 0 5 (dk_at dksX2_sortOf_3 10 rfl rfl)
theorem dX2_sortOf_84 : decode cX2_sortOf 84 = .ok (.iconst 3, 1) := dk_6 (dk_at dksX2_sortOf_3 13 rfl rfl)
theorem dX2_sortOf_85 : decode cX2_sortOf 85 = .ok (.ireturn, 1) := dk_172 (dk_at dksX2_sortOf_3 14 rfl rfl)
theorem dX2_sortOf_86 : decode cX2_sortOf 86 = .ok (.aload_n 0, 1) := dk_42 (dk_at dksX2_sortOf_3 15 rfl rfl)
theorem dX2_sortOf_87 : decode cX2_sortOf 87 = .ok (.bipush 100, 2) := dk_16 100 (dk_at dksX2_sortOf_3 16 rfl rfl)
theorem dX2_sortOf_89 : decode cX2_sortOf 89 = .ok (.bipush 117, 2) := dk_16 117 (dk_at dksX2_sortOf_3 18 rfl rfl)
theorem dX2_sortOf_91 : decode cX2_sortOf 91 = .ok (.bipush 101, 2) := dk_16 101 (dk_at dksX2_sortOf_3 20 rfl rfl)
theorem dX2_sortOf_93 : decode cX2_sortOf 93 = .ok (.invokestatic 129, 3) := dk_184 0 129 (dk_at dksX2_sortOf_4 0 rfl rfl)
theorem dX2_sortOf_96 : decode cX2_sortOf 96 = .ok (.invokevirtual 191, 3) := dk_182 0 191 (dk_at dksX2_sortOf_4 3 rfl rfl)
theorem dX2_sortOf_99 : decode cX2_sortOf 99 = .ok (.ifCond .eq 5, 3) := dk_153 0 5 (dk_at dksX2_sortOf_4 6 rfl rfl)
theorem dX2_sortOf_102 : decode cX2_sortOf 102 = .ok (.iconst 4, 1) := dk_7 (dk_at dksX2_sortOf_4 9 rfl rfl)
theorem dX2_sortOf_103 : decode cX2_sortOf 103 = .ok (.ireturn, 1) := dk_172 (dk_at dksX2_sortOf_4 10 rfl rfl)
theorem dX2_sortOf_104 : decode cX2_sortOf 104 = .ok (.aload_n 0, 1) := dk_42 (dk_at dksX2_sortOf_4 11 rfl rfl)
theorem dX2_sortOf_105 : decode cX2_sortOf 105 = .ok (.bipush 98, 2) := dk_16 98 (dk_at dksX2_sortOf_4 12 rfl rfl)
theorem dX2_sortOf_107 : decode cX2_sortOf 107 = .ok (.bipush 101, 2) := dk_16 101 (dk_at dksX2_sortOf_4 14 rfl rfl)
theorem dX2_sortOf_109 : decode cX2_sortOf 109 = .ok (.bipush 100, 2) := dk_16 100 (dk_at dksX2_sortOf_4 16 rfl rfl)
theorem dX2_sortOf_111 : decode cX2_sortOf 111 = .ok (.invokestatic 129, 3) := dk_184 0 129 (dk_at dksX2_sortOf_4 18 rfl rfl)
theorem dX2_sortOf_114 : decode cX2_sortOf 114 = .ok (.invokevirtual 191, 3) := dk_182 0 191 (dk_at dksX2_sortOf_4 21 rfl rfl)
theorem dX2_sortOf_117 : decode cX2_sortOf 117 = .ok (.ifCond .eq 5, 3) := dk_153 0 5 (dk_at dksX2_sortOf_5 0 rfl rfl)
theorem dX2_sortOf_120 : decode cX2_sortOf 120 = .ok (.iconst 5, 1) := dk_8 (dk_at dksX2_sortOf_5 3 rfl rfl)
theorem dX2_sortOf_121 : decode cX2_sortOf 121 = .ok (.ireturn, 1) := dk_172 (dk_at dksX2_sortOf_5 4 rfl rfl)
theorem dX2_sortOf_122 : decode cX2_sortOf 122 = .ok (.aload_n 0, 1) := dk_42 (dk_at dksX2_sortOf_5 5 rfl rfl)
theorem dX2_sortOf_123 : decode cX2_sortOf 123 = .ok (.bipush 117, 2) := dk_16 117 (dk_at dksX2_sortOf_5 6 rfl rfl)
theorem dX2_sortOf_125 : decode cX2_sortOf 125 = .ok (.bipush 112, 2) := dk_16 112 (dk_at dksX2_sortOf_5 8 rfl rfl)
theorem dX2_sortOf_127 : decode cX2_sortOf 127 = .ok (.invokestatic 125, 3) := dk_184 0 125 (dk_at dksX2_sortOf_5 10 rfl rfl)
theorem dX2_sortOf_130 : decode cX2_sortOf 130 = .ok (.invokevirtual 191, 3) := dk_182 0 191 (dk_at dksX2_sortOf_5 13 rfl rfl)
theorem dX2_sortOf_133 : decode cX2_sortOf 133 = .ok (.ifCond .eq 8, 3) := dk_153 0 8 (dk_at dksX2_sortOf_5 16 rfl rfl)
theorem dX2_sortOf_136 : decode cX2_sortOf 136 = .ok (.bipush 6, 2) := dk_16 6 (dk_at dksX2_sortOf_5 19 rfl rfl)
theorem dX2_sortOf_138 : decode cX2_sortOf 138 = .ok (.goto 25, 3) := dk_167 0 25 (dk_at dksX2_sortOf_5 21 rfl rfl)
theorem dX2_sortOf_141 : decode cX2_sortOf 141 = .ok (.aload_n 0, 1) := dk_42 (dk_at dksX2_sortOf_6 0 rfl rfl)
theorem dX2_sortOf_142 : decode cX2_sortOf 142 = .ok (.bipush 100, 2) := dk_16 100 (dk_at dksX2_sortOf_6 1 rfl rfl)
theorem dX2_sortOf_144 : decode cX2_sortOf 144 = .ok (.bipush 97, 2) := dk_16 97 (dk_at dksX2_sortOf_6 3 rfl rfl)
theorem dX2_sortOf_146 : decode cX2_sortOf 146 = .ok (.bipush 121, 2) := dk_16 121 (dk_at dksX2_sortOf_6 5 rfl rfl)
theorem dX2_sortOf_148 : decode cX2_sortOf 148 = .ok (.invokestatic 129, 3) := dk_184 0 129 (dk_at dksX2_sortOf_6 7 rfl rfl)
theorem dX2_sortOf_151 : decode cX2_sortOf 151 = .ok (.invokevirtual 191, 3) := dk_182 0 191 (dk_at dksX2_sortOf_6 10 rfl rfl)
theorem dX2_sortOf_154 : decode cX2_sortOf 154 = .ok (.ifCond .eq 8, 3) := dk_153 0 8 (dk_at dksX2_sortOf_6 13 rfl rfl)
theorem dX2_sortOf_157 : decode cX2_sortOf 157 = .ok (.bipush 7, 2) := dk_16 7 (dk_at dksX2_sortOf_6 16 rfl rfl)
theorem dX2_sortOf_159 : decode cX2_sortOf 159 = .ok (.goto 4, 3) := dk_167 0 4 (dk_at dksX2_sortOf_6 18 rfl rfl)
theorem dX2_sortOf_162 : decode cX2_sortOf 162 = .ok (.iconst (-1), 1) := dk_2 (dk_at dksX2_sortOf_6 21 rfl rfl)
theorem dX2_sortOf_163 : decode cX2_sortOf 163 = .ok (.ireturn, 1) := dk_172 (dk_at dksX2_sortOf_6 22 rfl rfl)
abbrev cX2_w4 : ByteArray := prog_21_method_26_code
def yX2_w4 : MethodName := ⟨RX2, "w4", "(IIII)J"⟩
def dkwX2_w4_0 : List UInt8 := [26, 27, 28, 184, 0, 129, 16, 8, 121, 29, 133, 129, 173]
abbrev dktX2_w4_0 : List UInt8 := dkwX2_w4_0 ++ []
theorem dksX2_w4_0 : cX2_w4.data.toList.drop 0 = dktX2_w4_0 := by decide +kernel
theorem dX2_w4_0 : decode cX2_w4 0 = .ok (.iload_n 0, 1) := dk_26 (dk_at dksX2_w4_0 0 rfl rfl)
theorem dX2_w4_1 : decode cX2_w4 1 = .ok (.iload_n 1, 1) := dk_27 (dk_at dksX2_w4_0 1 rfl rfl)
theorem dX2_w4_2 : decode cX2_w4 2 = .ok (.iload_n 2, 1) := dk_28 (dk_at dksX2_w4_0 2 rfl rfl)
theorem dX2_w4_3 : decode cX2_w4 3 = .ok (.invokestatic 129, 3) := dk_184 0 129 (dk_at dksX2_w4_0 3 rfl rfl)
theorem dX2_w4_6 : decode cX2_w4 6 = .ok (.bipush 8, 2) := dk_16 8 (dk_at dksX2_w4_0 6 rfl rfl)
theorem dX2_w4_8 : decode cX2_w4 8 = .ok (.lshl, 1) := dk_121 (dk_at dksX2_w4_0 8 rfl rfl)
theorem dX2_w4_9 : decode cX2_w4 9 = .ok (.iload_n 3, 1) := dk_29 (dk_at dksX2_w4_0 9 rfl rfl)
theorem dX2_w4_10 : decode cX2_w4 10 = .ok (.i2l, 1) := dk_133 (dk_at dksX2_w4_0 10 rfl rfl)
theorem dX2_w4_11 : decode cX2_w4 11 = .ok (.lor, 1) := dk_129 (dk_at dksX2_w4_0 11 rfl rfl)
theorem dX2_w4_12 : decode cX2_w4 12 = .ok (.lreturn, 1) := dk_173 (dk_at dksX2_w4_0 12 rfl rfl)
abbrev cX2_w3 : ByteArray := prog_21_method_25_code
def yX2_w3 : MethodName := ⟨RX2, "w3", "(III)J"⟩
def dkwX2_w3_0 : List UInt8 := [26, 27, 184, 0, 125, 16, 8, 121, 28, 133, 129, 173]
abbrev dktX2_w3_0 : List UInt8 := dkwX2_w3_0 ++ []
theorem dksX2_w3_0 : cX2_w3.data.toList.drop 0 = dktX2_w3_0 := by decide +kernel
theorem dX2_w3_0 : decode cX2_w3 0 = .ok (.iload_n 0, 1) := dk_26 (dk_at dksX2_w3_0 0 rfl rfl)
theorem dX2_w3_1 : decode cX2_w3 1 = .ok (.iload_n 1, 1) := dk_27 (dk_at dksX2_w3_0 1 rfl rfl)
theorem dX2_w3_2 : decode cX2_w3 2 = .ok (.invokestatic 125, 3) := dk_184 0 125 (dk_at dksX2_w3_0 2 rfl rfl)
theorem dX2_w3_5 : decode cX2_w3 5 = .ok (.bipush 8, 2) := dk_16 8 (dk_at dksX2_w3_0 5 rfl rfl)
theorem dX2_w3_7 : decode cX2_w3 7 = .ok (.lshl, 1) := dk_121 (dk_at dksX2_w3_0 7 rfl rfl)
theorem dX2_w3_8 : decode cX2_w3 8 = .ok (.iload_n 2, 1) := dk_28 (dk_at dksX2_w3_0 8 rfl rfl)
theorem dX2_w3_9 : decode cX2_w3 9 = .ok (.i2l, 1) := dk_133 (dk_at dksX2_w3_0 9 rfl rfl)
theorem dX2_w3_10 : decode cX2_w3 10 = .ok (.lor, 1) := dk_129 (dk_at dksX2_w3_0 10 rfl rfl)
theorem dX2_w3_11 : decode cX2_w3 11 = .ok (.lreturn, 1) := dk_173 (dk_at dksX2_w3_0 11 rfl rfl)
abbrev cX2_w2 : ByteArray := prog_21_method_24_code
def yX2_w2 : MethodName := ⟨RX2, "w2", "(II)J"⟩
def dkwX2_w2_0 : List UInt8 := [26, 133, 16, 8, 121, 27, 133, 129, 173]
abbrev dktX2_w2_0 : List UInt8 := dkwX2_w2_0 ++ []
theorem dksX2_w2_0 : cX2_w2.data.toList.drop 0 = dktX2_w2_0 := by decide +kernel
theorem dX2_w2_0 : decode cX2_w2 0 = .ok (.iload_n 0, 1) := dk_26 (dk_at dksX2_w2_0 0 rfl rfl)
theorem dX2_w2_1 : decode cX2_w2 1 = .ok (.i2l, 1) := dk_133 (dk_at dksX2_w2_0 1 rfl rfl)
theorem dX2_w2_2 : decode cX2_w2 2 = .ok (.bipush 8, 2) := dk_16 8 (dk_at dksX2_w2_0 2 rfl rfl)
theorem dX2_w2_4 : decode cX2_w2 4 = .ok (.lshl, 1) := dk_121 (dk_at dksX2_w2_0 4 rfl rfl)
theorem dX2_w2_5 : decode cX2_w2 5 = .ok (.iload_n 1, 1) := dk_27 (dk_at dksX2_w2_0 5 rfl rfl)
theorem dX2_w2_6 : decode cX2_w2 6 = .ok (.i2l, 1) := dk_133 (dk_at dksX2_w2_0 6 rfl rfl)
theorem dX2_w2_7 : decode cX2_w2 7 = .ok (.lor, 1) := dk_129 (dk_at dksX2_w2_0 7 rfl rfl)
theorem dX2_w2_8 : decode cX2_w2 8 = .ok (.lreturn, 1) := dk_173 (dk_at dksX2_w2_0 8 rfl rfl)
abbrev cX2_isWord : ByteArray := prog_21_method_29_code
def yX2_isWord : MethodName := ⟨RX2, "isWord", "(J)Z"⟩
def dkwX2_isWord_0 : List UInt8 := [42, 180, 0, 102, 5, 160, 0, 16, 42, 180, 0, 116, 31, 148, 154, 0, 7, 4, 167, 0, 4, 3, 172]
abbrev dktX2_isWord_0 : List UInt8 := dkwX2_isWord_0 ++ []
theorem dksX2_isWord_0 : cX2_isWord.data.toList.drop 0 = dktX2_isWord_0 := by decide +kernel
theorem dX2_isWord_0 : decode cX2_isWord 0 = .ok (.aload_n 0, 1) := dk_42 (dk_at dksX2_isWord_0 0 rfl rfl)
theorem dX2_isWord_1 : decode cX2_isWord 1 = .ok (.getfield 102, 3) := dk_180 0 102 (dk_at dksX2_isWord_0 1 rfl rfl)
theorem dX2_isWord_4 : decode cX2_isWord 4 = .ok (.iconst 2, 1) := dk_5 (dk_at dksX2_isWord_0 4 rfl rfl)
theorem dX2_isWord_5 : decode cX2_isWord 5 = .ok (.if_icmp .ne 16, 3) := dk_160 0 16 (dk_at dksX2_isWord_0 5 rfl rfl)
theorem dX2_isWord_8 : decode cX2_isWord 8 = .ok (.aload_n 0, 1) := dk_42 (dk_at dksX2_isWord_0 8 rfl rfl)
theorem dX2_isWord_9 : decode cX2_isWord 9 = .ok (.getfield 116, 3) := dk_180 0 116 (dk_at dksX2_isWord_0 9 rfl rfl)
theorem dX2_isWord_12 : decode cX2_isWord 12 = .ok (.lload_n 1, 1) := dk_31 (dk_at dksX2_isWord_0 12 rfl rfl)
theorem dX2_isWord_13 : decode cX2_isWord 13 = .ok (.lcmp, 1) := dk_148 (dk_at dksX2_isWord_0 13 rfl rfl)
theorem dX2_isWord_14 : decode cX2_isWord 14 = .ok (.ifCond .ne 7, 3) := dk_154 0 7 (dk_at dksX2_isWord_0 14 rfl rfl)
theorem dX2_isWord_17 : decode cX2_isWord 17 = .ok (.iconst 1, 1) := dk_4 (dk_at dksX2_isWord_0 17 rfl rfl)
theorem dX2_isWord_18 : decode cX2_isWord 18 = .ok (.goto 4, 3) := dk_167 0 4 (dk_at dksX2_isWord_0 18 rfl rfl)
theorem dX2_isWord_21 : decode cX2_isWord 21 = .ok (.iconst 0, 1) := dk_3 (dk_at dksX2_isWord_0 21 rfl rfl)
theorem dX2_isWord_22 : decode cX2_isWord 22 = .ok (.ireturn, 1) := dk_172 (dk_at dksX2_isWord_0 22 rfl rfl)
abbrev cX2_w5 : ByteArray := prog_21_method_27_code
def yX2_w5 : MethodName := ⟨RX2, "w5", "(IIIII)J"⟩
def dkwX2_w5_0 : List UInt8 := [26, 27, 28, 29, 184, 0, 133, 16, 8, 121, 21, 4, 133, 129, 173]
abbrev dktX2_w5_0 : List UInt8 := dkwX2_w5_0 ++ []
theorem dksX2_w5_0 : cX2_w5.data.toList.drop 0 = dktX2_w5_0 := by decide +kernel
theorem dX2_w5_0 : decode cX2_w5 0 = .ok (.iload_n 0, 1) := dk_26 (dk_at dksX2_w5_0 0 rfl rfl)
theorem dX2_w5_1 : decode cX2_w5 1 = .ok (.iload_n 1, 1) := dk_27 (dk_at dksX2_w5_0 1 rfl rfl)
theorem dX2_w5_2 : decode cX2_w5 2 = .ok (.iload_n 2, 1) := dk_28 (dk_at dksX2_w5_0 2 rfl rfl)
theorem dX2_w5_3 : decode cX2_w5 3 = .ok (.iload_n 3, 1) := dk_29 (dk_at dksX2_w5_0 3 rfl rfl)
theorem dX2_w5_4 : decode cX2_w5 4 = .ok (.invokestatic 133, 3) := dk_184 0 133 (dk_at dksX2_w5_0 4 rfl rfl)
theorem dX2_w5_7 : decode cX2_w5 7 = .ok (.bipush 8, 2) := dk_16 8 (dk_at dksX2_w5_0 7 rfl rfl)
theorem dX2_w5_9 : decode cX2_w5 9 = .ok (.lshl, 1) := dk_121 (dk_at dksX2_w5_0 9 rfl rfl)
theorem dX2_w5_10 : decode cX2_w5 10 = .ok (.iload 4, 2) := dk_21 4 (dk_at dksX2_w5_0 10 rfl rfl)
theorem dX2_w5_12 : decode cX2_w5 12 = .ok (.i2l, 1) := dk_133 (dk_at dksX2_w5_0 12 rfl rfl)
theorem dX2_w5_13 : decode cX2_w5 13 = .ok (.lor, 1) := dk_129 (dk_at dksX2_w5_0 13 rfl rfl)
theorem dX2_w5_14 : decode cX2_w5 14 = .ok (.lreturn, 1) := dk_173 (dk_at dksX2_w5_0 14 rfl rfl)
abbrev cX2_w6 : ByteArray := prog_21_method_28_code
def yX2_w6 : MethodName := ⟨RX2, "w6", "(IIIIII)J"⟩
def dkwX2_w6_0 : List UInt8 := [26, 27, 28, 29, 21, 4, 184, 0, 137, 16, 8, 121, 21, 5, 133, 129, 173]
abbrev dktX2_w6_0 : List UInt8 := dkwX2_w6_0 ++ []
theorem dksX2_w6_0 : cX2_w6.data.toList.drop 0 = dktX2_w6_0 := by decide +kernel
theorem dX2_w6_0 : decode cX2_w6 0 = .ok (.iload_n 0, 1) := dk_26 (dk_at dksX2_w6_0 0 rfl rfl)
theorem dX2_w6_1 : decode cX2_w6 1 = .ok (.iload_n 1, 1) := dk_27 (dk_at dksX2_w6_0 1 rfl rfl)
theorem dX2_w6_2 : decode cX2_w6 2 = .ok (.iload_n 2, 1) := dk_28 (dk_at dksX2_w6_0 2 rfl rfl)
theorem dX2_w6_3 : decode cX2_w6 3 = .ok (.iload_n 3, 1) := dk_29 (dk_at dksX2_w6_0 3 rfl rfl)
theorem dX2_w6_4 : decode cX2_w6 4 = .ok (.iload 4, 2) := dk_21 4 (dk_at dksX2_w6_0 4 rfl rfl)
theorem dX2_w6_6 : decode cX2_w6 6 = .ok (.invokestatic 137, 3) := dk_184 0 137 (dk_at dksX2_w6_0 6 rfl rfl)
theorem dX2_w6_9 : decode cX2_w6 9 = .ok (.bipush 8, 2) := dk_16 8 (dk_at dksX2_w6_0 9 rfl rfl)
theorem dX2_w6_11 : decode cX2_w6 11 = .ok (.lshl, 1) := dk_121 (dk_at dksX2_w6_0 11 rfl rfl)
theorem dX2_w6_12 : decode cX2_w6 12 = .ok (.iload 5, 2) := dk_21 5 (dk_at dksX2_w6_0 12 rfl rfl)
theorem dX2_w6_14 : decode cX2_w6 14 = .ok (.i2l, 1) := dk_133 (dk_at dksX2_w6_0 14 rfl rfl)
theorem dX2_w6_15 : decode cX2_w6 15 = .ok (.lor, 1) := dk_129 (dk_at dksX2_w6_0 15 rfl rfl)
theorem dX2_w6_16 : decode cX2_w6 16 = .ok (.lreturn, 1) := dk_173 (dk_at dksX2_w6_0 16 rfl rfl)
abbrev cX2_has : ByteArray := prog_21_method_5_code
def yX2_has : MethodName := ⟨RX2, "has", "(II)Z"⟩
def dkwX2_has_0 : List UInt8 := [26, 27, 122, 4, 126, 4, 160, 0, 7, 4, 167, 0, 4, 3, 172]
abbrev dktX2_has_0 : List UInt8 := dkwX2_has_0 ++ []
theorem dksX2_has_0 : cX2_has.data.toList.drop 0 = dktX2_has_0 := by decide +kernel
theorem dX2_has_0 : decode cX2_has 0 = .ok (.iload_n 0, 1) := dk_26 (dk_at dksX2_has_0 0 rfl rfl)
theorem dX2_has_1 : decode cX2_has 1 = .ok (.iload_n 1, 1) := dk_27 (dk_at dksX2_has_0 1 rfl rfl)
theorem dX2_has_2 : decode cX2_has 2 = .ok (.ishr, 1) := dk_122 (dk_at dksX2_has_0 2 rfl rfl)
theorem dX2_has_3 : decode cX2_has 3 = .ok (.iconst 1, 1) := dk_4 (dk_at dksX2_has_0 3 rfl rfl)
theorem dX2_has_4 : decode cX2_has 4 = .ok (.iand, 1) := dk_126 (dk_at dksX2_has_0 4 rfl rfl)
theorem dX2_has_5 : decode cX2_has 5 = .ok (.iconst 1, 1) := dk_4 (dk_at dksX2_has_0 5 rfl rfl)
theorem dX2_has_6 : decode cX2_has 6 = .ok (.if_icmp .ne 7, 3) := dk_160 0 7 (dk_at dksX2_has_0 6 rfl rfl)
theorem dX2_has_9 : decode cX2_has 9 = .ok (.iconst 1, 1) := dk_4 (dk_at dksX2_has_0 9 rfl rfl)
theorem dX2_has_10 : decode cX2_has 10 = .ok (.goto 4, 3) := dk_167 0 4 (dk_at dksX2_has_0 10 rfl rfl)
theorem dX2_has_13 : decode cX2_has 13 = .ok (.iconst 0, 1) := dk_3 (dk_at dksX2_has_0 13 rfl rfl)
theorem dX2_has_14 : decode cX2_has 14 = .ok (.ireturn, 1) := dk_172 (dk_at dksX2_has_0 14 rfl rfl)
abbrev cX2_body : ByteArray := prog_21_method_52_code
def yX2_body : MethodName := ⟨RX2, "body", "(II)I"⟩
def dkwX2_body_4 : List UInt8 := [4, 96, 4, 16, 60, 182, 0, 216, 172, 42, 28, 182, 0, 233, 172]
abbrev dktX2_body_4 : List UInt8 := dkwX2_body_4 ++ []
def dkwX2_body_3 : List UInt8 := [42, 28, 4, 96, 3, 16, 7, 182, 0, 216, 172, 42, 28, 4, 96, 3, 16, 7, 182, 0, 216, 172, 42, 28]
abbrev dktX2_body_3 : List UInt8 := dkwX2_body_3 ++ dktX2_body_4
def dkwX2_body_2 : List UInt8 := [42, 28, 182, 0, 227, 172, 42, 28, 4, 96, 3, 17, 0, 255, 182, 0, 216, 172, 42, 28, 182, 0, 230, 172]
abbrev dktX2_body_2 : List UInt8 := dkwX2_body_2 ++ dktX2_body_3
def dkwX2_body_1 : List UInt8 := [170, 0, 0, 0, 0, 0, 96, 0, 0, 0, 2, 0, 0, 0, 7, 0, 0, 0, 39, 0, 0, 0, 45, 0, 0, 0, 57, 0, 0, 0, 63, 0, 0, 0, 74, 0, 0, 0, 85]
abbrev dktX2_body_1 : List UInt8 := dkwX2_body_1 ++ dktX2_body_2
def dkwX2_body_0 : List UInt8 := [27]
abbrev dktX2_body_0 : List UInt8 := dkwX2_body_0 ++ dktX2_body_1
theorem dksX2_body_0 : cX2_body.data.toList.drop 0 = dktX2_body_0 := by decide +kernel
theorem dksX2_body_1 : cX2_body.data.toList.drop 1 = dktX2_body_1 := dk_seg dksX2_body_0 1 rfl rfl
theorem dksX2_body_2 : cX2_body.data.toList.drop 40 = dktX2_body_2 := dk_seg dksX2_body_1 39 rfl rfl
theorem dksX2_body_3 : cX2_body.data.toList.drop 64 = dktX2_body_3 := dk_seg dksX2_body_2 24 rfl rfl
theorem dksX2_body_4 : cX2_body.data.toList.drop 88 = dktX2_body_4 := dk_seg dksX2_body_3 24 rfl rfl
theorem dX2_body_0 : decode cX2_body 0 = .ok (.iload_n 1, 1) := dk_27 (dk_at dksX2_body_0 0 rfl rfl)
theorem dX2_body_1 : decode cX2_body 1 = .ok (.tableswitch 96 2 7 #[39, 45, 57, 63, 74, 85], 39) := by decide +kernel
theorem dX2_body_40 : decode cX2_body 40 = .ok (.aload_n 0, 1) := dk_42 (dk_at dksX2_body_2 0 rfl rfl)
theorem dX2_body_41 : decode cX2_body 41 = .ok (.iload_n 2, 1) := dk_28 (dk_at dksX2_body_2 1 rfl rfl)
theorem dX2_body_42 : decode cX2_body 42 = .ok (.invokevirtual 227, 3) := dk_182 0 227 (dk_at dksX2_body_2 2 rfl rfl)
theorem dX2_body_45 : decode cX2_body 45 = .ok (.ireturn, 1) := dk_172 (dk_at dksX2_body_2 5 rfl rfl)
theorem dX2_body_46 : decode cX2_body 46 = .ok (.aload_n 0, 1) := dk_42 (dk_at dksX2_body_2 6 rfl rfl)
theorem dX2_body_47 : decode cX2_body 47 = .ok (.iload_n 2, 1) := dk_28 (dk_at dksX2_body_2 7 rfl rfl)
theorem dX2_body_48 : decode cX2_body 48 = .ok (.iconst 1, 1) := dk_4 (dk_at dksX2_body_2 8 rfl rfl)
theorem dX2_body_49 : decode cX2_body 49 = .ok (.iadd, 1) := dk_96 (dk_at dksX2_body_2 9 rfl rfl)
theorem dX2_body_50 : decode cX2_body 50 = .ok (.iconst 0, 1) := dk_3 (dk_at dksX2_body_2 10 rfl rfl)
theorem dX2_body_51 : decode cX2_body 51 = .ok (.sipush 255, 3) := dk_17 0 255 (dk_at dksX2_body_2 11 rfl rfl)
theorem dX2_body_54 : decode cX2_body 54 = .ok (.invokevirtual 216, 3) := dk_182 0 216 (dk_at dksX2_body_2 14 rfl rfl)
theorem dX2_body_57 : decode cX2_body 57 = .ok (.ireturn, 1) := dk_172 (dk_at dksX2_body_2 17 rfl rfl)
theorem dX2_body_58 : decode cX2_body 58 = .ok (.aload_n 0, 1) := dk_42 (dk_at dksX2_body_2 18 rfl rfl)
theorem dX2_body_59 : decode cX2_body 59 = .ok (.iload_n 2, 1) := dk_28 (dk_at dksX2_body_2 19 rfl rfl)
theorem dX2_body_60 : decode cX2_body 60 = .ok (.invokevirtual 230, 3) := dk_182 0 230 (dk_at dksX2_body_2 20 rfl rfl)
theorem dX2_body_63 : decode cX2_body 63 = .ok (.ireturn, 1) := dk_172 (dk_at dksX2_body_2 23 rfl rfl)
theorem dX2_body_64 : decode cX2_body 64 = .ok (.aload_n 0, 1) := dk_42 (dk_at dksX2_body_3 0 rfl rfl)
theorem dX2_body_65 : decode cX2_body 65 = .ok (.iload_n 2, 1) := dk_28 (dk_at dksX2_body_3 1 rfl rfl)
theorem dX2_body_66 : decode cX2_body 66 = .ok (.iconst 1, 1) := dk_4 (dk_at dksX2_body_3 2 rfl rfl)
theorem dX2_body_67 : decode cX2_body 67 = .ok (.iadd, 1) := dk_96 (dk_at dksX2_body_3 3 rfl rfl)
theorem dX2_body_68 : decode cX2_body 68 = .ok (.iconst 0, 1) := dk_3 (dk_at dksX2_body_3 4 rfl rfl)
theorem dX2_body_69 : decode cX2_body 69 = .ok (.bipush 7, 2) := dk_16 7 (dk_at dksX2_body_3 5 rfl rfl)
theorem dX2_body_71 : decode cX2_body 71 = .ok (.invokevirtual 216, 3) := dk_182 0 216 (dk_at dksX2_body_3 7 rfl rfl)
theorem dX2_body_74 : decode cX2_body 74 = .ok (.ireturn, 1) := dk_172 (dk_at dksX2_body_3 10 rfl rfl)
theorem dX2_body_75 : decode cX2_body 75 = .ok (.aload_n 0, 1) := dk_42 (dk_at dksX2_body_3 11 rfl rfl)
theorem dX2_body_76 : decode cX2_body 76 = .ok (.iload_n 2, 1) := dk_28 (dk_at dksX2_body_3 12 rfl rfl)
theorem dX2_body_77 : decode cX2_body 77 = .ok (.iconst 1, 1) := dk_4 (dk_at dksX2_body_3 13 rfl rfl)
theorem dX2_body_78 : decode cX2_body 78 = .ok (.iadd, 1) := dk_96 (dk_at dksX2_body_3 14 rfl rfl)
theorem dX2_body_79 : decode cX2_body 79 = .ok (.iconst 0, 1) := dk_3 (dk_at dksX2_body_3 15 rfl rfl)
theorem dX2_body_80 : decode cX2_body 80 = .ok (.bipush 7, 2) := dk_16 7 (dk_at dksX2_body_3 16 rfl rfl)
theorem dX2_body_82 : decode cX2_body 82 = .ok (.invokevirtual 216, 3) := dk_182 0 216 (dk_at dksX2_body_3 18 rfl rfl)
theorem dX2_body_85 : decode cX2_body 85 = .ok (.ireturn, 1) := dk_172 (dk_at dksX2_body_3 21 rfl rfl)
theorem dX2_body_86 : decode cX2_body 86 = .ok (.aload_n 0, 1) := dk_42 (dk_at dksX2_body_3 22 rfl rfl)
theorem dX2_body_87 : decode cX2_body 87 = .ok (.iload_n 2, 1) := dk_28 (dk_at dksX2_body_3 23 rfl rfl)
theorem dX2_body_88 : decode cX2_body 88 = .ok (.iconst 1, 1) := dk_4 (dk_at dksX2_body_4 0 rfl rfl)
theorem dX2_body_89 : decode cX2_body 89 = .ok (.iadd, 1) := dk_96 (dk_at dksX2_body_4 1 rfl rfl)
theorem dX2_body_90 : decode cX2_body 90 = .ok (.iconst 1, 1) := dk_4 (dk_at dksX2_body_4 2 rfl rfl)
theorem dX2_body_91 : decode cX2_body 91 = .ok (.bipush 60, 2) := dk_16 60 (dk_at dksX2_body_4 3 rfl rfl)
theorem dX2_body_93 : decode cX2_body 93 = .ok (.invokevirtual 216, 3) := dk_182 0 216 (dk_at dksX2_body_4 5 rfl rfl)
theorem dX2_body_96 : decode cX2_body 96 = .ok (.ireturn, 1) := dk_172 (dk_at dksX2_body_4 8 rfl rfl)
theorem dX2_body_97 : decode cX2_body 97 = .ok (.aload_n 0, 1) := dk_42 (dk_at dksX2_body_4 9 rfl rfl)
theorem dX2_body_98 : decode cX2_body 98 = .ok (.iload_n 2, 1) := dk_28 (dk_at dksX2_body_4 10 rfl rfl)
theorem dX2_body_99 : decode cX2_body 99 = .ok (.invokevirtual 233, 3) := dk_182 0 233 (dk_at dksX2_body_4 11 rfl rfl)
theorem dX2_body_102 : decode cX2_body 102 = .ok (.ireturn, 1) := dk_172 (dk_at dksX2_body_4 14 rfl rfl)
abbrev cX2_personClause : ByteArray := prog_21_method_50_code
def yX2_personClause : MethodName := ⟨RX2, "personClause", "(I)I"⟩
def dkwX2_personClause_3 : List UInt8 := [16, 117, 16, 101, 184, 0, 129, 27, 7, 96, 3, 16, 99, 182, 0, 223, 172]
abbrev dktX2_personClause_3 : List UInt8 := dkwX2_personClause_3 ++ []
def dkwX2_personClause_2 : List UInt8 := [184, 0, 129, 27, 6, 96, 4, 16, 99, 182, 0, 223, 61, 28, 153, 0, 7, 28, 167, 0, 22, 42, 16, 100]
abbrev dktX2_personClause_2 : List UInt8 := dkwX2_personClause_2 ++ dktX2_personClause_3
def dkwX2_personClause_1 : List UInt8 := [184, 0, 133, 27, 5, 96, 4, 16, 99, 182, 0, 223, 61, 28, 154, 0, 23, 42, 16, 114, 16, 117, 16, 110]
abbrev dktX2_personClause_1 : List UInt8 := dkwX2_personClause_1 ++ dktX2_personClause_2
def dkwX2_personClause_0 : List UInt8 := [42, 27, 4, 96, 3, 6, 182, 0, 216, 61, 28, 154, 0, 25, 42, 16, 119, 16, 97, 16, 108, 16, 107]
abbrev dktX2_personClause_0 : List UInt8 := dkwX2_personClause_0 ++ dktX2_personClause_1
theorem dksX2_personClause_0 : cX2_personClause.data.toList.drop 0 = dktX2_personClause_0 := by decide +kernel
theorem dksX2_personClause_1 : cX2_personClause.data.toList.drop 23 = dktX2_personClause_1 := dk_seg dksX2_personClause_0 23 rfl rfl
theorem dksX2_personClause_2 : cX2_personClause.data.toList.drop 47 = dktX2_personClause_2 := dk_seg dksX2_personClause_1 24 rfl rfl
theorem dksX2_personClause_3 : cX2_personClause.data.toList.drop 71 = dktX2_personClause_3 := dk_seg dksX2_personClause_2 24 rfl rfl
theorem dX2_personClause_0 : decode cX2_personClause 0 = .ok (.aload_n 0, 1) := dk_42 (dk_at dksX2_personClause_0 0 rfl rfl)
theorem dX2_personClause_1 : decode cX2_personClause 1 = .ok (.iload_n 1, 1) := dk_27 (dk_at dksX2_personClause_0 1 rfl rfl)
theorem dX2_personClause_2 : decode cX2_personClause 2 = .ok (.iconst 1, 1) := dk_4 (dk_at dksX2_personClause_0 2 rfl rfl)
theorem dX2_personClause_3 : decode cX2_personClause 3 = .ok (.iadd, 1) := dk_96 (dk_at dksX2_personClause_0 3 rfl rfl)
theorem dX2_personClause_4 : decode cX2_personClause 4 = .ok (.iconst 0, 1) := dk_3 (dk_at dksX2_personClause_0 4 rfl rfl)
theorem dX2_personClause_5 : decode cX2_personClause 5 = .ok (.iconst 3, 1) := dk_6 (dk_at dksX2_personClause_0 5 rfl rfl)
theorem dX2_personClause_6 : decode cX2_personClause 6 = .ok (.invokevirtual 216, 3) := dk_182 0 216 (dk_at dksX2_personClause_0 6 rfl rfl)
theorem dX2_personClause_9 : decode cX2_personClause 9 = .ok (.istore_n 2, 1) := dk_61 (dk_at dksX2_personClause_0 9 rfl rfl)
theorem dX2_personClause_10 : decode cX2_personClause 10 = .ok (.iload_n 2, 1) := dk_28 (dk_at dksX2_personClause_0 10 rfl rfl)
theorem dX2_personClause_11 : decode cX2_personClause 11 = .ok (.ifCond .ne 25, 3) := dk_154 0 25 (dk_at dksX2_personClause_0 11 rfl rfl)
theorem dX2_personClause_14 : decode cX2_personClause 14 = .ok (.aload_n 0, 1) := dk_42 (dk_at dksX2_personClause_0 14 rfl rfl)
theorem dX2_personClause_15 : decode cX2_personClause 15 = .ok (.bipush 119, 2) := dk_16 119 (dk_at dksX2_personClause_0 15 rfl rfl)
theorem dX2_personClause_17 : decode cX2_personClause 17 = .ok (.bipush 97, 2) := dk_16 97 (dk_at dksX2_personClause_0 17 rfl rfl)
theorem dX2_personClause_19 : decode cX2_personClause 19 = .ok (.bipush 108, 2) := dk_16 108 (dk_at dksX2_personClause_0 19 rfl rfl)
theorem dX2_personClause_21 : decode cX2_personClause 21 = .ok (.bipush 107, 2) := dk_16 107 (dk_at dksX2_personClause_0 21 rfl rfl)
theorem dX2_personClause_23 : decode cX2_personClause 23 = .ok (.invokestatic 133, 3) := dk_184 0 133 (dk_at dksX2_personClause_1 0 rfl rfl)
theorem dX2_personClause_26 : decode cX2_personClause 26 = .ok (.iload_n 1, 1) := dk_27 (dk_at dksX2_personClause_1 3 rfl rfl)
theorem dX2_personClause_27 : decode cX2_personClause 27 = .ok (.iconst 2, 1) := dk_5 (dk_at dksX2_personClause_1 4 rfl rfl)
theorem dX2_personClause_28 : decode cX2_personClause 28 = .ok (.iadd, 1) := dk_96 (dk_at dksX2_personClause_1 5 rfl rfl)
theorem dX2_personClause_29 : decode cX2_personClause 29 = .ok (.iconst 1, 1) := dk_4 (dk_at dksX2_personClause_1 6 rfl rfl)
theorem dX2_personClause_30 : decode cX2_personClause 30 = .ok (.bipush 99, 2) := dk_16 99 (dk_at dksX2_personClause_1 7 rfl rfl)
theorem dX2_personClause_32 : decode cX2_personClause 32 = .ok (.invokevirtual 223, 3) := dk_182 0 223 (dk_at dksX2_personClause_1 9 rfl rfl)
theorem dX2_personClause_35 : decode cX2_personClause 35 = .ok (.istore_n 2, 1) := dk_61 (dk_at dksX2_personClause_1 12 rfl rfl)
theorem dX2_personClause_36 : decode cX2_personClause 36 = .ok (.iload_n 2, 1) := dk_28 (dk_at dksX2_personClause_1 13 rfl rfl)
theorem dX2_personClause_37 : decode cX2_personClause 37 = .ok (.ifCond .ne 23, 3) := dk_154 0 23 (dk_at dksX2_personClause_1 14 rfl rfl)
theorem dX2_personClause_40 : decode cX2_personClause 40 = .ok (.aload_n 0, 1) := dk_42 (dk_at dksX2_personClause_1 17 rfl rfl)
theorem dX2_personClause_41 : decode cX2_personClause 41 = .ok (.bipush 114, 2) := dk_16 114 (dk_at dksX2_personClause_1 18 rfl rfl)
theorem dX2_personClause_43 : decode cX2_personClause 43 = .ok (.bipush 117, 2) := dk_16 117 (dk_at dksX2_personClause_1 20 rfl rfl)
theorem dX2_personClause_45 : decode cX2_personClause 45 = .ok (.bipush 110, 2) := dk_16 110 (dk_at dksX2_personClause_1 22 rfl rfl)
theorem dX2_personClause_47 : decode cX2_personClause 47 = .ok (.invokestatic 129, 3) := dk_184 0 129 (dk_at dksX2_personClause_2 0 rfl rfl)
theorem dX2_personClause_50 : decode cX2_personClause 50 = .ok (.iload_n 1, 1) := dk_27 (dk_at dksX2_personClause_2 3 rfl rfl)
theorem dX2_personClause_51 : decode cX2_personClause 51 = .ok (.iconst 3, 1) := dk_6 (dk_at dksX2_personClause_2 4 rfl rfl)
theorem dX2_personClause_52 : decode cX2_personClause 52 = .ok (.iadd, 1) := dk_96 (dk_at dksX2_personClause_2 5 rfl rfl)
theorem dX2_personClause_53 : decode cX2_personClause 53 = .ok (.iconst 1, 1) := dk_4 (dk_at dksX2_personClause_2 6 rfl rfl)
theorem dX2_personClause_54 : decode cX2_personClause 54 = .ok (.bipush 99, 2) := dk_16 99 (dk_at dksX2_personClause_2 7 rfl rfl)
theorem dX2_personClause_56 : decode cX2_personClause 56 = .ok (.invokevirtual 223, 3) := dk_182 0 223 (dk_at dksX2_personClause_2 9 rfl rfl)
theorem dX2_personClause_59 : decode cX2_personClause 59 = .ok (.istore_n 2, 1) := dk_61 (dk_at dksX2_personClause_2 12 rfl rfl)
theorem dX2_personClause_60 : decode cX2_personClause 60 = .ok (.iload_n 2, 1) := dk_28 (dk_at dksX2_personClause_2 13 rfl rfl)
theorem dX2_personClause_61 : decode cX2_personClause 61 = .ok (.ifCond .eq 7, 3) := dk_153 0 7 (dk_at dksX2_personClause_2 14 rfl rfl)
theorem dX2_personClause_64 : decode cX2_personClause 64 = .ok (.iload_n 2, 1) := dk_28 (dk_at dksX2_personClause_2 17 rfl rfl)
theorem dX2_personClause_65 : decode cX2_personClause 65 = .ok (.goto 22, 3) := dk_167 0 22 (dk_at dksX2_personClause_2 18 rfl rfl)
theorem dX2_personClause_68 : decode cX2_personClause 68 = .ok (.aload_n 0, 1) := dk_42 (dk_at dksX2_personClause_2 21 rfl rfl)
theorem dX2_personClause_69 : decode cX2_personClause 69 = .ok (.bipush 100, 2) := dk_16 100 (dk_at dksX2_personClause_2 22 rfl rfl)
theorem dX2_personClause_71 : decode cX2_personClause 71 = .ok (.bipush 117, 2) := dk_16 117 (dk_at dksX2_personClause_3 0 rfl rfl)
theorem dX2_personClause_73 : decode cX2_personClause 73 = .ok (.bipush 101, 2) := dk_16 101 (dk_at dksX2_personClause_3 2 rfl rfl)
theorem dX2_personClause_75 : decode cX2_personClause 75 = .ok (.invokestatic 129, 3) := dk_184 0 129 (dk_at dksX2_personClause_3 4 rfl rfl)
theorem dX2_personClause_78 : decode cX2_personClause 78 = .ok (.iload_n 1, 1) := dk_27 (dk_at dksX2_personClause_3 7 rfl rfl)
theorem dX2_personClause_79 : decode cX2_personClause 79 = .ok (.iconst 4, 1) := dk_7 (dk_at dksX2_personClause_3 8 rfl rfl)
theorem dX2_personClause_80 : decode cX2_personClause 80 = .ok (.iadd, 1) := dk_96 (dk_at dksX2_personClause_3 9 rfl rfl)
theorem dX2_personClause_81 : decode cX2_personClause 81 = .ok (.iconst 0, 1) := dk_3 (dk_at dksX2_personClause_3 10 rfl rfl)
theorem dX2_personClause_82 : decode cX2_personClause 82 = .ok (.bipush 99, 2) := dk_16 99 (dk_at dksX2_personClause_3 11 rfl rfl)
theorem dX2_personClause_84 : decode cX2_personClause 84 = .ok (.invokevirtual 223, 3) := dk_182 0 223 (dk_at dksX2_personClause_3 13 rfl rfl)
theorem dX2_personClause_87 : decode cX2_personClause 87 = .ok (.ireturn, 1) := dk_172 (dk_at dksX2_personClause_3 16 rfl rfl)
abbrev cX2_figure : ByteArray := prog_21_method_47_code
def yX2_figure : MethodName := ⟨RX2, "figure", "(III)I"⟩
def dkwX2_figure_1 : List UInt8 := [42, 180, 0, 16, 27, 42, 180, 0, 109, 79, 42, 182, 0, 173, 3, 172]
abbrev dktX2_figure_1 : List UInt8 := dkwX2_figure_1 ++ []
def dkwX2_figure_0 : List UInt8 := [42, 180, 0, 102, 4, 159, 0, 5, 4, 172, 42, 180, 0, 109, 28, 29, 184, 0, 66, 154, 0, 5, 5, 172]
abbrev dktX2_figure_0 : List UInt8 := dkwX2_figure_0 ++ dktX2_figure_1
theorem dksX2_figure_0 : cX2_figure.data.toList.drop 0 = dktX2_figure_0 := by decide +kernel
theorem dksX2_figure_1 : cX2_figure.data.toList.drop 24 = dktX2_figure_1 := dk_seg dksX2_figure_0 24 rfl rfl
theorem dX2_figure_0 : decode cX2_figure 0 = .ok (.aload_n 0, 1) := dk_42 (dk_at dksX2_figure_0 0 rfl rfl)
theorem dX2_figure_1 : decode cX2_figure 1 = .ok (.getfield 102, 3) := dk_180 0 102 (dk_at dksX2_figure_0 1 rfl rfl)
theorem dX2_figure_4 : decode cX2_figure 4 = .ok (.iconst 1, 1) := dk_4 (dk_at dksX2_figure_0 4 rfl rfl)
theorem dX2_figure_5 : decode cX2_figure 5 = .ok (.if_icmp .eq 5, 3) := dk_159 0 5 (dk_at dksX2_figure_0 5 rfl rfl)
theorem dX2_figure_8 : decode cX2_figure 8 = .ok (.iconst 1, 1) := dk_4 (dk_at dksX2_figure_0 8 rfl rfl)
theorem dX2_figure_9 : decode cX2_figure 9 = .ok (.ireturn, 1) := dk_172 (dk_at dksX2_figure_0 9 rfl rfl)
theorem dX2_figure_10 : decode cX2_figure 10 = .ok (.aload_n 0, 1) := dk_42 (dk_at dksX2_figure_0 10 rfl rfl)
theorem dX2_figure_11 : decode cX2_figure 11 = .ok (.getfield 109, 3) := dk_180 0 109 (dk_at dksX2_figure_0 11 rfl rfl)
theorem dX2_figure_14 : decode cX2_figure 14 = .ok (.iload_n 2, 1) := dk_28 (dk_at dksX2_figure_0 14 rfl rfl)
theorem dX2_figure_15 : decode cX2_figure 15 = .ok (.iload_n 3, 1) := dk_29 (dk_at dksX2_figure_0 15 rfl rfl)
theorem dX2_figure_16 : decode cX2_figure 16 = .ok (.invokestatic 66, 3) := dk_184 0 66 (dk_at dksX2_figure_0 16 rfl rfl)
theorem dX2_figure_19 : decode cX2_figure 19 = .ok (.ifCond .ne 5, 3) := dk_154 0 5 (dk_at dksX2_figure_0 19 rfl rfl)
theorem dX2_figure_22 : decode cX2_figure 22 = .ok (.iconst 2, 1) := dk_5 (dk_at dksX2_figure_0 22 rfl rfl)
theorem dX2_figure_23 : decode cX2_figure 23 = .ok (.ireturn, 1) := dk_172 (dk_at dksX2_figure_0 23 rfl rfl)
theorem dX2_figure_24 : decode cX2_figure 24 = .ok (.aload_n 0, 1) := dk_42 (dk_at dksX2_figure_1 0 rfl rfl)
theorem dX2_figure_25 : decode cX2_figure 25 = .ok (.getfield 16, 3) := dk_180 0 16 (dk_at dksX2_figure_1 1 rfl rfl)
theorem dX2_figure_28 : decode cX2_figure 28 = .ok (.iload_n 1, 1) := dk_27 (dk_at dksX2_figure_1 4 rfl rfl)
theorem dX2_figure_29 : decode cX2_figure 29 = .ok (.aload_n 0, 1) := dk_42 (dk_at dksX2_figure_1 5 rfl rfl)
theorem dX2_figure_30 : decode cX2_figure 30 = .ok (.getfield 109, 3) := dk_180 0 109 (dk_at dksX2_figure_1 6 rfl rfl)
theorem dX2_figure_33 : decode cX2_figure 33 = .ok (.iastore, 1) := dk_79 (dk_at dksX2_figure_1 9 rfl rfl)
theorem dX2_figure_34 : decode cX2_figure 34 = .ok (.aload_n 0, 1) := dk_42 (dk_at dksX2_figure_1 10 rfl rfl)
theorem dX2_figure_35 : decode cX2_figure 35 = .ok (.invokevirtual 173, 3) := dk_182 0 173 (dk_at dksX2_figure_1 11 rfl rfl)
theorem dX2_figure_38 : decode cX2_figure 38 = .ok (.iconst 0, 1) := dk_3 (dk_at dksX2_figure_1 14 rfl rfl)
theorem dX2_figure_39 : decode cX2_figure 39 = .ok (.ireturn, 1) := dk_172 (dk_at dksX2_figure_1 15 rfl rfl)
abbrev cX2_worded : ByteArray := prog_21_method_48_code
def yX2_worded : MethodName := ⟨RX2, "worded", "(JIII)I"⟩
def dkwX2_worded_0 : List UInt8 := [42, 31, 182, 0, 191, 154, 0, 5, 4, 172, 42, 182, 0, 173, 42, 29, 21, 4, 21, 5, 182, 0, 216, 172]
abbrev dktX2_worded_0 : List UInt8 := dkwX2_worded_0 ++ []
theorem dksX2_worded_0 : cX2_worded.data.toList.drop 0 = dktX2_worded_0 := by decide +kernel
theorem dX2_worded_0 : decode cX2_worded 0 = .ok (.aload_n 0, 1) := dk_42 (dk_at dksX2_worded_0 0 rfl rfl)
theorem dX2_worded_1 : decode cX2_worded 1 = .ok (.lload_n 1, 1) := dk_31 (dk_at dksX2_worded_0 1 rfl rfl)
theorem dX2_worded_2 : decode cX2_worded 2 = .ok (.invokevirtual 191, 3) := dk_182 0 191 (dk_at dksX2_worded_0 2 rfl rfl)
theorem dX2_worded_5 : decode cX2_worded 5 = .ok (.ifCond .ne 5, 3) := dk_154 0 5 (dk_at dksX2_worded_0 5 rfl rfl)
theorem dX2_worded_8 : decode cX2_worded 8 = .ok (.iconst 1, 1) := dk_4 (dk_at dksX2_worded_0 8 rfl rfl)
theorem dX2_worded_9 : decode cX2_worded 9 = .ok (.ireturn, 1) := dk_172 (dk_at dksX2_worded_0 9 rfl rfl)
theorem dX2_worded_10 : decode cX2_worded 10 = .ok (.aload_n 0, 1) := dk_42 (dk_at dksX2_worded_0 10 rfl rfl)
theorem dX2_worded_11 : decode cX2_worded 11 = .ok (.invokevirtual 173, 3) := dk_182 0 173 (dk_at dksX2_worded_0 11 rfl rfl)
theorem dX2_worded_14 : decode cX2_worded 14 = .ok (.aload_n 0, 1) := dk_42 (dk_at dksX2_worded_0 14 rfl rfl)
theorem dX2_worded_15 : decode cX2_worded 15 = .ok (.iload_n 3, 1) := dk_29 (dk_at dksX2_worded_0 15 rfl rfl)
theorem dX2_worded_16 : decode cX2_worded 16 = .ok (.iload 4, 2) := dk_21 4 (dk_at dksX2_worded_0 16 rfl rfl)
theorem dX2_worded_18 : decode cX2_worded 18 = .ok (.iload 5, 2) := dk_21 5 (dk_at dksX2_worded_0 18 rfl rfl)
theorem dX2_worded_20 : decode cX2_worded 20 = .ok (.invokevirtual 216, 3) := dk_182 0 216 (dk_at dksX2_worded_0 20 rfl rfl)
theorem dX2_worded_23 : decode cX2_worded 23 = .ok (.ireturn, 1) := dk_172 (dk_at dksX2_worded_0 23 rfl rfl)
abbrev cX2_dueClause : ByteArray := prog_21_method_51_code
def yX2_dueClause : MethodName := ⟨RX2, "dueClause", "(I)I"⟩
def dkwX2_dueClause_1 : List UInt8 := [184, 0, 125, 27, 5, 96, 3, 16, 7, 182, 0, 223, 172]
abbrev dktX2_dueClause_1 : List UInt8 := dkwX2_dueClause_1 ++ []
def dkwX2_dueClause_0 : List UInt8 := [42, 27, 4, 96, 3, 16, 99, 182, 0, 216, 61, 28, 153, 0, 7, 28, 167, 0, 20, 42, 16, 111, 16, 102]
abbrev dktX2_dueClause_0 : List UInt8 := dkwX2_dueClause_0 ++ dktX2_dueClause_1
theorem dksX2_dueClause_0 : cX2_dueClause.data.toList.drop 0 = dktX2_dueClause_0 := by decide +kernel
theorem dksX2_dueClause_1 : cX2_dueClause.data.toList.drop 24 = dktX2_dueClause_1 := dk_seg dksX2_dueClause_0 24 rfl rfl
theorem dX2_dueClause_0 : decode cX2_dueClause 0 = .ok (.aload_n 0, 1) := dk_42 (dk_at dksX2_dueClause_0 0 rfl rfl)
theorem dX2_dueClause_1 : decode cX2_dueClause 1 = .ok (.iload_n 1, 1) := dk_27 (dk_at dksX2_dueClause_0 1 rfl rfl)
theorem dX2_dueClause_2 : decode cX2_dueClause 2 = .ok (.iconst 1, 1) := dk_4 (dk_at dksX2_dueClause_0 2 rfl rfl)
theorem dX2_dueClause_3 : decode cX2_dueClause 3 = .ok (.iadd, 1) := dk_96 (dk_at dksX2_dueClause_0 3 rfl rfl)
theorem dX2_dueClause_4 : decode cX2_dueClause 4 = .ok (.iconst 0, 1) := dk_3 (dk_at dksX2_dueClause_0 4 rfl rfl)
theorem dX2_dueClause_5 : decode cX2_dueClause 5 = .ok (.bipush 99, 2) := dk_16 99 (dk_at dksX2_dueClause_0 5 rfl rfl)
theorem dX2_dueClause_7 : decode cX2_dueClause 7 = .ok (.invokevirtual 216, 3) := dk_182 0 216 (dk_at dksX2_dueClause_0 7 rfl rfl)
theorem dX2_dueClause_10 : decode cX2_dueClause 10 = .ok (.istore_n 2, 1) := dk_61 (dk_at dksX2_dueClause_0 10 rfl rfl)
theorem dX2_dueClause_11 : decode cX2_dueClause 11 = .ok (.iload_n 2, 1) := dk_28 (dk_at dksX2_dueClause_0 11 rfl rfl)
theorem dX2_dueClause_12 : decode cX2_dueClause 12 = .ok (.ifCond .eq 7, 3) := dk_153 0 7 (dk_at dksX2_dueClause_0 12 rfl rfl)
theorem dX2_dueClause_15 : decode cX2_dueClause 15 = .ok (.iload_n 2, 1) := dk_28 (dk_at dksX2_dueClause_0 15 rfl rfl)
theorem dX2_dueClause_16 : decode cX2_dueClause 16 = .ok (.goto 20, 3) := dk_167 0 20 (dk_at dksX2_dueClause_0 16 rfl rfl)
theorem dX2_dueClause_19 : decode cX2_dueClause 19 = .ok (.aload_n 0, 1) := dk_42 (dk_at dksX2_dueClause_0 19 rfl rfl)
theorem dX2_dueClause_20 : decode cX2_dueClause 20 = .ok (.bipush 111, 2) := dk_16 111 (dk_at dksX2_dueClause_0 20 rfl rfl)
theorem dX2_dueClause_22 : decode cX2_dueClause 22 = .ok (.bipush 102, 2) := dk_16 102 (dk_at dksX2_dueClause_0 22 rfl rfl)
theorem dX2_dueClause_24 : decode cX2_dueClause 24 = .ok (.invokestatic 125, 3) := dk_184 0 125 (dk_at dksX2_dueClause_1 0 rfl rfl)
theorem dX2_dueClause_27 : decode cX2_dueClause 27 = .ok (.iload_n 1, 1) := dk_27 (dk_at dksX2_dueClause_1 3 rfl rfl)
theorem dX2_dueClause_28 : decode cX2_dueClause 28 = .ok (.iconst 2, 1) := dk_5 (dk_at dksX2_dueClause_1 4 rfl rfl)
theorem dX2_dueClause_29 : decode cX2_dueClause 29 = .ok (.iadd, 1) := dk_96 (dk_at dksX2_dueClause_1 5 rfl rfl)
theorem dX2_dueClause_30 : decode cX2_dueClause 30 = .ok (.iconst 0, 1) := dk_3 (dk_at dksX2_dueClause_1 6 rfl rfl)
theorem dX2_dueClause_31 : decode cX2_dueClause 31 = .ok (.bipush 7, 2) := dk_16 7 (dk_at dksX2_dueClause_1 7 rfl rfl)
theorem dX2_dueClause_33 : decode cX2_dueClause 33 = .ok (.invokevirtual 223, 3) := dk_182 0 223 (dk_at dksX2_dueClause_1 9 rfl rfl)
theorem dX2_dueClause_36 : decode cX2_dueClause 36 = .ok (.ireturn, 1) := dk_172 (dk_at dksX2_dueClause_1 12 rfl rfl)
abbrev cX2_lawClause : ByteArray := prog_21_method_49_code
def yX2_lawClause : MethodName := ⟨RX2, "lawClause", "(I)I"⟩
def dkwX2_lawClause_1 : List UInt8 := [42, 180, 0, 144, 79, 28, 172]
abbrev dktX2_lawClause_1 : List UInt8 := dkwX2_lawClause_1 ++ []
def dkwX2_lawClause_0 : List UInt8 := [42, 180, 0, 16, 27, 4, 96, 42, 180, 0, 144, 79, 42, 182, 0, 220, 61, 42, 180, 0, 16, 27, 5, 96]
abbrev dktX2_lawClause_0 : List UInt8 := dkwX2_lawClause_0 ++ dktX2_lawClause_1
theorem dksX2_lawClause_0 : cX2_lawClause.data.toList.drop 0 = dktX2_lawClause_0 := by decide +kernel
theorem dksX2_lawClause_1 : cX2_lawClause.data.toList.drop 24 = dktX2_lawClause_1 := dk_seg dksX2_lawClause_0 24 rfl rfl
theorem dX2_lawClause_0 : decode cX2_lawClause 0 = .ok (.aload_n 0, 1) := dk_42 (dk_at dksX2_lawClause_0 0 rfl rfl)
theorem dX2_lawClause_1 : decode cX2_lawClause 1 = .ok (.getfield 16, 3) := dk_180 0 16 (dk_at dksX2_lawClause_0 1 rfl rfl)
theorem dX2_lawClause_4 : decode cX2_lawClause 4 = .ok (.iload_n 1, 1) := dk_27 (dk_at dksX2_lawClause_0 4 rfl rfl)
theorem dX2_lawClause_5 : decode cX2_lawClause 5 = .ok (.iconst 1, 1) := dk_4 (dk_at dksX2_lawClause_0 5 rfl rfl)
theorem dX2_lawClause_6 : decode cX2_lawClause 6 = .ok (.iadd, 1) := dk_96 (dk_at dksX2_lawClause_0 6 rfl rfl)
theorem dX2_lawClause_7 : decode cX2_lawClause 7 = .ok (.aload_n 0, 1) := dk_42 (dk_at dksX2_lawClause_0 7 rfl rfl)
theorem dX2_lawClause_8 : decode cX2_lawClause 8 = .ok (.getfield 144, 3) := dk_180 0 144 (dk_at dksX2_lawClause_0 8 rfl rfl)
theorem dX2_lawClause_11 : decode cX2_lawClause 11 = .ok (.iastore, 1) := dk_79 (dk_at dksX2_lawClause_0 11 rfl rfl)
theorem dX2_lawClause_12 : decode cX2_lawClause 12 = .ok (.aload_n 0, 1) := dk_42 (dk_at dksX2_lawClause_0 12 rfl rfl)
theorem dX2_lawClause_13 : decode cX2_lawClause 13 = .ok (.invokevirtual 220, 3) := dk_182 0 220 (dk_at dksX2_lawClause_0 13 rfl rfl)
theorem dX2_lawClause_16 : decode cX2_lawClause 16 = .ok (.istore_n 2, 1) := dk_61 (dk_at dksX2_lawClause_0 16 rfl rfl)
theorem dX2_lawClause_17 : decode cX2_lawClause 17 = .ok (.aload_n 0, 1) := dk_42 (dk_at dksX2_lawClause_0 17 rfl rfl)
theorem dX2_lawClause_18 : decode cX2_lawClause 18 = .ok (.getfield 16, 3) := dk_180 0 16 (dk_at dksX2_lawClause_0 18 rfl rfl)
theorem dX2_lawClause_21 : decode cX2_lawClause 21 = .ok (.iload_n 1, 1) := dk_27 (dk_at dksX2_lawClause_0 21 rfl rfl)
theorem dX2_lawClause_22 : decode cX2_lawClause 22 = .ok (.iconst 2, 1) := dk_5 (dk_at dksX2_lawClause_0 22 rfl rfl)
theorem dX2_lawClause_23 : decode cX2_lawClause 23 = .ok (.iadd, 1) := dk_96 (dk_at dksX2_lawClause_0 23 rfl rfl)
theorem dX2_lawClause_24 : decode cX2_lawClause 24 = .ok (.aload_n 0, 1) := dk_42 (dk_at dksX2_lawClause_1 0 rfl rfl)
theorem dX2_lawClause_25 : decode cX2_lawClause 25 = .ok (.getfield 144, 3) := dk_180 0 144 (dk_at dksX2_lawClause_1 1 rfl rfl)
theorem dX2_lawClause_28 : decode cX2_lawClause 28 = .ok (.iastore, 1) := dk_79 (dk_at dksX2_lawClause_1 4 rfl rfl)
theorem dX2_lawClause_29 : decode cX2_lawClause 29 = .ok (.iload_n 2, 1) := dk_28 (dk_at dksX2_lawClause_1 5 rfl rfl)
theorem dX2_lawClause_30 : decode cX2_lawClause 30 = .ok (.ireturn, 1) := dk_172 (dk_at dksX2_lawClause_1 6 rfl rfl)
abbrev cX2_summed : ByteArray := prog_21_method_46_code
def yX2_summed : MethodName := ⟨RX2, "summed", "()I"⟩
def dkwX2_summed_2 : List UInt8 := [172, 42, 182, 0, 213, 60, 27, 153, 0, 5, 27, 172, 167, 255, 212]
abbrev dktX2_summed_2 : List UInt8 := dkwX2_summed_2 ++ []
def dkwX2_summed_1 : List UInt8 := [182, 0, 210, 153, 0, 6, 167, 255, 242, 42, 182, 0, 170, 155, 0, 5, 4, 172, 42, 4, 182, 0, 185, 3]
abbrev dktX2_summed_1 : List UInt8 := dkwX2_summed_1 ++ dktX2_summed_2
def dkwX2_summed_0 : List UInt8 := [42, 3, 181, 0, 154, 42, 3, 181, 0, 164, 42, 3, 181, 0, 182, 42, 180, 0, 182, 153, 0, 29, 42]
abbrev dktX2_summed_0 : List UInt8 := dkwX2_summed_0 ++ dktX2_summed_1
theorem dksX2_summed_0 : cX2_summed.data.toList.drop 0 = dktX2_summed_0 := by decide +kernel
theorem dksX2_summed_1 : cX2_summed.data.toList.drop 23 = dktX2_summed_1 := dk_seg dksX2_summed_0 23 rfl rfl
theorem dksX2_summed_2 : cX2_summed.data.toList.drop 47 = dktX2_summed_2 := dk_seg dksX2_summed_1 24 rfl rfl
theorem dX2_summed_0 : decode cX2_summed 0 = .ok (.aload_n 0, 1) := dk_42 (dk_at dksX2_summed_0 0 rfl rfl)
theorem dX2_summed_1 : decode cX2_summed 1 = .ok (.iconst 0, 1) := dk_3 (dk_at dksX2_summed_0 1 rfl rfl)
theorem dX2_summed_2 : decode cX2_summed 2 = .ok (.putfield 154, 3) := dk_181 0 154 (dk_at dksX2_summed_0 2 rfl rfl)
theorem dX2_summed_5 : decode cX2_summed 5 = .ok (.aload_n 0, 1) := dk_42 (dk_at dksX2_summed_0 5 rfl rfl)
theorem dX2_summed_6 : decode cX2_summed 6 = .ok (.iconst 0, 1) := dk_3 (dk_at dksX2_summed_0 6 rfl rfl)
theorem dX2_summed_7 : decode cX2_summed 7 = .ok (.putfield 164, 3) := dk_181 0 164 (dk_at dksX2_summed_0 7 rfl rfl)
theorem dX2_summed_10 : decode cX2_summed 10 = .ok (.aload_n 0, 1) := dk_42 (dk_at dksX2_summed_0 10 rfl rfl)
theorem dX2_summed_11 : decode cX2_summed 11 = .ok (.iconst 0, 1) := dk_3 (dk_at dksX2_summed_0 11 rfl rfl)
theorem dX2_summed_12 : decode cX2_summed 12 = .ok (.putfield 182, 3) := dk_181 0 182 (dk_at dksX2_summed_0 12 rfl rfl)
theorem dX2_summed_15 : decode cX2_summed 15 = .ok (.aload_n 0, 1) := dk_42 (dk_at dksX2_summed_0 15 rfl rfl)
theorem dX2_summed_16 : decode cX2_summed 16 = .ok (.getfield 182, 3) := dk_180 0 182 (dk_at dksX2_summed_0 16 rfl rfl)
theorem dX2_summed_19 : decode cX2_summed 19 = .ok (.ifCond .eq 29, 3) := dk_153 0 29 (dk_at dksX2_summed_0 19 rfl rfl)
theorem dX2_summed_22 : decode cX2_summed 22 = .ok (.aload_n 0, 1) := dk_42 (dk_at dksX2_summed_0 22 rfl rfl)
theorem dX2_summed_23 : decode cX2_summed 23 = .ok (.invokevirtual 210, 3) := dk_182 0 210 (dk_at dksX2_summed_1 0 rfl rfl)
theorem dX2_summed_26 : decode cX2_summed 26 = .ok (.ifCond .eq 6, 3) := dk_153 0 6 (dk_at dksX2_summed_1 3 rfl rfl)
theorem dX2_summed_29 : decode cX2_summed 29 = .ok (.goto (-14), 3) := dk_167 255 242 (dk_at dksX2_summed_1 6 rfl rfl)
theorem dX2_summed_32 : decode cX2_summed 32 = .ok (.aload_n 0, 1) := dk_42 (dk_at dksX2_summed_1 9 rfl rfl)
theorem dX2_summed_33 : decode cX2_summed 33 = .ok (.invokevirtual 170, 3) := dk_182 0 170 (dk_at dksX2_summed_1 10 rfl rfl)
theorem dX2_summed_36 : decode cX2_summed 36 = .ok (.ifCond .lt 5, 3) := dk_155 0 5 (dk_at dksX2_summed_1 13 rfl rfl)
theorem dX2_summed_39 : decode cX2_summed 39 = .ok (.iconst 1, 1) := dk_4 (dk_at dksX2_summed_1 16 rfl rfl)
theorem dX2_summed_40 : decode cX2_summed 40 = .ok (.ireturn, 1) := dk_172 (dk_at dksX2_summed_1 17 rfl rfl)
theorem dX2_summed_41 : decode cX2_summed 41 = .ok (.aload_n 0, 1) := dk_42 (dk_at dksX2_summed_1 18 rfl rfl)
theorem dX2_summed_42 : decode cX2_summed 42 = .ok (.iconst 1, 1) := dk_4 (dk_at dksX2_summed_1 19 rfl rfl)
theorem dX2_summed_43 : decode cX2_summed 43 = .ok (.invokevirtual 185, 3) := dk_182 0 185 (dk_at dksX2_summed_1 20 rfl rfl)
theorem dX2_summed_46 : decode cX2_summed 46 = .ok (.iconst 0, 1) := dk_3 (dk_at dksX2_summed_1 23 rfl rfl)
theorem dX2_summed_47 : decode cX2_summed 47 = .ok (.ireturn, 1) := dk_172 (dk_at dksX2_summed_2 0 rfl rfl)
theorem dX2_summed_48 : decode cX2_summed 48 = .ok (.aload_n 0, 1) := dk_42 (dk_at dksX2_summed_2 1 rfl rfl)
theorem dX2_summed_49 : decode cX2_summed 49 = .ok (.invokevirtual 213, 3) := dk_182 0 213 (dk_at dksX2_summed_2 2 rfl rfl)
theorem dX2_summed_52 : decode cX2_summed 52 = .ok (.istore_n 1, 1) := dk_60 (dk_at dksX2_summed_2 5 rfl rfl)
theorem dX2_summed_53 : decode cX2_summed 53 = .ok (.iload_n 1, 1) := dk_27 (dk_at dksX2_summed_2 6 rfl rfl)
theorem dX2_summed_54 : decode cX2_summed 54 = .ok (.ifCond .eq 5, 3) := dk_153 0 5 (dk_at dksX2_summed_2 7 rfl rfl)
theorem dX2_summed_57 : decode cX2_summed 57 = .ok (.iload_n 1, 1) := dk_27 (dk_at dksX2_summed_2 10 rfl rfl)
theorem dX2_summed_58 : decode cX2_summed 58 = .ok (.ireturn, 1) := dk_172 (dk_at dksX2_summed_2 11 rfl rfl)
theorem dX2_summed_59 : decode cX2_summed 59 = .ok (.goto (-44), 3) := dk_167 255 212 (dk_at dksX2_summed_2 12 rfl rfl)
abbrev cX2_behindOne : ByteArray := prog_21_method_45_code
def yX2_behindOne : MethodName := ⟨RX2, "behindOne", "()Z"⟩
def dkwX2_behindOne_6 : List UInt8 := [182, 0, 185, 4, 172]
abbrev dktX2_behindOne_6 : List UInt8 := dkwX2_behindOne_6 ++ []
def dkwX2_behindOne_5 : List UInt8 := [89, 180, 0, 154, 4, 100, 181, 0, 154, 28, 16, 43, 160, 0, 9, 42, 6, 3, 182, 0, 160, 42, 16, 7]
abbrev dktX2_behindOne_5 : List UInt8 := dkwX2_behindOne_5 ++ dktX2_behindOne_6
def dkwX2_behindOne_4 : List UInt8 := [42, 182, 0, 167, 29, 79, 42, 3, 181, 0, 182, 4, 172, 42, 89, 180, 0, 164, 4, 100, 181, 0, 164, 42]
abbrev dktX2_behindOne_4 : List UInt8 := dkwX2_behindOne_4 ++ dktX2_behindOne_5
def dkwX2_behindOne_3 : List UInt8 := [62, 29, 156, 0, 5, 3, 172, 42, 4, 182, 0, 185, 42, 182, 0, 173, 29, 158, 0, 20, 42, 180, 0, 29]
abbrev dktX2_behindOne_3 : List UInt8 := dkwX2_behindOne_3 ++ dktX2_behindOne_4
def dkwX2_behindOne_2 : List UInt8 := [181, 0, 154, 42, 3, 181, 0, 182, 42, 182, 0, 173, 4, 172, 42, 182, 0, 170, 61, 42, 28, 182, 0, 207]
abbrev dktX2_behindOne_2 : List UInt8 := dkwX2_behindOne_2 ++ dktX2_behindOne_3
def dkwX2_behindOne_1 : List UInt8 := [184, 0, 157, 182, 0, 185, 42, 180, 0, 29, 42, 180, 0, 154, 27, 79, 42, 89, 180, 0, 154, 4, 96]
abbrev dktX2_behindOne_1 : List UInt8 := dkwX2_behindOne_1 ++ dktX2_behindOne_2
def dkwX2_behindOne_0 : List UInt8 := [42, 182, 0, 204, 60, 27, 155, 0, 54, 42, 27, 184, 0, 157, 7, 160, 0, 7, 8, 167, 0, 7, 27]
abbrev dktX2_behindOne_0 : List UInt8 := dkwX2_behindOne_0 ++ dktX2_behindOne_1
theorem dksX2_behindOne_0 : cX2_behindOne.data.toList.drop 0 = dktX2_behindOne_0 := by decide +kernel
theorem dksX2_behindOne_1 : cX2_behindOne.data.toList.drop 23 = dktX2_behindOne_1 := dk_seg dksX2_behindOne_0 23 rfl rfl
theorem dksX2_behindOne_2 : cX2_behindOne.data.toList.drop 46 = dktX2_behindOne_2 := dk_seg dksX2_behindOne_1 23 rfl rfl
theorem dksX2_behindOne_3 : cX2_behindOne.data.toList.drop 70 = dktX2_behindOne_3 := dk_seg dksX2_behindOne_2 24 rfl rfl
theorem dksX2_behindOne_4 : cX2_behindOne.data.toList.drop 94 = dktX2_behindOne_4 := dk_seg dksX2_behindOne_3 24 rfl rfl
theorem dksX2_behindOne_5 : cX2_behindOne.data.toList.drop 118 = dktX2_behindOne_5 := dk_seg dksX2_behindOne_4 24 rfl rfl
theorem dksX2_behindOne_6 : cX2_behindOne.data.toList.drop 142 = dktX2_behindOne_6 := dk_seg dksX2_behindOne_5 24 rfl rfl
theorem dX2_behindOne_0 : decode cX2_behindOne 0 = .ok (.aload_n 0, 1) := dk_42 (dk_at dksX2_behindOne_0 0 rfl rfl)
theorem dX2_behindOne_1 : decode cX2_behindOne 1 = .ok (.invokevirtual 204, 3) := dk_182 0 204 (dk_at dksX2_behindOne_0 1 rfl rfl)
theorem dX2_behindOne_4 : decode cX2_behindOne 4 = .ok (.istore_n 1, 1) := dk_60 (dk_at dksX2_behindOne_0 4 rfl rfl)
theorem dX2_behindOne_5 : decode cX2_behindOne 5 = .ok (.iload_n 1, 1) := dk_27 (dk_at dksX2_behindOne_0 5 rfl rfl)
theorem dX2_behindOne_6 : decode cX2_behindOne 6 = .ok (.ifCond .lt 54, 3) := dk_155 0 54 (dk_at dksX2_behindOne_0 6 rfl rfl)
theorem dX2_behindOne_9 : decode cX2_behindOne 9 = .ok (.aload_n 0, 1) := dk_42 (dk_at dksX2_behindOne_0 9 rfl rfl)
theorem dX2_behindOne_10 : decode cX2_behindOne 10 = .ok (.iload_n 1, 1) := dk_27 (dk_at dksX2_behindOne_0 10 rfl rfl)
theorem dX2_behindOne_11 : decode cX2_behindOne 11 = .ok (.invokestatic 157, 3) := dk_184 0 157 (dk_at dksX2_behindOne_0 11 rfl rfl)
theorem dX2_behindOne_14 : decode cX2_behindOne 14 = .ok (.iconst 4, 1) := dk_7 (dk_at dksX2_behindOne_0 14 rfl rfl)
theorem dX2_behindOne_15 : decode cX2_behindOne 15 = .ok (.if_icmp .ne 7, 3) := dk_160 0 7 (dk_at dksX2_behindOne_0 15 rfl rfl)
theorem dX2_behindOne_18 : decode cX2_behindOne 18 = .ok (.iconst 5, 1) := dk_8 (dk_at dksX2_behindOne_0 18 rfl rfl)
theorem dX2_behindOne_19 : decode cX2_behindOne 19 = .ok (.goto 7, 3) := dk_167 0 7 (dk_at dksX2_behindOne_0 19 rfl rfl)
theorem dX2_behindOne_22 : decode cX2_behindOne 22 = .ok (.iload_n 1, 1) := dk_27 (dk_at dksX2_behindOne_0 22 rfl rfl)
theorem dX2_behindOne_23 : decode cX2_behindOne 23 = .ok (.invokestatic 157, 3) := dk_184 0 157 (dk_at dksX2_behindOne_1 0 rfl rfl)
theorem dX2_behindOne_26 : decode cX2_behindOne 26 = .ok (.invokevirtual 185, 3) := dk_182 0 185 (dk_at dksX2_behindOne_1 3 rfl rfl)
theorem dX2_behindOne_29 : decode cX2_behindOne 29 = .ok (.aload_n 0, 1) := dk_42 (dk_at dksX2_behindOne_1 6 rfl rfl)
theorem dX2_behindOne_30 : decode cX2_behindOne 30 = .ok (.getfield 29, 3) := dk_180 0 29 (dk_at dksX2_behindOne_1 7 rfl rfl)
theorem dX2_behindOne_33 : decode cX2_behindOne 33 = .ok (.aload_n 0, 1) := dk_42 (dk_at dksX2_behindOne_1 10 rfl rfl)
theorem dX2_behindOne_34 : decode cX2_behindOne 34 = .ok (.getfield 154, 3) := dk_180 0 154 (dk_at dksX2_behindOne_1 11 rfl rfl)
theorem dX2_behindOne_37 : decode cX2_behindOne 37 = .ok (.iload_n 1, 1) := dk_27 (dk_at dksX2_behindOne_1 14 rfl rfl)
theorem dX2_behindOne_38 : decode cX2_behindOne 38 = .ok (.iastore, 1) := dk_79 (dk_at dksX2_behindOne_1 15 rfl rfl)
theorem dX2_behindOne_39 : decode cX2_behindOne 39 = .ok (.aload_n 0, 1) := dk_42 (dk_at dksX2_behindOne_1 16 rfl rfl)
theorem dX2_behindOne_40 : decode cX2_behindOne 40 = .ok (.dup, 1) := dk_89 (dk_at dksX2_behindOne_1 17 rfl rfl)
theorem dX2_behindOne_41 : decode cX2_behindOne 41 = .ok (.getfield 154, 3) := dk_180 0 154 (dk_at dksX2_behindOne_1 18 rfl rfl)
theorem dX2_behindOne_44 : decode cX2_behindOne 44 = .ok (.iconst 1, 1) := dk_4 (dk_at dksX2_behindOne_1 21 rfl rfl)
theorem dX2_behindOne_45 : decode cX2_behindOne 45 = .ok (.iadd, 1) := dk_96 (dk_at dksX2_behindOne_1 22 rfl rfl)
theorem dX2_behindOne_46 : decode cX2_behindOne 46 = .ok (.putfield 154, 3) := dk_181 0 154 (dk_at dksX2_behindOne_2 0 rfl rfl)
theorem dX2_behindOne_49 : decode cX2_behindOne 49 = .ok (.aload_n 0, 1) := dk_42 (dk_at dksX2_behindOne_2 3 rfl rfl)
theorem dX2_behindOne_50 : decode cX2_behindOne 50 = .ok (.iconst 0, 1) := dk_3 (dk_at dksX2_behindOne_2 4 rfl rfl)
theorem dX2_behindOne_51 : decode cX2_behindOne 51 = .ok (.putfield 182, 3) := dk_181 0 182 (dk_at dksX2_behindOne_2 5 rfl rfl)
theorem dX2_behindOne_54 : decode cX2_behindOne 54 = .ok (.aload_n 0, 1) := dk_42 (dk_at dksX2_behindOne_2 8 rfl rfl)
theorem dX2_behindOne_55 : decode cX2_behindOne 55 = .ok (.invokevirtual 173, 3) := dk_182 0 173 (dk_at dksX2_behindOne_2 9 rfl rfl)
theorem dX2_behindOne_58 : decode cX2_behindOne 58 = .ok (.iconst 1, 1) := dk_4 (dk_at dksX2_behindOne_2 12 rfl rfl)
theorem dX2_behindOne_59 : decode cX2_behindOne 59 = .ok (.ireturn, 1) := dk_172 (dk_at dksX2_behindOne_2 13 rfl rfl)
theorem dX2_behindOne_60 : decode cX2_behindOne 60 = .ok (.aload_n 0, 1) := dk_42 (dk_at dksX2_behindOne_2 14 rfl rfl)
theorem dX2_behindOne_61 : decode cX2_behindOne 61 = .ok (.invokevirtual 170, 3) := dk_182 0 170 (dk_at dksX2_behindOne_2 15 rfl rfl)
theorem dX2_behindOne_64 : decode cX2_behindOne 64 = .ok (.istore_n 2, 1) := dk_61 (dk_at dksX2_behindOne_2 18 rfl rfl)
theorem dX2_behindOne_65 : decode cX2_behindOne 65 = .ok (.aload_n 0, 1) := dk_42 (dk_at dksX2_behindOne_2 19 rfl rfl)
theorem dX2_behindOne_66 : decode cX2_behindOne 66 = .ok (.iload_n 2, 1) := dk_28 (dk_at dksX2_behindOne_2 20 rfl rfl)
theorem dX2_behindOne_67 : decode cX2_behindOne 67 = .ok (.invokevirtual 207, 3) := dk_182 0 207 (dk_at dksX2_behindOne_2 21 rfl rfl)
theorem dX2_behindOne_70 : decode cX2_behindOne 70 = .ok (.istore_n 3, 1) := dk_62 (dk_at dksX2_behindOne_3 0 rfl rfl)
theorem dX2_behindOne_71 : decode cX2_behindOne 71 = .ok (.iload_n 3, 1) := dk_29 (dk_at dksX2_behindOne_3 1 rfl rfl)
theorem dX2_behindOne_72 : decode cX2_behindOne 72 = .ok (.ifCond .ge 5, 3) := dk_156 0 5 (dk_at dksX2_behindOne_3 2 rfl rfl)
theorem dX2_behindOne_75 : decode cX2_behindOne 75 = .ok (.iconst 0, 1) := dk_3 (dk_at dksX2_behindOne_3 5 rfl rfl)
theorem dX2_behindOne_76 : decode cX2_behindOne 76 = .ok (.ireturn, 1) := dk_172 (dk_at dksX2_behindOne_3 6 rfl rfl)
theorem dX2_behindOne_77 : decode cX2_behindOne 77 = .ok (.aload_n 0, 1) := dk_42 (dk_at dksX2_behindOne_3 7 rfl rfl)
theorem dX2_behindOne_78 : decode cX2_behindOne 78 = .ok (.iconst 1, 1) := dk_4 (dk_at dksX2_behindOne_3 8 rfl rfl)
theorem dX2_behindOne_79 : decode cX2_behindOne 79 = .ok (.invokevirtual 185, 3) := dk_182 0 185 (dk_at dksX2_behindOne_3 9 rfl rfl)
theorem dX2_behindOne_82 : decode cX2_behindOne 82 = .ok (.aload_n 0, 1) := dk_42 (dk_at dksX2_behindOne_3 12 rfl rfl)
theorem dX2_behindOne_83 : decode cX2_behindOne 83 = .ok (.invokevirtual 173, 3) := dk_182 0 173 (dk_at dksX2_behindOne_3 13 rfl rfl)
theorem dX2_behindOne_86 : decode cX2_behindOne 86 = .ok (.iload_n 3, 1) := dk_29 (dk_at dksX2_behindOne_3 16 rfl rfl)
theorem dX2_behindOne_87 : decode cX2_behindOne 87 = .ok (.ifCond .le 20, 3) := dk_158 0 20 (dk_at dksX2_behindOne_3 17 rfl rfl)
theorem dX2_behindOne_90 : decode cX2_behindOne 90 = .ok (.aload_n 0, 1) := dk_42 (dk_at dksX2_behindOne_3 20 rfl rfl)
theorem dX2_behindOne_91 : decode cX2_behindOne 91 = .ok (.getfield 29, 3) := dk_180 0 29 (dk_at dksX2_behindOne_3 21 rfl rfl)
theorem dX2_behindOne_94 : decode cX2_behindOne 94 = .ok (.aload_n 0, 1) := dk_42 (dk_at dksX2_behindOne_4 0 rfl rfl)
theorem dX2_behindOne_95 : decode cX2_behindOne 95 = .ok (.invokevirtual 167, 3) := dk_182 0 167 (dk_at dksX2_behindOne_4 1 rfl rfl)
theorem dX2_behindOne_98 : decode cX2_behindOne 98 = .ok (.iload_n 3, 1) := dk_29 (dk_at dksX2_behindOne_4 4 rfl rfl)
theorem dX2_behindOne_99 : decode cX2_behindOne 99 = .ok (.iastore, 1) := dk_79 (dk_at dksX2_behindOne_4 5 rfl rfl)
theorem dX2_behindOne_100 : decode cX2_behindOne 100 = .ok (.aload_n 0, 1) := dk_42 (dk_at dksX2_behindOne_4 6 rfl rfl)
theorem dX2_behindOne_101 : decode cX2_behindOne 101 = .ok (.iconst 0, 1) := dk_3 (dk_at dksX2_behindOne_4 7 rfl rfl)
theorem dX2_behindOne_102 : decode cX2_behindOne 102 = .ok (.putfield 182, 3) := dk_181 0 182 (dk_at dksX2_behindOne_4 8 rfl rfl)
theorem dX2_behindOne_105 : decode cX2_behindOne 105 = .ok (.iconst 1, 1) := dk_4 (dk_at dksX2_behindOne_4 11 rfl rfl)
theorem dX2_behindOne_106 : decode cX2_behindOne 106 = .ok (.ireturn, 1) := dk_172 (dk_at dksX2_behindOne_4 12 rfl rfl)
theorem dX2_behindOne_107 : decode cX2_behindOne 107 = .ok (.aload_n 0, 1) := dk_42 (dk_at dksX2_behindOne_4 13 rfl rfl)
theorem dX2_behindOne_108 : decode cX2_behindOne 108 = .ok (.dup, 1) := dk_89 (dk_at dksX2_behindOne_4 14 rfl rfl)
theorem dX2_behindOne_109 : decode cX2_behindOne 109 = .ok (.getfield 164, 3) := dk_180 0 164 (dk_at dksX2_behindOne_4 15 rfl rfl)
theorem dX2_behindOne_112 : decode cX2_behindOne 112 = .ok (.iconst 1, 1) := dk_4 (dk_at dksX2_behindOne_4 18 rfl rfl)
theorem dX2_behindOne_113 : decode cX2_behindOne 113 = .ok (.isub, 1) := dk_100 (dk_at dksX2_behindOne_4 19 rfl rfl)
theorem dX2_behindOne_114 : decode cX2_behindOne 114 = .ok (.putfield 164, 3) := dk_181 0 164 (dk_at dksX2_behindOne_4 20 rfl rfl)
theorem dX2_behindOne_117 : decode cX2_behindOne 117 = .ok (.aload_n 0, 1) := dk_42 (dk_at dksX2_behindOne_4 23 rfl rfl)
theorem dX2_behindOne_118 : decode cX2_behindOne 118 = .ok (.dup, 1) := dk_89 (dk_at dksX2_behindOne_5 0 rfl rfl)
theorem dX2_behindOne_119 : decode cX2_behindOne 119 = .ok (.getfield 154, 3) := dk_180 0 154 (dk_at dksX2_behindOne_5 1 rfl rfl)
theorem dX2_behindOne_122 : decode cX2_behindOne 122 = .ok (.iconst 1, 1) := dk_4 (dk_at dksX2_behindOne_5 4 rfl rfl)
theorem dX2_behindOne_123 : decode cX2_behindOne 123 = .ok (.isub, 1) := dk_100 (dk_at dksX2_behindOne_5 5 rfl rfl)
theorem dX2_behindOne_124 : decode cX2_behindOne 124 = .ok (.putfield 154, 3) := dk_181 0 154 (dk_at dksX2_behindOne_5 6 rfl rfl)
theorem dX2_behindOne_127 : decode cX2_behindOne 127 = .ok (.iload_n 2, 1) := dk_28 (dk_at dksX2_behindOne_5 9 rfl rfl)
theorem dX2_behindOne_128 : decode cX2_behindOne 128 = .ok (.bipush 43, 2) := dk_16 43 (dk_at dksX2_behindOne_5 10 rfl rfl)
theorem dX2_behindOne_130 : decode cX2_behindOne 130 = .ok (.if_icmp .ne 9, 3) := dk_160 0 9 (dk_at dksX2_behindOne_5 12 rfl rfl)
theorem dX2_behindOne_133 : decode cX2_behindOne 133 = .ok (.aload_n 0, 1) := dk_42 (dk_at dksX2_behindOne_5 15 rfl rfl)
theorem dX2_behindOne_134 : decode cX2_behindOne 134 = .ok (.iconst 3, 1) := dk_6 (dk_at dksX2_behindOne_5 16 rfl rfl)
theorem dX2_behindOne_135 : decode cX2_behindOne 135 = .ok (.iconst 0, 1) := dk_3 (dk_at dksX2_behindOne_5 17 rfl rfl)
theorem dX2_behindOne_136 : decode cX2_behindOne 136 = .ok (.invokevirtual 160, 3) := dk_182 0 160 (dk_at dksX2_behindOne_5 18 rfl rfl)
theorem dX2_behindOne_139 : decode cX2_behindOne 139 = .ok (.aload_n 0, 1) := dk_42 (dk_at dksX2_behindOne_5 21 rfl rfl)
theorem dX2_behindOne_140 : decode cX2_behindOne 140 = .ok (.bipush 7, 2) := dk_16 7 (dk_at dksX2_behindOne_5 22 rfl rfl)
theorem dX2_behindOne_142 : decode cX2_behindOne 142 = .ok (.invokevirtual 185, 3) := dk_182 0 185 (dk_at dksX2_behindOne_6 0 rfl rfl)
theorem dX2_behindOne_145 : decode cX2_behindOne 145 = .ok (.iconst 1, 1) := dk_4 (dk_at dksX2_behindOne_6 3 rfl rfl)
theorem dX2_behindOne_146 : decode cX2_behindOne 146 = .ok (.ireturn, 1) := dk_172 (dk_at dksX2_behindOne_6 4 rfl rfl)
abbrev cX2_betweenOf : ByteArray := prog_21_method_43_code
def yX2_betweenOf : MethodName := ⟨RX2, "betweenOf", "()I"⟩
def dkwX2_betweenOf_5 : List UInt8 := [184, 0, 129, 182, 0, 191, 153, 0, 8, 16, 23, 167, 0, 4, 2, 172]
abbrev dktX2_betweenOf_5 : List UInt8 := dkwX2_betweenOf_5 ++ []
def dkwX2_betweenOf_4 : List UInt8 := [16, 114, 184, 0, 125, 182, 0, 191, 153, 0, 8, 16, 22, 167, 0, 25, 42, 16, 120, 16, 111, 16, 114]
abbrev dktX2_betweenOf_4 : List UInt8 := dkwX2_betweenOf_4 ++ dktX2_betweenOf_5
def dkwX2_betweenOf_3 : List UInt8 := [16, 97, 16, 110, 16, 100, 184, 0, 129, 182, 0, 191, 153, 0, 8, 16, 21, 167, 0, 44, 42, 16, 111]
abbrev dktX2_betweenOf_3 : List UInt8 := dkwX2_betweenOf_3 ++ dktX2_betweenOf_4
def dkwX2_betweenOf_2 : List UInt8 := [42, 182, 0, 170, 16, 41, 159, 0, 5, 2, 172, 42, 182, 0, 198, 154, 0, 8, 42, 182, 0, 201, 172, 42]
abbrev dktX2_betweenOf_2 : List UInt8 := dkwX2_betweenOf_2 ++ dktX2_betweenOf_3
def dkwX2_betweenOf_1 : List UInt8 := [42, 180, 0, 102, 16, 42, 160, 0, 6, 16, 8, 172, 42, 180, 0, 102, 16, 47, 160, 0, 6, 16, 9, 172]
abbrev dktX2_betweenOf_1 : List UInt8 := dkwX2_betweenOf_1 ++ dktX2_betweenOf_2
def dkwX2_betweenOf_0 : List UInt8 := [42, 180, 0, 102, 16, 43, 160, 0, 6, 16, 6, 172, 42, 180, 0, 102, 16, 45, 160, 0, 6, 16, 7, 172]
abbrev dktX2_betweenOf_0 : List UInt8 := dkwX2_betweenOf_0 ++ dktX2_betweenOf_1
theorem dksX2_betweenOf_0 : cX2_betweenOf.data.toList.drop 0 = dktX2_betweenOf_0 := by decide +kernel
theorem dksX2_betweenOf_1 : cX2_betweenOf.data.toList.drop 24 = dktX2_betweenOf_1 := dk_seg dksX2_betweenOf_0 24 rfl rfl
theorem dksX2_betweenOf_2 : cX2_betweenOf.data.toList.drop 48 = dktX2_betweenOf_2 := dk_seg dksX2_betweenOf_1 24 rfl rfl
theorem dksX2_betweenOf_3 : cX2_betweenOf.data.toList.drop 72 = dktX2_betweenOf_3 := dk_seg dksX2_betweenOf_2 24 rfl rfl
theorem dksX2_betweenOf_4 : cX2_betweenOf.data.toList.drop 95 = dktX2_betweenOf_4 := dk_seg dksX2_betweenOf_3 23 rfl rfl
theorem dksX2_betweenOf_5 : cX2_betweenOf.data.toList.drop 118 = dktX2_betweenOf_5 := dk_seg dksX2_betweenOf_4 23 rfl rfl
theorem dX2_betweenOf_0 : decode cX2_betweenOf 0 = .ok (.aload_n 0, 1) := dk_42 (dk_at dksX2_betweenOf_0 0 rfl rfl)
theorem dX2_betweenOf_1 : decode cX2_betweenOf 1 = .ok (.getfield 102, 3) := dk_180 0 102 (dk_at dksX2_betweenOf_0 1 rfl rfl)
theorem dX2_betweenOf_4 : decode cX2_betweenOf 4 = .ok (.bipush 43, 2) := dk_16 43 (dk_at dksX2_betweenOf_0 4 rfl rfl)
theorem dX2_betweenOf_6 : decode cX2_betweenOf 6 = .ok (.if_icmp .ne 6, 3) := dk_160 0 6 (dk_at dksX2_betweenOf_0 6 rfl rfl)
theorem dX2_betweenOf_9 : decode cX2_betweenOf 9 = .ok (.bipush 6, 2) := dk_16 6 (dk_at dksX2_betweenOf_0 9 rfl rfl)
theorem dX2_betweenOf_11 : decode cX2_betweenOf 11 = .ok (.ireturn, 1) := dk_172 (dk_at dksX2_betweenOf_0 11 rfl rfl)
theorem dX2_betweenOf_12 : decode cX2_betweenOf 12 = .ok (.aload_n 0, 1) := dk_42 (dk_at dksX2_betweenOf_0 12 rfl rfl)
theorem dX2_betweenOf_13 : decode cX2_betweenOf 13 = .ok (.getfield 102, 3) := dk_180 0 102 (dk_at dksX2_betweenOf_0 13 rfl rfl)
theorem dX2_betweenOf_16 : decode cX2_betweenOf 16 = .ok (.bipush 45, 2) := dk_16 45 (dk_at dksX2_betweenOf_0 16 rfl rfl)
theorem dX2_betweenOf_18 : decode cX2_betweenOf 18 = .ok (.if_icmp .ne 6, 3) := dk_160 0 6 (dk_at dksX2_betweenOf_0 18 rfl rfl)
theorem dX2_betweenOf_21 : decode cX2_betweenOf 21 = .ok (.bipush 7, 2) := dk_16 7 (dk_at dksX2_betweenOf_0 21 rfl rfl)
theorem dX2_betweenOf_23 : decode cX2_betweenOf 23 = .ok (.ireturn, 1) := dk_172 (dk_at dksX2_betweenOf_0 23 rfl rfl)
theorem dX2_betweenOf_24 : decode cX2_betweenOf 24 = .ok (.aload_n 0, 1) := dk_42 (dk_at dksX2_betweenOf_1 0 rfl rfl)
theorem dX2_betweenOf_25 : decode cX2_betweenOf 25 = .ok (.getfield 102, 3) := dk_180 0 102 (dk_at dksX2_betweenOf_1 1 rfl rfl)
theorem dX2_betweenOf_28 : decode cX2_betweenOf 28 = .ok (.bipush 42, 2) := dk_16 42 (dk_at dksX2_betweenOf_1 4 rfl rfl)
theorem dX2_betweenOf_30 : decode cX2_betweenOf 30 = .ok (.if_icmp .ne 6, 3) := dk_160 0 6 (dk_at dksX2_betweenOf_1 6 rfl rfl)
theorem dX2_betweenOf_33 : decode cX2_betweenOf 33 = .ok (.bipush 8, 2) := dk_16 8 (dk_at dksX2_betweenOf_1 9 rfl rfl)
theorem dX2_betweenOf_35 : decode cX2_betweenOf 35 = .ok (.ireturn, 1) := dk_172 (dk_at dksX2_betweenOf_1 11 rfl rfl)
theorem dX2_betweenOf_36 : decode cX2_betweenOf 36 = .ok (.aload_n 0, 1) := dk_42 (dk_at dksX2_betweenOf_1 12 rfl rfl)
theorem dX2_betweenOf_37 : decode cX2_betweenOf 37 = .ok (.getfield 102, 3) := dk_180 0 102 (dk_at dksX2_betweenOf_1 13 rfl rfl)
theorem dX2_betweenOf_40 : decode cX2_betweenOf 40 = .ok (.bipush 47, 2) := dk_16 47 (dk_at dksX2_betweenOf_1 16 rfl rfl)
theorem dX2_betweenOf_42 : decode cX2_betweenOf 42 = .ok (.if_icmp .ne 6, 3) := dk_160 0 6 (dk_at dksX2_betweenOf_1 18 rfl rfl)
theorem dX2_betweenOf_45 : decode cX2_betweenOf 45 = .ok (.bipush 9, 2) := dk_16 9 (dk_at dksX2_betweenOf_1 21 rfl rfl)
theorem dX2_betweenOf_47 : decode cX2_betweenOf 47 = .ok (.ireturn, 1) := dk_172 (dk_at dksX2_betweenOf_1 23 rfl rfl)
theorem dX2_betweenOf_48 : decode cX2_betweenOf 48 = .ok (.aload_n 0, 1) := dk_42 (dk_at dksX2_betweenOf_2 0 rfl rfl)
theorem dX2_betweenOf_49 : decode cX2_betweenOf 49 = .ok (.invokevirtual 170, 3) := dk_182 0 170 (dk_at dksX2_betweenOf_2 1 rfl rfl)
theorem dX2_betweenOf_52 : decode cX2_betweenOf 52 = .ok (.bipush 41, 2) := dk_16 41 (dk_at dksX2_betweenOf_2 4 rfl rfl)
theorem dX2_betweenOf_54 : decode cX2_betweenOf 54 = .ok (.if_icmp .eq 5, 3) := dk_159 0 5 (dk_at dksX2_betweenOf_2 6 rfl rfl)
theorem dX2_betweenOf_57 : decode cX2_betweenOf 57 = .ok (.iconst (-1), 1) := dk_2 (dk_at dksX2_betweenOf_2 9 rfl rfl)
theorem dX2_betweenOf_58 : decode cX2_betweenOf 58 = .ok (.ireturn, 1) := dk_172 (dk_at dksX2_betweenOf_2 10 rfl rfl)
theorem dX2_betweenOf_59 : decode cX2_betweenOf 59 = .ok (.aload_n 0, 1) := dk_42 (dk_at dksX2_betweenOf_2 11 rfl rfl)
theorem dX2_betweenOf_60 : decode cX2_betweenOf 60 = .ok (.invokevirtual 198, 3) := dk_182 0 198 (dk_at dksX2_betweenOf_2 12 rfl rfl)
theorem dX2_betweenOf_63 : decode cX2_betweenOf 63 = .ok (.ifCond .ne 8, 3) := dk_154 0 8 (dk_at dksX2_betweenOf_2 15 rfl rfl)
theorem dX2_betweenOf_66 : decode cX2_betweenOf 66 = .ok (.aload_n 0, 1) := dk_42 (dk_at dksX2_betweenOf_2 18 rfl rfl)
theorem dX2_betweenOf_67 : decode cX2_betweenOf 67 = .ok (.invokevirtual 201, 3) := dk_182 0 201 (dk_at dksX2_betweenOf_2 19 rfl rfl)
theorem dX2_betweenOf_70 : decode cX2_betweenOf 70 = .ok (.ireturn, 1) := dk_172 (dk_at dksX2_betweenOf_2 22 rfl rfl)
theorem dX2_betweenOf_71 : decode cX2_betweenOf 71 = .ok (.aload_n 0, 1) := dk_42 (dk_at dksX2_betweenOf_2 23 rfl rfl)
theorem dX2_betweenOf_72 : decode cX2_betweenOf 72 = .ok (.bipush 97, 2) := dk_16 97 (dk_at dksX2_betweenOf_3 0 rfl rfl)
theorem dX2_betweenOf_74 : decode cX2_betweenOf 74 = .ok (.bipush 110, 2) := dk_16 110 (dk_at dksX2_betweenOf_3 2 rfl rfl)
theorem dX2_betweenOf_76 : decode cX2_betweenOf 76 = .ok (.bipush 100, 2) := dk_16 100 (dk_at dksX2_betweenOf_3 4 rfl rfl)
theorem dX2_betweenOf_78 : decode cX2_betweenOf 78 = .ok (.invokestatic 129, 3) := dk_184 0 129 (dk_at dksX2_betweenOf_3 6 rfl rfl)
theorem dX2_betweenOf_81 : decode cX2_betweenOf 81 = .ok (.invokevirtual 191, 3) := dk_182 0 191 (dk_at dksX2_betweenOf_3 9 rfl rfl)
theorem dX2_betweenOf_84 : decode cX2_betweenOf 84 = .ok (.ifCond .eq 8, 3) := dk_153 0 8 (dk_at dksX2_betweenOf_3 12 rfl rfl)
theorem dX2_betweenOf_87 : decode cX2_betweenOf 87 = .ok (.bipush 21, 2) := dk_16 21 (dk_at dksX2_betweenOf_3 15 rfl rfl)
theorem dX2_betweenOf_89 : decode cX2_betweenOf 89 = .ok (.goto 44, 3) := dk_167 0 44 (dk_at dksX2_betweenOf_3 17 rfl rfl)
theorem dX2_betweenOf_92 : decode cX2_betweenOf 92 = .ok (.aload_n 0, 1) := dk_42 (dk_at dksX2_betweenOf_3 20 rfl rfl)
theorem dX2_betweenOf_93 : decode cX2_betweenOf 93 = .ok (.bipush 111, 2) := dk_16 111 (dk_at dksX2_betweenOf_3 21 rfl rfl)
theorem dX2_betweenOf_95 : decode cX2_betweenOf 95 = .ok (.bipush 114, 2) := dk_16 114 (dk_at dksX2_betweenOf_4 0 rfl rfl)
theorem dX2_betweenOf_97 : decode cX2_betweenOf 97 = .ok (.invokestatic 125, 3) := dk_184 0 125 (dk_at dksX2_betweenOf_4 2 rfl rfl)
theorem dX2_betweenOf_100 : decode cX2_betweenOf 100 = .ok (.invokevirtual 191, 3) := dk_182 0 191 (dk_at dksX2_betweenOf_4 5 rfl rfl)
theorem dX2_betweenOf_103 : decode cX2_betweenOf 103 = .ok (.ifCond .eq 8, 3) := dk_153 0 8 (dk_at dksX2_betweenOf_4 8 rfl rfl)
theorem dX2_betweenOf_106 : decode cX2_betweenOf 106 = .ok (.bipush 22, 2) := dk_16 22 (dk_at dksX2_betweenOf_4 11 rfl rfl)
theorem dX2_betweenOf_108 : decode cX2_betweenOf 108 = .ok (.goto 25, 3) := dk_167 0 25 (dk_at dksX2_betweenOf_4 13 rfl rfl)
theorem dX2_betweenOf_111 : decode cX2_betweenOf 111 = .ok (.aload_n 0, 1) := dk_42 (dk_at dksX2_betweenOf_4 16 rfl rfl)
theorem dX2_betweenOf_112 : decode cX2_betweenOf 112 = .ok (.bipush 120, 2) := dk_16 120 (dk_at dksX2_betweenOf_4 17 rfl rfl)
theorem dX2_betweenOf_114 : decode cX2_betweenOf 114 = .ok (.bipush 111, 2) := dk_16 111 (dk_at dksX2_betweenOf_4 19 rfl rfl)
theorem dX2_betweenOf_116 : decode cX2_betweenOf 116 = .ok (.bipush 114, 2) := dk_16 114 (dk_at dksX2_betweenOf_4 21 rfl rfl)
theorem dX2_betweenOf_118 : decode cX2_betweenOf 118 = .ok (.invokestatic 129, 3) := dk_184 0 129 (dk_at dksX2_betweenOf_5 0 rfl rfl)
theorem dX2_betweenOf_121 : decode cX2_betweenOf 121 = .ok (.invokevirtual 191, 3) := dk_182 0 191 (dk_at dksX2_betweenOf_5 3 rfl rfl)
theorem dX2_betweenOf_124 : decode cX2_betweenOf 124 = .ok (.ifCond .eq 8, 3) := dk_153 0 8 (dk_at dksX2_betweenOf_5 6 rfl rfl)
theorem dX2_betweenOf_127 : decode cX2_betweenOf 127 = .ok (.bipush 23, 2) := dk_16 23 (dk_at dksX2_betweenOf_5 9 rfl rfl)
theorem dX2_betweenOf_129 : decode cX2_betweenOf 129 = .ok (.goto 4, 3) := dk_167 0 4 (dk_at dksX2_betweenOf_5 11 rfl rfl)
theorem dX2_betweenOf_132 : decode cX2_betweenOf 132 = .ok (.iconst (-1), 1) := dk_2 (dk_at dksX2_betweenOf_5 14 rfl rfl)
theorem dX2_betweenOf_133 : decode cX2_betweenOf 133 = .ok (.ireturn, 1) := dk_172 (dk_at dksX2_betweenOf_5 15 rfl rfl)
abbrev cX2_openNow : ByteArray := prog_21_method_37_code
def yX2_openNow : MethodName := ⟨RX2, "openNow", "()I"⟩
def dkwX2_openNow_0 : List UInt8 := [42, 182, 0, 167, 156, 0, 7, 2, 167, 0, 12, 42, 180, 0, 29, 42, 182, 0, 167, 46, 172]
abbrev dktX2_openNow_0 : List UInt8 := dkwX2_openNow_0 ++ []
theorem dksX2_openNow_0 : cX2_openNow.data.toList.drop 0 = dktX2_openNow_0 := by decide +kernel
theorem dX2_openNow_0 : decode cX2_openNow 0 = .ok (.aload_n 0, 1) := dk_42 (dk_at dksX2_openNow_0 0 rfl rfl)
theorem dX2_openNow_1 : decode cX2_openNow 1 = .ok (.invokevirtual 167, 3) := dk_182 0 167 (dk_at dksX2_openNow_0 1 rfl rfl)
theorem dX2_openNow_4 : decode cX2_openNow 4 = .ok (.ifCond .ge 7, 3) := dk_156 0 7 (dk_at dksX2_openNow_0 4 rfl rfl)
theorem dX2_openNow_7 : decode cX2_openNow 7 = .ok (.iconst (-1), 1) := dk_2 (dk_at dksX2_openNow_0 7 rfl rfl)
theorem dX2_openNow_8 : decode cX2_openNow 8 = .ok (.goto 12, 3) := dk_167 0 12 (dk_at dksX2_openNow_0 8 rfl rfl)
theorem dX2_openNow_11 : decode cX2_openNow 11 = .ok (.aload_n 0, 1) := dk_42 (dk_at dksX2_openNow_0 11 rfl rfl)
theorem dX2_openNow_12 : decode cX2_openNow 12 = .ok (.getfield 29, 3) := dk_180 0 29 (dk_at dksX2_openNow_0 12 rfl rfl)
theorem dX2_openNow_15 : decode cX2_openNow 15 = .ok (.aload_n 0, 1) := dk_42 (dk_at dksX2_openNow_0 15 rfl rfl)
theorem dX2_openNow_16 : decode cX2_openNow 16 = .ok (.invokevirtual 167, 3) := dk_182 0 167 (dk_at dksX2_openNow_0 16 rfl rfl)
theorem dX2_openNow_19 : decode cX2_openNow 19 = .ok (.iaload, 1) := dk_46 (dk_at dksX2_openNow_0 19 rfl rfl)
theorem dX2_openNow_20 : decode cX2_openNow 20 = .ok (.ireturn, 1) := dk_172 (dk_at dksX2_openNow_0 20 rfl rfl)
abbrev cX2_openAt : ByteArray := prog_21_method_36_code
def yX2_openAt : MethodName := ⟨RX2, "openAt", "()I"⟩
def dkwX2_openAt_1 : List UInt8 := [132, 1, 255, 167, 255, 238, 27, 172]
abbrev dktX2_openAt_1 : List UInt8 := dkwX2_openAt_1 ++ []
def dkwX2_openAt_0 : List UInt8 := [42, 180, 0, 154, 4, 100, 60, 27, 155, 0, 20, 42, 180, 0, 29, 27, 46, 16, 40, 162, 0, 9]
abbrev dktX2_openAt_0 : List UInt8 := dkwX2_openAt_0 ++ dktX2_openAt_1
theorem dksX2_openAt_0 : cX2_openAt.data.toList.drop 0 = dktX2_openAt_0 := by decide +kernel
theorem dksX2_openAt_1 : cX2_openAt.data.toList.drop 22 = dktX2_openAt_1 := dk_seg dksX2_openAt_0 22 rfl rfl
theorem dX2_openAt_0 : decode cX2_openAt 0 = .ok (.aload_n 0, 1) := dk_42 (dk_at dksX2_openAt_0 0 rfl rfl)
theorem dX2_openAt_1 : decode cX2_openAt 1 = .ok (.getfield 154, 3) := dk_180 0 154 (dk_at dksX2_openAt_0 1 rfl rfl)
theorem dX2_openAt_4 : decode cX2_openAt 4 = .ok (.iconst 1, 1) := dk_4 (dk_at dksX2_openAt_0 4 rfl rfl)
theorem dX2_openAt_5 : decode cX2_openAt 5 = .ok (.isub, 1) := dk_100 (dk_at dksX2_openAt_0 5 rfl rfl)
theorem dX2_openAt_6 : decode cX2_openAt 6 = .ok (.istore_n 1, 1) := dk_60 (dk_at dksX2_openAt_0 6 rfl rfl)
theorem dX2_openAt_7 : decode cX2_openAt 7 = .ok (.iload_n 1, 1) := dk_27 (dk_at dksX2_openAt_0 7 rfl rfl)
theorem dX2_openAt_8 : decode cX2_openAt 8 = .ok (.ifCond .lt 20, 3) := dk_155 0 20 (dk_at dksX2_openAt_0 8 rfl rfl)
theorem dX2_openAt_11 : decode cX2_openAt 11 = .ok (.aload_n 0, 1) := dk_42 (dk_at dksX2_openAt_0 11 rfl rfl)
theorem dX2_openAt_12 : decode cX2_openAt 12 = .ok (.getfield 29, 3) := dk_180 0 29 (dk_at dksX2_openAt_0 12 rfl rfl)
theorem dX2_openAt_15 : decode cX2_openAt 15 = .ok (.iload_n 1, 1) := dk_27 (dk_at dksX2_openAt_0 15 rfl rfl)
theorem dX2_openAt_16 : decode cX2_openAt 16 = .ok (.iaload, 1) := dk_46 (dk_at dksX2_openAt_0 16 rfl rfl)
theorem dX2_openAt_17 : decode cX2_openAt 17 = .ok (.bipush 40, 2) := dk_16 40 (dk_at dksX2_openAt_0 17 rfl rfl)
theorem dX2_openAt_19 : decode cX2_openAt 19 = .ok (.if_icmp .ge 9, 3) := dk_162 0 9 (dk_at dksX2_openAt_0 19 rfl rfl)
theorem dX2_openAt_22 : decode cX2_openAt 22 = .ok (.iinc 1 (-1), 3) := dk_132 1 255 (dk_at dksX2_openAt_1 0 rfl rfl)
theorem dX2_openAt_25 : decode cX2_openAt 25 = .ok (.goto (-18), 3) := dk_167 255 238 (dk_at dksX2_openAt_1 3 rfl rfl)
theorem dX2_openAt_28 : decode cX2_openAt 28 = .ok (.iload_n 1, 1) := dk_27 (dk_at dksX2_openAt_1 6 rfl rfl)
theorem dX2_openAt_29 : decode cX2_openAt 29 = .ok (.ireturn, 1) := dk_172 (dk_at dksX2_openAt_1 7 rfl rfl)
abbrev cX2_isCompared : ByteArray := prog_21_method_38_code
def yX2_isCompared : MethodName := ⟨RX2, "isCompared", "()Z"⟩
def dkwX2_isCompared_2 : List UInt8 := [167, 0, 4, 3, 172]
abbrev dktX2_isCompared_2 : List UInt8 := dkwX2_isCompared_2 ++ []
def dkwX2_isCompared_1 : List UInt8 := [132, 1, 255, 167, 255, 236, 27, 155, 0, 20, 42, 180, 0, 29, 27, 46, 184, 0, 157, 7, 160, 0, 7, 4]
abbrev dktX2_isCompared_1 : List UInt8 := dkwX2_isCompared_1 ++ dktX2_isCompared_2
def dkwX2_isCompared_0 : List UInt8 := [42, 180, 0, 154, 4, 100, 60, 27, 155, 0, 22, 42, 180, 0, 29, 27, 46, 184, 0, 157, 7, 164, 0, 9]
abbrev dktX2_isCompared_0 : List UInt8 := dkwX2_isCompared_0 ++ dktX2_isCompared_1
theorem dksX2_isCompared_0 : cX2_isCompared.data.toList.drop 0 = dktX2_isCompared_0 := by decide +kernel
theorem dksX2_isCompared_1 : cX2_isCompared.data.toList.drop 24 = dktX2_isCompared_1 := dk_seg dksX2_isCompared_0 24 rfl rfl
theorem dksX2_isCompared_2 : cX2_isCompared.data.toList.drop 48 = dktX2_isCompared_2 := dk_seg dksX2_isCompared_1 24 rfl rfl
theorem dX2_isCompared_0 : decode cX2_isCompared 0 = .ok (.aload_n 0, 1) := dk_42 (dk_at dksX2_isCompared_0 0 rfl rfl)
theorem dX2_isCompared_1 : decode cX2_isCompared 1 = .ok (.getfield 154, 3) := dk_180 0 154 (dk_at dksX2_isCompared_0 1 rfl rfl)
theorem dX2_isCompared_4 : decode cX2_isCompared 4 = .ok (.iconst 1, 1) := dk_4 (dk_at dksX2_isCompared_0 4 rfl rfl)
theorem dX2_isCompared_5 : decode cX2_isCompared 5 = .ok (.isub, 1) := dk_100 (dk_at dksX2_isCompared_0 5 rfl rfl)
theorem dX2_isCompared_6 : decode cX2_isCompared 6 = .ok (.istore_n 1, 1) := dk_60 (dk_at dksX2_isCompared_0 6 rfl rfl)
theorem dX2_isCompared_7 : decode cX2_isCompared 7 = .ok (.iload_n 1, 1) := dk_27 (dk_at dksX2_isCompared_0 7 rfl rfl)
theorem dX2_isCompared_8 : decode cX2_isCompared 8 = .ok (.ifCond .lt 22, 3) := dk_155 0 22 (dk_at dksX2_isCompared_0 8 rfl rfl)
theorem dX2_isCompared_11 : decode cX2_isCompared 11 = .ok (.aload_n 0, 1) := dk_42 (dk_at dksX2_isCompared_0 11 rfl rfl)
theorem dX2_isCompared_12 : decode cX2_isCompared 12 = .ok (.getfield 29, 3) := dk_180 0 29 (dk_at dksX2_isCompared_0 12 rfl rfl)
theorem dX2_isCompared_15 : decode cX2_isCompared 15 = .ok (.iload_n 1, 1) := dk_27 (dk_at dksX2_isCompared_0 15 rfl rfl)
theorem dX2_isCompared_16 : decode cX2_isCompared 16 = .ok (.iaload, 1) := dk_46 (dk_at dksX2_isCompared_0 16 rfl rfl)
theorem dX2_isCompared_17 : decode cX2_isCompared 17 = .ok (.invokestatic 157, 3) := dk_184 0 157 (dk_at dksX2_isCompared_0 17 rfl rfl)
theorem dX2_isCompared_20 : decode cX2_isCompared 20 = .ok (.iconst 4, 1) := dk_7 (dk_at dksX2_isCompared_0 20 rfl rfl)
theorem dX2_isCompared_21 : decode cX2_isCompared 21 = .ok (.if_icmp .le 9, 3) := dk_164 0 9 (dk_at dksX2_isCompared_0 21 rfl rfl)
theorem dX2_isCompared_24 : decode cX2_isCompared 24 = .ok (.iinc 1 (-1), 3) := dk_132 1 255 (dk_at dksX2_isCompared_1 0 rfl rfl)
theorem dX2_isCompared_27 : decode cX2_isCompared 27 = .ok (.goto (-20), 3) := dk_167 255 236 (dk_at dksX2_isCompared_1 3 rfl rfl)
theorem dX2_isCompared_30 : decode cX2_isCompared 30 = .ok (.iload_n 1, 1) := dk_27 (dk_at dksX2_isCompared_1 6 rfl rfl)
theorem dX2_isCompared_31 : decode cX2_isCompared 31 = .ok (.ifCond .lt 20, 3) := dk_155 0 20 (dk_at dksX2_isCompared_1 7 rfl rfl)
theorem dX2_isCompared_34 : decode cX2_isCompared 34 = .ok (.aload_n 0, 1) := dk_42 (dk_at dksX2_isCompared_1 10 rfl rfl)
theorem dX2_isCompared_35 : decode cX2_isCompared 35 = .ok (.getfield 29, 3) := dk_180 0 29 (dk_at dksX2_isCompared_1 11 rfl rfl)
theorem dX2_isCompared_38 : decode cX2_isCompared 38 = .ok (.iload_n 1, 1) := dk_27 (dk_at dksX2_isCompared_1 14 rfl rfl)
theorem dX2_isCompared_39 : decode cX2_isCompared 39 = .ok (.iaload, 1) := dk_46 (dk_at dksX2_isCompared_1 15 rfl rfl)
theorem dX2_isCompared_40 : decode cX2_isCompared 40 = .ok (.invokestatic 157, 3) := dk_184 0 157 (dk_at dksX2_isCompared_1 16 rfl rfl)
theorem dX2_isCompared_43 : decode cX2_isCompared 43 = .ok (.iconst 4, 1) := dk_7 (dk_at dksX2_isCompared_1 19 rfl rfl)
theorem dX2_isCompared_44 : decode cX2_isCompared 44 = .ok (.if_icmp .ne 7, 3) := dk_160 0 7 (dk_at dksX2_isCompared_1 20 rfl rfl)
theorem dX2_isCompared_47 : decode cX2_isCompared 47 = .ok (.iconst 1, 1) := dk_4 (dk_at dksX2_isCompared_1 23 rfl rfl)
theorem dX2_isCompared_48 : decode cX2_isCompared 48 = .ok (.goto 4, 3) := dk_167 0 4 (dk_at dksX2_isCompared_2 0 rfl rfl)
theorem dX2_isCompared_51 : decode cX2_isCompared 51 = .ok (.iconst 0, 1) := dk_3 (dk_at dksX2_isCompared_2 3 rfl rfl)
theorem dX2_isCompared_52 : decode cX2_isCompared 52 = .ok (.ireturn, 1) := dk_172 (dk_at dksX2_isCompared_2 4 rfl rfl)
abbrev cX2_rank : ByteArray := prog_21_method_34_code
def yX2_rank : MethodName := ⟨RX2, "rank", "(I)I"⟩
def dkwX2_rank_3 : List UInt8 := [16, 6, 167, 0, 4, 8, 172]
abbrev dktX2_rank_3 : List UInt8 := dkwX2_rank_3 ++ []
def dkwX2_rank_2 : List UInt8 := [167, 0, 30, 26, 8, 159, 0, 8, 26, 5, 160, 0, 8, 16, 7, 167, 0, 15, 26, 16, 8, 161, 0, 8]
abbrev dktX2_rank_2 : List UInt8 := dkwX2_rank_2 ++ dktX2_rank_3
def dkwX2_rank_1 : List UInt8 := [160, 0, 7, 5, 167, 0, 50, 26, 16, 20, 160, 0, 7, 6, 167, 0, 40, 26, 16, 10, 161, 0, 7, 7]
abbrev dktX2_rank_1 : List UInt8 := dkwX2_rank_1 ++ dktX2_rank_2
def dkwX2_rank_0 : List UInt8 := [26, 16, 40, 161, 0, 7, 3, 167, 0, 70, 26, 16, 22, 161, 0, 7, 4, 167, 0, 60, 26, 16, 21]
abbrev dktX2_rank_0 : List UInt8 := dkwX2_rank_0 ++ dktX2_rank_1
theorem dksX2_rank_0 : cX2_rank.data.toList.drop 0 = dktX2_rank_0 := by decide +kernel
theorem dksX2_rank_1 : cX2_rank.data.toList.drop 23 = dktX2_rank_1 := dk_seg dksX2_rank_0 23 rfl rfl
theorem dksX2_rank_2 : cX2_rank.data.toList.drop 47 = dktX2_rank_2 := dk_seg dksX2_rank_1 24 rfl rfl
theorem dksX2_rank_3 : cX2_rank.data.toList.drop 71 = dktX2_rank_3 := dk_seg dksX2_rank_2 24 rfl rfl
theorem dX2_rank_0 : decode cX2_rank 0 = .ok (.iload_n 0, 1) := dk_26 (dk_at dksX2_rank_0 0 rfl rfl)
theorem dX2_rank_1 : decode cX2_rank 1 = .ok (.bipush 40, 2) := dk_16 40 (dk_at dksX2_rank_0 1 rfl rfl)
theorem dX2_rank_3 : decode cX2_rank 3 = .ok (.if_icmp .lt 7, 3) := dk_161 0 7 (dk_at dksX2_rank_0 3 rfl rfl)
theorem dX2_rank_6 : decode cX2_rank 6 = .ok (.iconst 0, 1) := dk_3 (dk_at dksX2_rank_0 6 rfl rfl)
theorem dX2_rank_7 : decode cX2_rank 7 = .ok (.goto 70, 3) := dk_167 0 70 (dk_at dksX2_rank_0 7 rfl rfl)
theorem dX2_rank_10 : decode cX2_rank 10 = .ok (.iload_n 0, 1) := dk_26 (dk_at dksX2_rank_0 10 rfl rfl)
theorem dX2_rank_11 : decode cX2_rank 11 = .ok (.bipush 22, 2) := dk_16 22 (dk_at dksX2_rank_0 11 rfl rfl)
theorem dX2_rank_13 : decode cX2_rank 13 = .ok (.if_icmp .lt 7, 3) := dk_161 0 7 (dk_at dksX2_rank_0 13 rfl rfl)
theorem dX2_rank_16 : decode cX2_rank 16 = .ok (.iconst 1, 1) := dk_4 (dk_at dksX2_rank_0 16 rfl rfl)
theorem dX2_rank_17 : decode cX2_rank 17 = .ok (.goto 60, 3) := dk_167 0 60 (dk_at dksX2_rank_0 17 rfl rfl)
theorem dX2_rank_20 : decode cX2_rank 20 = .ok (.iload_n 0, 1) := dk_26 (dk_at dksX2_rank_0 20 rfl rfl)
theorem dX2_rank_21 : decode cX2_rank 21 = .ok (.bipush 21, 2) := dk_16 21 (dk_at dksX2_rank_0 21 rfl rfl)
theorem dX2_rank_23 : decode cX2_rank 23 = .ok (.if_icmp .ne 7, 3) := dk_160 0 7 (dk_at dksX2_rank_1 0 rfl rfl)
theorem dX2_rank_26 : decode cX2_rank 26 = .ok (.iconst 2, 1) := dk_5 (dk_at dksX2_rank_1 3 rfl rfl)
theorem dX2_rank_27 : decode cX2_rank 27 = .ok (.goto 50, 3) := dk_167 0 50 (dk_at dksX2_rank_1 4 rfl rfl)
theorem dX2_rank_30 : decode cX2_rank 30 = .ok (.iload_n 0, 1) := dk_26 (dk_at dksX2_rank_1 7 rfl rfl)
theorem dX2_rank_31 : decode cX2_rank 31 = .ok (.bipush 20, 2) := dk_16 20 (dk_at dksX2_rank_1 8 rfl rfl)
theorem dX2_rank_33 : decode cX2_rank 33 = .ok (.if_icmp .ne 7, 3) := dk_160 0 7 (dk_at dksX2_rank_1 10 rfl rfl)
theorem dX2_rank_36 : decode cX2_rank 36 = .ok (.iconst 3, 1) := dk_6 (dk_at dksX2_rank_1 13 rfl rfl)
theorem dX2_rank_37 : decode cX2_rank 37 = .ok (.goto 40, 3) := dk_167 0 40 (dk_at dksX2_rank_1 14 rfl rfl)
theorem dX2_rank_40 : decode cX2_rank 40 = .ok (.iload_n 0, 1) := dk_26 (dk_at dksX2_rank_1 17 rfl rfl)
theorem dX2_rank_41 : decode cX2_rank 41 = .ok (.bipush 10, 2) := dk_16 10 (dk_at dksX2_rank_1 18 rfl rfl)
theorem dX2_rank_43 : decode cX2_rank 43 = .ok (.if_icmp .lt 7, 3) := dk_161 0 7 (dk_at dksX2_rank_1 20 rfl rfl)
theorem dX2_rank_46 : decode cX2_rank 46 = .ok (.iconst 4, 1) := dk_7 (dk_at dksX2_rank_1 23 rfl rfl)
theorem dX2_rank_47 : decode cX2_rank 47 = .ok (.goto 30, 3) := dk_167 0 30 (dk_at dksX2_rank_2 0 rfl rfl)
theorem dX2_rank_50 : decode cX2_rank 50 = .ok (.iload_n 0, 1) := dk_26 (dk_at dksX2_rank_2 3 rfl rfl)
theorem dX2_rank_51 : decode cX2_rank 51 = .ok (.iconst 5, 1) := dk_8 (dk_at dksX2_rank_2 4 rfl rfl)
theorem dX2_rank_52 : decode cX2_rank 52 = .ok (.if_icmp .eq 8, 3) := dk_159 0 8 (dk_at dksX2_rank_2 5 rfl rfl)
theorem dX2_rank_55 : decode cX2_rank 55 = .ok (.iload_n 0, 1) := dk_26 (dk_at dksX2_rank_2 8 rfl rfl)
theorem dX2_rank_56 : decode cX2_rank 56 = .ok (.iconst 2, 1) := dk_5 (dk_at dksX2_rank_2 9 rfl rfl)
theorem dX2_rank_57 : decode cX2_rank 57 = .ok (.if_icmp .ne 8, 3) := dk_160 0 8 (dk_at dksX2_rank_2 10 rfl rfl)
theorem dX2_rank_60 : decode cX2_rank 60 = .ok (.bipush 7, 2) := dk_16 7 (dk_at dksX2_rank_2 13 rfl rfl)
theorem dX2_rank_62 : decode cX2_rank 62 = .ok (.goto 15, 3) := dk_167 0 15 (dk_at dksX2_rank_2 15 rfl rfl)
theorem dX2_rank_65 : decode cX2_rank 65 = .ok (.iload_n 0, 1) := dk_26 (dk_at dksX2_rank_2 18 rfl rfl)
theorem dX2_rank_66 : decode cX2_rank 66 = .ok (.bipush 8, 2) := dk_16 8 (dk_at dksX2_rank_2 19 rfl rfl)
theorem dX2_rank_68 : decode cX2_rank 68 = .ok (.if_icmp .lt 8, 3) := dk_161 0 8 (dk_at dksX2_rank_2 21 rfl rfl)
theorem dX2_rank_71 : decode cX2_rank 71 = .ok (.bipush 6, 2) := dk_16 6 (dk_at dksX2_rank_3 0 rfl rfl)
theorem dX2_rank_73 : decode cX2_rank 73 = .ok (.goto 4, 3) := dk_167 0 4 (dk_at dksX2_rank_3 2 rfl rfl)
theorem dX2_rank_76 : decode cX2_rank 76 = .ok (.iconst 5, 1) := dk_8 (dk_at dksX2_rank_3 5 rfl rfl)
theorem dX2_rank_77 : decode cX2_rank 77 = .ok (.ireturn, 1) := dk_172 (dk_at dksX2_rank_3 6 rfl rfl)
abbrev cX2_compareOf : ByteArray := prog_21_method_42_code
def yX2_compareOf : MethodName := ⟨RX2, "compareOf", "()I"⟩
def dkwX2_compareOf_3 : List UInt8 := [180, 0, 102, 16, 35, 160, 0, 8, 16, 15, 167, 0, 4, 2, 172]
abbrev dktX2_compareOf_3 : List UInt8 := dkwX2_compareOf_3 ++ []
def dkwX2_compareOf_2 : List UInt8 := [160, 0, 8, 16, 13, 167, 0, 32, 42, 180, 0, 102, 16, 61, 160, 0, 8, 16, 14, 167, 0, 18, 42]
abbrev dktX2_compareOf_2 : List UInt8 := dkwX2_compareOf_2 ++ dktX2_compareOf_3
def dkwX2_compareOf_1 : List UInt8 := [167, 0, 59, 42, 180, 0, 102, 16, 62, 160, 0, 8, 16, 12, 167, 0, 45, 42, 180, 0, 102, 8]
abbrev dktX2_compareOf_1 : List UInt8 := dkwX2_compareOf_1 ++ dktX2_compareOf_2
def dkwX2_compareOf_0 : List UInt8 := [42, 180, 0, 102, 16, 60, 160, 0, 8, 16, 10, 167, 0, 72, 42, 180, 0, 102, 7, 160, 0, 8, 16, 11]
abbrev dktX2_compareOf_0 : List UInt8 := dkwX2_compareOf_0 ++ dktX2_compareOf_1
theorem dksX2_compareOf_0 : cX2_compareOf.data.toList.drop 0 = dktX2_compareOf_0 := by decide +kernel
theorem dksX2_compareOf_1 : cX2_compareOf.data.toList.drop 24 = dktX2_compareOf_1 := dk_seg dksX2_compareOf_0 24 rfl rfl
theorem dksX2_compareOf_2 : cX2_compareOf.data.toList.drop 46 = dktX2_compareOf_2 := dk_seg dksX2_compareOf_1 22 rfl rfl
theorem dksX2_compareOf_3 : cX2_compareOf.data.toList.drop 69 = dktX2_compareOf_3 := dk_seg dksX2_compareOf_2 23 rfl rfl
theorem dX2_compareOf_0 : decode cX2_compareOf 0 = .ok (.aload_n 0, 1) := dk_42 (dk_at dksX2_compareOf_0 0 rfl rfl)
theorem dX2_compareOf_1 : decode cX2_compareOf 1 = .ok (.getfield 102, 3) := dk_180 0 102 (dk_at dksX2_compareOf_0 1 rfl rfl)
theorem dX2_compareOf_4 : decode cX2_compareOf 4 = .ok (.bipush 60, 2) := dk_16 60 (dk_at dksX2_compareOf_0 4 rfl rfl)
theorem dX2_compareOf_6 : decode cX2_compareOf 6 = .ok (.if_icmp .ne 8, 3) := dk_160 0 8 (dk_at dksX2_compareOf_0 6 rfl rfl)
theorem dX2_compareOf_9 : decode cX2_compareOf 9 = .ok (.bipush 10, 2) := dk_16 10 (dk_at dksX2_compareOf_0 9 rfl rfl)
theorem dX2_compareOf_11 : decode cX2_compareOf 11 = .ok (.goto 72, 3) := dk_167 0 72 (dk_at dksX2_compareOf_0 11 rfl rfl)
theorem dX2_compareOf_14 : decode cX2_compareOf 14 = .ok (.aload_n 0, 1) := dk_42 (dk_at dksX2_compareOf_0 14 rfl rfl)
theorem dX2_compareOf_15 : decode cX2_compareOf 15 = .ok (.getfield 102, 3) := dk_180 0 102 (dk_at dksX2_compareOf_0 15 rfl rfl)
theorem dX2_compareOf_18 : decode cX2_compareOf 18 = .ok (.iconst 4, 1) := dk_7 (dk_at dksX2_compareOf_0 18 rfl rfl)
theorem dX2_compareOf_19 : decode cX2_compareOf 19 = .ok (.if_icmp .ne 8, 3) := dk_160 0 8 (dk_at dksX2_compareOf_0 19 rfl rfl)
theorem dX2_compareOf_22 : decode cX2_compareOf 22 = .ok (.bipush 11, 2) := dk_16 11 (dk_at dksX2_compareOf_0 22 rfl rfl)
theorem dX2_compareOf_24 : decode cX2_compareOf 24 = .ok (.goto 59, 3) := dk_167 0 59 (dk_at dksX2_compareOf_1 0 rfl rfl)
theorem dX2_compareOf_27 : decode cX2_compareOf 27 = .ok (.aload_n 0, 1) := dk_42 (dk_at dksX2_compareOf_1 3 rfl rfl)
theorem dX2_compareOf_28 : decode cX2_compareOf 28 = .ok (.getfield 102, 3) := dk_180 0 102 (dk_at dksX2_compareOf_1 4 rfl rfl)
theorem dX2_compareOf_31 : decode cX2_compareOf 31 = .ok (.bipush 62, 2) := dk_16 62 (dk_at dksX2_compareOf_1 7 rfl rfl)
theorem dX2_compareOf_33 : decode cX2_compareOf 33 = .ok (.if_icmp .ne 8, 3) := dk_160 0 8 (dk_at dksX2_compareOf_1 9 rfl rfl)
theorem dX2_compareOf_36 : decode cX2_compareOf 36 = .ok (.bipush 12, 2) := dk_16 12 (dk_at dksX2_compareOf_1 12 rfl rfl)
theorem dX2_compareOf_38 : decode cX2_compareOf 38 = .ok (.goto 45, 3) := dk_167 0 45 (dk_at dksX2_compareOf_1 14 rfl rfl)
theorem dX2_compareOf_41 : decode cX2_compareOf 41 = .ok (.aload_n 0, 1) := dk_42 (dk_at dksX2_compareOf_1 17 rfl rfl)
theorem dX2_compareOf_42 : decode cX2_compareOf 42 = .ok (.getfield 102, 3) := dk_180 0 102 (dk_at dksX2_compareOf_1 18 rfl rfl)
theorem dX2_compareOf_45 : decode cX2_compareOf 45 = .ok (.iconst 5, 1) := dk_8 (dk_at dksX2_compareOf_1 21 rfl rfl)
theorem dX2_compareOf_46 : decode cX2_compareOf 46 = .ok (.if_icmp .ne 8, 3) := dk_160 0 8 (dk_at dksX2_compareOf_2 0 rfl rfl)
theorem dX2_compareOf_49 : decode cX2_compareOf 49 = .ok (.bipush 13, 2) := dk_16 13 (dk_at dksX2_compareOf_2 3 rfl rfl)
theorem dX2_compareOf_51 : decode cX2_compareOf 51 = .ok (.goto 32, 3) := dk_167 0 32 (dk_at dksX2_compareOf_2 5 rfl rfl)
theorem dX2_compareOf_54 : decode cX2_compareOf 54 = .ok (.aload_n 0, 1) := dk_42 (dk_at dksX2_compareOf_2 8 rfl rfl)
theorem dX2_compareOf_55 : decode cX2_compareOf 55 = .ok (.getfield 102, 3) := dk_180 0 102 (dk_at dksX2_compareOf_2 9 rfl rfl)
theorem dX2_compareOf_58 : decode cX2_compareOf 58 = .ok (.bipush 61, 2) := dk_16 61 (dk_at dksX2_compareOf_2 12 rfl rfl)
theorem dX2_compareOf_60 : decode cX2_compareOf 60 = .ok (.if_icmp .ne 8, 3) := dk_160 0 8 (dk_at dksX2_compareOf_2 14 rfl rfl)
theorem dX2_compareOf_63 : decode cX2_compareOf 63 = .ok (.bipush 14, 2) := dk_16 14 (dk_at dksX2_compareOf_2 17 rfl rfl)
theorem dX2_compareOf_65 : decode cX2_compareOf 65 = .ok (.goto 18, 3) := dk_167 0 18 (dk_at dksX2_compareOf_2 19 rfl rfl)
theorem dX2_compareOf_68 : decode cX2_compareOf 68 = .ok (.aload_n 0, 1) := dk_42 (dk_at dksX2_compareOf_2 22 rfl rfl)
theorem dX2_compareOf_69 : decode cX2_compareOf 69 = .ok (.getfield 102, 3) := dk_180 0 102 (dk_at dksX2_compareOf_3 0 rfl rfl)
theorem dX2_compareOf_72 : decode cX2_compareOf 72 = .ok (.bipush 35, 2) := dk_16 35 (dk_at dksX2_compareOf_3 3 rfl rfl)
theorem dX2_compareOf_74 : decode cX2_compareOf 74 = .ok (.if_icmp .ne 8, 3) := dk_160 0 8 (dk_at dksX2_compareOf_3 5 rfl rfl)
theorem dX2_compareOf_77 : decode cX2_compareOf 77 = .ok (.bipush 15, 2) := dk_16 15 (dk_at dksX2_compareOf_3 8 rfl rfl)
theorem dX2_compareOf_79 : decode cX2_compareOf 79 = .ok (.goto 4, 3) := dk_167 0 4 (dk_at dksX2_compareOf_3 10 rfl rfl)
theorem dX2_compareOf_82 : decode cX2_compareOf 82 = .ok (.iconst (-1), 1) := dk_2 (dk_at dksX2_compareOf_3 13 rfl rfl)
theorem dX2_compareOf_83 : decode cX2_compareOf 83 = .ok (.ireturn, 1) := dk_172 (dk_at dksX2_compareOf_3 14 rfl rfl)
abbrev cX2_settle : ByteArray := prog_21_method_35_code
def yX2_settle : MethodName := ⟨RX2, "settle", "(I)V"⟩
def dkwX2_settle_3 : List UInt8 := [42, 180, 0, 154, 46, 16, 20, 160, 255, 179, 42, 89, 180, 0, 164, 4, 100, 181, 0, 164, 167, 255, 166, 177]
abbrev dktX2_settle_3 : List UInt8 := dkwX2_settle_3 ++ []
def dkwX2_settle_2 : List UInt8 := [182, 0, 160, 42, 180, 0, 29, 42, 180, 0, 154, 46, 184, 0, 157, 16, 7, 159, 0, 17, 42, 180, 0, 29]
abbrev dktX2_settle_2 : List UInt8 := dkwX2_settle_2 ++ dktX2_settle_3
def dkwX2_settle_1 : List UInt8 := [161, 0, 71, 42, 89, 180, 0, 154, 4, 100, 181, 0, 154, 42, 42, 180, 0, 29, 42, 180, 0, 154, 46, 3]
abbrev dktX2_settle_1 : List UInt8 := dkwX2_settle_1 ++ dktX2_settle_2
def dkwX2_settle_0 : List UInt8 := [42, 180, 0, 154, 158, 0, 89, 42, 180, 0, 29, 42, 180, 0, 154, 4, 100, 46, 184, 0, 157, 27]
abbrev dktX2_settle_0 : List UInt8 := dkwX2_settle_0 ++ dktX2_settle_1
theorem dksX2_settle_0 : cX2_settle.data.toList.drop 0 = dktX2_settle_0 := by decide +kernel
theorem dksX2_settle_1 : cX2_settle.data.toList.drop 22 = dktX2_settle_1 := dk_seg dksX2_settle_0 22 rfl rfl
theorem dksX2_settle_2 : cX2_settle.data.toList.drop 46 = dktX2_settle_2 := dk_seg dksX2_settle_1 24 rfl rfl
theorem dksX2_settle_3 : cX2_settle.data.toList.drop 70 = dktX2_settle_3 := dk_seg dksX2_settle_2 24 rfl rfl
theorem dX2_settle_0 : decode cX2_settle 0 = .ok (.aload_n 0, 1) := dk_42 (dk_at dksX2_settle_0 0 rfl rfl)
theorem dX2_settle_1 : decode cX2_settle 1 = .ok (.getfield 154, 3) := dk_180 0 154 (dk_at dksX2_settle_0 1 rfl rfl)
theorem dX2_settle_4 : decode cX2_settle 4 = .ok (.ifCond .le 89, 3) := dk_158 0 89 (dk_at dksX2_settle_0 4 rfl rfl)
theorem dX2_settle_7 : decode cX2_settle 7 = .ok (.aload_n 0, 1) := dk_42 (dk_at dksX2_settle_0 7 rfl rfl)
theorem dX2_settle_8 : decode cX2_settle 8 = .ok (.getfield 29, 3) := dk_180 0 29 (dk_at dksX2_settle_0 8 rfl rfl)
theorem dX2_settle_11 : decode cX2_settle 11 = .ok (.aload_n 0, 1) := dk_42 (dk_at dksX2_settle_0 11 rfl rfl)
theorem dX2_settle_12 : decode cX2_settle 12 = .ok (.getfield 154, 3) := dk_180 0 154 (dk_at dksX2_settle_0 12 rfl rfl)
theorem dX2_settle_15 : decode cX2_settle 15 = .ok (.iconst 1, 1) := dk_4 (dk_at dksX2_settle_0 15 rfl rfl)
theorem dX2_settle_16 : decode cX2_settle 16 = .ok (.isub, 1) := dk_100 (dk_at dksX2_settle_0 16 rfl rfl)
theorem dX2_settle_17 : decode cX2_settle 17 = .ok (.iaload, 1) := dk_46 (dk_at dksX2_settle_0 17 rfl rfl)
theorem dX2_settle_18 : decode cX2_settle 18 = .ok (.invokestatic 157, 3) := dk_184 0 157 (dk_at dksX2_settle_0 18 rfl rfl)
theorem dX2_settle_21 : decode cX2_settle 21 = .ok (.iload_n 1, 1) := dk_27 (dk_at dksX2_settle_0 21 rfl rfl)
theorem dX2_settle_22 : decode cX2_settle 22 = .ok (.if_icmp .lt 71, 3) := dk_161 0 71 (dk_at dksX2_settle_1 0 rfl rfl)
theorem dX2_settle_25 : decode cX2_settle 25 = .ok (.aload_n 0, 1) := dk_42 (dk_at dksX2_settle_1 3 rfl rfl)
theorem dX2_settle_26 : decode cX2_settle 26 = .ok (.dup, 1) := dk_89 (dk_at dksX2_settle_1 4 rfl rfl)
theorem dX2_settle_27 : decode cX2_settle 27 = .ok (.getfield 154, 3) := dk_180 0 154 (dk_at dksX2_settle_1 5 rfl rfl)
theorem dX2_settle_30 : decode cX2_settle 30 = .ok (.iconst 1, 1) := dk_4 (dk_at dksX2_settle_1 8 rfl rfl)
theorem dX2_settle_31 : decode cX2_settle 31 = .ok (.isub, 1) := dk_100 (dk_at dksX2_settle_1 9 rfl rfl)
theorem dX2_settle_32 : decode cX2_settle 32 = .ok (.putfield 154, 3) := dk_181 0 154 (dk_at dksX2_settle_1 10 rfl rfl)
theorem dX2_settle_35 : decode cX2_settle 35 = .ok (.aload_n 0, 1) := dk_42 (dk_at dksX2_settle_1 13 rfl rfl)
theorem dX2_settle_36 : decode cX2_settle 36 = .ok (.aload_n 0, 1) := dk_42 (dk_at dksX2_settle_1 14 rfl rfl)
theorem dX2_settle_37 : decode cX2_settle 37 = .ok (.getfield 29, 3) := dk_180 0 29 (dk_at dksX2_settle_1 15 rfl rfl)
theorem dX2_settle_40 : decode cX2_settle 40 = .ok (.aload_n 0, 1) := dk_42 (dk_at dksX2_settle_1 18 rfl rfl)
theorem dX2_settle_41 : decode cX2_settle 41 = .ok (.getfield 154, 3) := dk_180 0 154 (dk_at dksX2_settle_1 19 rfl rfl)
theorem dX2_settle_44 : decode cX2_settle 44 = .ok (.iaload, 1) := dk_46 (dk_at dksX2_settle_1 22 rfl rfl)
theorem dX2_settle_45 : decode cX2_settle 45 = .ok (.iconst 0, 1) := dk_3 (dk_at dksX2_settle_1 23 rfl rfl)
theorem dX2_settle_46 : decode cX2_settle 46 = .ok (.invokevirtual 160, 3) := dk_182 0 160 (dk_at dksX2_settle_2 0 rfl rfl)
theorem dX2_settle_49 : decode cX2_settle 49 = .ok (.aload_n 0, 1) := dk_42 (dk_at dksX2_settle_2 3 rfl rfl)
theorem dX2_settle_50 : decode cX2_settle 50 = .ok (.getfield 29, 3) := dk_180 0 29 (dk_at dksX2_settle_2 4 rfl rfl)
theorem dX2_settle_53 : decode cX2_settle 53 = .ok (.aload_n 0, 1) := dk_42 (dk_at dksX2_settle_2 7 rfl rfl)
theorem dX2_settle_54 : decode cX2_settle 54 = .ok (.getfield 154, 3) := dk_180 0 154 (dk_at dksX2_settle_2 8 rfl rfl)
theorem dX2_settle_57 : decode cX2_settle 57 = .ok (.iaload, 1) := dk_46 (dk_at dksX2_settle_2 11 rfl rfl)
theorem dX2_settle_58 : decode cX2_settle 58 = .ok (.invokestatic 157, 3) := dk_184 0 157 (dk_at dksX2_settle_2 12 rfl rfl)
theorem dX2_settle_61 : decode cX2_settle 61 = .ok (.bipush 7, 2) := dk_16 7 (dk_at dksX2_settle_2 15 rfl rfl)
theorem dX2_settle_63 : decode cX2_settle 63 = .ok (.if_icmp .eq 17, 3) := dk_159 0 17 (dk_at dksX2_settle_2 17 rfl rfl)
theorem dX2_settle_66 : decode cX2_settle 66 = .ok (.aload_n 0, 1) := dk_42 (dk_at dksX2_settle_2 20 rfl rfl)
theorem dX2_settle_67 : decode cX2_settle 67 = .ok (.getfield 29, 3) := dk_180 0 29 (dk_at dksX2_settle_2 21 rfl rfl)
theorem dX2_settle_70 : decode cX2_settle 70 = .ok (.aload_n 0, 1) := dk_42 (dk_at dksX2_settle_3 0 rfl rfl)
theorem dX2_settle_71 : decode cX2_settle 71 = .ok (.getfield 154, 3) := dk_180 0 154 (dk_at dksX2_settle_3 1 rfl rfl)
theorem dX2_settle_74 : decode cX2_settle 74 = .ok (.iaload, 1) := dk_46 (dk_at dksX2_settle_3 4 rfl rfl)
theorem dX2_settle_75 : decode cX2_settle 75 = .ok (.bipush 20, 2) := dk_16 20 (dk_at dksX2_settle_3 5 rfl rfl)
theorem dX2_settle_77 : decode cX2_settle 77 = .ok (.if_icmp .ne (-77), 3) := dk_160 255 179 (dk_at dksX2_settle_3 7 rfl rfl)
theorem dX2_settle_80 : decode cX2_settle 80 = .ok (.aload_n 0, 1) := dk_42 (dk_at dksX2_settle_3 10 rfl rfl)
theorem dX2_settle_81 : decode cX2_settle 81 = .ok (.dup, 1) := dk_89 (dk_at dksX2_settle_3 11 rfl rfl)
theorem dX2_settle_82 : decode cX2_settle 82 = .ok (.getfield 164, 3) := dk_180 0 164 (dk_at dksX2_settle_3 12 rfl rfl)
theorem dX2_settle_85 : decode cX2_settle 85 = .ok (.iconst 1, 1) := dk_4 (dk_at dksX2_settle_3 15 rfl rfl)
theorem dX2_settle_86 : decode cX2_settle 86 = .ok (.isub, 1) := dk_100 (dk_at dksX2_settle_3 16 rfl rfl)
theorem dX2_settle_87 : decode cX2_settle 87 = .ok (.putfield 164, 3) := dk_181 0 164 (dk_at dksX2_settle_3 17 rfl rfl)
theorem dX2_settle_90 : decode cX2_settle 90 = .ok (.goto (-90), 3) := dk_167 255 166 (dk_at dksX2_settle_3 20 rfl rfl)
theorem dX2_settle_93 : decode cX2_settle 93 = .ok (.return_, 1) := dk_177 (dk_at dksX2_settle_3 23 rfl rfl)
abbrev cX2_emit : ByteArray := prog_21_method_30_code
def yX2_emit : MethodName := ⟨RX2, "emit", "(II)V"⟩
def dkwX2_emit_2 : List UInt8 := [96, 181, 0, 144, 177]
abbrev dktX2_emit_2 : List UInt8 := dkwX2_emit_2 ++ []
def dkwX2_emit_1 : List UInt8 := [42, 180, 0, 141, 16, 121, 96, 5, 42, 180, 0, 144, 104, 96, 4, 96, 28, 79, 42, 89, 180, 0, 144, 4]
abbrev dktX2_emit_1 : List UInt8 := dkwX2_emit_1 ++ dktX2_emit_2
def dkwX2_emit_0 : List UInt8 := [42, 180, 0, 16, 42, 180, 0, 141, 16, 121, 96, 5, 42, 180, 0, 144, 104, 96, 27, 79, 42, 180, 0, 16]
abbrev dktX2_emit_0 : List UInt8 := dkwX2_emit_0 ++ dktX2_emit_1
theorem dksX2_emit_0 : cX2_emit.data.toList.drop 0 = dktX2_emit_0 := by decide +kernel
theorem dksX2_emit_1 : cX2_emit.data.toList.drop 24 = dktX2_emit_1 := dk_seg dksX2_emit_0 24 rfl rfl
theorem dksX2_emit_2 : cX2_emit.data.toList.drop 48 = dktX2_emit_2 := dk_seg dksX2_emit_1 24 rfl rfl
theorem dX2_emit_0 : decode cX2_emit 0 = .ok (.aload_n 0, 1) := dk_42 (dk_at dksX2_emit_0 0 rfl rfl)
theorem dX2_emit_1 : decode cX2_emit 1 = .ok (.getfield 16, 3) := dk_180 0 16 (dk_at dksX2_emit_0 1 rfl rfl)
theorem dX2_emit_4 : decode cX2_emit 4 = .ok (.aload_n 0, 1) := dk_42 (dk_at dksX2_emit_0 4 rfl rfl)
theorem dX2_emit_5 : decode cX2_emit 5 = .ok (.getfield 141, 3) := dk_180 0 141 (dk_at dksX2_emit_0 5 rfl rfl)
theorem dX2_emit_8 : decode cX2_emit 8 = .ok (.bipush 121, 2) := dk_16 121 (dk_at dksX2_emit_0 8 rfl rfl)
theorem dX2_emit_10 : decode cX2_emit 10 = .ok (.iadd, 1) := dk_96 (dk_at dksX2_emit_0 10 rfl rfl)
theorem dX2_emit_11 : decode cX2_emit 11 = .ok (.iconst 2, 1) := dk_5 (dk_at dksX2_emit_0 11 rfl rfl)
theorem dX2_emit_12 : decode cX2_emit 12 = .ok (.aload_n 0, 1) := dk_42 (dk_at dksX2_emit_0 12 rfl rfl)
theorem dX2_emit_13 : decode cX2_emit 13 = .ok (.getfield 144, 3) := dk_180 0 144 (dk_at dksX2_emit_0 13 rfl rfl)
theorem dX2_emit_16 : decode cX2_emit 16 = .ok (.imul, 1) := dk_104 (dk_at dksX2_emit_0 16 rfl rfl)
theorem dX2_emit_17 : decode cX2_emit 17 = .ok (.iadd, 1) := dk_96 (dk_at dksX2_emit_0 17 rfl rfl)
theorem dX2_emit_18 : decode cX2_emit 18 = .ok (.iload_n 1, 1) := dk_27 (dk_at dksX2_emit_0 18 rfl rfl)
theorem dX2_emit_19 : decode cX2_emit 19 = .ok (.iastore, 1) := dk_79 (dk_at dksX2_emit_0 19 rfl rfl)
theorem dX2_emit_20 : decode cX2_emit 20 = .ok (.aload_n 0, 1) := dk_42 (dk_at dksX2_emit_0 20 rfl rfl)
theorem dX2_emit_21 : decode cX2_emit 21 = .ok (.getfield 16, 3) := dk_180 0 16 (dk_at dksX2_emit_0 21 rfl rfl)
theorem dX2_emit_24 : decode cX2_emit 24 = .ok (.aload_n 0, 1) := dk_42 (dk_at dksX2_emit_1 0 rfl rfl)
theorem dX2_emit_25 : decode cX2_emit 25 = .ok (.getfield 141, 3) := dk_180 0 141 (dk_at dksX2_emit_1 1 rfl rfl)
theorem dX2_emit_28 : decode cX2_emit 28 = .ok (.bipush 121, 2) := dk_16 121 (dk_at dksX2_emit_1 4 rfl rfl)
theorem dX2_emit_30 : decode cX2_emit 30 = .ok (.iadd, 1) := dk_96 (dk_at dksX2_emit_1 6 rfl rfl)
theorem dX2_emit_31 : decode cX2_emit 31 = .ok (.iconst 2, 1) := dk_5 (dk_at dksX2_emit_1 7 rfl rfl)
theorem dX2_emit_32 : decode cX2_emit 32 = .ok (.aload_n 0, 1) := dk_42 (dk_at dksX2_emit_1 8 rfl rfl)
theorem dX2_emit_33 : decode cX2_emit 33 = .ok (.getfield 144, 3) := dk_180 0 144 (dk_at dksX2_emit_1 9 rfl rfl)
theorem dX2_emit_36 : decode cX2_emit 36 = .ok (.imul, 1) := dk_104 (dk_at dksX2_emit_1 12 rfl rfl)
theorem dX2_emit_37 : decode cX2_emit 37 = .ok (.iadd, 1) := dk_96 (dk_at dksX2_emit_1 13 rfl rfl)
theorem dX2_emit_38 : decode cX2_emit 38 = .ok (.iconst 1, 1) := dk_4 (dk_at dksX2_emit_1 14 rfl rfl)
theorem dX2_emit_39 : decode cX2_emit 39 = .ok (.iadd, 1) := dk_96 (dk_at dksX2_emit_1 15 rfl rfl)
theorem dX2_emit_40 : decode cX2_emit 40 = .ok (.iload_n 2, 1) := dk_28 (dk_at dksX2_emit_1 16 rfl rfl)
theorem dX2_emit_41 : decode cX2_emit 41 = .ok (.iastore, 1) := dk_79 (dk_at dksX2_emit_1 17 rfl rfl)
theorem dX2_emit_42 : decode cX2_emit 42 = .ok (.aload_n 0, 1) := dk_42 (dk_at dksX2_emit_1 18 rfl rfl)
theorem dX2_emit_43 : decode cX2_emit 43 = .ok (.dup, 1) := dk_89 (dk_at dksX2_emit_1 19 rfl rfl)
theorem dX2_emit_44 : decode cX2_emit 44 = .ok (.getfield 144, 3) := dk_180 0 144 (dk_at dksX2_emit_1 20 rfl rfl)
theorem dX2_emit_47 : decode cX2_emit 47 = .ok (.iconst 1, 1) := dk_4 (dk_at dksX2_emit_1 23 rfl rfl)
theorem dX2_emit_48 : decode cX2_emit 48 = .ok (.iadd, 1) := dk_96 (dk_at dksX2_emit_2 0 rfl rfl)
theorem dX2_emit_49 : decode cX2_emit 49 = .ok (.putfield 144, 3) := dk_181 0 144 (dk_at dksX2_emit_2 1 rfl rfl)
theorem dX2_emit_52 : decode cX2_emit 52 = .ok (.return_, 1) := dk_177 (dk_at dksX2_emit_2 4 rfl rfl)
abbrev cX2_partOf : ByteArray := prog_21_method_44_code
def yX2_partOf : MethodName := ⟨RX2, "partOf", "(I)I"⟩
def dkwX2_partOf_5 : List UInt8 := [42, 16, 101, 16, 110, 16, 100, 184, 0, 129, 182, 0, 191, 153, 0, 7, 3, 167, 0, 4, 2, 172, 2, 172]
abbrev dktX2_partOf_5 : List UInt8 := dkwX2_partOf_5 ++ []
def dkwX2_partOf_4 : List UInt8 := [16, 101, 16, 108, 16, 115, 16, 101, 184, 0, 133, 182, 0, 191, 153, 0, 8, 16, 43, 167, 0, 4, 2, 172]
abbrev dktX2_partOf_4 : List UInt8 := dkwX2_partOf_4 ++ dktX2_partOf_5
def dkwX2_partOf_3 : List UInt8 := [184, 0, 133, 182, 0, 191, 153, 0, 15, 42, 182, 0, 198, 153, 0, 8, 16, 42, 167, 0, 4, 2, 172, 42]
abbrev dktX2_partOf_3 : List UInt8 := dkwX2_partOf_3 ++ dktX2_partOf_4
def dkwX2_partOf_2 : List UInt8 := [42, 180, 0, 102, 16, 41, 160, 0, 7, 3, 167, 0, 4, 2, 172, 42, 16, 116, 16, 104, 16, 101, 16, 110]
abbrev dktX2_partOf_2 : List UInt8 := dkwX2_partOf_2 ++ dktX2_partOf_3
def dkwX2_partOf_1 : List UInt8 := [170, 0, 0, 0, 0, 0, 125, 0, 0, 0, 40, 0, 0, 0, 43, 0, 0, 0, 31, 0, 0, 0, 46, 0, 0, 0, 78, 0, 0, 0, 103]
abbrev dktX2_partOf_1 : List UInt8 := dkwX2_partOf_1 ++ dktX2_partOf_2
def dkwX2_partOf_0 : List UInt8 := [27]
abbrev dktX2_partOf_0 : List UInt8 := dkwX2_partOf_0 ++ dktX2_partOf_1
theorem dksX2_partOf_0 : cX2_partOf.data.toList.drop 0 = dktX2_partOf_0 := by decide +kernel
theorem dksX2_partOf_1 : cX2_partOf.data.toList.drop 1 = dktX2_partOf_1 := dk_seg dksX2_partOf_0 1 rfl rfl
theorem dksX2_partOf_2 : cX2_partOf.data.toList.drop 32 = dktX2_partOf_2 := dk_seg dksX2_partOf_1 31 rfl rfl
theorem dksX2_partOf_3 : cX2_partOf.data.toList.drop 56 = dktX2_partOf_3 := dk_seg dksX2_partOf_2 24 rfl rfl
theorem dksX2_partOf_4 : cX2_partOf.data.toList.drop 80 = dktX2_partOf_4 := dk_seg dksX2_partOf_3 24 rfl rfl
theorem dksX2_partOf_5 : cX2_partOf.data.toList.drop 104 = dktX2_partOf_5 := dk_seg dksX2_partOf_4 24 rfl rfl
theorem dX2_partOf_0 : decode cX2_partOf 0 = .ok (.iload_n 1, 1) := dk_27 (dk_at dksX2_partOf_0 0 rfl rfl)
theorem dX2_partOf_1 : decode cX2_partOf 1 = .ok (.tableswitch 125 40 43 #[31, 46, 78, 103], 31) := by decide +kernel
theorem dX2_partOf_32 : decode cX2_partOf 32 = .ok (.aload_n 0, 1) := dk_42 (dk_at dksX2_partOf_2 0 rfl rfl)
theorem dX2_partOf_33 : decode cX2_partOf 33 = .ok (.getfield 102, 3) := dk_180 0 102 (dk_at dksX2_partOf_2 1 rfl rfl)
theorem dX2_partOf_36 : decode cX2_partOf 36 = .ok (.bipush 41, 2) := dk_16 41 (dk_at dksX2_partOf_2 4 rfl rfl)
theorem dX2_partOf_38 : decode cX2_partOf 38 = .ok (.if_icmp .ne 7, 3) := dk_160 0 7 (dk_at dksX2_partOf_2 6 rfl rfl)
theorem dX2_partOf_41 : decode cX2_partOf 41 = .ok (.iconst 0, 1) := dk_3 (dk_at dksX2_partOf_2 9 rfl rfl)
theorem dX2_partOf_42 : decode cX2_partOf 42 = .ok (.goto 4, 3) := dk_167 0 4 (dk_at dksX2_partOf_2 10 rfl rfl)
theorem dX2_partOf_45 : decode cX2_partOf 45 = .ok (.iconst (-1), 1) := dk_2 (dk_at dksX2_partOf_2 13 rfl rfl)
theorem dX2_partOf_46 : decode cX2_partOf 46 = .ok (.ireturn, 1) := dk_172 (dk_at dksX2_partOf_2 14 rfl rfl)
theorem dX2_partOf_47 : decode cX2_partOf 47 = .ok (.aload_n 0, 1) := dk_42 (dk_at dksX2_partOf_2 15 rfl rfl)
theorem dX2_partOf_48 : decode cX2_partOf 48 = .ok (.bipush 116, 2) := dk_16 116 (dk_at dksX2_partOf_2 16 rfl rfl)
theorem dX2_partOf_50 : decode cX2_partOf 50 = .ok (.bipush 104, 2) := dk_16 104 (dk_at dksX2_partOf_2 18 rfl rfl)
theorem dX2_partOf_52 : decode cX2_partOf 52 = .ok (.bipush 101, 2) := dk_16 101 (dk_at dksX2_partOf_2 20 rfl rfl)
theorem dX2_partOf_54 : decode cX2_partOf 54 = .ok (.bipush 110, 2) := dk_16 110 (dk_at dksX2_partOf_2 22 rfl rfl)
theorem dX2_partOf_56 : decode cX2_partOf 56 = .ok (.invokestatic 133, 3) := dk_184 0 133 (dk_at dksX2_partOf_3 0 rfl rfl)
theorem dX2_partOf_59 : decode cX2_partOf 59 = .ok (.invokevirtual 191, 3) := dk_182 0 191 (dk_at dksX2_partOf_3 3 rfl rfl)
theorem dX2_partOf_62 : decode cX2_partOf 62 = .ok (.ifCond .eq 15, 3) := dk_153 0 15 (dk_at dksX2_partOf_3 6 rfl rfl)
theorem dX2_partOf_65 : decode cX2_partOf 65 = .ok (.aload_n 0, 1) := dk_42 (dk_at dksX2_partOf_3 9 rfl rfl)
theorem dX2_partOf_66 : decode cX2_partOf 66 = .ok (.invokevirtual 198, 3) := dk_182 0 198 (dk_at dksX2_partOf_3 10 rfl rfl)
theorem dX2_partOf_69 : decode cX2_partOf 69 = .ok (.ifCond .eq 8, 3) := dk_153 0 8 (dk_at dksX2_partOf_3 13 rfl rfl)
theorem dX2_partOf_72 : decode cX2_partOf 72 = .ok (.bipush 42, 2) := dk_16 42 (dk_at dksX2_partOf_3 16 rfl rfl)
theorem dX2_partOf_74 : decode cX2_partOf 74 = .ok (.goto 4, 3) := dk_167 0 4 (dk_at dksX2_partOf_3 18 rfl rfl)
theorem dX2_partOf_77 : decode cX2_partOf 77 = .ok (.iconst (-1), 1) := dk_2 (dk_at dksX2_partOf_3 21 rfl rfl)
theorem dX2_partOf_78 : decode cX2_partOf 78 = .ok (.ireturn, 1) := dk_172 (dk_at dksX2_partOf_3 22 rfl rfl)
theorem dX2_partOf_79 : decode cX2_partOf 79 = .ok (.aload_n 0, 1) := dk_42 (dk_at dksX2_partOf_3 23 rfl rfl)
theorem dX2_partOf_80 : decode cX2_partOf 80 = .ok (.bipush 101, 2) := dk_16 101 (dk_at dksX2_partOf_4 0 rfl rfl)
theorem dX2_partOf_82 : decode cX2_partOf 82 = .ok (.bipush 108, 2) := dk_16 108 (dk_at dksX2_partOf_4 2 rfl rfl)
theorem dX2_partOf_84 : decode cX2_partOf 84 = .ok (.bipush 115, 2) := dk_16 115 (dk_at dksX2_partOf_4 4 rfl rfl)
theorem dX2_partOf_86 : decode cX2_partOf 86 = .ok (.bipush 101, 2) := dk_16 101 (dk_at dksX2_partOf_4 6 rfl rfl)
theorem dX2_partOf_88 : decode cX2_partOf 88 = .ok (.invokestatic 133, 3) := dk_184 0 133 (dk_at dksX2_partOf_4 8 rfl rfl)
theorem dX2_partOf_91 : decode cX2_partOf 91 = .ok (.invokevirtual 191, 3) := dk_182 0 191 (dk_at dksX2_partOf_4 11 rfl rfl)
theorem dX2_partOf_94 : decode cX2_partOf 94 = .ok (.ifCond .eq 8, 3) := dk_153 0 8 (dk_at dksX2_partOf_4 14 rfl rfl)
theorem dX2_partOf_97 : decode cX2_partOf 97 = .ok (.bipush 43, 2) := dk_16 43 (dk_at dksX2_partOf_4 17 rfl rfl)
theorem dX2_partOf_99 : decode cX2_partOf 99 = .ok (.goto 4, 3) := dk_167 0 4 (dk_at dksX2_partOf_4 19 rfl rfl)
theorem dX2_partOf_102 : decode cX2_partOf 102 = .ok (.iconst (-1), 1) := dk_2 (dk_at dksX2_partOf_4 22 rfl rfl)
theorem dX2_partOf_103 : decode cX2_partOf 103 = .ok (.ireturn, 1) := dk_172 (dk_at dksX2_partOf_4 23 rfl rfl)
theorem dX2_partOf_104 : decode cX2_partOf 104 = .ok (.aload_n 0, 1) := dk_42 (dk_at dksX2_partOf_5 0 rfl rfl)
theorem dX2_partOf_105 : decode cX2_partOf 105 = .ok (.bipush 101, 2) := dk_16 101 (dk_at dksX2_partOf_5 1 rfl rfl)
theorem dX2_partOf_107 : decode cX2_partOf 107 = .ok (.bipush 110, 2) := dk_16 110 (dk_at dksX2_partOf_5 3 rfl rfl)
theorem dX2_partOf_109 : decode cX2_partOf 109 = .ok (.bipush 100, 2) := dk_16 100 (dk_at dksX2_partOf_5 5 rfl rfl)
theorem dX2_partOf_111 : decode cX2_partOf 111 = .ok (.invokestatic 129, 3) := dk_184 0 129 (dk_at dksX2_partOf_5 7 rfl rfl)
theorem dX2_partOf_114 : decode cX2_partOf 114 = .ok (.invokevirtual 191, 3) := dk_182 0 191 (dk_at dksX2_partOf_5 10 rfl rfl)
theorem dX2_partOf_117 : decode cX2_partOf 117 = .ok (.ifCond .eq 7, 3) := dk_153 0 7 (dk_at dksX2_partOf_5 13 rfl rfl)
theorem dX2_partOf_120 : decode cX2_partOf 120 = .ok (.iconst 0, 1) := dk_3 (dk_at dksX2_partOf_5 16 rfl rfl)
theorem dX2_partOf_121 : decode cX2_partOf 121 = .ok (.goto 4, 3) := dk_167 0 4 (dk_at dksX2_partOf_5 17 rfl rfl)
theorem dX2_partOf_124 : decode cX2_partOf 124 = .ok (.iconst (-1), 1) := dk_2 (dk_at dksX2_partOf_5 20 rfl rfl)
theorem dX2_partOf_125 : decode cX2_partOf 125 = .ok (.ireturn, 1) := dk_172 (dk_at dksX2_partOf_5 21 rfl rfl)
theorem dX2_partOf_126 : decode cX2_partOf 126 = .ok (.iconst (-1), 1) := dk_2 (dk_at dksX2_partOf_5 22 rfl rfl)
theorem dX2_partOf_127 : decode cX2_partOf 127 = .ok (.ireturn, 1) := dk_172 (dk_at dksX2_partOf_5 23 rfl rfl)
abbrev cX2_beginOne : ByteArray := prog_21_method_41_code
def yX2_beginOne : MethodName := ⟨RX2, "beginOne", "()I"⟩
def dkwX2_beginOne_9 : List UInt8 := [167, 0, 4, 4, 172]
abbrev dktX2_beginOne_9 : List UInt8 := dkwX2_beginOne_9 ++ []
def dkwX2_beginOne_8 : List UInt8 := [184, 0, 129, 182, 0, 191, 153, 0, 19, 42, 182, 0, 195, 153, 0, 12, 42, 16, 20, 182, 0, 188]
abbrev dktX2_beginOne_8 : List UInt8 := dkwX2_beginOne_8 ++ dktX2_beginOne_9
def dkwX2_beginOne_7 : List UInt8 := [184, 0, 125, 182, 0, 191, 153, 0, 10, 42, 16, 41, 182, 0, 188, 172, 42, 16, 110, 16, 111, 16, 116]
abbrev dktX2_beginOne_7 : List UInt8 := dkwX2_beginOne_7 ++ dktX2_beginOne_8
def dkwX2_beginOne_6 : List UInt8 := [16, 115, 184, 0, 137, 182, 0, 191, 153, 0, 9, 42, 5, 182, 0, 188, 172, 42, 16, 105, 16, 102]
abbrev dktX2_beginOne_6 : List UInt8 := dkwX2_beginOne_6 ++ dktX2_beginOne_7
def dkwX2_beginOne_5 : List UInt8 := [180, 0, 102, 16, 45, 160, 0, 9, 42, 8, 182, 0, 188, 172, 42, 16, 114, 16, 105, 16, 110, 16, 103]
abbrev dktX2_beginOne_5 : List UInt8 := dkwX2_beginOne_5 ++ dktX2_beginOne_6
def dkwX2_beginOne_4 : List UInt8 := [16, 7, 182, 0, 185, 3, 172, 42, 180, 0, 102, 16, 40, 160, 0, 10, 42, 16, 40, 182, 0, 188, 172, 42]
abbrev dktX2_beginOne_4 : List UInt8 := dkwX2_beginOne_4 ++ dktX2_beginOne_5
def dkwX2_beginOne_3 : List UInt8 := [160, 0, 10, 42, 180, 0, 109, 167, 0, 4, 27, 182, 0, 160, 42, 182, 0, 173, 42, 4, 181, 0, 182, 42]
abbrev dktX2_beginOne_3 : List UInt8 := dkwX2_beginOne_3 ++ dktX2_beginOne_4
def dkwX2_beginOne_2 : List UInt8 := [155, 0, 53, 42, 42, 180, 0, 102, 4, 160, 0, 7, 3, 167, 0, 4, 4, 42, 180, 0, 102, 4]
abbrev dktX2_beginOne_2 : List UInt8 := dkwX2_beginOne_2 ++ dktX2_beginOne_3
def dkwX2_beginOne_1 : List UInt8 := [60, 27, 155, 0, 13, 42, 27, 182, 0, 179, 154, 0, 5, 8, 172, 42, 180, 0, 102, 4, 159, 0, 7, 27]
abbrev dktX2_beginOne_1 : List UInt8 := dkwX2_beginOne_1 ++ dktX2_beginOne_2
def dkwX2_beginOne_0 : List UInt8 := [42, 180, 0, 102, 4, 160, 0, 15, 42, 180, 0, 109, 17, 39, 15, 164, 0, 5, 5, 172, 42, 182, 0, 176]
abbrev dktX2_beginOne_0 : List UInt8 := dkwX2_beginOne_0 ++ dktX2_beginOne_1
theorem dksX2_beginOne_0 : cX2_beginOne.data.toList.drop 0 = dktX2_beginOne_0 := by decide +kernel
theorem dksX2_beginOne_1 : cX2_beginOne.data.toList.drop 24 = dktX2_beginOne_1 := dk_seg dksX2_beginOne_0 24 rfl rfl
theorem dksX2_beginOne_2 : cX2_beginOne.data.toList.drop 48 = dktX2_beginOne_2 := dk_seg dksX2_beginOne_1 24 rfl rfl
theorem dksX2_beginOne_3 : cX2_beginOne.data.toList.drop 70 = dktX2_beginOne_3 := dk_seg dksX2_beginOne_2 22 rfl rfl
theorem dksX2_beginOne_4 : cX2_beginOne.data.toList.drop 94 = dktX2_beginOne_4 := dk_seg dksX2_beginOne_3 24 rfl rfl
theorem dksX2_beginOne_5 : cX2_beginOne.data.toList.drop 118 = dktX2_beginOne_5 := dk_seg dksX2_beginOne_4 24 rfl rfl
theorem dksX2_beginOne_6 : cX2_beginOne.data.toList.drop 141 = dktX2_beginOne_6 := dk_seg dksX2_beginOne_5 23 rfl rfl
theorem dksX2_beginOne_7 : cX2_beginOne.data.toList.drop 163 = dktX2_beginOne_7 := dk_seg dksX2_beginOne_6 22 rfl rfl
theorem dksX2_beginOne_8 : cX2_beginOne.data.toList.drop 186 = dktX2_beginOne_8 := dk_seg dksX2_beginOne_7 23 rfl rfl
theorem dksX2_beginOne_9 : cX2_beginOne.data.toList.drop 208 = dktX2_beginOne_9 := dk_seg dksX2_beginOne_8 22 rfl rfl
theorem dX2_beginOne_0 : decode cX2_beginOne 0 = .ok (.aload_n 0, 1) := dk_42 (dk_at dksX2_beginOne_0 0 rfl rfl)
theorem dX2_beginOne_1 : decode cX2_beginOne 1 = .ok (.getfield 102, 3) := dk_180 0 102 (dk_at dksX2_beginOne_0 1 rfl rfl)
theorem dX2_beginOne_4 : decode cX2_beginOne 4 = .ok (.iconst 1, 1) := dk_4 (dk_at dksX2_beginOne_0 4 rfl rfl)
theorem dX2_beginOne_5 : decode cX2_beginOne 5 = .ok (.if_icmp .ne 15, 3) := dk_160 0 15 (dk_at dksX2_beginOne_0 5 rfl rfl)
theorem dX2_beginOne_8 : decode cX2_beginOne 8 = .ok (.aload_n 0, 1) := dk_42 (dk_at dksX2_beginOne_0 8 rfl rfl)
theorem dX2_beginOne_9 : decode cX2_beginOne 9 = .ok (.getfield 109, 3) := dk_180 0 109 (dk_at dksX2_beginOne_0 9 rfl rfl)
theorem dX2_beginOne_12 : decode cX2_beginOne 12 = .ok (.sipush 9999, 3) := dk_17 39 15 (dk_at dksX2_beginOne_0 12 rfl rfl)
theorem dX2_beginOne_15 : decode cX2_beginOne 15 = .ok (.if_icmp .le 5, 3) := dk_164 0 5 (dk_at dksX2_beginOne_0 15 rfl rfl)
theorem dX2_beginOne_18 : decode cX2_beginOne 18 = .ok (.iconst 2, 1) := dk_5 (dk_at dksX2_beginOne_0 18 rfl rfl)
theorem dX2_beginOne_19 : decode cX2_beginOne 19 = .ok (.ireturn, 1) := dk_172 (dk_at dksX2_beginOne_0 19 rfl rfl)
theorem dX2_beginOne_20 : decode cX2_beginOne 20 = .ok (.aload_n 0, 1) := dk_42 (dk_at dksX2_beginOne_0 20 rfl rfl)
theorem dX2_beginOne_21 : decode cX2_beginOne 21 = .ok (.invokevirtual 176, 3) := dk_182 0 176 (dk_at dksX2_beginOne_0 21 rfl rfl)
theorem dX2_beginOne_24 : decode cX2_beginOne 24 = .ok (.istore_n 1, 1) := dk_60 (dk_at dksX2_beginOne_1 0 rfl rfl)
theorem dX2_beginOne_25 : decode cX2_beginOne 25 = .ok (.iload_n 1, 1) := dk_27 (dk_at dksX2_beginOne_1 1 rfl rfl)
theorem dX2_beginOne_26 : decode cX2_beginOne 26 = .ok (.ifCond .lt 13, 3) := dk_155 0 13 (dk_at dksX2_beginOne_1 2 rfl rfl)
theorem dX2_beginOne_29 : decode cX2_beginOne 29 = .ok (.aload_n 0, 1) := dk_42 (dk_at dksX2_beginOne_1 5 rfl rfl)
theorem dX2_beginOne_30 : decode cX2_beginOne 30 = .ok (.iload_n 1, 1) := dk_27 (dk_at dksX2_beginOne_1 6 rfl rfl)
theorem dX2_beginOne_31 : decode cX2_beginOne 31 = .ok (.invokevirtual 179, 3) := dk_182 0 179 (dk_at dksX2_beginOne_1 7 rfl rfl)
theorem dX2_beginOne_34 : decode cX2_beginOne 34 = .ok (.ifCond .ne 5, 3) := dk_154 0 5 (dk_at dksX2_beginOne_1 10 rfl rfl)
theorem dX2_beginOne_37 : decode cX2_beginOne 37 = .ok (.iconst 5, 1) := dk_8 (dk_at dksX2_beginOne_1 13 rfl rfl)
theorem dX2_beginOne_38 : decode cX2_beginOne 38 = .ok (.ireturn, 1) := dk_172 (dk_at dksX2_beginOne_1 14 rfl rfl)
theorem dX2_beginOne_39 : decode cX2_beginOne 39 = .ok (.aload_n 0, 1) := dk_42 (dk_at dksX2_beginOne_1 15 rfl rfl)
theorem dX2_beginOne_40 : decode cX2_beginOne 40 = .ok (.getfield 102, 3) := dk_180 0 102 (dk_at dksX2_beginOne_1 16 rfl rfl)
theorem dX2_beginOne_43 : decode cX2_beginOne 43 = .ok (.iconst 1, 1) := dk_4 (dk_at dksX2_beginOne_1 19 rfl rfl)
theorem dX2_beginOne_44 : decode cX2_beginOne 44 = .ok (.if_icmp .eq 7, 3) := dk_159 0 7 (dk_at dksX2_beginOne_1 20 rfl rfl)
theorem dX2_beginOne_47 : decode cX2_beginOne 47 = .ok (.iload_n 1, 1) := dk_27 (dk_at dksX2_beginOne_1 23 rfl rfl)
theorem dX2_beginOne_48 : decode cX2_beginOne 48 = .ok (.ifCond .lt 53, 3) := dk_155 0 53 (dk_at dksX2_beginOne_2 0 rfl rfl)
theorem dX2_beginOne_51 : decode cX2_beginOne 51 = .ok (.aload_n 0, 1) := dk_42 (dk_at dksX2_beginOne_2 3 rfl rfl)
theorem dX2_beginOne_52 : decode cX2_beginOne 52 = .ok (.aload_n 0, 1) := dk_42 (dk_at dksX2_beginOne_2 4 rfl rfl)
theorem dX2_beginOne_53 : decode cX2_beginOne 53 = .ok (.getfield 102, 3) := dk_180 0 102 (dk_at dksX2_beginOne_2 5 rfl rfl)
theorem dX2_beginOne_56 : decode cX2_beginOne 56 = .ok (.iconst 1, 1) := dk_4 (dk_at dksX2_beginOne_2 8 rfl rfl)
theorem dX2_beginOne_57 : decode cX2_beginOne 57 = .ok (.if_icmp .ne 7, 3) := dk_160 0 7 (dk_at dksX2_beginOne_2 9 rfl rfl)
theorem dX2_beginOne_60 : decode cX2_beginOne 60 = .ok (.iconst 0, 1) := dk_3 (dk_at dksX2_beginOne_2 12 rfl rfl)
theorem dX2_beginOne_61 : decode cX2_beginOne 61 = .ok (.goto 4, 3) := dk_167 0 4 (dk_at dksX2_beginOne_2 13 rfl rfl)
theorem dX2_beginOne_64 : decode cX2_beginOne 64 = .ok (.iconst 1, 1) := dk_4 (dk_at dksX2_beginOne_2 16 rfl rfl)
theorem dX2_beginOne_65 : decode cX2_beginOne 65 = .ok (.aload_n 0, 1) := dk_42 (dk_at dksX2_beginOne_2 17 rfl rfl)
theorem dX2_beginOne_66 : decode cX2_beginOne 66 = .ok (.getfield 102, 3) := dk_180 0 102 (dk_at dksX2_beginOne_2 18 rfl rfl)
theorem dX2_beginOne_69 : decode cX2_beginOne 69 = .ok (.iconst 1, 1) := dk_4 (dk_at dksX2_beginOne_2 21 rfl rfl)
theorem dX2_beginOne_70 : decode cX2_beginOne 70 = .ok (.if_icmp .ne 10, 3) := dk_160 0 10 (dk_at dksX2_beginOne_3 0 rfl rfl)
theorem dX2_beginOne_73 : decode cX2_beginOne 73 = .ok (.aload_n 0, 1) := dk_42 (dk_at dksX2_beginOne_3 3 rfl rfl)
theorem dX2_beginOne_74 : decode cX2_beginOne 74 = .ok (.getfield 109, 3) := dk_180 0 109 (dk_at dksX2_beginOne_3 4 rfl rfl)
theorem dX2_beginOne_77 : decode cX2_beginOne 77 = .ok (.goto 4, 3) := dk_167 0 4 (dk_at dksX2_beginOne_3 7 rfl rfl)
theorem dX2_beginOne_80 : decode cX2_beginOne 80 = .ok (.iload_n 1, 1) := dk_27 (dk_at dksX2_beginOne_3 10 rfl rfl)
theorem dX2_beginOne_81 : decode cX2_beginOne 81 = .ok (.invokevirtual 160, 3) := dk_182 0 160 (dk_at dksX2_beginOne_3 11 rfl rfl)
theorem dX2_beginOne_84 : decode cX2_beginOne 84 = .ok (.aload_n 0, 1) := dk_42 (dk_at dksX2_beginOne_3 14 rfl rfl)
theorem dX2_beginOne_85 : decode cX2_beginOne 85 = .ok (.invokevirtual 173, 3) := dk_182 0 173 (dk_at dksX2_beginOne_3 15 rfl rfl)
theorem dX2_beginOne_88 : decode cX2_beginOne 88 = .ok (.aload_n 0, 1) := dk_42 (dk_at dksX2_beginOne_3 18 rfl rfl)
theorem dX2_beginOne_89 : decode cX2_beginOne 89 = .ok (.iconst 1, 1) := dk_4 (dk_at dksX2_beginOne_3 19 rfl rfl)
theorem dX2_beginOne_90 : decode cX2_beginOne 90 = .ok (.putfield 182, 3) := dk_181 0 182 (dk_at dksX2_beginOne_3 20 rfl rfl)
theorem dX2_beginOne_93 : decode cX2_beginOne 93 = .ok (.aload_n 0, 1) := dk_42 (dk_at dksX2_beginOne_3 23 rfl rfl)
theorem dX2_beginOne_94 : decode cX2_beginOne 94 = .ok (.bipush 7, 2) := dk_16 7 (dk_at dksX2_beginOne_4 0 rfl rfl)
theorem dX2_beginOne_96 : decode cX2_beginOne 96 = .ok (.invokevirtual 185, 3) := dk_182 0 185 (dk_at dksX2_beginOne_4 2 rfl rfl)
theorem dX2_beginOne_99 : decode cX2_beginOne 99 = .ok (.iconst 0, 1) := dk_3 (dk_at dksX2_beginOne_4 5 rfl rfl)
theorem dX2_beginOne_100 : decode cX2_beginOne 100 = .ok (.ireturn, 1) := dk_172 (dk_at dksX2_beginOne_4 6 rfl rfl)
theorem dX2_beginOne_101 : decode cX2_beginOne 101 = .ok (.aload_n 0, 1) := dk_42 (dk_at dksX2_beginOne_4 7 rfl rfl)
theorem dX2_beginOne_102 : decode cX2_beginOne 102 = .ok (.getfield 102, 3) := dk_180 0 102 (dk_at dksX2_beginOne_4 8 rfl rfl)
theorem dX2_beginOne_105 : decode cX2_beginOne 105 = .ok (.bipush 40, 2) := dk_16 40 (dk_at dksX2_beginOne_4 11 rfl rfl)
theorem dX2_beginOne_107 : decode cX2_beginOne 107 = .ok (.if_icmp .ne 10, 3) := dk_160 0 10 (dk_at dksX2_beginOne_4 13 rfl rfl)
theorem dX2_beginOne_110 : decode cX2_beginOne 110 = .ok (.aload_n 0, 1) := dk_42 (dk_at dksX2_beginOne_4 16 rfl rfl)
theorem dX2_beginOne_111 : decode cX2_beginOne 111 = .ok (.bipush 40, 2) := dk_16 40 (dk_at dksX2_beginOne_4 17 rfl rfl)
theorem dX2_beginOne_113 : decode cX2_beginOne 113 = .ok (.invokevirtual 188, 3) := dk_182 0 188 (dk_at dksX2_beginOne_4 19 rfl rfl)
theorem dX2_beginOne_116 : decode cX2_beginOne 116 = .ok (.ireturn, 1) := dk_172 (dk_at dksX2_beginOne_4 22 rfl rfl)
theorem dX2_beginOne_117 : decode cX2_beginOne 117 = .ok (.aload_n 0, 1) := dk_42 (dk_at dksX2_beginOne_4 23 rfl rfl)
theorem dX2_beginOne_118 : decode cX2_beginOne 118 = .ok (.getfield 102, 3) := dk_180 0 102 (dk_at dksX2_beginOne_5 0 rfl rfl)
theorem dX2_beginOne_121 : decode cX2_beginOne 121 = .ok (.bipush 45, 2) := dk_16 45 (dk_at dksX2_beginOne_5 3 rfl rfl)
theorem dX2_beginOne_123 : decode cX2_beginOne 123 = .ok (.if_icmp .ne 9, 3) := dk_160 0 9 (dk_at dksX2_beginOne_5 5 rfl rfl)
theorem dX2_beginOne_126 : decode cX2_beginOne 126 = .ok (.aload_n 0, 1) := dk_42 (dk_at dksX2_beginOne_5 8 rfl rfl)
theorem dX2_beginOne_127 : decode cX2_beginOne 127 = .ok (.iconst 5, 1) := dk_8 (dk_at dksX2_beginOne_5 9 rfl rfl)
theorem dX2_beginOne_128 : decode cX2_beginOne 128 = .ok (.invokevirtual 188, 3) := dk_182 0 188 (dk_at dksX2_beginOne_5 10 rfl rfl)
theorem dX2_beginOne_131 : decode cX2_beginOne 131 = .ok (.ireturn, 1) := dk_172 (dk_at dksX2_beginOne_5 13 rfl rfl)
theorem dX2_beginOne_132 : decode cX2_beginOne 132 = .ok (.aload_n 0, 1) := dk_42 (dk_at dksX2_beginOne_5 14 rfl rfl)
theorem dX2_beginOne_133 : decode cX2_beginOne 133 = .ok (.bipush 114, 2) := dk_16 114 (dk_at dksX2_beginOne_5 15 rfl rfl)
theorem dX2_beginOne_135 : decode cX2_beginOne 135 = .ok (.bipush 105, 2) := dk_16 105 (dk_at dksX2_beginOne_5 17 rfl rfl)
theorem dX2_beginOne_137 : decode cX2_beginOne 137 = .ok (.bipush 110, 2) := dk_16 110 (dk_at dksX2_beginOne_5 19 rfl rfl)
theorem dX2_beginOne_139 : decode cX2_beginOne 139 = .ok (.bipush 103, 2) := dk_16 103 (dk_at dksX2_beginOne_5 21 rfl rfl)
theorem dX2_beginOne_141 : decode cX2_beginOne 141 = .ok (.bipush 115, 2) := dk_16 115 (dk_at dksX2_beginOne_6 0 rfl rfl)
theorem dX2_beginOne_143 : decode cX2_beginOne 143 = .ok (.invokestatic 137, 3) := dk_184 0 137 (dk_at dksX2_beginOne_6 2 rfl rfl)
theorem dX2_beginOne_146 : decode cX2_beginOne 146 = .ok (.invokevirtual 191, 3) := dk_182 0 191 (dk_at dksX2_beginOne_6 5 rfl rfl)
theorem dX2_beginOne_149 : decode cX2_beginOne 149 = .ok (.ifCond .eq 9, 3) := dk_153 0 9 (dk_at dksX2_beginOne_6 8 rfl rfl)
theorem dX2_beginOne_152 : decode cX2_beginOne 152 = .ok (.aload_n 0, 1) := dk_42 (dk_at dksX2_beginOne_6 11 rfl rfl)
theorem dX2_beginOne_153 : decode cX2_beginOne 153 = .ok (.iconst 2, 1) := dk_5 (dk_at dksX2_beginOne_6 12 rfl rfl)
theorem dX2_beginOne_154 : decode cX2_beginOne 154 = .ok (.invokevirtual 188, 3) := dk_182 0 188 (dk_at dksX2_beginOne_6 13 rfl rfl)
theorem dX2_beginOne_157 : decode cX2_beginOne 157 = .ok (.ireturn, 1) := dk_172 (dk_at dksX2_beginOne_6 16 rfl rfl)
theorem dX2_beginOne_158 : decode cX2_beginOne 158 = .ok (.aload_n 0, 1) := dk_42 (dk_at dksX2_beginOne_6 17 rfl rfl)
theorem dX2_beginOne_159 : decode cX2_beginOne 159 = .ok (.bipush 105, 2) := dk_16 105 (dk_at dksX2_beginOne_6 18 rfl rfl)
theorem dX2_beginOne_161 : decode cX2_beginOne 161 = .ok (.bipush 102, 2) := dk_16 102 (dk_at dksX2_beginOne_6 20 rfl rfl)
theorem dX2_beginOne_163 : decode cX2_beginOne 163 = .ok (.invokestatic 125, 3) := dk_184 0 125 (dk_at dksX2_beginOne_7 0 rfl rfl)
theorem dX2_beginOne_166 : decode cX2_beginOne 166 = .ok (.invokevirtual 191, 3) := dk_182 0 191 (dk_at dksX2_beginOne_7 3 rfl rfl)
theorem dX2_beginOne_169 : decode cX2_beginOne 169 = .ok (.ifCond .eq 10, 3) := dk_153 0 10 (dk_at dksX2_beginOne_7 6 rfl rfl)
theorem dX2_beginOne_172 : decode cX2_beginOne 172 = .ok (.aload_n 0, 1) := dk_42 (dk_at dksX2_beginOne_7 9 rfl rfl)
theorem dX2_beginOne_173 : decode cX2_beginOne 173 = .ok (.bipush 41, 2) := dk_16 41 (dk_at dksX2_beginOne_7 10 rfl rfl)
theorem dX2_beginOne_175 : decode cX2_beginOne 175 = .ok (.invokevirtual 188, 3) := dk_182 0 188 (dk_at dksX2_beginOne_7 12 rfl rfl)
theorem dX2_beginOne_178 : decode cX2_beginOne 178 = .ok (.ireturn, 1) := dk_172 (dk_at dksX2_beginOne_7 15 rfl rfl)
theorem dX2_beginOne_179 : decode cX2_beginOne 179 = .ok (.aload_n 0, 1) := dk_42 (dk_at dksX2_beginOne_7 16 rfl rfl)
theorem dX2_beginOne_180 : decode cX2_beginOne 180 = .ok (.bipush 110, 2) := dk_16 110 (dk_at dksX2_beginOne_7 17 rfl rfl)
theorem dX2_beginOne_182 : decode cX2_beginOne 182 = .ok (.bipush 111, 2) := dk_16 111 (dk_at dksX2_beginOne_7 19 rfl rfl)
theorem dX2_beginOne_184 : decode cX2_beginOne 184 = .ok (.bipush 116, 2) := dk_16 116 (dk_at dksX2_beginOne_7 21 rfl rfl)
theorem dX2_beginOne_186 : decode cX2_beginOne 186 = .ok (.invokestatic 129, 3) := dk_184 0 129 (dk_at dksX2_beginOne_8 0 rfl rfl)
theorem dX2_beginOne_189 : decode cX2_beginOne 189 = .ok (.invokevirtual 191, 3) := dk_182 0 191 (dk_at dksX2_beginOne_8 3 rfl rfl)
theorem dX2_beginOne_192 : decode cX2_beginOne 192 = .ok (.ifCond .eq 19, 3) := dk_153 0 19 (dk_at dksX2_beginOne_8 6 rfl rfl)
theorem dX2_beginOne_195 : decode cX2_beginOne 195 = .ok (.aload_n 0, 1) := dk_42 (dk_at dksX2_beginOne_8 9 rfl rfl)
theorem dX2_beginOne_196 : decode cX2_beginOne 196 = .ok (.invokevirtual 195, 3) := dk_182 0 195 (dk_at dksX2_beginOne_8 10 rfl rfl)
theorem dX2_beginOne_199 : decode cX2_beginOne 199 = .ok (.ifCond .eq 12, 3) := dk_153 0 12 (dk_at dksX2_beginOne_8 13 rfl rfl)
theorem dX2_beginOne_202 : decode cX2_beginOne 202 = .ok (.aload_n 0, 1) := dk_42 (dk_at dksX2_beginOne_8 16 rfl rfl)
theorem dX2_beginOne_203 : decode cX2_beginOne 203 = .ok (.bipush 20, 2) := dk_16 20 (dk_at dksX2_beginOne_8 17 rfl rfl)
theorem dX2_beginOne_205 : decode cX2_beginOne 205 = .ok (.invokevirtual 188, 3) := dk_182 0 188 (dk_at dksX2_beginOne_8 19 rfl rfl)
theorem dX2_beginOne_208 : decode cX2_beginOne 208 = .ok (.goto 4, 3) := dk_167 0 4 (dk_at dksX2_beginOne_9 0 rfl rfl)
theorem dX2_beginOne_211 : decode cX2_beginOne 211 = .ok (.iconst 1, 1) := dk_4 (dk_at dksX2_beginOne_9 3 rfl rfl)
theorem dX2_beginOne_212 : decode cX2_beginOne 212 = .ok (.ireturn, 1) := dk_172 (dk_at dksX2_beginOne_9 4 rfl rfl)
abbrev cX2_nameOf : ByteArray := prog_21_method_32_code
def yX2_nameOf : MethodName := ⟨RX2, "nameOf", "()I"⟩
def dkwX2_nameOf_8 : List UInt8 := [16, 106, 16, 97, 16, 109, 184, 0, 129, 148, 154, 0, 8, 16, 9, 167, 0, 4, 2, 172]
abbrev dktX2_nameOf_8 : List UInt8 := dkwX2_nameOf_8 ++ []
def dkwX2_nameOf_7 : List UInt8 := [16, 102, 16, 97, 16, 115, 16, 116, 184, 0, 133, 148, 154, 0, 8, 16, 8, 167, 0, 26, 42, 180, 0, 116]
abbrev dktX2_nameOf_7 : List UInt8 := dkwX2_nameOf_7 ++ dktX2_nameOf_8
def dkwX2_nameOf_6 : List UInt8 := [16, 104, 16, 101, 16, 97, 16, 114, 16, 100, 184, 0, 137, 148, 154, 0, 6, 16, 7, 172, 42, 180, 0, 116]
abbrev dktX2_nameOf_6 : List UInt8 := dkwX2_nameOf_6 ++ dktX2_nameOf_7
def dkwX2_nameOf_5 : List UInt8 := [42, 180, 0, 116, 16, 100, 16, 117, 16, 101, 184, 0, 129, 148, 154, 0, 6, 16, 6, 172, 42, 180, 0, 116]
abbrev dktX2_nameOf_5 : List UInt8 := dkwX2_nameOf_5 ++ dktX2_nameOf_6
def dkwX2_nameOf_4 : List UInt8 := [154, 0, 5, 7, 172, 42, 180, 0, 116, 16, 114, 16, 117, 16, 110, 184, 0, 129, 148, 154, 0, 5, 8, 172]
abbrev dktX2_nameOf_4 : List UInt8 := dkwX2_nameOf_4 ++ dktX2_nameOf_5
def dkwX2_nameOf_3 : List UInt8 := [148, 154, 0, 5, 6, 172, 42, 180, 0, 116, 16, 119, 16, 97, 16, 108, 16, 107, 184, 0, 133, 148]
abbrev dktX2_nameOf_3 : List UInt8 := dkwX2_nameOf_3 ++ dktX2_nameOf_4
def dkwX2_nameOf_2 : List UInt8 := [184, 0, 129, 148, 154, 0, 5, 5, 172, 42, 180, 0, 116, 16, 114, 16, 111, 16, 97, 16, 100, 184, 0, 133]
abbrev dktX2_nameOf_2 : List UInt8 := dkwX2_nameOf_2 ++ dktX2_nameOf_3
def dkwX2_nameOf_1 : List UInt8 := [154, 0, 5, 3, 172, 42, 182, 0, 147, 153, 0, 5, 4, 172, 42, 180, 0, 116, 16, 119, 16, 104, 16, 111]
abbrev dktX2_nameOf_1 : List UInt8 := dkwX2_nameOf_1 ++ dktX2_nameOf_2
def dkwX2_nameOf_0 : List UInt8 := [42, 180, 0, 102, 5, 159, 0, 5, 2, 172, 42, 180, 0, 116, 16, 100, 16, 97, 16, 121, 184, 0, 129, 148]
abbrev dktX2_nameOf_0 : List UInt8 := dkwX2_nameOf_0 ++ dktX2_nameOf_1
theorem dksX2_nameOf_0 : cX2_nameOf.data.toList.drop 0 = dktX2_nameOf_0 := by decide +kernel
theorem dksX2_nameOf_1 : cX2_nameOf.data.toList.drop 24 = dktX2_nameOf_1 := dk_seg dksX2_nameOf_0 24 rfl rfl
theorem dksX2_nameOf_2 : cX2_nameOf.data.toList.drop 48 = dktX2_nameOf_2 := dk_seg dksX2_nameOf_1 24 rfl rfl
theorem dksX2_nameOf_3 : cX2_nameOf.data.toList.drop 72 = dktX2_nameOf_3 := dk_seg dksX2_nameOf_2 24 rfl rfl
theorem dksX2_nameOf_4 : cX2_nameOf.data.toList.drop 94 = dktX2_nameOf_4 := dk_seg dksX2_nameOf_3 22 rfl rfl
theorem dksX2_nameOf_5 : cX2_nameOf.data.toList.drop 118 = dktX2_nameOf_5 := dk_seg dksX2_nameOf_4 24 rfl rfl
theorem dksX2_nameOf_6 : cX2_nameOf.data.toList.drop 142 = dktX2_nameOf_6 := dk_seg dksX2_nameOf_5 24 rfl rfl
theorem dksX2_nameOf_7 : cX2_nameOf.data.toList.drop 166 = dktX2_nameOf_7 := dk_seg dksX2_nameOf_6 24 rfl rfl
theorem dksX2_nameOf_8 : cX2_nameOf.data.toList.drop 190 = dktX2_nameOf_8 := dk_seg dksX2_nameOf_7 24 rfl rfl
theorem dX2_nameOf_0 : decode cX2_nameOf 0 = .ok (.aload_n 0, 1) := dk_42 (dk_at dksX2_nameOf_0 0 rfl rfl)
theorem dX2_nameOf_1 : decode cX2_nameOf 1 = .ok (.getfield 102, 3) := dk_180 0 102 (dk_at dksX2_nameOf_0 1 rfl rfl)
theorem dX2_nameOf_4 : decode cX2_nameOf 4 = .ok (.iconst 2, 1) := dk_5 (dk_at dksX2_nameOf_0 4 rfl rfl)
theorem dX2_nameOf_5 : decode cX2_nameOf 5 = .ok (.if_icmp .eq 5, 3) := dk_159 0 5 (dk_at dksX2_nameOf_0 5 rfl rfl)
theorem dX2_nameOf_8 : decode cX2_nameOf 8 = .ok (.iconst (-1), 1) := dk_2 (dk_at dksX2_nameOf_0 8 rfl rfl)
theorem dX2_nameOf_9 : decode cX2_nameOf 9 = .ok (.ireturn, 1) := dk_172 (dk_at dksX2_nameOf_0 9 rfl rfl)
theorem dX2_nameOf_10 : decode cX2_nameOf 10 = .ok (.aload_n 0, 1) := dk_42 (dk_at dksX2_nameOf_0 10 rfl rfl)
theorem dX2_nameOf_11 : decode cX2_nameOf 11 = .ok (.getfield 116, 3) := dk_180 0 116 (dk_at dksX2_nameOf_0 11 rfl rfl)
theorem dX2_nameOf_14 : decode cX2_nameOf 14 = .ok (.bipush 100, 2) := dk_16 100 (dk_at dksX2_nameOf_0 14 rfl rfl)
theorem dX2_nameOf_16 : decode cX2_nameOf 16 = .ok (.bipush 97, 2) := dk_16 97 (dk_at dksX2_nameOf_0 16 rfl rfl)
theorem dX2_nameOf_18 : decode cX2_nameOf 18 = .ok (.bipush 121, 2) := dk_16 121 (dk_at dksX2_nameOf_0 18 rfl rfl)
theorem dX2_nameOf_20 : decode cX2_nameOf 20 = .ok (.invokestatic 129, 3) := dk_184 0 129 (dk_at dksX2_nameOf_0 20 rfl rfl)
theorem dX2_nameOf_23 : decode cX2_nameOf 23 = .ok (.lcmp, 1) := dk_148 (dk_at dksX2_nameOf_0 23 rfl rfl)
theorem dX2_nameOf_24 : decode cX2_nameOf 24 = .ok (.ifCond .ne 5, 3) := dk_154 0 5 (dk_at dksX2_nameOf_1 0 rfl rfl)
theorem dX2_nameOf_27 : decode cX2_nameOf 27 = .ok (.iconst 0, 1) := dk_3 (dk_at dksX2_nameOf_1 3 rfl rfl)
theorem dX2_nameOf_28 : decode cX2_nameOf 28 = .ok (.ireturn, 1) := dk_172 (dk_at dksX2_nameOf_1 4 rfl rfl)
theorem dX2_nameOf_29 : decode cX2_nameOf 29 = .ok (.aload_n 0, 1) := dk_42 (dk_at dksX2_nameOf_1 5 rfl rfl)
theorem dX2_nameOf_30 : decode cX2_nameOf 30 = .ok (.invokevirtual 147, 3) := dk_182 0 147 (dk_at dksX2_nameOf_1 6 rfl rfl)
theorem dX2_nameOf_33 : decode cX2_nameOf 33 = .ok (.ifCond .eq 5, 3) := dk_153 0 5 (dk_at dksX2_nameOf_1 9 rfl rfl)
theorem dX2_nameOf_36 : decode cX2_nameOf 36 = .ok (.iconst 1, 1) := dk_4 (dk_at dksX2_nameOf_1 12 rfl rfl)
theorem dX2_nameOf_37 : decode cX2_nameOf 37 = .ok (.ireturn, 1) := dk_172 (dk_at dksX2_nameOf_1 13 rfl rfl)
theorem dX2_nameOf_38 : decode cX2_nameOf 38 = .ok (.aload_n 0, 1) := dk_42 (dk_at dksX2_nameOf_1 14 rfl rfl)
theorem dX2_nameOf_39 : decode cX2_nameOf 39 = .ok (.getfield 116, 3) := dk_180 0 116 (dk_at dksX2_nameOf_1 15 rfl rfl)
theorem dX2_nameOf_42 : decode cX2_nameOf 42 = .ok (.bipush 119, 2) := dk_16 119 (dk_at dksX2_nameOf_1 18 rfl rfl)
theorem dX2_nameOf_44 : decode cX2_nameOf 44 = .ok (.bipush 104, 2) := dk_16 104 (dk_at dksX2_nameOf_1 20 rfl rfl)
theorem dX2_nameOf_46 : decode cX2_nameOf 46 = .ok (.bipush 111, 2) := dk_16 111 (dk_at dksX2_nameOf_1 22 rfl rfl)
theorem dX2_nameOf_48 : decode cX2_nameOf 48 = .ok (.invokestatic 129, 3) := dk_184 0 129 (dk_at dksX2_nameOf_2 0 rfl rfl)
theorem dX2_nameOf_51 : decode cX2_nameOf 51 = .ok (.lcmp, 1) := dk_148 (dk_at dksX2_nameOf_2 3 rfl rfl)
theorem dX2_nameOf_52 : decode cX2_nameOf 52 = .ok (.ifCond .ne 5, 3) := dk_154 0 5 (dk_at dksX2_nameOf_2 4 rfl rfl)
theorem dX2_nameOf_55 : decode cX2_nameOf 55 = .ok (.iconst 2, 1) := dk_5 (dk_at dksX2_nameOf_2 7 rfl rfl)
theorem dX2_nameOf_56 : decode cX2_nameOf 56 = .ok (.ireturn, 1) := dk_172 (dk_at dksX2_nameOf_2 8 rfl rfl)
theorem dX2_nameOf_57 : decode cX2_nameOf 57 = .ok (.aload_n 0, 1) := dk_42 (dk_at dksX2_nameOf_2 9 rfl rfl)
theorem dX2_nameOf_58 : decode cX2_nameOf 58 = .ok (.getfield 116, 3) := dk_180 0 116 (dk_at dksX2_nameOf_2 10 rfl rfl)
theorem dX2_nameOf_61 : decode cX2_nameOf 61 = .ok (.bipush 114, 2) := dk_16 114 (dk_at dksX2_nameOf_2 13 rfl rfl)
theorem dX2_nameOf_63 : decode cX2_nameOf 63 = .ok (.bipush 111, 2) := dk_16 111 (dk_at dksX2_nameOf_2 15 rfl rfl)
theorem dX2_nameOf_65 : decode cX2_nameOf 65 = .ok (.bipush 97, 2) := dk_16 97 (dk_at dksX2_nameOf_2 17 rfl rfl)
theorem dX2_nameOf_67 : decode cX2_nameOf 67 = .ok (.bipush 100, 2) := dk_16 100 (dk_at dksX2_nameOf_2 19 rfl rfl)
theorem dX2_nameOf_69 : decode cX2_nameOf 69 = .ok (.invokestatic 133, 3) := dk_184 0 133 (dk_at dksX2_nameOf_2 21 rfl rfl)
theorem dX2_nameOf_72 : decode cX2_nameOf 72 = .ok (.lcmp, 1) := dk_148 (dk_at dksX2_nameOf_3 0 rfl rfl)
theorem dX2_nameOf_73 : decode cX2_nameOf 73 = .ok (.ifCond .ne 5, 3) := dk_154 0 5 (dk_at dksX2_nameOf_3 1 rfl rfl)
theorem dX2_nameOf_76 : decode cX2_nameOf 76 = .ok (.iconst 3, 1) := dk_6 (dk_at dksX2_nameOf_3 4 rfl rfl)
theorem dX2_nameOf_77 : decode cX2_nameOf 77 = .ok (.ireturn, 1) := dk_172 (dk_at dksX2_nameOf_3 5 rfl rfl)
theorem dX2_nameOf_78 : decode cX2_nameOf 78 = .ok (.aload_n 0, 1) := dk_42 (dk_at dksX2_nameOf_3 6 rfl rfl)
theorem dX2_nameOf_79 : decode cX2_nameOf 79 = .ok (.getfield 116, 3) := dk_180 0 116 (dk_at dksX2_nameOf_3 7 rfl rfl)
theorem dX2_nameOf_82 : decode cX2_nameOf 82 = .ok (.bipush 119, 2) := dk_16 119 (dk_at dksX2_nameOf_3 10 rfl rfl)
theorem dX2_nameOf_84 : decode cX2_nameOf 84 = .ok (.bipush 97, 2) := dk_16 97 (dk_at dksX2_nameOf_3 12 rfl rfl)
theorem dX2_nameOf_86 : decode cX2_nameOf 86 = .ok (.bipush 108, 2) := dk_16 108 (dk_at dksX2_nameOf_3 14 rfl rfl)
theorem dX2_nameOf_88 : decode cX2_nameOf 88 = .ok (.bipush 107, 2) := dk_16 107 (dk_at dksX2_nameOf_3 16 rfl rfl)
theorem dX2_nameOf_90 : decode cX2_nameOf 90 = .ok (.invokestatic 133, 3) := dk_184 0 133 (dk_at dksX2_nameOf_3 18 rfl rfl)
theorem dX2_nameOf_93 : decode cX2_nameOf 93 = .ok (.lcmp, 1) := dk_148 (dk_at dksX2_nameOf_3 21 rfl rfl)
theorem dX2_nameOf_94 : decode cX2_nameOf 94 = .ok (.ifCond .ne 5, 3) := dk_154 0 5 (dk_at dksX2_nameOf_4 0 rfl rfl)
theorem dX2_nameOf_97 : decode cX2_nameOf 97 = .ok (.iconst 4, 1) := dk_7 (dk_at dksX2_nameOf_4 3 rfl rfl)
theorem dX2_nameOf_98 : decode cX2_nameOf 98 = .ok (.ireturn, 1) := dk_172 (dk_at dksX2_nameOf_4 4 rfl rfl)
theorem dX2_nameOf_99 : decode cX2_nameOf 99 = .ok (.aload_n 0, 1) := dk_42 (dk_at dksX2_nameOf_4 5 rfl rfl)
theorem dX2_nameOf_100 : decode cX2_nameOf 100 = .ok (.getfield 116, 3) := dk_180 0 116 (dk_at dksX2_nameOf_4 6 rfl rfl)
theorem dX2_nameOf_103 : decode cX2_nameOf 103 = .ok (.bipush 114, 2) := dk_16 114 (dk_at dksX2_nameOf_4 9 rfl rfl)
theorem dX2_nameOf_105 : decode cX2_nameOf 105 = .ok (.bipush 117, 2) := dk_16 117 (dk_at dksX2_nameOf_4 11 rfl rfl)
theorem dX2_nameOf_107 : decode cX2_nameOf 107 = .ok (.bipush 110, 2) := dk_16 110 (dk_at dksX2_nameOf_4 13 rfl rfl)
theorem dX2_nameOf_109 : decode cX2_nameOf 109 = .ok (.invokestatic 129, 3) := dk_184 0 129 (dk_at dksX2_nameOf_4 15 rfl rfl)
theorem dX2_nameOf_112 : decode cX2_nameOf 112 = .ok (.lcmp, 1) := dk_148 (dk_at dksX2_nameOf_4 18 rfl rfl)
theorem dX2_nameOf_113 : decode cX2_nameOf 113 = .ok (.ifCond .ne 5, 3) := dk_154 0 5 (dk_at dksX2_nameOf_4 19 rfl rfl)
theorem dX2_nameOf_116 : decode cX2_nameOf 116 = .ok (.iconst 5, 1) := dk_8 (dk_at dksX2_nameOf_4 22 rfl rfl)
theorem dX2_nameOf_117 : decode cX2_nameOf 117 = .ok (.ireturn, 1) := dk_172 (dk_at dksX2_nameOf_4 23 rfl rfl)
theorem dX2_nameOf_118 : decode cX2_nameOf 118 = .ok (.aload_n 0, 1) := dk_42 (dk_at dksX2_nameOf_5 0 rfl rfl)
theorem dX2_nameOf_119 : decode cX2_nameOf 119 = .ok (.getfield 116, 3) := dk_180 0 116 (dk_at dksX2_nameOf_5 1 rfl rfl)
theorem dX2_nameOf_122 : decode cX2_nameOf 122 = .ok (.bipush 100, 2) := dk_16 100 (dk_at dksX2_nameOf_5 4 rfl rfl)
theorem dX2_nameOf_124 : decode cX2_nameOf 124 = .ok (.bipush 117, 2) := dk_16 117 (dk_at dksX2_nameOf_5 6 rfl rfl)
theorem dX2_nameOf_126 : decode cX2_nameOf 126 = .ok (.bipush 101, 2) := dk_16 101 (dk_at dksX2_nameOf_5 8 rfl rfl)
theorem dX2_nameOf_128 : decode cX2_nameOf 128 = .ok (.invokestatic 129, 3) := dk_184 0 129 (dk_at dksX2_nameOf_5 10 rfl rfl)
theorem dX2_nameOf_131 : decode cX2_nameOf 131 = .ok (.lcmp, 1) := dk_148 (dk_at dksX2_nameOf_5 13 rfl rfl)
theorem dX2_nameOf_132 : decode cX2_nameOf 132 = .ok (.ifCond .ne 6, 3) := dk_154 0 6 (dk_at dksX2_nameOf_5 14 rfl rfl)
theorem dX2_nameOf_135 : decode cX2_nameOf 135 = .ok (.bipush 6, 2) := dk_16 6 (dk_at dksX2_nameOf_5 17 rfl rfl)
theorem dX2_nameOf_137 : decode cX2_nameOf 137 = .ok (.ireturn, 1) := dk_172 (dk_at dksX2_nameOf_5 19 rfl rfl)
theorem dX2_nameOf_138 : decode cX2_nameOf 138 = .ok (.aload_n 0, 1) := dk_42 (dk_at dksX2_nameOf_5 20 rfl rfl)
theorem dX2_nameOf_139 : decode cX2_nameOf 139 = .ok (.getfield 116, 3) := dk_180 0 116 (dk_at dksX2_nameOf_5 21 rfl rfl)
theorem dX2_nameOf_142 : decode cX2_nameOf 142 = .ok (.bipush 104, 2) := dk_16 104 (dk_at dksX2_nameOf_6 0 rfl rfl)
theorem dX2_nameOf_144 : decode cX2_nameOf 144 = .ok (.bipush 101, 2) := dk_16 101 (dk_at dksX2_nameOf_6 2 rfl rfl)
theorem dX2_nameOf_146 : decode cX2_nameOf 146 = .ok (.bipush 97, 2) := dk_16 97 (dk_at dksX2_nameOf_6 4 rfl rfl)
theorem dX2_nameOf_148 : decode cX2_nameOf 148 = .ok (.bipush 114, 2) := dk_16 114 (dk_at dksX2_nameOf_6 6 rfl rfl)
theorem dX2_nameOf_150 : decode cX2_nameOf 150 = .ok (.bipush 100, 2) := dk_16 100 (dk_at dksX2_nameOf_6 8 rfl rfl)
theorem dX2_nameOf_152 : decode cX2_nameOf 152 = .ok (.invokestatic 137, 3) := dk_184 0 137 (dk_at dksX2_nameOf_6 10 rfl rfl)
theorem dX2_nameOf_155 : decode cX2_nameOf 155 = .ok (.lcmp, 1) := dk_148 (dk_at dksX2_nameOf_6 13 rfl rfl)
theorem dX2_nameOf_156 : decode cX2_nameOf 156 = .ok (.ifCond .ne 6, 3) := dk_154 0 6 (dk_at dksX2_nameOf_6 14 rfl rfl)
theorem dX2_nameOf_159 : decode cX2_nameOf 159 = .ok (.bipush 7, 2) := dk_16 7 (dk_at dksX2_nameOf_6 17 rfl rfl)
theorem dX2_nameOf_161 : decode cX2_nameOf 161 = .ok (.ireturn, 1) := dk_172 (dk_at dksX2_nameOf_6 19 rfl rfl)
theorem dX2_nameOf_162 : decode cX2_nameOf 162 = .ok (.aload_n 0, 1) := dk_42 (dk_at dksX2_nameOf_6 20 rfl rfl)
theorem dX2_nameOf_163 : decode cX2_nameOf 163 = .ok (.getfield 116, 3) := dk_180 0 116 (dk_at dksX2_nameOf_6 21 rfl rfl)
theorem dX2_nameOf_166 : decode cX2_nameOf 166 = .ok (.bipush 102, 2) := dk_16 102 (dk_at dksX2_nameOf_7 0 rfl rfl)
theorem dX2_nameOf_168 : decode cX2_nameOf 168 = .ok (.bipush 97, 2) := dk_16 97 (dk_at dksX2_nameOf_7 2 rfl rfl)
theorem dX2_nameOf_170 : decode cX2_nameOf 170 = .ok (.bipush 115, 2) := dk_16 115 (dk_at dksX2_nameOf_7 4 rfl rfl)
theorem dX2_nameOf_172 : decode cX2_nameOf 172 = .ok (.bipush 116, 2) := dk_16 116 (dk_at dksX2_nameOf_7 6 rfl rfl)
theorem dX2_nameOf_174 : decode cX2_nameOf 174 = .ok (.invokestatic 133, 3) := dk_184 0 133 (dk_at dksX2_nameOf_7 8 rfl rfl)
theorem dX2_nameOf_177 : decode cX2_nameOf 177 = .ok (.lcmp, 1) := dk_148 (dk_at dksX2_nameOf_7 11 rfl rfl)
theorem dX2_nameOf_178 : decode cX2_nameOf 178 = .ok (.ifCond .ne 8, 3) := dk_154 0 8 (dk_at dksX2_nameOf_7 12 rfl rfl)
theorem dX2_nameOf_181 : decode cX2_nameOf 181 = .ok (.bipush 8, 2) := dk_16 8 (dk_at dksX2_nameOf_7 15 rfl rfl)
theorem dX2_nameOf_183 : decode cX2_nameOf 183 = .ok (.goto 26, 3) := dk_167 0 26 (dk_at dksX2_nameOf_7 17 rfl rfl)
theorem dX2_nameOf_186 : decode cX2_nameOf 186 = .ok (.aload_n 0, 1) := dk_42 (dk_at dksX2_nameOf_7 20 rfl rfl)
theorem dX2_nameOf_187 : decode cX2_nameOf 187 = .ok (.getfield 116, 3) := dk_180 0 116 (dk_at dksX2_nameOf_7 21 rfl rfl)
theorem dX2_nameOf_190 : decode cX2_nameOf 190 = .ok (.bipush 106, 2) := dk_16 106 (dk_at dksX2_nameOf_8 0 rfl rfl)
theorem dX2_nameOf_192 : decode cX2_nameOf 192 = .ok (.bipush 97, 2) := dk_16 97 (dk_at dksX2_nameOf_8 2 rfl rfl)
theorem dX2_nameOf_194 : decode cX2_nameOf 194 = .ok (.bipush 109, 2) := dk_16 109 (dk_at dksX2_nameOf_8 4 rfl rfl)
theorem dX2_nameOf_196 : decode cX2_nameOf 196 = .ok (.invokestatic 129, 3) := dk_184 0 129 (dk_at dksX2_nameOf_8 6 rfl rfl)
theorem dX2_nameOf_199 : decode cX2_nameOf 199 = .ok (.lcmp, 1) := dk_148 (dk_at dksX2_nameOf_8 9 rfl rfl)
theorem dX2_nameOf_200 : decode cX2_nameOf 200 = .ok (.ifCond .ne 8, 3) := dk_154 0 8 (dk_at dksX2_nameOf_8 10 rfl rfl)
theorem dX2_nameOf_203 : decode cX2_nameOf 203 = .ok (.bipush 9, 2) := dk_16 9 (dk_at dksX2_nameOf_8 13 rfl rfl)
theorem dX2_nameOf_205 : decode cX2_nameOf 205 = .ok (.goto 4, 3) := dk_167 0 4 (dk_at dksX2_nameOf_8 15 rfl rfl)
theorem dX2_nameOf_208 : decode cX2_nameOf 208 = .ok (.iconst (-1), 1) := dk_2 (dk_at dksX2_nameOf_8 18 rfl rfl)
theorem dX2_nameOf_209 : decode cX2_nameOf 209 = .ok (.ireturn, 1) := dk_172 (dk_at dksX2_nameOf_8 19 rfl rfl)
abbrev cX2_isWeather : ByteArray := prog_21_method_31_code
def yX2_isWeather : MethodName := ⟨RX2, "isWeather", "()Z"⟩
def dkwX2_isWeather_5 : List UInt8 := [184, 0, 129, 148, 154, 0, 7, 4, 167, 0, 4, 3, 172]
abbrev dktX2_isWeather_5 : List UInt8 := dkwX2_isWeather_5 ++ []
def dkwX2_isWeather_4 : List UInt8 := [182, 0, 95, 42, 42, 180, 0, 99, 16, 6, 96, 182, 0, 95, 184, 0, 129, 16, 104, 16, 101, 16, 114]
abbrev dktX2_isWeather_4 : List UInt8 := dkwX2_isWeather_4 ++ dktX2_isWeather_5
def dkwX2_isWeather_3 : List UInt8 := [184, 0, 133, 148, 154, 0, 54, 42, 42, 180, 0, 99, 7, 96, 182, 0, 95, 42, 42, 180, 0, 99, 8, 96]
abbrev dktX2_isWeather_3 : List UInt8 := dkwX2_isWeather_3 ++ dktX2_isWeather_4
def dkwX2_isWeather_2 : List UInt8 := [182, 0, 95, 42, 42, 180, 0, 99, 6, 96, 182, 0, 95, 184, 0, 133, 16, 119, 16, 101, 16, 97, 16, 116]
abbrev dktX2_isWeather_2 : List UInt8 := dkwX2_isWeather_2 ++ dktX2_isWeather_3
def dkwX2_isWeather_1 : List UInt8 := [180, 0, 99, 182, 0, 95, 42, 42, 180, 0, 99, 4, 96, 182, 0, 95, 42, 42, 180, 0, 99, 5, 96]
abbrev dktX2_isWeather_1 : List UInt8 := dkwX2_isWeather_1 ++ dktX2_isWeather_2
def dkwX2_isWeather_0 : List UInt8 := [42, 180, 0, 102, 5, 160, 0, 124, 42, 180, 0, 92, 42, 180, 0, 99, 100, 16, 7, 160, 0, 110, 42, 42]
abbrev dktX2_isWeather_0 : List UInt8 := dkwX2_isWeather_0 ++ dktX2_isWeather_1
theorem dksX2_isWeather_0 : cX2_isWeather.data.toList.drop 0 = dktX2_isWeather_0 := by decide +kernel
theorem dksX2_isWeather_1 : cX2_isWeather.data.toList.drop 24 = dktX2_isWeather_1 := dk_seg dksX2_isWeather_0 24 rfl rfl
theorem dksX2_isWeather_2 : cX2_isWeather.data.toList.drop 47 = dktX2_isWeather_2 := dk_seg dksX2_isWeather_1 23 rfl rfl
theorem dksX2_isWeather_3 : cX2_isWeather.data.toList.drop 71 = dktX2_isWeather_3 := dk_seg dksX2_isWeather_2 24 rfl rfl
theorem dksX2_isWeather_4 : cX2_isWeather.data.toList.drop 95 = dktX2_isWeather_4 := dk_seg dksX2_isWeather_3 24 rfl rfl
theorem dksX2_isWeather_5 : cX2_isWeather.data.toList.drop 118 = dktX2_isWeather_5 := dk_seg dksX2_isWeather_4 23 rfl rfl
theorem dX2_isWeather_0 : decode cX2_isWeather 0 = .ok (.aload_n 0, 1) := dk_42 (dk_at dksX2_isWeather_0 0 rfl rfl)
theorem dX2_isWeather_1 : decode cX2_isWeather 1 = .ok (.getfield 102, 3) := dk_180 0 102 (dk_at dksX2_isWeather_0 1 rfl rfl)
theorem dX2_isWeather_4 : decode cX2_isWeather 4 = .ok (.iconst 2, 1) := dk_5 (dk_at dksX2_isWeather_0 4 rfl rfl)
theorem dX2_isWeather_5 : decode cX2_isWeather 5 = .ok (.if_icmp .ne 124, 3) := dk_160 0 124 (dk_at dksX2_isWeather_0 5 rfl rfl)
theorem dX2_isWeather_8 : decode cX2_isWeather 8 = .ok (.aload_n 0, 1) := dk_42 (dk_at dksX2_isWeather_0 8 rfl rfl)
theorem dX2_isWeather_9 : decode cX2_isWeather 9 = .ok (.getfield 92, 3) := dk_180 0 92 (dk_at dksX2_isWeather_0 9 rfl rfl)
theorem dX2_isWeather_12 : decode cX2_isWeather 12 = .ok (.aload_n 0, 1) := dk_42 (dk_at dksX2_isWeather_0 12 rfl rfl)
theorem dX2_isWeather_13 : decode cX2_isWeather 13 = .ok (.getfield 99, 3) := dk_180 0 99 (dk_at dksX2_isWeather_0 13 rfl rfl)
theorem dX2_isWeather_16 : decode cX2_isWeather 16 = .ok (.isub, 1) := dk_100 (dk_at dksX2_isWeather_0 16 rfl rfl)
theorem dX2_isWeather_17 : decode cX2_isWeather 17 = .ok (.bipush 7, 2) := dk_16 7 (dk_at dksX2_isWeather_0 17 rfl rfl)
theorem dX2_isWeather_19 : decode cX2_isWeather 19 = .ok (.if_icmp .ne 110, 3) := dk_160 0 110 (dk_at dksX2_isWeather_0 19 rfl rfl)
theorem dX2_isWeather_22 : decode cX2_isWeather 22 = .ok (.aload_n 0, 1) := dk_42 (dk_at dksX2_isWeather_0 22 rfl rfl)
theorem dX2_isWeather_23 : decode cX2_isWeather 23 = .ok (.aload_n 0, 1) := dk_42 (dk_at dksX2_isWeather_0 23 rfl rfl)
theorem dX2_isWeather_24 : decode cX2_isWeather 24 = .ok (.getfield 99, 3) := dk_180 0 99 (dk_at dksX2_isWeather_1 0 rfl rfl)
theorem dX2_isWeather_27 : decode cX2_isWeather 27 = .ok (.invokevirtual 95, 3) := dk_182 0 95 (dk_at dksX2_isWeather_1 3 rfl rfl)
theorem dX2_isWeather_30 : decode cX2_isWeather 30 = .ok (.aload_n 0, 1) := dk_42 (dk_at dksX2_isWeather_1 6 rfl rfl)
theorem dX2_isWeather_31 : decode cX2_isWeather 31 = .ok (.aload_n 0, 1) := dk_42 (dk_at dksX2_isWeather_1 7 rfl rfl)
theorem dX2_isWeather_32 : decode cX2_isWeather 32 = .ok (.getfield 99, 3) := dk_180 0 99 (dk_at dksX2_isWeather_1 8 rfl rfl)
theorem dX2_isWeather_35 : decode cX2_isWeather 35 = .ok (.iconst 1, 1) := dk_4 (dk_at dksX2_isWeather_1 11 rfl rfl)
theorem dX2_isWeather_36 : decode cX2_isWeather 36 = .ok (.iadd, 1) := dk_96 (dk_at dksX2_isWeather_1 12 rfl rfl)
theorem dX2_isWeather_37 : decode cX2_isWeather 37 = .ok (.invokevirtual 95, 3) := dk_182 0 95 (dk_at dksX2_isWeather_1 13 rfl rfl)
theorem dX2_isWeather_40 : decode cX2_isWeather 40 = .ok (.aload_n 0, 1) := dk_42 (dk_at dksX2_isWeather_1 16 rfl rfl)
theorem dX2_isWeather_41 : decode cX2_isWeather 41 = .ok (.aload_n 0, 1) := dk_42 (dk_at dksX2_isWeather_1 17 rfl rfl)
theorem dX2_isWeather_42 : decode cX2_isWeather 42 = .ok (.getfield 99, 3) := dk_180 0 99 (dk_at dksX2_isWeather_1 18 rfl rfl)
theorem dX2_isWeather_45 : decode cX2_isWeather 45 = .ok (.iconst 2, 1) := dk_5 (dk_at dksX2_isWeather_1 21 rfl rfl)
theorem dX2_isWeather_46 : decode cX2_isWeather 46 = .ok (.iadd, 1) := dk_96 (dk_at dksX2_isWeather_1 22 rfl rfl)
theorem dX2_isWeather_47 : decode cX2_isWeather 47 = .ok (.invokevirtual 95, 3) := dk_182 0 95 (dk_at dksX2_isWeather_2 0 rfl rfl)
theorem dX2_isWeather_50 : decode cX2_isWeather 50 = .ok (.aload_n 0, 1) := dk_42 (dk_at dksX2_isWeather_2 3 rfl rfl)
theorem dX2_isWeather_51 : decode cX2_isWeather 51 = .ok (.aload_n 0, 1) := dk_42 (dk_at dksX2_isWeather_2 4 rfl rfl)
theorem dX2_isWeather_52 : decode cX2_isWeather 52 = .ok (.getfield 99, 3) := dk_180 0 99 (dk_at dksX2_isWeather_2 5 rfl rfl)
theorem dX2_isWeather_55 : decode cX2_isWeather 55 = .ok (.iconst 3, 1) := dk_6 (dk_at dksX2_isWeather_2 8 rfl rfl)
theorem dX2_isWeather_56 : decode cX2_isWeather 56 = .ok (.iadd, 1) := dk_96 (dk_at dksX2_isWeather_2 9 rfl rfl)
theorem dX2_isWeather_57 : decode cX2_isWeather 57 = .ok (.invokevirtual 95, 3) := dk_182 0 95 (dk_at dksX2_isWeather_2 10 rfl rfl)
theorem dX2_isWeather_60 : decode cX2_isWeather 60 = .ok (.invokestatic 133, 3) := dk_184 0 133 (dk_at dksX2_isWeather_2 13 rfl rfl)
theorem dX2_isWeather_63 : decode cX2_isWeather 63 = .ok (.bipush 119, 2) := dk_16 119 (dk_at dksX2_isWeather_2 16 rfl rfl)
theorem dX2_isWeather_65 : decode cX2_isWeather 65 = .ok (.bipush 101, 2) := dk_16 101 (dk_at dksX2_isWeather_2 18 rfl rfl)
theorem dX2_isWeather_67 : decode cX2_isWeather 67 = .ok (.bipush 97, 2) := dk_16 97 (dk_at dksX2_isWeather_2 20 rfl rfl)
theorem dX2_isWeather_69 : decode cX2_isWeather 69 = .ok (.bipush 116, 2) := dk_16 116 (dk_at dksX2_isWeather_2 22 rfl rfl)
theorem dX2_isWeather_71 : decode cX2_isWeather 71 = .ok (.invokestatic 133, 3) := dk_184 0 133 (dk_at dksX2_isWeather_3 0 rfl rfl)
theorem dX2_isWeather_74 : decode cX2_isWeather 74 = .ok (.lcmp, 1) := dk_148 (dk_at dksX2_isWeather_3 3 rfl rfl)
theorem dX2_isWeather_75 : decode cX2_isWeather 75 = .ok (.ifCond .ne 54, 3) := dk_154 0 54 (dk_at dksX2_isWeather_3 4 rfl rfl)
theorem dX2_isWeather_78 : decode cX2_isWeather 78 = .ok (.aload_n 0, 1) := dk_42 (dk_at dksX2_isWeather_3 7 rfl rfl)
theorem dX2_isWeather_79 : decode cX2_isWeather 79 = .ok (.aload_n 0, 1) := dk_42 (dk_at dksX2_isWeather_3 8 rfl rfl)
theorem dX2_isWeather_80 : decode cX2_isWeather 80 = .ok (.getfield 99, 3) := dk_180 0 99 (dk_at dksX2_isWeather_3 9 rfl rfl)
theorem dX2_isWeather_83 : decode cX2_isWeather 83 = .ok (.iconst 4, 1) := dk_7 (dk_at dksX2_isWeather_3 12 rfl rfl)
theorem dX2_isWeather_84 : decode cX2_isWeather 84 = .ok (.iadd, 1) := dk_96 (dk_at dksX2_isWeather_3 13 rfl rfl)
theorem dX2_isWeather_85 : decode cX2_isWeather 85 = .ok (.invokevirtual 95, 3) := dk_182 0 95 (dk_at dksX2_isWeather_3 14 rfl rfl)
theorem dX2_isWeather_88 : decode cX2_isWeather 88 = .ok (.aload_n 0, 1) := dk_42 (dk_at dksX2_isWeather_3 17 rfl rfl)
theorem dX2_isWeather_89 : decode cX2_isWeather 89 = .ok (.aload_n 0, 1) := dk_42 (dk_at dksX2_isWeather_3 18 rfl rfl)
theorem dX2_isWeather_90 : decode cX2_isWeather 90 = .ok (.getfield 99, 3) := dk_180 0 99 (dk_at dksX2_isWeather_3 19 rfl rfl)
theorem dX2_isWeather_93 : decode cX2_isWeather 93 = .ok (.iconst 5, 1) := dk_8 (dk_at dksX2_isWeather_3 22 rfl rfl)
theorem dX2_isWeather_94 : decode cX2_isWeather 94 = .ok (.iadd, 1) := dk_96 (dk_at dksX2_isWeather_3 23 rfl rfl)
theorem dX2_isWeather_95 : decode cX2_isWeather 95 = .ok (.invokevirtual 95, 3) := dk_182 0 95 (dk_at dksX2_isWeather_4 0 rfl rfl)
theorem dX2_isWeather_98 : decode cX2_isWeather 98 = .ok (.aload_n 0, 1) := dk_42 (dk_at dksX2_isWeather_4 3 rfl rfl)
theorem dX2_isWeather_99 : decode cX2_isWeather 99 = .ok (.aload_n 0, 1) := dk_42 (dk_at dksX2_isWeather_4 4 rfl rfl)
theorem dX2_isWeather_100 : decode cX2_isWeather 100 = .ok (.getfield 99, 3) := dk_180 0 99 (dk_at dksX2_isWeather_4 5 rfl rfl)
theorem dX2_isWeather_103 : decode cX2_isWeather 103 = .ok (.bipush 6, 2) := dk_16 6 (dk_at dksX2_isWeather_4 8 rfl rfl)
theorem dX2_isWeather_105 : decode cX2_isWeather 105 = .ok (.iadd, 1) := dk_96 (dk_at dksX2_isWeather_4 10 rfl rfl)
theorem dX2_isWeather_106 : decode cX2_isWeather 106 = .ok (.invokevirtual 95, 3) := dk_182 0 95 (dk_at dksX2_isWeather_4 11 rfl rfl)
theorem dX2_isWeather_109 : decode cX2_isWeather 109 = .ok (.invokestatic 129, 3) := dk_184 0 129 (dk_at dksX2_isWeather_4 14 rfl rfl)
theorem dX2_isWeather_112 : decode cX2_isWeather 112 = .ok (.bipush 104, 2) := dk_16 104 (dk_at dksX2_isWeather_4 17 rfl rfl)
theorem dX2_isWeather_114 : decode cX2_isWeather 114 = .ok (.bipush 101, 2) := dk_16 101 (dk_at dksX2_isWeather_4 19 rfl rfl)
theorem dX2_isWeather_116 : decode cX2_isWeather 116 = .ok (.bipush 114, 2) := dk_16 114 (dk_at dksX2_isWeather_4 21 rfl rfl)
theorem dX2_isWeather_118 : decode cX2_isWeather 118 = .ok (.invokestatic 129, 3) := dk_184 0 129 (dk_at dksX2_isWeather_5 0 rfl rfl)
theorem dX2_isWeather_121 : decode cX2_isWeather 121 = .ok (.lcmp, 1) := dk_148 (dk_at dksX2_isWeather_5 3 rfl rfl)
theorem dX2_isWeather_122 : decode cX2_isWeather 122 = .ok (.ifCond .ne 7, 3) := dk_154 0 7 (dk_at dksX2_isWeather_5 4 rfl rfl)
theorem dX2_isWeather_125 : decode cX2_isWeather 125 = .ok (.iconst 1, 1) := dk_4 (dk_at dksX2_isWeather_5 7 rfl rfl)
theorem dX2_isWeather_126 : decode cX2_isWeather 126 = .ok (.goto 4, 3) := dk_167 0 4 (dk_at dksX2_isWeather_5 8 rfl rfl)
theorem dX2_isWeather_129 : decode cX2_isWeather 129 = .ok (.iconst 0, 1) := dk_3 (dk_at dksX2_isWeather_5 11 rfl rfl)
theorem dX2_isWeather_130 : decode cX2_isWeather 130 = .ok (.ireturn, 1) := dk_172 (dk_at dksX2_isWeather_5 12 rfl rfl)
abbrev cX2_isOf : ByteArray := prog_21_method_33_code
def yX2_isOf : MethodName := ⟨RX2, "isOf", "(I)Z"⟩
def dkwX2_isOf_1 : List UInt8 := [180, 0, 151, 4, 160, 0, 7, 4, 167, 0, 4, 3, 172]
abbrev dktX2_isOf_1 : List UInt8 := dkwX2_isOf_1 ++ []
def dkwX2_isOf_0 : List UInt8 := [27, 16, 7, 161, 0, 27, 27, 16, 7, 160, 0, 13, 42, 180, 0, 151, 154, 0, 18, 167, 0, 11, 42]
abbrev dktX2_isOf_0 : List UInt8 := dkwX2_isOf_0 ++ dktX2_isOf_1
theorem dksX2_isOf_0 : cX2_isOf.data.toList.drop 0 = dktX2_isOf_0 := by decide +kernel
theorem dksX2_isOf_1 : cX2_isOf.data.toList.drop 23 = dktX2_isOf_1 := dk_seg dksX2_isOf_0 23 rfl rfl
theorem dX2_isOf_0 : decode cX2_isOf 0 = .ok (.iload_n 1, 1) := dk_27 (dk_at dksX2_isOf_0 0 rfl rfl)
theorem dX2_isOf_1 : decode cX2_isOf 1 = .ok (.bipush 7, 2) := dk_16 7 (dk_at dksX2_isOf_0 1 rfl rfl)
theorem dX2_isOf_3 : decode cX2_isOf 3 = .ok (.if_icmp .lt 27, 3) := dk_161 0 27 (dk_at dksX2_isOf_0 3 rfl rfl)
theorem dX2_isOf_6 : decode cX2_isOf 6 = .ok (.iload_n 1, 1) := dk_27 (dk_at dksX2_isOf_0 6 rfl rfl)
theorem dX2_isOf_7 : decode cX2_isOf 7 = .ok (.bipush 7, 2) := dk_16 7 (dk_at dksX2_isOf_0 7 rfl rfl)
theorem dX2_isOf_9 : decode cX2_isOf 9 = .ok (.if_icmp .ne 13, 3) := dk_160 0 13 (dk_at dksX2_isOf_0 9 rfl rfl)
theorem dX2_isOf_12 : decode cX2_isOf 12 = .ok (.aload_n 0, 1) := dk_42 (dk_at dksX2_isOf_0 12 rfl rfl)
theorem dX2_isOf_13 : decode cX2_isOf 13 = .ok (.getfield 151, 3) := dk_180 0 151 (dk_at dksX2_isOf_0 13 rfl rfl)
theorem dX2_isOf_16 : decode cX2_isOf 16 = .ok (.ifCond .ne 18, 3) := dk_154 0 18 (dk_at dksX2_isOf_0 16 rfl rfl)
theorem dX2_isOf_19 : decode cX2_isOf 19 = .ok (.goto 11, 3) := dk_167 0 11 (dk_at dksX2_isOf_0 19 rfl rfl)
theorem dX2_isOf_22 : decode cX2_isOf 22 = .ok (.aload_n 0, 1) := dk_42 (dk_at dksX2_isOf_0 22 rfl rfl)
theorem dX2_isOf_23 : decode cX2_isOf 23 = .ok (.getfield 151, 3) := dk_180 0 151 (dk_at dksX2_isOf_1 0 rfl rfl)
theorem dX2_isOf_26 : decode cX2_isOf 26 = .ok (.iconst 1, 1) := dk_4 (dk_at dksX2_isOf_1 3 rfl rfl)
theorem dX2_isOf_27 : decode cX2_isOf 27 = .ok (.if_icmp .ne 7, 3) := dk_160 0 7 (dk_at dksX2_isOf_1 4 rfl rfl)
theorem dX2_isOf_30 : decode cX2_isOf 30 = .ok (.iconst 1, 1) := dk_4 (dk_at dksX2_isOf_1 7 rfl rfl)
theorem dX2_isOf_31 : decode cX2_isOf 31 = .ok (.goto 4, 3) := dk_167 0 4 (dk_at dksX2_isOf_1 8 rfl rfl)
theorem dX2_isOf_34 : decode cX2_isOf 34 = .ok (.iconst 0, 1) := dk_3 (dk_at dksX2_isOf_1 11 rfl rfl)
theorem dX2_isOf_35 : decode cX2_isOf 35 = .ok (.ireturn, 1) := dk_172 (dk_at dksX2_isOf_1 12 rfl rfl)
abbrev cX2_opened : ByteArray := prog_21_method_40_code
def yX2_opened : MethodName := ⟨RX2, "opened", "(I)I"⟩
def dkwX2_opened_2 : List UInt8 := [172]
abbrev dktX2_opened_2 : List UInt8 := dkwX2_opened_2 ++ []
def dkwX2_opened_1 : List UInt8 := [180, 0, 29, 42, 180, 0, 154, 27, 79, 42, 89, 180, 0, 154, 4, 96, 181, 0, 154, 42, 182, 0, 173, 3]
abbrev dktX2_opened_1 : List UInt8 := dkwX2_opened_1 ++ dktX2_opened_2
def dkwX2_opened_0 : List UInt8 := [42, 180, 0, 164, 16, 8, 160, 0, 5, 6, 172, 42, 89, 180, 0, 164, 4, 96, 181, 0, 164, 42]
abbrev dktX2_opened_0 : List UInt8 := dkwX2_opened_0 ++ dktX2_opened_1
theorem dksX2_opened_0 : cX2_opened.data.toList.drop 0 = dktX2_opened_0 := by decide +kernel
theorem dksX2_opened_1 : cX2_opened.data.toList.drop 22 = dktX2_opened_1 := dk_seg dksX2_opened_0 22 rfl rfl
theorem dksX2_opened_2 : cX2_opened.data.toList.drop 46 = dktX2_opened_2 := dk_seg dksX2_opened_1 24 rfl rfl
theorem dX2_opened_0 : decode cX2_opened 0 = .ok (.aload_n 0, 1) := dk_42 (dk_at dksX2_opened_0 0 rfl rfl)
theorem dX2_opened_1 : decode cX2_opened 1 = .ok (.getfield 164, 3) := dk_180 0 164 (dk_at dksX2_opened_0 1 rfl rfl)
theorem dX2_opened_4 : decode cX2_opened 4 = .ok (.bipush 8, 2) := dk_16 8 (dk_at dksX2_opened_0 4 rfl rfl)
theorem dX2_opened_6 : decode cX2_opened 6 = .ok (.if_icmp .ne 5, 3) := dk_160 0 5 (dk_at dksX2_opened_0 6 rfl rfl)
theorem dX2_opened_9 : decode cX2_opened 9 = .ok (.iconst 3, 1) := dk_6 (dk_at dksX2_opened_0 9 rfl rfl)
theorem dX2_opened_10 : decode cX2_opened 10 = .ok (.ireturn, 1) := dk_172 (dk_at dksX2_opened_0 10 rfl rfl)
theorem dX2_opened_11 : decode cX2_opened 11 = .ok (.aload_n 0, 1) := dk_42 (dk_at dksX2_opened_0 11 rfl rfl)
theorem dX2_opened_12 : decode cX2_opened 12 = .ok (.dup, 1) := dk_89 (dk_at dksX2_opened_0 12 rfl rfl)
theorem dX2_opened_13 : decode cX2_opened 13 = .ok (.getfield 164, 3) := dk_180 0 164 (dk_at dksX2_opened_0 13 rfl rfl)
theorem dX2_opened_16 : decode cX2_opened 16 = .ok (.iconst 1, 1) := dk_4 (dk_at dksX2_opened_0 16 rfl rfl)
theorem dX2_opened_17 : decode cX2_opened 17 = .ok (.iadd, 1) := dk_96 (dk_at dksX2_opened_0 17 rfl rfl)
theorem dX2_opened_18 : decode cX2_opened 18 = .ok (.putfield 164, 3) := dk_181 0 164 (dk_at dksX2_opened_0 18 rfl rfl)
theorem dX2_opened_21 : decode cX2_opened 21 = .ok (.aload_n 0, 1) := dk_42 (dk_at dksX2_opened_0 21 rfl rfl)
theorem dX2_opened_22 : decode cX2_opened 22 = .ok (.getfield 29, 3) := dk_180 0 29 (dk_at dksX2_opened_1 0 rfl rfl)
theorem dX2_opened_25 : decode cX2_opened 25 = .ok (.aload_n 0, 1) := dk_42 (dk_at dksX2_opened_1 3 rfl rfl)
theorem dX2_opened_26 : decode cX2_opened 26 = .ok (.getfield 154, 3) := dk_180 0 154 (dk_at dksX2_opened_1 4 rfl rfl)
theorem dX2_opened_29 : decode cX2_opened 29 = .ok (.iload_n 1, 1) := dk_27 (dk_at dksX2_opened_1 7 rfl rfl)
theorem dX2_opened_30 : decode cX2_opened 30 = .ok (.iastore, 1) := dk_79 (dk_at dksX2_opened_1 8 rfl rfl)
theorem dX2_opened_31 : decode cX2_opened 31 = .ok (.aload_n 0, 1) := dk_42 (dk_at dksX2_opened_1 9 rfl rfl)
theorem dX2_opened_32 : decode cX2_opened 32 = .ok (.dup, 1) := dk_89 (dk_at dksX2_opened_1 10 rfl rfl)
theorem dX2_opened_33 : decode cX2_opened 33 = .ok (.getfield 154, 3) := dk_180 0 154 (dk_at dksX2_opened_1 11 rfl rfl)
theorem dX2_opened_36 : decode cX2_opened 36 = .ok (.iconst 1, 1) := dk_4 (dk_at dksX2_opened_1 14 rfl rfl)
theorem dX2_opened_37 : decode cX2_opened 37 = .ok (.iadd, 1) := dk_96 (dk_at dksX2_opened_1 15 rfl rfl)
theorem dX2_opened_38 : decode cX2_opened 38 = .ok (.putfield 154, 3) := dk_181 0 154 (dk_at dksX2_opened_1 16 rfl rfl)
theorem dX2_opened_41 : decode cX2_opened 41 = .ok (.aload_n 0, 1) := dk_42 (dk_at dksX2_opened_1 19 rfl rfl)
theorem dX2_opened_42 : decode cX2_opened 42 = .ok (.invokevirtual 173, 3) := dk_182 0 173 (dk_at dksX2_opened_1 20 rfl rfl)
theorem dX2_opened_45 : decode cX2_opened 45 = .ok (.iconst 0, 1) := dk_3 (dk_at dksX2_opened_1 23 rfl rfl)
theorem dX2_opened_46 : decode cX2_opened 46 = .ok (.ireturn, 1) := dk_172 (dk_at dksX2_opened_2 0 rfl rfl)
abbrev cX2_isAskAhead : ByteArray := prog_21_method_39_code
def yX2_isAskAhead : MethodName := ⟨RX2, "isAskAhead", "()Z"⟩
def dkwX2_isAskAhead_2 : List UInt8 := [153, 0, 7, 4, 167, 0, 4, 3, 172]
abbrev dktX2_isAskAhead_2 : List UInt8 := dkwX2_isAskAhead_2 ++ []
def dkwX2_isAskAhead_1 : List UInt8 := [162, 0, 25, 42, 180, 0, 29, 42, 180, 0, 154, 4, 100, 46, 184, 0, 157, 4, 6, 184, 0, 66]
abbrev dktX2_isAskAhead_1 : List UInt8 := dkwX2_isAskAhead_1 ++ dktX2_isAskAhead_2
def dkwX2_isAskAhead_0 : List UInt8 := [42, 182, 0, 170, 16, 41, 160, 0, 45, 42, 180, 0, 29, 42, 180, 0, 154, 4, 100, 46, 16, 40]
abbrev dktX2_isAskAhead_0 : List UInt8 := dkwX2_isAskAhead_0 ++ dktX2_isAskAhead_1
theorem dksX2_isAskAhead_0 : cX2_isAskAhead.data.toList.drop 0 = dktX2_isAskAhead_0 := by decide +kernel
theorem dksX2_isAskAhead_1 : cX2_isAskAhead.data.toList.drop 22 = dktX2_isAskAhead_1 := dk_seg dksX2_isAskAhead_0 22 rfl rfl
theorem dksX2_isAskAhead_2 : cX2_isAskAhead.data.toList.drop 44 = dktX2_isAskAhead_2 := dk_seg dksX2_isAskAhead_1 22 rfl rfl
theorem dX2_isAskAhead_0 : decode cX2_isAskAhead 0 = .ok (.aload_n 0, 1) := dk_42 (dk_at dksX2_isAskAhead_0 0 rfl rfl)
theorem dX2_isAskAhead_1 : decode cX2_isAskAhead 1 = .ok (.invokevirtual 170, 3) := dk_182 0 170 (dk_at dksX2_isAskAhead_0 1 rfl rfl)
theorem dX2_isAskAhead_4 : decode cX2_isAskAhead 4 = .ok (.bipush 41, 2) := dk_16 41 (dk_at dksX2_isAskAhead_0 4 rfl rfl)
theorem dX2_isAskAhead_6 : decode cX2_isAskAhead 6 = .ok (.if_icmp .ne 45, 3) := dk_160 0 45 (dk_at dksX2_isAskAhead_0 6 rfl rfl)
theorem dX2_isAskAhead_9 : decode cX2_isAskAhead 9 = .ok (.aload_n 0, 1) := dk_42 (dk_at dksX2_isAskAhead_0 9 rfl rfl)
theorem dX2_isAskAhead_10 : decode cX2_isAskAhead 10 = .ok (.getfield 29, 3) := dk_180 0 29 (dk_at dksX2_isAskAhead_0 10 rfl rfl)
theorem dX2_isAskAhead_13 : decode cX2_isAskAhead 13 = .ok (.aload_n 0, 1) := dk_42 (dk_at dksX2_isAskAhead_0 13 rfl rfl)
theorem dX2_isAskAhead_14 : decode cX2_isAskAhead 14 = .ok (.getfield 154, 3) := dk_180 0 154 (dk_at dksX2_isAskAhead_0 14 rfl rfl)
theorem dX2_isAskAhead_17 : decode cX2_isAskAhead 17 = .ok (.iconst 1, 1) := dk_4 (dk_at dksX2_isAskAhead_0 17 rfl rfl)
theorem dX2_isAskAhead_18 : decode cX2_isAskAhead 18 = .ok (.isub, 1) := dk_100 (dk_at dksX2_isAskAhead_0 18 rfl rfl)
theorem dX2_isAskAhead_19 : decode cX2_isAskAhead 19 = .ok (.iaload, 1) := dk_46 (dk_at dksX2_isAskAhead_0 19 rfl rfl)
theorem dX2_isAskAhead_20 : decode cX2_isAskAhead 20 = .ok (.bipush 40, 2) := dk_16 40 (dk_at dksX2_isAskAhead_0 20 rfl rfl)
theorem dX2_isAskAhead_22 : decode cX2_isAskAhead 22 = .ok (.if_icmp .ge 25, 3) := dk_162 0 25 (dk_at dksX2_isAskAhead_1 0 rfl rfl)
theorem dX2_isAskAhead_25 : decode cX2_isAskAhead 25 = .ok (.aload_n 0, 1) := dk_42 (dk_at dksX2_isAskAhead_1 3 rfl rfl)
theorem dX2_isAskAhead_26 : decode cX2_isAskAhead 26 = .ok (.getfield 29, 3) := dk_180 0 29 (dk_at dksX2_isAskAhead_1 4 rfl rfl)
theorem dX2_isAskAhead_29 : decode cX2_isAskAhead 29 = .ok (.aload_n 0, 1) := dk_42 (dk_at dksX2_isAskAhead_1 7 rfl rfl)
theorem dX2_isAskAhead_30 : decode cX2_isAskAhead 30 = .ok (.getfield 154, 3) := dk_180 0 154 (dk_at dksX2_isAskAhead_1 8 rfl rfl)
theorem dX2_isAskAhead_33 : decode cX2_isAskAhead 33 = .ok (.iconst 1, 1) := dk_4 (dk_at dksX2_isAskAhead_1 11 rfl rfl)
theorem dX2_isAskAhead_34 : decode cX2_isAskAhead 34 = .ok (.isub, 1) := dk_100 (dk_at dksX2_isAskAhead_1 12 rfl rfl)
theorem dX2_isAskAhead_35 : decode cX2_isAskAhead 35 = .ok (.iaload, 1) := dk_46 (dk_at dksX2_isAskAhead_1 13 rfl rfl)
theorem dX2_isAskAhead_36 : decode cX2_isAskAhead 36 = .ok (.invokestatic 157, 3) := dk_184 0 157 (dk_at dksX2_isAskAhead_1 14 rfl rfl)
theorem dX2_isAskAhead_39 : decode cX2_isAskAhead 39 = .ok (.iconst 1, 1) := dk_4 (dk_at dksX2_isAskAhead_1 17 rfl rfl)
theorem dX2_isAskAhead_40 : decode cX2_isAskAhead 40 = .ok (.iconst 3, 1) := dk_6 (dk_at dksX2_isAskAhead_1 18 rfl rfl)
theorem dX2_isAskAhead_41 : decode cX2_isAskAhead 41 = .ok (.invokestatic 66, 3) := dk_184 0 66 (dk_at dksX2_isAskAhead_1 19 rfl rfl)
theorem dX2_isAskAhead_44 : decode cX2_isAskAhead 44 = .ok (.ifCond .eq 7, 3) := dk_153 0 7 (dk_at dksX2_isAskAhead_2 0 rfl rfl)
theorem dX2_isAskAhead_47 : decode cX2_isAskAhead 47 = .ok (.iconst 1, 1) := dk_4 (dk_at dksX2_isAskAhead_2 3 rfl rfl)
theorem dX2_isAskAhead_48 : decode cX2_isAskAhead 48 = .ok (.goto 4, 3) := dk_167 0 4 (dk_at dksX2_isAskAhead_2 4 rfl rfl)
theorem dX2_isAskAhead_51 : decode cX2_isAskAhead 51 = .ok (.iconst 0, 1) := dk_3 (dk_at dksX2_isAskAhead_2 7 rfl rfl)
theorem dX2_isAskAhead_52 : decode cX2_isAskAhead 52 = .ok (.ireturn, 1) := dk_172 (dk_at dksX2_isAskAhead_2 8 rfl rfl)
abbrev cX2_fault : ByteArray := prog_21_method_57_code
def yX2_fault : MethodName := ⟨RX2, "fault", "(I)I"⟩
def dkwX2_fault_1 : List UInt8 := [172]
abbrev dktX2_fault_1 : List UInt8 := dkwX2_fault_1 ++ []
def dkwX2_fault_0 : List UInt8 := [27, 154, 0, 10, 42, 180, 0, 22, 167, 0, 16, 27, 4, 160, 0, 10, 42, 180, 0, 26, 167, 0, 4, 2]
abbrev dktX2_fault_0 : List UInt8 := dkwX2_fault_0 ++ dktX2_fault_1
theorem dksX2_fault_0 : cX2_fault.data.toList.drop 0 = dktX2_fault_0 := by decide +kernel
theorem dksX2_fault_1 : cX2_fault.data.toList.drop 24 = dktX2_fault_1 := dk_seg dksX2_fault_0 24 rfl rfl
theorem dX2_fault_0 : decode cX2_fault 0 = .ok (.iload_n 1, 1) := dk_27 (dk_at dksX2_fault_0 0 rfl rfl)
theorem dX2_fault_1 : decode cX2_fault 1 = .ok (.ifCond .ne 10, 3) := dk_154 0 10 (dk_at dksX2_fault_0 1 rfl rfl)
theorem dX2_fault_4 : decode cX2_fault 4 = .ok (.aload_n 0, 1) := dk_42 (dk_at dksX2_fault_0 4 rfl rfl)
theorem dX2_fault_5 : decode cX2_fault 5 = .ok (.getfield 22, 3) := dk_180 0 22 (dk_at dksX2_fault_0 5 rfl rfl)
theorem dX2_fault_8 : decode cX2_fault 8 = .ok (.goto 16, 3) := dk_167 0 16 (dk_at dksX2_fault_0 8 rfl rfl)
theorem dX2_fault_11 : decode cX2_fault 11 = .ok (.iload_n 1, 1) := dk_27 (dk_at dksX2_fault_0 11 rfl rfl)
theorem dX2_fault_12 : decode cX2_fault 12 = .ok (.iconst 1, 1) := dk_4 (dk_at dksX2_fault_0 12 rfl rfl)
theorem dX2_fault_13 : decode cX2_fault 13 = .ok (.if_icmp .ne 10, 3) := dk_160 0 10 (dk_at dksX2_fault_0 13 rfl rfl)
theorem dX2_fault_16 : decode cX2_fault 16 = .ok (.aload_n 0, 1) := dk_42 (dk_at dksX2_fault_0 16 rfl rfl)
theorem dX2_fault_17 : decode cX2_fault 17 = .ok (.getfield 26, 3) := dk_180 0 26 (dk_at dksX2_fault_0 17 rfl rfl)
theorem dX2_fault_20 : decode cX2_fault 20 = .ok (.goto 4, 3) := dk_167 0 4 (dk_at dksX2_fault_0 20 rfl rfl)
theorem dX2_fault_23 : decode cX2_fault 23 = .ok (.iconst (-1), 1) := dk_2 (dk_at dksX2_fault_0 23 rfl rfl)
theorem dX2_fault_24 : decode cX2_fault 24 = .ok (.ireturn, 1) := dk_172 (dk_at dksX2_fault_1 0 rfl rfl)
abbrev cX2_by : ByteArray := prog_21_method_58_code
def yX2_by : MethodName := ⟨RX2, "by", "(I)Z"⟩
def dkwX2_by_1 : List UInt8 := [79, 4, 172]
abbrev dktX2_by_1 : List UInt8 := dkwX2_by_1 ++ []
def dkwX2_by_0 : List UInt8 := [27, 2, 42, 180, 0, 7, 4, 46, 4, 100, 184, 0, 66, 154, 0, 5, 3, 172, 42, 180, 0, 7, 5, 27]
abbrev dktX2_by_0 : List UInt8 := dkwX2_by_0 ++ dktX2_by_1
theorem dksX2_by_0 : cX2_by.data.toList.drop 0 = dktX2_by_0 := by decide +kernel
theorem dksX2_by_1 : cX2_by.data.toList.drop 24 = dktX2_by_1 := dk_seg dksX2_by_0 24 rfl rfl
theorem dX2_by_0 : decode cX2_by 0 = .ok (.iload_n 1, 1) := dk_27 (dk_at dksX2_by_0 0 rfl rfl)
theorem dX2_by_1 : decode cX2_by 1 = .ok (.iconst (-1), 1) := dk_2 (dk_at dksX2_by_0 1 rfl rfl)
theorem dX2_by_2 : decode cX2_by 2 = .ok (.aload_n 0, 1) := dk_42 (dk_at dksX2_by_0 2 rfl rfl)
theorem dX2_by_3 : decode cX2_by 3 = .ok (.getfield 7, 3) := dk_180 0 7 (dk_at dksX2_by_0 3 rfl rfl)
theorem dX2_by_6 : decode cX2_by 6 = .ok (.iconst 1, 1) := dk_4 (dk_at dksX2_by_0 6 rfl rfl)
theorem dX2_by_7 : decode cX2_by 7 = .ok (.iaload, 1) := dk_46 (dk_at dksX2_by_0 7 rfl rfl)
theorem dX2_by_8 : decode cX2_by 8 = .ok (.iconst 1, 1) := dk_4 (dk_at dksX2_by_0 8 rfl rfl)
theorem dX2_by_9 : decode cX2_by 9 = .ok (.isub, 1) := dk_100 (dk_at dksX2_by_0 9 rfl rfl)
theorem dX2_by_10 : decode cX2_by 10 = .ok (.invokestatic 66, 3) := dk_184 0 66 (dk_at dksX2_by_0 10 rfl rfl)
theorem dX2_by_13 : decode cX2_by 13 = .ok (.ifCond .ne 5, 3) := dk_154 0 5 (dk_at dksX2_by_0 13 rfl rfl)
theorem dX2_by_16 : decode cX2_by 16 = .ok (.iconst 0, 1) := dk_3 (dk_at dksX2_by_0 16 rfl rfl)
theorem dX2_by_17 : decode cX2_by 17 = .ok (.ireturn, 1) := dk_172 (dk_at dksX2_by_0 17 rfl rfl)
theorem dX2_by_18 : decode cX2_by 18 = .ok (.aload_n 0, 1) := dk_42 (dk_at dksX2_by_0 18 rfl rfl)
theorem dX2_by_19 : decode cX2_by 19 = .ok (.getfield 7, 3) := dk_180 0 7 (dk_at dksX2_by_0 19 rfl rfl)
theorem dX2_by_22 : decode cX2_by 22 = .ok (.iconst 2, 1) := dk_5 (dk_at dksX2_by_0 22 rfl rfl)
theorem dX2_by_23 : decode cX2_by 23 = .ok (.iload_n 1, 1) := dk_27 (dk_at dksX2_by_0 23 rfl rfl)
theorem dX2_by_24 : decode cX2_by 24 = .ok (.iastore, 1) := dk_79 (dk_at dksX2_by_1 0 rfl rfl)
theorem dX2_by_25 : decode cX2_by 25 = .ok (.iconst 1, 1) := dk_4 (dk_at dksX2_by_1 1 rfl rfl)
theorem dX2_by_26 : decode cX2_by 26 = .ok (.ireturn, 1) := dk_172 (dk_at dksX2_by_1 2 rfl rfl)
abbrev cX2_undo : ByteArray := prog_21_method_76_code
def yX2_undo : MethodName := ⟨RX2, "undo", "()I"⟩
def dkwX2_undo_7 : List UInt8 := [27, 16, 30, 96, 28, 96, 46, 79, 132, 2, 1, 167, 255, 226, 42, 180, 0, 7, 6, 46, 172]
abbrev dktX2_undo_7 : List UInt8 := dkwX2_undo_7 ++ []
def dkwX2_undo_6 : List UInt8 := [167, 255, 184, 3, 61, 28, 16, 60, 162, 0, 30, 42, 180, 0, 7, 17, 10, 247, 28, 96, 42, 180, 0, 7]
abbrev dktX2_undo_6 : List UInt8 := dkwX2_undo_6 ++ dktX2_undo_7
def dkwX2_undo_5 : List UInt8 := [16, 6, 96, 6, 28, 104, 96, 29, 96, 46, 182, 0, 78, 132, 3, 1, 167, 255, 217, 132, 2, 1]
abbrev dktX2_undo_5 : List UInt8 := dkwX2_undo_5 ++ dktX2_undo_6
def dkwX2_undo_4 : List UInt8 := [62, 29, 6, 162, 0, 40, 28, 42, 180, 0, 7, 27, 46, 162, 0, 30, 42, 28, 29, 42, 180, 0, 7, 27]
abbrev dktX2_undo_4 : List UInt8 := dkwX2_undo_4 ++ dktX2_undo_5
def dkwX2_undo_3 : List UInt8 := [180, 0, 7, 3, 46, 162, 0, 68, 28, 42, 180, 0, 7, 27, 46, 161, 0, 8, 42, 28, 182, 0, 82, 3]
abbrev dktX2_undo_3 : List UInt8 := dkwX2_undo_3 ++ dktX2_undo_4
def dkwX2_undo_2 : List UInt8 := [28, 96, 42, 180, 0, 7, 27, 4, 96, 28, 96, 46, 79, 132, 2, 1, 167, 255, 229, 3, 61, 28, 42]
abbrev dktX2_undo_2 : List UInt8 := dkwX2_undo_2 ++ dktX2_undo_3
def dkwX2_undo_1 : List UInt8 := [16, 90, 42, 180, 0, 7, 6, 46, 104, 96, 60, 3, 61, 28, 8, 162, 0, 28, 42, 180, 0, 7, 16, 6]
abbrev dktX2_undo_1 : List UInt8 := dkwX2_undo_1 ++ dktX2_undo_2
def dkwX2_undo_0 : List UInt8 := [42, 180, 0, 7, 6, 46, 154, 0, 5, 2, 172, 42, 180, 0, 7, 6, 92, 46, 4, 100, 79, 16, 107]
abbrev dktX2_undo_0 : List UInt8 := dkwX2_undo_0 ++ dktX2_undo_1
theorem dksX2_undo_0 : cX2_undo.data.toList.drop 0 = dktX2_undo_0 := by decide +kernel
theorem dksX2_undo_1 : cX2_undo.data.toList.drop 23 = dktX2_undo_1 := dk_seg dksX2_undo_0 23 rfl rfl
theorem dksX2_undo_2 : cX2_undo.data.toList.drop 47 = dktX2_undo_2 := dk_seg dksX2_undo_1 24 rfl rfl
theorem dksX2_undo_3 : cX2_undo.data.toList.drop 70 = dktX2_undo_3 := dk_seg dksX2_undo_2 23 rfl rfl
theorem dksX2_undo_4 : cX2_undo.data.toList.drop 94 = dktX2_undo_4 := dk_seg dksX2_undo_3 24 rfl rfl
theorem dksX2_undo_5 : cX2_undo.data.toList.drop 118 = dktX2_undo_5 := dk_seg dksX2_undo_4 24 rfl rfl
theorem dksX2_undo_6 : cX2_undo.data.toList.drop 140 = dktX2_undo_6 := dk_seg dksX2_undo_5 22 rfl rfl
theorem dksX2_undo_7 : cX2_undo.data.toList.drop 164 = dktX2_undo_7 := dk_seg dksX2_undo_6 24 rfl rfl
theorem dX2_undo_0 : decode cX2_undo 0 = .ok (.aload_n 0, 1) := dk_42 (dk_at dksX2_undo_0 0 rfl rfl)
theorem dX2_undo_1 : decode cX2_undo 1 = .ok (.getfield 7, 3) := dk_180 0 7 (dk_at dksX2_undo_0 1 rfl rfl)
theorem dX2_undo_4 : decode cX2_undo 4 = .ok (.iconst 3, 1) := dk_6 (dk_at dksX2_undo_0 4 rfl rfl)
theorem dX2_undo_5 : decode cX2_undo 5 = .ok (.iaload, 1) := dk_46 (dk_at dksX2_undo_0 5 rfl rfl)
theorem dX2_undo_6 : decode cX2_undo 6 = .ok (.ifCond .ne 5, 3) := dk_154 0 5 (dk_at dksX2_undo_0 6 rfl rfl)
theorem dX2_undo_9 : decode cX2_undo 9 = .ok (.iconst (-1), 1) := dk_2 (dk_at dksX2_undo_0 9 rfl rfl)
theorem dX2_undo_10 : decode cX2_undo 10 = .ok (.ireturn, 1) := dk_172 (dk_at dksX2_undo_0 10 rfl rfl)
theorem dX2_undo_11 : decode cX2_undo 11 = .ok (.aload_n 0, 1) := dk_42 (dk_at dksX2_undo_0 11 rfl rfl)
theorem dX2_undo_12 : decode cX2_undo 12 = .ok (.getfield 7, 3) := dk_180 0 7 (dk_at dksX2_undo_0 12 rfl rfl)
theorem dX2_undo_15 : decode cX2_undo 15 = .ok (.iconst 3, 1) := dk_6 (dk_at dksX2_undo_0 15 rfl rfl)
theorem dX2_undo_16 : decode cX2_undo 16 = .ok (.dup2, 1) := dk_92 (dk_at dksX2_undo_0 16 rfl rfl)
theorem dX2_undo_17 : decode cX2_undo 17 = .ok (.iaload, 1) := dk_46 (dk_at dksX2_undo_0 17 rfl rfl)
theorem dX2_undo_18 : decode cX2_undo 18 = .ok (.iconst 1, 1) := dk_4 (dk_at dksX2_undo_0 18 rfl rfl)
theorem dX2_undo_19 : decode cX2_undo 19 = .ok (.isub, 1) := dk_100 (dk_at dksX2_undo_0 19 rfl rfl)
theorem dX2_undo_20 : decode cX2_undo 20 = .ok (.iastore, 1) := dk_79 (dk_at dksX2_undo_0 20 rfl rfl)
theorem dX2_undo_21 : decode cX2_undo 21 = .ok (.bipush 107, 2) := dk_16 107 (dk_at dksX2_undo_0 21 rfl rfl)
theorem dX2_undo_23 : decode cX2_undo 23 = .ok (.bipush 90, 2) := dk_16 90 (dk_at dksX2_undo_1 0 rfl rfl)
theorem dX2_undo_25 : decode cX2_undo 25 = .ok (.aload_n 0, 1) := dk_42 (dk_at dksX2_undo_1 2 rfl rfl)
theorem dX2_undo_26 : decode cX2_undo 26 = .ok (.getfield 7, 3) := dk_180 0 7 (dk_at dksX2_undo_1 3 rfl rfl)
theorem dX2_undo_29 : decode cX2_undo 29 = .ok (.iconst 3, 1) := dk_6 (dk_at dksX2_undo_1 6 rfl rfl)
theorem dX2_undo_30 : decode cX2_undo 30 = .ok (.iaload, 1) := dk_46 (dk_at dksX2_undo_1 7 rfl rfl)
theorem dX2_undo_31 : decode cX2_undo 31 = .ok (.imul, 1) := dk_104 (dk_at dksX2_undo_1 8 rfl rfl)
theorem dX2_undo_32 : decode cX2_undo 32 = .ok (.iadd, 1) := dk_96 (dk_at dksX2_undo_1 9 rfl rfl)
theorem dX2_undo_33 : decode cX2_undo 33 = .ok (.istore_n 1, 1) := dk_60 (dk_at dksX2_undo_1 10 rfl rfl)
theorem dX2_undo_34 : decode cX2_undo 34 = .ok (.iconst 0, 1) := dk_3 (dk_at dksX2_undo_1 11 rfl rfl)
theorem dX2_undo_35 : decode cX2_undo 35 = .ok (.istore_n 2, 1) := dk_61 (dk_at dksX2_undo_1 12 rfl rfl)
theorem dX2_undo_36 : decode cX2_undo 36 = .ok (.iload_n 2, 1) := dk_28 (dk_at dksX2_undo_1 13 rfl rfl)
theorem dX2_undo_37 : decode cX2_undo 37 = .ok (.iconst 5, 1) := dk_8 (dk_at dksX2_undo_1 14 rfl rfl)
theorem dX2_undo_38 : decode cX2_undo 38 = .ok (.if_icmp .ge 28, 3) := dk_162 0 28 (dk_at dksX2_undo_1 15 rfl rfl)
theorem dX2_undo_41 : decode cX2_undo 41 = .ok (.aload_n 0, 1) := dk_42 (dk_at dksX2_undo_1 18 rfl rfl)
theorem dX2_undo_42 : decode cX2_undo 42 = .ok (.getfield 7, 3) := dk_180 0 7 (dk_at dksX2_undo_1 19 rfl rfl)
theorem dX2_undo_45 : decode cX2_undo 45 = .ok (.bipush 6, 2) := dk_16 6 (dk_at dksX2_undo_1 22 rfl rfl)
theorem dX2_undo_47 : decode cX2_undo 47 = .ok (.iload_n 2, 1) := dk_28 (dk_at dksX2_undo_2 0 rfl rfl)
theorem dX2_undo_48 : decode cX2_undo 48 = .ok (.iadd, 1) := dk_96 (dk_at dksX2_undo_2 1 rfl rfl)
theorem dX2_undo_49 : decode cX2_undo 49 = .ok (.aload_n 0, 1) := dk_42 (dk_at dksX2_undo_2 2 rfl rfl)
theorem dX2_undo_50 : decode cX2_undo 50 = .ok (.getfield 7, 3) := dk_180 0 7 (dk_at dksX2_undo_2 3 rfl rfl)
theorem dX2_undo_53 : decode cX2_undo 53 = .ok (.iload_n 1, 1) := dk_27 (dk_at dksX2_undo_2 6 rfl rfl)
theorem dX2_undo_54 : decode cX2_undo 54 = .ok (.iconst 1, 1) := dk_4 (dk_at dksX2_undo_2 7 rfl rfl)
theorem dX2_undo_55 : decode cX2_undo 55 = .ok (.iadd, 1) := dk_96 (dk_at dksX2_undo_2 8 rfl rfl)
theorem dX2_undo_56 : decode cX2_undo 56 = .ok (.iload_n 2, 1) := dk_28 (dk_at dksX2_undo_2 9 rfl rfl)
theorem dX2_undo_57 : decode cX2_undo 57 = .ok (.iadd, 1) := dk_96 (dk_at dksX2_undo_2 10 rfl rfl)
theorem dX2_undo_58 : decode cX2_undo 58 = .ok (.iaload, 1) := dk_46 (dk_at dksX2_undo_2 11 rfl rfl)
theorem dX2_undo_59 : decode cX2_undo 59 = .ok (.iastore, 1) := dk_79 (dk_at dksX2_undo_2 12 rfl rfl)
theorem dX2_undo_60 : decode cX2_undo 60 = .ok (.iinc 2 1, 3) := dk_132 2 1 (dk_at dksX2_undo_2 13 rfl rfl)
theorem dX2_undo_63 : decode cX2_undo 63 = .ok (.goto (-27), 3) := dk_167 255 229 (dk_at dksX2_undo_2 16 rfl rfl)
theorem dX2_undo_66 : decode cX2_undo 66 = .ok (.iconst 0, 1) := dk_3 (dk_at dksX2_undo_2 19 rfl rfl)
theorem dX2_undo_67 : decode cX2_undo 67 = .ok (.istore_n 2, 1) := dk_61 (dk_at dksX2_undo_2 20 rfl rfl)
theorem dX2_undo_68 : decode cX2_undo 68 = .ok (.iload_n 2, 1) := dk_28 (dk_at dksX2_undo_2 21 rfl rfl)
theorem dX2_undo_69 : decode cX2_undo 69 = .ok (.aload_n 0, 1) := dk_42 (dk_at dksX2_undo_2 22 rfl rfl)
theorem dX2_undo_70 : decode cX2_undo 70 = .ok (.getfield 7, 3) := dk_180 0 7 (dk_at dksX2_undo_3 0 rfl rfl)
theorem dX2_undo_73 : decode cX2_undo 73 = .ok (.iconst 0, 1) := dk_3 (dk_at dksX2_undo_3 3 rfl rfl)
theorem dX2_undo_74 : decode cX2_undo 74 = .ok (.iaload, 1) := dk_46 (dk_at dksX2_undo_3 4 rfl rfl)
theorem dX2_undo_75 : decode cX2_undo 75 = .ok (.if_icmp .ge 68, 3) := dk_162 0 68 (dk_at dksX2_undo_3 5 rfl rfl)
theorem dX2_undo_78 : decode cX2_undo 78 = .ok (.iload_n 2, 1) := dk_28 (dk_at dksX2_undo_3 8 rfl rfl)
theorem dX2_undo_79 : decode cX2_undo 79 = .ok (.aload_n 0, 1) := dk_42 (dk_at dksX2_undo_3 9 rfl rfl)
theorem dX2_undo_80 : decode cX2_undo 80 = .ok (.getfield 7, 3) := dk_180 0 7 (dk_at dksX2_undo_3 10 rfl rfl)
theorem dX2_undo_83 : decode cX2_undo 83 = .ok (.iload_n 1, 1) := dk_27 (dk_at dksX2_undo_3 13 rfl rfl)
theorem dX2_undo_84 : decode cX2_undo 84 = .ok (.iaload, 1) := dk_46 (dk_at dksX2_undo_3 14 rfl rfl)
theorem dX2_undo_85 : decode cX2_undo 85 = .ok (.if_icmp .lt 8, 3) := dk_161 0 8 (dk_at dksX2_undo_3 15 rfl rfl)
theorem dX2_undo_88 : decode cX2_undo 88 = .ok (.aload_n 0, 1) := dk_42 (dk_at dksX2_undo_3 18 rfl rfl)
theorem dX2_undo_89 : decode cX2_undo 89 = .ok (.iload_n 2, 1) := dk_28 (dk_at dksX2_undo_3 19 rfl rfl)
theorem dX2_undo_90 : decode cX2_undo 90 = .ok (.invokevirtual 82, 3) := dk_182 0 82 (dk_at dksX2_undo_3 20 rfl rfl)
theorem dX2_undo_93 : decode cX2_undo 93 = .ok (.iconst 0, 1) := dk_3 (dk_at dksX2_undo_3 23 rfl rfl)
theorem dX2_undo_94 : decode cX2_undo 94 = .ok (.istore_n 3, 1) := dk_62 (dk_at dksX2_undo_4 0 rfl rfl)
theorem dX2_undo_95 : decode cX2_undo 95 = .ok (.iload_n 3, 1) := dk_29 (dk_at dksX2_undo_4 1 rfl rfl)
theorem dX2_undo_96 : decode cX2_undo 96 = .ok (.iconst 3, 1) := dk_6 (dk_at dksX2_undo_4 2 rfl rfl)
theorem dX2_undo_97 : decode cX2_undo 97 = .ok (.if_icmp .ge 40, 3) := dk_162 0 40 (dk_at dksX2_undo_4 3 rfl rfl)
theorem dX2_undo_100 : decode cX2_undo 100 = .ok (.iload_n 2, 1) := dk_28 (dk_at dksX2_undo_4 6 rfl rfl)
theorem dX2_undo_101 : decode cX2_undo 101 = .ok (.aload_n 0, 1) := dk_42 (dk_at dksX2_undo_4 7 rfl rfl)
theorem dX2_undo_102 : decode cX2_undo 102 = .ok (.getfield 7, 3) := dk_180 0 7 (dk_at dksX2_undo_4 8 rfl rfl)
theorem dX2_undo_105 : decode cX2_undo 105 = .ok (.iload_n 1, 1) := dk_27 (dk_at dksX2_undo_4 11 rfl rfl)
theorem dX2_undo_106 : decode cX2_undo 106 = .ok (.iaload, 1) := dk_46 (dk_at dksX2_undo_4 12 rfl rfl)
theorem dX2_undo_107 : decode cX2_undo 107 = .ok (.if_icmp .ge 30, 3) := dk_162 0 30 (dk_at dksX2_undo_4 13 rfl rfl)
theorem dX2_undo_110 : decode cX2_undo 110 = .ok (.aload_n 0, 1) := dk_42 (dk_at dksX2_undo_4 16 rfl rfl)
theorem dX2_undo_111 : decode cX2_undo 111 = .ok (.iload_n 2, 1) := dk_28 (dk_at dksX2_undo_4 17 rfl rfl)
theorem dX2_undo_112 : decode cX2_undo 112 = .ok (.iload_n 3, 1) := dk_29 (dk_at dksX2_undo_4 18 rfl rfl)
theorem dX2_undo_113 : decode cX2_undo 113 = .ok (.aload_n 0, 1) := dk_42 (dk_at dksX2_undo_4 19 rfl rfl)
theorem dX2_undo_114 : decode cX2_undo 114 = .ok (.getfield 7, 3) := dk_180 0 7 (dk_at dksX2_undo_4 20 rfl rfl)
theorem dX2_undo_117 : decode cX2_undo 117 = .ok (.iload_n 1, 1) := dk_27 (dk_at dksX2_undo_4 23 rfl rfl)
theorem dX2_undo_118 : decode cX2_undo 118 = .ok (.bipush 6, 2) := dk_16 6 (dk_at dksX2_undo_5 0 rfl rfl)
theorem dX2_undo_120 : decode cX2_undo 120 = .ok (.iadd, 1) := dk_96 (dk_at dksX2_undo_5 2 rfl rfl)
theorem dX2_undo_121 : decode cX2_undo 121 = .ok (.iconst 3, 1) := dk_6 (dk_at dksX2_undo_5 3 rfl rfl)
theorem dX2_undo_122 : decode cX2_undo 122 = .ok (.iload_n 2, 1) := dk_28 (dk_at dksX2_undo_5 4 rfl rfl)
theorem dX2_undo_123 : decode cX2_undo 123 = .ok (.imul, 1) := dk_104 (dk_at dksX2_undo_5 5 rfl rfl)
theorem dX2_undo_124 : decode cX2_undo 124 = .ok (.iadd, 1) := dk_96 (dk_at dksX2_undo_5 6 rfl rfl)
theorem dX2_undo_125 : decode cX2_undo 125 = .ok (.iload_n 3, 1) := dk_29 (dk_at dksX2_undo_5 7 rfl rfl)
theorem dX2_undo_126 : decode cX2_undo 126 = .ok (.iadd, 1) := dk_96 (dk_at dksX2_undo_5 8 rfl rfl)
theorem dX2_undo_127 : decode cX2_undo 127 = .ok (.iaload, 1) := dk_46 (dk_at dksX2_undo_5 9 rfl rfl)
theorem dX2_undo_128 : decode cX2_undo 128 = .ok (.invokevirtual 78, 3) := dk_182 0 78 (dk_at dksX2_undo_5 10 rfl rfl)
theorem dX2_undo_131 : decode cX2_undo 131 = .ok (.iinc 3 1, 3) := dk_132 3 1 (dk_at dksX2_undo_5 13 rfl rfl)
theorem dX2_undo_134 : decode cX2_undo 134 = .ok (.goto (-39), 3) := dk_167 255 217 (dk_at dksX2_undo_5 16 rfl rfl)
theorem dX2_undo_137 : decode cX2_undo 137 = .ok (.iinc 2 1, 3) := dk_132 2 1 (dk_at dksX2_undo_5 19 rfl rfl)
theorem dX2_undo_140 : decode cX2_undo 140 = .ok (.goto (-72), 3) := dk_167 255 184 (dk_at dksX2_undo_6 0 rfl rfl)
theorem dX2_undo_143 : decode cX2_undo 143 = .ok (.iconst 0, 1) := dk_3 (dk_at dksX2_undo_6 3 rfl rfl)
theorem dX2_undo_144 : decode cX2_undo 144 = .ok (.istore_n 2, 1) := dk_61 (dk_at dksX2_undo_6 4 rfl rfl)
theorem dX2_undo_145 : decode cX2_undo 145 = .ok (.iload_n 2, 1) := dk_28 (dk_at dksX2_undo_6 5 rfl rfl)
theorem dX2_undo_146 : decode cX2_undo 146 = .ok (.bipush 60, 2) := dk_16 60 (dk_at dksX2_undo_6 6 rfl rfl)
theorem dX2_undo_148 : decode cX2_undo 148 = .ok (.if_icmp .ge 30, 3) := dk_162 0 30 (dk_at dksX2_undo_6 8 rfl rfl)
theorem dX2_undo_151 : decode cX2_undo 151 = .ok (.aload_n 0, 1) := dk_42 (dk_at dksX2_undo_6 11 rfl rfl)
theorem dX2_undo_152 : decode cX2_undo 152 = .ok (.getfield 7, 3) := dk_180 0 7 (dk_at dksX2_undo_6 12 rfl rfl)
theorem dX2_undo_155 : decode cX2_undo 155 = .ok (.sipush 2807, 3) := dk_17 10 247 (dk_at dksX2_undo_6 15 rfl rfl)
theorem dX2_undo_158 : decode cX2_undo 158 = .ok (.iload_n 2, 1) := dk_28 (dk_at dksX2_undo_6 18 rfl rfl)
theorem dX2_undo_159 : decode cX2_undo 159 = .ok (.iadd, 1) := dk_96 (dk_at dksX2_undo_6 19 rfl rfl)
theorem dX2_undo_160 : decode cX2_undo 160 = .ok (.aload_n 0, 1) := dk_42 (dk_at dksX2_undo_6 20 rfl rfl)
theorem dX2_undo_161 : decode cX2_undo 161 = .ok (.getfield 7, 3) := dk_180 0 7 (dk_at dksX2_undo_6 21 rfl rfl)
theorem dX2_undo_164 : decode cX2_undo 164 = .ok (.iload_n 1, 1) := dk_27 (dk_at dksX2_undo_7 0 rfl rfl)
theorem dX2_undo_165 : decode cX2_undo 165 = .ok (.bipush 30, 2) := dk_16 30 (dk_at dksX2_undo_7 1 rfl rfl)
theorem dX2_undo_167 : decode cX2_undo 167 = .ok (.iadd, 1) := dk_96 (dk_at dksX2_undo_7 3 rfl rfl)
theorem dX2_undo_168 : decode cX2_undo 168 = .ok (.iload_n 2, 1) := dk_28 (dk_at dksX2_undo_7 4 rfl rfl)
theorem dX2_undo_169 : decode cX2_undo 169 = .ok (.iadd, 1) := dk_96 (dk_at dksX2_undo_7 5 rfl rfl)
theorem dX2_undo_170 : decode cX2_undo 170 = .ok (.iaload, 1) := dk_46 (dk_at dksX2_undo_7 6 rfl rfl)
theorem dX2_undo_171 : decode cX2_undo 171 = .ok (.iastore, 1) := dk_79 (dk_at dksX2_undo_7 7 rfl rfl)
theorem dX2_undo_172 : decode cX2_undo 172 = .ok (.iinc 2 1, 3) := dk_132 2 1 (dk_at dksX2_undo_7 8 rfl rfl)
theorem dX2_undo_175 : decode cX2_undo 175 = .ok (.goto (-30), 3) := dk_167 255 226 (dk_at dksX2_undo_7 11 rfl rfl)
theorem dX2_undo_178 : decode cX2_undo 178 = .ok (.aload_n 0, 1) := dk_42 (dk_at dksX2_undo_7 14 rfl rfl)
theorem dX2_undo_179 : decode cX2_undo 179 = .ok (.getfield 7, 3) := dk_180 0 7 (dk_at dksX2_undo_7 15 rfl rfl)
theorem dX2_undo_182 : decode cX2_undo 182 = .ok (.iconst 3, 1) := dk_6 (dk_at dksX2_undo_7 18 rfl rfl)
theorem dX2_undo_183 : decode cX2_undo 183 = .ok (.iaload, 1) := dk_46 (dk_at dksX2_undo_7 19 rfl rfl)
theorem dX2_undo_184 : decode cX2_undo 184 = .ok (.ireturn, 1) := dk_172 (dk_at dksX2_undo_7 20 rfl rfl)
abbrev cX2_ring : ByteArray := prog_21_method_77_code
def yX2_ring : MethodName := ⟨RX2, "ring", "(I)Z"⟩
def dkwX2_ring_0 : List UInt8 := [42, 27, 182, 1, 73, 154, 0, 5, 3, 172, 42, 182, 1, 76, 42, 180, 0, 7, 16, 7, 27, 79, 4, 172]
abbrev dktX2_ring_0 : List UInt8 := dkwX2_ring_0 ++ []
theorem dksX2_ring_0 : cX2_ring.data.toList.drop 0 = dktX2_ring_0 := by decide +kernel
theorem dX2_ring_0 : decode cX2_ring 0 = .ok (.aload_n 0, 1) := dk_42 (dk_at dksX2_ring_0 0 rfl rfl)
theorem dX2_ring_1 : decode cX2_ring 1 = .ok (.iload_n 1, 1) := dk_27 (dk_at dksX2_ring_0 1 rfl rfl)
theorem dX2_ring_2 : decode cX2_ring 2 = .ok (.invokevirtual 329, 3) := dk_182 1 73 (dk_at dksX2_ring_0 2 rfl rfl)
theorem dX2_ring_5 : decode cX2_ring 5 = .ok (.ifCond .ne 5, 3) := dk_154 0 5 (dk_at dksX2_ring_0 5 rfl rfl)
theorem dX2_ring_8 : decode cX2_ring 8 = .ok (.iconst 0, 1) := dk_3 (dk_at dksX2_ring_0 8 rfl rfl)
theorem dX2_ring_9 : decode cX2_ring 9 = .ok (.ireturn, 1) := dk_172 (dk_at dksX2_ring_0 9 rfl rfl)
theorem dX2_ring_10 : decode cX2_ring 10 = .ok (.aload_n 0, 1) := dk_42 (dk_at dksX2_ring_0 10 rfl rfl)
theorem dX2_ring_11 : decode cX2_ring 11 = .ok (.invokevirtual 332, 3) := dk_182 1 76 (dk_at dksX2_ring_0 11 rfl rfl)
theorem dX2_ring_14 : decode cX2_ring 14 = .ok (.aload_n 0, 1) := dk_42 (dk_at dksX2_ring_0 14 rfl rfl)
theorem dX2_ring_15 : decode cX2_ring 15 = .ok (.getfield 7, 3) := dk_180 0 7 (dk_at dksX2_ring_0 15 rfl rfl)
theorem dX2_ring_18 : decode cX2_ring 18 = .ok (.bipush 7, 2) := dk_16 7 (dk_at dksX2_ring_0 18 rfl rfl)
theorem dX2_ring_20 : decode cX2_ring 20 = .ok (.iload_n 1, 1) := dk_27 (dk_at dksX2_ring_0 20 rfl rfl)
theorem dX2_ring_21 : decode cX2_ring 21 = .ok (.iastore, 1) := dk_79 (dk_at dksX2_ring_0 21 rfl rfl)
theorem dX2_ring_22 : decode cX2_ring 22 = .ok (.iconst 1, 1) := dk_4 (dk_at dksX2_ring_0 22 rfl rfl)
theorem dX2_ring_23 : decode cX2_ring 23 = .ok (.ireturn, 1) := dk_172 (dk_at dksX2_ring_0 23 rfl rfl)
abbrev cX2_areRings : ByteArray := prog_21_method_9_code
def yX2_areRings : MethodName := ⟨RX2, "areRings", "(I)Z"⟩
def dkwX2_areRings_0 : List UInt8 := [27, 3, 42, 182, 0, 70, 184, 0, 66, 172]
abbrev dktX2_areRings_0 : List UInt8 := dkwX2_areRings_0 ++ []
theorem dksX2_areRings_0 : cX2_areRings.data.toList.drop 0 = dktX2_areRings_0 := by decide +kernel
theorem dX2_areRings_0 : decode cX2_areRings 0 = .ok (.iload_n 1, 1) := dk_27 (dk_at dksX2_areRings_0 0 rfl rfl)
theorem dX2_areRings_1 : decode cX2_areRings 1 = .ok (.iconst 0, 1) := dk_3 (dk_at dksX2_areRings_0 1 rfl rfl)
theorem dX2_areRings_2 : decode cX2_areRings 2 = .ok (.aload_n 0, 1) := dk_42 (dk_at dksX2_areRings_0 2 rfl rfl)
theorem dX2_areRings_3 : decode cX2_areRings 3 = .ok (.invokevirtual 70, 3) := dk_182 0 70 (dk_at dksX2_areRings_0 3 rfl rfl)
theorem dX2_areRings_6 : decode cX2_areRings 6 = .ok (.invokestatic 66, 3) := dk_184 0 66 (dk_at dksX2_areRings_0 6 rfl rfl)
theorem dX2_areRings_9 : decode cX2_areRings 9 = .ok (.ireturn, 1) := dk_172 (dk_at dksX2_areRings_0 9 rfl rfl)
abbrev cX2_all : ByteArray := prog_21_method_8_code
def yX2_all : MethodName := ⟨RX2, "all", "()I"⟩
def dkwX2_all_0 : List UInt8 := [4, 42, 180, 0, 7, 3, 46, 120, 4, 100, 172]
abbrev dktX2_all_0 : List UInt8 := dkwX2_all_0 ++ []
theorem dksX2_all_0 : cX2_all.data.toList.drop 0 = dktX2_all_0 := by decide +kernel
theorem dX2_all_0 : decode cX2_all 0 = .ok (.iconst 1, 1) := dk_4 (dk_at dksX2_all_0 0 rfl rfl)
theorem dX2_all_1 : decode cX2_all 1 = .ok (.aload_n 0, 1) := dk_42 (dk_at dksX2_all_0 1 rfl rfl)
theorem dX2_all_2 : decode cX2_all 2 = .ok (.getfield 7, 3) := dk_180 0 7 (dk_at dksX2_all_0 2 rfl rfl)
theorem dX2_all_5 : decode cX2_all 5 = .ok (.iconst 0, 1) := dk_3 (dk_at dksX2_all_0 5 rfl rfl)
theorem dX2_all_6 : decode cX2_all 6 = .ok (.iaload, 1) := dk_46 (dk_at dksX2_all_0 6 rfl rfl)
theorem dX2_all_7 : decode cX2_all 7 = .ok (.ishl, 1) := dk_120 (dk_at dksX2_all_0 7 rfl rfl)
theorem dX2_all_8 : decode cX2_all 8 = .ok (.iconst 1, 1) := dk_4 (dk_at dksX2_all_0 8 rfl rfl)
theorem dX2_all_9 : decode cX2_all 9 = .ok (.isub, 1) := dk_100 (dk_at dksX2_all_0 9 rfl rfl)
theorem dX2_all_10 : decode cX2_all 10 = .ok (.ireturn, 1) := dk_172 (dk_at dksX2_all_0 10 rfl rfl)
abbrev cX2_keep : ByteArray := prog_21_method_75_code
def yX2_keep : MethodName := ⟨RX2, "keep", "()V"⟩
def dkwX2_keep_8 : List UInt8 := [132, 2, 1, 167, 255, 226, 42, 180, 0, 7, 6, 92, 46, 4, 96, 79, 177]
abbrev dktX2_keep_8 : List UInt8 := dkwX2_keep_8 ++ []
def dkwX2_keep_7 : List UInt8 := [162, 0, 30, 42, 180, 0, 7, 27, 16, 30, 96, 28, 96, 42, 180, 0, 7, 17, 10, 247, 28, 96, 46, 79]
abbrev dktX2_keep_7 : List UInt8 := dkwX2_keep_7 ++ dktX2_keep_8
def dkwX2_keep_6 : List UInt8 := [42, 28, 29, 182, 0, 74, 79, 132, 3, 1, 167, 255, 227, 132, 2, 1, 167, 255, 213, 3, 61, 28, 16, 60]
abbrev dktX2_keep_6 : List UInt8 := dkwX2_keep_6 ++ dktX2_keep_7
def dkwX2_keep_5 : List UInt8 := [162, 0, 43, 3, 62, 29, 6, 162, 0, 30, 42, 180, 0, 7, 27, 16, 6, 96, 6, 28, 104, 96, 29, 96]
abbrev dktX2_keep_5 : List UInt8 := dkwX2_keep_5 ++ dktX2_keep_6
def dkwX2_keep_4 : List UInt8 := [96, 28, 96, 42, 180, 0, 7, 16, 6, 28, 96, 46, 79, 132, 2, 1, 167, 255, 229, 3, 61, 28, 16, 8]
abbrev dktX2_keep_4 : List UInt8 := dkwX2_keep_4 ++ dktX2_keep_5
def dkwX2_keep_3 : List UInt8 := [180, 0, 7, 27, 42, 180, 0, 7, 3, 46, 79, 3, 61, 28, 8, 162, 0, 28, 42, 180, 0, 7, 27, 4]
abbrev dktX2_keep_3 : List UInt8 := dkwX2_keep_3 ++ dktX2_keep_4
def dkwX2_keep_2 : List UInt8 := [180, 0, 7, 6, 92, 46, 4, 100, 79, 16, 107, 16, 90, 42, 180, 0, 7, 6, 46, 104, 96, 60, 42]
abbrev dktX2_keep_2 : List UInt8 := dkwX2_keep_2 ++ dktX2_keep_3
def dkwX2_keep_1 : List UInt8 := [16, 107, 27, 96, 42, 180, 0, 7, 17, 0, 197, 27, 96, 46, 79, 132, 1, 1, 167, 255, 227, 42]
abbrev dktX2_keep_1 : List UInt8 := dkwX2_keep_1 ++ dktX2_keep_2
def dkwX2_keep_0 : List UInt8 := [42, 180, 0, 7, 6, 46, 16, 30, 160, 0, 47, 3, 60, 27, 17, 10, 50, 162, 0, 28, 42, 180, 0, 7]
abbrev dktX2_keep_0 : List UInt8 := dkwX2_keep_0 ++ dktX2_keep_1
theorem dksX2_keep_0 : cX2_keep.data.toList.drop 0 = dktX2_keep_0 := by decide +kernel
theorem dksX2_keep_1 : cX2_keep.data.toList.drop 24 = dktX2_keep_1 := dk_seg dksX2_keep_0 24 rfl rfl
theorem dksX2_keep_2 : cX2_keep.data.toList.drop 46 = dktX2_keep_2 := dk_seg dksX2_keep_1 22 rfl rfl
theorem dksX2_keep_3 : cX2_keep.data.toList.drop 69 = dktX2_keep_3 := dk_seg dksX2_keep_2 23 rfl rfl
theorem dksX2_keep_4 : cX2_keep.data.toList.drop 93 = dktX2_keep_4 := dk_seg dksX2_keep_3 24 rfl rfl
theorem dksX2_keep_5 : cX2_keep.data.toList.drop 117 = dktX2_keep_5 := dk_seg dksX2_keep_4 24 rfl rfl
theorem dksX2_keep_6 : cX2_keep.data.toList.drop 141 = dktX2_keep_6 := dk_seg dksX2_keep_5 24 rfl rfl
theorem dksX2_keep_7 : cX2_keep.data.toList.drop 165 = dktX2_keep_7 := dk_seg dksX2_keep_6 24 rfl rfl
theorem dksX2_keep_8 : cX2_keep.data.toList.drop 189 = dktX2_keep_8 := dk_seg dksX2_keep_7 24 rfl rfl
theorem dX2_keep_0 : decode cX2_keep 0 = .ok (.aload_n 0, 1) := dk_42 (dk_at dksX2_keep_0 0 rfl rfl)
theorem dX2_keep_1 : decode cX2_keep 1 = .ok (.getfield 7, 3) := dk_180 0 7 (dk_at dksX2_keep_0 1 rfl rfl)
theorem dX2_keep_4 : decode cX2_keep 4 = .ok (.iconst 3, 1) := dk_6 (dk_at dksX2_keep_0 4 rfl rfl)
theorem dX2_keep_5 : decode cX2_keep 5 = .ok (.iaload, 1) := dk_46 (dk_at dksX2_keep_0 5 rfl rfl)
theorem dX2_keep_6 : decode cX2_keep 6 = .ok (.bipush 30, 2) := dk_16 30 (dk_at dksX2_keep_0 6 rfl rfl)
theorem dX2_keep_8 : decode cX2_keep 8 = .ok (.if_icmp .ne 47, 3) := dk_160 0 47 (dk_at dksX2_keep_0 8 rfl rfl)
theorem dX2_keep_11 : decode cX2_keep 11 = .ok (.iconst 0, 1) := dk_3 (dk_at dksX2_keep_0 11 rfl rfl)
theorem dX2_keep_12 : decode cX2_keep 12 = .ok (.istore_n 1, 1) := dk_60 (dk_at dksX2_keep_0 12 rfl rfl)
theorem dX2_keep_13 : decode cX2_keep 13 = .ok (.iload_n 1, 1) := dk_27 (dk_at dksX2_keep_0 13 rfl rfl)
theorem dX2_keep_14 : decode cX2_keep 14 = .ok (.sipush 2610, 3) := dk_17 10 50 (dk_at dksX2_keep_0 14 rfl rfl)
theorem dX2_keep_17 : decode cX2_keep 17 = .ok (.if_icmp .ge 28, 3) := dk_162 0 28 (dk_at dksX2_keep_0 17 rfl rfl)
theorem dX2_keep_20 : decode cX2_keep 20 = .ok (.aload_n 0, 1) := dk_42 (dk_at dksX2_keep_0 20 rfl rfl)
theorem dX2_keep_21 : decode cX2_keep 21 = .ok (.getfield 7, 3) := dk_180 0 7 (dk_at dksX2_keep_0 21 rfl rfl)
theorem dX2_keep_24 : decode cX2_keep 24 = .ok (.bipush 107, 2) := dk_16 107 (dk_at dksX2_keep_1 0 rfl rfl)
theorem dX2_keep_26 : decode cX2_keep 26 = .ok (.iload_n 1, 1) := dk_27 (dk_at dksX2_keep_1 2 rfl rfl)
theorem dX2_keep_27 : decode cX2_keep 27 = .ok (.iadd, 1) := dk_96 (dk_at dksX2_keep_1 3 rfl rfl)
theorem dX2_keep_28 : decode cX2_keep 28 = .ok (.aload_n 0, 1) := dk_42 (dk_at dksX2_keep_1 4 rfl rfl)
theorem dX2_keep_29 : decode cX2_keep 29 = .ok (.getfield 7, 3) := dk_180 0 7 (dk_at dksX2_keep_1 5 rfl rfl)
theorem dX2_keep_32 : decode cX2_keep 32 = .ok (.sipush 197, 3) := dk_17 0 197 (dk_at dksX2_keep_1 8 rfl rfl)
theorem dX2_keep_35 : decode cX2_keep 35 = .ok (.iload_n 1, 1) := dk_27 (dk_at dksX2_keep_1 11 rfl rfl)
theorem dX2_keep_36 : decode cX2_keep 36 = .ok (.iadd, 1) := dk_96 (dk_at dksX2_keep_1 12 rfl rfl)
theorem dX2_keep_37 : decode cX2_keep 37 = .ok (.iaload, 1) := dk_46 (dk_at dksX2_keep_1 13 rfl rfl)
theorem dX2_keep_38 : decode cX2_keep 38 = .ok (.iastore, 1) := dk_79 (dk_at dksX2_keep_1 14 rfl rfl)
theorem dX2_keep_39 : decode cX2_keep 39 = .ok (.iinc 1 1, 3) := dk_132 1 1 (dk_at dksX2_keep_1 15 rfl rfl)
theorem dX2_keep_42 : decode cX2_keep 42 = .ok (.goto (-29), 3) := dk_167 255 227 (dk_at dksX2_keep_1 18 rfl rfl)
theorem dX2_keep_45 : decode cX2_keep 45 = .ok (.aload_n 0, 1) := dk_42 (dk_at dksX2_keep_1 21 rfl rfl)
theorem dX2_keep_46 : decode cX2_keep 46 = .ok (.getfield 7, 3) := dk_180 0 7 (dk_at dksX2_keep_2 0 rfl rfl)
theorem dX2_keep_49 : decode cX2_keep 49 = .ok (.iconst 3, 1) := dk_6 (dk_at dksX2_keep_2 3 rfl rfl)
theorem dX2_keep_50 : decode cX2_keep 50 = .ok (.dup2, 1) := dk_92 (dk_at dksX2_keep_2 4 rfl rfl)
theorem dX2_keep_51 : decode cX2_keep 51 = .ok (.iaload, 1) := dk_46 (dk_at dksX2_keep_2 5 rfl rfl)
theorem dX2_keep_52 : decode cX2_keep 52 = .ok (.iconst 1, 1) := dk_4 (dk_at dksX2_keep_2 6 rfl rfl)
theorem dX2_keep_53 : decode cX2_keep 53 = .ok (.isub, 1) := dk_100 (dk_at dksX2_keep_2 7 rfl rfl)
theorem dX2_keep_54 : decode cX2_keep 54 = .ok (.iastore, 1) := dk_79 (dk_at dksX2_keep_2 8 rfl rfl)
theorem dX2_keep_55 : decode cX2_keep 55 = .ok (.bipush 107, 2) := dk_16 107 (dk_at dksX2_keep_2 9 rfl rfl)
theorem dX2_keep_57 : decode cX2_keep 57 = .ok (.bipush 90, 2) := dk_16 90 (dk_at dksX2_keep_2 11 rfl rfl)
theorem dX2_keep_59 : decode cX2_keep 59 = .ok (.aload_n 0, 1) := dk_42 (dk_at dksX2_keep_2 13 rfl rfl)
theorem dX2_keep_60 : decode cX2_keep 60 = .ok (.getfield 7, 3) := dk_180 0 7 (dk_at dksX2_keep_2 14 rfl rfl)
theorem dX2_keep_63 : decode cX2_keep 63 = .ok (.iconst 3, 1) := dk_6 (dk_at dksX2_keep_2 17 rfl rfl)
theorem dX2_keep_64 : decode cX2_keep 64 = .ok (.iaload, 1) := dk_46 (dk_at dksX2_keep_2 18 rfl rfl)
theorem dX2_keep_65 : decode cX2_keep 65 = .ok (.imul, 1) := dk_104 (dk_at dksX2_keep_2 19 rfl rfl)
theorem dX2_keep_66 : decode cX2_keep 66 = .ok (.iadd, 1) := dk_96 (dk_at dksX2_keep_2 20 rfl rfl)
theorem dX2_keep_67 : decode cX2_keep 67 = .ok (.istore_n 1, 1) := dk_60 (dk_at dksX2_keep_2 21 rfl rfl)
theorem dX2_keep_68 : decode cX2_keep 68 = .ok (.aload_n 0, 1) := dk_42 (dk_at dksX2_keep_2 22 rfl rfl)
theorem dX2_keep_69 : decode cX2_keep 69 = .ok (.getfield 7, 3) := dk_180 0 7 (dk_at dksX2_keep_3 0 rfl rfl)
theorem dX2_keep_72 : decode cX2_keep 72 = .ok (.iload_n 1, 1) := dk_27 (dk_at dksX2_keep_3 3 rfl rfl)
theorem dX2_keep_73 : decode cX2_keep 73 = .ok (.aload_n 0, 1) := dk_42 (dk_at dksX2_keep_3 4 rfl rfl)
theorem dX2_keep_74 : decode cX2_keep 74 = .ok (.getfield 7, 3) := dk_180 0 7 (dk_at dksX2_keep_3 5 rfl rfl)
theorem dX2_keep_77 : decode cX2_keep 77 = .ok (.iconst 0, 1) := dk_3 (dk_at dksX2_keep_3 8 rfl rfl)
theorem dX2_keep_78 : decode cX2_keep 78 = .ok (.iaload, 1) := dk_46 (dk_at dksX2_keep_3 9 rfl rfl)
theorem dX2_keep_79 : decode cX2_keep 79 = .ok (.iastore, 1) := dk_79 (dk_at dksX2_keep_3 10 rfl rfl)
theorem dX2_keep_80 : decode cX2_keep 80 = .ok (.iconst 0, 1) := dk_3 (dk_at dksX2_keep_3 11 rfl rfl)
theorem dX2_keep_81 : decode cX2_keep 81 = .ok (.istore_n 2, 1) := dk_61 (dk_at dksX2_keep_3 12 rfl rfl)
theorem dX2_keep_82 : decode cX2_keep 82 = .ok (.iload_n 2, 1) := dk_28 (dk_at dksX2_keep_3 13 rfl rfl)
theorem dX2_keep_83 : decode cX2_keep 83 = .ok (.iconst 5, 1) := dk_8 (dk_at dksX2_keep_3 14 rfl rfl)
theorem dX2_keep_84 : decode cX2_keep 84 = .ok (.if_icmp .ge 28, 3) := dk_162 0 28 (dk_at dksX2_keep_3 15 rfl rfl)
theorem dX2_keep_87 : decode cX2_keep 87 = .ok (.aload_n 0, 1) := dk_42 (dk_at dksX2_keep_3 18 rfl rfl)
theorem dX2_keep_88 : decode cX2_keep 88 = .ok (.getfield 7, 3) := dk_180 0 7 (dk_at dksX2_keep_3 19 rfl rfl)
theorem dX2_keep_91 : decode cX2_keep 91 = .ok (.iload_n 1, 1) := dk_27 (dk_at dksX2_keep_3 22 rfl rfl)
theorem dX2_keep_92 : decode cX2_keep 92 = .ok (.iconst 1, 1) := dk_4 (dk_at dksX2_keep_3 23 rfl rfl)
theorem dX2_keep_93 : decode cX2_keep 93 = .ok (.iadd, 1) := dk_96 (dk_at dksX2_keep_4 0 rfl rfl)
theorem dX2_keep_94 : decode cX2_keep 94 = .ok (.iload_n 2, 1) := dk_28 (dk_at dksX2_keep_4 1 rfl rfl)
theorem dX2_keep_95 : decode cX2_keep 95 = .ok (.iadd, 1) := dk_96 (dk_at dksX2_keep_4 2 rfl rfl)
theorem dX2_keep_96 : decode cX2_keep 96 = .ok (.aload_n 0, 1) := dk_42 (dk_at dksX2_keep_4 3 rfl rfl)
theorem dX2_keep_97 : decode cX2_keep 97 = .ok (.getfield 7, 3) := dk_180 0 7 (dk_at dksX2_keep_4 4 rfl rfl)
theorem dX2_keep_100 : decode cX2_keep 100 = .ok (.bipush 6, 2) := dk_16 6 (dk_at dksX2_keep_4 7 rfl rfl)
theorem dX2_keep_102 : decode cX2_keep 102 = .ok (.iload_n 2, 1) := dk_28 (dk_at dksX2_keep_4 9 rfl rfl)
theorem dX2_keep_103 : decode cX2_keep 103 = .ok (.iadd, 1) := dk_96 (dk_at dksX2_keep_4 10 rfl rfl)
theorem dX2_keep_104 : decode cX2_keep 104 = .ok (.iaload, 1) := dk_46 (dk_at dksX2_keep_4 11 rfl rfl)
theorem dX2_keep_105 : decode cX2_keep 105 = .ok (.iastore, 1) := dk_79 (dk_at dksX2_keep_4 12 rfl rfl)
theorem dX2_keep_106 : decode cX2_keep 106 = .ok (.iinc 2 1, 3) := dk_132 2 1 (dk_at dksX2_keep_4 13 rfl rfl)
theorem dX2_keep_109 : decode cX2_keep 109 = .ok (.goto (-27), 3) := dk_167 255 229 (dk_at dksX2_keep_4 16 rfl rfl)
theorem dX2_keep_112 : decode cX2_keep 112 = .ok (.iconst 0, 1) := dk_3 (dk_at dksX2_keep_4 19 rfl rfl)
theorem dX2_keep_113 : decode cX2_keep 113 = .ok (.istore_n 2, 1) := dk_61 (dk_at dksX2_keep_4 20 rfl rfl)
theorem dX2_keep_114 : decode cX2_keep 114 = .ok (.iload_n 2, 1) := dk_28 (dk_at dksX2_keep_4 21 rfl rfl)
theorem dX2_keep_115 : decode cX2_keep 115 = .ok (.bipush 8, 2) := dk_16 8 (dk_at dksX2_keep_4 22 rfl rfl)
theorem dX2_keep_117 : decode cX2_keep 117 = .ok (.if_icmp .ge 43, 3) := dk_162 0 43 (dk_at dksX2_keep_5 0 rfl rfl)
theorem dX2_keep_120 : decode cX2_keep 120 = .ok (.iconst 0, 1) := dk_3 (dk_at dksX2_keep_5 3 rfl rfl)
theorem dX2_keep_121 : decode cX2_keep 121 = .ok (.istore_n 3, 1) := dk_62 (dk_at dksX2_keep_5 4 rfl rfl)
theorem dX2_keep_122 : decode cX2_keep 122 = .ok (.iload_n 3, 1) := dk_29 (dk_at dksX2_keep_5 5 rfl rfl)
theorem dX2_keep_123 : decode cX2_keep 123 = .ok (.iconst 3, 1) := dk_6 (dk_at dksX2_keep_5 6 rfl rfl)
theorem dX2_keep_124 : decode cX2_keep 124 = .ok (.if_icmp .ge 30, 3) := dk_162 0 30 (dk_at dksX2_keep_5 7 rfl rfl)
theorem dX2_keep_127 : decode cX2_keep 127 = .ok (.aload_n 0, 1) := dk_42 (dk_at dksX2_keep_5 10 rfl rfl)
theorem dX2_keep_128 : decode cX2_keep 128 = .ok (.getfield 7, 3) := dk_180 0 7 (dk_at dksX2_keep_5 11 rfl rfl)
theorem dX2_keep_131 : decode cX2_keep 131 = .ok (.iload_n 1, 1) := dk_27 (dk_at dksX2_keep_5 14 rfl rfl)
theorem dX2_keep_132 : decode cX2_keep 132 = .ok (.bipush 6, 2) := dk_16 6 (dk_at dksX2_keep_5 15 rfl rfl)
theorem dX2_keep_134 : decode cX2_keep 134 = .ok (.iadd, 1) := dk_96 (dk_at dksX2_keep_5 17 rfl rfl)
theorem dX2_keep_135 : decode cX2_keep 135 = .ok (.iconst 3, 1) := dk_6 (dk_at dksX2_keep_5 18 rfl rfl)
theorem dX2_keep_136 : decode cX2_keep 136 = .ok (.iload_n 2, 1) := dk_28 (dk_at dksX2_keep_5 19 rfl rfl)
theorem dX2_keep_137 : decode cX2_keep 137 = .ok (.imul, 1) := dk_104 (dk_at dksX2_keep_5 20 rfl rfl)
theorem dX2_keep_138 : decode cX2_keep 138 = .ok (.iadd, 1) := dk_96 (dk_at dksX2_keep_5 21 rfl rfl)
theorem dX2_keep_139 : decode cX2_keep 139 = .ok (.iload_n 3, 1) := dk_29 (dk_at dksX2_keep_5 22 rfl rfl)
theorem dX2_keep_140 : decode cX2_keep 140 = .ok (.iadd, 1) := dk_96 (dk_at dksX2_keep_5 23 rfl rfl)
theorem dX2_keep_141 : decode cX2_keep 141 = .ok (.aload_n 0, 1) := dk_42 (dk_at dksX2_keep_6 0 rfl rfl)
theorem dX2_keep_142 : decode cX2_keep 142 = .ok (.iload_n 2, 1) := dk_28 (dk_at dksX2_keep_6 1 rfl rfl)
theorem dX2_keep_143 : decode cX2_keep 143 = .ok (.iload_n 3, 1) := dk_29 (dk_at dksX2_keep_6 2 rfl rfl)
theorem dX2_keep_144 : decode cX2_keep 144 = .ok (.invokevirtual 74, 3) := dk_182 0 74 (dk_at dksX2_keep_6 3 rfl rfl)
theorem dX2_keep_147 : decode cX2_keep 147 = .ok (.iastore, 1) := dk_79 (dk_at dksX2_keep_6 6 rfl rfl)
theorem dX2_keep_148 : decode cX2_keep 148 = .ok (.iinc 3 1, 3) := dk_132 3 1 (dk_at dksX2_keep_6 7 rfl rfl)
theorem dX2_keep_151 : decode cX2_keep 151 = .ok (.goto (-29), 3) := dk_167 255 227 (dk_at dksX2_keep_6 10 rfl rfl)
theorem dX2_keep_154 : decode cX2_keep 154 = .ok (.iinc 2 1, 3) := dk_132 2 1 (dk_at dksX2_keep_6 13 rfl rfl)
theorem dX2_keep_157 : decode cX2_keep 157 = .ok (.goto (-43), 3) := dk_167 255 213 (dk_at dksX2_keep_6 16 rfl rfl)
theorem dX2_keep_160 : decode cX2_keep 160 = .ok (.iconst 0, 1) := dk_3 (dk_at dksX2_keep_6 19 rfl rfl)
theorem dX2_keep_161 : decode cX2_keep 161 = .ok (.istore_n 2, 1) := dk_61 (dk_at dksX2_keep_6 20 rfl rfl)
theorem dX2_keep_162 : decode cX2_keep 162 = .ok (.iload_n 2, 1) := dk_28 (dk_at dksX2_keep_6 21 rfl rfl)
theorem dX2_keep_163 : decode cX2_keep 163 = .ok (.bipush 60, 2) := dk_16 60 (dk_at dksX2_keep_6 22 rfl rfl)
theorem dX2_keep_165 : decode cX2_keep 165 = .ok (.if_icmp .ge 30, 3) := dk_162 0 30 (dk_at dksX2_keep_7 0 rfl rfl)
theorem dX2_keep_168 : decode cX2_keep 168 = .ok (.aload_n 0, 1) := dk_42 (dk_at dksX2_keep_7 3 rfl rfl)
theorem dX2_keep_169 : decode cX2_keep 169 = .ok (.getfield 7, 3) := dk_180 0 7 (dk_at dksX2_keep_7 4 rfl rfl)
theorem dX2_keep_172 : decode cX2_keep 172 = .ok (.iload_n 1, 1) := dk_27 (dk_at dksX2_keep_7 7 rfl rfl)
theorem dX2_keep_173 : decode cX2_keep 173 = .ok (.bipush 30, 2) := dk_16 30 (dk_at dksX2_keep_7 8 rfl rfl)
theorem dX2_keep_175 : decode cX2_keep 175 = .ok (.iadd, 1) := dk_96 (dk_at dksX2_keep_7 10 rfl rfl)
theorem dX2_keep_176 : decode cX2_keep 176 = .ok (.iload_n 2, 1) := dk_28 (dk_at dksX2_keep_7 11 rfl rfl)
theorem dX2_keep_177 : decode cX2_keep 177 = .ok (.iadd, 1) := dk_96 (dk_at dksX2_keep_7 12 rfl rfl)
theorem dX2_keep_178 : decode cX2_keep 178 = .ok (.aload_n 0, 1) := dk_42 (dk_at dksX2_keep_7 13 rfl rfl)
theorem dX2_keep_179 : decode cX2_keep 179 = .ok (.getfield 7, 3) := dk_180 0 7 (dk_at dksX2_keep_7 14 rfl rfl)
theorem dX2_keep_182 : decode cX2_keep 182 = .ok (.sipush 2807, 3) := dk_17 10 247 (dk_at dksX2_keep_7 17 rfl rfl)
theorem dX2_keep_185 : decode cX2_keep 185 = .ok (.iload_n 2, 1) := dk_28 (dk_at dksX2_keep_7 20 rfl rfl)
theorem dX2_keep_186 : decode cX2_keep 186 = .ok (.iadd, 1) := dk_96 (dk_at dksX2_keep_7 21 rfl rfl)
theorem dX2_keep_187 : decode cX2_keep 187 = .ok (.iaload, 1) := dk_46 (dk_at dksX2_keep_7 22 rfl rfl)
theorem dX2_keep_188 : decode cX2_keep 188 = .ok (.iastore, 1) := dk_79 (dk_at dksX2_keep_7 23 rfl rfl)
theorem dX2_keep_189 : decode cX2_keep 189 = .ok (.iinc 2 1, 3) := dk_132 2 1 (dk_at dksX2_keep_8 0 rfl rfl)
theorem dX2_keep_192 : decode cX2_keep 192 = .ok (.goto (-30), 3) := dk_167 255 226 (dk_at dksX2_keep_8 3 rfl rfl)
theorem dX2_keep_195 : decode cX2_keep 195 = .ok (.aload_n 0, 1) := dk_42 (dk_at dksX2_keep_8 6 rfl rfl)
theorem dX2_keep_196 : decode cX2_keep 196 = .ok (.getfield 7, 3) := dk_180 0 7 (dk_at dksX2_keep_8 7 rfl rfl)
theorem dX2_keep_199 : decode cX2_keep 199 = .ok (.iconst 3, 1) := dk_6 (dk_at dksX2_keep_8 10 rfl rfl)
theorem dX2_keep_200 : decode cX2_keep 200 = .ok (.dup2, 1) := dk_92 (dk_at dksX2_keep_8 11 rfl rfl)
theorem dX2_keep_201 : decode cX2_keep 201 = .ok (.iaload, 1) := dk_46 (dk_at dksX2_keep_8 12 rfl rfl)
theorem dX2_keep_202 : decode cX2_keep 202 = .ok (.iconst 1, 1) := dk_4 (dk_at dksX2_keep_8 13 rfl rfl)
theorem dX2_keep_203 : decode cX2_keep 203 = .ok (.iadd, 1) := dk_96 (dk_at dksX2_keep_8 14 rfl rfl)
theorem dX2_keep_204 : decode cX2_keep 204 = .ok (.iastore, 1) := dk_79 (dk_at dksX2_keep_8 15 rfl rfl)
theorem dX2_keep_205 : decode cX2_keep 205 = .ok (.return_, 1) := dk_177 (dk_at dksX2_keep_8 16 rfl rfl)
abbrev cX2_due : ByteArray := prog_21_method_78_code
def yX2_due : MethodName := ⟨RX2, "due", "(II)Z"⟩
def dkwX2_due_1 : List UInt8 := [28, 160, 0, 5, 3, 172, 42, 182, 1, 76, 42, 27, 3, 28, 182, 0, 78, 4, 172]
abbrev dktX2_due_1 : List UInt8 := dkwX2_due_1 ++ []
def dkwX2_due_0 : List UInt8 := [42, 27, 182, 1, 79, 153, 0, 23, 28, 3, 16, 99, 184, 0, 66, 153, 0, 13, 42, 27, 3, 182, 0, 74]
abbrev dktX2_due_0 : List UInt8 := dkwX2_due_0 ++ dktX2_due_1
theorem dksX2_due_0 : cX2_due.data.toList.drop 0 = dktX2_due_0 := by decide +kernel
theorem dksX2_due_1 : cX2_due.data.toList.drop 24 = dktX2_due_1 := dk_seg dksX2_due_0 24 rfl rfl
theorem dX2_due_0 : decode cX2_due 0 = .ok (.aload_n 0, 1) := dk_42 (dk_at dksX2_due_0 0 rfl rfl)
theorem dX2_due_1 : decode cX2_due 1 = .ok (.iload_n 1, 1) := dk_27 (dk_at dksX2_due_0 1 rfl rfl)
theorem dX2_due_2 : decode cX2_due 2 = .ok (.invokevirtual 335, 3) := dk_182 1 79 (dk_at dksX2_due_0 2 rfl rfl)
theorem dX2_due_5 : decode cX2_due 5 = .ok (.ifCond .eq 23, 3) := dk_153 0 23 (dk_at dksX2_due_0 5 rfl rfl)
theorem dX2_due_8 : decode cX2_due 8 = .ok (.iload_n 2, 1) := dk_28 (dk_at dksX2_due_0 8 rfl rfl)
theorem dX2_due_9 : decode cX2_due 9 = .ok (.iconst 0, 1) := dk_3 (dk_at dksX2_due_0 9 rfl rfl)
theorem dX2_due_10 : decode cX2_due 10 = .ok (.bipush 99, 2) := dk_16 99 (dk_at dksX2_due_0 10 rfl rfl)
theorem dX2_due_12 : decode cX2_due 12 = .ok (.invokestatic 66, 3) := dk_184 0 66 (dk_at dksX2_due_0 12 rfl rfl)
theorem dX2_due_15 : decode cX2_due 15 = .ok (.ifCond .eq 13, 3) := dk_153 0 13 (dk_at dksX2_due_0 15 rfl rfl)
theorem dX2_due_18 : decode cX2_due 18 = .ok (.aload_n 0, 1) := dk_42 (dk_at dksX2_due_0 18 rfl rfl)
theorem dX2_due_19 : decode cX2_due 19 = .ok (.iload_n 1, 1) := dk_27 (dk_at dksX2_due_0 19 rfl rfl)
theorem dX2_due_20 : decode cX2_due 20 = .ok (.iconst 0, 1) := dk_3 (dk_at dksX2_due_0 20 rfl rfl)
theorem dX2_due_21 : decode cX2_due 21 = .ok (.invokevirtual 74, 3) := dk_182 0 74 (dk_at dksX2_due_0 21 rfl rfl)
theorem dX2_due_24 : decode cX2_due 24 = .ok (.iload_n 2, 1) := dk_28 (dk_at dksX2_due_1 0 rfl rfl)
theorem dX2_due_25 : decode cX2_due 25 = .ok (.if_icmp .ne 5, 3) := dk_160 0 5 (dk_at dksX2_due_1 1 rfl rfl)
theorem dX2_due_28 : decode cX2_due 28 = .ok (.iconst 0, 1) := dk_3 (dk_at dksX2_due_1 4 rfl rfl)
theorem dX2_due_29 : decode cX2_due 29 = .ok (.ireturn, 1) := dk_172 (dk_at dksX2_due_1 5 rfl rfl)
theorem dX2_due_30 : decode cX2_due 30 = .ok (.aload_n 0, 1) := dk_42 (dk_at dksX2_due_1 6 rfl rfl)
theorem dX2_due_31 : decode cX2_due 31 = .ok (.invokevirtual 332, 3) := dk_182 1 76 (dk_at dksX2_due_1 7 rfl rfl)
theorem dX2_due_34 : decode cX2_due 34 = .ok (.aload_n 0, 1) := dk_42 (dk_at dksX2_due_1 10 rfl rfl)
theorem dX2_due_35 : decode cX2_due 35 = .ok (.iload_n 1, 1) := dk_27 (dk_at dksX2_due_1 11 rfl rfl)
theorem dX2_due_36 : decode cX2_due 36 = .ok (.iconst 0, 1) := dk_3 (dk_at dksX2_due_1 12 rfl rfl)
theorem dX2_due_37 : decode cX2_due 37 = .ok (.iload_n 2, 1) := dk_28 (dk_at dksX2_due_1 13 rfl rfl)
theorem dX2_due_38 : decode cX2_due 38 = .ok (.invokevirtual 78, 3) := dk_182 0 78 (dk_at dksX2_due_1 14 rfl rfl)
theorem dX2_due_41 : decode cX2_due 41 = .ok (.iconst 1, 1) := dk_4 (dk_at dksX2_due_1 17 rfl rfl)
theorem dX2_due_42 : decode cX2_due 42 = .ok (.ireturn, 1) := dk_172 (dk_at dksX2_due_1 18 rfl rfl)
abbrev cX2_isPerson : ByteArray := prog_21_method_7_code
def yX2_isPerson : MethodName := ⟨RX2, "isPerson", "(I)Z"⟩
def dkwX2_isPerson_0 : List UInt8 := [27, 3, 42, 180, 0, 7, 3, 46, 4, 100, 184, 0, 66, 172]
abbrev dktX2_isPerson_0 : List UInt8 := dkwX2_isPerson_0 ++ []
theorem dksX2_isPerson_0 : cX2_isPerson.data.toList.drop 0 = dktX2_isPerson_0 := by decide +kernel
theorem dX2_isPerson_0 : decode cX2_isPerson 0 = .ok (.iload_n 1, 1) := dk_27 (dk_at dksX2_isPerson_0 0 rfl rfl)
theorem dX2_isPerson_1 : decode cX2_isPerson 1 = .ok (.iconst 0, 1) := dk_3 (dk_at dksX2_isPerson_0 1 rfl rfl)
theorem dX2_isPerson_2 : decode cX2_isPerson 2 = .ok (.aload_n 0, 1) := dk_42 (dk_at dksX2_isPerson_0 2 rfl rfl)
theorem dX2_isPerson_3 : decode cX2_isPerson 3 = .ok (.getfield 7, 3) := dk_180 0 7 (dk_at dksX2_isPerson_0 3 rfl rfl)
theorem dX2_isPerson_6 : decode cX2_isPerson 6 = .ok (.iconst 0, 1) := dk_3 (dk_at dksX2_isPerson_0 6 rfl rfl)
theorem dX2_isPerson_7 : decode cX2_isPerson 7 = .ok (.iaload, 1) := dk_46 (dk_at dksX2_isPerson_0 7 rfl rfl)
theorem dX2_isPerson_8 : decode cX2_isPerson 8 = .ok (.iconst 1, 1) := dk_4 (dk_at dksX2_isPerson_0 8 rfl rfl)
theorem dX2_isPerson_9 : decode cX2_isPerson 9 = .ok (.isub, 1) := dk_100 (dk_at dksX2_isPerson_0 9 rfl rfl)
theorem dX2_isPerson_10 : decode cX2_isPerson 10 = .ok (.invokestatic 66, 3) := dk_184 0 66 (dk_at dksX2_isPerson_0 10 rfl rfl)
theorem dX2_isPerson_13 : decode cX2_isPerson 13 = .ok (.ireturn, 1) := dk_172 (dk_at dksX2_isPerson_0 13 rfl rfl)
abbrev cX2_bed : ByteArray := prog_21_method_80_code
def yX2_bed : MethodName := ⟨RX2, "bed", "(I)Z"⟩
def dkwX2_bed_0 : List UInt8 := [42, 27, 4, 182, 1, 82, 172]
abbrev dktX2_bed_0 : List UInt8 := dkwX2_bed_0 ++ []
theorem dksX2_bed_0 : cX2_bed.data.toList.drop 0 = dktX2_bed_0 := by decide +kernel
theorem dX2_bed_0 : decode cX2_bed 0 = .ok (.aload_n 0, 1) := dk_42 (dk_at dksX2_bed_0 0 rfl rfl)
theorem dX2_bed_1 : decode cX2_bed 1 = .ok (.iload_n 1, 1) := dk_27 (dk_at dksX2_bed_0 1 rfl rfl)
theorem dX2_bed_2 : decode cX2_bed 2 = .ok (.iconst 1, 1) := dk_4 (dk_at dksX2_bed_0 2 rfl rfl)
theorem dX2_bed_3 : decode cX2_bed 3 = .ok (.invokevirtual 338, 3) := dk_182 1 82 (dk_at dksX2_bed_0 3 rfl rfl)
theorem dX2_bed_6 : decode cX2_bed 6 = .ok (.ireturn, 1) := dk_172 (dk_at dksX2_bed_0 6 rfl rfl)
abbrev cX2_isLain : ByteArray := prog_21_method_79_code
def yX2_isLain : MethodName := ⟨RX2, "isLain", "(II)Z"⟩
def dkwX2_isLain_1 : List UInt8 := [42, 27, 4, 28, 182, 0, 78, 4, 172]
abbrev dktX2_isLain_1 : List UInt8 := dkwX2_isLain_1 ++ []
def dkwX2_isLain_0 : List UInt8 := [42, 27, 182, 1, 79, 153, 0, 13, 42, 27, 4, 182, 0, 74, 28, 160, 0, 5, 3, 172, 42, 182, 1, 76]
abbrev dktX2_isLain_0 : List UInt8 := dkwX2_isLain_0 ++ dktX2_isLain_1
theorem dksX2_isLain_0 : cX2_isLain.data.toList.drop 0 = dktX2_isLain_0 := by decide +kernel
theorem dksX2_isLain_1 : cX2_isLain.data.toList.drop 24 = dktX2_isLain_1 := dk_seg dksX2_isLain_0 24 rfl rfl
theorem dX2_isLain_0 : decode cX2_isLain 0 = .ok (.aload_n 0, 1) := dk_42 (dk_at dksX2_isLain_0 0 rfl rfl)
theorem dX2_isLain_1 : decode cX2_isLain 1 = .ok (.iload_n 1, 1) := dk_27 (dk_at dksX2_isLain_0 1 rfl rfl)
theorem dX2_isLain_2 : decode cX2_isLain 2 = .ok (.invokevirtual 335, 3) := dk_182 1 79 (dk_at dksX2_isLain_0 2 rfl rfl)
theorem dX2_isLain_5 : decode cX2_isLain 5 = .ok (.ifCond .eq 13, 3) := dk_153 0 13 (dk_at dksX2_isLain_0 5 rfl rfl)
theorem dX2_isLain_8 : decode cX2_isLain 8 = .ok (.aload_n 0, 1) := dk_42 (dk_at dksX2_isLain_0 8 rfl rfl)
theorem dX2_isLain_9 : decode cX2_isLain 9 = .ok (.iload_n 1, 1) := dk_27 (dk_at dksX2_isLain_0 9 rfl rfl)
theorem dX2_isLain_10 : decode cX2_isLain 10 = .ok (.iconst 1, 1) := dk_4 (dk_at dksX2_isLain_0 10 rfl rfl)
theorem dX2_isLain_11 : decode cX2_isLain 11 = .ok (.invokevirtual 74, 3) := dk_182 0 74 (dk_at dksX2_isLain_0 11 rfl rfl)
theorem dX2_isLain_14 : decode cX2_isLain 14 = .ok (.iload_n 2, 1) := dk_28 (dk_at dksX2_isLain_0 14 rfl rfl)
theorem dX2_isLain_15 : decode cX2_isLain 15 = .ok (.if_icmp .ne 5, 3) := dk_160 0 5 (dk_at dksX2_isLain_0 15 rfl rfl)
theorem dX2_isLain_18 : decode cX2_isLain 18 = .ok (.iconst 0, 1) := dk_3 (dk_at dksX2_isLain_0 18 rfl rfl)
theorem dX2_isLain_19 : decode cX2_isLain 19 = .ok (.ireturn, 1) := dk_172 (dk_at dksX2_isLain_0 19 rfl rfl)
theorem dX2_isLain_20 : decode cX2_isLain 20 = .ok (.aload_n 0, 1) := dk_42 (dk_at dksX2_isLain_0 20 rfl rfl)
theorem dX2_isLain_21 : decode cX2_isLain 21 = .ok (.invokevirtual 332, 3) := dk_182 1 76 (dk_at dksX2_isLain_0 21 rfl rfl)
theorem dX2_isLain_24 : decode cX2_isLain 24 = .ok (.aload_n 0, 1) := dk_42 (dk_at dksX2_isLain_1 0 rfl rfl)
theorem dX2_isLain_25 : decode cX2_isLain 25 = .ok (.iload_n 1, 1) := dk_27 (dk_at dksX2_isLain_1 1 rfl rfl)
theorem dX2_isLain_26 : decode cX2_isLain 26 = .ok (.iconst 1, 1) := dk_4 (dk_at dksX2_isLain_1 2 rfl rfl)
theorem dX2_isLain_27 : decode cX2_isLain 27 = .ok (.iload_n 2, 1) := dk_28 (dk_at dksX2_isLain_1 3 rfl rfl)
theorem dX2_isLain_28 : decode cX2_isLain 28 = .ok (.invokevirtual 78, 3) := dk_182 0 78 (dk_at dksX2_isLain_1 4 rfl rfl)
theorem dX2_isLain_31 : decode cX2_isLain 31 = .ok (.iconst 1, 1) := dk_4 (dk_at dksX2_isLain_1 7 rfl rfl)
theorem dX2_isLain_32 : decode cX2_isLain 32 = .ok (.ireturn, 1) := dk_172 (dk_at dksX2_isLain_1 8 rfl rfl)
abbrev cX2_up : ByteArray := prog_21_method_81_code
def yX2_up : MethodName := ⟨RX2, "up", "(I)Z"⟩
def dkwX2_up_0 : List UInt8 := [42, 27, 3, 182, 1, 82, 172]
abbrev dktX2_up_0 : List UInt8 := dkwX2_up_0 ++ []
theorem dksX2_up_0 : cX2_up.data.toList.drop 0 = dktX2_up_0 := by decide +kernel
theorem dX2_up_0 : decode cX2_up 0 = .ok (.aload_n 0, 1) := dk_42 (dk_at dksX2_up_0 0 rfl rfl)
theorem dX2_up_1 : decode cX2_up 1 = .ok (.iload_n 1, 1) := dk_27 (dk_at dksX2_up_0 1 rfl rfl)
theorem dX2_up_2 : decode cX2_up 2 = .ok (.iconst 0, 1) := dk_3 (dk_at dksX2_up_0 2 rfl rfl)
theorem dX2_up_3 : decode cX2_up 3 = .ok (.invokevirtual 338, 3) := dk_182 1 82 (dk_at dksX2_up_0 3 rfl rfl)
theorem dX2_up_6 : decode cX2_up 6 = .ok (.ireturn, 1) := dk_172 (dk_at dksX2_up_0 6 rfl rfl)
abbrev cX2_day : ByteArray := prog_21_method_83_code
def yX2_day : MethodName := ⟨RX2, "day", "(I)I"⟩
def dkwX2_day_1 : List UInt8 := [163, 0, 18, 42, 27, 182, 1, 88, 153, 0, 10, 42, 180, 1, 67, 167, 0, 4, 2, 172]
abbrev dktX2_day_1 : List UInt8 := dkwX2_day_1 ++ []
def dkwX2_day_0 : List UInt8 := [27, 4, 16, 60, 184, 0, 66, 153, 0, 33, 42, 180, 0, 7, 16, 6, 46, 27, 96, 17, 39, 15]
abbrev dktX2_day_0 : List UInt8 := dkwX2_day_0 ++ dktX2_day_1
theorem dksX2_day_0 : cX2_day.data.toList.drop 0 = dktX2_day_0 := by decide +kernel
theorem dksX2_day_1 : cX2_day.data.toList.drop 22 = dktX2_day_1 := dk_seg dksX2_day_0 22 rfl rfl
theorem dX2_day_0 : decode cX2_day 0 = .ok (.iload_n 1, 1) := dk_27 (dk_at dksX2_day_0 0 rfl rfl)
theorem dX2_day_1 : decode cX2_day 1 = .ok (.iconst 1, 1) := dk_4 (dk_at dksX2_day_0 1 rfl rfl)
theorem dX2_day_2 : decode cX2_day 2 = .ok (.bipush 60, 2) := dk_16 60 (dk_at dksX2_day_0 2 rfl rfl)
theorem dX2_day_4 : decode cX2_day 4 = .ok (.invokestatic 66, 3) := dk_184 0 66 (dk_at dksX2_day_0 4 rfl rfl)
theorem dX2_day_7 : decode cX2_day 7 = .ok (.ifCond .eq 33, 3) := dk_153 0 33 (dk_at dksX2_day_0 7 rfl rfl)
theorem dX2_day_10 : decode cX2_day 10 = .ok (.aload_n 0, 1) := dk_42 (dk_at dksX2_day_0 10 rfl rfl)
theorem dX2_day_11 : decode cX2_day 11 = .ok (.getfield 7, 3) := dk_180 0 7 (dk_at dksX2_day_0 11 rfl rfl)
theorem dX2_day_14 : decode cX2_day 14 = .ok (.bipush 6, 2) := dk_16 6 (dk_at dksX2_day_0 14 rfl rfl)
theorem dX2_day_16 : decode cX2_day 16 = .ok (.iaload, 1) := dk_46 (dk_at dksX2_day_0 16 rfl rfl)
theorem dX2_day_17 : decode cX2_day 17 = .ok (.iload_n 1, 1) := dk_27 (dk_at dksX2_day_0 17 rfl rfl)
theorem dX2_day_18 : decode cX2_day 18 = .ok (.iadd, 1) := dk_96 (dk_at dksX2_day_0 18 rfl rfl)
theorem dX2_day_19 : decode cX2_day 19 = .ok (.sipush 9999, 3) := dk_17 39 15 (dk_at dksX2_day_0 19 rfl rfl)
theorem dX2_day_22 : decode cX2_day 22 = .ok (.if_icmp .gt 18, 3) := dk_163 0 18 (dk_at dksX2_day_1 0 rfl rfl)
theorem dX2_day_25 : decode cX2_day 25 = .ok (.aload_n 0, 1) := dk_42 (dk_at dksX2_day_1 3 rfl rfl)
theorem dX2_day_26 : decode cX2_day 26 = .ok (.iload_n 1, 1) := dk_27 (dk_at dksX2_day_1 4 rfl rfl)
theorem dX2_day_27 : decode cX2_day 27 = .ok (.invokevirtual 344, 3) := dk_182 1 88 (dk_at dksX2_day_1 5 rfl rfl)
theorem dX2_day_30 : decode cX2_day 30 = .ok (.ifCond .eq 10, 3) := dk_153 0 10 (dk_at dksX2_day_1 8 rfl rfl)
theorem dX2_day_33 : decode cX2_day 33 = .ok (.aload_n 0, 1) := dk_42 (dk_at dksX2_day_1 11 rfl rfl)
theorem dX2_day_34 : decode cX2_day 34 = .ok (.getfield 323, 3) := dk_180 1 67 (dk_at dksX2_day_1 12 rfl rfl)
theorem dX2_day_37 : decode cX2_day 37 = .ok (.goto 4, 3) := dk_167 0 4 (dk_at dksX2_day_1 15 rfl rfl)
theorem dX2_day_40 : decode cX2_day 40 = .ok (.iconst (-1), 1) := dk_2 (dk_at dksX2_day_1 18 rfl rfl)
theorem dX2_day_41 : decode cX2_day 41 = .ok (.ireturn, 1) := dk_172 (dk_at dksX2_day_1 19 rfl rfl)
abbrev cX2_arePassed : ByteArray := prog_21_method_82_code
def yX2_arePassed : MethodName := ⟨RX2, "arePassed", "(I)Z"⟩
def dkwX2_arePassed_1 : List UInt8 := [160, 0, 5, 3, 172, 42, 182, 1, 76, 42, 182, 1, 85, 132, 2, 1, 167, 255, 225, 4, 172]
abbrev dktX2_arePassed_1 : List UInt8 := dkwX2_arePassed_1 ++ []
def dkwX2_arePassed_0 : List UInt8 := [42, 3, 181, 1, 67, 3, 61, 28, 27, 162, 0, 32, 42, 180, 0, 7, 16, 6, 46, 17, 39, 15]
abbrev dktX2_arePassed_0 : List UInt8 := dkwX2_arePassed_0 ++ dktX2_arePassed_1
theorem dksX2_arePassed_0 : cX2_arePassed.data.toList.drop 0 = dktX2_arePassed_0 := by decide +kernel
theorem dksX2_arePassed_1 : cX2_arePassed.data.toList.drop 22 = dktX2_arePassed_1 := dk_seg dksX2_arePassed_0 22 rfl rfl
theorem dX2_arePassed_0 : decode cX2_arePassed 0 = .ok (.aload_n 0, 1) := dk_42 (dk_at dksX2_arePassed_0 0 rfl rfl)
theorem dX2_arePassed_1 : decode cX2_arePassed 1 = .ok (.iconst 0, 1) := dk_3 (dk_at dksX2_arePassed_0 1 rfl rfl)
theorem dX2_arePassed_2 : decode cX2_arePassed 2 = .ok (.putfield 323, 3) := dk_181 1 67 (dk_at dksX2_arePassed_0 2 rfl rfl)
theorem dX2_arePassed_5 : decode cX2_arePassed 5 = .ok (.iconst 0, 1) := dk_3 (dk_at dksX2_arePassed_0 5 rfl rfl)
theorem dX2_arePassed_6 : decode cX2_arePassed 6 = .ok (.istore_n 2, 1) := dk_61 (dk_at dksX2_arePassed_0 6 rfl rfl)
theorem dX2_arePassed_7 : decode cX2_arePassed 7 = .ok (.iload_n 2, 1) := dk_28 (dk_at dksX2_arePassed_0 7 rfl rfl)
theorem dX2_arePassed_8 : decode cX2_arePassed 8 = .ok (.iload_n 1, 1) := dk_27 (dk_at dksX2_arePassed_0 8 rfl rfl)
theorem dX2_arePassed_9 : decode cX2_arePassed 9 = .ok (.if_icmp .ge 32, 3) := dk_162 0 32 (dk_at dksX2_arePassed_0 9 rfl rfl)
theorem dX2_arePassed_12 : decode cX2_arePassed 12 = .ok (.aload_n 0, 1) := dk_42 (dk_at dksX2_arePassed_0 12 rfl rfl)
theorem dX2_arePassed_13 : decode cX2_arePassed 13 = .ok (.getfield 7, 3) := dk_180 0 7 (dk_at dksX2_arePassed_0 13 rfl rfl)
theorem dX2_arePassed_16 : decode cX2_arePassed 16 = .ok (.bipush 6, 2) := dk_16 6 (dk_at dksX2_arePassed_0 16 rfl rfl)
theorem dX2_arePassed_18 : decode cX2_arePassed 18 = .ok (.iaload, 1) := dk_46 (dk_at dksX2_arePassed_0 18 rfl rfl)
theorem dX2_arePassed_19 : decode cX2_arePassed 19 = .ok (.sipush 9999, 3) := dk_17 39 15 (dk_at dksX2_arePassed_0 19 rfl rfl)
theorem dX2_arePassed_22 : decode cX2_arePassed 22 = .ok (.if_icmp .ne 5, 3) := dk_160 0 5 (dk_at dksX2_arePassed_1 0 rfl rfl)
theorem dX2_arePassed_25 : decode cX2_arePassed 25 = .ok (.iconst 0, 1) := dk_3 (dk_at dksX2_arePassed_1 3 rfl rfl)
theorem dX2_arePassed_26 : decode cX2_arePassed 26 = .ok (.ireturn, 1) := dk_172 (dk_at dksX2_arePassed_1 4 rfl rfl)
theorem dX2_arePassed_27 : decode cX2_arePassed 27 = .ok (.aload_n 0, 1) := dk_42 (dk_at dksX2_arePassed_1 5 rfl rfl)
theorem dX2_arePassed_28 : decode cX2_arePassed 28 = .ok (.invokevirtual 332, 3) := dk_182 1 76 (dk_at dksX2_arePassed_1 6 rfl rfl)
theorem dX2_arePassed_31 : decode cX2_arePassed 31 = .ok (.aload_n 0, 1) := dk_42 (dk_at dksX2_arePassed_1 9 rfl rfl)
theorem dX2_arePassed_32 : decode cX2_arePassed 32 = .ok (.invokevirtual 341, 3) := dk_182 1 85 (dk_at dksX2_arePassed_1 10 rfl rfl)
theorem dX2_arePassed_35 : decode cX2_arePassed 35 = .ok (.iinc 2 1, 3) := dk_132 2 1 (dk_at dksX2_arePassed_1 13 rfl rfl)
theorem dX2_arePassed_38 : decode cX2_arePassed 38 = .ok (.goto (-31), 3) := dk_167 255 225 (dk_at dksX2_arePassed_1 16 rfl rfl)
theorem dX2_arePassed_41 : decode cX2_arePassed 41 = .ok (.iconst 1, 1) := dk_4 (dk_at dksX2_arePassed_1 19 rfl rfl)
theorem dX2_arePassed_42 : decode cX2_arePassed 42 = .ok (.ireturn, 1) := dk_172 (dk_at dksX2_arePassed_1 20 rfl rfl)
abbrev cX2_pass : ByteArray := prog_21_method_74_code
def yX2_pass : MethodName := ⟨RX2, "pass", "()V"⟩
def dkwX2_pass_5 : List UInt8 := [4, 96, 79, 177]
abbrev dktX2_pass_5 : List UInt8 := dkwX2_pass_5 ++ []
def dkwX2_pass_4 : List UInt8 := [181, 1, 67, 42, 27, 182, 1, 70, 42, 180, 0, 7, 16, 7, 27, 79, 42, 180, 0, 7, 16, 6, 92, 46]
abbrev dktX2_pass_4 : List UInt8 := dkwX2_pass_4 ++ dktX2_pass_5
def dkwX2_pass_3 : List UInt8 := [184, 1, 32, 182, 0, 78, 132, 2, 1, 167, 255, 213, 42, 89, 180, 1, 67, 27, 184, 1, 42, 96]
abbrev dktX2_pass_3 : List UInt8 := dkwX2_pass_3 ++ dktX2_pass_4
def dkwX2_pass_2 : List UInt8 := [184, 0, 246, 153, 0, 25, 42, 28, 5, 42, 28, 5, 182, 0, 74, 4, 96, 133, 3, 17, 39, 15]
abbrev dktX2_pass_2 : List UInt8 := dkwX2_pass_2 ++ dktX2_pass_3
def dkwX2_pass_1 : List UInt8 := [180, 0, 7, 16, 7, 46, 182, 1, 64, 60, 3, 61, 28, 42, 180, 0, 7, 3, 46, 162, 0, 39, 27, 28]
abbrev dktX2_pass_1 : List UInt8 := dkwX2_pass_1 ++ dktX2_pass_2
def dkwX2_pass_0 : List UInt8 := [42, 180, 0, 7, 16, 8, 42, 180, 0, 7, 16, 9, 46, 16, 10, 112, 79, 42, 182, 1, 61, 42, 42]
abbrev dktX2_pass_0 : List UInt8 := dkwX2_pass_0 ++ dktX2_pass_1
theorem dksX2_pass_0 : cX2_pass.data.toList.drop 0 = dktX2_pass_0 := by decide +kernel
theorem dksX2_pass_1 : cX2_pass.data.toList.drop 23 = dktX2_pass_1 := dk_seg dksX2_pass_0 23 rfl rfl
theorem dksX2_pass_2 : cX2_pass.data.toList.drop 47 = dktX2_pass_2 := dk_seg dksX2_pass_1 24 rfl rfl
theorem dksX2_pass_3 : cX2_pass.data.toList.drop 69 = dktX2_pass_3 := dk_seg dksX2_pass_2 22 rfl rfl
theorem dksX2_pass_4 : cX2_pass.data.toList.drop 91 = dktX2_pass_4 := dk_seg dksX2_pass_3 22 rfl rfl
theorem dksX2_pass_5 : cX2_pass.data.toList.drop 115 = dktX2_pass_5 := dk_seg dksX2_pass_4 24 rfl rfl
theorem dX2_pass_0 : decode cX2_pass 0 = .ok (.aload_n 0, 1) := dk_42 (dk_at dksX2_pass_0 0 rfl rfl)
theorem dX2_pass_1 : decode cX2_pass 1 = .ok (.getfield 7, 3) := dk_180 0 7 (dk_at dksX2_pass_0 1 rfl rfl)
theorem dX2_pass_4 : decode cX2_pass 4 = .ok (.bipush 8, 2) := dk_16 8 (dk_at dksX2_pass_0 4 rfl rfl)
theorem dX2_pass_6 : decode cX2_pass 6 = .ok (.aload_n 0, 1) := dk_42 (dk_at dksX2_pass_0 6 rfl rfl)
theorem dX2_pass_7 : decode cX2_pass 7 = .ok (.getfield 7, 3) := dk_180 0 7 (dk_at dksX2_pass_0 7 rfl rfl)
theorem dX2_pass_10 : decode cX2_pass 10 = .ok (.bipush 9, 2) := dk_16 9 (dk_at dksX2_pass_0 10 rfl rfl)
theorem dX2_pass_12 : decode cX2_pass 12 = .ok (.iaload, 1) := dk_46 (dk_at dksX2_pass_0 12 rfl rfl)
theorem dX2_pass_13 : decode cX2_pass 13 = .ok (.bipush 10, 2) := dk_16 10 (dk_at dksX2_pass_0 13 rfl rfl)
theorem dX2_pass_15 : decode cX2_pass 15 = .ok (.irem, 1) := dk_112 (dk_at dksX2_pass_0 15 rfl rfl)
theorem dX2_pass_16 : decode cX2_pass 16 = .ok (.iastore, 1) := dk_79 (dk_at dksX2_pass_0 16 rfl rfl)
theorem dX2_pass_17 : decode cX2_pass 17 = .ok (.aload_n 0, 1) := dk_42 (dk_at dksX2_pass_0 17 rfl rfl)
theorem dX2_pass_18 : decode cX2_pass 18 = .ok (.invokevirtual 317, 3) := dk_182 1 61 (dk_at dksX2_pass_0 18 rfl rfl)
theorem dX2_pass_21 : decode cX2_pass 21 = .ok (.aload_n 0, 1) := dk_42 (dk_at dksX2_pass_0 21 rfl rfl)
theorem dX2_pass_22 : decode cX2_pass 22 = .ok (.aload_n 0, 1) := dk_42 (dk_at dksX2_pass_0 22 rfl rfl)
theorem dX2_pass_23 : decode cX2_pass 23 = .ok (.getfield 7, 3) := dk_180 0 7 (dk_at dksX2_pass_1 0 rfl rfl)
theorem dX2_pass_26 : decode cX2_pass 26 = .ok (.bipush 7, 2) := dk_16 7 (dk_at dksX2_pass_1 3 rfl rfl)
theorem dX2_pass_28 : decode cX2_pass 28 = .ok (.iaload, 1) := dk_46 (dk_at dksX2_pass_1 5 rfl rfl)
theorem dX2_pass_29 : decode cX2_pass 29 = .ok (.invokevirtual 320, 3) := dk_182 1 64 (dk_at dksX2_pass_1 6 rfl rfl)
theorem dX2_pass_32 : decode cX2_pass 32 = .ok (.istore_n 1, 1) := dk_60 (dk_at dksX2_pass_1 9 rfl rfl)
theorem dX2_pass_33 : decode cX2_pass 33 = .ok (.iconst 0, 1) := dk_3 (dk_at dksX2_pass_1 10 rfl rfl)
theorem dX2_pass_34 : decode cX2_pass 34 = .ok (.istore_n 2, 1) := dk_61 (dk_at dksX2_pass_1 11 rfl rfl)
theorem dX2_pass_35 : decode cX2_pass 35 = .ok (.iload_n 2, 1) := dk_28 (dk_at dksX2_pass_1 12 rfl rfl)
theorem dX2_pass_36 : decode cX2_pass 36 = .ok (.aload_n 0, 1) := dk_42 (dk_at dksX2_pass_1 13 rfl rfl)
theorem dX2_pass_37 : decode cX2_pass 37 = .ok (.getfield 7, 3) := dk_180 0 7 (dk_at dksX2_pass_1 14 rfl rfl)
theorem dX2_pass_40 : decode cX2_pass 40 = .ok (.iconst 0, 1) := dk_3 (dk_at dksX2_pass_1 17 rfl rfl)
theorem dX2_pass_41 : decode cX2_pass 41 = .ok (.iaload, 1) := dk_46 (dk_at dksX2_pass_1 18 rfl rfl)
theorem dX2_pass_42 : decode cX2_pass 42 = .ok (.if_icmp .ge 39, 3) := dk_162 0 39 (dk_at dksX2_pass_1 19 rfl rfl)
theorem dX2_pass_45 : decode cX2_pass 45 = .ok (.iload_n 1, 1) := dk_27 (dk_at dksX2_pass_1 22 rfl rfl)
theorem dX2_pass_46 : decode cX2_pass 46 = .ok (.iload_n 2, 1) := dk_28 (dk_at dksX2_pass_1 23 rfl rfl)
theorem dX2_pass_47 : decode cX2_pass 47 = .ok (.invokestatic 246, 3) := dk_184 0 246 (dk_at dksX2_pass_2 0 rfl rfl)
theorem dX2_pass_50 : decode cX2_pass 50 = .ok (.ifCond .eq 25, 3) := dk_153 0 25 (dk_at dksX2_pass_2 3 rfl rfl)
theorem dX2_pass_53 : decode cX2_pass 53 = .ok (.aload_n 0, 1) := dk_42 (dk_at dksX2_pass_2 6 rfl rfl)
theorem dX2_pass_54 : decode cX2_pass 54 = .ok (.iload_n 2, 1) := dk_28 (dk_at dksX2_pass_2 7 rfl rfl)
theorem dX2_pass_55 : decode cX2_pass 55 = .ok (.iconst 2, 1) := dk_5 (dk_at dksX2_pass_2 8 rfl rfl)
theorem dX2_pass_56 : decode cX2_pass 56 = .ok (.aload_n 0, 1) := dk_42 (dk_at dksX2_pass_2 9 rfl rfl)
theorem dX2_pass_57 : decode cX2_pass 57 = .ok (.iload_n 2, 1) := dk_28 (dk_at dksX2_pass_2 10 rfl rfl)
theorem dX2_pass_58 : decode cX2_pass 58 = .ok (.iconst 2, 1) := dk_5 (dk_at dksX2_pass_2 11 rfl rfl)
theorem dX2_pass_59 : decode cX2_pass 59 = .ok (.invokevirtual 74, 3) := dk_182 0 74 (dk_at dksX2_pass_2 12 rfl rfl)
theorem dX2_pass_62 : decode cX2_pass 62 = .ok (.iconst 1, 1) := dk_4 (dk_at dksX2_pass_2 15 rfl rfl)
theorem dX2_pass_63 : decode cX2_pass 63 = .ok (.iadd, 1) := dk_96 (dk_at dksX2_pass_2 16 rfl rfl)
theorem dX2_pass_64 : decode cX2_pass 64 = .ok (.i2l, 1) := dk_133 (dk_at dksX2_pass_2 17 rfl rfl)
theorem dX2_pass_65 : decode cX2_pass 65 = .ok (.iconst 0, 1) := dk_3 (dk_at dksX2_pass_2 18 rfl rfl)
theorem dX2_pass_66 : decode cX2_pass 66 = .ok (.sipush 9999, 3) := dk_17 39 15 (dk_at dksX2_pass_2 19 rfl rfl)
theorem dX2_pass_69 : decode cX2_pass 69 = .ok (.invokestatic 288, 3) := dk_184 1 32 (dk_at dksX2_pass_3 0 rfl rfl)
theorem dX2_pass_72 : decode cX2_pass 72 = .ok (.invokevirtual 78, 3) := dk_182 0 78 (dk_at dksX2_pass_3 3 rfl rfl)
theorem dX2_pass_75 : decode cX2_pass 75 = .ok (.iinc 2 1, 3) := dk_132 2 1 (dk_at dksX2_pass_3 6 rfl rfl)
theorem dX2_pass_78 : decode cX2_pass 78 = .ok (.goto (-43), 3) := dk_167 255 213 (dk_at dksX2_pass_3 9 rfl rfl)
theorem dX2_pass_81 : decode cX2_pass 81 = .ok (.aload_n 0, 1) := dk_42 (dk_at dksX2_pass_3 12 rfl rfl)
theorem dX2_pass_82 : decode cX2_pass 82 = .ok (.dup, 1) := dk_89 (dk_at dksX2_pass_3 13 rfl rfl)
theorem dX2_pass_83 : decode cX2_pass 83 = .ok (.getfield 323, 3) := dk_180 1 67 (dk_at dksX2_pass_3 14 rfl rfl)
theorem dX2_pass_86 : decode cX2_pass 86 = .ok (.iload_n 1, 1) := dk_27 (dk_at dksX2_pass_3 17 rfl rfl)
theorem dX2_pass_87 : decode cX2_pass 87 = .ok (.invokestatic 298, 3) := dk_184 1 42 (dk_at dksX2_pass_3 18 rfl rfl)
theorem dX2_pass_90 : decode cX2_pass 90 = .ok (.iadd, 1) := dk_96 (dk_at dksX2_pass_3 21 rfl rfl)
theorem dX2_pass_91 : decode cX2_pass 91 = .ok (.putfield 323, 3) := dk_181 1 67 (dk_at dksX2_pass_4 0 rfl rfl)
theorem dX2_pass_94 : decode cX2_pass 94 = .ok (.aload_n 0, 1) := dk_42 (dk_at dksX2_pass_4 3 rfl rfl)
theorem dX2_pass_95 : decode cX2_pass 95 = .ok (.iload_n 1, 1) := dk_27 (dk_at dksX2_pass_4 4 rfl rfl)
theorem dX2_pass_96 : decode cX2_pass 96 = .ok (.invokevirtual 326, 3) := dk_182 1 70 (dk_at dksX2_pass_4 5 rfl rfl)
theorem dX2_pass_99 : decode cX2_pass 99 = .ok (.aload_n 0, 1) := dk_42 (dk_at dksX2_pass_4 8 rfl rfl)
theorem dX2_pass_100 : decode cX2_pass 100 = .ok (.getfield 7, 3) := dk_180 0 7 (dk_at dksX2_pass_4 9 rfl rfl)
theorem dX2_pass_103 : decode cX2_pass 103 = .ok (.bipush 7, 2) := dk_16 7 (dk_at dksX2_pass_4 12 rfl rfl)
theorem dX2_pass_105 : decode cX2_pass 105 = .ok (.iload_n 1, 1) := dk_27 (dk_at dksX2_pass_4 14 rfl rfl)
theorem dX2_pass_106 : decode cX2_pass 106 = .ok (.iastore, 1) := dk_79 (dk_at dksX2_pass_4 15 rfl rfl)
theorem dX2_pass_107 : decode cX2_pass 107 = .ok (.aload_n 0, 1) := dk_42 (dk_at dksX2_pass_4 16 rfl rfl)
theorem dX2_pass_108 : decode cX2_pass 108 = .ok (.getfield 7, 3) := dk_180 0 7 (dk_at dksX2_pass_4 17 rfl rfl)
theorem dX2_pass_111 : decode cX2_pass 111 = .ok (.bipush 6, 2) := dk_16 6 (dk_at dksX2_pass_4 20 rfl rfl)
theorem dX2_pass_113 : decode cX2_pass 113 = .ok (.dup2, 1) := dk_92 (dk_at dksX2_pass_4 22 rfl rfl)
theorem dX2_pass_114 : decode cX2_pass 114 = .ok (.iaload, 1) := dk_46 (dk_at dksX2_pass_4 23 rfl rfl)
theorem dX2_pass_115 : decode cX2_pass 115 = .ok (.iconst 1, 1) := dk_4 (dk_at dksX2_pass_5 0 rfl rfl)
theorem dX2_pass_116 : decode cX2_pass 116 = .ok (.iadd, 1) := dk_96 (dk_at dksX2_pass_5 1 rfl rfl)
theorem dX2_pass_117 : decode cX2_pass 117 = .ok (.iastore, 1) := dk_79 (dk_at dksX2_pass_5 2 rfl rfl)
theorem dX2_pass_118 : decode cX2_pass 118 = .ok (.return_, 1) := dk_177 (dk_at dksX2_pass_5 3 rfl rfl)
abbrev cX2_anew : ByteArray := prog_21_method_73_code
def yX2_anew : MethodName := ⟨RX2, "anew", "()V"⟩
def dkwX2_anew_1 : List UInt8 := [20, 1, 59, 113, 136, 79, 177]
abbrev dktX2_anew_1 : List UInt8 := dkwX2_anew_1 ++ []
def dkwX2_anew_0 : List UInt8 := [42, 180, 0, 7, 16, 9, 42, 180, 0, 7, 16, 9, 46, 133, 20, 1, 55, 105, 20, 1, 57, 97]
abbrev dktX2_anew_0 : List UInt8 := dkwX2_anew_0 ++ dktX2_anew_1
theorem dksX2_anew_0 : cX2_anew.data.toList.drop 0 = dktX2_anew_0 := by decide +kernel
theorem dksX2_anew_1 : cX2_anew.data.toList.drop 22 = dktX2_anew_1 := dk_seg dksX2_anew_0 22 rfl rfl
theorem dX2_anew_0 : decode cX2_anew 0 = .ok (.aload_n 0, 1) := dk_42 (dk_at dksX2_anew_0 0 rfl rfl)
theorem dX2_anew_1 : decode cX2_anew 1 = .ok (.getfield 7, 3) := dk_180 0 7 (dk_at dksX2_anew_0 1 rfl rfl)
theorem dX2_anew_4 : decode cX2_anew 4 = .ok (.bipush 9, 2) := dk_16 9 (dk_at dksX2_anew_0 4 rfl rfl)
theorem dX2_anew_6 : decode cX2_anew 6 = .ok (.aload_n 0, 1) := dk_42 (dk_at dksX2_anew_0 6 rfl rfl)
theorem dX2_anew_7 : decode cX2_anew 7 = .ok (.getfield 7, 3) := dk_180 0 7 (dk_at dksX2_anew_0 7 rfl rfl)
theorem dX2_anew_10 : decode cX2_anew 10 = .ok (.bipush 9, 2) := dk_16 9 (dk_at dksX2_anew_0 10 rfl rfl)
theorem dX2_anew_12 : decode cX2_anew 12 = .ok (.iaload, 1) := dk_46 (dk_at dksX2_anew_0 12 rfl rfl)
theorem dX2_anew_13 : decode cX2_anew 13 = .ok (.i2l, 1) := dk_133 (dk_at dksX2_anew_0 13 rfl rfl)
theorem dX2_anew_14 : decode cX2_anew 14 = .ok (.ldc2_w 311, 3) := dk_20 1 55 (dk_at dksX2_anew_0 14 rfl rfl)
theorem dX2_anew_17 : decode cX2_anew 17 = .ok (.lmul, 1) := dk_105 (dk_at dksX2_anew_0 17 rfl rfl)
theorem dX2_anew_18 : decode cX2_anew 18 = .ok (.ldc2_w 313, 3) := dk_20 1 57 (dk_at dksX2_anew_0 18 rfl rfl)
theorem dX2_anew_21 : decode cX2_anew 21 = .ok (.ladd, 1) := dk_97 (dk_at dksX2_anew_0 21 rfl rfl)
theorem dX2_anew_22 : decode cX2_anew 22 = .ok (.ldc2_w 315, 3) := dk_20 1 59 (dk_at dksX2_anew_1 0 rfl rfl)
theorem dX2_anew_25 : decode cX2_anew 25 = .ok (.lrem, 1) := dk_113 (dk_at dksX2_anew_1 3 rfl rfl)
theorem dX2_anew_26 : decode cX2_anew 26 = .ok (.l2i, 1) := dk_136 (dk_at dksX2_anew_1 4 rfl rfl)
theorem dX2_anew_27 : decode cX2_anew 27 = .ok (.iastore, 1) := dk_79 (dk_at dksX2_anew_1 5 rfl rfl)
theorem dX2_anew_28 : decode cX2_anew 28 = .ok (.return_, 1) := dk_177 (dk_at dksX2_anew_1 6 rfl rfl)
abbrev cX2_lateBy : ByteArray := prog_21_method_69_code
def yX2_lateBy : MethodName := ⟨RX2, "lateBy", "(I)I"⟩
def dkwX2_lateBy_3 : List UInt8 := [132, 4, 1, 167, 255, 198, 29, 172]
abbrev dktX2_lateBy_3 : List UInt8 := dkwX2_lateBy_3 ++ []
def dkwX2_lateBy_2 : List UInt8 := [28, 182, 1, 52, 42, 21, 4, 3, 182, 0, 74, 164, 0, 10, 4, 21, 4, 120, 167, 0, 4, 3, 128, 62]
abbrev dktX2_lateBy_2 : List UInt8 := dkwX2_lateBy_2 ++ dktX2_lateBy_3
def dkwX2_lateBy_1 : List UInt8 := [46, 162, 0, 53, 29, 42, 21, 4, 182, 1, 36, 153, 0, 34, 42, 42, 180, 0, 7, 5, 46, 21, 4, 27]
abbrev dktX2_lateBy_1 : List UInt8 := dkwX2_lateBy_1 ++ dktX2_lateBy_2
def dkwX2_lateBy_0 : List UInt8 := [42, 42, 180, 0, 7, 5, 46, 27, 182, 1, 49, 61, 3, 62, 3, 54, 4, 21, 4, 42, 180, 0, 7, 3]
abbrev dktX2_lateBy_0 : List UInt8 := dkwX2_lateBy_0 ++ dktX2_lateBy_1
theorem dksX2_lateBy_0 : cX2_lateBy.data.toList.drop 0 = dktX2_lateBy_0 := by decide +kernel
theorem dksX2_lateBy_1 : cX2_lateBy.data.toList.drop 24 = dktX2_lateBy_1 := dk_seg dksX2_lateBy_0 24 rfl rfl
theorem dksX2_lateBy_2 : cX2_lateBy.data.toList.drop 48 = dktX2_lateBy_2 := dk_seg dksX2_lateBy_1 24 rfl rfl
theorem dksX2_lateBy_3 : cX2_lateBy.data.toList.drop 72 = dktX2_lateBy_3 := dk_seg dksX2_lateBy_2 24 rfl rfl
theorem dX2_lateBy_0 : decode cX2_lateBy 0 = .ok (.aload_n 0, 1) := dk_42 (dk_at dksX2_lateBy_0 0 rfl rfl)
theorem dX2_lateBy_1 : decode cX2_lateBy 1 = .ok (.aload_n 0, 1) := dk_42 (dk_at dksX2_lateBy_0 1 rfl rfl)
theorem dX2_lateBy_2 : decode cX2_lateBy 2 = .ok (.getfield 7, 3) := dk_180 0 7 (dk_at dksX2_lateBy_0 2 rfl rfl)
theorem dX2_lateBy_5 : decode cX2_lateBy 5 = .ok (.iconst 2, 1) := dk_5 (dk_at dksX2_lateBy_0 5 rfl rfl)
theorem dX2_lateBy_6 : decode cX2_lateBy 6 = .ok (.iaload, 1) := dk_46 (dk_at dksX2_lateBy_0 6 rfl rfl)
theorem dX2_lateBy_7 : decode cX2_lateBy 7 = .ok (.iload_n 1, 1) := dk_27 (dk_at dksX2_lateBy_0 7 rfl rfl)
theorem dX2_lateBy_8 : decode cX2_lateBy 8 = .ok (.invokevirtual 305, 3) := dk_182 1 49 (dk_at dksX2_lateBy_0 8 rfl rfl)
theorem dX2_lateBy_11 : decode cX2_lateBy 11 = .ok (.istore_n 2, 1) := dk_61 (dk_at dksX2_lateBy_0 11 rfl rfl)
theorem dX2_lateBy_12 : decode cX2_lateBy 12 = .ok (.iconst 0, 1) := dk_3 (dk_at dksX2_lateBy_0 12 rfl rfl)
theorem dX2_lateBy_13 : decode cX2_lateBy 13 = .ok (.istore_n 3, 1) := dk_62 (dk_at dksX2_lateBy_0 13 rfl rfl)
theorem dX2_lateBy_14 : decode cX2_lateBy 14 = .ok (.iconst 0, 1) := dk_3 (dk_at dksX2_lateBy_0 14 rfl rfl)
theorem dX2_lateBy_15 : decode cX2_lateBy 15 = .ok (.istore 4, 2) := dk_54 4 (dk_at dksX2_lateBy_0 15 rfl rfl)
theorem dX2_lateBy_17 : decode cX2_lateBy 17 = .ok (.iload 4, 2) := dk_21 4 (dk_at dksX2_lateBy_0 17 rfl rfl)
theorem dX2_lateBy_19 : decode cX2_lateBy 19 = .ok (.aload_n 0, 1) := dk_42 (dk_at dksX2_lateBy_0 19 rfl rfl)
theorem dX2_lateBy_20 : decode cX2_lateBy 20 = .ok (.getfield 7, 3) := dk_180 0 7 (dk_at dksX2_lateBy_0 20 rfl rfl)
theorem dX2_lateBy_23 : decode cX2_lateBy 23 = .ok (.iconst 0, 1) := dk_3 (dk_at dksX2_lateBy_0 23 rfl rfl)
theorem dX2_lateBy_24 : decode cX2_lateBy 24 = .ok (.iaload, 1) := dk_46 (dk_at dksX2_lateBy_1 0 rfl rfl)
theorem dX2_lateBy_25 : decode cX2_lateBy 25 = .ok (.if_icmp .ge 53, 3) := dk_162 0 53 (dk_at dksX2_lateBy_1 1 rfl rfl)
theorem dX2_lateBy_28 : decode cX2_lateBy 28 = .ok (.iload_n 3, 1) := dk_29 (dk_at dksX2_lateBy_1 4 rfl rfl)
theorem dX2_lateBy_29 : decode cX2_lateBy 29 = .ok (.aload_n 0, 1) := dk_42 (dk_at dksX2_lateBy_1 5 rfl rfl)
theorem dX2_lateBy_30 : decode cX2_lateBy 30 = .ok (.iload 4, 2) := dk_21 4 (dk_at dksX2_lateBy_1 6 rfl rfl)
theorem dX2_lateBy_32 : decode cX2_lateBy 32 = .ok (.invokevirtual 292, 3) := dk_182 1 36 (dk_at dksX2_lateBy_1 8 rfl rfl)
theorem dX2_lateBy_35 : decode cX2_lateBy 35 = .ok (.ifCond .eq 34, 3) := dk_153 0 34 (dk_at dksX2_lateBy_1 11 rfl rfl)
theorem dX2_lateBy_38 : decode cX2_lateBy 38 = .ok (.aload_n 0, 1) := dk_42 (dk_at dksX2_lateBy_1 14 rfl rfl)
theorem dX2_lateBy_39 : decode cX2_lateBy 39 = .ok (.aload_n 0, 1) := dk_42 (dk_at dksX2_lateBy_1 15 rfl rfl)
theorem dX2_lateBy_40 : decode cX2_lateBy 40 = .ok (.getfield 7, 3) := dk_180 0 7 (dk_at dksX2_lateBy_1 16 rfl rfl)
theorem dX2_lateBy_43 : decode cX2_lateBy 43 = .ok (.iconst 2, 1) := dk_5 (dk_at dksX2_lateBy_1 19 rfl rfl)
theorem dX2_lateBy_44 : decode cX2_lateBy 44 = .ok (.iaload, 1) := dk_46 (dk_at dksX2_lateBy_1 20 rfl rfl)
theorem dX2_lateBy_45 : decode cX2_lateBy 45 = .ok (.iload 4, 2) := dk_21 4 (dk_at dksX2_lateBy_1 21 rfl rfl)
theorem dX2_lateBy_47 : decode cX2_lateBy 47 = .ok (.iload_n 1, 1) := dk_27 (dk_at dksX2_lateBy_1 23 rfl rfl)
theorem dX2_lateBy_48 : decode cX2_lateBy 48 = .ok (.iload_n 2, 1) := dk_28 (dk_at dksX2_lateBy_2 0 rfl rfl)
theorem dX2_lateBy_49 : decode cX2_lateBy 49 = .ok (.invokevirtual 308, 3) := dk_182 1 52 (dk_at dksX2_lateBy_2 1 rfl rfl)
theorem dX2_lateBy_52 : decode cX2_lateBy 52 = .ok (.aload_n 0, 1) := dk_42 (dk_at dksX2_lateBy_2 4 rfl rfl)
theorem dX2_lateBy_53 : decode cX2_lateBy 53 = .ok (.iload 4, 2) := dk_21 4 (dk_at dksX2_lateBy_2 5 rfl rfl)
theorem dX2_lateBy_55 : decode cX2_lateBy 55 = .ok (.iconst 0, 1) := dk_3 (dk_at dksX2_lateBy_2 7 rfl rfl)
theorem dX2_lateBy_56 : decode cX2_lateBy 56 = .ok (.invokevirtual 74, 3) := dk_182 0 74 (dk_at dksX2_lateBy_2 8 rfl rfl)
theorem dX2_lateBy_59 : decode cX2_lateBy 59 = .ok (.if_icmp .le 10, 3) := dk_164 0 10 (dk_at dksX2_lateBy_2 11 rfl rfl)
theorem dX2_lateBy_62 : decode cX2_lateBy 62 = .ok (.iconst 1, 1) := dk_4 (dk_at dksX2_lateBy_2 14 rfl rfl)
theorem dX2_lateBy_63 : decode cX2_lateBy 63 = .ok (.iload 4, 2) := dk_21 4 (dk_at dksX2_lateBy_2 15 rfl rfl)
theorem dX2_lateBy_65 : decode cX2_lateBy 65 = .ok (.ishl, 1) := dk_120 (dk_at dksX2_lateBy_2 17 rfl rfl)
theorem dX2_lateBy_66 : decode cX2_lateBy 66 = .ok (.goto 4, 3) := dk_167 0 4 (dk_at dksX2_lateBy_2 18 rfl rfl)
theorem dX2_lateBy_69 : decode cX2_lateBy 69 = .ok (.iconst 0, 1) := dk_3 (dk_at dksX2_lateBy_2 21 rfl rfl)
theorem dX2_lateBy_70 : decode cX2_lateBy 70 = .ok (.ior, 1) := dk_128 (dk_at dksX2_lateBy_2 22 rfl rfl)
theorem dX2_lateBy_71 : decode cX2_lateBy 71 = .ok (.istore_n 3, 1) := dk_62 (dk_at dksX2_lateBy_2 23 rfl rfl)
theorem dX2_lateBy_72 : decode cX2_lateBy 72 = .ok (.iinc 4 1, 3) := dk_132 4 1 (dk_at dksX2_lateBy_3 0 rfl rfl)
theorem dX2_lateBy_75 : decode cX2_lateBy 75 = .ok (.goto (-58), 3) := dk_167 255 198 (dk_at dksX2_lateBy_3 3 rfl rfl)
theorem dX2_lateBy_78 : decode cX2_lateBy 78 = .ok (.iload_n 3, 1) := dk_29 (dk_at dksX2_lateBy_3 6 rfl rfl)
theorem dX2_lateBy_79 : decode cX2_lateBy 79 = .ok (.ireturn, 1) := dk_172 (dk_at dksX2_lateBy_3 7 rfl rfl)
abbrev cX2_runnersBy : ByteArray := prog_21_method_67_code
def yX2_runnersBy : MethodName := ⟨RX2, "runnersBy", "(II)I"⟩
def dkwX2_runnersBy_4 : List UInt8 := [128, 62, 132, 4, 1, 167, 255, 164, 29, 172]
abbrev dktX2_runnersBy_4 : List UInt8 := dkwX2_runnersBy_4 ++ []
def dkwX2_runnersBy_3 : List UInt8 := [158, 0, 7, 4, 167, 0, 4, 3, 16, 9, 182, 1, 45, 158, 0, 10, 4, 21, 4, 120, 167, 0, 4, 3]
abbrev dktX2_runnersBy_3 : List UInt8 := dkwX2_runnersBy_3 ++ dktX2_runnersBy_4
def dkwX2_runnersBy_2 : List UInt8 := [16, 67, 21, 4, 96, 46, 126, 184, 1, 42, 79, 29, 42, 27, 3, 42, 180, 0, 32, 16, 7, 46]
abbrev dktX2_runnersBy_2 : List UInt8 := dkwX2_runnersBy_2 ++ dktX2_runnersBy_3
def dkwX2_runnersBy_1 : List UInt8 := [154, 0, 6, 167, 0, 69, 42, 21, 4, 28, 182, 1, 39, 42, 180, 0, 32, 16, 7, 28, 42, 180, 0, 7]
abbrev dktX2_runnersBy_1 : List UInt8 := dkwX2_runnersBy_1 ++ dktX2_runnersBy_2
def dkwX2_runnersBy_0 : List UInt8 := [3, 62, 3, 54, 4, 21, 4, 42, 180, 0, 7, 3, 46, 162, 0, 87, 42, 21, 4, 182, 1, 36]
abbrev dktX2_runnersBy_0 : List UInt8 := dkwX2_runnersBy_0 ++ dktX2_runnersBy_1
theorem dksX2_runnersBy_0 : cX2_runnersBy.data.toList.drop 0 = dktX2_runnersBy_0 := by decide +kernel
theorem dksX2_runnersBy_1 : cX2_runnersBy.data.toList.drop 22 = dktX2_runnersBy_1 := dk_seg dksX2_runnersBy_0 22 rfl rfl
theorem dksX2_runnersBy_2 : cX2_runnersBy.data.toList.drop 46 = dktX2_runnersBy_2 := dk_seg dksX2_runnersBy_1 24 rfl rfl
theorem dksX2_runnersBy_3 : cX2_runnersBy.data.toList.drop 68 = dktX2_runnersBy_3 := dk_seg dksX2_runnersBy_2 22 rfl rfl
theorem dksX2_runnersBy_4 : cX2_runnersBy.data.toList.drop 92 = dktX2_runnersBy_4 := dk_seg dksX2_runnersBy_3 24 rfl rfl
theorem dX2_runnersBy_0 : decode cX2_runnersBy 0 = .ok (.iconst 0, 1) := dk_3 (dk_at dksX2_runnersBy_0 0 rfl rfl)
theorem dX2_runnersBy_1 : decode cX2_runnersBy 1 = .ok (.istore_n 3, 1) := dk_62 (dk_at dksX2_runnersBy_0 1 rfl rfl)
theorem dX2_runnersBy_2 : decode cX2_runnersBy 2 = .ok (.iconst 0, 1) := dk_3 (dk_at dksX2_runnersBy_0 2 rfl rfl)
theorem dX2_runnersBy_3 : decode cX2_runnersBy 3 = .ok (.istore 4, 2) := dk_54 4 (dk_at dksX2_runnersBy_0 3 rfl rfl)
theorem dX2_runnersBy_5 : decode cX2_runnersBy 5 = .ok (.iload 4, 2) := dk_21 4 (dk_at dksX2_runnersBy_0 5 rfl rfl)
theorem dX2_runnersBy_7 : decode cX2_runnersBy 7 = .ok (.aload_n 0, 1) := dk_42 (dk_at dksX2_runnersBy_0 7 rfl rfl)
theorem dX2_runnersBy_8 : decode cX2_runnersBy 8 = .ok (.getfield 7, 3) := dk_180 0 7 (dk_at dksX2_runnersBy_0 8 rfl rfl)
theorem dX2_runnersBy_11 : decode cX2_runnersBy 11 = .ok (.iconst 0, 1) := dk_3 (dk_at dksX2_runnersBy_0 11 rfl rfl)
theorem dX2_runnersBy_12 : decode cX2_runnersBy 12 = .ok (.iaload, 1) := dk_46 (dk_at dksX2_runnersBy_0 12 rfl rfl)
theorem dX2_runnersBy_13 : decode cX2_runnersBy 13 = .ok (.if_icmp .ge 87, 3) := dk_162 0 87 (dk_at dksX2_runnersBy_0 13 rfl rfl)
theorem dX2_runnersBy_16 : decode cX2_runnersBy 16 = .ok (.aload_n 0, 1) := dk_42 (dk_at dksX2_runnersBy_0 16 rfl rfl)
theorem dX2_runnersBy_17 : decode cX2_runnersBy 17 = .ok (.iload 4, 2) := dk_21 4 (dk_at dksX2_runnersBy_0 17 rfl rfl)
theorem dX2_runnersBy_19 : decode cX2_runnersBy 19 = .ok (.invokevirtual 292, 3) := dk_182 1 36 (dk_at dksX2_runnersBy_0 19 rfl rfl)
theorem dX2_runnersBy_22 : decode cX2_runnersBy 22 = .ok (.ifCond .ne 6, 3) := dk_154 0 6 (dk_at dksX2_runnersBy_1 0 rfl rfl)
theorem dX2_runnersBy_25 : decode cX2_runnersBy 25 = .ok (.goto 69, 3) := dk_167 0 69 (dk_at dksX2_runnersBy_1 3 rfl rfl)
theorem dX2_runnersBy_28 : decode cX2_runnersBy 28 = .ok (.aload_n 0, 1) := dk_42 (dk_at dksX2_runnersBy_1 6 rfl rfl)
theorem dX2_runnersBy_29 : decode cX2_runnersBy 29 = .ok (.iload 4, 2) := dk_21 4 (dk_at dksX2_runnersBy_1 7 rfl rfl)
theorem dX2_runnersBy_31 : decode cX2_runnersBy 31 = .ok (.iload_n 2, 1) := dk_28 (dk_at dksX2_runnersBy_1 9 rfl rfl)
theorem dX2_runnersBy_32 : decode cX2_runnersBy 32 = .ok (.invokevirtual 295, 3) := dk_182 1 39 (dk_at dksX2_runnersBy_1 10 rfl rfl)
theorem dX2_runnersBy_35 : decode cX2_runnersBy 35 = .ok (.aload_n 0, 1) := dk_42 (dk_at dksX2_runnersBy_1 13 rfl rfl)
theorem dX2_runnersBy_36 : decode cX2_runnersBy 36 = .ok (.getfield 32, 3) := dk_180 0 32 (dk_at dksX2_runnersBy_1 14 rfl rfl)
theorem dX2_runnersBy_39 : decode cX2_runnersBy 39 = .ok (.bipush 7, 2) := dk_16 7 (dk_at dksX2_runnersBy_1 17 rfl rfl)
theorem dX2_runnersBy_41 : decode cX2_runnersBy 41 = .ok (.iload_n 2, 1) := dk_28 (dk_at dksX2_runnersBy_1 19 rfl rfl)
theorem dX2_runnersBy_42 : decode cX2_runnersBy 42 = .ok (.aload_n 0, 1) := dk_42 (dk_at dksX2_runnersBy_1 20 rfl rfl)
theorem dX2_runnersBy_43 : decode cX2_runnersBy 43 = .ok (.getfield 7, 3) := dk_180 0 7 (dk_at dksX2_runnersBy_1 21 rfl rfl)
theorem dX2_runnersBy_46 : decode cX2_runnersBy 46 = .ok (.bipush 67, 2) := dk_16 67 (dk_at dksX2_runnersBy_2 0 rfl rfl)
theorem dX2_runnersBy_48 : decode cX2_runnersBy 48 = .ok (.iload 4, 2) := dk_21 4 (dk_at dksX2_runnersBy_2 2 rfl rfl)
theorem dX2_runnersBy_50 : decode cX2_runnersBy 50 = .ok (.iadd, 1) := dk_96 (dk_at dksX2_runnersBy_2 4 rfl rfl)
theorem dX2_runnersBy_51 : decode cX2_runnersBy 51 = .ok (.iaload, 1) := dk_46 (dk_at dksX2_runnersBy_2 5 rfl rfl)
theorem dX2_runnersBy_52 : decode cX2_runnersBy 52 = .ok (.iand, 1) := dk_126 (dk_at dksX2_runnersBy_2 6 rfl rfl)
theorem dX2_runnersBy_53 : decode cX2_runnersBy 53 = .ok (.invokestatic 298, 3) := dk_184 1 42 (dk_at dksX2_runnersBy_2 7 rfl rfl)
theorem dX2_runnersBy_56 : decode cX2_runnersBy 56 = .ok (.iastore, 1) := dk_79 (dk_at dksX2_runnersBy_2 10 rfl rfl)
theorem dX2_runnersBy_57 : decode cX2_runnersBy 57 = .ok (.iload_n 3, 1) := dk_29 (dk_at dksX2_runnersBy_2 11 rfl rfl)
theorem dX2_runnersBy_58 : decode cX2_runnersBy 58 = .ok (.aload_n 0, 1) := dk_42 (dk_at dksX2_runnersBy_2 12 rfl rfl)
theorem dX2_runnersBy_59 : decode cX2_runnersBy 59 = .ok (.iload_n 1, 1) := dk_27 (dk_at dksX2_runnersBy_2 13 rfl rfl)
theorem dX2_runnersBy_60 : decode cX2_runnersBy 60 = .ok (.iconst 0, 1) := dk_3 (dk_at dksX2_runnersBy_2 14 rfl rfl)
theorem dX2_runnersBy_61 : decode cX2_runnersBy 61 = .ok (.aload_n 0, 1) := dk_42 (dk_at dksX2_runnersBy_2 15 rfl rfl)
theorem dX2_runnersBy_62 : decode cX2_runnersBy 62 = .ok (.getfield 32, 3) := dk_180 0 32 (dk_at dksX2_runnersBy_2 16 rfl rfl)
theorem dX2_runnersBy_65 : decode cX2_runnersBy 65 = .ok (.bipush 7, 2) := dk_16 7 (dk_at dksX2_runnersBy_2 19 rfl rfl)
theorem dX2_runnersBy_67 : decode cX2_runnersBy 67 = .ok (.iaload, 1) := dk_46 (dk_at dksX2_runnersBy_2 21 rfl rfl)
theorem dX2_runnersBy_68 : decode cX2_runnersBy 68 = .ok (.ifCond .le 7, 3) := dk_158 0 7 (dk_at dksX2_runnersBy_3 0 rfl rfl)
theorem dX2_runnersBy_71 : decode cX2_runnersBy 71 = .ok (.iconst 1, 1) := dk_4 (dk_at dksX2_runnersBy_3 3 rfl rfl)
theorem dX2_runnersBy_72 : decode cX2_runnersBy 72 = .ok (.goto 4, 3) := dk_167 0 4 (dk_at dksX2_runnersBy_3 4 rfl rfl)
theorem dX2_runnersBy_75 : decode cX2_runnersBy 75 = .ok (.iconst 0, 1) := dk_3 (dk_at dksX2_runnersBy_3 7 rfl rfl)
theorem dX2_runnersBy_76 : decode cX2_runnersBy 76 = .ok (.bipush 9, 2) := dk_16 9 (dk_at dksX2_runnersBy_3 8 rfl rfl)
theorem dX2_runnersBy_78 : decode cX2_runnersBy 78 = .ok (.invokevirtual 301, 3) := dk_182 1 45 (dk_at dksX2_runnersBy_3 10 rfl rfl)
theorem dX2_runnersBy_81 : decode cX2_runnersBy 81 = .ok (.ifCond .le 10, 3) := dk_158 0 10 (dk_at dksX2_runnersBy_3 13 rfl rfl)
theorem dX2_runnersBy_84 : decode cX2_runnersBy 84 = .ok (.iconst 1, 1) := dk_4 (dk_at dksX2_runnersBy_3 16 rfl rfl)
theorem dX2_runnersBy_85 : decode cX2_runnersBy 85 = .ok (.iload 4, 2) := dk_21 4 (dk_at dksX2_runnersBy_3 17 rfl rfl)
theorem dX2_runnersBy_87 : decode cX2_runnersBy 87 = .ok (.ishl, 1) := dk_120 (dk_at dksX2_runnersBy_3 19 rfl rfl)
theorem dX2_runnersBy_88 : decode cX2_runnersBy 88 = .ok (.goto 4, 3) := dk_167 0 4 (dk_at dksX2_runnersBy_3 20 rfl rfl)
theorem dX2_runnersBy_91 : decode cX2_runnersBy 91 = .ok (.iconst 0, 1) := dk_3 (dk_at dksX2_runnersBy_3 23 rfl rfl)
theorem dX2_runnersBy_92 : decode cX2_runnersBy 92 = .ok (.ior, 1) := dk_128 (dk_at dksX2_runnersBy_4 0 rfl rfl)
theorem dX2_runnersBy_93 : decode cX2_runnersBy 93 = .ok (.istore_n 3, 1) := dk_62 (dk_at dksX2_runnersBy_4 1 rfl rfl)
theorem dX2_runnersBy_94 : decode cX2_runnersBy 94 = .ok (.iinc 4 1, 3) := dk_132 4 1 (dk_at dksX2_runnersBy_4 2 rfl rfl)
theorem dX2_runnersBy_97 : decode cX2_runnersBy 97 = .ok (.goto (-92), 3) := dk_167 255 164 (dk_at dksX2_runnersBy_4 5 rfl rfl)
theorem dX2_runnersBy_100 : decode cX2_runnersBy 100 = .ok (.iload_n 3, 1) := dk_29 (dk_at dksX2_runnersBy_4 8 rfl rfl)
theorem dX2_runnersBy_101 : decode cX2_runnersBy 101 = .ok (.ireturn, 1) := dk_172 (dk_at dksX2_runnersBy_4 9 rfl rfl)
abbrev cX2_isUp : ByteArray := prog_21_method_12_code
def yX2_isUp : MethodName := ⟨RX2, "isUp", "(I)Z"⟩
def dkwX2_isUp_0 : List UInt8 := [42, 27, 4, 182, 0, 74, 154, 0, 7, 4, 167, 0, 4, 3, 172]
abbrev dktX2_isUp_0 : List UInt8 := dkwX2_isUp_0 ++ []
theorem dksX2_isUp_0 : cX2_isUp.data.toList.drop 0 = dktX2_isUp_0 := by decide +kernel
theorem dX2_isUp_0 : decode cX2_isUp 0 = .ok (.aload_n 0, 1) := dk_42 (dk_at dksX2_isUp_0 0 rfl rfl)
theorem dX2_isUp_1 : decode cX2_isUp 1 = .ok (.iload_n 1, 1) := dk_27 (dk_at dksX2_isUp_0 1 rfl rfl)
theorem dX2_isUp_2 : decode cX2_isUp 2 = .ok (.iconst 1, 1) := dk_4 (dk_at dksX2_isUp_0 2 rfl rfl)
theorem dX2_isUp_3 : decode cX2_isUp 3 = .ok (.invokevirtual 74, 3) := dk_182 0 74 (dk_at dksX2_isUp_0 3 rfl rfl)
theorem dX2_isUp_6 : decode cX2_isUp 6 = .ok (.ifCond .ne 7, 3) := dk_154 0 7 (dk_at dksX2_isUp_0 6 rfl rfl)
theorem dX2_isUp_9 : decode cX2_isUp 9 = .ok (.iconst 1, 1) := dk_4 (dk_at dksX2_isUp_0 9 rfl rfl)
theorem dX2_isUp_10 : decode cX2_isUp 10 = .ok (.goto 4, 3) := dk_167 0 4 (dk_at dksX2_isUp_0 10 rfl rfl)
theorem dX2_isUp_13 : decode cX2_isUp 13 = .ok (.iconst 0, 1) := dk_3 (dk_at dksX2_isUp_0 13 rfl rfl)
theorem dX2_isUp_14 : decode cX2_isUp 14 = .ok (.ireturn, 1) := dk_172 (dk_at dksX2_isUp_0 14 rfl rfl)
abbrev cX2_name : ByteArray := prog_21_method_66_code
def yX2_name : MethodName := ⟨RX2, "name", "(II)V"⟩
def dkwX2_name_3 : List UInt8 := [182, 0, 74, 79, 42, 180, 0, 32, 16, 6, 42, 27, 3, 182, 0, 74, 79, 177]
abbrev dktX2_name_3 : List UInt8 := dkwX2_name_3 ++ []
def dkwX2_name_2 : List UInt8 := [182, 0, 74, 79, 42, 180, 0, 32, 7, 42, 27, 7, 182, 0, 74, 79, 42, 180, 0, 32, 8, 42, 27, 8]
abbrev dktX2_name_2 : List UInt8 := dkwX2_name_2 ++ dktX2_name_3
def dkwX2_name_1 : List UInt8 := [180, 0, 7, 16, 8, 46, 79, 42, 180, 0, 32, 5, 27, 79, 42, 180, 0, 32, 6, 42, 27, 6]
abbrev dktX2_name_1 : List UInt8 := dkwX2_name_1 ++ dktX2_name_2
def dkwX2_name_0 : List UInt8 := [42, 28, 181, 1, 11, 42, 180, 0, 32, 3, 42, 180, 0, 7, 16, 6, 46, 79, 42, 180, 0, 32, 4, 42]
abbrev dktX2_name_0 : List UInt8 := dkwX2_name_0 ++ dktX2_name_1
theorem dksX2_name_0 : cX2_name.data.toList.drop 0 = dktX2_name_0 := by decide +kernel
theorem dksX2_name_1 : cX2_name.data.toList.drop 24 = dktX2_name_1 := dk_seg dksX2_name_0 24 rfl rfl
theorem dksX2_name_2 : cX2_name.data.toList.drop 46 = dktX2_name_2 := dk_seg dksX2_name_1 22 rfl rfl
theorem dksX2_name_3 : cX2_name.data.toList.drop 70 = dktX2_name_3 := dk_seg dksX2_name_2 24 rfl rfl
theorem dX2_name_0 : decode cX2_name 0 = .ok (.aload_n 0, 1) := dk_42 (dk_at dksX2_name_0 0 rfl rfl)
theorem dX2_name_1 : decode cX2_name 1 = .ok (.iload_n 2, 1) := dk_28 (dk_at dksX2_name_0 1 rfl rfl)
theorem dX2_name_2 : decode cX2_name 2 = .ok (.putfield 267, 3) := dk_181 1 11 (dk_at dksX2_name_0 2 rfl rfl)
theorem dX2_name_5 : decode cX2_name 5 = .ok (.aload_n 0, 1) := dk_42 (dk_at dksX2_name_0 5 rfl rfl)
theorem dX2_name_6 : decode cX2_name 6 = .ok (.getfield 32, 3) := dk_180 0 32 (dk_at dksX2_name_0 6 rfl rfl)
theorem dX2_name_9 : decode cX2_name 9 = .ok (.iconst 0, 1) := dk_3 (dk_at dksX2_name_0 9 rfl rfl)
theorem dX2_name_10 : decode cX2_name 10 = .ok (.aload_n 0, 1) := dk_42 (dk_at dksX2_name_0 10 rfl rfl)
theorem dX2_name_11 : decode cX2_name 11 = .ok (.getfield 7, 3) := dk_180 0 7 (dk_at dksX2_name_0 11 rfl rfl)
theorem dX2_name_14 : decode cX2_name 14 = .ok (.bipush 6, 2) := dk_16 6 (dk_at dksX2_name_0 14 rfl rfl)
theorem dX2_name_16 : decode cX2_name 16 = .ok (.iaload, 1) := dk_46 (dk_at dksX2_name_0 16 rfl rfl)
theorem dX2_name_17 : decode cX2_name 17 = .ok (.iastore, 1) := dk_79 (dk_at dksX2_name_0 17 rfl rfl)
theorem dX2_name_18 : decode cX2_name 18 = .ok (.aload_n 0, 1) := dk_42 (dk_at dksX2_name_0 18 rfl rfl)
theorem dX2_name_19 : decode cX2_name 19 = .ok (.getfield 32, 3) := dk_180 0 32 (dk_at dksX2_name_0 19 rfl rfl)
theorem dX2_name_22 : decode cX2_name 22 = .ok (.iconst 1, 1) := dk_4 (dk_at dksX2_name_0 22 rfl rfl)
theorem dX2_name_23 : decode cX2_name 23 = .ok (.aload_n 0, 1) := dk_42 (dk_at dksX2_name_0 23 rfl rfl)
theorem dX2_name_24 : decode cX2_name 24 = .ok (.getfield 7, 3) := dk_180 0 7 (dk_at dksX2_name_1 0 rfl rfl)
theorem dX2_name_27 : decode cX2_name 27 = .ok (.bipush 8, 2) := dk_16 8 (dk_at dksX2_name_1 3 rfl rfl)
theorem dX2_name_29 : decode cX2_name 29 = .ok (.iaload, 1) := dk_46 (dk_at dksX2_name_1 5 rfl rfl)
theorem dX2_name_30 : decode cX2_name 30 = .ok (.iastore, 1) := dk_79 (dk_at dksX2_name_1 6 rfl rfl)
theorem dX2_name_31 : decode cX2_name 31 = .ok (.aload_n 0, 1) := dk_42 (dk_at dksX2_name_1 7 rfl rfl)
theorem dX2_name_32 : decode cX2_name 32 = .ok (.getfield 32, 3) := dk_180 0 32 (dk_at dksX2_name_1 8 rfl rfl)
theorem dX2_name_35 : decode cX2_name 35 = .ok (.iconst 2, 1) := dk_5 (dk_at dksX2_name_1 11 rfl rfl)
theorem dX2_name_36 : decode cX2_name 36 = .ok (.iload_n 1, 1) := dk_27 (dk_at dksX2_name_1 12 rfl rfl)
theorem dX2_name_37 : decode cX2_name 37 = .ok (.iastore, 1) := dk_79 (dk_at dksX2_name_1 13 rfl rfl)
theorem dX2_name_38 : decode cX2_name 38 = .ok (.aload_n 0, 1) := dk_42 (dk_at dksX2_name_1 14 rfl rfl)
theorem dX2_name_39 : decode cX2_name 39 = .ok (.getfield 32, 3) := dk_180 0 32 (dk_at dksX2_name_1 15 rfl rfl)
theorem dX2_name_42 : decode cX2_name 42 = .ok (.iconst 3, 1) := dk_6 (dk_at dksX2_name_1 18 rfl rfl)
theorem dX2_name_43 : decode cX2_name 43 = .ok (.aload_n 0, 1) := dk_42 (dk_at dksX2_name_1 19 rfl rfl)
theorem dX2_name_44 : decode cX2_name 44 = .ok (.iload_n 1, 1) := dk_27 (dk_at dksX2_name_1 20 rfl rfl)
theorem dX2_name_45 : decode cX2_name 45 = .ok (.iconst 3, 1) := dk_6 (dk_at dksX2_name_1 21 rfl rfl)
theorem dX2_name_46 : decode cX2_name 46 = .ok (.invokevirtual 74, 3) := dk_182 0 74 (dk_at dksX2_name_2 0 rfl rfl)
theorem dX2_name_49 : decode cX2_name 49 = .ok (.iastore, 1) := dk_79 (dk_at dksX2_name_2 3 rfl rfl)
theorem dX2_name_50 : decode cX2_name 50 = .ok (.aload_n 0, 1) := dk_42 (dk_at dksX2_name_2 4 rfl rfl)
theorem dX2_name_51 : decode cX2_name 51 = .ok (.getfield 32, 3) := dk_180 0 32 (dk_at dksX2_name_2 5 rfl rfl)
theorem dX2_name_54 : decode cX2_name 54 = .ok (.iconst 4, 1) := dk_7 (dk_at dksX2_name_2 8 rfl rfl)
theorem dX2_name_55 : decode cX2_name 55 = .ok (.aload_n 0, 1) := dk_42 (dk_at dksX2_name_2 9 rfl rfl)
theorem dX2_name_56 : decode cX2_name 56 = .ok (.iload_n 1, 1) := dk_27 (dk_at dksX2_name_2 10 rfl rfl)
theorem dX2_name_57 : decode cX2_name 57 = .ok (.iconst 4, 1) := dk_7 (dk_at dksX2_name_2 11 rfl rfl)
theorem dX2_name_58 : decode cX2_name 58 = .ok (.invokevirtual 74, 3) := dk_182 0 74 (dk_at dksX2_name_2 12 rfl rfl)
theorem dX2_name_61 : decode cX2_name 61 = .ok (.iastore, 1) := dk_79 (dk_at dksX2_name_2 15 rfl rfl)
theorem dX2_name_62 : decode cX2_name 62 = .ok (.aload_n 0, 1) := dk_42 (dk_at dksX2_name_2 16 rfl rfl)
theorem dX2_name_63 : decode cX2_name 63 = .ok (.getfield 32, 3) := dk_180 0 32 (dk_at dksX2_name_2 17 rfl rfl)
theorem dX2_name_66 : decode cX2_name 66 = .ok (.iconst 5, 1) := dk_8 (dk_at dksX2_name_2 20 rfl rfl)
theorem dX2_name_67 : decode cX2_name 67 = .ok (.aload_n 0, 1) := dk_42 (dk_at dksX2_name_2 21 rfl rfl)
theorem dX2_name_68 : decode cX2_name 68 = .ok (.iload_n 1, 1) := dk_27 (dk_at dksX2_name_2 22 rfl rfl)
theorem dX2_name_69 : decode cX2_name 69 = .ok (.iconst 5, 1) := dk_8 (dk_at dksX2_name_2 23 rfl rfl)
theorem dX2_name_70 : decode cX2_name 70 = .ok (.invokevirtual 74, 3) := dk_182 0 74 (dk_at dksX2_name_3 0 rfl rfl)
theorem dX2_name_73 : decode cX2_name 73 = .ok (.iastore, 1) := dk_79 (dk_at dksX2_name_3 3 rfl rfl)
theorem dX2_name_74 : decode cX2_name 74 = .ok (.aload_n 0, 1) := dk_42 (dk_at dksX2_name_3 4 rfl rfl)
theorem dX2_name_75 : decode cX2_name 75 = .ok (.getfield 32, 3) := dk_180 0 32 (dk_at dksX2_name_3 5 rfl rfl)
theorem dX2_name_78 : decode cX2_name 78 = .ok (.bipush 6, 2) := dk_16 6 (dk_at dksX2_name_3 8 rfl rfl)
theorem dX2_name_80 : decode cX2_name 80 = .ok (.aload_n 0, 1) := dk_42 (dk_at dksX2_name_3 10 rfl rfl)
theorem dX2_name_81 : decode cX2_name 81 = .ok (.iload_n 1, 1) := dk_27 (dk_at dksX2_name_3 11 rfl rfl)
theorem dX2_name_82 : decode cX2_name 82 = .ok (.iconst 0, 1) := dk_3 (dk_at dksX2_name_3 12 rfl rfl)
theorem dX2_name_83 : decode cX2_name 83 = .ok (.invokevirtual 74, 3) := dk_182 0 74 (dk_at dksX2_name_3 13 rfl rfl)
theorem dX2_name_86 : decode cX2_name 86 = .ok (.iastore, 1) := dk_79 (dk_at dksX2_name_3 16 rfl rfl)
theorem dX2_name_87 : decode cX2_name 87 = .ok (.return_, 1) := dk_177 (dk_at dksX2_name_3 17 rfl rfl)
abbrev cX2_bits : ByteArray := prog_21_method_6_code
def yX2_bits : MethodName := ⟨RX2, "bits", "(I)I"⟩
def dkwX2_bits_0 : List UInt8 := [3, 60, 26, 61, 28, 153, 0, 15, 132, 1, 1, 28, 28, 4, 100, 126, 61, 167, 255, 243, 27, 172]
abbrev dktX2_bits_0 : List UInt8 := dkwX2_bits_0 ++ []
theorem dksX2_bits_0 : cX2_bits.data.toList.drop 0 = dktX2_bits_0 := by decide +kernel
theorem dX2_bits_0 : decode cX2_bits 0 = .ok (.iconst 0, 1) := dk_3 (dk_at dksX2_bits_0 0 rfl rfl)
theorem dX2_bits_1 : decode cX2_bits 1 = .ok (.istore_n 1, 1) := dk_60 (dk_at dksX2_bits_0 1 rfl rfl)
theorem dX2_bits_2 : decode cX2_bits 2 = .ok (.iload_n 0, 1) := dk_26 (dk_at dksX2_bits_0 2 rfl rfl)
theorem dX2_bits_3 : decode cX2_bits 3 = .ok (.istore_n 2, 1) := dk_61 (dk_at dksX2_bits_0 3 rfl rfl)
theorem dX2_bits_4 : decode cX2_bits 4 = .ok (.iload_n 2, 1) := dk_28 (dk_at dksX2_bits_0 4 rfl rfl)
theorem dX2_bits_5 : decode cX2_bits 5 = .ok (.ifCond .eq 15, 3) := dk_153 0 15 (dk_at dksX2_bits_0 5 rfl rfl)
theorem dX2_bits_8 : decode cX2_bits 8 = .ok (.iinc 1 1, 3) := dk_132 1 1 (dk_at dksX2_bits_0 8 rfl rfl)
theorem dX2_bits_11 : decode cX2_bits 11 = .ok (.iload_n 2, 1) := dk_28 (dk_at dksX2_bits_0 11 rfl rfl)
theorem dX2_bits_12 : decode cX2_bits 12 = .ok (.iload_n 2, 1) := dk_28 (dk_at dksX2_bits_0 12 rfl rfl)
theorem dX2_bits_13 : decode cX2_bits 13 = .ok (.iconst 1, 1) := dk_4 (dk_at dksX2_bits_0 13 rfl rfl)
theorem dX2_bits_14 : decode cX2_bits 14 = .ok (.isub, 1) := dk_100 (dk_at dksX2_bits_0 14 rfl rfl)
theorem dX2_bits_15 : decode cX2_bits 15 = .ok (.iand, 1) := dk_126 (dk_at dksX2_bits_0 15 rfl rfl)
theorem dX2_bits_16 : decode cX2_bits 16 = .ok (.istore_n 2, 1) := dk_61 (dk_at dksX2_bits_0 16 rfl rfl)
theorem dX2_bits_17 : decode cX2_bits 17 = .ok (.goto (-13), 3) := dk_167 255 243 (dk_at dksX2_bits_0 17 rfl rfl)
theorem dX2_bits_20 : decode cX2_bits 20 = .ok (.iload_n 1, 1) := dk_27 (dk_at dksX2_bits_0 20 rfl rfl)
theorem dX2_bits_21 : decode cX2_bits 21 = .ok (.ireturn, 1) := dk_172 (dk_at dksX2_bits_0 21 rfl rfl)
abbrev cX2_says : ByteArray := prog_21_method_65_code
def yX2_says : MethodName := ⟨RX2, "says", "(IIII)I"⟩
def dkwX2_says_3 : List UInt8 := [172]
abbrev dktX2_says_3 : List UInt8 := dkwX2_says_3 ++ []
def dkwX2_says_2 : List UInt8 := [182, 1, 29, 3, 21, 4, 184, 1, 32, 172, 132, 5, 1, 167, 255, 199, 29, 133, 3, 21, 4, 184, 1, 32]
abbrev dktX2_says_2 : List UInt8 := dkwX2_says_2 ++ dktX2_says_3
def dkwX2_says_1 : List UInt8 := [180, 0, 16, 17, 2, 217, 27, 104, 4, 96, 8, 21, 5, 104, 96, 46, 28, 160, 0, 17, 42, 27, 21, 5]
abbrev dktX2_says_1 : List UInt8 := dkwX2_says_1 ++ dktX2_says_2
def dkwX2_says_0 : List UInt8 := [3, 54, 5, 27, 155, 0, 59, 21, 5, 42, 180, 0, 16, 17, 2, 217, 27, 104, 46, 162, 0, 44, 42]
abbrev dktX2_says_0 : List UInt8 := dkwX2_says_0 ++ dktX2_says_1
theorem dksX2_says_0 : cX2_says.data.toList.drop 0 = dktX2_says_0 := by decide +kernel
theorem dksX2_says_1 : cX2_says.data.toList.drop 23 = dktX2_says_1 := dk_seg dksX2_says_0 23 rfl rfl
theorem dksX2_says_2 : cX2_says.data.toList.drop 47 = dktX2_says_2 := dk_seg dksX2_says_1 24 rfl rfl
theorem dksX2_says_3 : cX2_says.data.toList.drop 71 = dktX2_says_3 := dk_seg dksX2_says_2 24 rfl rfl
theorem dX2_says_0 : decode cX2_says 0 = .ok (.iconst 0, 1) := dk_3 (dk_at dksX2_says_0 0 rfl rfl)
theorem dX2_says_1 : decode cX2_says 1 = .ok (.istore 5, 2) := dk_54 5 (dk_at dksX2_says_0 1 rfl rfl)
theorem dX2_says_3 : decode cX2_says 3 = .ok (.iload_n 1, 1) := dk_27 (dk_at dksX2_says_0 3 rfl rfl)
theorem dX2_says_4 : decode cX2_says 4 = .ok (.ifCond .lt 59, 3) := dk_155 0 59 (dk_at dksX2_says_0 4 rfl rfl)
theorem dX2_says_7 : decode cX2_says 7 = .ok (.iload 5, 2) := dk_21 5 (dk_at dksX2_says_0 7 rfl rfl)
theorem dX2_says_9 : decode cX2_says 9 = .ok (.aload_n 0, 1) := dk_42 (dk_at dksX2_says_0 9 rfl rfl)
theorem dX2_says_10 : decode cX2_says 10 = .ok (.getfield 16, 3) := dk_180 0 16 (dk_at dksX2_says_0 10 rfl rfl)
theorem dX2_says_13 : decode cX2_says 13 = .ok (.sipush 729, 3) := dk_17 2 217 (dk_at dksX2_says_0 13 rfl rfl)
theorem dX2_says_16 : decode cX2_says 16 = .ok (.iload_n 1, 1) := dk_27 (dk_at dksX2_says_0 16 rfl rfl)
theorem dX2_says_17 : decode cX2_says 17 = .ok (.imul, 1) := dk_104 (dk_at dksX2_says_0 17 rfl rfl)
theorem dX2_says_18 : decode cX2_says 18 = .ok (.iaload, 1) := dk_46 (dk_at dksX2_says_0 18 rfl rfl)
theorem dX2_says_19 : decode cX2_says 19 = .ok (.if_icmp .ge 44, 3) := dk_162 0 44 (dk_at dksX2_says_0 19 rfl rfl)
theorem dX2_says_22 : decode cX2_says 22 = .ok (.aload_n 0, 1) := dk_42 (dk_at dksX2_says_0 22 rfl rfl)
theorem dX2_says_23 : decode cX2_says 23 = .ok (.getfield 16, 3) := dk_180 0 16 (dk_at dksX2_says_1 0 rfl rfl)
theorem dX2_says_26 : decode cX2_says 26 = .ok (.sipush 729, 3) := dk_17 2 217 (dk_at dksX2_says_1 3 rfl rfl)
theorem dX2_says_29 : decode cX2_says 29 = .ok (.iload_n 1, 1) := dk_27 (dk_at dksX2_says_1 6 rfl rfl)
theorem dX2_says_30 : decode cX2_says 30 = .ok (.imul, 1) := dk_104 (dk_at dksX2_says_1 7 rfl rfl)
theorem dX2_says_31 : decode cX2_says 31 = .ok (.iconst 1, 1) := dk_4 (dk_at dksX2_says_1 8 rfl rfl)
theorem dX2_says_32 : decode cX2_says 32 = .ok (.iadd, 1) := dk_96 (dk_at dksX2_says_1 9 rfl rfl)
theorem dX2_says_33 : decode cX2_says 33 = .ok (.iconst 5, 1) := dk_8 (dk_at dksX2_says_1 10 rfl rfl)
theorem dX2_says_34 : decode cX2_says 34 = .ok (.iload 5, 2) := dk_21 5 (dk_at dksX2_says_1 11 rfl rfl)
theorem dX2_says_36 : decode cX2_says 36 = .ok (.imul, 1) := dk_104 (dk_at dksX2_says_1 13 rfl rfl)
theorem dX2_says_37 : decode cX2_says 37 = .ok (.iadd, 1) := dk_96 (dk_at dksX2_says_1 14 rfl rfl)
theorem dX2_says_38 : decode cX2_says 38 = .ok (.iaload, 1) := dk_46 (dk_at dksX2_says_1 15 rfl rfl)
theorem dX2_says_39 : decode cX2_says 39 = .ok (.iload_n 2, 1) := dk_28 (dk_at dksX2_says_1 16 rfl rfl)
theorem dX2_says_40 : decode cX2_says 40 = .ok (.if_icmp .ne 17, 3) := dk_160 0 17 (dk_at dksX2_says_1 17 rfl rfl)
theorem dX2_says_43 : decode cX2_says 43 = .ok (.aload_n 0, 1) := dk_42 (dk_at dksX2_says_1 20 rfl rfl)
theorem dX2_says_44 : decode cX2_says 44 = .ok (.iload_n 1, 1) := dk_27 (dk_at dksX2_says_1 21 rfl rfl)
theorem dX2_says_45 : decode cX2_says 45 = .ok (.iload 5, 2) := dk_21 5 (dk_at dksX2_says_1 22 rfl rfl)
theorem dX2_says_47 : decode cX2_says 47 = .ok (.invokevirtual 285, 3) := dk_182 1 29 (dk_at dksX2_says_2 0 rfl rfl)
theorem dX2_says_50 : decode cX2_says 50 = .ok (.iconst 0, 1) := dk_3 (dk_at dksX2_says_2 3 rfl rfl)
theorem dX2_says_51 : decode cX2_says 51 = .ok (.iload 4, 2) := dk_21 4 (dk_at dksX2_says_2 4 rfl rfl)
theorem dX2_says_53 : decode cX2_says 53 = .ok (.invokestatic 288, 3) := dk_184 1 32 (dk_at dksX2_says_2 6 rfl rfl)
theorem dX2_says_56 : decode cX2_says 56 = .ok (.ireturn, 1) := dk_172 (dk_at dksX2_says_2 9 rfl rfl)
theorem dX2_says_57 : decode cX2_says 57 = .ok (.iinc 5 1, 3) := dk_132 5 1 (dk_at dksX2_says_2 10 rfl rfl)
theorem dX2_says_60 : decode cX2_says 60 = .ok (.goto (-57), 3) := dk_167 255 199 (dk_at dksX2_says_2 13 rfl rfl)
theorem dX2_says_63 : decode cX2_says 63 = .ok (.iload_n 3, 1) := dk_29 (dk_at dksX2_says_2 16 rfl rfl)
theorem dX2_says_64 : decode cX2_says 64 = .ok (.i2l, 1) := dk_133 (dk_at dksX2_says_2 17 rfl rfl)
theorem dX2_says_65 : decode cX2_says 65 = .ok (.iconst 0, 1) := dk_3 (dk_at dksX2_says_2 18 rfl rfl)
theorem dX2_says_66 : decode cX2_says 66 = .ok (.iload 4, 2) := dk_21 4 (dk_at dksX2_says_2 19 rfl rfl)
theorem dX2_says_68 : decode cX2_says 68 = .ok (.invokestatic 288, 3) := dk_184 1 32 (dk_at dksX2_says_2 21 rfl rfl)
theorem dX2_says_71 : decode cX2_says 71 = .ok (.ireturn, 1) := dk_172 (dk_at dksX2_says_3 0 rfl rfl)
abbrev cX2_summedUp : ByteArray := prog_21_method_64_code
def yX2_summedUp : MethodName := ⟨RX2, "summedUp", "(II)J"⟩
def dkwX2_summedUp_16 : List UInt8 := [173]
abbrev dktX2_summedUp_16 : List UInt8 := dkwX2_summedUp_16 ++ []
def dkwX2_summedUp_15 : List UInt8 := [51, 42, 180, 0, 39, 21, 6, 51, 184, 1, 25, 84, 132, 7, 1, 167, 254, 181, 42, 180, 0, 35, 3, 47]
abbrev dktX2_summedUp_15 : List UInt8 := dkwX2_summedUp_15 ++ dktX2_summedUp_16
def dkwX2_summedUp_14 : List UInt8 := [167, 0, 36, 132, 6, 255, 42, 180, 0, 39, 21, 6, 4, 100, 21, 8, 42, 180, 0, 39, 21, 6, 4, 100]
abbrev dktX2_summedUp_14 : List UInt8 := dkwX2_summedUp_14 ++ dktX2_summedUp_15
def dkwX2_summedUp_13 : List UInt8 := [21, 6, 4, 100, 42, 180, 0, 39, 21, 6, 4, 100, 51, 154, 0, 7, 4, 167, 0, 4, 3, 84]
abbrev dktX2_summedUp_13 : List UInt8 := dkwX2_summedUp_13 ++ dktX2_summedUp_14
def dkwX2_summedUp_12 : List UInt8 := [4, 96, 47, 184, 1, 21, 84, 132, 6, 1, 167, 0, 72, 21, 8, 16, 20, 160, 0, 32, 42, 180, 0, 39]
abbrev dktX2_summedUp_12 : List UInt8 := dkwX2_summedUp_12 ++ dktX2_summedUp_13
def dkwX2_summedUp_11 : List UInt8 := [132, 5, 254, 42, 180, 0, 39, 21, 6, 21, 8, 42, 180, 0, 35, 21, 5, 47, 42, 180, 0, 35, 21, 5]
abbrev dktX2_summedUp_11 : List UInt8 := dkwX2_summedUp_11 ++ dktX2_summedUp_12
def dkwX2_summedUp_10 : List UInt8 := [47, 42, 180, 0, 35, 21, 5, 47, 184, 1, 17, 80, 167, 0, 116, 21, 8, 16, 20, 162, 0, 40]
abbrev dktX2_summedUp_10 : List UInt8 := dkwX2_summedUp_10 ++ dktX2_summedUp_11
def dkwX2_summedUp_9 : List UInt8 := [162, 0, 39, 132, 5, 255, 42, 180, 0, 35, 21, 5, 4, 100, 21, 8, 42, 180, 0, 35, 21, 5, 4, 100]
abbrev dktX2_summedUp_9 : List UInt8 := dkwX2_summedUp_9 ++ dktX2_summedUp_10
def dkwX2_summedUp_8 : List UInt8 := [167, 0, 16, 42, 42, 180, 0, 35, 21, 5, 4, 100, 47, 182, 1, 14, 80, 167, 0, 159, 21, 8, 16, 10]
abbrev dktX2_summedUp_8 : List UInt8 := dkwX2_summedUp_8 ++ dktX2_summedUp_9
def dkwX2_summedUp_7 : List UInt8 := [42, 180, 0, 35, 21, 5, 4, 100, 21, 8, 8, 160, 0, 16, 42, 180, 0, 35, 21, 5, 4, 100, 47, 117]
abbrev dktX2_summedUp_7 : List UInt8 := dkwX2_summedUp_7 ++ dktX2_summedUp_8
def dkwX2_summedUp_6 : List UInt8 := [180, 0, 35, 21, 5, 4, 100, 42, 180, 0, 35, 21, 5, 47, 80, 167, 0, 209, 21, 8, 8, 163, 0, 47]
abbrev dktX2_summedUp_6 : List UInt8 := dkwX2_summedUp_6 ++ dktX2_summedUp_7
def dkwX2_summedUp_5 : List UInt8 := [21, 8, 6, 160, 0, 38, 132, 5, 255, 132, 6, 255, 42, 180, 0, 39, 21, 6, 51, 154, 0, 228, 42]
abbrev dktX2_summedUp_5 : List UInt8 := dkwX2_summedUp_5 ++ dktX2_summedUp_6
def dkwX2_summedUp_4 : List UInt8 := [154, 0, 9, 21, 9, 133, 167, 0, 11, 42, 180, 0, 32, 21, 9, 46, 133, 80, 132, 5, 1, 167, 0, 250]
abbrev dktX2_summedUp_4 : List UInt8 := dkwX2_summedUp_4 ++ dktX2_summedUp_5
def dkwX2_summedUp_3 : List UInt8 := [5, 21, 7, 104, 96, 4, 96, 46, 54, 9, 21, 8, 4, 163, 0, 35, 42, 180, 0, 35, 21, 5, 21, 8]
abbrev dktX2_summedUp_3 : List UInt8 := dkwX2_summedUp_3 ++ dktX2_summedUp_4
def dkwX2_summedUp_2 : List UInt8 := [46, 162, 1, 68, 42, 180, 0, 16, 21, 4, 5, 21, 7, 104, 96, 46, 54, 8, 42, 180, 0, 16, 21, 4]
abbrev dktX2_summedUp_2 : List UInt8 := dkwX2_summedUp_2 ++ dktX2_summedUp_3
def dkwX2_summedUp_1 : List UInt8 := [54, 5, 3, 54, 6, 42, 180, 0, 16, 29, 4, 96, 46, 54, 7, 21, 7, 42, 180, 0, 16, 29, 5, 96]
abbrev dktX2_summedUp_1 : List UInt8 := dkwX2_summedUp_1 ++ dktX2_summedUp_2
def dkwX2_summedUp_0 : List UInt8 := [17, 2, 217, 27, 104, 4, 96, 8, 28, 104, 96, 62, 17, 2, 217, 27, 104, 16, 121, 96, 54, 4, 3]
abbrev dktX2_summedUp_0 : List UInt8 := dkwX2_summedUp_0 ++ dktX2_summedUp_1
theorem dksX2_summedUp_0 : cX2_summedUp.data.toList.drop 0 = dktX2_summedUp_0 := by decide +kernel
theorem dksX2_summedUp_1 : cX2_summedUp.data.toList.drop 23 = dktX2_summedUp_1 := dk_seg dksX2_summedUp_0 23 rfl rfl
theorem dksX2_summedUp_2 : cX2_summedUp.data.toList.drop 47 = dktX2_summedUp_2 := dk_seg dksX2_summedUp_1 24 rfl rfl
theorem dksX2_summedUp_3 : cX2_summedUp.data.toList.drop 71 = dktX2_summedUp_3 := dk_seg dksX2_summedUp_2 24 rfl rfl
theorem dksX2_summedUp_4 : cX2_summedUp.data.toList.drop 95 = dktX2_summedUp_4 := dk_seg dksX2_summedUp_3 24 rfl rfl
theorem dksX2_summedUp_5 : cX2_summedUp.data.toList.drop 119 = dktX2_summedUp_5 := dk_seg dksX2_summedUp_4 24 rfl rfl
theorem dksX2_summedUp_6 : cX2_summedUp.data.toList.drop 142 = dktX2_summedUp_6 := dk_seg dksX2_summedUp_5 23 rfl rfl
theorem dksX2_summedUp_7 : cX2_summedUp.data.toList.drop 166 = dktX2_summedUp_7 := dk_seg dksX2_summedUp_6 24 rfl rfl
theorem dksX2_summedUp_8 : cX2_summedUp.data.toList.drop 190 = dktX2_summedUp_8 := dk_seg dksX2_summedUp_7 24 rfl rfl
theorem dksX2_summedUp_9 : cX2_summedUp.data.toList.drop 214 = dktX2_summedUp_9 := dk_seg dksX2_summedUp_8 24 rfl rfl
theorem dksX2_summedUp_10 : cX2_summedUp.data.toList.drop 238 = dktX2_summedUp_10 := dk_seg dksX2_summedUp_9 24 rfl rfl
theorem dksX2_summedUp_11 : cX2_summedUp.data.toList.drop 260 = dktX2_summedUp_11 := dk_seg dksX2_summedUp_10 22 rfl rfl
theorem dksX2_summedUp_12 : cX2_summedUp.data.toList.drop 284 = dktX2_summedUp_12 := dk_seg dksX2_summedUp_11 24 rfl rfl
theorem dksX2_summedUp_13 : cX2_summedUp.data.toList.drop 308 = dktX2_summedUp_13 := dk_seg dksX2_summedUp_12 24 rfl rfl
theorem dksX2_summedUp_14 : cX2_summedUp.data.toList.drop 330 = dktX2_summedUp_14 := dk_seg dksX2_summedUp_13 22 rfl rfl
theorem dksX2_summedUp_15 : cX2_summedUp.data.toList.drop 354 = dktX2_summedUp_15 := dk_seg dksX2_summedUp_14 24 rfl rfl
theorem dksX2_summedUp_16 : cX2_summedUp.data.toList.drop 378 = dktX2_summedUp_16 := dk_seg dksX2_summedUp_15 24 rfl rfl
theorem dX2_summedUp_0 : decode cX2_summedUp 0 = .ok (.sipush 729, 3) := dk_17 2 217 (dk_at dksX2_summedUp_0 0 rfl rfl)
theorem dX2_summedUp_3 : decode cX2_summedUp 3 = .ok (.iload_n 1, 1) := dk_27 (dk_at dksX2_summedUp_0 3 rfl rfl)
theorem dX2_summedUp_4 : decode cX2_summedUp 4 = .ok (.imul, 1) := dk_104 (dk_at dksX2_summedUp_0 4 rfl rfl)
theorem dX2_summedUp_5 : decode cX2_summedUp 5 = .ok (.iconst 1, 1) := dk_4 (dk_at dksX2_summedUp_0 5 rfl rfl)
theorem dX2_summedUp_6 : decode cX2_summedUp 6 = .ok (.iadd, 1) := dk_96 (dk_at dksX2_summedUp_0 6 rfl rfl)
theorem dX2_summedUp_7 : decode cX2_summedUp 7 = .ok (.iconst 5, 1) := dk_8 (dk_at dksX2_summedUp_0 7 rfl rfl)
theorem dX2_summedUp_8 : decode cX2_summedUp 8 = .ok (.iload_n 2, 1) := dk_28 (dk_at dksX2_summedUp_0 8 rfl rfl)
theorem dX2_summedUp_9 : decode cX2_summedUp 9 = .ok (.imul, 1) := dk_104 (dk_at dksX2_summedUp_0 9 rfl rfl)
theorem dX2_summedUp_10 : decode cX2_summedUp 10 = .ok (.iadd, 1) := dk_96 (dk_at dksX2_summedUp_0 10 rfl rfl)
theorem dX2_summedUp_11 : decode cX2_summedUp 11 = .ok (.istore_n 3, 1) := dk_62 (dk_at dksX2_summedUp_0 11 rfl rfl)
theorem dX2_summedUp_12 : decode cX2_summedUp 12 = .ok (.sipush 729, 3) := dk_17 2 217 (dk_at dksX2_summedUp_0 12 rfl rfl)
theorem dX2_summedUp_15 : decode cX2_summedUp 15 = .ok (.iload_n 1, 1) := dk_27 (dk_at dksX2_summedUp_0 15 rfl rfl)
theorem dX2_summedUp_16 : decode cX2_summedUp 16 = .ok (.imul, 1) := dk_104 (dk_at dksX2_summedUp_0 16 rfl rfl)
theorem dX2_summedUp_17 : decode cX2_summedUp 17 = .ok (.bipush 121, 2) := dk_16 121 (dk_at dksX2_summedUp_0 17 rfl rfl)
theorem dX2_summedUp_19 : decode cX2_summedUp 19 = .ok (.iadd, 1) := dk_96 (dk_at dksX2_summedUp_0 19 rfl rfl)
theorem dX2_summedUp_20 : decode cX2_summedUp 20 = .ok (.istore 4, 2) := dk_54 4 (dk_at dksX2_summedUp_0 20 rfl rfl)
theorem dX2_summedUp_22 : decode cX2_summedUp 22 = .ok (.iconst 0, 1) := dk_3 (dk_at dksX2_summedUp_0 22 rfl rfl)
theorem dX2_summedUp_23 : decode cX2_summedUp 23 = .ok (.istore 5, 2) := dk_54 5 (dk_at dksX2_summedUp_1 0 rfl rfl)
theorem dX2_summedUp_25 : decode cX2_summedUp 25 = .ok (.iconst 0, 1) := dk_3 (dk_at dksX2_summedUp_1 2 rfl rfl)
theorem dX2_summedUp_26 : decode cX2_summedUp 26 = .ok (.istore 6, 2) := dk_54 6 (dk_at dksX2_summedUp_1 3 rfl rfl)
theorem dX2_summedUp_28 : decode cX2_summedUp 28 = .ok (.aload_n 0, 1) := dk_42 (dk_at dksX2_summedUp_1 5 rfl rfl)
theorem dX2_summedUp_29 : decode cX2_summedUp 29 = .ok (.getfield 16, 3) := dk_180 0 16 (dk_at dksX2_summedUp_1 6 rfl rfl)
theorem dX2_summedUp_32 : decode cX2_summedUp 32 = .ok (.iload_n 3, 1) := dk_29 (dk_at dksX2_summedUp_1 9 rfl rfl)
theorem dX2_summedUp_33 : decode cX2_summedUp 33 = .ok (.iconst 1, 1) := dk_4 (dk_at dksX2_summedUp_1 10 rfl rfl)
theorem dX2_summedUp_34 : decode cX2_summedUp 34 = .ok (.iadd, 1) := dk_96 (dk_at dksX2_summedUp_1 11 rfl rfl)
theorem dX2_summedUp_35 : decode cX2_summedUp 35 = .ok (.iaload, 1) := dk_46 (dk_at dksX2_summedUp_1 12 rfl rfl)
theorem dX2_summedUp_36 : decode cX2_summedUp 36 = .ok (.istore 7, 2) := dk_54 7 (dk_at dksX2_summedUp_1 13 rfl rfl)
theorem dX2_summedUp_38 : decode cX2_summedUp 38 = .ok (.iload 7, 2) := dk_21 7 (dk_at dksX2_summedUp_1 15 rfl rfl)
theorem dX2_summedUp_40 : decode cX2_summedUp 40 = .ok (.aload_n 0, 1) := dk_42 (dk_at dksX2_summedUp_1 17 rfl rfl)
theorem dX2_summedUp_41 : decode cX2_summedUp 41 = .ok (.getfield 16, 3) := dk_180 0 16 (dk_at dksX2_summedUp_1 18 rfl rfl)
theorem dX2_summedUp_44 : decode cX2_summedUp 44 = .ok (.iload_n 3, 1) := dk_29 (dk_at dksX2_summedUp_1 21 rfl rfl)
theorem dX2_summedUp_45 : decode cX2_summedUp 45 = .ok (.iconst 2, 1) := dk_5 (dk_at dksX2_summedUp_1 22 rfl rfl)
theorem dX2_summedUp_46 : decode cX2_summedUp 46 = .ok (.iadd, 1) := dk_96 (dk_at dksX2_summedUp_1 23 rfl rfl)
theorem dX2_summedUp_47 : decode cX2_summedUp 47 = .ok (.iaload, 1) := dk_46 (dk_at dksX2_summedUp_2 0 rfl rfl)
theorem dX2_summedUp_48 : decode cX2_summedUp 48 = .ok (.if_icmp .ge 324, 3) := dk_162 1 68 (dk_at dksX2_summedUp_2 1 rfl rfl)
theorem dX2_summedUp_51 : decode cX2_summedUp 51 = .ok (.aload_n 0, 1) := dk_42 (dk_at dksX2_summedUp_2 4 rfl rfl)
theorem dX2_summedUp_52 : decode cX2_summedUp 52 = .ok (.getfield 16, 3) := dk_180 0 16 (dk_at dksX2_summedUp_2 5 rfl rfl)
theorem dX2_summedUp_55 : decode cX2_summedUp 55 = .ok (.iload 4, 2) := dk_21 4 (dk_at dksX2_summedUp_2 8 rfl rfl)
theorem dX2_summedUp_57 : decode cX2_summedUp 57 = .ok (.iconst 2, 1) := dk_5 (dk_at dksX2_summedUp_2 10 rfl rfl)
theorem dX2_summedUp_58 : decode cX2_summedUp 58 = .ok (.iload 7, 2) := dk_21 7 (dk_at dksX2_summedUp_2 11 rfl rfl)
theorem dX2_summedUp_60 : decode cX2_summedUp 60 = .ok (.imul, 1) := dk_104 (dk_at dksX2_summedUp_2 13 rfl rfl)
theorem dX2_summedUp_61 : decode cX2_summedUp 61 = .ok (.iadd, 1) := dk_96 (dk_at dksX2_summedUp_2 14 rfl rfl)
theorem dX2_summedUp_62 : decode cX2_summedUp 62 = .ok (.iaload, 1) := dk_46 (dk_at dksX2_summedUp_2 15 rfl rfl)
theorem dX2_summedUp_63 : decode cX2_summedUp 63 = .ok (.istore 8, 2) := dk_54 8 (dk_at dksX2_summedUp_2 16 rfl rfl)
theorem dX2_summedUp_65 : decode cX2_summedUp 65 = .ok (.aload_n 0, 1) := dk_42 (dk_at dksX2_summedUp_2 18 rfl rfl)
theorem dX2_summedUp_66 : decode cX2_summedUp 66 = .ok (.getfield 16, 3) := dk_180 0 16 (dk_at dksX2_summedUp_2 19 rfl rfl)
theorem dX2_summedUp_69 : decode cX2_summedUp 69 = .ok (.iload 4, 2) := dk_21 4 (dk_at dksX2_summedUp_2 22 rfl rfl)
theorem dX2_summedUp_71 : decode cX2_summedUp 71 = .ok (.iconst 2, 1) := dk_5 (dk_at dksX2_summedUp_3 0 rfl rfl)
theorem dX2_summedUp_72 : decode cX2_summedUp 72 = .ok (.iload 7, 2) := dk_21 7 (dk_at dksX2_summedUp_3 1 rfl rfl)
theorem dX2_summedUp_74 : decode cX2_summedUp 74 = .ok (.imul, 1) := dk_104 (dk_at dksX2_summedUp_3 3 rfl rfl)
theorem dX2_summedUp_75 : decode cX2_summedUp 75 = .ok (.iadd, 1) := dk_96 (dk_at dksX2_summedUp_3 4 rfl rfl)
theorem dX2_summedUp_76 : decode cX2_summedUp 76 = .ok (.iconst 1, 1) := dk_4 (dk_at dksX2_summedUp_3 5 rfl rfl)
theorem dX2_summedUp_77 : decode cX2_summedUp 77 = .ok (.iadd, 1) := dk_96 (dk_at dksX2_summedUp_3 6 rfl rfl)
theorem dX2_summedUp_78 : decode cX2_summedUp 78 = .ok (.iaload, 1) := dk_46 (dk_at dksX2_summedUp_3 7 rfl rfl)
theorem dX2_summedUp_79 : decode cX2_summedUp 79 = .ok (.istore 9, 2) := dk_54 9 (dk_at dksX2_summedUp_3 8 rfl rfl)
theorem dX2_summedUp_81 : decode cX2_summedUp 81 = .ok (.iload 8, 2) := dk_21 8 (dk_at dksX2_summedUp_3 10 rfl rfl)
theorem dX2_summedUp_83 : decode cX2_summedUp 83 = .ok (.iconst 1, 1) := dk_4 (dk_at dksX2_summedUp_3 12 rfl rfl)
theorem dX2_summedUp_84 : decode cX2_summedUp 84 = .ok (.if_icmp .gt 35, 3) := dk_163 0 35 (dk_at dksX2_summedUp_3 13 rfl rfl)
theorem dX2_summedUp_87 : decode cX2_summedUp 87 = .ok (.aload_n 0, 1) := dk_42 (dk_at dksX2_summedUp_3 16 rfl rfl)
theorem dX2_summedUp_88 : decode cX2_summedUp 88 = .ok (.getfield 35, 3) := dk_180 0 35 (dk_at dksX2_summedUp_3 17 rfl rfl)
theorem dX2_summedUp_91 : decode cX2_summedUp 91 = .ok (.iload 5, 2) := dk_21 5 (dk_at dksX2_summedUp_3 20 rfl rfl)
theorem dX2_summedUp_93 : decode cX2_summedUp 93 = .ok (.iload 8, 2) := dk_21 8 (dk_at dksX2_summedUp_3 22 rfl rfl)
theorem dX2_summedUp_95 : decode cX2_summedUp 95 = .ok (.ifCond .ne 9, 3) := dk_154 0 9 (dk_at dksX2_summedUp_4 0 rfl rfl)
theorem dX2_summedUp_98 : decode cX2_summedUp 98 = .ok (.iload 9, 2) := dk_21 9 (dk_at dksX2_summedUp_4 3 rfl rfl)
theorem dX2_summedUp_100 : decode cX2_summedUp 100 = .ok (.i2l, 1) := dk_133 (dk_at dksX2_summedUp_4 5 rfl rfl)
theorem dX2_summedUp_101 : decode cX2_summedUp 101 = .ok (.goto 11, 3) := dk_167 0 11 (dk_at dksX2_summedUp_4 6 rfl rfl)
theorem dX2_summedUp_104 : decode cX2_summedUp 104 = .ok (.aload_n 0, 1) := dk_42 (dk_at dksX2_summedUp_4 9 rfl rfl)
theorem dX2_summedUp_105 : decode cX2_summedUp 105 = .ok (.getfield 32, 3) := dk_180 0 32 (dk_at dksX2_summedUp_4 10 rfl rfl)
theorem dX2_summedUp_108 : decode cX2_summedUp 108 = .ok (.iload 9, 2) := dk_21 9 (dk_at dksX2_summedUp_4 13 rfl rfl)
theorem dX2_summedUp_110 : decode cX2_summedUp 110 = .ok (.iaload, 1) := dk_46 (dk_at dksX2_summedUp_4 15 rfl rfl)
theorem dX2_summedUp_111 : decode cX2_summedUp 111 = .ok (.i2l, 1) := dk_133 (dk_at dksX2_summedUp_4 16 rfl rfl)
theorem dX2_summedUp_112 : decode cX2_summedUp 112 = .ok (.lastore, 1) := dk_80 (dk_at dksX2_summedUp_4 17 rfl rfl)
theorem dX2_summedUp_113 : decode cX2_summedUp 113 = .ok (.iinc 5 1, 3) := dk_132 5 1 (dk_at dksX2_summedUp_4 18 rfl rfl)
theorem dX2_summedUp_116 : decode cX2_summedUp 116 = .ok (.goto 250, 3) := dk_167 0 250 (dk_at dksX2_summedUp_4 21 rfl rfl)
theorem dX2_summedUp_119 : decode cX2_summedUp 119 = .ok (.iload 8, 2) := dk_21 8 (dk_at dksX2_summedUp_5 0 rfl rfl)
theorem dX2_summedUp_121 : decode cX2_summedUp 121 = .ok (.iconst 3, 1) := dk_6 (dk_at dksX2_summedUp_5 2 rfl rfl)
theorem dX2_summedUp_122 : decode cX2_summedUp 122 = .ok (.if_icmp .ne 38, 3) := dk_160 0 38 (dk_at dksX2_summedUp_5 3 rfl rfl)
theorem dX2_summedUp_125 : decode cX2_summedUp 125 = .ok (.iinc 5 (-1), 3) := dk_132 5 255 (dk_at dksX2_summedUp_5 6 rfl rfl)
theorem dX2_summedUp_128 : decode cX2_summedUp 128 = .ok (.iinc 6 (-1), 3) := dk_132 6 255 (dk_at dksX2_summedUp_5 9 rfl rfl)
theorem dX2_summedUp_131 : decode cX2_summedUp 131 = .ok (.aload_n 0, 1) := dk_42 (dk_at dksX2_summedUp_5 12 rfl rfl)
theorem dX2_summedUp_132 : decode cX2_summedUp 132 = .ok (.getfield 39, 3) := dk_180 0 39 (dk_at dksX2_summedUp_5 13 rfl rfl)
theorem dX2_summedUp_135 : decode cX2_summedUp 135 = .ok (.iload 6, 2) := dk_21 6 (dk_at dksX2_summedUp_5 16 rfl rfl)
theorem dX2_summedUp_137 : decode cX2_summedUp 137 = .ok (.baload, 1) := dk_51 (dk_at dksX2_summedUp_5 18 rfl rfl)
theorem dX2_summedUp_138 : decode cX2_summedUp 138 = .ok (.ifCond .ne 228, 3) := dk_154 0 228 (dk_at dksX2_summedUp_5 19 rfl rfl)
theorem dX2_summedUp_141 : decode cX2_summedUp 141 = .ok (.aload_n 0, 1) := dk_42 (dk_at dksX2_summedUp_5 22 rfl rfl)
theorem dX2_summedUp_142 : decode cX2_summedUp 142 = .ok (.getfield 35, 3) := dk_180 0 35 (dk_at dksX2_summedUp_6 0 rfl rfl)
theorem dX2_summedUp_145 : decode cX2_summedUp 145 = .ok (.iload 5, 2) := dk_21 5 (dk_at dksX2_summedUp_6 3 rfl rfl)
theorem dX2_summedUp_147 : decode cX2_summedUp 147 = .ok (.iconst 1, 1) := dk_4 (dk_at dksX2_summedUp_6 5 rfl rfl)
theorem dX2_summedUp_148 : decode cX2_summedUp 148 = .ok (.isub, 1) := dk_100 (dk_at dksX2_summedUp_6 6 rfl rfl)
theorem dX2_summedUp_149 : decode cX2_summedUp 149 = .ok (.aload_n 0, 1) := dk_42 (dk_at dksX2_summedUp_6 7 rfl rfl)
theorem dX2_summedUp_150 : decode cX2_summedUp 150 = .ok (.getfield 35, 3) := dk_180 0 35 (dk_at dksX2_summedUp_6 8 rfl rfl)
theorem dX2_summedUp_153 : decode cX2_summedUp 153 = .ok (.iload 5, 2) := dk_21 5 (dk_at dksX2_summedUp_6 11 rfl rfl)
theorem dX2_summedUp_155 : decode cX2_summedUp 155 = .ok (.laload, 1) := dk_47 (dk_at dksX2_summedUp_6 13 rfl rfl)
theorem dX2_summedUp_156 : decode cX2_summedUp 156 = .ok (.lastore, 1) := dk_80 (dk_at dksX2_summedUp_6 14 rfl rfl)
theorem dX2_summedUp_157 : decode cX2_summedUp 157 = .ok (.goto 209, 3) := dk_167 0 209 (dk_at dksX2_summedUp_6 15 rfl rfl)
theorem dX2_summedUp_160 : decode cX2_summedUp 160 = .ok (.iload 8, 2) := dk_21 8 (dk_at dksX2_summedUp_6 18 rfl rfl)
theorem dX2_summedUp_162 : decode cX2_summedUp 162 = .ok (.iconst 5, 1) := dk_8 (dk_at dksX2_summedUp_6 20 rfl rfl)
theorem dX2_summedUp_163 : decode cX2_summedUp 163 = .ok (.if_icmp .gt 47, 3) := dk_163 0 47 (dk_at dksX2_summedUp_6 21 rfl rfl)
theorem dX2_summedUp_166 : decode cX2_summedUp 166 = .ok (.aload_n 0, 1) := dk_42 (dk_at dksX2_summedUp_7 0 rfl rfl)
theorem dX2_summedUp_167 : decode cX2_summedUp 167 = .ok (.getfield 35, 3) := dk_180 0 35 (dk_at dksX2_summedUp_7 1 rfl rfl)
theorem dX2_summedUp_170 : decode cX2_summedUp 170 = .ok (.iload 5, 2) := dk_21 5 (dk_at dksX2_summedUp_7 4 rfl rfl)
theorem dX2_summedUp_172 : decode cX2_summedUp 172 = .ok (.iconst 1, 1) := dk_4 (dk_at dksX2_summedUp_7 6 rfl rfl)
theorem dX2_summedUp_173 : decode cX2_summedUp 173 = .ok (.isub, 1) := dk_100 (dk_at dksX2_summedUp_7 7 rfl rfl)
theorem dX2_summedUp_174 : decode cX2_summedUp 174 = .ok (.iload 8, 2) := dk_21 8 (dk_at dksX2_summedUp_7 8 rfl rfl)
theorem dX2_summedUp_176 : decode cX2_summedUp 176 = .ok (.iconst 5, 1) := dk_8 (dk_at dksX2_summedUp_7 10 rfl rfl)
theorem dX2_summedUp_177 : decode cX2_summedUp 177 = .ok (.if_icmp .ne 16, 3) := dk_160 0 16 (dk_at dksX2_summedUp_7 11 rfl rfl)
theorem dX2_summedUp_180 : decode cX2_summedUp 180 = .ok (.aload_n 0, 1) := dk_42 (dk_at dksX2_summedUp_7 14 rfl rfl)
theorem dX2_summedUp_181 : decode cX2_summedUp 181 = .ok (.getfield 35, 3) := dk_180 0 35 (dk_at dksX2_summedUp_7 15 rfl rfl)
theorem dX2_summedUp_184 : decode cX2_summedUp 184 = .ok (.iload 5, 2) := dk_21 5 (dk_at dksX2_summedUp_7 18 rfl rfl)
theorem dX2_summedUp_186 : decode cX2_summedUp 186 = .ok (.iconst 1, 1) := dk_4 (dk_at dksX2_summedUp_7 20 rfl rfl)
theorem dX2_summedUp_187 : decode cX2_summedUp 187 = .ok (.isub, 1) := dk_100 (dk_at dksX2_summedUp_7 21 rfl rfl)
theorem dX2_summedUp_188 : decode cX2_summedUp 188 = .ok (.laload, 1) := dk_47 (dk_at dksX2_summedUp_7 22 rfl rfl)
theorem dX2_summedUp_189 : decode cX2_summedUp 189 = .ok (.lneg, 1) := dk_117 (dk_at dksX2_summedUp_7 23 rfl rfl)
theorem dX2_summedUp_190 : decode cX2_summedUp 190 = .ok (.goto 16, 3) := dk_167 0 16 (dk_at dksX2_summedUp_8 0 rfl rfl)
theorem dX2_summedUp_193 : decode cX2_summedUp 193 = .ok (.aload_n 0, 1) := dk_42 (dk_at dksX2_summedUp_8 3 rfl rfl)
theorem dX2_summedUp_194 : decode cX2_summedUp 194 = .ok (.aload_n 0, 1) := dk_42 (dk_at dksX2_summedUp_8 4 rfl rfl)
theorem dX2_summedUp_195 : decode cX2_summedUp 195 = .ok (.getfield 35, 3) := dk_180 0 35 (dk_at dksX2_summedUp_8 5 rfl rfl)
theorem dX2_summedUp_198 : decode cX2_summedUp 198 = .ok (.iload 5, 2) := dk_21 5 (dk_at dksX2_summedUp_8 8 rfl rfl)
theorem dX2_summedUp_200 : decode cX2_summedUp 200 = .ok (.iconst 1, 1) := dk_4 (dk_at dksX2_summedUp_8 10 rfl rfl)
theorem dX2_summedUp_201 : decode cX2_summedUp 201 = .ok (.isub, 1) := dk_100 (dk_at dksX2_summedUp_8 11 rfl rfl)
theorem dX2_summedUp_202 : decode cX2_summedUp 202 = .ok (.laload, 1) := dk_47 (dk_at dksX2_summedUp_8 12 rfl rfl)
theorem dX2_summedUp_203 : decode cX2_summedUp 203 = .ok (.invokevirtual 270, 3) := dk_182 1 14 (dk_at dksX2_summedUp_8 13 rfl rfl)
theorem dX2_summedUp_206 : decode cX2_summedUp 206 = .ok (.lastore, 1) := dk_80 (dk_at dksX2_summedUp_8 16 rfl rfl)
theorem dX2_summedUp_207 : decode cX2_summedUp 207 = .ok (.goto 159, 3) := dk_167 0 159 (dk_at dksX2_summedUp_8 17 rfl rfl)
theorem dX2_summedUp_210 : decode cX2_summedUp 210 = .ok (.iload 8, 2) := dk_21 8 (dk_at dksX2_summedUp_8 20 rfl rfl)
theorem dX2_summedUp_212 : decode cX2_summedUp 212 = .ok (.bipush 10, 2) := dk_16 10 (dk_at dksX2_summedUp_8 22 rfl rfl)
theorem dX2_summedUp_214 : decode cX2_summedUp 214 = .ok (.if_icmp .ge 39, 3) := dk_162 0 39 (dk_at dksX2_summedUp_9 0 rfl rfl)
theorem dX2_summedUp_217 : decode cX2_summedUp 217 = .ok (.iinc 5 (-1), 3) := dk_132 5 255 (dk_at dksX2_summedUp_9 3 rfl rfl)
theorem dX2_summedUp_220 : decode cX2_summedUp 220 = .ok (.aload_n 0, 1) := dk_42 (dk_at dksX2_summedUp_9 6 rfl rfl)
theorem dX2_summedUp_221 : decode cX2_summedUp 221 = .ok (.getfield 35, 3) := dk_180 0 35 (dk_at dksX2_summedUp_9 7 rfl rfl)
theorem dX2_summedUp_224 : decode cX2_summedUp 224 = .ok (.iload 5, 2) := dk_21 5 (dk_at dksX2_summedUp_9 10 rfl rfl)
theorem dX2_summedUp_226 : decode cX2_summedUp 226 = .ok (.iconst 1, 1) := dk_4 (dk_at dksX2_summedUp_9 12 rfl rfl)
theorem dX2_summedUp_227 : decode cX2_summedUp 227 = .ok (.isub, 1) := dk_100 (dk_at dksX2_summedUp_9 13 rfl rfl)
theorem dX2_summedUp_228 : decode cX2_summedUp 228 = .ok (.iload 8, 2) := dk_21 8 (dk_at dksX2_summedUp_9 14 rfl rfl)
theorem dX2_summedUp_230 : decode cX2_summedUp 230 = .ok (.aload_n 0, 1) := dk_42 (dk_at dksX2_summedUp_9 16 rfl rfl)
theorem dX2_summedUp_231 : decode cX2_summedUp 231 = .ok (.getfield 35, 3) := dk_180 0 35 (dk_at dksX2_summedUp_9 17 rfl rfl)
theorem dX2_summedUp_234 : decode cX2_summedUp 234 = .ok (.iload 5, 2) := dk_21 5 (dk_at dksX2_summedUp_9 20 rfl rfl)
theorem dX2_summedUp_236 : decode cX2_summedUp 236 = .ok (.iconst 1, 1) := dk_4 (dk_at dksX2_summedUp_9 22 rfl rfl)
theorem dX2_summedUp_237 : decode cX2_summedUp 237 = .ok (.isub, 1) := dk_100 (dk_at dksX2_summedUp_9 23 rfl rfl)
theorem dX2_summedUp_238 : decode cX2_summedUp 238 = .ok (.laload, 1) := dk_47 (dk_at dksX2_summedUp_10 0 rfl rfl)
theorem dX2_summedUp_239 : decode cX2_summedUp 239 = .ok (.aload_n 0, 1) := dk_42 (dk_at dksX2_summedUp_10 1 rfl rfl)
theorem dX2_summedUp_240 : decode cX2_summedUp 240 = .ok (.getfield 35, 3) := dk_180 0 35 (dk_at dksX2_summedUp_10 2 rfl rfl)
theorem dX2_summedUp_243 : decode cX2_summedUp 243 = .ok (.iload 5, 2) := dk_21 5 (dk_at dksX2_summedUp_10 5 rfl rfl)
theorem dX2_summedUp_245 : decode cX2_summedUp 245 = .ok (.laload, 1) := dk_47 (dk_at dksX2_summedUp_10 7 rfl rfl)
theorem dX2_summedUp_246 : decode cX2_summedUp 246 = .ok (.invokestatic 273, 3) := dk_184 1 17 (dk_at dksX2_summedUp_10 8 rfl rfl)
theorem dX2_summedUp_249 : decode cX2_summedUp 249 = .ok (.lastore, 1) := dk_80 (dk_at dksX2_summedUp_10 11 rfl rfl)
theorem dX2_summedUp_250 : decode cX2_summedUp 250 = .ok (.goto 116, 3) := dk_167 0 116 (dk_at dksX2_summedUp_10 12 rfl rfl)
theorem dX2_summedUp_253 : decode cX2_summedUp 253 = .ok (.iload 8, 2) := dk_21 8 (dk_at dksX2_summedUp_10 15 rfl rfl)
theorem dX2_summedUp_255 : decode cX2_summedUp 255 = .ok (.bipush 20, 2) := dk_16 20 (dk_at dksX2_summedUp_10 17 rfl rfl)
theorem dX2_summedUp_257 : decode cX2_summedUp 257 = .ok (.if_icmp .ge 40, 3) := dk_162 0 40 (dk_at dksX2_summedUp_10 19 rfl rfl)
theorem dX2_summedUp_260 : decode cX2_summedUp 260 = .ok (.iinc 5 (-2), 3) := dk_132 5 254 (dk_at dksX2_summedUp_11 0 rfl rfl)
theorem dX2_summedUp_263 : decode cX2_summedUp 263 = .ok (.aload_n 0, 1) := dk_42 (dk_at dksX2_summedUp_11 3 rfl rfl)
theorem dX2_summedUp_264 : decode cX2_summedUp 264 = .ok (.getfield 39, 3) := dk_180 0 39 (dk_at dksX2_summedUp_11 4 rfl rfl)
theorem dX2_summedUp_267 : decode cX2_summedUp 267 = .ok (.iload 6, 2) := dk_21 6 (dk_at dksX2_summedUp_11 7 rfl rfl)
theorem dX2_summedUp_269 : decode cX2_summedUp 269 = .ok (.iload 8, 2) := dk_21 8 (dk_at dksX2_summedUp_11 9 rfl rfl)
theorem dX2_summedUp_271 : decode cX2_summedUp 271 = .ok (.aload_n 0, 1) := dk_42 (dk_at dksX2_summedUp_11 11 rfl rfl)
theorem dX2_summedUp_272 : decode cX2_summedUp 272 = .ok (.getfield 35, 3) := dk_180 0 35 (dk_at dksX2_summedUp_11 12 rfl rfl)
theorem dX2_summedUp_275 : decode cX2_summedUp 275 = .ok (.iload 5, 2) := dk_21 5 (dk_at dksX2_summedUp_11 15 rfl rfl)
theorem dX2_summedUp_277 : decode cX2_summedUp 277 = .ok (.laload, 1) := dk_47 (dk_at dksX2_summedUp_11 17 rfl rfl)
theorem dX2_summedUp_278 : decode cX2_summedUp 278 = .ok (.aload_n 0, 1) := dk_42 (dk_at dksX2_summedUp_11 18 rfl rfl)
theorem dX2_summedUp_279 : decode cX2_summedUp 279 = .ok (.getfield 35, 3) := dk_180 0 35 (dk_at dksX2_summedUp_11 19 rfl rfl)
theorem dX2_summedUp_282 : decode cX2_summedUp 282 = .ok (.iload 5, 2) := dk_21 5 (dk_at dksX2_summedUp_11 22 rfl rfl)
theorem dX2_summedUp_284 : decode cX2_summedUp 284 = .ok (.iconst 1, 1) := dk_4 (dk_at dksX2_summedUp_12 0 rfl rfl)
theorem dX2_summedUp_285 : decode cX2_summedUp 285 = .ok (.iadd, 1) := dk_96 (dk_at dksX2_summedUp_12 1 rfl rfl)
theorem dX2_summedUp_286 : decode cX2_summedUp 286 = .ok (.laload, 1) := dk_47 (dk_at dksX2_summedUp_12 2 rfl rfl)
theorem dX2_summedUp_287 : decode cX2_summedUp 287 = .ok (.invokestatic 277, 3) := dk_184 1 21 (dk_at dksX2_summedUp_12 3 rfl rfl)
theorem dX2_summedUp_290 : decode cX2_summedUp 290 = .ok (.bastore, 1) := dk_84 (dk_at dksX2_summedUp_12 6 rfl rfl)
theorem dX2_summedUp_291 : decode cX2_summedUp 291 = .ok (.iinc 6 1, 3) := dk_132 6 1 (dk_at dksX2_summedUp_12 7 rfl rfl)
theorem dX2_summedUp_294 : decode cX2_summedUp 294 = .ok (.goto 72, 3) := dk_167 0 72 (dk_at dksX2_summedUp_12 10 rfl rfl)
theorem dX2_summedUp_297 : decode cX2_summedUp 297 = .ok (.iload 8, 2) := dk_21 8 (dk_at dksX2_summedUp_12 13 rfl rfl)
theorem dX2_summedUp_299 : decode cX2_summedUp 299 = .ok (.bipush 20, 2) := dk_16 20 (dk_at dksX2_summedUp_12 15 rfl rfl)
theorem dX2_summedUp_301 : decode cX2_summedUp 301 = .ok (.if_icmp .ne 32, 3) := dk_160 0 32 (dk_at dksX2_summedUp_12 17 rfl rfl)
theorem dX2_summedUp_304 : decode cX2_summedUp 304 = .ok (.aload_n 0, 1) := dk_42 (dk_at dksX2_summedUp_12 20 rfl rfl)
theorem dX2_summedUp_305 : decode cX2_summedUp 305 = .ok (.getfield 39, 3) := dk_180 0 39 (dk_at dksX2_summedUp_12 21 rfl rfl)
theorem dX2_summedUp_308 : decode cX2_summedUp 308 = .ok (.iload 6, 2) := dk_21 6 (dk_at dksX2_summedUp_13 0 rfl rfl)
theorem dX2_summedUp_310 : decode cX2_summedUp 310 = .ok (.iconst 1, 1) := dk_4 (dk_at dksX2_summedUp_13 2 rfl rfl)
theorem dX2_summedUp_311 : decode cX2_summedUp 311 = .ok (.isub, 1) := dk_100 (dk_at dksX2_summedUp_13 3 rfl rfl)
theorem dX2_summedUp_312 : decode cX2_summedUp 312 = .ok (.aload_n 0, 1) := dk_42 (dk_at dksX2_summedUp_13 4 rfl rfl)
theorem dX2_summedUp_313 : decode cX2_summedUp 313 = .ok (.getfield 39, 3) := dk_180 0 39 (dk_at dksX2_summedUp_13 5 rfl rfl)
theorem dX2_summedUp_316 : decode cX2_summedUp 316 = .ok (.iload 6, 2) := dk_21 6 (dk_at dksX2_summedUp_13 8 rfl rfl)
theorem dX2_summedUp_318 : decode cX2_summedUp 318 = .ok (.iconst 1, 1) := dk_4 (dk_at dksX2_summedUp_13 10 rfl rfl)
theorem dX2_summedUp_319 : decode cX2_summedUp 319 = .ok (.isub, 1) := dk_100 (dk_at dksX2_summedUp_13 11 rfl rfl)
theorem dX2_summedUp_320 : decode cX2_summedUp 320 = .ok (.baload, 1) := dk_51 (dk_at dksX2_summedUp_13 12 rfl rfl)
theorem dX2_summedUp_321 : decode cX2_summedUp 321 = .ok (.ifCond .ne 7, 3) := dk_154 0 7 (dk_at dksX2_summedUp_13 13 rfl rfl)
theorem dX2_summedUp_324 : decode cX2_summedUp 324 = .ok (.iconst 1, 1) := dk_4 (dk_at dksX2_summedUp_13 16 rfl rfl)
theorem dX2_summedUp_325 : decode cX2_summedUp 325 = .ok (.goto 4, 3) := dk_167 0 4 (dk_at dksX2_summedUp_13 17 rfl rfl)
theorem dX2_summedUp_328 : decode cX2_summedUp 328 = .ok (.iconst 0, 1) := dk_3 (dk_at dksX2_summedUp_13 20 rfl rfl)
theorem dX2_summedUp_329 : decode cX2_summedUp 329 = .ok (.bastore, 1) := dk_84 (dk_at dksX2_summedUp_13 21 rfl rfl)
theorem dX2_summedUp_330 : decode cX2_summedUp 330 = .ok (.goto 36, 3) := dk_167 0 36 (dk_at dksX2_summedUp_14 0 rfl rfl)
theorem dX2_summedUp_333 : decode cX2_summedUp 333 = .ok (.iinc 6 (-1), 3) := dk_132 6 255 (dk_at dksX2_summedUp_14 3 rfl rfl)
theorem dX2_summedUp_336 : decode cX2_summedUp 336 = .ok (.aload_n 0, 1) := dk_42 (dk_at dksX2_summedUp_14 6 rfl rfl)
theorem dX2_summedUp_337 : decode cX2_summedUp 337 = .ok (.getfield 39, 3) := dk_180 0 39 (dk_at dksX2_summedUp_14 7 rfl rfl)
theorem dX2_summedUp_340 : decode cX2_summedUp 340 = .ok (.iload 6, 2) := dk_21 6 (dk_at dksX2_summedUp_14 10 rfl rfl)
theorem dX2_summedUp_342 : decode cX2_summedUp 342 = .ok (.iconst 1, 1) := dk_4 (dk_at dksX2_summedUp_14 12 rfl rfl)
theorem dX2_summedUp_343 : decode cX2_summedUp 343 = .ok (.isub, 1) := dk_100 (dk_at dksX2_summedUp_14 13 rfl rfl)
theorem dX2_summedUp_344 : decode cX2_summedUp 344 = .ok (.iload 8, 2) := dk_21 8 (dk_at dksX2_summedUp_14 14 rfl rfl)
theorem dX2_summedUp_346 : decode cX2_summedUp 346 = .ok (.aload_n 0, 1) := dk_42 (dk_at dksX2_summedUp_14 16 rfl rfl)
theorem dX2_summedUp_347 : decode cX2_summedUp 347 = .ok (.getfield 39, 3) := dk_180 0 39 (dk_at dksX2_summedUp_14 17 rfl rfl)
theorem dX2_summedUp_350 : decode cX2_summedUp 350 = .ok (.iload 6, 2) := dk_21 6 (dk_at dksX2_summedUp_14 20 rfl rfl)
theorem dX2_summedUp_352 : decode cX2_summedUp 352 = .ok (.iconst 1, 1) := dk_4 (dk_at dksX2_summedUp_14 22 rfl rfl)
theorem dX2_summedUp_353 : decode cX2_summedUp 353 = .ok (.isub, 1) := dk_100 (dk_at dksX2_summedUp_14 23 rfl rfl)
theorem dX2_summedUp_354 : decode cX2_summedUp 354 = .ok (.baload, 1) := dk_51 (dk_at dksX2_summedUp_15 0 rfl rfl)
theorem dX2_summedUp_355 : decode cX2_summedUp 355 = .ok (.aload_n 0, 1) := dk_42 (dk_at dksX2_summedUp_15 1 rfl rfl)
theorem dX2_summedUp_356 : decode cX2_summedUp 356 = .ok (.getfield 39, 3) := dk_180 0 39 (dk_at dksX2_summedUp_15 2 rfl rfl)
theorem dX2_summedUp_359 : decode cX2_summedUp 359 = .ok (.iload 6, 2) := dk_21 6 (dk_at dksX2_summedUp_15 5 rfl rfl)
theorem dX2_summedUp_361 : decode cX2_summedUp 361 = .ok (.baload, 1) := dk_51 (dk_at dksX2_summedUp_15 7 rfl rfl)
theorem dX2_summedUp_362 : decode cX2_summedUp 362 = .ok (.invokestatic 281, 3) := dk_184 1 25 (dk_at dksX2_summedUp_15 8 rfl rfl)
theorem dX2_summedUp_365 : decode cX2_summedUp 365 = .ok (.bastore, 1) := dk_84 (dk_at dksX2_summedUp_15 11 rfl rfl)
theorem dX2_summedUp_366 : decode cX2_summedUp 366 = .ok (.iinc 7 1, 3) := dk_132 7 1 (dk_at dksX2_summedUp_15 12 rfl rfl)
theorem dX2_summedUp_369 : decode cX2_summedUp 369 = .ok (.goto (-331), 3) := dk_167 254 181 (dk_at dksX2_summedUp_15 15 rfl rfl)
theorem dX2_summedUp_372 : decode cX2_summedUp 372 = .ok (.aload_n 0, 1) := dk_42 (dk_at dksX2_summedUp_15 18 rfl rfl)
theorem dX2_summedUp_373 : decode cX2_summedUp 373 = .ok (.getfield 35, 3) := dk_180 0 35 (dk_at dksX2_summedUp_15 19 rfl rfl)
theorem dX2_summedUp_376 : decode cX2_summedUp 376 = .ok (.iconst 0, 1) := dk_3 (dk_at dksX2_summedUp_15 22 rfl rfl)
theorem dX2_summedUp_377 : decode cX2_summedUp 377 = .ok (.laload, 1) := dk_47 (dk_at dksX2_summedUp_15 23 rfl rfl)
theorem dX2_summedUp_378 : decode cX2_summedUp 378 = .ok (.lreturn, 1) := dk_173 (dk_at dksX2_summedUp_16 0 rfl rfl)
abbrev cX2_ringsFor : ByteArray := prog_21_method_62_code
def yX2_ringsFor : MethodName := ⟨RX2, "ringsFor", "(J)J"⟩
def dkwX2_ringsFor_1 : List UInt8 := [184, 0, 246, 153, 0, 7, 10, 167, 0, 4, 9, 173]
abbrev dktX2_ringsFor_1 : List UInt8 := dkwX2_ringsFor_1 ++ []
def dkwX2_ringsFor_0 : List UInt8 := [31, 9, 148, 155, 0, 31, 31, 42, 180, 0, 7, 3, 46, 133, 148, 156, 0, 19, 42, 180, 1, 11, 31, 136]
abbrev dktX2_ringsFor_0 : List UInt8 := dkwX2_ringsFor_0 ++ dktX2_ringsFor_1
theorem dksX2_ringsFor_0 : cX2_ringsFor.data.toList.drop 0 = dktX2_ringsFor_0 := by decide +kernel
theorem dksX2_ringsFor_1 : cX2_ringsFor.data.toList.drop 24 = dktX2_ringsFor_1 := dk_seg dksX2_ringsFor_0 24 rfl rfl
theorem dX2_ringsFor_0 : decode cX2_ringsFor 0 = .ok (.lload_n 1, 1) := dk_31 (dk_at dksX2_ringsFor_0 0 rfl rfl)
theorem dX2_ringsFor_1 : decode cX2_ringsFor 1 = .ok (.lconst 0, 1) := dk_9 (dk_at dksX2_ringsFor_0 1 rfl rfl)
theorem dX2_ringsFor_2 : decode cX2_ringsFor 2 = .ok (.lcmp, 1) := dk_148 (dk_at dksX2_ringsFor_0 2 rfl rfl)
theorem dX2_ringsFor_3 : decode cX2_ringsFor 3 = .ok (.ifCond .lt 31, 3) := dk_155 0 31 (dk_at dksX2_ringsFor_0 3 rfl rfl)
theorem dX2_ringsFor_6 : decode cX2_ringsFor 6 = .ok (.lload_n 1, 1) := dk_31 (dk_at dksX2_ringsFor_0 6 rfl rfl)
theorem dX2_ringsFor_7 : decode cX2_ringsFor 7 = .ok (.aload_n 0, 1) := dk_42 (dk_at dksX2_ringsFor_0 7 rfl rfl)
theorem dX2_ringsFor_8 : decode cX2_ringsFor 8 = .ok (.getfield 7, 3) := dk_180 0 7 (dk_at dksX2_ringsFor_0 8 rfl rfl)
theorem dX2_ringsFor_11 : decode cX2_ringsFor 11 = .ok (.iconst 0, 1) := dk_3 (dk_at dksX2_ringsFor_0 11 rfl rfl)
theorem dX2_ringsFor_12 : decode cX2_ringsFor 12 = .ok (.iaload, 1) := dk_46 (dk_at dksX2_ringsFor_0 12 rfl rfl)
theorem dX2_ringsFor_13 : decode cX2_ringsFor 13 = .ok (.i2l, 1) := dk_133 (dk_at dksX2_ringsFor_0 13 rfl rfl)
theorem dX2_ringsFor_14 : decode cX2_ringsFor 14 = .ok (.lcmp, 1) := dk_148 (dk_at dksX2_ringsFor_0 14 rfl rfl)
theorem dX2_ringsFor_15 : decode cX2_ringsFor 15 = .ok (.ifCond .ge 19, 3) := dk_156 0 19 (dk_at dksX2_ringsFor_0 15 rfl rfl)
theorem dX2_ringsFor_18 : decode cX2_ringsFor 18 = .ok (.aload_n 0, 1) := dk_42 (dk_at dksX2_ringsFor_0 18 rfl rfl)
theorem dX2_ringsFor_19 : decode cX2_ringsFor 19 = .ok (.getfield 267, 3) := dk_180 1 11 (dk_at dksX2_ringsFor_0 19 rfl rfl)
theorem dX2_ringsFor_22 : decode cX2_ringsFor 22 = .ok (.lload_n 1, 1) := dk_31 (dk_at dksX2_ringsFor_0 22 rfl rfl)
theorem dX2_ringsFor_23 : decode cX2_ringsFor 23 = .ok (.l2i, 1) := dk_136 (dk_at dksX2_ringsFor_0 23 rfl rfl)
theorem dX2_ringsFor_24 : decode cX2_ringsFor 24 = .ok (.invokestatic 246, 3) := dk_184 0 246 (dk_at dksX2_ringsFor_1 0 rfl rfl)
theorem dX2_ringsFor_27 : decode cX2_ringsFor 27 = .ok (.ifCond .eq 7, 3) := dk_153 0 7 (dk_at dksX2_ringsFor_1 3 rfl rfl)
theorem dX2_ringsFor_30 : decode cX2_ringsFor 30 = .ok (.lconst 1, 1) := dk_10 (dk_at dksX2_ringsFor_1 6 rfl rfl)
theorem dX2_ringsFor_31 : decode cX2_ringsFor 31 = .ok (.goto 4, 3) := dk_167 0 4 (dk_at dksX2_ringsFor_1 7 rfl rfl)
theorem dX2_ringsFor_34 : decode cX2_ringsFor 34 = .ok (.lconst 0, 1) := dk_9 (dk_at dksX2_ringsFor_1 10 rfl rfl)
theorem dX2_ringsFor_35 : decode cX2_ringsFor 35 = .ok (.lreturn, 1) := dk_173 (dk_at dksX2_ringsFor_1 11 rfl rfl)
abbrev cX2_two : ByteArray := prog_21_method_60_code
def yX2_two : MethodName := ⟨RX2, "two", "(IJJ)J"⟩
def dkwX2_two_3 : List UInt8 := [154, 0, 7, 9, 167, 0, 9, 31, 33, 109, 184, 1, 7, 173]
abbrev dktX2_two_3 : List UInt8 := dkwX2_two_3 ++ []
def dkwX2_two_2 : List UInt8 := [31, 33, 97, 184, 1, 7, 173, 31, 33, 101, 184, 1, 7, 173, 31, 33, 105, 184, 1, 7, 173, 33, 9, 148]
abbrev dktX2_two_2 : List UInt8 := dkwX2_two_2 ++ dktX2_two_3
def dkwX2_two_1 : List UInt8 := [170, 0, 0, 0, 0, 0, 48, 0, 0, 0, 6, 0, 0, 0, 8, 0, 0, 0, 27, 0, 0, 0, 34, 0, 0, 0, 41]
abbrev dktX2_two_1 : List UInt8 := dkwX2_two_1 ++ dktX2_two_2
def dkwX2_two_0 : List UInt8 := [26]
abbrev dktX2_two_0 : List UInt8 := dkwX2_two_0 ++ dktX2_two_1
theorem dksX2_two_0 : cX2_two.data.toList.drop 0 = dktX2_two_0 := by decide +kernel
theorem dksX2_two_1 : cX2_two.data.toList.drop 1 = dktX2_two_1 := dk_seg dksX2_two_0 1 rfl rfl
theorem dksX2_two_2 : cX2_two.data.toList.drop 28 = dktX2_two_2 := dk_seg dksX2_two_1 27 rfl rfl
theorem dksX2_two_3 : cX2_two.data.toList.drop 52 = dktX2_two_3 := dk_seg dksX2_two_2 24 rfl rfl
theorem dX2_two_0 : decode cX2_two 0 = .ok (.iload_n 0, 1) := dk_26 (dk_at dksX2_two_0 0 rfl rfl)
theorem dX2_two_1 : decode cX2_two 1 = .ok (.tableswitch 48 6 8 #[27, 34, 41], 27) := by decide +kernel
theorem dX2_two_28 : decode cX2_two 28 = .ok (.lload_n 1, 1) := dk_31 (dk_at dksX2_two_2 0 rfl rfl)
theorem dX2_two_29 : decode cX2_two 29 = .ok (.lload_n 3, 1) := dk_33 (dk_at dksX2_two_2 1 rfl rfl)
theorem dX2_two_30 : decode cX2_two 30 = .ok (.ladd, 1) := dk_97 (dk_at dksX2_two_2 2 rfl rfl)
theorem dX2_two_31 : decode cX2_two 31 = .ok (.invokestatic 263, 3) := dk_184 1 7 (dk_at dksX2_two_2 3 rfl rfl)
theorem dX2_two_34 : decode cX2_two 34 = .ok (.lreturn, 1) := dk_173 (dk_at dksX2_two_2 6 rfl rfl)
theorem dX2_two_35 : decode cX2_two 35 = .ok (.lload_n 1, 1) := dk_31 (dk_at dksX2_two_2 7 rfl rfl)
theorem dX2_two_36 : decode cX2_two 36 = .ok (.lload_n 3, 1) := dk_33 (dk_at dksX2_two_2 8 rfl rfl)
theorem dX2_two_37 : decode cX2_two 37 = .ok (.lsub, 1) := dk_101 (dk_at dksX2_two_2 9 rfl rfl)
theorem dX2_two_38 : decode cX2_two 38 = .ok (.invokestatic 263, 3) := dk_184 1 7 (dk_at dksX2_two_2 10 rfl rfl)
theorem dX2_two_41 : decode cX2_two 41 = .ok (.lreturn, 1) := dk_173 (dk_at dksX2_two_2 13 rfl rfl)
theorem dX2_two_42 : decode cX2_two 42 = .ok (.lload_n 1, 1) := dk_31 (dk_at dksX2_two_2 14 rfl rfl)
theorem dX2_two_43 : decode cX2_two 43 = .ok (.lload_n 3, 1) := dk_33 (dk_at dksX2_two_2 15 rfl rfl)
theorem dX2_two_44 : decode cX2_two 44 = .ok (.lmul, 1) := dk_105 (dk_at dksX2_two_2 16 rfl rfl)
theorem dX2_two_45 : decode cX2_two 45 = .ok (.invokestatic 263, 3) := dk_184 1 7 (dk_at dksX2_two_2 17 rfl rfl)
theorem dX2_two_48 : decode cX2_two 48 = .ok (.lreturn, 1) := dk_173 (dk_at dksX2_two_2 20 rfl rfl)
theorem dX2_two_49 : decode cX2_two 49 = .ok (.lload_n 3, 1) := dk_33 (dk_at dksX2_two_2 21 rfl rfl)
theorem dX2_two_50 : decode cX2_two 50 = .ok (.lconst 0, 1) := dk_9 (dk_at dksX2_two_2 22 rfl rfl)
theorem dX2_two_51 : decode cX2_two 51 = .ok (.lcmp, 1) := dk_148 (dk_at dksX2_two_2 23 rfl rfl)
theorem dX2_two_52 : decode cX2_two 52 = .ok (.ifCond .ne 7, 3) := dk_154 0 7 (dk_at dksX2_two_3 0 rfl rfl)
theorem dX2_two_55 : decode cX2_two 55 = .ok (.lconst 0, 1) := dk_9 (dk_at dksX2_two_3 3 rfl rfl)
theorem dX2_two_56 : decode cX2_two 56 = .ok (.goto 9, 3) := dk_167 0 9 (dk_at dksX2_two_3 4 rfl rfl)
theorem dX2_two_59 : decode cX2_two 59 = .ok (.lload_n 1, 1) := dk_31 (dk_at dksX2_two_3 7 rfl rfl)
theorem dX2_two_60 : decode cX2_two 60 = .ok (.lload_n 3, 1) := dk_33 (dk_at dksX2_two_3 8 rfl rfl)
theorem dX2_two_61 : decode cX2_two 61 = .ok (.ldiv, 1) := dk_109 (dk_at dksX2_two_3 9 rfl rfl)
theorem dX2_two_62 : decode cX2_two 62 = .ok (.invokestatic 263, 3) := dk_184 1 7 (dk_at dksX2_two_3 10 rfl rfl)
theorem dX2_two_65 : decode cX2_two 65 = .ok (.lreturn, 1) := dk_173 (dk_at dksX2_two_3 13 rfl rfl)
abbrev cX2_clip : ByteArray := prog_21_method_59_code
def yX2_clip : MethodName := ⟨RX2, "clip", "(J)J"⟩
def dkwX2_clip_1 : List UInt8 := [20, 1, 5, 167, 0, 4, 30, 173]
abbrev dktX2_clip_1 : List UInt8 := dkwX2_clip_1 ++ []
def dkwX2_clip_0 : List UInt8 := [30, 20, 1, 3, 148, 158, 0, 9, 20, 1, 3, 167, 0, 18, 30, 20, 1, 5, 148, 156, 0, 9]
abbrev dktX2_clip_0 : List UInt8 := dkwX2_clip_0 ++ dktX2_clip_1
theorem dksX2_clip_0 : cX2_clip.data.toList.drop 0 = dktX2_clip_0 := by decide +kernel
theorem dksX2_clip_1 : cX2_clip.data.toList.drop 22 = dktX2_clip_1 := dk_seg dksX2_clip_0 22 rfl rfl
theorem dX2_clip_0 : decode cX2_clip 0 = .ok (.lload_n 0, 1) := dk_30 (dk_at dksX2_clip_0 0 rfl rfl)
theorem dX2_clip_1 : decode cX2_clip 1 = .ok (.ldc2_w 259, 3) := dk_20 1 3 (dk_at dksX2_clip_0 1 rfl rfl)
theorem dX2_clip_4 : decode cX2_clip 4 = .ok (.lcmp, 1) := dk_148 (dk_at dksX2_clip_0 4 rfl rfl)
theorem dX2_clip_5 : decode cX2_clip 5 = .ok (.ifCond .le 9, 3) := dk_158 0 9 (dk_at dksX2_clip_0 5 rfl rfl)
theorem dX2_clip_8 : decode cX2_clip 8 = .ok (.ldc2_w 259, 3) := dk_20 1 3 (dk_at dksX2_clip_0 8 rfl rfl)
theorem dX2_clip_11 : decode cX2_clip 11 = .ok (.goto 18, 3) := dk_167 0 18 (dk_at dksX2_clip_0 11 rfl rfl)
theorem dX2_clip_14 : decode cX2_clip 14 = .ok (.lload_n 0, 1) := dk_30 (dk_at dksX2_clip_0 14 rfl rfl)
theorem dX2_clip_15 : decode cX2_clip 15 = .ok (.ldc2_w 261, 3) := dk_20 1 5 (dk_at dksX2_clip_0 15 rfl rfl)
theorem dX2_clip_18 : decode cX2_clip 18 = .ok (.lcmp, 1) := dk_148 (dk_at dksX2_clip_0 18 rfl rfl)
theorem dX2_clip_19 : decode cX2_clip 19 = .ok (.ifCond .ge 9, 3) := dk_156 0 9 (dk_at dksX2_clip_0 19 rfl rfl)
theorem dX2_clip_22 : decode cX2_clip 22 = .ok (.ldc2_w 261, 3) := dk_20 1 5 (dk_at dksX2_clip_1 0 rfl rfl)
theorem dX2_clip_25 : decode cX2_clip 25 = .ok (.goto 4, 3) := dk_167 0 4 (dk_at dksX2_clip_1 3 rfl rfl)
theorem dX2_clip_28 : decode cX2_clip 28 = .ok (.lload_n 0, 1) := dk_30 (dk_at dksX2_clip_1 6 rfl rfl)
theorem dX2_clip_29 : decode cX2_clip 29 = .ok (.lreturn, 1) := dk_173 (dk_at dksX2_clip_1 7 rfl rfl)
abbrev cX2_isAsked : ByteArray := prog_21_method_61_code
def yX2_isAsked : MethodName := ⟨RX2, "isAsked", "(IJJ)Z"⟩
def dkwX2_isAsked_4 : List UInt8 := [167, 0, 18, 3, 167, 0, 14, 31, 33, 148, 153, 0, 7, 4, 167, 0, 4, 3, 172]
abbrev dktX2_isAsked_4 : List UInt8 := dkwX2_isAsked_4 ++ []
def dkwX2_isAsked_3 : List UInt8 := [155, 0, 7, 4, 167, 0, 38, 3, 167, 0, 34, 26, 16, 14, 160, 0, 17, 31, 33, 148, 154, 0, 7, 4]
abbrev dktX2_isAsked_3 : List UInt8 := dkwX2_isAsked_3 ++ dktX2_isAsked_4
def dkwX2_isAsked_2 : List UInt8 := [33, 148, 158, 0, 7, 4, 167, 0, 58, 3, 167, 0, 54, 26, 16, 13, 160, 0, 17, 31, 33, 148]
abbrev dktX2_isAsked_2 : List UInt8 := dkwX2_isAsked_2 ++ dktX2_isAsked_3
def dkwX2_isAsked_1 : List UInt8 := [160, 0, 17, 31, 33, 148, 157, 0, 7, 4, 167, 0, 78, 3, 167, 0, 74, 26, 16, 12, 160, 0, 17, 31]
abbrev dktX2_isAsked_1 : List UInt8 := dkwX2_isAsked_1 ++ dktX2_isAsked_2
def dkwX2_isAsked_0 : List UInt8 := [26, 16, 10, 160, 0, 17, 31, 33, 148, 156, 0, 7, 4, 167, 0, 98, 3, 167, 0, 94, 26, 16, 11]
abbrev dktX2_isAsked_0 : List UInt8 := dkwX2_isAsked_0 ++ dktX2_isAsked_1
theorem dksX2_isAsked_0 : cX2_isAsked.data.toList.drop 0 = dktX2_isAsked_0 := by decide +kernel
theorem dksX2_isAsked_1 : cX2_isAsked.data.toList.drop 23 = dktX2_isAsked_1 := dk_seg dksX2_isAsked_0 23 rfl rfl
theorem dksX2_isAsked_2 : cX2_isAsked.data.toList.drop 47 = dktX2_isAsked_2 := dk_seg dksX2_isAsked_1 24 rfl rfl
theorem dksX2_isAsked_3 : cX2_isAsked.data.toList.drop 69 = dktX2_isAsked_3 := dk_seg dksX2_isAsked_2 22 rfl rfl
theorem dksX2_isAsked_4 : cX2_isAsked.data.toList.drop 93 = dktX2_isAsked_4 := dk_seg dksX2_isAsked_3 24 rfl rfl
theorem dX2_isAsked_0 : decode cX2_isAsked 0 = .ok (.iload_n 0, 1) := dk_26 (dk_at dksX2_isAsked_0 0 rfl rfl)
theorem dX2_isAsked_1 : decode cX2_isAsked 1 = .ok (.bipush 10, 2) := dk_16 10 (dk_at dksX2_isAsked_0 1 rfl rfl)
theorem dX2_isAsked_3 : decode cX2_isAsked 3 = .ok (.if_icmp .ne 17, 3) := dk_160 0 17 (dk_at dksX2_isAsked_0 3 rfl rfl)
theorem dX2_isAsked_6 : decode cX2_isAsked 6 = .ok (.lload_n 1, 1) := dk_31 (dk_at dksX2_isAsked_0 6 rfl rfl)
theorem dX2_isAsked_7 : decode cX2_isAsked 7 = .ok (.lload_n 3, 1) := dk_33 (dk_at dksX2_isAsked_0 7 rfl rfl)
theorem dX2_isAsked_8 : decode cX2_isAsked 8 = .ok (.lcmp, 1) := dk_148 (dk_at dksX2_isAsked_0 8 rfl rfl)
theorem dX2_isAsked_9 : decode cX2_isAsked 9 = .ok (.ifCond .ge 7, 3) := dk_156 0 7 (dk_at dksX2_isAsked_0 9 rfl rfl)
theorem dX2_isAsked_12 : decode cX2_isAsked 12 = .ok (.iconst 1, 1) := dk_4 (dk_at dksX2_isAsked_0 12 rfl rfl)
theorem dX2_isAsked_13 : decode cX2_isAsked 13 = .ok (.goto 98, 3) := dk_167 0 98 (dk_at dksX2_isAsked_0 13 rfl rfl)
theorem dX2_isAsked_16 : decode cX2_isAsked 16 = .ok (.iconst 0, 1) := dk_3 (dk_at dksX2_isAsked_0 16 rfl rfl)
theorem dX2_isAsked_17 : decode cX2_isAsked 17 = .ok (.goto 94, 3) := dk_167 0 94 (dk_at dksX2_isAsked_0 17 rfl rfl)
theorem dX2_isAsked_20 : decode cX2_isAsked 20 = .ok (.iload_n 0, 1) := dk_26 (dk_at dksX2_isAsked_0 20 rfl rfl)
theorem dX2_isAsked_21 : decode cX2_isAsked 21 = .ok (.bipush 11, 2) := dk_16 11 (dk_at dksX2_isAsked_0 21 rfl rfl)
theorem dX2_isAsked_23 : decode cX2_isAsked 23 = .ok (.if_icmp .ne 17, 3) := dk_160 0 17 (dk_at dksX2_isAsked_1 0 rfl rfl)
theorem dX2_isAsked_26 : decode cX2_isAsked 26 = .ok (.lload_n 1, 1) := dk_31 (dk_at dksX2_isAsked_1 3 rfl rfl)
theorem dX2_isAsked_27 : decode cX2_isAsked 27 = .ok (.lload_n 3, 1) := dk_33 (dk_at dksX2_isAsked_1 4 rfl rfl)
theorem dX2_isAsked_28 : decode cX2_isAsked 28 = .ok (.lcmp, 1) := dk_148 (dk_at dksX2_isAsked_1 5 rfl rfl)
theorem dX2_isAsked_29 : decode cX2_isAsked 29 = .ok (.ifCond .gt 7, 3) := dk_157 0 7 (dk_at dksX2_isAsked_1 6 rfl rfl)
theorem dX2_isAsked_32 : decode cX2_isAsked 32 = .ok (.iconst 1, 1) := dk_4 (dk_at dksX2_isAsked_1 9 rfl rfl)
theorem dX2_isAsked_33 : decode cX2_isAsked 33 = .ok (.goto 78, 3) := dk_167 0 78 (dk_at dksX2_isAsked_1 10 rfl rfl)
theorem dX2_isAsked_36 : decode cX2_isAsked 36 = .ok (.iconst 0, 1) := dk_3 (dk_at dksX2_isAsked_1 13 rfl rfl)
theorem dX2_isAsked_37 : decode cX2_isAsked 37 = .ok (.goto 74, 3) := dk_167 0 74 (dk_at dksX2_isAsked_1 14 rfl rfl)
theorem dX2_isAsked_40 : decode cX2_isAsked 40 = .ok (.iload_n 0, 1) := dk_26 (dk_at dksX2_isAsked_1 17 rfl rfl)
theorem dX2_isAsked_41 : decode cX2_isAsked 41 = .ok (.bipush 12, 2) := dk_16 12 (dk_at dksX2_isAsked_1 18 rfl rfl)
theorem dX2_isAsked_43 : decode cX2_isAsked 43 = .ok (.if_icmp .ne 17, 3) := dk_160 0 17 (dk_at dksX2_isAsked_1 20 rfl rfl)
theorem dX2_isAsked_46 : decode cX2_isAsked 46 = .ok (.lload_n 1, 1) := dk_31 (dk_at dksX2_isAsked_1 23 rfl rfl)
theorem dX2_isAsked_47 : decode cX2_isAsked 47 = .ok (.lload_n 3, 1) := dk_33 (dk_at dksX2_isAsked_2 0 rfl rfl)
theorem dX2_isAsked_48 : decode cX2_isAsked 48 = .ok (.lcmp, 1) := dk_148 (dk_at dksX2_isAsked_2 1 rfl rfl)
theorem dX2_isAsked_49 : decode cX2_isAsked 49 = .ok (.ifCond .le 7, 3) := dk_158 0 7 (dk_at dksX2_isAsked_2 2 rfl rfl)
theorem dX2_isAsked_52 : decode cX2_isAsked 52 = .ok (.iconst 1, 1) := dk_4 (dk_at dksX2_isAsked_2 5 rfl rfl)
theorem dX2_isAsked_53 : decode cX2_isAsked 53 = .ok (.goto 58, 3) := dk_167 0 58 (dk_at dksX2_isAsked_2 6 rfl rfl)
theorem dX2_isAsked_56 : decode cX2_isAsked 56 = .ok (.iconst 0, 1) := dk_3 (dk_at dksX2_isAsked_2 9 rfl rfl)
theorem dX2_isAsked_57 : decode cX2_isAsked 57 = .ok (.goto 54, 3) := dk_167 0 54 (dk_at dksX2_isAsked_2 10 rfl rfl)
theorem dX2_isAsked_60 : decode cX2_isAsked 60 = .ok (.iload_n 0, 1) := dk_26 (dk_at dksX2_isAsked_2 13 rfl rfl)
theorem dX2_isAsked_61 : decode cX2_isAsked 61 = .ok (.bipush 13, 2) := dk_16 13 (dk_at dksX2_isAsked_2 14 rfl rfl)
theorem dX2_isAsked_63 : decode cX2_isAsked 63 = .ok (.if_icmp .ne 17, 3) := dk_160 0 17 (dk_at dksX2_isAsked_2 16 rfl rfl)
theorem dX2_isAsked_66 : decode cX2_isAsked 66 = .ok (.lload_n 1, 1) := dk_31 (dk_at dksX2_isAsked_2 19 rfl rfl)
theorem dX2_isAsked_67 : decode cX2_isAsked 67 = .ok (.lload_n 3, 1) := dk_33 (dk_at dksX2_isAsked_2 20 rfl rfl)
theorem dX2_isAsked_68 : decode cX2_isAsked 68 = .ok (.lcmp, 1) := dk_148 (dk_at dksX2_isAsked_2 21 rfl rfl)
theorem dX2_isAsked_69 : decode cX2_isAsked 69 = .ok (.ifCond .lt 7, 3) := dk_155 0 7 (dk_at dksX2_isAsked_3 0 rfl rfl)
theorem dX2_isAsked_72 : decode cX2_isAsked 72 = .ok (.iconst 1, 1) := dk_4 (dk_at dksX2_isAsked_3 3 rfl rfl)
theorem dX2_isAsked_73 : decode cX2_isAsked 73 = .ok (.goto 38, 3) := dk_167 0 38 (dk_at dksX2_isAsked_3 4 rfl rfl)
theorem dX2_isAsked_76 : decode cX2_isAsked 76 = .ok (.iconst 0, 1) := dk_3 (dk_at dksX2_isAsked_3 7 rfl rfl)
theorem dX2_isAsked_77 : decode cX2_isAsked 77 = .ok (.goto 34, 3) := dk_167 0 34 (dk_at dksX2_isAsked_3 8 rfl rfl)
theorem dX2_isAsked_80 : decode cX2_isAsked 80 = .ok (.iload_n 0, 1) := dk_26 (dk_at dksX2_isAsked_3 11 rfl rfl)
theorem dX2_isAsked_81 : decode cX2_isAsked 81 = .ok (.bipush 14, 2) := dk_16 14 (dk_at dksX2_isAsked_3 12 rfl rfl)
theorem dX2_isAsked_83 : decode cX2_isAsked 83 = .ok (.if_icmp .ne 17, 3) := dk_160 0 17 (dk_at dksX2_isAsked_3 14 rfl rfl)
theorem dX2_isAsked_86 : decode cX2_isAsked 86 = .ok (.lload_n 1, 1) := dk_31 (dk_at dksX2_isAsked_3 17 rfl rfl)
theorem dX2_isAsked_87 : decode cX2_isAsked 87 = .ok (.lload_n 3, 1) := dk_33 (dk_at dksX2_isAsked_3 18 rfl rfl)
theorem dX2_isAsked_88 : decode cX2_isAsked 88 = .ok (.lcmp, 1) := dk_148 (dk_at dksX2_isAsked_3 19 rfl rfl)
theorem dX2_isAsked_89 : decode cX2_isAsked 89 = .ok (.ifCond .ne 7, 3) := dk_154 0 7 (dk_at dksX2_isAsked_3 20 rfl rfl)
theorem dX2_isAsked_92 : decode cX2_isAsked 92 = .ok (.iconst 1, 1) := dk_4 (dk_at dksX2_isAsked_3 23 rfl rfl)
theorem dX2_isAsked_93 : decode cX2_isAsked 93 = .ok (.goto 18, 3) := dk_167 0 18 (dk_at dksX2_isAsked_4 0 rfl rfl)
theorem dX2_isAsked_96 : decode cX2_isAsked 96 = .ok (.iconst 0, 1) := dk_3 (dk_at dksX2_isAsked_4 3 rfl rfl)
theorem dX2_isAsked_97 : decode cX2_isAsked 97 = .ok (.goto 14, 3) := dk_167 0 14 (dk_at dksX2_isAsked_4 4 rfl rfl)
theorem dX2_isAsked_100 : decode cX2_isAsked 100 = .ok (.lload_n 1, 1) := dk_31 (dk_at dksX2_isAsked_4 7 rfl rfl)
theorem dX2_isAsked_101 : decode cX2_isAsked 101 = .ok (.lload_n 3, 1) := dk_33 (dk_at dksX2_isAsked_4 8 rfl rfl)
theorem dX2_isAsked_102 : decode cX2_isAsked 102 = .ok (.lcmp, 1) := dk_148 (dk_at dksX2_isAsked_4 9 rfl rfl)
theorem dX2_isAsked_103 : decode cX2_isAsked 103 = .ok (.ifCond .eq 7, 3) := dk_153 0 7 (dk_at dksX2_isAsked_4 10 rfl rfl)
theorem dX2_isAsked_106 : decode cX2_isAsked 106 = .ok (.iconst 1, 1) := dk_4 (dk_at dksX2_isAsked_4 13 rfl rfl)
theorem dX2_isAsked_107 : decode cX2_isAsked 107 = .ok (.goto 4, 3) := dk_167 0 4 (dk_at dksX2_isAsked_4 14 rfl rfl)
theorem dX2_isAsked_110 : decode cX2_isAsked 110 = .ok (.iconst 0, 1) := dk_3 (dk_at dksX2_isAsked_4 17 rfl rfl)
theorem dX2_isAsked_111 : decode cX2_isAsked 111 = .ok (.ireturn, 1) := dk_172 (dk_at dksX2_isAsked_4 18 rfl rfl)
abbrev cX2_joined : ByteArray := prog_21_method_63_code
def yX2_joined : MethodName := ⟨RX2, "joined", "(IZZ)Z"⟩
def dkwX2_joined_2 : List UInt8 := [153, 0, 7, 4, 167, 0, 4, 3, 172]
abbrev dktX2_joined_2 : List UInt8 := dkwX2_joined_2 ++ []
def dkwX2_joined_1 : List UInt8 := [16, 23, 160, 0, 16, 27, 28, 159, 0, 7, 4, 167, 0, 20, 3, 167, 0, 16, 27, 154, 0, 7, 28]
abbrev dktX2_joined_1 : List UInt8 := dkwX2_joined_1 ++ dktX2_joined_2
def dkwX2_joined_0 : List UInt8 := [26, 16, 21, 160, 0, 19, 27, 153, 0, 11, 28, 153, 0, 7, 4, 167, 0, 39, 3, 167, 0, 35, 26]
abbrev dktX2_joined_0 : List UInt8 := dkwX2_joined_0 ++ dktX2_joined_1
theorem dksX2_joined_0 : cX2_joined.data.toList.drop 0 = dktX2_joined_0 := by decide +kernel
theorem dksX2_joined_1 : cX2_joined.data.toList.drop 23 = dktX2_joined_1 := dk_seg dksX2_joined_0 23 rfl rfl
theorem dksX2_joined_2 : cX2_joined.data.toList.drop 46 = dktX2_joined_2 := dk_seg dksX2_joined_1 23 rfl rfl
theorem dX2_joined_0 : decode cX2_joined 0 = .ok (.iload_n 0, 1) := dk_26 (dk_at dksX2_joined_0 0 rfl rfl)
theorem dX2_joined_1 : decode cX2_joined 1 = .ok (.bipush 21, 2) := dk_16 21 (dk_at dksX2_joined_0 1 rfl rfl)
theorem dX2_joined_3 : decode cX2_joined 3 = .ok (.if_icmp .ne 19, 3) := dk_160 0 19 (dk_at dksX2_joined_0 3 rfl rfl)
theorem dX2_joined_6 : decode cX2_joined 6 = .ok (.iload_n 1, 1) := dk_27 (dk_at dksX2_joined_0 6 rfl rfl)
theorem dX2_joined_7 : decode cX2_joined 7 = .ok (.ifCond .eq 11, 3) := dk_153 0 11 (dk_at dksX2_joined_0 7 rfl rfl)
theorem dX2_joined_10 : decode cX2_joined 10 = .ok (.iload_n 2, 1) := dk_28 (dk_at dksX2_joined_0 10 rfl rfl)
theorem dX2_joined_11 : decode cX2_joined 11 = .ok (.ifCond .eq 7, 3) := dk_153 0 7 (dk_at dksX2_joined_0 11 rfl rfl)
theorem dX2_joined_14 : decode cX2_joined 14 = .ok (.iconst 1, 1) := dk_4 (dk_at dksX2_joined_0 14 rfl rfl)
theorem dX2_joined_15 : decode cX2_joined 15 = .ok (.goto 39, 3) := dk_167 0 39 (dk_at dksX2_joined_0 15 rfl rfl)
theorem dX2_joined_18 : decode cX2_joined 18 = .ok (.iconst 0, 1) := dk_3 (dk_at dksX2_joined_0 18 rfl rfl)
theorem dX2_joined_19 : decode cX2_joined 19 = .ok (.goto 35, 3) := dk_167 0 35 (dk_at dksX2_joined_0 19 rfl rfl)
theorem dX2_joined_22 : decode cX2_joined 22 = .ok (.iload_n 0, 1) := dk_26 (dk_at dksX2_joined_0 22 rfl rfl)
theorem dX2_joined_23 : decode cX2_joined 23 = .ok (.bipush 23, 2) := dk_16 23 (dk_at dksX2_joined_1 0 rfl rfl)
theorem dX2_joined_25 : decode cX2_joined 25 = .ok (.if_icmp .ne 16, 3) := dk_160 0 16 (dk_at dksX2_joined_1 2 rfl rfl)
theorem dX2_joined_28 : decode cX2_joined 28 = .ok (.iload_n 1, 1) := dk_27 (dk_at dksX2_joined_1 5 rfl rfl)
theorem dX2_joined_29 : decode cX2_joined 29 = .ok (.iload_n 2, 1) := dk_28 (dk_at dksX2_joined_1 6 rfl rfl)
theorem dX2_joined_30 : decode cX2_joined 30 = .ok (.if_icmp .eq 7, 3) := dk_159 0 7 (dk_at dksX2_joined_1 7 rfl rfl)
theorem dX2_joined_33 : decode cX2_joined 33 = .ok (.iconst 1, 1) := dk_4 (dk_at dksX2_joined_1 10 rfl rfl)
theorem dX2_joined_34 : decode cX2_joined 34 = .ok (.goto 20, 3) := dk_167 0 20 (dk_at dksX2_joined_1 11 rfl rfl)
theorem dX2_joined_37 : decode cX2_joined 37 = .ok (.iconst 0, 1) := dk_3 (dk_at dksX2_joined_1 14 rfl rfl)
theorem dX2_joined_38 : decode cX2_joined 38 = .ok (.goto 16, 3) := dk_167 0 16 (dk_at dksX2_joined_1 15 rfl rfl)
theorem dX2_joined_41 : decode cX2_joined 41 = .ok (.iload_n 1, 1) := dk_27 (dk_at dksX2_joined_1 18 rfl rfl)
theorem dX2_joined_42 : decode cX2_joined 42 = .ok (.ifCond .ne 7, 3) := dk_154 0 7 (dk_at dksX2_joined_1 19 rfl rfl)
theorem dX2_joined_45 : decode cX2_joined 45 = .ok (.iload_n 2, 1) := dk_28 (dk_at dksX2_joined_1 22 rfl rfl)
theorem dX2_joined_46 : decode cX2_joined 46 = .ok (.ifCond .eq 7, 3) := dk_153 0 7 (dk_at dksX2_joined_2 0 rfl rfl)
theorem dX2_joined_49 : decode cX2_joined 49 = .ok (.iconst 1, 1) := dk_4 (dk_at dksX2_joined_2 3 rfl rfl)
theorem dX2_joined_50 : decode cX2_joined 50 = .ok (.goto 4, 3) := dk_167 0 4 (dk_at dksX2_joined_2 4 rfl rfl)
theorem dX2_joined_53 : decode cX2_joined 53 = .ok (.iconst 0, 1) := dk_3 (dk_at dksX2_joined_2 7 rfl rfl)
theorem dX2_joined_54 : decode cX2_joined 54 = .ok (.ireturn, 1) := dk_172 (dk_at dksX2_joined_2 8 rfl rfl)
abbrev cX2_cut : ByteArray := prog_21_method_4_code
def yX2_cut : MethodName := ⟨RX2, "cut", "(JII)I"⟩
def dkwX2_cut_1 : List UInt8 := [172]
abbrev dktX2_cut_1 : List UInt8 := dkwX2_cut_1 ++ []
def dkwX2_cut_0 : List UInt8 := [30, 28, 133, 148, 156, 0, 7, 28, 167, 0, 16, 30, 29, 133, 148, 158, 0, 7, 29, 167, 0, 5, 30, 136]
abbrev dktX2_cut_0 : List UInt8 := dkwX2_cut_0 ++ dktX2_cut_1
theorem dksX2_cut_0 : cX2_cut.data.toList.drop 0 = dktX2_cut_0 := by decide +kernel
theorem dksX2_cut_1 : cX2_cut.data.toList.drop 24 = dktX2_cut_1 := dk_seg dksX2_cut_0 24 rfl rfl
theorem dX2_cut_0 : decode cX2_cut 0 = .ok (.lload_n 0, 1) := dk_30 (dk_at dksX2_cut_0 0 rfl rfl)
theorem dX2_cut_1 : decode cX2_cut 1 = .ok (.iload_n 2, 1) := dk_28 (dk_at dksX2_cut_0 1 rfl rfl)
theorem dX2_cut_2 : decode cX2_cut 2 = .ok (.i2l, 1) := dk_133 (dk_at dksX2_cut_0 2 rfl rfl)
theorem dX2_cut_3 : decode cX2_cut 3 = .ok (.lcmp, 1) := dk_148 (dk_at dksX2_cut_0 3 rfl rfl)
theorem dX2_cut_4 : decode cX2_cut 4 = .ok (.ifCond .ge 7, 3) := dk_156 0 7 (dk_at dksX2_cut_0 4 rfl rfl)
theorem dX2_cut_7 : decode cX2_cut 7 = .ok (.iload_n 2, 1) := dk_28 (dk_at dksX2_cut_0 7 rfl rfl)
theorem dX2_cut_8 : decode cX2_cut 8 = .ok (.goto 16, 3) := dk_167 0 16 (dk_at dksX2_cut_0 8 rfl rfl)
theorem dX2_cut_11 : decode cX2_cut 11 = .ok (.lload_n 0, 1) := dk_30 (dk_at dksX2_cut_0 11 rfl rfl)
theorem dX2_cut_12 : decode cX2_cut 12 = .ok (.iload_n 3, 1) := dk_29 (dk_at dksX2_cut_0 12 rfl rfl)
theorem dX2_cut_13 : decode cX2_cut 13 = .ok (.i2l, 1) := dk_133 (dk_at dksX2_cut_0 13 rfl rfl)
theorem dX2_cut_14 : decode cX2_cut 14 = .ok (.lcmp, 1) := dk_148 (dk_at dksX2_cut_0 14 rfl rfl)
theorem dX2_cut_15 : decode cX2_cut 15 = .ok (.ifCond .le 7, 3) := dk_158 0 7 (dk_at dksX2_cut_0 15 rfl rfl)
theorem dX2_cut_18 : decode cX2_cut 18 = .ok (.iload_n 3, 1) := dk_29 (dk_at dksX2_cut_0 18 rfl rfl)
theorem dX2_cut_19 : decode cX2_cut 19 = .ok (.goto 5, 3) := dk_167 0 5 (dk_at dksX2_cut_0 19 rfl rfl)
theorem dX2_cut_22 : decode cX2_cut 22 = .ok (.lload_n 0, 1) := dk_30 (dk_at dksX2_cut_0 22 rfl rfl)
theorem dX2_cut_23 : decode cX2_cut 23 = .ok (.l2i, 1) := dk_136 (dk_at dksX2_cut_0 23 rfl rfl)
theorem dX2_cut_24 : decode cX2_cut 24 = .ok (.ireturn, 1) := dk_172 (dk_at dksX2_cut_1 0 rfl rfl)
abbrev cX2_takesOf : ByteArray := prog_21_method_68_code
def yX2_takesOf : MethodName := ⟨RX2, "takesOf", "(IIII)I"⟩
def dkwX2_takesOf_6 : List UInt8 := [182, 1, 45, 172]
abbrev dktX2_takesOf_6 : List UInt8 := dkwX2_takesOf_6 ++ []
def dkwX2_takesOf_5 : List UInt8 := [180, 0, 32, 8, 46, 167, 0, 9, 42, 180, 0, 32, 7, 46, 21, 5, 5, 108, 96, 17, 3, 231]
abbrev dktX2_takesOf_5 : List UInt8 := dkwX2_takesOf_5 ++ dktX2_takesOf_6
def dkwX2_takesOf_4 : List UInt8 := [42, 180, 0, 32, 16, 9, 21, 5, 79, 42, 27, 4, 21, 4, 28, 184, 0, 246, 153, 0, 12, 42]
abbrev dktX2_takesOf_4 : List UInt8 := dkwX2_takesOf_4 ++ dktX2_takesOf_5
def dkwX2_takesOf_3 : List UInt8 := [167, 255, 200, 42, 180, 0, 32, 16, 8, 21, 4, 28, 184, 0, 246, 153, 0, 7, 4, 167, 0, 4, 3, 79]
abbrev dktX2_takesOf_3 : List UInt8 := dkwX2_takesOf_3 ++ dktX2_takesOf_4
def dkwX2_takesOf_2 : List UInt8 := [182, 0, 74, 42, 28, 6, 182, 0, 74, 160, 0, 7, 4, 167, 0, 4, 3, 96, 54, 5, 132, 6, 1]
abbrev dktX2_takesOf_2 : List UInt8 := dkwX2_takesOf_2 ++ dktX2_takesOf_3
def dkwX2_takesOf_1 : List UInt8 := [21, 5, 21, 6, 28, 159, 0, 33, 21, 4, 21, 6, 184, 0, 246, 153, 0, 23, 42, 21, 6, 6]
abbrev dktX2_takesOf_1 : List UInt8 := dkwX2_takesOf_1 ++ dktX2_takesOf_2
def dkwX2_takesOf_0 : List UInt8 := [42, 28, 29, 182, 1, 39, 3, 54, 5, 3, 54, 6, 21, 6, 42, 180, 0, 7, 3, 46, 162, 0, 51]
abbrev dktX2_takesOf_0 : List UInt8 := dkwX2_takesOf_0 ++ dktX2_takesOf_1
theorem dksX2_takesOf_0 : cX2_takesOf.data.toList.drop 0 = dktX2_takesOf_0 := by decide +kernel
theorem dksX2_takesOf_1 : cX2_takesOf.data.toList.drop 23 = dktX2_takesOf_1 := dk_seg dksX2_takesOf_0 23 rfl rfl
theorem dksX2_takesOf_2 : cX2_takesOf.data.toList.drop 45 = dktX2_takesOf_2 := dk_seg dksX2_takesOf_1 22 rfl rfl
theorem dksX2_takesOf_3 : cX2_takesOf.data.toList.drop 68 = dktX2_takesOf_3 := dk_seg dksX2_takesOf_2 23 rfl rfl
theorem dksX2_takesOf_4 : cX2_takesOf.data.toList.drop 92 = dktX2_takesOf_4 := dk_seg dksX2_takesOf_3 24 rfl rfl
theorem dksX2_takesOf_5 : cX2_takesOf.data.toList.drop 114 = dktX2_takesOf_5 := dk_seg dksX2_takesOf_4 22 rfl rfl
theorem dksX2_takesOf_6 : cX2_takesOf.data.toList.drop 136 = dktX2_takesOf_6 := dk_seg dksX2_takesOf_5 22 rfl rfl
theorem dX2_takesOf_0 : decode cX2_takesOf 0 = .ok (.aload_n 0, 1) := dk_42 (dk_at dksX2_takesOf_0 0 rfl rfl)
theorem dX2_takesOf_1 : decode cX2_takesOf 1 = .ok (.iload_n 2, 1) := dk_28 (dk_at dksX2_takesOf_0 1 rfl rfl)
theorem dX2_takesOf_2 : decode cX2_takesOf 2 = .ok (.iload_n 3, 1) := dk_29 (dk_at dksX2_takesOf_0 2 rfl rfl)
theorem dX2_takesOf_3 : decode cX2_takesOf 3 = .ok (.invokevirtual 295, 3) := dk_182 1 39 (dk_at dksX2_takesOf_0 3 rfl rfl)
theorem dX2_takesOf_6 : decode cX2_takesOf 6 = .ok (.iconst 0, 1) := dk_3 (dk_at dksX2_takesOf_0 6 rfl rfl)
theorem dX2_takesOf_7 : decode cX2_takesOf 7 = .ok (.istore 5, 2) := dk_54 5 (dk_at dksX2_takesOf_0 7 rfl rfl)
theorem dX2_takesOf_9 : decode cX2_takesOf 9 = .ok (.iconst 0, 1) := dk_3 (dk_at dksX2_takesOf_0 9 rfl rfl)
theorem dX2_takesOf_10 : decode cX2_takesOf 10 = .ok (.istore 6, 2) := dk_54 6 (dk_at dksX2_takesOf_0 10 rfl rfl)
theorem dX2_takesOf_12 : decode cX2_takesOf 12 = .ok (.iload 6, 2) := dk_21 6 (dk_at dksX2_takesOf_0 12 rfl rfl)
theorem dX2_takesOf_14 : decode cX2_takesOf 14 = .ok (.aload_n 0, 1) := dk_42 (dk_at dksX2_takesOf_0 14 rfl rfl)
theorem dX2_takesOf_15 : decode cX2_takesOf 15 = .ok (.getfield 7, 3) := dk_180 0 7 (dk_at dksX2_takesOf_0 15 rfl rfl)
theorem dX2_takesOf_18 : decode cX2_takesOf 18 = .ok (.iconst 0, 1) := dk_3 (dk_at dksX2_takesOf_0 18 rfl rfl)
theorem dX2_takesOf_19 : decode cX2_takesOf 19 = .ok (.iaload, 1) := dk_46 (dk_at dksX2_takesOf_0 19 rfl rfl)
theorem dX2_takesOf_20 : decode cX2_takesOf 20 = .ok (.if_icmp .ge 51, 3) := dk_162 0 51 (dk_at dksX2_takesOf_0 20 rfl rfl)
theorem dX2_takesOf_23 : decode cX2_takesOf 23 = .ok (.iload 5, 2) := dk_21 5 (dk_at dksX2_takesOf_1 0 rfl rfl)
theorem dX2_takesOf_25 : decode cX2_takesOf 25 = .ok (.iload 6, 2) := dk_21 6 (dk_at dksX2_takesOf_1 2 rfl rfl)
theorem dX2_takesOf_27 : decode cX2_takesOf 27 = .ok (.iload_n 2, 1) := dk_28 (dk_at dksX2_takesOf_1 4 rfl rfl)
theorem dX2_takesOf_28 : decode cX2_takesOf 28 = .ok (.if_icmp .eq 33, 3) := dk_159 0 33 (dk_at dksX2_takesOf_1 5 rfl rfl)
theorem dX2_takesOf_31 : decode cX2_takesOf 31 = .ok (.iload 4, 2) := dk_21 4 (dk_at dksX2_takesOf_1 8 rfl rfl)
theorem dX2_takesOf_33 : decode cX2_takesOf 33 = .ok (.iload 6, 2) := dk_21 6 (dk_at dksX2_takesOf_1 10 rfl rfl)
theorem dX2_takesOf_35 : decode cX2_takesOf 35 = .ok (.invokestatic 246, 3) := dk_184 0 246 (dk_at dksX2_takesOf_1 12 rfl rfl)
theorem dX2_takesOf_38 : decode cX2_takesOf 38 = .ok (.ifCond .eq 23, 3) := dk_153 0 23 (dk_at dksX2_takesOf_1 15 rfl rfl)
theorem dX2_takesOf_41 : decode cX2_takesOf 41 = .ok (.aload_n 0, 1) := dk_42 (dk_at dksX2_takesOf_1 18 rfl rfl)
theorem dX2_takesOf_42 : decode cX2_takesOf 42 = .ok (.iload 6, 2) := dk_21 6 (dk_at dksX2_takesOf_1 19 rfl rfl)
theorem dX2_takesOf_44 : decode cX2_takesOf 44 = .ok (.iconst 3, 1) := dk_6 (dk_at dksX2_takesOf_1 21 rfl rfl)
theorem dX2_takesOf_45 : decode cX2_takesOf 45 = .ok (.invokevirtual 74, 3) := dk_182 0 74 (dk_at dksX2_takesOf_2 0 rfl rfl)
theorem dX2_takesOf_48 : decode cX2_takesOf 48 = .ok (.aload_n 0, 1) := dk_42 (dk_at dksX2_takesOf_2 3 rfl rfl)
theorem dX2_takesOf_49 : decode cX2_takesOf 49 = .ok (.iload_n 2, 1) := dk_28 (dk_at dksX2_takesOf_2 4 rfl rfl)
theorem dX2_takesOf_50 : decode cX2_takesOf 50 = .ok (.iconst 3, 1) := dk_6 (dk_at dksX2_takesOf_2 5 rfl rfl)
theorem dX2_takesOf_51 : decode cX2_takesOf 51 = .ok (.invokevirtual 74, 3) := dk_182 0 74 (dk_at dksX2_takesOf_2 6 rfl rfl)
theorem dX2_takesOf_54 : decode cX2_takesOf 54 = .ok (.if_icmp .ne 7, 3) := dk_160 0 7 (dk_at dksX2_takesOf_2 9 rfl rfl)
theorem dX2_takesOf_57 : decode cX2_takesOf 57 = .ok (.iconst 1, 1) := dk_4 (dk_at dksX2_takesOf_2 12 rfl rfl)
theorem dX2_takesOf_58 : decode cX2_takesOf 58 = .ok (.goto 4, 3) := dk_167 0 4 (dk_at dksX2_takesOf_2 13 rfl rfl)
theorem dX2_takesOf_61 : decode cX2_takesOf 61 = .ok (.iconst 0, 1) := dk_3 (dk_at dksX2_takesOf_2 16 rfl rfl)
theorem dX2_takesOf_62 : decode cX2_takesOf 62 = .ok (.iadd, 1) := dk_96 (dk_at dksX2_takesOf_2 17 rfl rfl)
theorem dX2_takesOf_63 : decode cX2_takesOf 63 = .ok (.istore 5, 2) := dk_54 5 (dk_at dksX2_takesOf_2 18 rfl rfl)
theorem dX2_takesOf_65 : decode cX2_takesOf 65 = .ok (.iinc 6 1, 3) := dk_132 6 1 (dk_at dksX2_takesOf_2 20 rfl rfl)
theorem dX2_takesOf_68 : decode cX2_takesOf 68 = .ok (.goto (-56), 3) := dk_167 255 200 (dk_at dksX2_takesOf_3 0 rfl rfl)
theorem dX2_takesOf_71 : decode cX2_takesOf 71 = .ok (.aload_n 0, 1) := dk_42 (dk_at dksX2_takesOf_3 3 rfl rfl)
theorem dX2_takesOf_72 : decode cX2_takesOf 72 = .ok (.getfield 32, 3) := dk_180 0 32 (dk_at dksX2_takesOf_3 4 rfl rfl)
theorem dX2_takesOf_75 : decode cX2_takesOf 75 = .ok (.bipush 8, 2) := dk_16 8 (dk_at dksX2_takesOf_3 7 rfl rfl)
theorem dX2_takesOf_77 : decode cX2_takesOf 77 = .ok (.iload 4, 2) := dk_21 4 (dk_at dksX2_takesOf_3 9 rfl rfl)
theorem dX2_takesOf_79 : decode cX2_takesOf 79 = .ok (.iload_n 2, 1) := dk_28 (dk_at dksX2_takesOf_3 11 rfl rfl)
theorem dX2_takesOf_80 : decode cX2_takesOf 80 = .ok (.invokestatic 246, 3) := dk_184 0 246 (dk_at dksX2_takesOf_3 12 rfl rfl)
theorem dX2_takesOf_83 : decode cX2_takesOf 83 = .ok (.ifCond .eq 7, 3) := dk_153 0 7 (dk_at dksX2_takesOf_3 15 rfl rfl)
theorem dX2_takesOf_86 : decode cX2_takesOf 86 = .ok (.iconst 1, 1) := dk_4 (dk_at dksX2_takesOf_3 18 rfl rfl)
theorem dX2_takesOf_87 : decode cX2_takesOf 87 = .ok (.goto 4, 3) := dk_167 0 4 (dk_at dksX2_takesOf_3 19 rfl rfl)
theorem dX2_takesOf_90 : decode cX2_takesOf 90 = .ok (.iconst 0, 1) := dk_3 (dk_at dksX2_takesOf_3 22 rfl rfl)
theorem dX2_takesOf_91 : decode cX2_takesOf 91 = .ok (.iastore, 1) := dk_79 (dk_at dksX2_takesOf_3 23 rfl rfl)
theorem dX2_takesOf_92 : decode cX2_takesOf 92 = .ok (.aload_n 0, 1) := dk_42 (dk_at dksX2_takesOf_4 0 rfl rfl)
theorem dX2_takesOf_93 : decode cX2_takesOf 93 = .ok (.getfield 32, 3) := dk_180 0 32 (dk_at dksX2_takesOf_4 1 rfl rfl)
theorem dX2_takesOf_96 : decode cX2_takesOf 96 = .ok (.bipush 9, 2) := dk_16 9 (dk_at dksX2_takesOf_4 4 rfl rfl)
theorem dX2_takesOf_98 : decode cX2_takesOf 98 = .ok (.iload 5, 2) := dk_21 5 (dk_at dksX2_takesOf_4 6 rfl rfl)
theorem dX2_takesOf_100 : decode cX2_takesOf 100 = .ok (.iastore, 1) := dk_79 (dk_at dksX2_takesOf_4 8 rfl rfl)
theorem dX2_takesOf_101 : decode cX2_takesOf 101 = .ok (.aload_n 0, 1) := dk_42 (dk_at dksX2_takesOf_4 9 rfl rfl)
theorem dX2_takesOf_102 : decode cX2_takesOf 102 = .ok (.iload_n 1, 1) := dk_27 (dk_at dksX2_takesOf_4 10 rfl rfl)
theorem dX2_takesOf_103 : decode cX2_takesOf 103 = .ok (.iconst 1, 1) := dk_4 (dk_at dksX2_takesOf_4 11 rfl rfl)
theorem dX2_takesOf_104 : decode cX2_takesOf 104 = .ok (.iload 4, 2) := dk_21 4 (dk_at dksX2_takesOf_4 12 rfl rfl)
theorem dX2_takesOf_106 : decode cX2_takesOf 106 = .ok (.iload_n 2, 1) := dk_28 (dk_at dksX2_takesOf_4 14 rfl rfl)
theorem dX2_takesOf_107 : decode cX2_takesOf 107 = .ok (.invokestatic 246, 3) := dk_184 0 246 (dk_at dksX2_takesOf_4 15 rfl rfl)
theorem dX2_takesOf_110 : decode cX2_takesOf 110 = .ok (.ifCond .eq 12, 3) := dk_153 0 12 (dk_at dksX2_takesOf_4 18 rfl rfl)
theorem dX2_takesOf_113 : decode cX2_takesOf 113 = .ok (.aload_n 0, 1) := dk_42 (dk_at dksX2_takesOf_4 21 rfl rfl)
theorem dX2_takesOf_114 : decode cX2_takesOf 114 = .ok (.getfield 32, 3) := dk_180 0 32 (dk_at dksX2_takesOf_5 0 rfl rfl)
theorem dX2_takesOf_117 : decode cX2_takesOf 117 = .ok (.iconst 5, 1) := dk_8 (dk_at dksX2_takesOf_5 3 rfl rfl)
theorem dX2_takesOf_118 : decode cX2_takesOf 118 = .ok (.iaload, 1) := dk_46 (dk_at dksX2_takesOf_5 4 rfl rfl)
theorem dX2_takesOf_119 : decode cX2_takesOf 119 = .ok (.goto 9, 3) := dk_167 0 9 (dk_at dksX2_takesOf_5 5 rfl rfl)
theorem dX2_takesOf_122 : decode cX2_takesOf 122 = .ok (.aload_n 0, 1) := dk_42 (dk_at dksX2_takesOf_5 8 rfl rfl)
theorem dX2_takesOf_123 : decode cX2_takesOf 123 = .ok (.getfield 32, 3) := dk_180 0 32 (dk_at dksX2_takesOf_5 9 rfl rfl)
theorem dX2_takesOf_126 : decode cX2_takesOf 126 = .ok (.iconst 4, 1) := dk_7 (dk_at dksX2_takesOf_5 12 rfl rfl)
theorem dX2_takesOf_127 : decode cX2_takesOf 127 = .ok (.iaload, 1) := dk_46 (dk_at dksX2_takesOf_5 13 rfl rfl)
theorem dX2_takesOf_128 : decode cX2_takesOf 128 = .ok (.iload 5, 2) := dk_21 5 (dk_at dksX2_takesOf_5 14 rfl rfl)
theorem dX2_takesOf_130 : decode cX2_takesOf 130 = .ok (.iconst 2, 1) := dk_5 (dk_at dksX2_takesOf_5 16 rfl rfl)
theorem dX2_takesOf_131 : decode cX2_takesOf 131 = .ok (.idiv, 1) := dk_108 (dk_at dksX2_takesOf_5 17 rfl rfl)
theorem dX2_takesOf_132 : decode cX2_takesOf 132 = .ok (.iadd, 1) := dk_96 (dk_at dksX2_takesOf_5 18 rfl rfl)
theorem dX2_takesOf_133 : decode cX2_takesOf 133 = .ok (.sipush 999, 3) := dk_17 3 231 (dk_at dksX2_takesOf_5 19 rfl rfl)
theorem dX2_takesOf_136 : decode cX2_takesOf 136 = .ok (.invokevirtual 301, 3) := dk_182 1 45 (dk_at dksX2_takesOf_6 0 rfl rfl)
theorem dX2_takesOf_139 : decode cX2_takesOf 139 = .ok (.ireturn, 1) := dk_172 (dk_at dksX2_takesOf_6 3 rfl rfl)
abbrev cX2_write : ByteArray := prog_21_method_72_code
def yX2_write : MethodName := ⟨RX2, "write", "(I)V"⟩
def dkwX2_write_6 : List UInt8 := [46, 4, 96, 79, 177]
abbrev dktX2_write_6 : List UInt8 := dkwX2_write_6 ++ []
def dkwX2_write_5 : List UInt8 := [96, 4, 96, 42, 180, 0, 7, 16, 7, 46, 17, 1, 0, 104, 27, 96, 79, 42, 180, 0, 7, 16, 10, 92]
abbrev dktX2_write_5 : List UInt8 := dkwX2_write_5 ++ dktX2_write_6
def dkwX2_write_4 : List UInt8 := [180, 0, 7, 16, 8, 46, 96, 79, 42, 180, 0, 7, 17, 10, 247, 5, 42, 180, 0, 7, 16, 10, 46, 104]
abbrev dktX2_write_4 : List UInt8 := dkwX2_write_4 ++ dktX2_write_5
def dkwX2_write_3 : List UInt8 := [17, 10, 247, 5, 42, 180, 0, 7, 16, 10, 46, 104, 96, 42, 180, 0, 7, 16, 6, 46, 16, 16, 104, 42]
abbrev dktX2_write_3 : List UInt8 := dkwX2_write_3 ++ dktX2_write_4
def dkwX2_write_2 : List UInt8 := [96, 46, 79, 132, 2, 1, 167, 255, 225, 42, 180, 0, 7, 16, 10, 92, 46, 4, 100, 79, 42, 180, 0, 7]
abbrev dktX2_write_2 : List UInt8 := dkwX2_write_2 ++ dktX2_write_3
def dkwX2_write_1 : List UInt8 := [16, 60, 162, 0, 31, 42, 180, 0, 7, 17, 10, 247, 28, 96, 5, 100, 42, 180, 0, 7, 17, 10, 247, 28]
abbrev dktX2_write_1 : List UInt8 := dkwX2_write_1 ++ dktX2_write_2
def dkwX2_write_0 : List UInt8 := [42, 180, 0, 43, 154, 0, 4, 177, 42, 180, 0, 7, 16, 10, 46, 16, 30, 160, 0, 50, 5, 61, 28]
abbrev dktX2_write_0 : List UInt8 := dkwX2_write_0 ++ dktX2_write_1
theorem dksX2_write_0 : cX2_write.data.toList.drop 0 = dktX2_write_0 := by decide +kernel
theorem dksX2_write_1 : cX2_write.data.toList.drop 23 = dktX2_write_1 := dk_seg dksX2_write_0 23 rfl rfl
theorem dksX2_write_2 : cX2_write.data.toList.drop 47 = dktX2_write_2 := dk_seg dksX2_write_1 24 rfl rfl
theorem dksX2_write_3 : cX2_write.data.toList.drop 71 = dktX2_write_3 := dk_seg dksX2_write_2 24 rfl rfl
theorem dksX2_write_4 : cX2_write.data.toList.drop 95 = dktX2_write_4 := dk_seg dksX2_write_3 24 rfl rfl
theorem dksX2_write_5 : cX2_write.data.toList.drop 119 = dktX2_write_5 := dk_seg dksX2_write_4 24 rfl rfl
theorem dksX2_write_6 : cX2_write.data.toList.drop 143 = dktX2_write_6 := dk_seg dksX2_write_5 24 rfl rfl
theorem dX2_write_0 : decode cX2_write 0 = .ok (.aload_n 0, 1) := dk_42 (dk_at dksX2_write_0 0 rfl rfl)
theorem dX2_write_1 : decode cX2_write 1 = .ok (.getfield 43, 3) := dk_180 0 43 (dk_at dksX2_write_0 1 rfl rfl)
theorem dX2_write_4 : decode cX2_write 4 = .ok (.ifCond .ne 4, 3) := dk_154 0 4 (dk_at dksX2_write_0 4 rfl rfl)
theorem dX2_write_7 : decode cX2_write 7 = .ok (.return_, 1) := dk_177 (dk_at dksX2_write_0 7 rfl rfl)
theorem dX2_write_8 : decode cX2_write 8 = .ok (.aload_n 0, 1) := dk_42 (dk_at dksX2_write_0 8 rfl rfl)
theorem dX2_write_9 : decode cX2_write 9 = .ok (.getfield 7, 3) := dk_180 0 7 (dk_at dksX2_write_0 9 rfl rfl)
theorem dX2_write_12 : decode cX2_write 12 = .ok (.bipush 10, 2) := dk_16 10 (dk_at dksX2_write_0 12 rfl rfl)
theorem dX2_write_14 : decode cX2_write 14 = .ok (.iaload, 1) := dk_46 (dk_at dksX2_write_0 14 rfl rfl)
theorem dX2_write_15 : decode cX2_write 15 = .ok (.bipush 30, 2) := dk_16 30 (dk_at dksX2_write_0 15 rfl rfl)
theorem dX2_write_17 : decode cX2_write 17 = .ok (.if_icmp .ne 50, 3) := dk_160 0 50 (dk_at dksX2_write_0 17 rfl rfl)
theorem dX2_write_20 : decode cX2_write 20 = .ok (.iconst 2, 1) := dk_5 (dk_at dksX2_write_0 20 rfl rfl)
theorem dX2_write_21 : decode cX2_write 21 = .ok (.istore_n 2, 1) := dk_61 (dk_at dksX2_write_0 21 rfl rfl)
theorem dX2_write_22 : decode cX2_write 22 = .ok (.iload_n 2, 1) := dk_28 (dk_at dksX2_write_0 22 rfl rfl)
theorem dX2_write_23 : decode cX2_write 23 = .ok (.bipush 60, 2) := dk_16 60 (dk_at dksX2_write_1 0 rfl rfl)
theorem dX2_write_25 : decode cX2_write 25 = .ok (.if_icmp .ge 31, 3) := dk_162 0 31 (dk_at dksX2_write_1 2 rfl rfl)
theorem dX2_write_28 : decode cX2_write 28 = .ok (.aload_n 0, 1) := dk_42 (dk_at dksX2_write_1 5 rfl rfl)
theorem dX2_write_29 : decode cX2_write 29 = .ok (.getfield 7, 3) := dk_180 0 7 (dk_at dksX2_write_1 6 rfl rfl)
theorem dX2_write_32 : decode cX2_write 32 = .ok (.sipush 2807, 3) := dk_17 10 247 (dk_at dksX2_write_1 9 rfl rfl)
theorem dX2_write_35 : decode cX2_write 35 = .ok (.iload_n 2, 1) := dk_28 (dk_at dksX2_write_1 12 rfl rfl)
theorem dX2_write_36 : decode cX2_write 36 = .ok (.iadd, 1) := dk_96 (dk_at dksX2_write_1 13 rfl rfl)
theorem dX2_write_37 : decode cX2_write 37 = .ok (.iconst 2, 1) := dk_5 (dk_at dksX2_write_1 14 rfl rfl)
theorem dX2_write_38 : decode cX2_write 38 = .ok (.isub, 1) := dk_100 (dk_at dksX2_write_1 15 rfl rfl)
theorem dX2_write_39 : decode cX2_write 39 = .ok (.aload_n 0, 1) := dk_42 (dk_at dksX2_write_1 16 rfl rfl)
theorem dX2_write_40 : decode cX2_write 40 = .ok (.getfield 7, 3) := dk_180 0 7 (dk_at dksX2_write_1 17 rfl rfl)
theorem dX2_write_43 : decode cX2_write 43 = .ok (.sipush 2807, 3) := dk_17 10 247 (dk_at dksX2_write_1 20 rfl rfl)
theorem dX2_write_46 : decode cX2_write 46 = .ok (.iload_n 2, 1) := dk_28 (dk_at dksX2_write_1 23 rfl rfl)
theorem dX2_write_47 : decode cX2_write 47 = .ok (.iadd, 1) := dk_96 (dk_at dksX2_write_2 0 rfl rfl)
theorem dX2_write_48 : decode cX2_write 48 = .ok (.iaload, 1) := dk_46 (dk_at dksX2_write_2 1 rfl rfl)
theorem dX2_write_49 : decode cX2_write 49 = .ok (.iastore, 1) := dk_79 (dk_at dksX2_write_2 2 rfl rfl)
theorem dX2_write_50 : decode cX2_write 50 = .ok (.iinc 2 1, 3) := dk_132 2 1 (dk_at dksX2_write_2 3 rfl rfl)
theorem dX2_write_53 : decode cX2_write 53 = .ok (.goto (-31), 3) := dk_167 255 225 (dk_at dksX2_write_2 6 rfl rfl)
theorem dX2_write_56 : decode cX2_write 56 = .ok (.aload_n 0, 1) := dk_42 (dk_at dksX2_write_2 9 rfl rfl)
theorem dX2_write_57 : decode cX2_write 57 = .ok (.getfield 7, 3) := dk_180 0 7 (dk_at dksX2_write_2 10 rfl rfl)
theorem dX2_write_60 : decode cX2_write 60 = .ok (.bipush 10, 2) := dk_16 10 (dk_at dksX2_write_2 13 rfl rfl)
theorem dX2_write_62 : decode cX2_write 62 = .ok (.dup2, 1) := dk_92 (dk_at dksX2_write_2 15 rfl rfl)
theorem dX2_write_63 : decode cX2_write 63 = .ok (.iaload, 1) := dk_46 (dk_at dksX2_write_2 16 rfl rfl)
theorem dX2_write_64 : decode cX2_write 64 = .ok (.iconst 1, 1) := dk_4 (dk_at dksX2_write_2 17 rfl rfl)
theorem dX2_write_65 : decode cX2_write 65 = .ok (.isub, 1) := dk_100 (dk_at dksX2_write_2 18 rfl rfl)
theorem dX2_write_66 : decode cX2_write 66 = .ok (.iastore, 1) := dk_79 (dk_at dksX2_write_2 19 rfl rfl)
theorem dX2_write_67 : decode cX2_write 67 = .ok (.aload_n 0, 1) := dk_42 (dk_at dksX2_write_2 20 rfl rfl)
theorem dX2_write_68 : decode cX2_write 68 = .ok (.getfield 7, 3) := dk_180 0 7 (dk_at dksX2_write_2 21 rfl rfl)
theorem dX2_write_71 : decode cX2_write 71 = .ok (.sipush 2807, 3) := dk_17 10 247 (dk_at dksX2_write_3 0 rfl rfl)
theorem dX2_write_74 : decode cX2_write 74 = .ok (.iconst 2, 1) := dk_5 (dk_at dksX2_write_3 3 rfl rfl)
theorem dX2_write_75 : decode cX2_write 75 = .ok (.aload_n 0, 1) := dk_42 (dk_at dksX2_write_3 4 rfl rfl)
theorem dX2_write_76 : decode cX2_write 76 = .ok (.getfield 7, 3) := dk_180 0 7 (dk_at dksX2_write_3 5 rfl rfl)
theorem dX2_write_79 : decode cX2_write 79 = .ok (.bipush 10, 2) := dk_16 10 (dk_at dksX2_write_3 8 rfl rfl)
theorem dX2_write_81 : decode cX2_write 81 = .ok (.iaload, 1) := dk_46 (dk_at dksX2_write_3 10 rfl rfl)
theorem dX2_write_82 : decode cX2_write 82 = .ok (.imul, 1) := dk_104 (dk_at dksX2_write_3 11 rfl rfl)
theorem dX2_write_83 : decode cX2_write 83 = .ok (.iadd, 1) := dk_96 (dk_at dksX2_write_3 12 rfl rfl)
theorem dX2_write_84 : decode cX2_write 84 = .ok (.aload_n 0, 1) := dk_42 (dk_at dksX2_write_3 13 rfl rfl)
theorem dX2_write_85 : decode cX2_write 85 = .ok (.getfield 7, 3) := dk_180 0 7 (dk_at dksX2_write_3 14 rfl rfl)
theorem dX2_write_88 : decode cX2_write 88 = .ok (.bipush 6, 2) := dk_16 6 (dk_at dksX2_write_3 17 rfl rfl)
theorem dX2_write_90 : decode cX2_write 90 = .ok (.iaload, 1) := dk_46 (dk_at dksX2_write_3 19 rfl rfl)
theorem dX2_write_91 : decode cX2_write 91 = .ok (.bipush 16, 2) := dk_16 16 (dk_at dksX2_write_3 20 rfl rfl)
theorem dX2_write_93 : decode cX2_write 93 = .ok (.imul, 1) := dk_104 (dk_at dksX2_write_3 22 rfl rfl)
theorem dX2_write_94 : decode cX2_write 94 = .ok (.aload_n 0, 1) := dk_42 (dk_at dksX2_write_3 23 rfl rfl)
theorem dX2_write_95 : decode cX2_write 95 = .ok (.getfield 7, 3) := dk_180 0 7 (dk_at dksX2_write_4 0 rfl rfl)
theorem dX2_write_98 : decode cX2_write 98 = .ok (.bipush 8, 2) := dk_16 8 (dk_at dksX2_write_4 3 rfl rfl)
theorem dX2_write_100 : decode cX2_write 100 = .ok (.iaload, 1) := dk_46 (dk_at dksX2_write_4 5 rfl rfl)
theorem dX2_write_101 : decode cX2_write 101 = .ok (.iadd, 1) := dk_96 (dk_at dksX2_write_4 6 rfl rfl)
theorem dX2_write_102 : decode cX2_write 102 = .ok (.iastore, 1) := dk_79 (dk_at dksX2_write_4 7 rfl rfl)
theorem dX2_write_103 : decode cX2_write 103 = .ok (.aload_n 0, 1) := dk_42 (dk_at dksX2_write_4 8 rfl rfl)
theorem dX2_write_104 : decode cX2_write 104 = .ok (.getfield 7, 3) := dk_180 0 7 (dk_at dksX2_write_4 9 rfl rfl)
theorem dX2_write_107 : decode cX2_write 107 = .ok (.sipush 2807, 3) := dk_17 10 247 (dk_at dksX2_write_4 12 rfl rfl)
theorem dX2_write_110 : decode cX2_write 110 = .ok (.iconst 2, 1) := dk_5 (dk_at dksX2_write_4 15 rfl rfl)
theorem dX2_write_111 : decode cX2_write 111 = .ok (.aload_n 0, 1) := dk_42 (dk_at dksX2_write_4 16 rfl rfl)
theorem dX2_write_112 : decode cX2_write 112 = .ok (.getfield 7, 3) := dk_180 0 7 (dk_at dksX2_write_4 17 rfl rfl)
theorem dX2_write_115 : decode cX2_write 115 = .ok (.bipush 10, 2) := dk_16 10 (dk_at dksX2_write_4 20 rfl rfl)
theorem dX2_write_117 : decode cX2_write 117 = .ok (.iaload, 1) := dk_46 (dk_at dksX2_write_4 22 rfl rfl)
theorem dX2_write_118 : decode cX2_write 118 = .ok (.imul, 1) := dk_104 (dk_at dksX2_write_4 23 rfl rfl)
theorem dX2_write_119 : decode cX2_write 119 = .ok (.iadd, 1) := dk_96 (dk_at dksX2_write_5 0 rfl rfl)
theorem dX2_write_120 : decode cX2_write 120 = .ok (.iconst 1, 1) := dk_4 (dk_at dksX2_write_5 1 rfl rfl)
theorem dX2_write_121 : decode cX2_write 121 = .ok (.iadd, 1) := dk_96 (dk_at dksX2_write_5 2 rfl rfl)
theorem dX2_write_122 : decode cX2_write 122 = .ok (.aload_n 0, 1) := dk_42 (dk_at dksX2_write_5 3 rfl rfl)
theorem dX2_write_123 : decode cX2_write 123 = .ok (.getfield 7, 3) := dk_180 0 7 (dk_at dksX2_write_5 4 rfl rfl)
theorem dX2_write_126 : decode cX2_write 126 = .ok (.bipush 7, 2) := dk_16 7 (dk_at dksX2_write_5 7 rfl rfl)
theorem dX2_write_128 : decode cX2_write 128 = .ok (.iaload, 1) := dk_46 (dk_at dksX2_write_5 9 rfl rfl)
theorem dX2_write_129 : decode cX2_write 129 = .ok (.sipush 256, 3) := dk_17 1 0 (dk_at dksX2_write_5 10 rfl rfl)
theorem dX2_write_132 : decode cX2_write 132 = .ok (.imul, 1) := dk_104 (dk_at dksX2_write_5 13 rfl rfl)
theorem dX2_write_133 : decode cX2_write 133 = .ok (.iload_n 1, 1) := dk_27 (dk_at dksX2_write_5 14 rfl rfl)
theorem dX2_write_134 : decode cX2_write 134 = .ok (.iadd, 1) := dk_96 (dk_at dksX2_write_5 15 rfl rfl)
theorem dX2_write_135 : decode cX2_write 135 = .ok (.iastore, 1) := dk_79 (dk_at dksX2_write_5 16 rfl rfl)
theorem dX2_write_136 : decode cX2_write 136 = .ok (.aload_n 0, 1) := dk_42 (dk_at dksX2_write_5 17 rfl rfl)
theorem dX2_write_137 : decode cX2_write 137 = .ok (.getfield 7, 3) := dk_180 0 7 (dk_at dksX2_write_5 18 rfl rfl)
theorem dX2_write_140 : decode cX2_write 140 = .ok (.bipush 10, 2) := dk_16 10 (dk_at dksX2_write_5 21 rfl rfl)
theorem dX2_write_142 : decode cX2_write 142 = .ok (.dup2, 1) := dk_92 (dk_at dksX2_write_5 23 rfl rfl)
theorem dX2_write_143 : decode cX2_write 143 = .ok (.iaload, 1) := dk_46 (dk_at dksX2_write_6 0 rfl rfl)
theorem dX2_write_144 : decode cX2_write 144 = .ok (.iconst 1, 1) := dk_4 (dk_at dksX2_write_6 1 rfl rfl)
theorem dX2_write_145 : decode cX2_write 145 = .ok (.iadd, 1) := dk_96 (dk_at dksX2_write_6 2 rfl rfl)
theorem dX2_write_146 : decode cX2_write 146 = .ok (.iastore, 1) := dk_79 (dk_at dksX2_write_6 3 rfl rfl)
theorem dX2_write_147 : decode cX2_write 147 = .ok (.return_, 1) := dk_177 (dk_at dksX2_write_6 4 rfl rfl)
abbrev cX2_played : ByteArray := prog_21_method_85_code
def yX2_played : MethodName := ⟨RX2, "played", "(I)I"⟩
def dkwX2_played_2 : List UInt8 := [182, 1, 106, 154, 0, 5, 28, 172, 132, 2, 1, 167, 255, 219, 2, 172]
abbrev dktX2_played_2 : List UInt8 := dkwX2_played_2 ++ []
def dkwX2_played_1 : List UInt8 := [180, 0, 16, 17, 2, 217, 27, 104, 46, 162, 0, 29, 42, 17, 2, 217, 27, 104, 4, 96, 8, 28, 104, 96]
abbrev dktX2_played_1 : List UInt8 := dkwX2_played_1 ++ dktX2_played_2
def dkwX2_played_0 : List UInt8 := [27, 3, 42, 180, 0, 7, 4, 46, 4, 100, 184, 0, 66, 154, 0, 6, 16, 254, 172, 3, 61, 28, 42]
abbrev dktX2_played_0 : List UInt8 := dkwX2_played_0 ++ dktX2_played_1
theorem dksX2_played_0 : cX2_played.data.toList.drop 0 = dktX2_played_0 := by decide +kernel
theorem dksX2_played_1 : cX2_played.data.toList.drop 23 = dktX2_played_1 := dk_seg dksX2_played_0 23 rfl rfl
theorem dksX2_played_2 : cX2_played.data.toList.drop 47 = dktX2_played_2 := dk_seg dksX2_played_1 24 rfl rfl
theorem dX2_played_0 : decode cX2_played 0 = .ok (.iload_n 1, 1) := dk_27 (dk_at dksX2_played_0 0 rfl rfl)
theorem dX2_played_1 : decode cX2_played 1 = .ok (.iconst 0, 1) := dk_3 (dk_at dksX2_played_0 1 rfl rfl)
theorem dX2_played_2 : decode cX2_played 2 = .ok (.aload_n 0, 1) := dk_42 (dk_at dksX2_played_0 2 rfl rfl)
theorem dX2_played_3 : decode cX2_played 3 = .ok (.getfield 7, 3) := dk_180 0 7 (dk_at dksX2_played_0 3 rfl rfl)
theorem dX2_played_6 : decode cX2_played 6 = .ok (.iconst 1, 1) := dk_4 (dk_at dksX2_played_0 6 rfl rfl)
theorem dX2_played_7 : decode cX2_played 7 = .ok (.iaload, 1) := dk_46 (dk_at dksX2_played_0 7 rfl rfl)
theorem dX2_played_8 : decode cX2_played 8 = .ok (.iconst 1, 1) := dk_4 (dk_at dksX2_played_0 8 rfl rfl)
theorem dX2_played_9 : decode cX2_played 9 = .ok (.isub, 1) := dk_100 (dk_at dksX2_played_0 9 rfl rfl)
theorem dX2_played_10 : decode cX2_played 10 = .ok (.invokestatic 66, 3) := dk_184 0 66 (dk_at dksX2_played_0 10 rfl rfl)
theorem dX2_played_13 : decode cX2_played 13 = .ok (.ifCond .ne 6, 3) := dk_154 0 6 (dk_at dksX2_played_0 13 rfl rfl)
theorem dX2_played_16 : decode cX2_played 16 = .ok (.bipush (-2), 2) := dk_16 254 (dk_at dksX2_played_0 16 rfl rfl)
theorem dX2_played_18 : decode cX2_played 18 = .ok (.ireturn, 1) := dk_172 (dk_at dksX2_played_0 18 rfl rfl)
theorem dX2_played_19 : decode cX2_played 19 = .ok (.iconst 0, 1) := dk_3 (dk_at dksX2_played_0 19 rfl rfl)
theorem dX2_played_20 : decode cX2_played 20 = .ok (.istore_n 2, 1) := dk_61 (dk_at dksX2_played_0 20 rfl rfl)
theorem dX2_played_21 : decode cX2_played 21 = .ok (.iload_n 2, 1) := dk_28 (dk_at dksX2_played_0 21 rfl rfl)
theorem dX2_played_22 : decode cX2_played 22 = .ok (.aload_n 0, 1) := dk_42 (dk_at dksX2_played_0 22 rfl rfl)
theorem dX2_played_23 : decode cX2_played 23 = .ok (.getfield 16, 3) := dk_180 0 16 (dk_at dksX2_played_1 0 rfl rfl)
theorem dX2_played_26 : decode cX2_played 26 = .ok (.sipush 729, 3) := dk_17 2 217 (dk_at dksX2_played_1 3 rfl rfl)
theorem dX2_played_29 : decode cX2_played 29 = .ok (.iload_n 1, 1) := dk_27 (dk_at dksX2_played_1 6 rfl rfl)
theorem dX2_played_30 : decode cX2_played 30 = .ok (.imul, 1) := dk_104 (dk_at dksX2_played_1 7 rfl rfl)
theorem dX2_played_31 : decode cX2_played 31 = .ok (.iaload, 1) := dk_46 (dk_at dksX2_played_1 8 rfl rfl)
theorem dX2_played_32 : decode cX2_played 32 = .ok (.if_icmp .ge 29, 3) := dk_162 0 29 (dk_at dksX2_played_1 9 rfl rfl)
theorem dX2_played_35 : decode cX2_played 35 = .ok (.aload_n 0, 1) := dk_42 (dk_at dksX2_played_1 12 rfl rfl)
theorem dX2_played_36 : decode cX2_played 36 = .ok (.sipush 729, 3) := dk_17 2 217 (dk_at dksX2_played_1 13 rfl rfl)
theorem dX2_played_39 : decode cX2_played 39 = .ok (.iload_n 1, 1) := dk_27 (dk_at dksX2_played_1 16 rfl rfl)
theorem dX2_played_40 : decode cX2_played 40 = .ok (.imul, 1) := dk_104 (dk_at dksX2_played_1 17 rfl rfl)
theorem dX2_played_41 : decode cX2_played 41 = .ok (.iconst 1, 1) := dk_4 (dk_at dksX2_played_1 18 rfl rfl)
theorem dX2_played_42 : decode cX2_played 42 = .ok (.iadd, 1) := dk_96 (dk_at dksX2_played_1 19 rfl rfl)
theorem dX2_played_43 : decode cX2_played 43 = .ok (.iconst 5, 1) := dk_8 (dk_at dksX2_played_1 20 rfl rfl)
theorem dX2_played_44 : decode cX2_played 44 = .ok (.iload_n 2, 1) := dk_28 (dk_at dksX2_played_1 21 rfl rfl)
theorem dX2_played_45 : decode cX2_played 45 = .ok (.imul, 1) := dk_104 (dk_at dksX2_played_1 22 rfl rfl)
theorem dX2_played_46 : decode cX2_played 46 = .ok (.iadd, 1) := dk_96 (dk_at dksX2_played_1 23 rfl rfl)
theorem dX2_played_47 : decode cX2_played 47 = .ok (.invokevirtual 362, 3) := dk_182 1 106 (dk_at dksX2_played_2 0 rfl rfl)
theorem dX2_played_50 : decode cX2_played 50 = .ok (.ifCond .ne 5, 3) := dk_154 0 5 (dk_at dksX2_played_2 3 rfl rfl)
theorem dX2_played_53 : decode cX2_played 53 = .ok (.iload_n 2, 1) := dk_28 (dk_at dksX2_played_2 6 rfl rfl)
theorem dX2_played_54 : decode cX2_played 54 = .ok (.ireturn, 1) := dk_172 (dk_at dksX2_played_2 7 rfl rfl)
theorem dX2_played_55 : decode cX2_played 55 = .ok (.iinc 2 1, 3) := dk_132 2 1 (dk_at dksX2_played_2 8 rfl rfl)
theorem dX2_played_58 : decode cX2_played 58 = .ok (.goto (-37), 3) := dk_167 255 219 (dk_at dksX2_played_2 11 rfl rfl)
theorem dX2_played_61 : decode cX2_played 61 = .ok (.iconst (-1), 1) := dk_2 (dk_at dksX2_played_2 14 rfl rfl)
theorem dX2_played_62 : decode cX2_played 62 = .ok (.ireturn, 1) := dk_172 (dk_at dksX2_played_2 15 rfl rfl)
abbrev cX2_isPlayed : ByteArray := prog_21_method_84_code
def yX2_isPlayed : MethodName := ⟨RX2, "isPlayed", "(I)Z"⟩
def dkwX2_isPlayed_4 : List UInt8 := [182, 1, 100, 172, 42, 28, 182, 1, 103, 172, 42, 28, 182, 1, 88, 172, 4, 172]
abbrev dktX2_isPlayed_4 : List UInt8 := dkwX2_isPlayed_4 ++ []
def dkwX2_isPlayed_3 : List UInt8 := [155, 0, 7, 4, 167, 0, 4, 3, 172, 42, 28, 182, 1, 94, 172, 42, 29, 28, 182, 1, 97, 172, 42, 28]
abbrev dktX2_isPlayed_3 : List UInt8 := dkwX2_isPlayed_3 ++ dktX2_isPlayed_4
def dkwX2_isPlayed_2 : List UInt8 := [42, 28, 29, 42, 180, 0, 16, 27, 6, 96, 46, 42, 180, 0, 16, 27, 7, 96, 46, 182, 1, 91]
abbrev dktX2_isPlayed_2 : List UInt8 := dkwX2_isPlayed_2 ++ dktX2_isPlayed_3
def dkwX2_isPlayed_1 : List UInt8 := [170, 0, 0, 0, 0, 0, 0, 102, 0, 0, 0, 2, 0, 0, 0, 7, 0, 0, 0, 40, 0, 0, 0, 71, 0, 0, 0, 77, 0, 0, 0, 84, 0, 0, 0, 90, 0, 0, 0, 96]
abbrev dktX2_isPlayed_1 : List UInt8 := dkwX2_isPlayed_1 ++ dktX2_isPlayed_2
def dkwX2_isPlayed_0 : List UInt8 := [42, 180, 0, 16, 27, 4, 96, 46, 61, 42, 180, 0, 16, 27, 5, 96, 46, 62, 42, 180, 0, 16, 27, 46]
abbrev dktX2_isPlayed_0 : List UInt8 := dkwX2_isPlayed_0 ++ dktX2_isPlayed_1
theorem dksX2_isPlayed_0 : cX2_isPlayed.data.toList.drop 0 = dktX2_isPlayed_0 := by decide +kernel
theorem dksX2_isPlayed_1 : cX2_isPlayed.data.toList.drop 24 = dktX2_isPlayed_1 := dk_seg dksX2_isPlayed_0 24 rfl rfl
theorem dksX2_isPlayed_2 : cX2_isPlayed.data.toList.drop 64 = dktX2_isPlayed_2 := dk_seg dksX2_isPlayed_1 40 rfl rfl
theorem dksX2_isPlayed_3 : cX2_isPlayed.data.toList.drop 86 = dktX2_isPlayed_3 := dk_seg dksX2_isPlayed_2 22 rfl rfl
theorem dksX2_isPlayed_4 : cX2_isPlayed.data.toList.drop 110 = dktX2_isPlayed_4 := dk_seg dksX2_isPlayed_3 24 rfl rfl
theorem dX2_isPlayed_0 : decode cX2_isPlayed 0 = .ok (.aload_n 0, 1) := dk_42 (dk_at dksX2_isPlayed_0 0 rfl rfl)
theorem dX2_isPlayed_1 : decode cX2_isPlayed 1 = .ok (.getfield 16, 3) := dk_180 0 16 (dk_at dksX2_isPlayed_0 1 rfl rfl)
theorem dX2_isPlayed_4 : decode cX2_isPlayed 4 = .ok (.iload_n 1, 1) := dk_27 (dk_at dksX2_isPlayed_0 4 rfl rfl)
theorem dX2_isPlayed_5 : decode cX2_isPlayed 5 = .ok (.iconst 1, 1) := dk_4 (dk_at dksX2_isPlayed_0 5 rfl rfl)
theorem dX2_isPlayed_6 : decode cX2_isPlayed 6 = .ok (.iadd, 1) := dk_96 (dk_at dksX2_isPlayed_0 6 rfl rfl)
theorem dX2_isPlayed_7 : decode cX2_isPlayed 7 = .ok (.iaload, 1) := dk_46 (dk_at dksX2_isPlayed_0 7 rfl rfl)
theorem dX2_isPlayed_8 : decode cX2_isPlayed 8 = .ok (.istore_n 2, 1) := dk_61 (dk_at dksX2_isPlayed_0 8 rfl rfl)
theorem dX2_isPlayed_9 : decode cX2_isPlayed 9 = .ok (.aload_n 0, 1) := dk_42 (dk_at dksX2_isPlayed_0 9 rfl rfl)
theorem dX2_isPlayed_10 : decode cX2_isPlayed 10 = .ok (.getfield 16, 3) := dk_180 0 16 (dk_at dksX2_isPlayed_0 10 rfl rfl)
theorem dX2_isPlayed_13 : decode cX2_isPlayed 13 = .ok (.iload_n 1, 1) := dk_27 (dk_at dksX2_isPlayed_0 13 rfl rfl)
theorem dX2_isPlayed_14 : decode cX2_isPlayed 14 = .ok (.iconst 2, 1) := dk_5 (dk_at dksX2_isPlayed_0 14 rfl rfl)
theorem dX2_isPlayed_15 : decode cX2_isPlayed 15 = .ok (.iadd, 1) := dk_96 (dk_at dksX2_isPlayed_0 15 rfl rfl)
theorem dX2_isPlayed_16 : decode cX2_isPlayed 16 = .ok (.iaload, 1) := dk_46 (dk_at dksX2_isPlayed_0 16 rfl rfl)
theorem dX2_isPlayed_17 : decode cX2_isPlayed 17 = .ok (.istore_n 3, 1) := dk_62 (dk_at dksX2_isPlayed_0 17 rfl rfl)
theorem dX2_isPlayed_18 : decode cX2_isPlayed 18 = .ok (.aload_n 0, 1) := dk_42 (dk_at dksX2_isPlayed_0 18 rfl rfl)
theorem dX2_isPlayed_19 : decode cX2_isPlayed 19 = .ok (.getfield 16, 3) := dk_180 0 16 (dk_at dksX2_isPlayed_0 19 rfl rfl)
theorem dX2_isPlayed_22 : decode cX2_isPlayed 22 = .ok (.iload_n 1, 1) := dk_27 (dk_at dksX2_isPlayed_0 22 rfl rfl)
theorem dX2_isPlayed_23 : decode cX2_isPlayed 23 = .ok (.iaload, 1) := dk_46 (dk_at dksX2_isPlayed_0 23 rfl rfl)
theorem dX2_isPlayed_24 : decode cX2_isPlayed 24 = .ok (.tableswitch 102 2 7 #[40, 71, 77, 84, 90, 96], 40) := by decide +kernel
theorem dX2_isPlayed_64 : decode cX2_isPlayed 64 = .ok (.aload_n 0, 1) := dk_42 (dk_at dksX2_isPlayed_2 0 rfl rfl)
theorem dX2_isPlayed_65 : decode cX2_isPlayed 65 = .ok (.iload_n 2, 1) := dk_28 (dk_at dksX2_isPlayed_2 1 rfl rfl)
theorem dX2_isPlayed_66 : decode cX2_isPlayed 66 = .ok (.iload_n 3, 1) := dk_29 (dk_at dksX2_isPlayed_2 2 rfl rfl)
theorem dX2_isPlayed_67 : decode cX2_isPlayed 67 = .ok (.aload_n 0, 1) := dk_42 (dk_at dksX2_isPlayed_2 3 rfl rfl)
theorem dX2_isPlayed_68 : decode cX2_isPlayed 68 = .ok (.getfield 16, 3) := dk_180 0 16 (dk_at dksX2_isPlayed_2 4 rfl rfl)
theorem dX2_isPlayed_71 : decode cX2_isPlayed 71 = .ok (.iload_n 1, 1) := dk_27 (dk_at dksX2_isPlayed_2 7 rfl rfl)
theorem dX2_isPlayed_72 : decode cX2_isPlayed 72 = .ok (.iconst 3, 1) := dk_6 (dk_at dksX2_isPlayed_2 8 rfl rfl)
theorem dX2_isPlayed_73 : decode cX2_isPlayed 73 = .ok (.iadd, 1) := dk_96 (dk_at dksX2_isPlayed_2 9 rfl rfl)
theorem dX2_isPlayed_74 : decode cX2_isPlayed 74 = .ok (.iaload, 1) := dk_46 (dk_at dksX2_isPlayed_2 10 rfl rfl)
theorem dX2_isPlayed_75 : decode cX2_isPlayed 75 = .ok (.aload_n 0, 1) := dk_42 (dk_at dksX2_isPlayed_2 11 rfl rfl)
theorem dX2_isPlayed_76 : decode cX2_isPlayed 76 = .ok (.getfield 16, 3) := dk_180 0 16 (dk_at dksX2_isPlayed_2 12 rfl rfl)
theorem dX2_isPlayed_79 : decode cX2_isPlayed 79 = .ok (.iload_n 1, 1) := dk_27 (dk_at dksX2_isPlayed_2 15 rfl rfl)
theorem dX2_isPlayed_80 : decode cX2_isPlayed 80 = .ok (.iconst 4, 1) := dk_7 (dk_at dksX2_isPlayed_2 16 rfl rfl)
theorem dX2_isPlayed_81 : decode cX2_isPlayed 81 = .ok (.iadd, 1) := dk_96 (dk_at dksX2_isPlayed_2 17 rfl rfl)
theorem dX2_isPlayed_82 : decode cX2_isPlayed 82 = .ok (.iaload, 1) := dk_46 (dk_at dksX2_isPlayed_2 18 rfl rfl)
theorem dX2_isPlayed_83 : decode cX2_isPlayed 83 = .ok (.invokevirtual 347, 3) := dk_182 1 91 (dk_at dksX2_isPlayed_2 19 rfl rfl)
theorem dX2_isPlayed_86 : decode cX2_isPlayed 86 = .ok (.ifCond .lt 7, 3) := dk_155 0 7 (dk_at dksX2_isPlayed_3 0 rfl rfl)
theorem dX2_isPlayed_89 : decode cX2_isPlayed 89 = .ok (.iconst 1, 1) := dk_4 (dk_at dksX2_isPlayed_3 3 rfl rfl)
theorem dX2_isPlayed_90 : decode cX2_isPlayed 90 = .ok (.goto 4, 3) := dk_167 0 4 (dk_at dksX2_isPlayed_3 4 rfl rfl)
theorem dX2_isPlayed_93 : decode cX2_isPlayed 93 = .ok (.iconst 0, 1) := dk_3 (dk_at dksX2_isPlayed_3 7 rfl rfl)
theorem dX2_isPlayed_94 : decode cX2_isPlayed 94 = .ok (.ireturn, 1) := dk_172 (dk_at dksX2_isPlayed_3 8 rfl rfl)
theorem dX2_isPlayed_95 : decode cX2_isPlayed 95 = .ok (.aload_n 0, 1) := dk_42 (dk_at dksX2_isPlayed_3 9 rfl rfl)
theorem dX2_isPlayed_96 : decode cX2_isPlayed 96 = .ok (.iload_n 2, 1) := dk_28 (dk_at dksX2_isPlayed_3 10 rfl rfl)
theorem dX2_isPlayed_97 : decode cX2_isPlayed 97 = .ok (.invokevirtual 350, 3) := dk_182 1 94 (dk_at dksX2_isPlayed_3 11 rfl rfl)
theorem dX2_isPlayed_100 : decode cX2_isPlayed 100 = .ok (.ireturn, 1) := dk_172 (dk_at dksX2_isPlayed_3 14 rfl rfl)
theorem dX2_isPlayed_101 : decode cX2_isPlayed 101 = .ok (.aload_n 0, 1) := dk_42 (dk_at dksX2_isPlayed_3 15 rfl rfl)
theorem dX2_isPlayed_102 : decode cX2_isPlayed 102 = .ok (.iload_n 3, 1) := dk_29 (dk_at dksX2_isPlayed_3 16 rfl rfl)
theorem dX2_isPlayed_103 : decode cX2_isPlayed 103 = .ok (.iload_n 2, 1) := dk_28 (dk_at dksX2_isPlayed_3 17 rfl rfl)
theorem dX2_isPlayed_104 : decode cX2_isPlayed 104 = .ok (.invokevirtual 353, 3) := dk_182 1 97 (dk_at dksX2_isPlayed_3 18 rfl rfl)
theorem dX2_isPlayed_107 : decode cX2_isPlayed 107 = .ok (.ireturn, 1) := dk_172 (dk_at dksX2_isPlayed_3 21 rfl rfl)
theorem dX2_isPlayed_108 : decode cX2_isPlayed 108 = .ok (.aload_n 0, 1) := dk_42 (dk_at dksX2_isPlayed_3 22 rfl rfl)
theorem dX2_isPlayed_109 : decode cX2_isPlayed 109 = .ok (.iload_n 2, 1) := dk_28 (dk_at dksX2_isPlayed_3 23 rfl rfl)
theorem dX2_isPlayed_110 : decode cX2_isPlayed 110 = .ok (.invokevirtual 356, 3) := dk_182 1 100 (dk_at dksX2_isPlayed_4 0 rfl rfl)
theorem dX2_isPlayed_113 : decode cX2_isPlayed 113 = .ok (.ireturn, 1) := dk_172 (dk_at dksX2_isPlayed_4 3 rfl rfl)
theorem dX2_isPlayed_114 : decode cX2_isPlayed 114 = .ok (.aload_n 0, 1) := dk_42 (dk_at dksX2_isPlayed_4 4 rfl rfl)
theorem dX2_isPlayed_115 : decode cX2_isPlayed 115 = .ok (.iload_n 2, 1) := dk_28 (dk_at dksX2_isPlayed_4 5 rfl rfl)
theorem dX2_isPlayed_116 : decode cX2_isPlayed 116 = .ok (.invokevirtual 359, 3) := dk_182 1 103 (dk_at dksX2_isPlayed_4 6 rfl rfl)
theorem dX2_isPlayed_119 : decode cX2_isPlayed 119 = .ok (.ireturn, 1) := dk_172 (dk_at dksX2_isPlayed_4 9 rfl rfl)
theorem dX2_isPlayed_120 : decode cX2_isPlayed 120 = .ok (.aload_n 0, 1) := dk_42 (dk_at dksX2_isPlayed_4 10 rfl rfl)
theorem dX2_isPlayed_121 : decode cX2_isPlayed 121 = .ok (.iload_n 2, 1) := dk_28 (dk_at dksX2_isPlayed_4 11 rfl rfl)
theorem dX2_isPlayed_122 : decode cX2_isPlayed 122 = .ok (.invokevirtual 344, 3) := dk_182 1 88 (dk_at dksX2_isPlayed_4 12 rfl rfl)
theorem dX2_isPlayed_125 : decode cX2_isPlayed 125 = .ok (.ireturn, 1) := dk_172 (dk_at dksX2_isPlayed_4 15 rfl rfl)
theorem dX2_isPlayed_126 : decode cX2_isPlayed 126 = .ok (.iconst 1, 1) := dk_4 (dk_at dksX2_isPlayed_4 16 rfl rfl)
theorem dX2_isPlayed_127 : decode cX2_isPlayed 127 = .ok (.ireturn, 1) := dk_172 (dk_at dksX2_isPlayed_4 17 rfl rfl)
abbrev cX2_years : ByteArray := prog_21_method_87_code
def yX2_years : MethodName := ⟨RX2, "years", "(II)I"⟩
def dkwX2_years_3 : List UInt8 := [167, 255, 229, 42, 180, 0, 7, 16, 6, 46, 172]
abbrev dktX2_years_3 : List UInt8 := dkwX2_years_3 ++ []
def dkwX2_years_2 : List UInt8 := [42, 180, 0, 7, 16, 9, 46, 54, 4, 42, 182, 1, 61, 42, 21, 4, 182, 1, 109, 132, 3, 1]
abbrev dktX2_years_2 : List UInt8 := dkwX2_years_2 ++ dktX2_years_3
def dkwX2_years_1 : List UInt8 := [182, 1, 76, 42, 180, 0, 7, 16, 9, 27, 5, 104, 17, 0, 229, 96, 79, 3, 62, 29, 28, 162, 0, 28]
abbrev dktX2_years_1 : List UInt8 := dkwX2_years_1 ++ dktX2_years_2
def dkwX2_years_0 : List UInt8 := [27, 3, 17, 39, 15, 184, 0, 66, 153, 0, 13, 28, 4, 16, 40, 184, 0, 66, 154, 0, 5, 2, 172, 42]
abbrev dktX2_years_0 : List UInt8 := dkwX2_years_0 ++ dktX2_years_1
theorem dksX2_years_0 : cX2_years.data.toList.drop 0 = dktX2_years_0 := by decide +kernel
theorem dksX2_years_1 : cX2_years.data.toList.drop 24 = dktX2_years_1 := dk_seg dksX2_years_0 24 rfl rfl
theorem dksX2_years_2 : cX2_years.data.toList.drop 48 = dktX2_years_2 := dk_seg dksX2_years_1 24 rfl rfl
theorem dksX2_years_3 : cX2_years.data.toList.drop 70 = dktX2_years_3 := dk_seg dksX2_years_2 22 rfl rfl
theorem dX2_years_0 : decode cX2_years 0 = .ok (.iload_n 1, 1) := dk_27 (dk_at dksX2_years_0 0 rfl rfl)
theorem dX2_years_1 : decode cX2_years 1 = .ok (.iconst 0, 1) := dk_3 (dk_at dksX2_years_0 1 rfl rfl)
theorem dX2_years_2 : decode cX2_years 2 = .ok (.sipush 9999, 3) := dk_17 39 15 (dk_at dksX2_years_0 2 rfl rfl)
theorem dX2_years_5 : decode cX2_years 5 = .ok (.invokestatic 66, 3) := dk_184 0 66 (dk_at dksX2_years_0 5 rfl rfl)
theorem dX2_years_8 : decode cX2_years 8 = .ok (.ifCond .eq 13, 3) := dk_153 0 13 (dk_at dksX2_years_0 8 rfl rfl)
theorem dX2_years_11 : decode cX2_years 11 = .ok (.iload_n 2, 1) := dk_28 (dk_at dksX2_years_0 11 rfl rfl)
theorem dX2_years_12 : decode cX2_years 12 = .ok (.iconst 1, 1) := dk_4 (dk_at dksX2_years_0 12 rfl rfl)
theorem dX2_years_13 : decode cX2_years 13 = .ok (.bipush 40, 2) := dk_16 40 (dk_at dksX2_years_0 13 rfl rfl)
theorem dX2_years_15 : decode cX2_years 15 = .ok (.invokestatic 66, 3) := dk_184 0 66 (dk_at dksX2_years_0 15 rfl rfl)
theorem dX2_years_18 : decode cX2_years 18 = .ok (.ifCond .ne 5, 3) := dk_154 0 5 (dk_at dksX2_years_0 18 rfl rfl)
theorem dX2_years_21 : decode cX2_years 21 = .ok (.iconst (-1), 1) := dk_2 (dk_at dksX2_years_0 21 rfl rfl)
theorem dX2_years_22 : decode cX2_years 22 = .ok (.ireturn, 1) := dk_172 (dk_at dksX2_years_0 22 rfl rfl)
theorem dX2_years_23 : decode cX2_years 23 = .ok (.aload_n 0, 1) := dk_42 (dk_at dksX2_years_0 23 rfl rfl)
theorem dX2_years_24 : decode cX2_years 24 = .ok (.invokevirtual 332, 3) := dk_182 1 76 (dk_at dksX2_years_1 0 rfl rfl)
theorem dX2_years_27 : decode cX2_years 27 = .ok (.aload_n 0, 1) := dk_42 (dk_at dksX2_years_1 3 rfl rfl)
theorem dX2_years_28 : decode cX2_years 28 = .ok (.getfield 7, 3) := dk_180 0 7 (dk_at dksX2_years_1 4 rfl rfl)
theorem dX2_years_31 : decode cX2_years 31 = .ok (.bipush 9, 2) := dk_16 9 (dk_at dksX2_years_1 7 rfl rfl)
theorem dX2_years_33 : decode cX2_years 33 = .ok (.iload_n 1, 1) := dk_27 (dk_at dksX2_years_1 9 rfl rfl)
theorem dX2_years_34 : decode cX2_years 34 = .ok (.iconst 2, 1) := dk_5 (dk_at dksX2_years_1 10 rfl rfl)
theorem dX2_years_35 : decode cX2_years 35 = .ok (.imul, 1) := dk_104 (dk_at dksX2_years_1 11 rfl rfl)
theorem dX2_years_36 : decode cX2_years 36 = .ok (.sipush 229, 3) := dk_17 0 229 (dk_at dksX2_years_1 12 rfl rfl)
theorem dX2_years_39 : decode cX2_years 39 = .ok (.iadd, 1) := dk_96 (dk_at dksX2_years_1 15 rfl rfl)
theorem dX2_years_40 : decode cX2_years 40 = .ok (.iastore, 1) := dk_79 (dk_at dksX2_years_1 16 rfl rfl)
theorem dX2_years_41 : decode cX2_years 41 = .ok (.iconst 0, 1) := dk_3 (dk_at dksX2_years_1 17 rfl rfl)
theorem dX2_years_42 : decode cX2_years 42 = .ok (.istore_n 3, 1) := dk_62 (dk_at dksX2_years_1 18 rfl rfl)
theorem dX2_years_43 : decode cX2_years 43 = .ok (.iload_n 3, 1) := dk_29 (dk_at dksX2_years_1 19 rfl rfl)
theorem dX2_years_44 : decode cX2_years 44 = .ok (.iload_n 2, 1) := dk_28 (dk_at dksX2_years_1 20 rfl rfl)
theorem dX2_years_45 : decode cX2_years 45 = .ok (.if_icmp .ge 28, 3) := dk_162 0 28 (dk_at dksX2_years_1 21 rfl rfl)
theorem dX2_years_48 : decode cX2_years 48 = .ok (.aload_n 0, 1) := dk_42 (dk_at dksX2_years_2 0 rfl rfl)
theorem dX2_years_49 : decode cX2_years 49 = .ok (.getfield 7, 3) := dk_180 0 7 (dk_at dksX2_years_2 1 rfl rfl)
theorem dX2_years_52 : decode cX2_years 52 = .ok (.bipush 9, 2) := dk_16 9 (dk_at dksX2_years_2 4 rfl rfl)
theorem dX2_years_54 : decode cX2_years 54 = .ok (.iaload, 1) := dk_46 (dk_at dksX2_years_2 6 rfl rfl)
theorem dX2_years_55 : decode cX2_years 55 = .ok (.istore 4, 2) := dk_54 4 (dk_at dksX2_years_2 7 rfl rfl)
theorem dX2_years_57 : decode cX2_years 57 = .ok (.aload_n 0, 1) := dk_42 (dk_at dksX2_years_2 9 rfl rfl)
theorem dX2_years_58 : decode cX2_years 58 = .ok (.invokevirtual 317, 3) := dk_182 1 61 (dk_at dksX2_years_2 10 rfl rfl)
theorem dX2_years_61 : decode cX2_years 61 = .ok (.aload_n 0, 1) := dk_42 (dk_at dksX2_years_2 13 rfl rfl)
theorem dX2_years_62 : decode cX2_years 62 = .ok (.iload 4, 2) := dk_21 4 (dk_at dksX2_years_2 14 rfl rfl)
theorem dX2_years_64 : decode cX2_years 64 = .ok (.invokevirtual 365, 3) := dk_182 1 109 (dk_at dksX2_years_2 16 rfl rfl)
theorem dX2_years_67 : decode cX2_years 67 = .ok (.iinc 3 1, 3) := dk_132 3 1 (dk_at dksX2_years_2 19 rfl rfl)
theorem dX2_years_70 : decode cX2_years 70 = .ok (.goto (-27), 3) := dk_167 255 229 (dk_at dksX2_years_3 0 rfl rfl)
theorem dX2_years_73 : decode cX2_years 73 = .ok (.aload_n 0, 1) := dk_42 (dk_at dksX2_years_3 3 rfl rfl)
theorem dX2_years_74 : decode cX2_years 74 = .ok (.getfield 7, 3) := dk_180 0 7 (dk_at dksX2_years_3 4 rfl rfl)
theorem dX2_years_77 : decode cX2_years 77 = .ok (.bipush 6, 2) := dk_16 6 (dk_at dksX2_years_3 7 rfl rfl)
theorem dX2_years_79 : decode cX2_years 79 = .ok (.iaload, 1) := dk_46 (dk_at dksX2_years_3 9 rfl rfl)
theorem dX2_years_80 : decode cX2_years 80 = .ok (.ireturn, 1) := dk_172 (dk_at dksX2_years_3 10 rfl rfl)
abbrev cX2_happens : ByteArray := prog_21_method_86_code
def yX2_happens : MethodName := ⟨RX2, "happens", "(I)V"⟩
def dkwX2_happens_6 : List UInt8 := [182, 0, 78, 177]
abbrev dktX2_happens_6 : List UInt8 := dkwX2_happens_6 ++ []
def dkwX2_happens_5 : List UInt8 := [182, 0, 78, 167, 0, 22, 42, 28, 4, 27, 16, 6, 112, 5, 160, 0, 7, 4, 167, 0, 4, 3]
abbrev dktX2_happens_5 : List UInt8 := dkwX2_happens_5 ++ dktX2_happens_6
def dkwX2_happens_4 : List UInt8 := [42, 180, 0, 7, 16, 7, 4, 28, 120, 79, 167, 0, 38, 42, 28, 3, 27, 16, 6, 108, 16, 100, 112]
abbrev dktX2_happens_4 : List UInt8 := dkwX2_happens_4 ++ dktX2_happens_5
def dkwX2_happens_3 : List UInt8 := [171, 0, 0, 0, 0, 0, 56, 0, 0, 0, 2, 0, 0, 0, 0, 0, 0, 0, 27, 0, 0, 0, 1, 0, 0, 0, 40]
abbrev dktX2_happens_3 : List UInt8 := dkwX2_happens_3 ++ dktX2_happens_4
def dkwX2_happens_2 : List UInt8 := [16, 6, 112]
abbrev dktX2_happens_2 : List UInt8 := dkwX2_happens_2 ++ dktX2_happens_3
def dkwX2_happens_1 : List UInt8 := [182, 1, 85, 177, 42, 180, 0, 7, 3, 46, 154, 0, 4, 177, 27, 42, 180, 0, 7, 3, 46, 112, 61, 27]
abbrev dktX2_happens_1 : List UInt8 := dkwX2_happens_1 ++ dktX2_happens_2
def dkwX2_happens_0 : List UInt8 := [27, 16, 6, 112, 6, 164, 0, 21, 42, 180, 0, 7, 16, 6, 46, 17, 39, 15, 162, 0, 7, 42]
abbrev dktX2_happens_0 : List UInt8 := dkwX2_happens_0 ++ dktX2_happens_1
theorem dksX2_happens_0 : cX2_happens.data.toList.drop 0 = dktX2_happens_0 := by decide +kernel
theorem dksX2_happens_1 : cX2_happens.data.toList.drop 22 = dktX2_happens_1 := dk_seg dksX2_happens_0 22 rfl rfl
theorem dksX2_happens_2 : cX2_happens.data.toList.drop 46 = dktX2_happens_2 := dk_seg dksX2_happens_1 24 rfl rfl
theorem dksX2_happens_3 : cX2_happens.data.toList.drop 49 = dktX2_happens_3 := dk_seg dksX2_happens_2 3 rfl rfl
theorem dksX2_happens_4 : cX2_happens.data.toList.drop 76 = dktX2_happens_4 := dk_seg dksX2_happens_3 27 rfl rfl
theorem dksX2_happens_5 : cX2_happens.data.toList.drop 99 = dktX2_happens_5 := dk_seg dksX2_happens_4 23 rfl rfl
theorem dksX2_happens_6 : cX2_happens.data.toList.drop 121 = dktX2_happens_6 := dk_seg dksX2_happens_5 22 rfl rfl
theorem dX2_happens_0 : decode cX2_happens 0 = .ok (.iload_n 1, 1) := dk_27 (dk_at dksX2_happens_0 0 rfl rfl)
theorem dX2_happens_1 : decode cX2_happens 1 = .ok (.bipush 6, 2) := dk_16 6 (dk_at dksX2_happens_0 1 rfl rfl)
theorem dX2_happens_3 : decode cX2_happens 3 = .ok (.irem, 1) := dk_112 (dk_at dksX2_happens_0 3 rfl rfl)
theorem dX2_happens_4 : decode cX2_happens 4 = .ok (.iconst 3, 1) := dk_6 (dk_at dksX2_happens_0 4 rfl rfl)
theorem dX2_happens_5 : decode cX2_happens 5 = .ok (.if_icmp .le 21, 3) := dk_164 0 21 (dk_at dksX2_happens_0 5 rfl rfl)
theorem dX2_happens_8 : decode cX2_happens 8 = .ok (.aload_n 0, 1) := dk_42 (dk_at dksX2_happens_0 8 rfl rfl)
theorem dX2_happens_9 : decode cX2_happens 9 = .ok (.getfield 7, 3) := dk_180 0 7 (dk_at dksX2_happens_0 9 rfl rfl)
theorem dX2_happens_12 : decode cX2_happens 12 = .ok (.bipush 6, 2) := dk_16 6 (dk_at dksX2_happens_0 12 rfl rfl)
theorem dX2_happens_14 : decode cX2_happens 14 = .ok (.iaload, 1) := dk_46 (dk_at dksX2_happens_0 14 rfl rfl)
theorem dX2_happens_15 : decode cX2_happens 15 = .ok (.sipush 9999, 3) := dk_17 39 15 (dk_at dksX2_happens_0 15 rfl rfl)
theorem dX2_happens_18 : decode cX2_happens 18 = .ok (.if_icmp .ge 7, 3) := dk_162 0 7 (dk_at dksX2_happens_0 18 rfl rfl)
theorem dX2_happens_21 : decode cX2_happens 21 = .ok (.aload_n 0, 1) := dk_42 (dk_at dksX2_happens_0 21 rfl rfl)
theorem dX2_happens_22 : decode cX2_happens 22 = .ok (.invokevirtual 341, 3) := dk_182 1 85 (dk_at dksX2_happens_1 0 rfl rfl)
theorem dX2_happens_25 : decode cX2_happens 25 = .ok (.return_, 1) := dk_177 (dk_at dksX2_happens_1 3 rfl rfl)
theorem dX2_happens_26 : decode cX2_happens 26 = .ok (.aload_n 0, 1) := dk_42 (dk_at dksX2_happens_1 4 rfl rfl)
theorem dX2_happens_27 : decode cX2_happens 27 = .ok (.getfield 7, 3) := dk_180 0 7 (dk_at dksX2_happens_1 5 rfl rfl)
theorem dX2_happens_30 : decode cX2_happens 30 = .ok (.iconst 0, 1) := dk_3 (dk_at dksX2_happens_1 8 rfl rfl)
theorem dX2_happens_31 : decode cX2_happens 31 = .ok (.iaload, 1) := dk_46 (dk_at dksX2_happens_1 9 rfl rfl)
theorem dX2_happens_32 : decode cX2_happens 32 = .ok (.ifCond .ne 4, 3) := dk_154 0 4 (dk_at dksX2_happens_1 10 rfl rfl)
theorem dX2_happens_35 : decode cX2_happens 35 = .ok (.return_, 1) := dk_177 (dk_at dksX2_happens_1 13 rfl rfl)
theorem dX2_happens_36 : decode cX2_happens 36 = .ok (.iload_n 1, 1) := dk_27 (dk_at dksX2_happens_1 14 rfl rfl)
theorem dX2_happens_37 : decode cX2_happens 37 = .ok (.aload_n 0, 1) := dk_42 (dk_at dksX2_happens_1 15 rfl rfl)
theorem dX2_happens_38 : decode cX2_happens 38 = .ok (.getfield 7, 3) := dk_180 0 7 (dk_at dksX2_happens_1 16 rfl rfl)
theorem dX2_happens_41 : decode cX2_happens 41 = .ok (.iconst 0, 1) := dk_3 (dk_at dksX2_happens_1 19 rfl rfl)
theorem dX2_happens_42 : decode cX2_happens 42 = .ok (.iaload, 1) := dk_46 (dk_at dksX2_happens_1 20 rfl rfl)
theorem dX2_happens_43 : decode cX2_happens 43 = .ok (.irem, 1) := dk_112 (dk_at dksX2_happens_1 21 rfl rfl)
theorem dX2_happens_44 : decode cX2_happens 44 = .ok (.istore_n 2, 1) := dk_61 (dk_at dksX2_happens_1 22 rfl rfl)
theorem dX2_happens_45 : decode cX2_happens 45 = .ok (.iload_n 1, 1) := dk_27 (dk_at dksX2_happens_1 23 rfl rfl)
theorem dX2_happens_46 : decode cX2_happens 46 = .ok (.bipush 6, 2) := dk_16 6 (dk_at dksX2_happens_2 0 rfl rfl)
theorem dX2_happens_48 : decode cX2_happens 48 = .ok (.irem, 1) := dk_112 (dk_at dksX2_happens_2 2 rfl rfl)
theorem dX2_happens_49 : decode cX2_happens 49 = .ok (.lookupswitch 56 #[(0, 27), (1, 40)], 27) := by decide +kernel
theorem dX2_happens_76 : decode cX2_happens 76 = .ok (.aload_n 0, 1) := dk_42 (dk_at dksX2_happens_4 0 rfl rfl)
theorem dX2_happens_77 : decode cX2_happens 77 = .ok (.getfield 7, 3) := dk_180 0 7 (dk_at dksX2_happens_4 1 rfl rfl)
theorem dX2_happens_80 : decode cX2_happens 80 = .ok (.bipush 7, 2) := dk_16 7 (dk_at dksX2_happens_4 4 rfl rfl)
theorem dX2_happens_82 : decode cX2_happens 82 = .ok (.iconst 1, 1) := dk_4 (dk_at dksX2_happens_4 6 rfl rfl)
theorem dX2_happens_83 : decode cX2_happens 83 = .ok (.iload_n 2, 1) := dk_28 (dk_at dksX2_happens_4 7 rfl rfl)
theorem dX2_happens_84 : decode cX2_happens 84 = .ok (.ishl, 1) := dk_120 (dk_at dksX2_happens_4 8 rfl rfl)
theorem dX2_happens_85 : decode cX2_happens 85 = .ok (.iastore, 1) := dk_79 (dk_at dksX2_happens_4 9 rfl rfl)
theorem dX2_happens_86 : decode cX2_happens 86 = .ok (.goto 38, 3) := dk_167 0 38 (dk_at dksX2_happens_4 10 rfl rfl)
theorem dX2_happens_89 : decode cX2_happens 89 = .ok (.aload_n 0, 1) := dk_42 (dk_at dksX2_happens_4 13 rfl rfl)
theorem dX2_happens_90 : decode cX2_happens 90 = .ok (.iload_n 2, 1) := dk_28 (dk_at dksX2_happens_4 14 rfl rfl)
theorem dX2_happens_91 : decode cX2_happens 91 = .ok (.iconst 0, 1) := dk_3 (dk_at dksX2_happens_4 15 rfl rfl)
theorem dX2_happens_92 : decode cX2_happens 92 = .ok (.iload_n 1, 1) := dk_27 (dk_at dksX2_happens_4 16 rfl rfl)
theorem dX2_happens_93 : decode cX2_happens 93 = .ok (.bipush 6, 2) := dk_16 6 (dk_at dksX2_happens_4 17 rfl rfl)
theorem dX2_happens_95 : decode cX2_happens 95 = .ok (.idiv, 1) := dk_108 (dk_at dksX2_happens_4 19 rfl rfl)
theorem dX2_happens_96 : decode cX2_happens 96 = .ok (.bipush 100, 2) := dk_16 100 (dk_at dksX2_happens_4 20 rfl rfl)
theorem dX2_happens_98 : decode cX2_happens 98 = .ok (.irem, 1) := dk_112 (dk_at dksX2_happens_4 22 rfl rfl)
theorem dX2_happens_99 : decode cX2_happens 99 = .ok (.invokevirtual 78, 3) := dk_182 0 78 (dk_at dksX2_happens_5 0 rfl rfl)
theorem dX2_happens_102 : decode cX2_happens 102 = .ok (.goto 22, 3) := dk_167 0 22 (dk_at dksX2_happens_5 3 rfl rfl)
theorem dX2_happens_105 : decode cX2_happens 105 = .ok (.aload_n 0, 1) := dk_42 (dk_at dksX2_happens_5 6 rfl rfl)
theorem dX2_happens_106 : decode cX2_happens 106 = .ok (.iload_n 2, 1) := dk_28 (dk_at dksX2_happens_5 7 rfl rfl)
theorem dX2_happens_107 : decode cX2_happens 107 = .ok (.iconst 1, 1) := dk_4 (dk_at dksX2_happens_5 8 rfl rfl)
theorem dX2_happens_108 : decode cX2_happens 108 = .ok (.iload_n 1, 1) := dk_27 (dk_at dksX2_happens_5 9 rfl rfl)
theorem dX2_happens_109 : decode cX2_happens 109 = .ok (.bipush 6, 2) := dk_16 6 (dk_at dksX2_happens_5 10 rfl rfl)
theorem dX2_happens_111 : decode cX2_happens 111 = .ok (.irem, 1) := dk_112 (dk_at dksX2_happens_5 12 rfl rfl)
theorem dX2_happens_112 : decode cX2_happens 112 = .ok (.iconst 2, 1) := dk_5 (dk_at dksX2_happens_5 13 rfl rfl)
theorem dX2_happens_113 : decode cX2_happens 113 = .ok (.if_icmp .ne 7, 3) := dk_160 0 7 (dk_at dksX2_happens_5 14 rfl rfl)
theorem dX2_happens_116 : decode cX2_happens 116 = .ok (.iconst 1, 1) := dk_4 (dk_at dksX2_happens_5 17 rfl rfl)
theorem dX2_happens_117 : decode cX2_happens 117 = .ok (.goto 4, 3) := dk_167 0 4 (dk_at dksX2_happens_5 18 rfl rfl)
theorem dX2_happens_120 : decode cX2_happens 120 = .ok (.iconst 0, 1) := dk_3 (dk_at dksX2_happens_5 21 rfl rfl)
theorem dX2_happens_121 : decode cX2_happens 121 = .ok (.invokevirtual 78, 3) := dk_182 0 78 (dk_at dksX2_happens_6 0 rfl rfl)
theorem dX2_happens_124 : decode cX2_happens 124 = .ok (.return_, 1) := dk_177 (dk_at dksX2_happens_6 3 rfl rfl)
abbrev cX2_of : ByteArray := prog_21_method_88_code
def yX2_of : MethodName := ⟨RX2, "of", "(II)I"⟩
def dkwX2_of_5 : List UInt8 := [2, 172]
abbrev dktX2_of_5 : List UInt8 := dkwX2_of_5 ++ []
def dkwX2_of_4 : List UInt8 := [27, 96, 46, 172, 28, 6, 8, 184, 0, 66, 153, 0, 14, 42, 27, 28, 6, 100, 182, 0, 74, 167, 0, 4]
abbrev dktX2_of_4 : List UInt8 := dkwX2_of_4 ++ dktX2_of_5
def dkwX2_of_3 : List UInt8 := [182, 1, 112, 27, 122, 4, 126, 172, 42, 27, 42, 182, 1, 112, 182, 1, 115, 172, 42, 180, 0, 7, 16, 67]
abbrev dktX2_of_3 : List UInt8 := dkwX2_of_3 ++ dktX2_of_4
def dkwX2_of_2 : List UInt8 := [42, 27, 6, 182, 0, 74, 172, 42, 27, 7, 182, 0, 74, 172, 42, 27, 8, 182, 0, 74, 172, 42]
abbrev dktX2_of_2 : List UInt8 := dkwX2_of_2 ++ dktX2_of_3
def dkwX2_of_1 : List UInt8 := [170, 0, 0, 0, 99, 0, 0, 0, 0, 0, 0, 0, 8, 0, 0, 0, 49, 0, 0, 0, 56, 0, 0, 0, 63, 0, 0, 0, 99, 0, 0, 0, 99, 0, 0, 0, 99, 0, 0, 0, 70, 0, 0, 0, 79, 0, 0, 0, 89]
abbrev dktX2_of_1 : List UInt8 := dkwX2_of_1 ++ dktX2_of_2
def dkwX2_of_0 : List UInt8 := [42, 27, 182, 1, 79, 154, 0, 5, 2, 172, 28]
abbrev dktX2_of_0 : List UInt8 := dkwX2_of_0 ++ dktX2_of_1
theorem dksX2_of_0 : cX2_of.data.toList.drop 0 = dktX2_of_0 := by decide +kernel
theorem dksX2_of_1 : cX2_of.data.toList.drop 11 = dktX2_of_1 := dk_seg dksX2_of_0 11 rfl rfl
theorem dksX2_of_2 : cX2_of.data.toList.drop 60 = dktX2_of_2 := dk_seg dksX2_of_1 49 rfl rfl
theorem dksX2_of_3 : cX2_of.data.toList.drop 82 = dktX2_of_3 := dk_seg dksX2_of_2 22 rfl rfl
theorem dksX2_of_4 : cX2_of.data.toList.drop 106 = dktX2_of_4 := dk_seg dksX2_of_3 24 rfl rfl
theorem dksX2_of_5 : cX2_of.data.toList.drop 130 = dktX2_of_5 := dk_seg dksX2_of_4 24 rfl rfl
theorem dX2_of_0 : decode cX2_of 0 = .ok (.aload_n 0, 1) := dk_42 (dk_at dksX2_of_0 0 rfl rfl)
theorem dX2_of_1 : decode cX2_of 1 = .ok (.iload_n 1, 1) := dk_27 (dk_at dksX2_of_0 1 rfl rfl)
theorem dX2_of_2 : decode cX2_of 2 = .ok (.invokevirtual 335, 3) := dk_182 1 79 (dk_at dksX2_of_0 2 rfl rfl)
theorem dX2_of_5 : decode cX2_of 5 = .ok (.ifCond .ne 5, 3) := dk_154 0 5 (dk_at dksX2_of_0 5 rfl rfl)
theorem dX2_of_8 : decode cX2_of 8 = .ok (.iconst (-1), 1) := dk_2 (dk_at dksX2_of_0 8 rfl rfl)
theorem dX2_of_9 : decode cX2_of 9 = .ok (.ireturn, 1) := dk_172 (dk_at dksX2_of_0 9 rfl rfl)
theorem dX2_of_10 : decode cX2_of 10 = .ok (.iload_n 2, 1) := dk_28 (dk_at dksX2_of_0 10 rfl rfl)
theorem dX2_of_11 : decode cX2_of 11 = .ok (.tableswitch 99 0 8 #[49, 56, 63, 99, 99, 99, 70, 79, 89], 49) := by decide +kernel
theorem dX2_of_60 : decode cX2_of 60 = .ok (.aload_n 0, 1) := dk_42 (dk_at dksX2_of_2 0 rfl rfl)
theorem dX2_of_61 : decode cX2_of 61 = .ok (.iload_n 1, 1) := dk_27 (dk_at dksX2_of_2 1 rfl rfl)
theorem dX2_of_62 : decode cX2_of 62 = .ok (.iconst 3, 1) := dk_6 (dk_at dksX2_of_2 2 rfl rfl)
theorem dX2_of_63 : decode cX2_of 63 = .ok (.invokevirtual 74, 3) := dk_182 0 74 (dk_at dksX2_of_2 3 rfl rfl)
theorem dX2_of_66 : decode cX2_of 66 = .ok (.ireturn, 1) := dk_172 (dk_at dksX2_of_2 6 rfl rfl)
theorem dX2_of_67 : decode cX2_of 67 = .ok (.aload_n 0, 1) := dk_42 (dk_at dksX2_of_2 7 rfl rfl)
theorem dX2_of_68 : decode cX2_of 68 = .ok (.iload_n 1, 1) := dk_27 (dk_at dksX2_of_2 8 rfl rfl)
theorem dX2_of_69 : decode cX2_of 69 = .ok (.iconst 4, 1) := dk_7 (dk_at dksX2_of_2 9 rfl rfl)
theorem dX2_of_70 : decode cX2_of 70 = .ok (.invokevirtual 74, 3) := dk_182 0 74 (dk_at dksX2_of_2 10 rfl rfl)
theorem dX2_of_73 : decode cX2_of 73 = .ok (.ireturn, 1) := dk_172 (dk_at dksX2_of_2 13 rfl rfl)
theorem dX2_of_74 : decode cX2_of 74 = .ok (.aload_n 0, 1) := dk_42 (dk_at dksX2_of_2 14 rfl rfl)
theorem dX2_of_75 : decode cX2_of 75 = .ok (.iload_n 1, 1) := dk_27 (dk_at dksX2_of_2 15 rfl rfl)
theorem dX2_of_76 : decode cX2_of 76 = .ok (.iconst 5, 1) := dk_8 (dk_at dksX2_of_2 16 rfl rfl)
theorem dX2_of_77 : decode cX2_of 77 = .ok (.invokevirtual 74, 3) := dk_182 0 74 (dk_at dksX2_of_2 17 rfl rfl)
theorem dX2_of_80 : decode cX2_of 80 = .ok (.ireturn, 1) := dk_172 (dk_at dksX2_of_2 20 rfl rfl)
theorem dX2_of_81 : decode cX2_of 81 = .ok (.aload_n 0, 1) := dk_42 (dk_at dksX2_of_2 21 rfl rfl)
theorem dX2_of_82 : decode cX2_of 82 = .ok (.invokevirtual 368, 3) := dk_182 1 112 (dk_at dksX2_of_3 0 rfl rfl)
theorem dX2_of_85 : decode cX2_of 85 = .ok (.iload_n 1, 1) := dk_27 (dk_at dksX2_of_3 3 rfl rfl)
theorem dX2_of_86 : decode cX2_of 86 = .ok (.ishr, 1) := dk_122 (dk_at dksX2_of_3 4 rfl rfl)
theorem dX2_of_87 : decode cX2_of 87 = .ok (.iconst 1, 1) := dk_4 (dk_at dksX2_of_3 5 rfl rfl)
theorem dX2_of_88 : decode cX2_of 88 = .ok (.iand, 1) := dk_126 (dk_at dksX2_of_3 6 rfl rfl)
theorem dX2_of_89 : decode cX2_of 89 = .ok (.ireturn, 1) := dk_172 (dk_at dksX2_of_3 7 rfl rfl)
theorem dX2_of_90 : decode cX2_of 90 = .ok (.aload_n 0, 1) := dk_42 (dk_at dksX2_of_3 8 rfl rfl)
theorem dX2_of_91 : decode cX2_of 91 = .ok (.iload_n 1, 1) := dk_27 (dk_at dksX2_of_3 9 rfl rfl)
theorem dX2_of_92 : decode cX2_of 92 = .ok (.aload_n 0, 1) := dk_42 (dk_at dksX2_of_3 10 rfl rfl)
theorem dX2_of_93 : decode cX2_of 93 = .ok (.invokevirtual 368, 3) := dk_182 1 112 (dk_at dksX2_of_3 11 rfl rfl)
theorem dX2_of_96 : decode cX2_of 96 = .ok (.invokevirtual 371, 3) := dk_182 1 115 (dk_at dksX2_of_3 14 rfl rfl)
theorem dX2_of_99 : decode cX2_of 99 = .ok (.ireturn, 1) := dk_172 (dk_at dksX2_of_3 17 rfl rfl)
theorem dX2_of_100 : decode cX2_of 100 = .ok (.aload_n 0, 1) := dk_42 (dk_at dksX2_of_3 18 rfl rfl)
theorem dX2_of_101 : decode cX2_of 101 = .ok (.getfield 7, 3) := dk_180 0 7 (dk_at dksX2_of_3 19 rfl rfl)
theorem dX2_of_104 : decode cX2_of 104 = .ok (.bipush 67, 2) := dk_16 67 (dk_at dksX2_of_3 22 rfl rfl)
theorem dX2_of_106 : decode cX2_of 106 = .ok (.iload_n 1, 1) := dk_27 (dk_at dksX2_of_4 0 rfl rfl)
theorem dX2_of_107 : decode cX2_of 107 = .ok (.iadd, 1) := dk_96 (dk_at dksX2_of_4 1 rfl rfl)
theorem dX2_of_108 : decode cX2_of 108 = .ok (.iaload, 1) := dk_46 (dk_at dksX2_of_4 2 rfl rfl)
theorem dX2_of_109 : decode cX2_of 109 = .ok (.ireturn, 1) := dk_172 (dk_at dksX2_of_4 3 rfl rfl)
theorem dX2_of_110 : decode cX2_of 110 = .ok (.iload_n 2, 1) := dk_28 (dk_at dksX2_of_4 4 rfl rfl)
theorem dX2_of_111 : decode cX2_of 111 = .ok (.iconst 3, 1) := dk_6 (dk_at dksX2_of_4 5 rfl rfl)
theorem dX2_of_112 : decode cX2_of 112 = .ok (.iconst 5, 1) := dk_8 (dk_at dksX2_of_4 6 rfl rfl)
theorem dX2_of_113 : decode cX2_of 113 = .ok (.invokestatic 66, 3) := dk_184 0 66 (dk_at dksX2_of_4 7 rfl rfl)
theorem dX2_of_116 : decode cX2_of 116 = .ok (.ifCond .eq 14, 3) := dk_153 0 14 (dk_at dksX2_of_4 10 rfl rfl)
theorem dX2_of_119 : decode cX2_of 119 = .ok (.aload_n 0, 1) := dk_42 (dk_at dksX2_of_4 13 rfl rfl)
theorem dX2_of_120 : decode cX2_of 120 = .ok (.iload_n 1, 1) := dk_27 (dk_at dksX2_of_4 14 rfl rfl)
theorem dX2_of_121 : decode cX2_of 121 = .ok (.iload_n 2, 1) := dk_28 (dk_at dksX2_of_4 15 rfl rfl)
theorem dX2_of_122 : decode cX2_of 122 = .ok (.iconst 3, 1) := dk_6 (dk_at dksX2_of_4 16 rfl rfl)
theorem dX2_of_123 : decode cX2_of 123 = .ok (.isub, 1) := dk_100 (dk_at dksX2_of_4 17 rfl rfl)
theorem dX2_of_124 : decode cX2_of 124 = .ok (.invokevirtual 74, 3) := dk_182 0 74 (dk_at dksX2_of_4 18 rfl rfl)
theorem dX2_of_127 : decode cX2_of 127 = .ok (.goto 4, 3) := dk_167 0 4 (dk_at dksX2_of_4 21 rfl rfl)
theorem dX2_of_130 : decode cX2_of 130 = .ok (.iconst (-1), 1) := dk_2 (dk_at dksX2_of_5 0 rfl rfl)
theorem dX2_of_131 : decode cX2_of 131 = .ok (.ireturn, 1) := dk_172 (dk_at dksX2_of_5 1 rfl rfl)
abbrev cX2_runningNow : ByteArray := prog_21_method_70_code
def yX2_runningNow : MethodName := ⟨RX2, "runningNow", "()I"⟩
def dkwX2_runningNow_0 : List UInt8 := [42, 42, 180, 0, 7, 5, 46, 42, 180, 0, 7, 16, 7, 46, 182, 1, 49, 172]
abbrev dktX2_runningNow_0 : List UInt8 := dkwX2_runningNow_0 ++ []
theorem dksX2_runningNow_0 : cX2_runningNow.data.toList.drop 0 = dktX2_runningNow_0 := by decide +kernel
theorem dX2_runningNow_0 : decode cX2_runningNow 0 = .ok (.aload_n 0, 1) := dk_42 (dk_at dksX2_runningNow_0 0 rfl rfl)
theorem dX2_runningNow_1 : decode cX2_runningNow 1 = .ok (.aload_n 0, 1) := dk_42 (dk_at dksX2_runningNow_0 1 rfl rfl)
theorem dX2_runningNow_2 : decode cX2_runningNow 2 = .ok (.getfield 7, 3) := dk_180 0 7 (dk_at dksX2_runningNow_0 2 rfl rfl)
theorem dX2_runningNow_5 : decode cX2_runningNow 5 = .ok (.iconst 2, 1) := dk_5 (dk_at dksX2_runningNow_0 5 rfl rfl)
theorem dX2_runningNow_6 : decode cX2_runningNow 6 = .ok (.iaload, 1) := dk_46 (dk_at dksX2_runningNow_0 6 rfl rfl)
theorem dX2_runningNow_7 : decode cX2_runningNow 7 = .ok (.aload_n 0, 1) := dk_42 (dk_at dksX2_runningNow_0 7 rfl rfl)
theorem dX2_runningNow_8 : decode cX2_runningNow 8 = .ok (.getfield 7, 3) := dk_180 0 7 (dk_at dksX2_runningNow_0 8 rfl rfl)
theorem dX2_runningNow_11 : decode cX2_runningNow 11 = .ok (.bipush 7, 2) := dk_16 7 (dk_at dksX2_runningNow_0 11 rfl rfl)
theorem dX2_runningNow_13 : decode cX2_runningNow 13 = .ok (.iaload, 1) := dk_46 (dk_at dksX2_runningNow_0 13 rfl rfl)
theorem dX2_runningNow_14 : decode cX2_runningNow 14 = .ok (.invokevirtual 305, 3) := dk_182 1 49 (dk_at dksX2_runningNow_0 14 rfl rfl)
theorem dX2_runningNow_17 : decode cX2_runningNow 17 = .ok (.ireturn, 1) := dk_172 (dk_at dksX2_runningNow_0 17 rfl rfl)
abbrev cX2_takesNow : ByteArray := prog_21_method_71_code
def yX2_takesNow : MethodName := ⟨RX2, "takesNow", "(II)I"⟩
def dkwX2_takesNow_0 : List UInt8 := [42, 42, 180, 0, 7, 5, 46, 27, 42, 180, 0, 7, 16, 7, 46, 28, 182, 1, 52, 172]
abbrev dktX2_takesNow_0 : List UInt8 := dkwX2_takesNow_0 ++ []
theorem dksX2_takesNow_0 : cX2_takesNow.data.toList.drop 0 = dktX2_takesNow_0 := by decide +kernel
theorem dX2_takesNow_0 : decode cX2_takesNow 0 = .ok (.aload_n 0, 1) := dk_42 (dk_at dksX2_takesNow_0 0 rfl rfl)
theorem dX2_takesNow_1 : decode cX2_takesNow 1 = .ok (.aload_n 0, 1) := dk_42 (dk_at dksX2_takesNow_0 1 rfl rfl)
theorem dX2_takesNow_2 : decode cX2_takesNow 2 = .ok (.getfield 7, 3) := dk_180 0 7 (dk_at dksX2_takesNow_0 2 rfl rfl)
theorem dX2_takesNow_5 : decode cX2_takesNow 5 = .ok (.iconst 2, 1) := dk_5 (dk_at dksX2_takesNow_0 5 rfl rfl)
theorem dX2_takesNow_6 : decode cX2_takesNow 6 = .ok (.iaload, 1) := dk_46 (dk_at dksX2_takesNow_0 6 rfl rfl)
theorem dX2_takesNow_7 : decode cX2_takesNow 7 = .ok (.iload_n 1, 1) := dk_27 (dk_at dksX2_takesNow_0 7 rfl rfl)
theorem dX2_takesNow_8 : decode cX2_takesNow 8 = .ok (.aload_n 0, 1) := dk_42 (dk_at dksX2_takesNow_0 8 rfl rfl)
theorem dX2_takesNow_9 : decode cX2_takesNow 9 = .ok (.getfield 7, 3) := dk_180 0 7 (dk_at dksX2_takesNow_0 9 rfl rfl)
theorem dX2_takesNow_12 : decode cX2_takesNow 12 = .ok (.bipush 7, 2) := dk_16 7 (dk_at dksX2_takesNow_0 12 rfl rfl)
theorem dX2_takesNow_14 : decode cX2_takesNow 14 = .ok (.iaload, 1) := dk_46 (dk_at dksX2_takesNow_0 14 rfl rfl)
theorem dX2_takesNow_15 : decode cX2_takesNow 15 = .ok (.iload_n 2, 1) := dk_28 (dk_at dksX2_takesNow_0 15 rfl rfl)
theorem dX2_takesNow_16 : decode cX2_takesNow 16 = .ok (.invokevirtual 308, 3) := dk_182 1 52 (dk_at dksX2_takesNow_0 16 rfl rfl)
theorem dX2_takesNow_19 : decode cX2_takesNow 19 = .ok (.ireturn, 1) := dk_172 (dk_at dksX2_takesNow_0 19 rfl rfl)
abbrev cX2_is : ByteArray := prog_21_method_89_code
def yX2_is : MethodName := ⟨RX2, "is", "(I)I"⟩
def dkwX2_is_0 : List UInt8 := [27, 3, 6, 184, 0, 66, 153, 0, 15, 42, 180, 0, 7, 16, 6, 27, 96, 46, 167, 0, 5, 16, 254, 172]
abbrev dktX2_is_0 : List UInt8 := dkwX2_is_0 ++ []
theorem dksX2_is_0 : cX2_is.data.toList.drop 0 = dktX2_is_0 := by decide +kernel
theorem dX2_is_0 : decode cX2_is 0 = .ok (.iload_n 1, 1) := dk_27 (dk_at dksX2_is_0 0 rfl rfl)
theorem dX2_is_1 : decode cX2_is 1 = .ok (.iconst 0, 1) := dk_3 (dk_at dksX2_is_0 1 rfl rfl)
theorem dX2_is_2 : decode cX2_is 2 = .ok (.iconst 3, 1) := dk_6 (dk_at dksX2_is_0 2 rfl rfl)
theorem dX2_is_3 : decode cX2_is 3 = .ok (.invokestatic 66, 3) := dk_184 0 66 (dk_at dksX2_is_0 3 rfl rfl)
theorem dX2_is_6 : decode cX2_is 6 = .ok (.ifCond .eq 15, 3) := dk_153 0 15 (dk_at dksX2_is_0 6 rfl rfl)
theorem dX2_is_9 : decode cX2_is 9 = .ok (.aload_n 0, 1) := dk_42 (dk_at dksX2_is_0 9 rfl rfl)
theorem dX2_is_10 : decode cX2_is 10 = .ok (.getfield 7, 3) := dk_180 0 7 (dk_at dksX2_is_0 10 rfl rfl)
theorem dX2_is_13 : decode cX2_is 13 = .ok (.bipush 6, 2) := dk_16 6 (dk_at dksX2_is_0 13 rfl rfl)
theorem dX2_is_15 : decode cX2_is 15 = .ok (.iload_n 1, 1) := dk_27 (dk_at dksX2_is_0 15 rfl rfl)
theorem dX2_is_16 : decode cX2_is 16 = .ok (.iadd, 1) := dk_96 (dk_at dksX2_is_0 16 rfl rfl)
theorem dX2_is_17 : decode cX2_is 17 = .ok (.iaload, 1) := dk_46 (dk_at dksX2_is_0 17 rfl rfl)
theorem dX2_is_18 : decode cX2_is 18 = .ok (.goto 5, 3) := dk_167 0 5 (dk_at dksX2_is_0 18 rfl rfl)
theorem dX2_is_21 : decode cX2_is 21 = .ok (.bipush (-2), 2) := dk_16 254 (dk_at dksX2_is_0 21 rfl rfl)
theorem dX2_is_23 : decode cX2_is 23 = .ok (.ireturn, 1) := dk_172 (dk_at dksX2_is_0 23 rfl rfl)
abbrev cX2_book : ByteArray := prog_21_method_90_code
def yX2_book : MethodName := ⟨RX2, "book", "(II)I"⟩
def dkwX2_book_4 : List UInt8 := [17, 1, 0, 112, 167, 0, 17, 28, 6, 160, 0, 10, 29, 16, 16, 112, 167, 0, 5, 16, 254, 172]
abbrev dktX2_book_4 : List UInt8 := dkwX2_book_4 ++ []
def dkwX2_book_3 : List UInt8 := [167, 0, 45, 28, 4, 160, 0, 12, 21, 4, 17, 1, 0, 108, 167, 0, 31, 28, 5, 160, 0, 12, 21, 4]
abbrev dktX2_book_3 : List UInt8 := dkwX2_book_3 ++ dktX2_book_4
def dkwX2_book_2 : List UInt8 := [180, 0, 7, 17, 10, 247, 5, 27, 104, 96, 4, 96, 46, 54, 4, 28, 154, 0, 10, 29, 16, 16, 108]
abbrev dktX2_book_2 : List UInt8 := dkwX2_book_2 ++ dktX2_book_3
def dkwX2_book_1 : List UInt8 := [184, 0, 66, 154, 0, 6, 16, 254, 172, 42, 180, 0, 7, 17, 10, 247, 5, 27, 104, 96, 46, 62, 42]
abbrev dktX2_book_1 : List UInt8 := dkwX2_book_1 ++ dktX2_book_2
def dkwX2_book_0 : List UInt8 := [27, 2, 160, 0, 11, 42, 180, 0, 7, 16, 10, 46, 172, 27, 3, 42, 180, 0, 7, 16, 10, 46, 4, 100]
abbrev dktX2_book_0 : List UInt8 := dkwX2_book_0 ++ dktX2_book_1
theorem dksX2_book_0 : cX2_book.data.toList.drop 0 = dktX2_book_0 := by decide +kernel
theorem dksX2_book_1 : cX2_book.data.toList.drop 24 = dktX2_book_1 := dk_seg dksX2_book_0 24 rfl rfl
theorem dksX2_book_2 : cX2_book.data.toList.drop 47 = dktX2_book_2 := dk_seg dksX2_book_1 23 rfl rfl
theorem dksX2_book_3 : cX2_book.data.toList.drop 70 = dktX2_book_3 := dk_seg dksX2_book_2 23 rfl rfl
theorem dksX2_book_4 : cX2_book.data.toList.drop 94 = dktX2_book_4 := dk_seg dksX2_book_3 24 rfl rfl
theorem dX2_book_0 : decode cX2_book 0 = .ok (.iload_n 1, 1) := dk_27 (dk_at dksX2_book_0 0 rfl rfl)
theorem dX2_book_1 : decode cX2_book 1 = .ok (.iconst (-1), 1) := dk_2 (dk_at dksX2_book_0 1 rfl rfl)
theorem dX2_book_2 : decode cX2_book 2 = .ok (.if_icmp .ne 11, 3) := dk_160 0 11 (dk_at dksX2_book_0 2 rfl rfl)
theorem dX2_book_5 : decode cX2_book 5 = .ok (.aload_n 0, 1) := dk_42 (dk_at dksX2_book_0 5 rfl rfl)
theorem dX2_book_6 : decode cX2_book 6 = .ok (.getfield 7, 3) := dk_180 0 7 (dk_at dksX2_book_0 6 rfl rfl)
theorem dX2_book_9 : decode cX2_book 9 = .ok (.bipush 10, 2) := dk_16 10 (dk_at dksX2_book_0 9 rfl rfl)
theorem dX2_book_11 : decode cX2_book 11 = .ok (.iaload, 1) := dk_46 (dk_at dksX2_book_0 11 rfl rfl)
theorem dX2_book_12 : decode cX2_book 12 = .ok (.ireturn, 1) := dk_172 (dk_at dksX2_book_0 12 rfl rfl)
theorem dX2_book_13 : decode cX2_book 13 = .ok (.iload_n 1, 1) := dk_27 (dk_at dksX2_book_0 13 rfl rfl)
theorem dX2_book_14 : decode cX2_book 14 = .ok (.iconst 0, 1) := dk_3 (dk_at dksX2_book_0 14 rfl rfl)
theorem dX2_book_15 : decode cX2_book 15 = .ok (.aload_n 0, 1) := dk_42 (dk_at dksX2_book_0 15 rfl rfl)
theorem dX2_book_16 : decode cX2_book 16 = .ok (.getfield 7, 3) := dk_180 0 7 (dk_at dksX2_book_0 16 rfl rfl)
theorem dX2_book_19 : decode cX2_book 19 = .ok (.bipush 10, 2) := dk_16 10 (dk_at dksX2_book_0 19 rfl rfl)
theorem dX2_book_21 : decode cX2_book 21 = .ok (.iaload, 1) := dk_46 (dk_at dksX2_book_0 21 rfl rfl)
theorem dX2_book_22 : decode cX2_book 22 = .ok (.iconst 1, 1) := dk_4 (dk_at dksX2_book_0 22 rfl rfl)
theorem dX2_book_23 : decode cX2_book 23 = .ok (.isub, 1) := dk_100 (dk_at dksX2_book_0 23 rfl rfl)
theorem dX2_book_24 : decode cX2_book 24 = .ok (.invokestatic 66, 3) := dk_184 0 66 (dk_at dksX2_book_1 0 rfl rfl)
theorem dX2_book_27 : decode cX2_book 27 = .ok (.ifCond .ne 6, 3) := dk_154 0 6 (dk_at dksX2_book_1 3 rfl rfl)
theorem dX2_book_30 : decode cX2_book 30 = .ok (.bipush (-2), 2) := dk_16 254 (dk_at dksX2_book_1 6 rfl rfl)
theorem dX2_book_32 : decode cX2_book 32 = .ok (.ireturn, 1) := dk_172 (dk_at dksX2_book_1 8 rfl rfl)
theorem dX2_book_33 : decode cX2_book 33 = .ok (.aload_n 0, 1) := dk_42 (dk_at dksX2_book_1 9 rfl rfl)
theorem dX2_book_34 : decode cX2_book 34 = .ok (.getfield 7, 3) := dk_180 0 7 (dk_at dksX2_book_1 10 rfl rfl)
theorem dX2_book_37 : decode cX2_book 37 = .ok (.sipush 2807, 3) := dk_17 10 247 (dk_at dksX2_book_1 13 rfl rfl)
theorem dX2_book_40 : decode cX2_book 40 = .ok (.iconst 2, 1) := dk_5 (dk_at dksX2_book_1 16 rfl rfl)
theorem dX2_book_41 : decode cX2_book 41 = .ok (.iload_n 1, 1) := dk_27 (dk_at dksX2_book_1 17 rfl rfl)
theorem dX2_book_42 : decode cX2_book 42 = .ok (.imul, 1) := dk_104 (dk_at dksX2_book_1 18 rfl rfl)
theorem dX2_book_43 : decode cX2_book 43 = .ok (.iadd, 1) := dk_96 (dk_at dksX2_book_1 19 rfl rfl)
theorem dX2_book_44 : decode cX2_book 44 = .ok (.iaload, 1) := dk_46 (dk_at dksX2_book_1 20 rfl rfl)
theorem dX2_book_45 : decode cX2_book 45 = .ok (.istore_n 3, 1) := dk_62 (dk_at dksX2_book_1 21 rfl rfl)
theorem dX2_book_46 : decode cX2_book 46 = .ok (.aload_n 0, 1) := dk_42 (dk_at dksX2_book_1 22 rfl rfl)
theorem dX2_book_47 : decode cX2_book 47 = .ok (.getfield 7, 3) := dk_180 0 7 (dk_at dksX2_book_2 0 rfl rfl)
theorem dX2_book_50 : decode cX2_book 50 = .ok (.sipush 2807, 3) := dk_17 10 247 (dk_at dksX2_book_2 3 rfl rfl)
theorem dX2_book_53 : decode cX2_book 53 = .ok (.iconst 2, 1) := dk_5 (dk_at dksX2_book_2 6 rfl rfl)
theorem dX2_book_54 : decode cX2_book 54 = .ok (.iload_n 1, 1) := dk_27 (dk_at dksX2_book_2 7 rfl rfl)
theorem dX2_book_55 : decode cX2_book 55 = .ok (.imul, 1) := dk_104 (dk_at dksX2_book_2 8 rfl rfl)
theorem dX2_book_56 : decode cX2_book 56 = .ok (.iadd, 1) := dk_96 (dk_at dksX2_book_2 9 rfl rfl)
theorem dX2_book_57 : decode cX2_book 57 = .ok (.iconst 1, 1) := dk_4 (dk_at dksX2_book_2 10 rfl rfl)
theorem dX2_book_58 : decode cX2_book 58 = .ok (.iadd, 1) := dk_96 (dk_at dksX2_book_2 11 rfl rfl)
theorem dX2_book_59 : decode cX2_book 59 = .ok (.iaload, 1) := dk_46 (dk_at dksX2_book_2 12 rfl rfl)
theorem dX2_book_60 : decode cX2_book 60 = .ok (.istore 4, 2) := dk_54 4 (dk_at dksX2_book_2 13 rfl rfl)
theorem dX2_book_62 : decode cX2_book 62 = .ok (.iload_n 2, 1) := dk_28 (dk_at dksX2_book_2 15 rfl rfl)
theorem dX2_book_63 : decode cX2_book 63 = .ok (.ifCond .ne 10, 3) := dk_154 0 10 (dk_at dksX2_book_2 16 rfl rfl)
theorem dX2_book_66 : decode cX2_book 66 = .ok (.iload_n 3, 1) := dk_29 (dk_at dksX2_book_2 19 rfl rfl)
theorem dX2_book_67 : decode cX2_book 67 = .ok (.bipush 16, 2) := dk_16 16 (dk_at dksX2_book_2 20 rfl rfl)
theorem dX2_book_69 : decode cX2_book 69 = .ok (.idiv, 1) := dk_108 (dk_at dksX2_book_2 22 rfl rfl)
theorem dX2_book_70 : decode cX2_book 70 = .ok (.goto 45, 3) := dk_167 0 45 (dk_at dksX2_book_3 0 rfl rfl)
theorem dX2_book_73 : decode cX2_book 73 = .ok (.iload_n 2, 1) := dk_28 (dk_at dksX2_book_3 3 rfl rfl)
theorem dX2_book_74 : decode cX2_book 74 = .ok (.iconst 1, 1) := dk_4 (dk_at dksX2_book_3 4 rfl rfl)
theorem dX2_book_75 : decode cX2_book 75 = .ok (.if_icmp .ne 12, 3) := dk_160 0 12 (dk_at dksX2_book_3 5 rfl rfl)
theorem dX2_book_78 : decode cX2_book 78 = .ok (.iload 4, 2) := dk_21 4 (dk_at dksX2_book_3 8 rfl rfl)
theorem dX2_book_80 : decode cX2_book 80 = .ok (.sipush 256, 3) := dk_17 1 0 (dk_at dksX2_book_3 10 rfl rfl)
theorem dX2_book_83 : decode cX2_book 83 = .ok (.idiv, 1) := dk_108 (dk_at dksX2_book_3 13 rfl rfl)
theorem dX2_book_84 : decode cX2_book 84 = .ok (.goto 31, 3) := dk_167 0 31 (dk_at dksX2_book_3 14 rfl rfl)
theorem dX2_book_87 : decode cX2_book 87 = .ok (.iload_n 2, 1) := dk_28 (dk_at dksX2_book_3 17 rfl rfl)
theorem dX2_book_88 : decode cX2_book 88 = .ok (.iconst 2, 1) := dk_5 (dk_at dksX2_book_3 18 rfl rfl)
theorem dX2_book_89 : decode cX2_book 89 = .ok (.if_icmp .ne 12, 3) := dk_160 0 12 (dk_at dksX2_book_3 19 rfl rfl)
theorem dX2_book_92 : decode cX2_book 92 = .ok (.iload 4, 2) := dk_21 4 (dk_at dksX2_book_3 22 rfl rfl)
theorem dX2_book_94 : decode cX2_book 94 = .ok (.sipush 256, 3) := dk_17 1 0 (dk_at dksX2_book_4 0 rfl rfl)
theorem dX2_book_97 : decode cX2_book 97 = .ok (.irem, 1) := dk_112 (dk_at dksX2_book_4 3 rfl rfl)
theorem dX2_book_98 : decode cX2_book 98 = .ok (.goto 17, 3) := dk_167 0 17 (dk_at dksX2_book_4 4 rfl rfl)
theorem dX2_book_101 : decode cX2_book 101 = .ok (.iload_n 2, 1) := dk_28 (dk_at dksX2_book_4 7 rfl rfl)
theorem dX2_book_102 : decode cX2_book 102 = .ok (.iconst 3, 1) := dk_6 (dk_at dksX2_book_4 8 rfl rfl)
theorem dX2_book_103 : decode cX2_book 103 = .ok (.if_icmp .ne 10, 3) := dk_160 0 10 (dk_at dksX2_book_4 9 rfl rfl)
theorem dX2_book_106 : decode cX2_book 106 = .ok (.iload_n 3, 1) := dk_29 (dk_at dksX2_book_4 12 rfl rfl)
theorem dX2_book_107 : decode cX2_book 107 = .ok (.bipush 16, 2) := dk_16 16 (dk_at dksX2_book_4 13 rfl rfl)
theorem dX2_book_109 : decode cX2_book 109 = .ok (.irem, 1) := dk_112 (dk_at dksX2_book_4 15 rfl rfl)
theorem dX2_book_110 : decode cX2_book 110 = .ok (.goto 5, 3) := dk_167 0 5 (dk_at dksX2_book_4 16 rfl rfl)
theorem dX2_book_113 : decode cX2_book 113 = .ok (.bipush (-2), 2) := dk_16 254 (dk_at dksX2_book_4 19 rfl rfl)
theorem dX2_book_115 : decode cX2_book 115 = .ok (.ireturn, 1) := dk_172 (dk_at dksX2_book_4 21 rfl rfl)
abbrev cX2_ledger : ByteArray := prog_21_method_91_code
def yX2_ledger : MethodName := ⟨RX2, "ledger", "(I)I"⟩
def dkwX2_ledger_2 : List UInt8 := [167, 0, 13, 42, 29, 5, 182, 1, 118, 27, 122, 4, 126, 96, 61, 132, 3, 1, 167, 255, 212, 28, 172]
abbrev dktX2_ledger_2 : List UInt8 := dkwX2_ledger_2 ++ []
def dkwX2_ledger_1 : List UInt8 := [180, 0, 7, 16, 10, 46, 162, 0, 39, 28, 27, 2, 160, 0, 15, 42, 29, 5, 182, 1, 118, 184, 1, 42]
abbrev dktX2_ledger_1 : List UInt8 := dkwX2_ledger_1 ++ dktX2_ledger_2
def dkwX2_ledger_0 : List UInt8 := [27, 2, 159, 0, 14, 42, 27, 182, 1, 79, 154, 0, 6, 16, 254, 172, 3, 61, 3, 62, 29, 42]
abbrev dktX2_ledger_0 : List UInt8 := dkwX2_ledger_0 ++ dktX2_ledger_1
theorem dksX2_ledger_0 : cX2_ledger.data.toList.drop 0 = dktX2_ledger_0 := by decide +kernel
theorem dksX2_ledger_1 : cX2_ledger.data.toList.drop 22 = dktX2_ledger_1 := dk_seg dksX2_ledger_0 22 rfl rfl
theorem dksX2_ledger_2 : cX2_ledger.data.toList.drop 46 = dktX2_ledger_2 := dk_seg dksX2_ledger_1 24 rfl rfl
theorem dX2_ledger_0 : decode cX2_ledger 0 = .ok (.iload_n 1, 1) := dk_27 (dk_at dksX2_ledger_0 0 rfl rfl)
theorem dX2_ledger_1 : decode cX2_ledger 1 = .ok (.iconst (-1), 1) := dk_2 (dk_at dksX2_ledger_0 1 rfl rfl)
theorem dX2_ledger_2 : decode cX2_ledger 2 = .ok (.if_icmp .eq 14, 3) := dk_159 0 14 (dk_at dksX2_ledger_0 2 rfl rfl)
theorem dX2_ledger_5 : decode cX2_ledger 5 = .ok (.aload_n 0, 1) := dk_42 (dk_at dksX2_ledger_0 5 rfl rfl)
theorem dX2_ledger_6 : decode cX2_ledger 6 = .ok (.iload_n 1, 1) := dk_27 (dk_at dksX2_ledger_0 6 rfl rfl)
theorem dX2_ledger_7 : decode cX2_ledger 7 = .ok (.invokevirtual 335, 3) := dk_182 1 79 (dk_at dksX2_ledger_0 7 rfl rfl)
theorem dX2_ledger_10 : decode cX2_ledger 10 = .ok (.ifCond .ne 6, 3) := dk_154 0 6 (dk_at dksX2_ledger_0 10 rfl rfl)
theorem dX2_ledger_13 : decode cX2_ledger 13 = .ok (.bipush (-2), 2) := dk_16 254 (dk_at dksX2_ledger_0 13 rfl rfl)
theorem dX2_ledger_15 : decode cX2_ledger 15 = .ok (.ireturn, 1) := dk_172 (dk_at dksX2_ledger_0 15 rfl rfl)
theorem dX2_ledger_16 : decode cX2_ledger 16 = .ok (.iconst 0, 1) := dk_3 (dk_at dksX2_ledger_0 16 rfl rfl)
theorem dX2_ledger_17 : decode cX2_ledger 17 = .ok (.istore_n 2, 1) := dk_61 (dk_at dksX2_ledger_0 17 rfl rfl)
theorem dX2_ledger_18 : decode cX2_ledger 18 = .ok (.iconst 0, 1) := dk_3 (dk_at dksX2_ledger_0 18 rfl rfl)
theorem dX2_ledger_19 : decode cX2_ledger 19 = .ok (.istore_n 3, 1) := dk_62 (dk_at dksX2_ledger_0 19 rfl rfl)
theorem dX2_ledger_20 : decode cX2_ledger 20 = .ok (.iload_n 3, 1) := dk_29 (dk_at dksX2_ledger_0 20 rfl rfl)
theorem dX2_ledger_21 : decode cX2_ledger 21 = .ok (.aload_n 0, 1) := dk_42 (dk_at dksX2_ledger_0 21 rfl rfl)
theorem dX2_ledger_22 : decode cX2_ledger 22 = .ok (.getfield 7, 3) := dk_180 0 7 (dk_at dksX2_ledger_1 0 rfl rfl)
theorem dX2_ledger_25 : decode cX2_ledger 25 = .ok (.bipush 10, 2) := dk_16 10 (dk_at dksX2_ledger_1 3 rfl rfl)
theorem dX2_ledger_27 : decode cX2_ledger 27 = .ok (.iaload, 1) := dk_46 (dk_at dksX2_ledger_1 5 rfl rfl)
theorem dX2_ledger_28 : decode cX2_ledger 28 = .ok (.if_icmp .ge 39, 3) := dk_162 0 39 (dk_at dksX2_ledger_1 6 rfl rfl)
theorem dX2_ledger_31 : decode cX2_ledger 31 = .ok (.iload_n 2, 1) := dk_28 (dk_at dksX2_ledger_1 9 rfl rfl)
theorem dX2_ledger_32 : decode cX2_ledger 32 = .ok (.iload_n 1, 1) := dk_27 (dk_at dksX2_ledger_1 10 rfl rfl)
theorem dX2_ledger_33 : decode cX2_ledger 33 = .ok (.iconst (-1), 1) := dk_2 (dk_at dksX2_ledger_1 11 rfl rfl)
theorem dX2_ledger_34 : decode cX2_ledger 34 = .ok (.if_icmp .ne 15, 3) := dk_160 0 15 (dk_at dksX2_ledger_1 12 rfl rfl)
theorem dX2_ledger_37 : decode cX2_ledger 37 = .ok (.aload_n 0, 1) := dk_42 (dk_at dksX2_ledger_1 15 rfl rfl)
theorem dX2_ledger_38 : decode cX2_ledger 38 = .ok (.iload_n 3, 1) := dk_29 (dk_at dksX2_ledger_1 16 rfl rfl)
theorem dX2_ledger_39 : decode cX2_ledger 39 = .ok (.iconst 2, 1) := dk_5 (dk_at dksX2_ledger_1 17 rfl rfl)
theorem dX2_ledger_40 : decode cX2_ledger 40 = .ok (.invokevirtual 374, 3) := dk_182 1 118 (dk_at dksX2_ledger_1 18 rfl rfl)
theorem dX2_ledger_43 : decode cX2_ledger 43 = .ok (.invokestatic 298, 3) := dk_184 1 42 (dk_at dksX2_ledger_1 21 rfl rfl)
theorem dX2_ledger_46 : decode cX2_ledger 46 = .ok (.goto 13, 3) := dk_167 0 13 (dk_at dksX2_ledger_2 0 rfl rfl)
theorem dX2_ledger_49 : decode cX2_ledger 49 = .ok (.aload_n 0, 1) := dk_42 (dk_at dksX2_ledger_2 3 rfl rfl)
theorem dX2_ledger_50 : decode cX2_ledger 50 = .ok (.iload_n 3, 1) := dk_29 (dk_at dksX2_ledger_2 4 rfl rfl)
theorem dX2_ledger_51 : decode cX2_ledger 51 = .ok (.iconst 2, 1) := dk_5 (dk_at dksX2_ledger_2 5 rfl rfl)
theorem dX2_ledger_52 : decode cX2_ledger 52 = .ok (.invokevirtual 374, 3) := dk_182 1 118 (dk_at dksX2_ledger_2 6 rfl rfl)
theorem dX2_ledger_55 : decode cX2_ledger 55 = .ok (.iload_n 1, 1) := dk_27 (dk_at dksX2_ledger_2 9 rfl rfl)
theorem dX2_ledger_56 : decode cX2_ledger 56 = .ok (.ishr, 1) := dk_122 (dk_at dksX2_ledger_2 10 rfl rfl)
theorem dX2_ledger_57 : decode cX2_ledger 57 = .ok (.iconst 1, 1) := dk_4 (dk_at dksX2_ledger_2 11 rfl rfl)
theorem dX2_ledger_58 : decode cX2_ledger 58 = .ok (.iand, 1) := dk_126 (dk_at dksX2_ledger_2 12 rfl rfl)
theorem dX2_ledger_59 : decode cX2_ledger 59 = .ok (.iadd, 1) := dk_96 (dk_at dksX2_ledger_2 13 rfl rfl)
theorem dX2_ledger_60 : decode cX2_ledger 60 = .ok (.istore_n 2, 1) := dk_61 (dk_at dksX2_ledger_2 14 rfl rfl)
theorem dX2_ledger_61 : decode cX2_ledger 61 = .ok (.iinc 3 1, 3) := dk_132 3 1 (dk_at dksX2_ledger_2 15 rfl rfl)
theorem dX2_ledger_64 : decode cX2_ledger 64 = .ok (.goto (-44), 3) := dk_167 255 212 (dk_at dksX2_ledger_2 18 rfl rfl)
theorem dX2_ledger_67 : decode cX2_ledger 67 = .ok (.iload_n 2, 1) := dk_28 (dk_at dksX2_ledger_2 21 rfl rfl)
theorem dX2_ledger_68 : decode cX2_ledger 68 = .ok (.ireturn, 1) := dk_172 (dk_at dksX2_ledger_2 22 rfl rfl)
abbrev cX2_latest : ByteArray := prog_21_method_92_code
def yX2_latest : MethodName := ⟨RX2, "latest", "()I"⟩
def dkwX2_latest_2 : List UInt8 := [27, 172]
abbrev dktX2_latest_2 : List UInt8 := dkwX2_latest_2 ++ []
def dkwX2_latest_1 : List UInt8 := [160, 0, 7, 3, 167, 0, 9, 42, 27, 5, 182, 0, 74, 164, 0, 5, 28, 60, 132, 2, 1, 167, 255, 217]
abbrev dktX2_latest_1 : List UInt8 := dkwX2_latest_1 ++ dktX2_latest_2
def dkwX2_latest_0 : List UInt8 := [2, 60, 3, 61, 28, 42, 180, 0, 7, 3, 46, 162, 0, 35, 42, 28, 5, 182, 0, 74, 27, 2]
abbrev dktX2_latest_0 : List UInt8 := dkwX2_latest_0 ++ dktX2_latest_1
theorem dksX2_latest_0 : cX2_latest.data.toList.drop 0 = dktX2_latest_0 := by decide +kernel
theorem dksX2_latest_1 : cX2_latest.data.toList.drop 22 = dktX2_latest_1 := dk_seg dksX2_latest_0 22 rfl rfl
theorem dksX2_latest_2 : cX2_latest.data.toList.drop 46 = dktX2_latest_2 := dk_seg dksX2_latest_1 24 rfl rfl
theorem dX2_latest_0 : decode cX2_latest 0 = .ok (.iconst (-1), 1) := dk_2 (dk_at dksX2_latest_0 0 rfl rfl)
theorem dX2_latest_1 : decode cX2_latest 1 = .ok (.istore_n 1, 1) := dk_60 (dk_at dksX2_latest_0 1 rfl rfl)
theorem dX2_latest_2 : decode cX2_latest 2 = .ok (.iconst 0, 1) := dk_3 (dk_at dksX2_latest_0 2 rfl rfl)
theorem dX2_latest_3 : decode cX2_latest 3 = .ok (.istore_n 2, 1) := dk_61 (dk_at dksX2_latest_0 3 rfl rfl)
theorem dX2_latest_4 : decode cX2_latest 4 = .ok (.iload_n 2, 1) := dk_28 (dk_at dksX2_latest_0 4 rfl rfl)
theorem dX2_latest_5 : decode cX2_latest 5 = .ok (.aload_n 0, 1) := dk_42 (dk_at dksX2_latest_0 5 rfl rfl)
theorem dX2_latest_6 : decode cX2_latest 6 = .ok (.getfield 7, 3) := dk_180 0 7 (dk_at dksX2_latest_0 6 rfl rfl)
theorem dX2_latest_9 : decode cX2_latest 9 = .ok (.iconst 0, 1) := dk_3 (dk_at dksX2_latest_0 9 rfl rfl)
theorem dX2_latest_10 : decode cX2_latest 10 = .ok (.iaload, 1) := dk_46 (dk_at dksX2_latest_0 10 rfl rfl)
theorem dX2_latest_11 : decode cX2_latest 11 = .ok (.if_icmp .ge 35, 3) := dk_162 0 35 (dk_at dksX2_latest_0 11 rfl rfl)
theorem dX2_latest_14 : decode cX2_latest 14 = .ok (.aload_n 0, 1) := dk_42 (dk_at dksX2_latest_0 14 rfl rfl)
theorem dX2_latest_15 : decode cX2_latest 15 = .ok (.iload_n 2, 1) := dk_28 (dk_at dksX2_latest_0 15 rfl rfl)
theorem dX2_latest_16 : decode cX2_latest 16 = .ok (.iconst 2, 1) := dk_5 (dk_at dksX2_latest_0 16 rfl rfl)
theorem dX2_latest_17 : decode cX2_latest 17 = .ok (.invokevirtual 74, 3) := dk_182 0 74 (dk_at dksX2_latest_0 17 rfl rfl)
theorem dX2_latest_20 : decode cX2_latest 20 = .ok (.iload_n 1, 1) := dk_27 (dk_at dksX2_latest_0 20 rfl rfl)
theorem dX2_latest_21 : decode cX2_latest 21 = .ok (.iconst (-1), 1) := dk_2 (dk_at dksX2_latest_0 21 rfl rfl)
theorem dX2_latest_22 : decode cX2_latest 22 = .ok (.if_icmp .ne 7, 3) := dk_160 0 7 (dk_at dksX2_latest_1 0 rfl rfl)
theorem dX2_latest_25 : decode cX2_latest 25 = .ok (.iconst 0, 1) := dk_3 (dk_at dksX2_latest_1 3 rfl rfl)
theorem dX2_latest_26 : decode cX2_latest 26 = .ok (.goto 9, 3) := dk_167 0 9 (dk_at dksX2_latest_1 4 rfl rfl)
theorem dX2_latest_29 : decode cX2_latest 29 = .ok (.aload_n 0, 1) := dk_42 (dk_at dksX2_latest_1 7 rfl rfl)
theorem dX2_latest_30 : decode cX2_latest 30 = .ok (.iload_n 1, 1) := dk_27 (dk_at dksX2_latest_1 8 rfl rfl)
theorem dX2_latest_31 : decode cX2_latest 31 = .ok (.iconst 2, 1) := dk_5 (dk_at dksX2_latest_1 9 rfl rfl)
theorem dX2_latest_32 : decode cX2_latest 32 = .ok (.invokevirtual 74, 3) := dk_182 0 74 (dk_at dksX2_latest_1 10 rfl rfl)
theorem dX2_latest_35 : decode cX2_latest 35 = .ok (.if_icmp .le 5, 3) := dk_164 0 5 (dk_at dksX2_latest_1 13 rfl rfl)
theorem dX2_latest_38 : decode cX2_latest 38 = .ok (.iload_n 2, 1) := dk_28 (dk_at dksX2_latest_1 16 rfl rfl)
theorem dX2_latest_39 : decode cX2_latest 39 = .ok (.istore_n 1, 1) := dk_60 (dk_at dksX2_latest_1 17 rfl rfl)
theorem dX2_latest_40 : decode cX2_latest 40 = .ok (.iinc 2 1, 3) := dk_132 2 1 (dk_at dksX2_latest_1 18 rfl rfl)
theorem dX2_latest_43 : decode cX2_latest 43 = .ok (.goto (-39), 3) := dk_167 255 217 (dk_at dksX2_latest_1 21 rfl rfl)
theorem dX2_latest_46 : decode cX2_latest 46 = .ok (.iload_n 1, 1) := dk_27 (dk_at dksX2_latest_2 0 rfl rfl)
theorem dX2_latest_47 : decode cX2_latest 47 = .ok (.ireturn, 1) := dk_172 (dk_at dksX2_latest_2 1 rfl rfl)
abbrev cX2_crowded : ByteArray := prog_21_method_93_code
def yX2_crowded : MethodName := ⟨RX2, "crowded", "()I"⟩
def dkwX2_crowded_3 : List UInt8 := [163, 0, 6, 167, 0, 8, 21, 4, 61, 29, 60, 132, 3, 1, 167, 255, 178, 27, 172]
abbrev dktX2_crowded_3 : List UInt8 := dkwX2_crowded_3 ++ []
def dkwX2_crowded_2 : List UInt8 := [184, 0, 246, 153, 0, 7, 4, 167, 0, 4, 3, 96, 54, 4, 132, 5, 1, 167, 255, 209, 21, 4, 28]
abbrev dktX2_crowded_2 : List UInt8 := dkwX2_crowded_2 ++ dktX2_crowded_3
def dkwX2_crowded_1 : List UInt8 := [46, 162, 0, 42, 21, 4, 42, 21, 5, 6, 182, 0, 74, 29, 160, 0, 19, 42, 182, 1, 112, 21, 5]
abbrev dktX2_crowded_1 : List UInt8 := dkwX2_crowded_1 ++ dktX2_crowded_2
def dkwX2_crowded_0 : List UInt8 := [3, 60, 3, 61, 3, 62, 29, 7, 162, 0, 79, 3, 54, 4, 3, 54, 5, 21, 5, 42, 180, 0, 7, 3]
abbrev dktX2_crowded_0 : List UInt8 := dkwX2_crowded_0 ++ dktX2_crowded_1
theorem dksX2_crowded_0 : cX2_crowded.data.toList.drop 0 = dktX2_crowded_0 := by decide +kernel
theorem dksX2_crowded_1 : cX2_crowded.data.toList.drop 24 = dktX2_crowded_1 := dk_seg dksX2_crowded_0 24 rfl rfl
theorem dksX2_crowded_2 : cX2_crowded.data.toList.drop 47 = dktX2_crowded_2 := dk_seg dksX2_crowded_1 23 rfl rfl
theorem dksX2_crowded_3 : cX2_crowded.data.toList.drop 70 = dktX2_crowded_3 := dk_seg dksX2_crowded_2 23 rfl rfl
theorem dX2_crowded_0 : decode cX2_crowded 0 = .ok (.iconst 0, 1) := dk_3 (dk_at dksX2_crowded_0 0 rfl rfl)
theorem dX2_crowded_1 : decode cX2_crowded 1 = .ok (.istore_n 1, 1) := dk_60 (dk_at dksX2_crowded_0 1 rfl rfl)
theorem dX2_crowded_2 : decode cX2_crowded 2 = .ok (.iconst 0, 1) := dk_3 (dk_at dksX2_crowded_0 2 rfl rfl)
theorem dX2_crowded_3 : decode cX2_crowded 3 = .ok (.istore_n 2, 1) := dk_61 (dk_at dksX2_crowded_0 3 rfl rfl)
theorem dX2_crowded_4 : decode cX2_crowded 4 = .ok (.iconst 0, 1) := dk_3 (dk_at dksX2_crowded_0 4 rfl rfl)
theorem dX2_crowded_5 : decode cX2_crowded 5 = .ok (.istore_n 3, 1) := dk_62 (dk_at dksX2_crowded_0 5 rfl rfl)
theorem dX2_crowded_6 : decode cX2_crowded 6 = .ok (.iload_n 3, 1) := dk_29 (dk_at dksX2_crowded_0 6 rfl rfl)
theorem dX2_crowded_7 : decode cX2_crowded 7 = .ok (.iconst 4, 1) := dk_7 (dk_at dksX2_crowded_0 7 rfl rfl)
theorem dX2_crowded_8 : decode cX2_crowded 8 = .ok (.if_icmp .ge 79, 3) := dk_162 0 79 (dk_at dksX2_crowded_0 8 rfl rfl)
theorem dX2_crowded_11 : decode cX2_crowded 11 = .ok (.iconst 0, 1) := dk_3 (dk_at dksX2_crowded_0 11 rfl rfl)
theorem dX2_crowded_12 : decode cX2_crowded 12 = .ok (.istore 4, 2) := dk_54 4 (dk_at dksX2_crowded_0 12 rfl rfl)
theorem dX2_crowded_14 : decode cX2_crowded 14 = .ok (.iconst 0, 1) := dk_3 (dk_at dksX2_crowded_0 14 rfl rfl)
theorem dX2_crowded_15 : decode cX2_crowded 15 = .ok (.istore 5, 2) := dk_54 5 (dk_at dksX2_crowded_0 15 rfl rfl)
theorem dX2_crowded_17 : decode cX2_crowded 17 = .ok (.iload 5, 2) := dk_21 5 (dk_at dksX2_crowded_0 17 rfl rfl)
theorem dX2_crowded_19 : decode cX2_crowded 19 = .ok (.aload_n 0, 1) := dk_42 (dk_at dksX2_crowded_0 19 rfl rfl)
theorem dX2_crowded_20 : decode cX2_crowded 20 = .ok (.getfield 7, 3) := dk_180 0 7 (dk_at dksX2_crowded_0 20 rfl rfl)
theorem dX2_crowded_23 : decode cX2_crowded 23 = .ok (.iconst 0, 1) := dk_3 (dk_at dksX2_crowded_0 23 rfl rfl)
theorem dX2_crowded_24 : decode cX2_crowded 24 = .ok (.iaload, 1) := dk_46 (dk_at dksX2_crowded_1 0 rfl rfl)
theorem dX2_crowded_25 : decode cX2_crowded 25 = .ok (.if_icmp .ge 42, 3) := dk_162 0 42 (dk_at dksX2_crowded_1 1 rfl rfl)
theorem dX2_crowded_28 : decode cX2_crowded 28 = .ok (.iload 4, 2) := dk_21 4 (dk_at dksX2_crowded_1 4 rfl rfl)
theorem dX2_crowded_30 : decode cX2_crowded 30 = .ok (.aload_n 0, 1) := dk_42 (dk_at dksX2_crowded_1 6 rfl rfl)
theorem dX2_crowded_31 : decode cX2_crowded 31 = .ok (.iload 5, 2) := dk_21 5 (dk_at dksX2_crowded_1 7 rfl rfl)
theorem dX2_crowded_33 : decode cX2_crowded 33 = .ok (.iconst 3, 1) := dk_6 (dk_at dksX2_crowded_1 9 rfl rfl)
theorem dX2_crowded_34 : decode cX2_crowded 34 = .ok (.invokevirtual 74, 3) := dk_182 0 74 (dk_at dksX2_crowded_1 10 rfl rfl)
theorem dX2_crowded_37 : decode cX2_crowded 37 = .ok (.iload_n 3, 1) := dk_29 (dk_at dksX2_crowded_1 13 rfl rfl)
theorem dX2_crowded_38 : decode cX2_crowded 38 = .ok (.if_icmp .ne 19, 3) := dk_160 0 19 (dk_at dksX2_crowded_1 14 rfl rfl)
theorem dX2_crowded_41 : decode cX2_crowded 41 = .ok (.aload_n 0, 1) := dk_42 (dk_at dksX2_crowded_1 17 rfl rfl)
theorem dX2_crowded_42 : decode cX2_crowded 42 = .ok (.invokevirtual 368, 3) := dk_182 1 112 (dk_at dksX2_crowded_1 18 rfl rfl)
theorem dX2_crowded_45 : decode cX2_crowded 45 = .ok (.iload 5, 2) := dk_21 5 (dk_at dksX2_crowded_1 21 rfl rfl)
theorem dX2_crowded_47 : decode cX2_crowded 47 = .ok (.invokestatic 246, 3) := dk_184 0 246 (dk_at dksX2_crowded_2 0 rfl rfl)
theorem dX2_crowded_50 : decode cX2_crowded 50 = .ok (.ifCond .eq 7, 3) := dk_153 0 7 (dk_at dksX2_crowded_2 3 rfl rfl)
theorem dX2_crowded_53 : decode cX2_crowded 53 = .ok (.iconst 1, 1) := dk_4 (dk_at dksX2_crowded_2 6 rfl rfl)
theorem dX2_crowded_54 : decode cX2_crowded 54 = .ok (.goto 4, 3) := dk_167 0 4 (dk_at dksX2_crowded_2 7 rfl rfl)
theorem dX2_crowded_57 : decode cX2_crowded 57 = .ok (.iconst 0, 1) := dk_3 (dk_at dksX2_crowded_2 10 rfl rfl)
theorem dX2_crowded_58 : decode cX2_crowded 58 = .ok (.iadd, 1) := dk_96 (dk_at dksX2_crowded_2 11 rfl rfl)
theorem dX2_crowded_59 : decode cX2_crowded 59 = .ok (.istore 4, 2) := dk_54 4 (dk_at dksX2_crowded_2 12 rfl rfl)
theorem dX2_crowded_61 : decode cX2_crowded 61 = .ok (.iinc 5 1, 3) := dk_132 5 1 (dk_at dksX2_crowded_2 14 rfl rfl)
theorem dX2_crowded_64 : decode cX2_crowded 64 = .ok (.goto (-47), 3) := dk_167 255 209 (dk_at dksX2_crowded_2 17 rfl rfl)
theorem dX2_crowded_67 : decode cX2_crowded 67 = .ok (.iload 4, 2) := dk_21 4 (dk_at dksX2_crowded_2 20 rfl rfl)
theorem dX2_crowded_69 : decode cX2_crowded 69 = .ok (.iload_n 2, 1) := dk_28 (dk_at dksX2_crowded_2 22 rfl rfl)
theorem dX2_crowded_70 : decode cX2_crowded 70 = .ok (.if_icmp .gt 6, 3) := dk_163 0 6 (dk_at dksX2_crowded_3 0 rfl rfl)
theorem dX2_crowded_73 : decode cX2_crowded 73 = .ok (.goto 8, 3) := dk_167 0 8 (dk_at dksX2_crowded_3 3 rfl rfl)
theorem dX2_crowded_76 : decode cX2_crowded 76 = .ok (.iload 4, 2) := dk_21 4 (dk_at dksX2_crowded_3 6 rfl rfl)
theorem dX2_crowded_78 : decode cX2_crowded 78 = .ok (.istore_n 2, 1) := dk_61 (dk_at dksX2_crowded_3 8 rfl rfl)
theorem dX2_crowded_79 : decode cX2_crowded 79 = .ok (.iload_n 3, 1) := dk_29 (dk_at dksX2_crowded_3 9 rfl rfl)
theorem dX2_crowded_80 : decode cX2_crowded 80 = .ok (.istore_n 1, 1) := dk_60 (dk_at dksX2_crowded_3 10 rfl rfl)
theorem dX2_crowded_81 : decode cX2_crowded 81 = .ok (.iinc 3 1, 3) := dk_132 3 1 (dk_at dksX2_crowded_3 11 rfl rfl)
theorem dX2_crowded_84 : decode cX2_crowded 84 = .ok (.goto (-78), 3) := dk_167 255 178 (dk_at dksX2_crowded_3 14 rfl rfl)
theorem dX2_crowded_87 : decode cX2_crowded 87 = .ok (.iload_n 1, 1) := dk_27 (dk_at dksX2_crowded_3 17 rfl rfl)
theorem dX2_crowded_88 : decode cX2_crowded 88 = .ok (.ireturn, 1) := dk_172 (dk_at dksX2_crowded_3 18 rfl rfl)
abbrev cX2_deaf : ByteArray := prog_21_method_94_code
def yX2_deaf : MethodName := ⟨RX2, "deaf", "()I"⟩
def dkwX2_deaf_2 : List UInt8 := [172]
abbrev dktX2_deaf_2 : List UInt8 := dkwX2_deaf_2 ++ []
def dkwX2_deaf_1 : List UInt8 := [42, 182, 0, 70, 126, 154, 0, 9, 4, 28, 120, 167, 0, 4, 3, 128, 60, 132, 2, 1, 167, 255, 216, 27]
abbrev dktX2_deaf_1 : List UInt8 := dkwX2_deaf_1 ++ dktX2_deaf_2
def dkwX2_deaf_0 : List UInt8 := [3, 60, 3, 61, 28, 42, 180, 0, 7, 3, 46, 162, 0, 36, 27, 42, 180, 0, 7, 16, 67, 28, 96, 46]
abbrev dktX2_deaf_0 : List UInt8 := dkwX2_deaf_0 ++ dktX2_deaf_1
theorem dksX2_deaf_0 : cX2_deaf.data.toList.drop 0 = dktX2_deaf_0 := by decide +kernel
theorem dksX2_deaf_1 : cX2_deaf.data.toList.drop 24 = dktX2_deaf_1 := dk_seg dksX2_deaf_0 24 rfl rfl
theorem dksX2_deaf_2 : cX2_deaf.data.toList.drop 48 = dktX2_deaf_2 := dk_seg dksX2_deaf_1 24 rfl rfl
theorem dX2_deaf_0 : decode cX2_deaf 0 = .ok (.iconst 0, 1) := dk_3 (dk_at dksX2_deaf_0 0 rfl rfl)
theorem dX2_deaf_1 : decode cX2_deaf 1 = .ok (.istore_n 1, 1) := dk_60 (dk_at dksX2_deaf_0 1 rfl rfl)
theorem dX2_deaf_2 : decode cX2_deaf 2 = .ok (.iconst 0, 1) := dk_3 (dk_at dksX2_deaf_0 2 rfl rfl)
theorem dX2_deaf_3 : decode cX2_deaf 3 = .ok (.istore_n 2, 1) := dk_61 (dk_at dksX2_deaf_0 3 rfl rfl)
theorem dX2_deaf_4 : decode cX2_deaf 4 = .ok (.iload_n 2, 1) := dk_28 (dk_at dksX2_deaf_0 4 rfl rfl)
theorem dX2_deaf_5 : decode cX2_deaf 5 = .ok (.aload_n 0, 1) := dk_42 (dk_at dksX2_deaf_0 5 rfl rfl)
theorem dX2_deaf_6 : decode cX2_deaf 6 = .ok (.getfield 7, 3) := dk_180 0 7 (dk_at dksX2_deaf_0 6 rfl rfl)
theorem dX2_deaf_9 : decode cX2_deaf 9 = .ok (.iconst 0, 1) := dk_3 (dk_at dksX2_deaf_0 9 rfl rfl)
theorem dX2_deaf_10 : decode cX2_deaf 10 = .ok (.iaload, 1) := dk_46 (dk_at dksX2_deaf_0 10 rfl rfl)
theorem dX2_deaf_11 : decode cX2_deaf 11 = .ok (.if_icmp .ge 36, 3) := dk_162 0 36 (dk_at dksX2_deaf_0 11 rfl rfl)
theorem dX2_deaf_14 : decode cX2_deaf 14 = .ok (.iload_n 1, 1) := dk_27 (dk_at dksX2_deaf_0 14 rfl rfl)
theorem dX2_deaf_15 : decode cX2_deaf 15 = .ok (.aload_n 0, 1) := dk_42 (dk_at dksX2_deaf_0 15 rfl rfl)
theorem dX2_deaf_16 : decode cX2_deaf 16 = .ok (.getfield 7, 3) := dk_180 0 7 (dk_at dksX2_deaf_0 16 rfl rfl)
theorem dX2_deaf_19 : decode cX2_deaf 19 = .ok (.bipush 67, 2) := dk_16 67 (dk_at dksX2_deaf_0 19 rfl rfl)
theorem dX2_deaf_21 : decode cX2_deaf 21 = .ok (.iload_n 2, 1) := dk_28 (dk_at dksX2_deaf_0 21 rfl rfl)
theorem dX2_deaf_22 : decode cX2_deaf 22 = .ok (.iadd, 1) := dk_96 (dk_at dksX2_deaf_0 22 rfl rfl)
theorem dX2_deaf_23 : decode cX2_deaf 23 = .ok (.iaload, 1) := dk_46 (dk_at dksX2_deaf_0 23 rfl rfl)
theorem dX2_deaf_24 : decode cX2_deaf 24 = .ok (.aload_n 0, 1) := dk_42 (dk_at dksX2_deaf_1 0 rfl rfl)
theorem dX2_deaf_25 : decode cX2_deaf 25 = .ok (.invokevirtual 70, 3) := dk_182 0 70 (dk_at dksX2_deaf_1 1 rfl rfl)
theorem dX2_deaf_28 : decode cX2_deaf 28 = .ok (.iand, 1) := dk_126 (dk_at dksX2_deaf_1 4 rfl rfl)
theorem dX2_deaf_29 : decode cX2_deaf 29 = .ok (.ifCond .ne 9, 3) := dk_154 0 9 (dk_at dksX2_deaf_1 5 rfl rfl)
theorem dX2_deaf_32 : decode cX2_deaf 32 = .ok (.iconst 1, 1) := dk_4 (dk_at dksX2_deaf_1 8 rfl rfl)
theorem dX2_deaf_33 : decode cX2_deaf 33 = .ok (.iload_n 2, 1) := dk_28 (dk_at dksX2_deaf_1 9 rfl rfl)
theorem dX2_deaf_34 : decode cX2_deaf 34 = .ok (.ishl, 1) := dk_120 (dk_at dksX2_deaf_1 10 rfl rfl)
theorem dX2_deaf_35 : decode cX2_deaf 35 = .ok (.goto 4, 3) := dk_167 0 4 (dk_at dksX2_deaf_1 11 rfl rfl)
theorem dX2_deaf_38 : decode cX2_deaf 38 = .ok (.iconst 0, 1) := dk_3 (dk_at dksX2_deaf_1 14 rfl rfl)
theorem dX2_deaf_39 : decode cX2_deaf 39 = .ok (.ior, 1) := dk_128 (dk_at dksX2_deaf_1 15 rfl rfl)
theorem dX2_deaf_40 : decode cX2_deaf 40 = .ok (.istore_n 1, 1) := dk_60 (dk_at dksX2_deaf_1 16 rfl rfl)
theorem dX2_deaf_41 : decode cX2_deaf 41 = .ok (.iinc 2 1, 3) := dk_132 2 1 (dk_at dksX2_deaf_1 17 rfl rfl)
theorem dX2_deaf_44 : decode cX2_deaf 44 = .ok (.goto (-40), 3) := dk_167 255 216 (dk_at dksX2_deaf_1 20 rfl rfl)
theorem dX2_deaf_47 : decode cX2_deaf 47 = .ok (.iload_n 1, 1) := dk_27 (dk_at dksX2_deaf_1 23 rfl rfl)
theorem dX2_deaf_48 : decode cX2_deaf 48 = .ok (.ireturn, 1) := dk_172 (dk_at dksX2_deaf_2 0 rfl rfl)
abbrev cX2_foretold : ByteArray := prog_21_method_95_code
def yX2_foretold : MethodName := ⟨RX2, "foretold", "(II)I"⟩
def dkwX2_foretold_6 : List UInt8 := [21, 4, 46, 79, 132, 4, 1, 167, 255, 232, 42, 4, 181, 0, 43, 29, 172]
abbrev dktX2_foretold_6 : List UInt8 := dkwX2_foretold_6 ++ []
def dkwX2_foretold_5 : List UInt8 := [46, 62, 16, 6, 54, 4, 21, 4, 16, 67, 162, 0, 23, 42, 180, 0, 7, 21, 4, 42, 180, 0, 47]
abbrev dktX2_foretold_5 : List UInt8 := dkwX2_foretold_5 ++ dktX2_foretold_6
def dkwX2_foretold_4 : List UInt8 := [16, 7, 46, 167, 0, 22, 28, 4, 160, 0, 10, 42, 180, 1, 67, 167, 0, 10, 42, 180, 0, 7, 16, 8]
abbrev dktX2_foretold_4 : List UInt8 := dkwX2_foretold_4 ++ dktX2_foretold_5
def dkwX2_foretold_3 : List UInt8 := [17, 39, 15, 162, 0, 7, 42, 182, 1, 85, 132, 3, 1, 167, 255, 231, 28, 154, 0, 13, 42, 180, 0, 7]
abbrev dktX2_foretold_3 : List UInt8 := dkwX2_foretold_3 ++ dktX2_foretold_4
def dkwX2_foretold_2 : List UInt8 := [42, 3, 181, 0, 43, 42, 3, 181, 1, 67, 3, 62, 29, 27, 162, 0, 26, 42, 180, 0, 7, 16, 6, 46]
abbrev dktX2_foretold_2 : List UInt8 := dkwX2_foretold_2 ++ dktX2_foretold_3
def dkwX2_foretold_1 : List UInt8 := [29, 16, 67, 162, 0, 21, 42, 180, 0, 47, 29, 42, 180, 0, 7, 29, 46, 79, 132, 3, 1, 167, 255, 235]
abbrev dktX2_foretold_1 : List UInt8 := dkwX2_foretold_1 ++ dktX2_foretold_2
def dkwX2_foretold_0 : List UInt8 := [27, 4, 16, 60, 184, 0, 66, 153, 0, 12, 28, 3, 5, 184, 0, 66, 154, 0, 5, 2, 172, 16, 6, 62]
abbrev dktX2_foretold_0 : List UInt8 := dkwX2_foretold_0 ++ dktX2_foretold_1
theorem dksX2_foretold_0 : cX2_foretold.data.toList.drop 0 = dktX2_foretold_0 := by decide +kernel
theorem dksX2_foretold_1 : cX2_foretold.data.toList.drop 24 = dktX2_foretold_1 := dk_seg dksX2_foretold_0 24 rfl rfl
theorem dksX2_foretold_2 : cX2_foretold.data.toList.drop 48 = dktX2_foretold_2 := dk_seg dksX2_foretold_1 24 rfl rfl
theorem dksX2_foretold_3 : cX2_foretold.data.toList.drop 72 = dktX2_foretold_3 := dk_seg dksX2_foretold_2 24 rfl rfl
theorem dksX2_foretold_4 : cX2_foretold.data.toList.drop 96 = dktX2_foretold_4 := dk_seg dksX2_foretold_3 24 rfl rfl
theorem dksX2_foretold_5 : cX2_foretold.data.toList.drop 120 = dktX2_foretold_5 := dk_seg dksX2_foretold_4 24 rfl rfl
theorem dksX2_foretold_6 : cX2_foretold.data.toList.drop 143 = dktX2_foretold_6 := dk_seg dksX2_foretold_5 23 rfl rfl
theorem dX2_foretold_0 : decode cX2_foretold 0 = .ok (.iload_n 1, 1) := dk_27 (dk_at dksX2_foretold_0 0 rfl rfl)
theorem dX2_foretold_1 : decode cX2_foretold 1 = .ok (.iconst 1, 1) := dk_4 (dk_at dksX2_foretold_0 1 rfl rfl)
theorem dX2_foretold_2 : decode cX2_foretold 2 = .ok (.bipush 60, 2) := dk_16 60 (dk_at dksX2_foretold_0 2 rfl rfl)
theorem dX2_foretold_4 : decode cX2_foretold 4 = .ok (.invokestatic 66, 3) := dk_184 0 66 (dk_at dksX2_foretold_0 4 rfl rfl)
theorem dX2_foretold_7 : decode cX2_foretold 7 = .ok (.ifCond .eq 12, 3) := dk_153 0 12 (dk_at dksX2_foretold_0 7 rfl rfl)
theorem dX2_foretold_10 : decode cX2_foretold 10 = .ok (.iload_n 2, 1) := dk_28 (dk_at dksX2_foretold_0 10 rfl rfl)
theorem dX2_foretold_11 : decode cX2_foretold 11 = .ok (.iconst 0, 1) := dk_3 (dk_at dksX2_foretold_0 11 rfl rfl)
theorem dX2_foretold_12 : decode cX2_foretold 12 = .ok (.iconst 2, 1) := dk_5 (dk_at dksX2_foretold_0 12 rfl rfl)
theorem dX2_foretold_13 : decode cX2_foretold 13 = .ok (.invokestatic 66, 3) := dk_184 0 66 (dk_at dksX2_foretold_0 13 rfl rfl)
theorem dX2_foretold_16 : decode cX2_foretold 16 = .ok (.ifCond .ne 5, 3) := dk_154 0 5 (dk_at dksX2_foretold_0 16 rfl rfl)
theorem dX2_foretold_19 : decode cX2_foretold 19 = .ok (.iconst (-1), 1) := dk_2 (dk_at dksX2_foretold_0 19 rfl rfl)
theorem dX2_foretold_20 : decode cX2_foretold 20 = .ok (.ireturn, 1) := dk_172 (dk_at dksX2_foretold_0 20 rfl rfl)
theorem dX2_foretold_21 : decode cX2_foretold 21 = .ok (.bipush 6, 2) := dk_16 6 (dk_at dksX2_foretold_0 21 rfl rfl)
theorem dX2_foretold_23 : decode cX2_foretold 23 = .ok (.istore_n 3, 1) := dk_62 (dk_at dksX2_foretold_0 23 rfl rfl)
theorem dX2_foretold_24 : decode cX2_foretold 24 = .ok (.iload_n 3, 1) := dk_29 (dk_at dksX2_foretold_1 0 rfl rfl)
theorem dX2_foretold_25 : decode cX2_foretold 25 = .ok (.bipush 67, 2) := dk_16 67 (dk_at dksX2_foretold_1 1 rfl rfl)
theorem dX2_foretold_27 : decode cX2_foretold 27 = .ok (.if_icmp .ge 21, 3) := dk_162 0 21 (dk_at dksX2_foretold_1 3 rfl rfl)
theorem dX2_foretold_30 : decode cX2_foretold 30 = .ok (.aload_n 0, 1) := dk_42 (dk_at dksX2_foretold_1 6 rfl rfl)
theorem dX2_foretold_31 : decode cX2_foretold 31 = .ok (.getfield 47, 3) := dk_180 0 47 (dk_at dksX2_foretold_1 7 rfl rfl)
theorem dX2_foretold_34 : decode cX2_foretold 34 = .ok (.iload_n 3, 1) := dk_29 (dk_at dksX2_foretold_1 10 rfl rfl)
theorem dX2_foretold_35 : decode cX2_foretold 35 = .ok (.aload_n 0, 1) := dk_42 (dk_at dksX2_foretold_1 11 rfl rfl)
theorem dX2_foretold_36 : decode cX2_foretold 36 = .ok (.getfield 7, 3) := dk_180 0 7 (dk_at dksX2_foretold_1 12 rfl rfl)
theorem dX2_foretold_39 : decode cX2_foretold 39 = .ok (.iload_n 3, 1) := dk_29 (dk_at dksX2_foretold_1 15 rfl rfl)
theorem dX2_foretold_40 : decode cX2_foretold 40 = .ok (.iaload, 1) := dk_46 (dk_at dksX2_foretold_1 16 rfl rfl)
theorem dX2_foretold_41 : decode cX2_foretold 41 = .ok (.iastore, 1) := dk_79 (dk_at dksX2_foretold_1 17 rfl rfl)
theorem dX2_foretold_42 : decode cX2_foretold 42 = .ok (.iinc 3 1, 3) := dk_132 3 1 (dk_at dksX2_foretold_1 18 rfl rfl)
theorem dX2_foretold_45 : decode cX2_foretold 45 = .ok (.goto (-21), 3) := dk_167 255 235 (dk_at dksX2_foretold_1 21 rfl rfl)
theorem dX2_foretold_48 : decode cX2_foretold 48 = .ok (.aload_n 0, 1) := dk_42 (dk_at dksX2_foretold_2 0 rfl rfl)
theorem dX2_foretold_49 : decode cX2_foretold 49 = .ok (.iconst 0, 1) := dk_3 (dk_at dksX2_foretold_2 1 rfl rfl)
theorem dX2_foretold_50 : decode cX2_foretold 50 = .ok (.putfield 43, 3) := dk_181 0 43 (dk_at dksX2_foretold_2 2 rfl rfl)
theorem dX2_foretold_53 : decode cX2_foretold 53 = .ok (.aload_n 0, 1) := dk_42 (dk_at dksX2_foretold_2 5 rfl rfl)
theorem dX2_foretold_54 : decode cX2_foretold 54 = .ok (.iconst 0, 1) := dk_3 (dk_at dksX2_foretold_2 6 rfl rfl)
theorem dX2_foretold_55 : decode cX2_foretold 55 = .ok (.putfield 323, 3) := dk_181 1 67 (dk_at dksX2_foretold_2 7 rfl rfl)
theorem dX2_foretold_58 : decode cX2_foretold 58 = .ok (.iconst 0, 1) := dk_3 (dk_at dksX2_foretold_2 10 rfl rfl)
theorem dX2_foretold_59 : decode cX2_foretold 59 = .ok (.istore_n 3, 1) := dk_62 (dk_at dksX2_foretold_2 11 rfl rfl)
theorem dX2_foretold_60 : decode cX2_foretold 60 = .ok (.iload_n 3, 1) := dk_29 (dk_at dksX2_foretold_2 12 rfl rfl)
theorem dX2_foretold_61 : decode cX2_foretold 61 = .ok (.iload_n 1, 1) := dk_27 (dk_at dksX2_foretold_2 13 rfl rfl)
theorem dX2_foretold_62 : decode cX2_foretold 62 = .ok (.if_icmp .ge 26, 3) := dk_162 0 26 (dk_at dksX2_foretold_2 14 rfl rfl)
theorem dX2_foretold_65 : decode cX2_foretold 65 = .ok (.aload_n 0, 1) := dk_42 (dk_at dksX2_foretold_2 17 rfl rfl)
theorem dX2_foretold_66 : decode cX2_foretold 66 = .ok (.getfield 7, 3) := dk_180 0 7 (dk_at dksX2_foretold_2 18 rfl rfl)
theorem dX2_foretold_69 : decode cX2_foretold 69 = .ok (.bipush 6, 2) := dk_16 6 (dk_at dksX2_foretold_2 21 rfl rfl)
theorem dX2_foretold_71 : decode cX2_foretold 71 = .ok (.iaload, 1) := dk_46 (dk_at dksX2_foretold_2 23 rfl rfl)
theorem dX2_foretold_72 : decode cX2_foretold 72 = .ok (.sipush 9999, 3) := dk_17 39 15 (dk_at dksX2_foretold_3 0 rfl rfl)
theorem dX2_foretold_75 : decode cX2_foretold 75 = .ok (.if_icmp .ge 7, 3) := dk_162 0 7 (dk_at dksX2_foretold_3 3 rfl rfl)
theorem dX2_foretold_78 : decode cX2_foretold 78 = .ok (.aload_n 0, 1) := dk_42 (dk_at dksX2_foretold_3 6 rfl rfl)
theorem dX2_foretold_79 : decode cX2_foretold 79 = .ok (.invokevirtual 341, 3) := dk_182 1 85 (dk_at dksX2_foretold_3 7 rfl rfl)
theorem dX2_foretold_82 : decode cX2_foretold 82 = .ok (.iinc 3 1, 3) := dk_132 3 1 (dk_at dksX2_foretold_3 10 rfl rfl)
theorem dX2_foretold_85 : decode cX2_foretold 85 = .ok (.goto (-25), 3) := dk_167 255 231 (dk_at dksX2_foretold_3 13 rfl rfl)
theorem dX2_foretold_88 : decode cX2_foretold 88 = .ok (.iload_n 2, 1) := dk_28 (dk_at dksX2_foretold_3 16 rfl rfl)
theorem dX2_foretold_89 : decode cX2_foretold 89 = .ok (.ifCond .ne 13, 3) := dk_154 0 13 (dk_at dksX2_foretold_3 17 rfl rfl)
theorem dX2_foretold_92 : decode cX2_foretold 92 = .ok (.aload_n 0, 1) := dk_42 (dk_at dksX2_foretold_3 20 rfl rfl)
theorem dX2_foretold_93 : decode cX2_foretold 93 = .ok (.getfield 7, 3) := dk_180 0 7 (dk_at dksX2_foretold_3 21 rfl rfl)
theorem dX2_foretold_96 : decode cX2_foretold 96 = .ok (.bipush 7, 2) := dk_16 7 (dk_at dksX2_foretold_4 0 rfl rfl)
theorem dX2_foretold_98 : decode cX2_foretold 98 = .ok (.iaload, 1) := dk_46 (dk_at dksX2_foretold_4 2 rfl rfl)
theorem dX2_foretold_99 : decode cX2_foretold 99 = .ok (.goto 22, 3) := dk_167 0 22 (dk_at dksX2_foretold_4 3 rfl rfl)
theorem dX2_foretold_102 : decode cX2_foretold 102 = .ok (.iload_n 2, 1) := dk_28 (dk_at dksX2_foretold_4 6 rfl rfl)
theorem dX2_foretold_103 : decode cX2_foretold 103 = .ok (.iconst 1, 1) := dk_4 (dk_at dksX2_foretold_4 7 rfl rfl)
theorem dX2_foretold_104 : decode cX2_foretold 104 = .ok (.if_icmp .ne 10, 3) := dk_160 0 10 (dk_at dksX2_foretold_4 8 rfl rfl)
theorem dX2_foretold_107 : decode cX2_foretold 107 = .ok (.aload_n 0, 1) := dk_42 (dk_at dksX2_foretold_4 11 rfl rfl)
theorem dX2_foretold_108 : decode cX2_foretold 108 = .ok (.getfield 323, 3) := dk_180 1 67 (dk_at dksX2_foretold_4 12 rfl rfl)
theorem dX2_foretold_111 : decode cX2_foretold 111 = .ok (.goto 10, 3) := dk_167 0 10 (dk_at dksX2_foretold_4 15 rfl rfl)
theorem dX2_foretold_114 : decode cX2_foretold 114 = .ok (.aload_n 0, 1) := dk_42 (dk_at dksX2_foretold_4 18 rfl rfl)
theorem dX2_foretold_115 : decode cX2_foretold 115 = .ok (.getfield 7, 3) := dk_180 0 7 (dk_at dksX2_foretold_4 19 rfl rfl)
theorem dX2_foretold_118 : decode cX2_foretold 118 = .ok (.bipush 8, 2) := dk_16 8 (dk_at dksX2_foretold_4 22 rfl rfl)
theorem dX2_foretold_120 : decode cX2_foretold 120 = .ok (.iaload, 1) := dk_46 (dk_at dksX2_foretold_5 0 rfl rfl)
theorem dX2_foretold_121 : decode cX2_foretold 121 = .ok (.istore_n 3, 1) := dk_62 (dk_at dksX2_foretold_5 1 rfl rfl)
theorem dX2_foretold_122 : decode cX2_foretold 122 = .ok (.bipush 6, 2) := dk_16 6 (dk_at dksX2_foretold_5 2 rfl rfl)
theorem dX2_foretold_124 : decode cX2_foretold 124 = .ok (.istore 4, 2) := dk_54 4 (dk_at dksX2_foretold_5 4 rfl rfl)
theorem dX2_foretold_126 : decode cX2_foretold 126 = .ok (.iload 4, 2) := dk_21 4 (dk_at dksX2_foretold_5 6 rfl rfl)
theorem dX2_foretold_128 : decode cX2_foretold 128 = .ok (.bipush 67, 2) := dk_16 67 (dk_at dksX2_foretold_5 8 rfl rfl)
theorem dX2_foretold_130 : decode cX2_foretold 130 = .ok (.if_icmp .ge 23, 3) := dk_162 0 23 (dk_at dksX2_foretold_5 10 rfl rfl)
theorem dX2_foretold_133 : decode cX2_foretold 133 = .ok (.aload_n 0, 1) := dk_42 (dk_at dksX2_foretold_5 13 rfl rfl)
theorem dX2_foretold_134 : decode cX2_foretold 134 = .ok (.getfield 7, 3) := dk_180 0 7 (dk_at dksX2_foretold_5 14 rfl rfl)
theorem dX2_foretold_137 : decode cX2_foretold 137 = .ok (.iload 4, 2) := dk_21 4 (dk_at dksX2_foretold_5 17 rfl rfl)
theorem dX2_foretold_139 : decode cX2_foretold 139 = .ok (.aload_n 0, 1) := dk_42 (dk_at dksX2_foretold_5 19 rfl rfl)
theorem dX2_foretold_140 : decode cX2_foretold 140 = .ok (.getfield 47, 3) := dk_180 0 47 (dk_at dksX2_foretold_5 20 rfl rfl)
theorem dX2_foretold_143 : decode cX2_foretold 143 = .ok (.iload 4, 2) := dk_21 4 (dk_at dksX2_foretold_6 0 rfl rfl)
theorem dX2_foretold_145 : decode cX2_foretold 145 = .ok (.iaload, 1) := dk_46 (dk_at dksX2_foretold_6 2 rfl rfl)
theorem dX2_foretold_146 : decode cX2_foretold 146 = .ok (.iastore, 1) := dk_79 (dk_at dksX2_foretold_6 3 rfl rfl)
theorem dX2_foretold_147 : decode cX2_foretold 147 = .ok (.iinc 4 1, 3) := dk_132 4 1 (dk_at dksX2_foretold_6 4 rfl rfl)
theorem dX2_foretold_150 : decode cX2_foretold 150 = .ok (.goto (-24), 3) := dk_167 255 232 (dk_at dksX2_foretold_6 7 rfl rfl)
theorem dX2_foretold_153 : decode cX2_foretold 153 = .ok (.aload_n 0, 1) := dk_42 (dk_at dksX2_foretold_6 10 rfl rfl)
theorem dX2_foretold_154 : decode cX2_foretold 154 = .ok (.iconst 1, 1) := dk_4 (dk_at dksX2_foretold_6 11 rfl rfl)
theorem dX2_foretold_155 : decode cX2_foretold 155 = .ok (.putfield 43, 3) := dk_181 0 43 (dk_at dksX2_foretold_6 12 rfl rfl)
theorem dX2_foretold_158 : decode cX2_foretold 158 = .ok (.iload_n 3, 1) := dk_29 (dk_at dksX2_foretold_6 15 rfl rfl)
theorem dX2_foretold_159 : decode cX2_foretold 159 = .ok (.ireturn, 1) := dk_172 (dk_at dksX2_foretold_6 16 rfl rfl)
abbrev cX2_late : ByteArray := prog_21_method_96_code
def yX2_late : MethodName := ⟨RX2, "late", "(I)I"⟩
def dkwX2_late_0 : List UInt8 := [42, 27, 182, 1, 73, 153, 0, 11, 42, 27, 182, 1, 64, 167, 0, 4, 2, 172]
abbrev dktX2_late_0 : List UInt8 := dkwX2_late_0 ++ []
theorem dksX2_late_0 : cX2_late.data.toList.drop 0 = dktX2_late_0 := by decide +kernel
theorem dX2_late_0 : decode cX2_late 0 = .ok (.aload_n 0, 1) := dk_42 (dk_at dksX2_late_0 0 rfl rfl)
theorem dX2_late_1 : decode cX2_late 1 = .ok (.iload_n 1, 1) := dk_27 (dk_at dksX2_late_0 1 rfl rfl)
theorem dX2_late_2 : decode cX2_late 2 = .ok (.invokevirtual 329, 3) := dk_182 1 73 (dk_at dksX2_late_0 2 rfl rfl)
theorem dX2_late_5 : decode cX2_late 5 = .ok (.ifCond .eq 11, 3) := dk_153 0 11 (dk_at dksX2_late_0 5 rfl rfl)
theorem dX2_late_8 : decode cX2_late 8 = .ok (.aload_n 0, 1) := dk_42 (dk_at dksX2_late_0 8 rfl rfl)
theorem dX2_late_9 : decode cX2_late 9 = .ok (.iload_n 1, 1) := dk_27 (dk_at dksX2_late_0 9 rfl rfl)
theorem dX2_late_10 : decode cX2_late 10 = .ok (.invokevirtual 320, 3) := dk_182 1 64 (dk_at dksX2_late_0 10 rfl rfl)
theorem dX2_late_13 : decode cX2_late 13 = .ok (.goto 4, 3) := dk_167 0 4 (dk_at dksX2_late_0 13 rfl rfl)
theorem dX2_late_16 : decode cX2_late 16 = .ok (.iconst (-1), 1) := dk_2 (dk_at dksX2_late_0 16 rfl rfl)
theorem dX2_late_17 : decode cX2_late 17 = .ok (.ireturn, 1) := dk_172 (dk_at dksX2_late_0 17 rfl rfl)
abbrev cX2_runners : ByteArray := prog_21_method_97_code
def yX2_runners : MethodName := ⟨RX2, "runners", "(I)I"⟩
def dkwX2_runners_0 : List UInt8 := [42, 27, 182, 1, 73, 153, 0, 17, 42, 42, 180, 0, 7, 5, 46, 27, 182, 1, 49, 167, 0, 4, 2, 172]
abbrev dktX2_runners_0 : List UInt8 := dkwX2_runners_0 ++ []
theorem dksX2_runners_0 : cX2_runners.data.toList.drop 0 = dktX2_runners_0 := by decide +kernel
theorem dX2_runners_0 : decode cX2_runners 0 = .ok (.aload_n 0, 1) := dk_42 (dk_at dksX2_runners_0 0 rfl rfl)
theorem dX2_runners_1 : decode cX2_runners 1 = .ok (.iload_n 1, 1) := dk_27 (dk_at dksX2_runners_0 1 rfl rfl)
theorem dX2_runners_2 : decode cX2_runners 2 = .ok (.invokevirtual 329, 3) := dk_182 1 73 (dk_at dksX2_runners_0 2 rfl rfl)
theorem dX2_runners_5 : decode cX2_runners 5 = .ok (.ifCond .eq 17, 3) := dk_153 0 17 (dk_at dksX2_runners_0 5 rfl rfl)
theorem dX2_runners_8 : decode cX2_runners 8 = .ok (.aload_n 0, 1) := dk_42 (dk_at dksX2_runners_0 8 rfl rfl)
theorem dX2_runners_9 : decode cX2_runners 9 = .ok (.aload_n 0, 1) := dk_42 (dk_at dksX2_runners_0 9 rfl rfl)
theorem dX2_runners_10 : decode cX2_runners 10 = .ok (.getfield 7, 3) := dk_180 0 7 (dk_at dksX2_runners_0 10 rfl rfl)
theorem dX2_runners_13 : decode cX2_runners 13 = .ok (.iconst 2, 1) := dk_5 (dk_at dksX2_runners_0 13 rfl rfl)
theorem dX2_runners_14 : decode cX2_runners 14 = .ok (.iaload, 1) := dk_46 (dk_at dksX2_runners_0 14 rfl rfl)
theorem dX2_runners_15 : decode cX2_runners 15 = .ok (.iload_n 1, 1) := dk_27 (dk_at dksX2_runners_0 15 rfl rfl)
theorem dX2_runners_16 : decode cX2_runners 16 = .ok (.invokevirtual 305, 3) := dk_182 1 49 (dk_at dksX2_runners_0 16 rfl rfl)
theorem dX2_runners_19 : decode cX2_runners 19 = .ok (.goto 4, 3) := dk_167 0 4 (dk_at dksX2_runners_0 19 rfl rfl)
theorem dX2_runners_22 : decode cX2_runners 22 = .ok (.iconst (-1), 1) := dk_2 (dk_at dksX2_runners_0 22 rfl rfl)
theorem dX2_runners_23 : decode cX2_runners 23 = .ok (.ireturn, 1) := dk_172 (dk_at dksX2_runners_0 23 rfl rfl)
abbrev cX2_settled : ByteArray := prog_21_method_99_code
def yX2_settled : MethodName := ⟨RX2, "settled", "(I)I"⟩
def dkwX2_settled_2 : List UInt8 := [160, 0, 7, 28, 167, 0, 5, 16, 254, 172]
abbrev dktX2_settled_2 : List UInt8 := dkwX2_settled_2 ++ []
def dkwX2_settled_1 : List UInt8 := [159, 0, 6, 167, 0, 13, 28, 27, 160, 0, 5, 29, 172, 132, 2, 1, 132, 3, 1, 167, 255, 222, 27, 2]
abbrev dktX2_settled_1 : List UInt8 := dkwX2_settled_1 ++ dktX2_settled_2
def dkwX2_settled_0 : List UInt8 := [42, 182, 1, 121, 3, 61, 3, 62, 29, 42, 182, 0, 70, 163, 0, 32, 42, 180, 0, 50, 29, 46, 29]
abbrev dktX2_settled_0 : List UInt8 := dkwX2_settled_0 ++ dktX2_settled_1
theorem dksX2_settled_0 : cX2_settled.data.toList.drop 0 = dktX2_settled_0 := by decide +kernel
theorem dksX2_settled_1 : cX2_settled.data.toList.drop 23 = dktX2_settled_1 := dk_seg dksX2_settled_0 23 rfl rfl
theorem dksX2_settled_2 : cX2_settled.data.toList.drop 47 = dktX2_settled_2 := dk_seg dksX2_settled_1 24 rfl rfl
theorem dX2_settled_0 : decode cX2_settled 0 = .ok (.aload_n 0, 1) := dk_42 (dk_at dksX2_settled_0 0 rfl rfl)
theorem dX2_settled_1 : decode cX2_settled 1 = .ok (.invokevirtual 377, 3) := dk_182 1 121 (dk_at dksX2_settled_0 1 rfl rfl)
theorem dX2_settled_4 : decode cX2_settled 4 = .ok (.iconst 0, 1) := dk_3 (dk_at dksX2_settled_0 4 rfl rfl)
theorem dX2_settled_5 : decode cX2_settled 5 = .ok (.istore_n 2, 1) := dk_61 (dk_at dksX2_settled_0 5 rfl rfl)
theorem dX2_settled_6 : decode cX2_settled 6 = .ok (.iconst 0, 1) := dk_3 (dk_at dksX2_settled_0 6 rfl rfl)
theorem dX2_settled_7 : decode cX2_settled 7 = .ok (.istore_n 3, 1) := dk_62 (dk_at dksX2_settled_0 7 rfl rfl)
theorem dX2_settled_8 : decode cX2_settled 8 = .ok (.iload_n 3, 1) := dk_29 (dk_at dksX2_settled_0 8 rfl rfl)
theorem dX2_settled_9 : decode cX2_settled 9 = .ok (.aload_n 0, 1) := dk_42 (dk_at dksX2_settled_0 9 rfl rfl)
theorem dX2_settled_10 : decode cX2_settled 10 = .ok (.invokevirtual 70, 3) := dk_182 0 70 (dk_at dksX2_settled_0 10 rfl rfl)
theorem dX2_settled_13 : decode cX2_settled 13 = .ok (.if_icmp .gt 32, 3) := dk_163 0 32 (dk_at dksX2_settled_0 13 rfl rfl)
theorem dX2_settled_16 : decode cX2_settled 16 = .ok (.aload_n 0, 1) := dk_42 (dk_at dksX2_settled_0 16 rfl rfl)
theorem dX2_settled_17 : decode cX2_settled 17 = .ok (.getfield 50, 3) := dk_180 0 50 (dk_at dksX2_settled_0 17 rfl rfl)
theorem dX2_settled_20 : decode cX2_settled 20 = .ok (.iload_n 3, 1) := dk_29 (dk_at dksX2_settled_0 20 rfl rfl)
theorem dX2_settled_21 : decode cX2_settled 21 = .ok (.iaload, 1) := dk_46 (dk_at dksX2_settled_0 21 rfl rfl)
theorem dX2_settled_22 : decode cX2_settled 22 = .ok (.iload_n 3, 1) := dk_29 (dk_at dksX2_settled_0 22 rfl rfl)
theorem dX2_settled_23 : decode cX2_settled 23 = .ok (.if_icmp .eq 6, 3) := dk_159 0 6 (dk_at dksX2_settled_1 0 rfl rfl)
theorem dX2_settled_26 : decode cX2_settled 26 = .ok (.goto 13, 3) := dk_167 0 13 (dk_at dksX2_settled_1 3 rfl rfl)
theorem dX2_settled_29 : decode cX2_settled 29 = .ok (.iload_n 2, 1) := dk_28 (dk_at dksX2_settled_1 6 rfl rfl)
theorem dX2_settled_30 : decode cX2_settled 30 = .ok (.iload_n 1, 1) := dk_27 (dk_at dksX2_settled_1 7 rfl rfl)
theorem dX2_settled_31 : decode cX2_settled 31 = .ok (.if_icmp .ne 5, 3) := dk_160 0 5 (dk_at dksX2_settled_1 8 rfl rfl)
theorem dX2_settled_34 : decode cX2_settled 34 = .ok (.iload_n 3, 1) := dk_29 (dk_at dksX2_settled_1 11 rfl rfl)
theorem dX2_settled_35 : decode cX2_settled 35 = .ok (.ireturn, 1) := dk_172 (dk_at dksX2_settled_1 12 rfl rfl)
theorem dX2_settled_36 : decode cX2_settled 36 = .ok (.iinc 2 1, 3) := dk_132 2 1 (dk_at dksX2_settled_1 13 rfl rfl)
theorem dX2_settled_39 : decode cX2_settled 39 = .ok (.iinc 3 1, 3) := dk_132 3 1 (dk_at dksX2_settled_1 16 rfl rfl)
theorem dX2_settled_42 : decode cX2_settled 42 = .ok (.goto (-34), 3) := dk_167 255 222 (dk_at dksX2_settled_1 19 rfl rfl)
theorem dX2_settled_45 : decode cX2_settled 45 = .ok (.iload_n 1, 1) := dk_27 (dk_at dksX2_settled_1 22 rfl rfl)
theorem dX2_settled_46 : decode cX2_settled 46 = .ok (.iconst (-1), 1) := dk_2 (dk_at dksX2_settled_1 23 rfl rfl)
theorem dX2_settled_47 : decode cX2_settled 47 = .ok (.if_icmp .ne 7, 3) := dk_160 0 7 (dk_at dksX2_settled_2 0 rfl rfl)
theorem dX2_settled_50 : decode cX2_settled 50 = .ok (.iload_n 2, 1) := dk_28 (dk_at dksX2_settled_2 3 rfl rfl)
theorem dX2_settled_51 : decode cX2_settled 51 = .ok (.goto 5, 3) := dk_167 0 5 (dk_at dksX2_settled_2 4 rfl rfl)
theorem dX2_settled_54 : decode cX2_settled 54 = .ok (.bipush (-2), 2) := dk_16 254 (dk_at dksX2_settled_2 7 rfl rfl)
theorem dX2_settled_56 : decode cX2_settled 56 = .ok (.ireturn, 1) := dk_172 (dk_at dksX2_settled_2 9 rfl rfl)
abbrev cX2_layLeads : ByteArray := prog_21_method_98_code
def yX2_layLeads : MethodName := ⟨RX2, "layLeads", "()V"⟩
def dkwX2_layLeads_1 : List UInt8 := [167, 255, 234, 177]
abbrev dktX2_layLeads_1 : List UInt8 := dkwX2_layLeads_1 ++ []
def dkwX2_layLeads_0 : List UInt8 := [3, 60, 27, 42, 182, 0, 70, 163, 0, 20, 42, 180, 0, 50, 27, 42, 27, 182, 1, 64, 79, 132, 1, 1]
abbrev dktX2_layLeads_0 : List UInt8 := dkwX2_layLeads_0 ++ dktX2_layLeads_1
theorem dksX2_layLeads_0 : cX2_layLeads.data.toList.drop 0 = dktX2_layLeads_0 := by decide +kernel
theorem dksX2_layLeads_1 : cX2_layLeads.data.toList.drop 24 = dktX2_layLeads_1 := dk_seg dksX2_layLeads_0 24 rfl rfl
theorem dX2_layLeads_0 : decode cX2_layLeads 0 = .ok (.iconst 0, 1) := dk_3 (dk_at dksX2_layLeads_0 0 rfl rfl)
theorem dX2_layLeads_1 : decode cX2_layLeads 1 = .ok (.istore_n 1, 1) := dk_60 (dk_at dksX2_layLeads_0 1 rfl rfl)
theorem dX2_layLeads_2 : decode cX2_layLeads 2 = .ok (.iload_n 1, 1) := dk_27 (dk_at dksX2_layLeads_0 2 rfl rfl)
theorem dX2_layLeads_3 : decode cX2_layLeads 3 = .ok (.aload_n 0, 1) := dk_42 (dk_at dksX2_layLeads_0 3 rfl rfl)
theorem dX2_layLeads_4 : decode cX2_layLeads 4 = .ok (.invokevirtual 70, 3) := dk_182 0 70 (dk_at dksX2_layLeads_0 4 rfl rfl)
theorem dX2_layLeads_7 : decode cX2_layLeads 7 = .ok (.if_icmp .gt 20, 3) := dk_163 0 20 (dk_at dksX2_layLeads_0 7 rfl rfl)
theorem dX2_layLeads_10 : decode cX2_layLeads 10 = .ok (.aload_n 0, 1) := dk_42 (dk_at dksX2_layLeads_0 10 rfl rfl)
theorem dX2_layLeads_11 : decode cX2_layLeads 11 = .ok (.getfield 50, 3) := dk_180 0 50 (dk_at dksX2_layLeads_0 11 rfl rfl)
theorem dX2_layLeads_14 : decode cX2_layLeads 14 = .ok (.iload_n 1, 1) := dk_27 (dk_at dksX2_layLeads_0 14 rfl rfl)
theorem dX2_layLeads_15 : decode cX2_layLeads 15 = .ok (.aload_n 0, 1) := dk_42 (dk_at dksX2_layLeads_0 15 rfl rfl)
theorem dX2_layLeads_16 : decode cX2_layLeads 16 = .ok (.iload_n 1, 1) := dk_27 (dk_at dksX2_layLeads_0 16 rfl rfl)
theorem dX2_layLeads_17 : decode cX2_layLeads 17 = .ok (.invokevirtual 320, 3) := dk_182 1 64 (dk_at dksX2_layLeads_0 17 rfl rfl)
theorem dX2_layLeads_20 : decode cX2_layLeads 20 = .ok (.iastore, 1) := dk_79 (dk_at dksX2_layLeads_0 20 rfl rfl)
theorem dX2_layLeads_21 : decode cX2_layLeads 21 = .ok (.iinc 1 1, 3) := dk_132 1 1 (dk_at dksX2_layLeads_0 21 rfl rfl)
theorem dX2_layLeads_24 : decode cX2_layLeads 24 = .ok (.goto (-22), 3) := dk_167 255 234 (dk_at dksX2_layLeads_1 0 rfl rfl)
theorem dX2_layLeads_27 : decode cX2_layLeads 27 = .ok (.return_, 1) := dk_177 (dk_at dksX2_layLeads_1 3 rfl rfl)
abbrev cX2_fewest : ByteArray := prog_21_method_100_code
def yX2_fewest : MethodName := ⟨RX2, "fewest", "(Z)I"⟩
def dkwX2_fewest_3 : List UInt8 := [167, 255, 196, 28, 172]
abbrev dktX2_fewest_3 : List UInt8 := dkwX2_fewest_3 ++ []
def dkwX2_fewest_2 : List UInt8 := [164, 0, 19, 167, 0, 14, 29, 184, 1, 42, 28, 184, 1, 42, 162, 0, 5, 29, 61, 132, 3, 1]
abbrev dktX2_fewest_2 : List UInt8 := dkwX2_fewest_2 ++ dktX2_fewest_3
def dkwX2_fewest_1 : List UInt8 := [159, 0, 6, 167, 0, 39, 28, 2, 159, 0, 32, 27, 153, 0, 17, 29, 184, 1, 42, 28, 184, 1, 42]
abbrev dktX2_fewest_1 : List UInt8 := dkwX2_fewest_1 ++ dktX2_fewest_2
def dkwX2_fewest_0 : List UInt8 := [42, 182, 1, 121, 2, 61, 3, 62, 29, 42, 182, 0, 70, 163, 0, 58, 42, 180, 0, 50, 29, 46, 29]
abbrev dktX2_fewest_0 : List UInt8 := dkwX2_fewest_0 ++ dktX2_fewest_1
theorem dksX2_fewest_0 : cX2_fewest.data.toList.drop 0 = dktX2_fewest_0 := by decide +kernel
theorem dksX2_fewest_1 : cX2_fewest.data.toList.drop 23 = dktX2_fewest_1 := dk_seg dksX2_fewest_0 23 rfl rfl
theorem dksX2_fewest_2 : cX2_fewest.data.toList.drop 46 = dktX2_fewest_2 := dk_seg dksX2_fewest_1 23 rfl rfl
theorem dksX2_fewest_3 : cX2_fewest.data.toList.drop 68 = dktX2_fewest_3 := dk_seg dksX2_fewest_2 22 rfl rfl
theorem dX2_fewest_0 : decode cX2_fewest 0 = .ok (.aload_n 0, 1) := dk_42 (dk_at dksX2_fewest_0 0 rfl rfl)
theorem dX2_fewest_1 : decode cX2_fewest 1 = .ok (.invokevirtual 377, 3) := dk_182 1 121 (dk_at dksX2_fewest_0 1 rfl rfl)
theorem dX2_fewest_4 : decode cX2_fewest 4 = .ok (.iconst (-1), 1) := dk_2 (dk_at dksX2_fewest_0 4 rfl rfl)
theorem dX2_fewest_5 : decode cX2_fewest 5 = .ok (.istore_n 2, 1) := dk_61 (dk_at dksX2_fewest_0 5 rfl rfl)
theorem dX2_fewest_6 : decode cX2_fewest 6 = .ok (.iconst 0, 1) := dk_3 (dk_at dksX2_fewest_0 6 rfl rfl)
theorem dX2_fewest_7 : decode cX2_fewest 7 = .ok (.istore_n 3, 1) := dk_62 (dk_at dksX2_fewest_0 7 rfl rfl)
theorem dX2_fewest_8 : decode cX2_fewest 8 = .ok (.iload_n 3, 1) := dk_29 (dk_at dksX2_fewest_0 8 rfl rfl)
theorem dX2_fewest_9 : decode cX2_fewest 9 = .ok (.aload_n 0, 1) := dk_42 (dk_at dksX2_fewest_0 9 rfl rfl)
theorem dX2_fewest_10 : decode cX2_fewest 10 = .ok (.invokevirtual 70, 3) := dk_182 0 70 (dk_at dksX2_fewest_0 10 rfl rfl)
theorem dX2_fewest_13 : decode cX2_fewest 13 = .ok (.if_icmp .gt 58, 3) := dk_163 0 58 (dk_at dksX2_fewest_0 13 rfl rfl)
theorem dX2_fewest_16 : decode cX2_fewest 16 = .ok (.aload_n 0, 1) := dk_42 (dk_at dksX2_fewest_0 16 rfl rfl)
theorem dX2_fewest_17 : decode cX2_fewest 17 = .ok (.getfield 50, 3) := dk_180 0 50 (dk_at dksX2_fewest_0 17 rfl rfl)
theorem dX2_fewest_20 : decode cX2_fewest 20 = .ok (.iload_n 3, 1) := dk_29 (dk_at dksX2_fewest_0 20 rfl rfl)
theorem dX2_fewest_21 : decode cX2_fewest 21 = .ok (.iaload, 1) := dk_46 (dk_at dksX2_fewest_0 21 rfl rfl)
theorem dX2_fewest_22 : decode cX2_fewest 22 = .ok (.iload_n 3, 1) := dk_29 (dk_at dksX2_fewest_0 22 rfl rfl)
theorem dX2_fewest_23 : decode cX2_fewest 23 = .ok (.if_icmp .eq 6, 3) := dk_159 0 6 (dk_at dksX2_fewest_1 0 rfl rfl)
theorem dX2_fewest_26 : decode cX2_fewest 26 = .ok (.goto 39, 3) := dk_167 0 39 (dk_at dksX2_fewest_1 3 rfl rfl)
theorem dX2_fewest_29 : decode cX2_fewest 29 = .ok (.iload_n 2, 1) := dk_28 (dk_at dksX2_fewest_1 6 rfl rfl)
theorem dX2_fewest_30 : decode cX2_fewest 30 = .ok (.iconst (-1), 1) := dk_2 (dk_at dksX2_fewest_1 7 rfl rfl)
theorem dX2_fewest_31 : decode cX2_fewest 31 = .ok (.if_icmp .eq 32, 3) := dk_159 0 32 (dk_at dksX2_fewest_1 8 rfl rfl)
theorem dX2_fewest_34 : decode cX2_fewest 34 = .ok (.iload_n 1, 1) := dk_27 (dk_at dksX2_fewest_1 11 rfl rfl)
theorem dX2_fewest_35 : decode cX2_fewest 35 = .ok (.ifCond .eq 17, 3) := dk_153 0 17 (dk_at dksX2_fewest_1 12 rfl rfl)
theorem dX2_fewest_38 : decode cX2_fewest 38 = .ok (.iload_n 3, 1) := dk_29 (dk_at dksX2_fewest_1 15 rfl rfl)
theorem dX2_fewest_39 : decode cX2_fewest 39 = .ok (.invokestatic 298, 3) := dk_184 1 42 (dk_at dksX2_fewest_1 16 rfl rfl)
theorem dX2_fewest_42 : decode cX2_fewest 42 = .ok (.iload_n 2, 1) := dk_28 (dk_at dksX2_fewest_1 19 rfl rfl)
theorem dX2_fewest_43 : decode cX2_fewest 43 = .ok (.invokestatic 298, 3) := dk_184 1 42 (dk_at dksX2_fewest_1 20 rfl rfl)
theorem dX2_fewest_46 : decode cX2_fewest 46 = .ok (.if_icmp .le 19, 3) := dk_164 0 19 (dk_at dksX2_fewest_2 0 rfl rfl)
theorem dX2_fewest_49 : decode cX2_fewest 49 = .ok (.goto 14, 3) := dk_167 0 14 (dk_at dksX2_fewest_2 3 rfl rfl)
theorem dX2_fewest_52 : decode cX2_fewest 52 = .ok (.iload_n 3, 1) := dk_29 (dk_at dksX2_fewest_2 6 rfl rfl)
theorem dX2_fewest_53 : decode cX2_fewest 53 = .ok (.invokestatic 298, 3) := dk_184 1 42 (dk_at dksX2_fewest_2 7 rfl rfl)
theorem dX2_fewest_56 : decode cX2_fewest 56 = .ok (.iload_n 2, 1) := dk_28 (dk_at dksX2_fewest_2 10 rfl rfl)
theorem dX2_fewest_57 : decode cX2_fewest 57 = .ok (.invokestatic 298, 3) := dk_184 1 42 (dk_at dksX2_fewest_2 11 rfl rfl)
theorem dX2_fewest_60 : decode cX2_fewest 60 = .ok (.if_icmp .ge 5, 3) := dk_162 0 5 (dk_at dksX2_fewest_2 14 rfl rfl)
theorem dX2_fewest_63 : decode cX2_fewest 63 = .ok (.iload_n 3, 1) := dk_29 (dk_at dksX2_fewest_2 17 rfl rfl)
theorem dX2_fewest_64 : decode cX2_fewest 64 = .ok (.istore_n 2, 1) := dk_61 (dk_at dksX2_fewest_2 18 rfl rfl)
theorem dX2_fewest_65 : decode cX2_fewest 65 = .ok (.iinc 3 1, 3) := dk_132 3 1 (dk_at dksX2_fewest_2 19 rfl rfl)
theorem dX2_fewest_68 : decode cX2_fewest 68 = .ok (.goto (-60), 3) := dk_167 255 196 (dk_at dksX2_fewest_3 0 rfl rfl)
theorem dX2_fewest_71 : decode cX2_fewest 71 = .ok (.iload_n 2, 1) := dk_28 (dk_at dksX2_fewest_3 3 rfl rfl)
theorem dX2_fewest_72 : decode cX2_fewest 72 = .ok (.ireturn, 1) := dk_172 (dk_at dksX2_fewest_3 4 rfl rfl)
abbrev cX2_tail : ByteArray := prog_21_method_103_code
def yX2_tail : MethodName := ⟨RX2, "tail", "(I)I"⟩
def dkwX2_tail_1 : List UInt8 := [182, 1, 127, 154, 0, 9, 132, 2, 1, 167, 255, 240, 28, 172]
abbrev dktX2_tail_1 : List UInt8 := dkwX2_tail_1 ++ []
def dkwX2_tail_0 : List UInt8 := [42, 27, 182, 1, 73, 154, 0, 5, 2, 172, 42, 182, 1, 121, 3, 61, 42, 42, 27, 28, 182, 1, 124]
abbrev dktX2_tail_0 : List UInt8 := dkwX2_tail_0 ++ dktX2_tail_1
theorem dksX2_tail_0 : cX2_tail.data.toList.drop 0 = dktX2_tail_0 := by decide +kernel
theorem dksX2_tail_1 : cX2_tail.data.toList.drop 23 = dktX2_tail_1 := dk_seg dksX2_tail_0 23 rfl rfl
theorem dX2_tail_0 : decode cX2_tail 0 = .ok (.aload_n 0, 1) := dk_42 (dk_at dksX2_tail_0 0 rfl rfl)
theorem dX2_tail_1 : decode cX2_tail 1 = .ok (.iload_n 1, 1) := dk_27 (dk_at dksX2_tail_0 1 rfl rfl)
theorem dX2_tail_2 : decode cX2_tail 2 = .ok (.invokevirtual 329, 3) := dk_182 1 73 (dk_at dksX2_tail_0 2 rfl rfl)
theorem dX2_tail_5 : decode cX2_tail 5 = .ok (.ifCond .ne 5, 3) := dk_154 0 5 (dk_at dksX2_tail_0 5 rfl rfl)
theorem dX2_tail_8 : decode cX2_tail 8 = .ok (.iconst (-1), 1) := dk_2 (dk_at dksX2_tail_0 8 rfl rfl)
theorem dX2_tail_9 : decode cX2_tail 9 = .ok (.ireturn, 1) := dk_172 (dk_at dksX2_tail_0 9 rfl rfl)
theorem dX2_tail_10 : decode cX2_tail 10 = .ok (.aload_n 0, 1) := dk_42 (dk_at dksX2_tail_0 10 rfl rfl)
theorem dX2_tail_11 : decode cX2_tail 11 = .ok (.invokevirtual 377, 3) := dk_182 1 121 (dk_at dksX2_tail_0 11 rfl rfl)
theorem dX2_tail_14 : decode cX2_tail 14 = .ok (.iconst 0, 1) := dk_3 (dk_at dksX2_tail_0 14 rfl rfl)
theorem dX2_tail_15 : decode cX2_tail 15 = .ok (.istore_n 2, 1) := dk_61 (dk_at dksX2_tail_0 15 rfl rfl)
theorem dX2_tail_16 : decode cX2_tail 16 = .ok (.aload_n 0, 1) := dk_42 (dk_at dksX2_tail_0 16 rfl rfl)
theorem dX2_tail_17 : decode cX2_tail 17 = .ok (.aload_n 0, 1) := dk_42 (dk_at dksX2_tail_0 17 rfl rfl)
theorem dX2_tail_18 : decode cX2_tail 18 = .ok (.iload_n 1, 1) := dk_27 (dk_at dksX2_tail_0 18 rfl rfl)
theorem dX2_tail_19 : decode cX2_tail 19 = .ok (.iload_n 2, 1) := dk_28 (dk_at dksX2_tail_0 19 rfl rfl)
theorem dX2_tail_20 : decode cX2_tail 20 = .ok (.invokevirtual 380, 3) := dk_182 1 124 (dk_at dksX2_tail_0 20 rfl rfl)
theorem dX2_tail_23 : decode cX2_tail 23 = .ok (.invokevirtual 383, 3) := dk_182 1 127 (dk_at dksX2_tail_1 0 rfl rfl)
theorem dX2_tail_26 : decode cX2_tail 26 = .ok (.ifCond .ne 9, 3) := dk_154 0 9 (dk_at dksX2_tail_1 3 rfl rfl)
theorem dX2_tail_29 : decode cX2_tail 29 = .ok (.iinc 2 1, 3) := dk_132 2 1 (dk_at dksX2_tail_1 6 rfl rfl)
theorem dX2_tail_32 : decode cX2_tail 32 = .ok (.goto (-16), 3) := dk_167 255 240 (dk_at dksX2_tail_1 9 rfl rfl)
theorem dX2_tail_35 : decode cX2_tail 35 = .ok (.iload_n 2, 1) := dk_28 (dk_at dksX2_tail_1 12 rfl rfl)
theorem dX2_tail_36 : decode cX2_tail 36 = .ok (.ireturn, 1) := dk_172 (dk_at dksX2_tail_1 13 rfl rfl)
abbrev cX2_goneFrom : ByteArray := prog_21_method_101_code
def yX2_goneFrom : MethodName := ⟨RX2, "goneFrom", "(II)I"⟩
def dkwX2_goneFrom_1 : List UInt8 := [29, 172]
abbrev dktX2_goneFrom_1 : List UInt8 := dkwX2_goneFrom_1 ++ []
def dkwX2_goneFrom_0 : List UInt8 := [27, 62, 3, 54, 4, 21, 4, 28, 162, 0, 16, 42, 180, 0, 50, 29, 46, 62, 132, 4, 1, 167, 255, 240]
abbrev dktX2_goneFrom_0 : List UInt8 := dkwX2_goneFrom_0 ++ dktX2_goneFrom_1
theorem dksX2_goneFrom_0 : cX2_goneFrom.data.toList.drop 0 = dktX2_goneFrom_0 := by decide +kernel
theorem dksX2_goneFrom_1 : cX2_goneFrom.data.toList.drop 24 = dktX2_goneFrom_1 := dk_seg dksX2_goneFrom_0 24 rfl rfl
theorem dX2_goneFrom_0 : decode cX2_goneFrom 0 = .ok (.iload_n 1, 1) := dk_27 (dk_at dksX2_goneFrom_0 0 rfl rfl)
theorem dX2_goneFrom_1 : decode cX2_goneFrom 1 = .ok (.istore_n 3, 1) := dk_62 (dk_at dksX2_goneFrom_0 1 rfl rfl)
theorem dX2_goneFrom_2 : decode cX2_goneFrom 2 = .ok (.iconst 0, 1) := dk_3 (dk_at dksX2_goneFrom_0 2 rfl rfl)
theorem dX2_goneFrom_3 : decode cX2_goneFrom 3 = .ok (.istore 4, 2) := dk_54 4 (dk_at dksX2_goneFrom_0 3 rfl rfl)
theorem dX2_goneFrom_5 : decode cX2_goneFrom 5 = .ok (.iload 4, 2) := dk_21 4 (dk_at dksX2_goneFrom_0 5 rfl rfl)
theorem dX2_goneFrom_7 : decode cX2_goneFrom 7 = .ok (.iload_n 2, 1) := dk_28 (dk_at dksX2_goneFrom_0 7 rfl rfl)
theorem dX2_goneFrom_8 : decode cX2_goneFrom 8 = .ok (.if_icmp .ge 16, 3) := dk_162 0 16 (dk_at dksX2_goneFrom_0 8 rfl rfl)
theorem dX2_goneFrom_11 : decode cX2_goneFrom 11 = .ok (.aload_n 0, 1) := dk_42 (dk_at dksX2_goneFrom_0 11 rfl rfl)
theorem dX2_goneFrom_12 : decode cX2_goneFrom 12 = .ok (.getfield 50, 3) := dk_180 0 50 (dk_at dksX2_goneFrom_0 12 rfl rfl)
theorem dX2_goneFrom_15 : decode cX2_goneFrom 15 = .ok (.iload_n 3, 1) := dk_29 (dk_at dksX2_goneFrom_0 15 rfl rfl)
theorem dX2_goneFrom_16 : decode cX2_goneFrom 16 = .ok (.iaload, 1) := dk_46 (dk_at dksX2_goneFrom_0 16 rfl rfl)
theorem dX2_goneFrom_17 : decode cX2_goneFrom 17 = .ok (.istore_n 3, 1) := dk_62 (dk_at dksX2_goneFrom_0 17 rfl rfl)
theorem dX2_goneFrom_18 : decode cX2_goneFrom 18 = .ok (.iinc 4 1, 3) := dk_132 4 1 (dk_at dksX2_goneFrom_0 18 rfl rfl)
theorem dX2_goneFrom_21 : decode cX2_goneFrom 21 = .ok (.goto (-16), 3) := dk_167 255 240 (dk_at dksX2_goneFrom_0 21 rfl rfl)
theorem dX2_goneFrom_24 : decode cX2_goneFrom 24 = .ok (.iload_n 3, 1) := dk_29 (dk_at dksX2_goneFrom_1 0 rfl rfl)
theorem dX2_goneFrom_25 : decode cX2_goneFrom 25 = .ok (.ireturn, 1) := dk_172 (dk_at dksX2_goneFrom_1 1 rfl rfl)
abbrev cX2_isRound : ByteArray := prog_21_method_102_code
def yX2_isRound : MethodName := ⟨RX2, "isRound", "(I)Z"⟩
def dkwX2_isRound_1 : List UInt8 := [180, 0, 50, 28, 46, 61, 132, 3, 1, 167, 255, 233, 28, 27, 160, 0, 7, 4, 167, 0, 4, 3, 172]
abbrev dktX2_isRound_1 : List UInt8 := dkwX2_isRound_1 ++ []
def dkwX2_isRound_0 : List UInt8 := [42, 180, 0, 50, 27, 46, 61, 3, 62, 29, 42, 182, 0, 70, 163, 0, 21, 28, 27, 159, 0, 16, 42]
abbrev dktX2_isRound_0 : List UInt8 := dkwX2_isRound_0 ++ dktX2_isRound_1
theorem dksX2_isRound_0 : cX2_isRound.data.toList.drop 0 = dktX2_isRound_0 := by decide +kernel
theorem dksX2_isRound_1 : cX2_isRound.data.toList.drop 23 = dktX2_isRound_1 := dk_seg dksX2_isRound_0 23 rfl rfl
theorem dX2_isRound_0 : decode cX2_isRound 0 = .ok (.aload_n 0, 1) := dk_42 (dk_at dksX2_isRound_0 0 rfl rfl)
theorem dX2_isRound_1 : decode cX2_isRound 1 = .ok (.getfield 50, 3) := dk_180 0 50 (dk_at dksX2_isRound_0 1 rfl rfl)
theorem dX2_isRound_4 : decode cX2_isRound 4 = .ok (.iload_n 1, 1) := dk_27 (dk_at dksX2_isRound_0 4 rfl rfl)
theorem dX2_isRound_5 : decode cX2_isRound 5 = .ok (.iaload, 1) := dk_46 (dk_at dksX2_isRound_0 5 rfl rfl)
theorem dX2_isRound_6 : decode cX2_isRound 6 = .ok (.istore_n 2, 1) := dk_61 (dk_at dksX2_isRound_0 6 rfl rfl)
theorem dX2_isRound_7 : decode cX2_isRound 7 = .ok (.iconst 0, 1) := dk_3 (dk_at dksX2_isRound_0 7 rfl rfl)
theorem dX2_isRound_8 : decode cX2_isRound 8 = .ok (.istore_n 3, 1) := dk_62 (dk_at dksX2_isRound_0 8 rfl rfl)
theorem dX2_isRound_9 : decode cX2_isRound 9 = .ok (.iload_n 3, 1) := dk_29 (dk_at dksX2_isRound_0 9 rfl rfl)
theorem dX2_isRound_10 : decode cX2_isRound 10 = .ok (.aload_n 0, 1) := dk_42 (dk_at dksX2_isRound_0 10 rfl rfl)
theorem dX2_isRound_11 : decode cX2_isRound 11 = .ok (.invokevirtual 70, 3) := dk_182 0 70 (dk_at dksX2_isRound_0 11 rfl rfl)
theorem dX2_isRound_14 : decode cX2_isRound 14 = .ok (.if_icmp .gt 21, 3) := dk_163 0 21 (dk_at dksX2_isRound_0 14 rfl rfl)
theorem dX2_isRound_17 : decode cX2_isRound 17 = .ok (.iload_n 2, 1) := dk_28 (dk_at dksX2_isRound_0 17 rfl rfl)
theorem dX2_isRound_18 : decode cX2_isRound 18 = .ok (.iload_n 1, 1) := dk_27 (dk_at dksX2_isRound_0 18 rfl rfl)
theorem dX2_isRound_19 : decode cX2_isRound 19 = .ok (.if_icmp .eq 16, 3) := dk_159 0 16 (dk_at dksX2_isRound_0 19 rfl rfl)
theorem dX2_isRound_22 : decode cX2_isRound 22 = .ok (.aload_n 0, 1) := dk_42 (dk_at dksX2_isRound_0 22 rfl rfl)
theorem dX2_isRound_23 : decode cX2_isRound 23 = .ok (.getfield 50, 3) := dk_180 0 50 (dk_at dksX2_isRound_1 0 rfl rfl)
theorem dX2_isRound_26 : decode cX2_isRound 26 = .ok (.iload_n 2, 1) := dk_28 (dk_at dksX2_isRound_1 3 rfl rfl)
theorem dX2_isRound_27 : decode cX2_isRound 27 = .ok (.iaload, 1) := dk_46 (dk_at dksX2_isRound_1 4 rfl rfl)
theorem dX2_isRound_28 : decode cX2_isRound 28 = .ok (.istore_n 2, 1) := dk_61 (dk_at dksX2_isRound_1 5 rfl rfl)
theorem dX2_isRound_29 : decode cX2_isRound 29 = .ok (.iinc 3 1, 3) := dk_132 3 1 (dk_at dksX2_isRound_1 6 rfl rfl)
theorem dX2_isRound_32 : decode cX2_isRound 32 = .ok (.goto (-23), 3) := dk_167 255 233 (dk_at dksX2_isRound_1 9 rfl rfl)
theorem dX2_isRound_35 : decode cX2_isRound 35 = .ok (.iload_n 2, 1) := dk_28 (dk_at dksX2_isRound_1 12 rfl rfl)
theorem dX2_isRound_36 : decode cX2_isRound 36 = .ok (.iload_n 1, 1) := dk_27 (dk_at dksX2_isRound_1 13 rfl rfl)
theorem dX2_isRound_37 : decode cX2_isRound 37 = .ok (.if_icmp .ne 7, 3) := dk_160 0 7 (dk_at dksX2_isRound_1 14 rfl rfl)
theorem dX2_isRound_40 : decode cX2_isRound 40 = .ok (.iconst 1, 1) := dk_4 (dk_at dksX2_isRound_1 17 rfl rfl)
theorem dX2_isRound_41 : decode cX2_isRound 41 = .ok (.goto 4, 3) := dk_167 0 4 (dk_at dksX2_isRound_1 18 rfl rfl)
theorem dX2_isRound_44 : decode cX2_isRound 44 = .ok (.iconst 0, 1) := dk_3 (dk_at dksX2_isRound_1 21 rfl rfl)
theorem dX2_isRound_45 : decode cX2_isRound 45 = .ok (.ireturn, 1) := dk_172 (dk_at dksX2_isRound_1 22 rfl rfl)
abbrev cX2_round : ByteArray := prog_21_method_104_code
def yX2_round : MethodName := ⟨RX2, "round", "(I)I"⟩
def dkwX2_round_1 : List UInt8 := [62, 42, 28, 29, 182, 1, 124, 28, 159, 0, 9, 132, 3, 1, 167, 255, 243, 29, 172]
abbrev dktX2_round_1 : List UInt8 := dkwX2_round_1 ++ []
def dkwX2_round_0 : List UInt8 := [42, 27, 182, 1, 73, 154, 0, 5, 2, 172, 42, 182, 1, 121, 42, 27, 17, 1, 0, 182, 1, 124, 61, 4]
abbrev dktX2_round_0 : List UInt8 := dkwX2_round_0 ++ dktX2_round_1
theorem dksX2_round_0 : cX2_round.data.toList.drop 0 = dktX2_round_0 := by decide +kernel
theorem dksX2_round_1 : cX2_round.data.toList.drop 24 = dktX2_round_1 := dk_seg dksX2_round_0 24 rfl rfl
theorem dX2_round_0 : decode cX2_round 0 = .ok (.aload_n 0, 1) := dk_42 (dk_at dksX2_round_0 0 rfl rfl)
theorem dX2_round_1 : decode cX2_round 1 = .ok (.iload_n 1, 1) := dk_27 (dk_at dksX2_round_0 1 rfl rfl)
theorem dX2_round_2 : decode cX2_round 2 = .ok (.invokevirtual 329, 3) := dk_182 1 73 (dk_at dksX2_round_0 2 rfl rfl)
theorem dX2_round_5 : decode cX2_round 5 = .ok (.ifCond .ne 5, 3) := dk_154 0 5 (dk_at dksX2_round_0 5 rfl rfl)
theorem dX2_round_8 : decode cX2_round 8 = .ok (.iconst (-1), 1) := dk_2 (dk_at dksX2_round_0 8 rfl rfl)
theorem dX2_round_9 : decode cX2_round 9 = .ok (.ireturn, 1) := dk_172 (dk_at dksX2_round_0 9 rfl rfl)
theorem dX2_round_10 : decode cX2_round 10 = .ok (.aload_n 0, 1) := dk_42 (dk_at dksX2_round_0 10 rfl rfl)
theorem dX2_round_11 : decode cX2_round 11 = .ok (.invokevirtual 377, 3) := dk_182 1 121 (dk_at dksX2_round_0 11 rfl rfl)
theorem dX2_round_14 : decode cX2_round 14 = .ok (.aload_n 0, 1) := dk_42 (dk_at dksX2_round_0 14 rfl rfl)
theorem dX2_round_15 : decode cX2_round 15 = .ok (.iload_n 1, 1) := dk_27 (dk_at dksX2_round_0 15 rfl rfl)
theorem dX2_round_16 : decode cX2_round 16 = .ok (.sipush 256, 3) := dk_17 1 0 (dk_at dksX2_round_0 16 rfl rfl)
theorem dX2_round_19 : decode cX2_round 19 = .ok (.invokevirtual 380, 3) := dk_182 1 124 (dk_at dksX2_round_0 19 rfl rfl)
theorem dX2_round_22 : decode cX2_round 22 = .ok (.istore_n 2, 1) := dk_61 (dk_at dksX2_round_0 22 rfl rfl)
theorem dX2_round_23 : decode cX2_round 23 = .ok (.iconst 1, 1) := dk_4 (dk_at dksX2_round_0 23 rfl rfl)
theorem dX2_round_24 : decode cX2_round 24 = .ok (.istore_n 3, 1) := dk_62 (dk_at dksX2_round_1 0 rfl rfl)
theorem dX2_round_25 : decode cX2_round 25 = .ok (.aload_n 0, 1) := dk_42 (dk_at dksX2_round_1 1 rfl rfl)
theorem dX2_round_26 : decode cX2_round 26 = .ok (.iload_n 2, 1) := dk_28 (dk_at dksX2_round_1 2 rfl rfl)
theorem dX2_round_27 : decode cX2_round 27 = .ok (.iload_n 3, 1) := dk_29 (dk_at dksX2_round_1 3 rfl rfl)
theorem dX2_round_28 : decode cX2_round 28 = .ok (.invokevirtual 380, 3) := dk_182 1 124 (dk_at dksX2_round_1 4 rfl rfl)
theorem dX2_round_31 : decode cX2_round 31 = .ok (.iload_n 2, 1) := dk_28 (dk_at dksX2_round_1 7 rfl rfl)
theorem dX2_round_32 : decode cX2_round 32 = .ok (.if_icmp .eq 9, 3) := dk_159 0 9 (dk_at dksX2_round_1 8 rfl rfl)
theorem dX2_round_35 : decode cX2_round 35 = .ok (.iinc 3 1, 3) := dk_132 3 1 (dk_at dksX2_round_1 11 rfl rfl)
theorem dX2_round_38 : decode cX2_round 38 = .ok (.goto (-13), 3) := dk_167 255 243 (dk_at dksX2_round_1 14 rfl rfl)
theorem dX2_round_41 : decode cX2_round 41 = .ok (.iload_n 3, 1) := dk_29 (dk_at dksX2_round_1 17 rfl rfl)
theorem dX2_round_42 : decode cX2_round 42 = .ok (.ireturn, 1) := dk_172 (dk_at dksX2_round_1 18 rfl rfl)
abbrev cX2_rounds : ByteArray := prog_21_method_105_code
def yX2_rounds : MethodName := ⟨RX2, "rounds", "()I"⟩
def dkwX2_rounds_3 : List UInt8 := [167, 0, 4, 3, 96, 60, 132, 2, 1, 167, 255, 185, 27, 172]
abbrev dktX2_rounds_3 : List UInt8 := dkwX2_rounds_3 ++ []
def dkwX2_rounds_2 : List UInt8 := [167, 0, 4, 3, 62, 42, 180, 0, 50, 21, 4, 46, 54, 4, 167, 255, 225, 27, 29, 153, 0, 7, 4]
abbrev dktX2_rounds_2 : List UInt8 := dkwX2_rounds_2 ++ dktX2_rounds_3
def dkwX2_rounds_1 : List UInt8 := [180, 0, 50, 28, 46, 54, 4, 29, 153, 0, 33, 21, 4, 28, 159, 0, 27, 21, 4, 28, 164, 0, 7, 4]
abbrev dktX2_rounds_1 : List UInt8 := dkwX2_rounds_1 ++ dktX2_rounds_2
def dkwX2_rounds_0 : List UInt8 := [42, 182, 1, 121, 3, 60, 3, 61, 28, 42, 182, 0, 70, 163, 0, 69, 42, 28, 182, 1, 127, 62, 42]
abbrev dktX2_rounds_0 : List UInt8 := dkwX2_rounds_0 ++ dktX2_rounds_1
theorem dksX2_rounds_0 : cX2_rounds.data.toList.drop 0 = dktX2_rounds_0 := by decide +kernel
theorem dksX2_rounds_1 : cX2_rounds.data.toList.drop 23 = dktX2_rounds_1 := dk_seg dksX2_rounds_0 23 rfl rfl
theorem dksX2_rounds_2 : cX2_rounds.data.toList.drop 47 = dktX2_rounds_2 := dk_seg dksX2_rounds_1 24 rfl rfl
theorem dksX2_rounds_3 : cX2_rounds.data.toList.drop 70 = dktX2_rounds_3 := dk_seg dksX2_rounds_2 23 rfl rfl
theorem dX2_rounds_0 : decode cX2_rounds 0 = .ok (.aload_n 0, 1) := dk_42 (dk_at dksX2_rounds_0 0 rfl rfl)
theorem dX2_rounds_1 : decode cX2_rounds 1 = .ok (.invokevirtual 377, 3) := dk_182 1 121 (dk_at dksX2_rounds_0 1 rfl rfl)
theorem dX2_rounds_4 : decode cX2_rounds 4 = .ok (.iconst 0, 1) := dk_3 (dk_at dksX2_rounds_0 4 rfl rfl)
theorem dX2_rounds_5 : decode cX2_rounds 5 = .ok (.istore_n 1, 1) := dk_60 (dk_at dksX2_rounds_0 5 rfl rfl)
theorem dX2_rounds_6 : decode cX2_rounds 6 = .ok (.iconst 0, 1) := dk_3 (dk_at dksX2_rounds_0 6 rfl rfl)
theorem dX2_rounds_7 : decode cX2_rounds 7 = .ok (.istore_n 2, 1) := dk_61 (dk_at dksX2_rounds_0 7 rfl rfl)
theorem dX2_rounds_8 : decode cX2_rounds 8 = .ok (.iload_n 2, 1) := dk_28 (dk_at dksX2_rounds_0 8 rfl rfl)
theorem dX2_rounds_9 : decode cX2_rounds 9 = .ok (.aload_n 0, 1) := dk_42 (dk_at dksX2_rounds_0 9 rfl rfl)
theorem dX2_rounds_10 : decode cX2_rounds 10 = .ok (.invokevirtual 70, 3) := dk_182 0 70 (dk_at dksX2_rounds_0 10 rfl rfl)
theorem dX2_rounds_13 : decode cX2_rounds 13 = .ok (.if_icmp .gt 69, 3) := dk_163 0 69 (dk_at dksX2_rounds_0 13 rfl rfl)
theorem dX2_rounds_16 : decode cX2_rounds 16 = .ok (.aload_n 0, 1) := dk_42 (dk_at dksX2_rounds_0 16 rfl rfl)
theorem dX2_rounds_17 : decode cX2_rounds 17 = .ok (.iload_n 2, 1) := dk_28 (dk_at dksX2_rounds_0 17 rfl rfl)
theorem dX2_rounds_18 : decode cX2_rounds 18 = .ok (.invokevirtual 383, 3) := dk_182 1 127 (dk_at dksX2_rounds_0 18 rfl rfl)
theorem dX2_rounds_21 : decode cX2_rounds 21 = .ok (.istore_n 3, 1) := dk_62 (dk_at dksX2_rounds_0 21 rfl rfl)
theorem dX2_rounds_22 : decode cX2_rounds 22 = .ok (.aload_n 0, 1) := dk_42 (dk_at dksX2_rounds_0 22 rfl rfl)
theorem dX2_rounds_23 : decode cX2_rounds 23 = .ok (.getfield 50, 3) := dk_180 0 50 (dk_at dksX2_rounds_1 0 rfl rfl)
theorem dX2_rounds_26 : decode cX2_rounds 26 = .ok (.iload_n 2, 1) := dk_28 (dk_at dksX2_rounds_1 3 rfl rfl)
theorem dX2_rounds_27 : decode cX2_rounds 27 = .ok (.iaload, 1) := dk_46 (dk_at dksX2_rounds_1 4 rfl rfl)
theorem dX2_rounds_28 : decode cX2_rounds 28 = .ok (.istore 4, 2) := dk_54 4 (dk_at dksX2_rounds_1 5 rfl rfl)
theorem dX2_rounds_30 : decode cX2_rounds 30 = .ok (.iload_n 3, 1) := dk_29 (dk_at dksX2_rounds_1 7 rfl rfl)
theorem dX2_rounds_31 : decode cX2_rounds 31 = .ok (.ifCond .eq 33, 3) := dk_153 0 33 (dk_at dksX2_rounds_1 8 rfl rfl)
theorem dX2_rounds_34 : decode cX2_rounds 34 = .ok (.iload 4, 2) := dk_21 4 (dk_at dksX2_rounds_1 11 rfl rfl)
theorem dX2_rounds_36 : decode cX2_rounds 36 = .ok (.iload_n 2, 1) := dk_28 (dk_at dksX2_rounds_1 13 rfl rfl)
theorem dX2_rounds_37 : decode cX2_rounds 37 = .ok (.if_icmp .eq 27, 3) := dk_159 0 27 (dk_at dksX2_rounds_1 14 rfl rfl)
theorem dX2_rounds_40 : decode cX2_rounds 40 = .ok (.iload 4, 2) := dk_21 4 (dk_at dksX2_rounds_1 17 rfl rfl)
theorem dX2_rounds_42 : decode cX2_rounds 42 = .ok (.iload_n 2, 1) := dk_28 (dk_at dksX2_rounds_1 19 rfl rfl)
theorem dX2_rounds_43 : decode cX2_rounds 43 = .ok (.if_icmp .le 7, 3) := dk_164 0 7 (dk_at dksX2_rounds_1 20 rfl rfl)
theorem dX2_rounds_46 : decode cX2_rounds 46 = .ok (.iconst 1, 1) := dk_4 (dk_at dksX2_rounds_1 23 rfl rfl)
theorem dX2_rounds_47 : decode cX2_rounds 47 = .ok (.goto 4, 3) := dk_167 0 4 (dk_at dksX2_rounds_2 0 rfl rfl)
theorem dX2_rounds_50 : decode cX2_rounds 50 = .ok (.iconst 0, 1) := dk_3 (dk_at dksX2_rounds_2 3 rfl rfl)
theorem dX2_rounds_51 : decode cX2_rounds 51 = .ok (.istore_n 3, 1) := dk_62 (dk_at dksX2_rounds_2 4 rfl rfl)
theorem dX2_rounds_52 : decode cX2_rounds 52 = .ok (.aload_n 0, 1) := dk_42 (dk_at dksX2_rounds_2 5 rfl rfl)
theorem dX2_rounds_53 : decode cX2_rounds 53 = .ok (.getfield 50, 3) := dk_180 0 50 (dk_at dksX2_rounds_2 6 rfl rfl)
theorem dX2_rounds_56 : decode cX2_rounds 56 = .ok (.iload 4, 2) := dk_21 4 (dk_at dksX2_rounds_2 9 rfl rfl)
theorem dX2_rounds_58 : decode cX2_rounds 58 = .ok (.iaload, 1) := dk_46 (dk_at dksX2_rounds_2 11 rfl rfl)
theorem dX2_rounds_59 : decode cX2_rounds 59 = .ok (.istore 4, 2) := dk_54 4 (dk_at dksX2_rounds_2 12 rfl rfl)
theorem dX2_rounds_61 : decode cX2_rounds 61 = .ok (.goto (-31), 3) := dk_167 255 225 (dk_at dksX2_rounds_2 14 rfl rfl)
theorem dX2_rounds_64 : decode cX2_rounds 64 = .ok (.iload_n 1, 1) := dk_27 (dk_at dksX2_rounds_2 17 rfl rfl)
theorem dX2_rounds_65 : decode cX2_rounds 65 = .ok (.iload_n 3, 1) := dk_29 (dk_at dksX2_rounds_2 18 rfl rfl)
theorem dX2_rounds_66 : decode cX2_rounds 66 = .ok (.ifCond .eq 7, 3) := dk_153 0 7 (dk_at dksX2_rounds_2 19 rfl rfl)
theorem dX2_rounds_69 : decode cX2_rounds 69 = .ok (.iconst 1, 1) := dk_4 (dk_at dksX2_rounds_2 22 rfl rfl)
theorem dX2_rounds_70 : decode cX2_rounds 70 = .ok (.goto 4, 3) := dk_167 0 4 (dk_at dksX2_rounds_3 0 rfl rfl)
theorem dX2_rounds_73 : decode cX2_rounds 73 = .ok (.iconst 0, 1) := dk_3 (dk_at dksX2_rounds_3 3 rfl rfl)
theorem dX2_rounds_74 : decode cX2_rounds 74 = .ok (.iadd, 1) := dk_96 (dk_at dksX2_rounds_3 4 rfl rfl)
theorem dX2_rounds_75 : decode cX2_rounds 75 = .ok (.istore_n 1, 1) := dk_60 (dk_at dksX2_rounds_3 5 rfl rfl)
theorem dX2_rounds_76 : decode cX2_rounds 76 = .ok (.iinc 2 1, 3) := dk_132 2 1 (dk_at dksX2_rounds_3 6 rfl rfl)
theorem dX2_rounds_79 : decode cX2_rounds 79 = .ok (.goto (-71), 3) := dk_167 255 185 (dk_at dksX2_rounds_3 9 rfl rfl)
theorem dX2_rounds_82 : decode cX2_rounds 82 = .ok (.iload_n 1, 1) := dk_27 (dk_at dksX2_rounds_3 12 rfl rfl)
theorem dX2_rounds_83 : decode cX2_rounds 83 = .ok (.ireturn, 1) := dk_172 (dk_at dksX2_rounds_3 13 rfl rfl)
abbrev cX2_basin : ByteArray := prog_21_method_107_code
def yX2_basin : MethodName := ⟨RX2, "basin", "(I)I"⟩
def dkwX2_basin_2 : List UInt8 := [167, 255, 227, 28, 172]
abbrev dktX2_basin_2 : List UInt8 := dkwX2_basin_2 ++ []
def dkwX2_basin_1 : List UInt8 := [163, 0, 27, 28, 42, 29, 27, 182, 1, 130, 2, 159, 0, 7, 4, 167, 0, 4, 3, 96, 61, 132, 3, 1]
abbrev dktX2_basin_1 : List UInt8 := dkwX2_basin_1 ++ dktX2_basin_2
def dkwX2_basin_0 : List UInt8 := [42, 27, 182, 1, 73, 154, 0, 5, 2, 172, 42, 182, 1, 121, 3, 61, 3, 62, 29, 42, 182, 0, 70]
abbrev dktX2_basin_0 : List UInt8 := dkwX2_basin_0 ++ dktX2_basin_1
theorem dksX2_basin_0 : cX2_basin.data.toList.drop 0 = dktX2_basin_0 := by decide +kernel
theorem dksX2_basin_1 : cX2_basin.data.toList.drop 23 = dktX2_basin_1 := dk_seg dksX2_basin_0 23 rfl rfl
theorem dksX2_basin_2 : cX2_basin.data.toList.drop 47 = dktX2_basin_2 := dk_seg dksX2_basin_1 24 rfl rfl
theorem dX2_basin_0 : decode cX2_basin 0 = .ok (.aload_n 0, 1) := dk_42 (dk_at dksX2_basin_0 0 rfl rfl)
theorem dX2_basin_1 : decode cX2_basin 1 = .ok (.iload_n 1, 1) := dk_27 (dk_at dksX2_basin_0 1 rfl rfl)
theorem dX2_basin_2 : decode cX2_basin 2 = .ok (.invokevirtual 329, 3) := dk_182 1 73 (dk_at dksX2_basin_0 2 rfl rfl)
theorem dX2_basin_5 : decode cX2_basin 5 = .ok (.ifCond .ne 5, 3) := dk_154 0 5 (dk_at dksX2_basin_0 5 rfl rfl)
theorem dX2_basin_8 : decode cX2_basin 8 = .ok (.iconst (-1), 1) := dk_2 (dk_at dksX2_basin_0 8 rfl rfl)
theorem dX2_basin_9 : decode cX2_basin 9 = .ok (.ireturn, 1) := dk_172 (dk_at dksX2_basin_0 9 rfl rfl)
theorem dX2_basin_10 : decode cX2_basin 10 = .ok (.aload_n 0, 1) := dk_42 (dk_at dksX2_basin_0 10 rfl rfl)
theorem dX2_basin_11 : decode cX2_basin 11 = .ok (.invokevirtual 377, 3) := dk_182 1 121 (dk_at dksX2_basin_0 11 rfl rfl)
theorem dX2_basin_14 : decode cX2_basin 14 = .ok (.iconst 0, 1) := dk_3 (dk_at dksX2_basin_0 14 rfl rfl)
theorem dX2_basin_15 : decode cX2_basin 15 = .ok (.istore_n 2, 1) := dk_61 (dk_at dksX2_basin_0 15 rfl rfl)
theorem dX2_basin_16 : decode cX2_basin 16 = .ok (.iconst 0, 1) := dk_3 (dk_at dksX2_basin_0 16 rfl rfl)
theorem dX2_basin_17 : decode cX2_basin 17 = .ok (.istore_n 3, 1) := dk_62 (dk_at dksX2_basin_0 17 rfl rfl)
theorem dX2_basin_18 : decode cX2_basin 18 = .ok (.iload_n 3, 1) := dk_29 (dk_at dksX2_basin_0 18 rfl rfl)
theorem dX2_basin_19 : decode cX2_basin 19 = .ok (.aload_n 0, 1) := dk_42 (dk_at dksX2_basin_0 19 rfl rfl)
theorem dX2_basin_20 : decode cX2_basin 20 = .ok (.invokevirtual 70, 3) := dk_182 0 70 (dk_at dksX2_basin_0 20 rfl rfl)
theorem dX2_basin_23 : decode cX2_basin 23 = .ok (.if_icmp .gt 27, 3) := dk_163 0 27 (dk_at dksX2_basin_1 0 rfl rfl)
theorem dX2_basin_26 : decode cX2_basin 26 = .ok (.iload_n 2, 1) := dk_28 (dk_at dksX2_basin_1 3 rfl rfl)
theorem dX2_basin_27 : decode cX2_basin 27 = .ok (.aload_n 0, 1) := dk_42 (dk_at dksX2_basin_1 4 rfl rfl)
theorem dX2_basin_28 : decode cX2_basin 28 = .ok (.iload_n 3, 1) := dk_29 (dk_at dksX2_basin_1 5 rfl rfl)
theorem dX2_basin_29 : decode cX2_basin 29 = .ok (.iload_n 1, 1) := dk_27 (dk_at dksX2_basin_1 6 rfl rfl)
theorem dX2_basin_30 : decode cX2_basin 30 = .ok (.invokevirtual 386, 3) := dk_182 1 130 (dk_at dksX2_basin_1 7 rfl rfl)
theorem dX2_basin_33 : decode cX2_basin 33 = .ok (.iconst (-1), 1) := dk_2 (dk_at dksX2_basin_1 10 rfl rfl)
theorem dX2_basin_34 : decode cX2_basin 34 = .ok (.if_icmp .eq 7, 3) := dk_159 0 7 (dk_at dksX2_basin_1 11 rfl rfl)
theorem dX2_basin_37 : decode cX2_basin 37 = .ok (.iconst 1, 1) := dk_4 (dk_at dksX2_basin_1 14 rfl rfl)
theorem dX2_basin_38 : decode cX2_basin 38 = .ok (.goto 4, 3) := dk_167 0 4 (dk_at dksX2_basin_1 15 rfl rfl)
theorem dX2_basin_41 : decode cX2_basin 41 = .ok (.iconst 0, 1) := dk_3 (dk_at dksX2_basin_1 18 rfl rfl)
theorem dX2_basin_42 : decode cX2_basin 42 = .ok (.iadd, 1) := dk_96 (dk_at dksX2_basin_1 19 rfl rfl)
theorem dX2_basin_43 : decode cX2_basin 43 = .ok (.istore_n 2, 1) := dk_61 (dk_at dksX2_basin_1 20 rfl rfl)
theorem dX2_basin_44 : decode cX2_basin 44 = .ok (.iinc 3 1, 3) := dk_132 3 1 (dk_at dksX2_basin_1 21 rfl rfl)
theorem dX2_basin_47 : decode cX2_basin 47 = .ok (.goto (-29), 3) := dk_167 255 227 (dk_at dksX2_basin_2 0 rfl rfl)
theorem dX2_basin_50 : decode cX2_basin 50 = .ok (.iload_n 2, 1) := dk_28 (dk_at dksX2_basin_2 3 rfl rfl)
theorem dX2_basin_51 : decode cX2_basin 51 = .ok (.ireturn, 1) := dk_172 (dk_at dksX2_basin_2 4 rfl rfl)
abbrev cX2_timesTo : ByteArray := prog_21_method_106_code
def yX2_timesTo : MethodName := ⟨RX2, "timesTo", "(II)I"⟩
def dkwX2_timesTo_1 : List UInt8 := [180, 0, 50, 29, 46, 62, 132, 4, 1, 167, 255, 229, 2, 172]
abbrev dktX2_timesTo_1 : List UInt8 := dkwX2_timesTo_1 ++ []
def dkwX2_timesTo_0 : List UInt8 := [27, 62, 3, 54, 4, 21, 4, 42, 182, 0, 70, 163, 0, 24, 29, 28, 160, 0, 6, 21, 4, 172, 42]
abbrev dktX2_timesTo_0 : List UInt8 := dkwX2_timesTo_0 ++ dktX2_timesTo_1
theorem dksX2_timesTo_0 : cX2_timesTo.data.toList.drop 0 = dktX2_timesTo_0 := by decide +kernel
theorem dksX2_timesTo_1 : cX2_timesTo.data.toList.drop 23 = dktX2_timesTo_1 := dk_seg dksX2_timesTo_0 23 rfl rfl
theorem dX2_timesTo_0 : decode cX2_timesTo 0 = .ok (.iload_n 1, 1) := dk_27 (dk_at dksX2_timesTo_0 0 rfl rfl)
theorem dX2_timesTo_1 : decode cX2_timesTo 1 = .ok (.istore_n 3, 1) := dk_62 (dk_at dksX2_timesTo_0 1 rfl rfl)
theorem dX2_timesTo_2 : decode cX2_timesTo 2 = .ok (.iconst 0, 1) := dk_3 (dk_at dksX2_timesTo_0 2 rfl rfl)
theorem dX2_timesTo_3 : decode cX2_timesTo 3 = .ok (.istore 4, 2) := dk_54 4 (dk_at dksX2_timesTo_0 3 rfl rfl)
theorem dX2_timesTo_5 : decode cX2_timesTo 5 = .ok (.iload 4, 2) := dk_21 4 (dk_at dksX2_timesTo_0 5 rfl rfl)
theorem dX2_timesTo_7 : decode cX2_timesTo 7 = .ok (.aload_n 0, 1) := dk_42 (dk_at dksX2_timesTo_0 7 rfl rfl)
theorem dX2_timesTo_8 : decode cX2_timesTo 8 = .ok (.invokevirtual 70, 3) := dk_182 0 70 (dk_at dksX2_timesTo_0 8 rfl rfl)
theorem dX2_timesTo_11 : decode cX2_timesTo 11 = .ok (.if_icmp .gt 24, 3) := dk_163 0 24 (dk_at dksX2_timesTo_0 11 rfl rfl)
theorem dX2_timesTo_14 : decode cX2_timesTo 14 = .ok (.iload_n 3, 1) := dk_29 (dk_at dksX2_timesTo_0 14 rfl rfl)
theorem dX2_timesTo_15 : decode cX2_timesTo 15 = .ok (.iload_n 2, 1) := dk_28 (dk_at dksX2_timesTo_0 15 rfl rfl)
theorem dX2_timesTo_16 : decode cX2_timesTo 16 = .ok (.if_icmp .ne 6, 3) := dk_160 0 6 (dk_at dksX2_timesTo_0 16 rfl rfl)
theorem dX2_timesTo_19 : decode cX2_timesTo 19 = .ok (.iload 4, 2) := dk_21 4 (dk_at dksX2_timesTo_0 19 rfl rfl)
theorem dX2_timesTo_21 : decode cX2_timesTo 21 = .ok (.ireturn, 1) := dk_172 (dk_at dksX2_timesTo_0 21 rfl rfl)
theorem dX2_timesTo_22 : decode cX2_timesTo 22 = .ok (.aload_n 0, 1) := dk_42 (dk_at dksX2_timesTo_0 22 rfl rfl)
theorem dX2_timesTo_23 : decode cX2_timesTo 23 = .ok (.getfield 50, 3) := dk_180 0 50 (dk_at dksX2_timesTo_1 0 rfl rfl)
theorem dX2_timesTo_26 : decode cX2_timesTo 26 = .ok (.iload_n 3, 1) := dk_29 (dk_at dksX2_timesTo_1 3 rfl rfl)
theorem dX2_timesTo_27 : decode cX2_timesTo 27 = .ok (.iaload, 1) := dk_46 (dk_at dksX2_timesTo_1 4 rfl rfl)
theorem dX2_timesTo_28 : decode cX2_timesTo 28 = .ok (.istore_n 3, 1) := dk_62 (dk_at dksX2_timesTo_1 5 rfl rfl)
theorem dX2_timesTo_29 : decode cX2_timesTo 29 = .ok (.iinc 4 1, 3) := dk_132 4 1 (dk_at dksX2_timesTo_1 6 rfl rfl)
theorem dX2_timesTo_32 : decode cX2_timesTo 32 = .ok (.goto (-27), 3) := dk_167 255 229 (dk_at dksX2_timesTo_1 9 rfl rfl)
theorem dX2_timesTo_35 : decode cX2_timesTo 35 = .ok (.iconst (-1), 1) := dk_2 (dk_at dksX2_timesTo_1 12 rfl rfl)
theorem dX2_timesTo_36 : decode cX2_timesTo 36 = .ok (.ireturn, 1) := dk_172 (dk_at dksX2_timesTo_1 13 rfl rfl)
abbrev cX2_never : ByteArray := prog_21_method_108_code
def yX2_never : MethodName := ⟨RX2, "never", "()I"⟩
def dkwX2_never_3 : List UInt8 := [167, 255, 194, 27, 172]
abbrev dktX2_never_3 : List UInt8 := dkwX2_never_3 ++ []
def dkwX2_never_2 : List UInt8 := [62, 132, 4, 1, 167, 255, 225, 27, 29, 153, 0, 7, 3, 167, 0, 4, 4, 96, 60, 132, 2, 1]
abbrev dktX2_never_2 : List UInt8 := dkwX2_never_2 ++ dktX2_never_3
def dkwX2_never_1 : List UInt8 := [182, 0, 70, 163, 0, 28, 29, 42, 180, 0, 50, 21, 4, 46, 28, 160, 0, 7, 4, 167, 0, 4, 3, 128]
abbrev dktX2_never_1 : List UInt8 := dkwX2_never_1 ++ dktX2_never_2
def dkwX2_never_0 : List UInt8 := [42, 182, 1, 121, 3, 60, 3, 61, 28, 42, 182, 0, 70, 163, 0, 60, 3, 62, 3, 54, 4, 21, 4, 42]
abbrev dktX2_never_0 : List UInt8 := dkwX2_never_0 ++ dktX2_never_1
theorem dksX2_never_0 : cX2_never.data.toList.drop 0 = dktX2_never_0 := by decide +kernel
theorem dksX2_never_1 : cX2_never.data.toList.drop 24 = dktX2_never_1 := dk_seg dksX2_never_0 24 rfl rfl
theorem dksX2_never_2 : cX2_never.data.toList.drop 48 = dktX2_never_2 := dk_seg dksX2_never_1 24 rfl rfl
theorem dksX2_never_3 : cX2_never.data.toList.drop 70 = dktX2_never_3 := dk_seg dksX2_never_2 22 rfl rfl
theorem dX2_never_0 : decode cX2_never 0 = .ok (.aload_n 0, 1) := dk_42 (dk_at dksX2_never_0 0 rfl rfl)
theorem dX2_never_1 : decode cX2_never 1 = .ok (.invokevirtual 377, 3) := dk_182 1 121 (dk_at dksX2_never_0 1 rfl rfl)
theorem dX2_never_4 : decode cX2_never 4 = .ok (.iconst 0, 1) := dk_3 (dk_at dksX2_never_0 4 rfl rfl)
theorem dX2_never_5 : decode cX2_never 5 = .ok (.istore_n 1, 1) := dk_60 (dk_at dksX2_never_0 5 rfl rfl)
theorem dX2_never_6 : decode cX2_never 6 = .ok (.iconst 0, 1) := dk_3 (dk_at dksX2_never_0 6 rfl rfl)
theorem dX2_never_7 : decode cX2_never 7 = .ok (.istore_n 2, 1) := dk_61 (dk_at dksX2_never_0 7 rfl rfl)
theorem dX2_never_8 : decode cX2_never 8 = .ok (.iload_n 2, 1) := dk_28 (dk_at dksX2_never_0 8 rfl rfl)
theorem dX2_never_9 : decode cX2_never 9 = .ok (.aload_n 0, 1) := dk_42 (dk_at dksX2_never_0 9 rfl rfl)
theorem dX2_never_10 : decode cX2_never 10 = .ok (.invokevirtual 70, 3) := dk_182 0 70 (dk_at dksX2_never_0 10 rfl rfl)
theorem dX2_never_13 : decode cX2_never 13 = .ok (.if_icmp .gt 60, 3) := dk_163 0 60 (dk_at dksX2_never_0 13 rfl rfl)
theorem dX2_never_16 : decode cX2_never 16 = .ok (.iconst 0, 1) := dk_3 (dk_at dksX2_never_0 16 rfl rfl)
theorem dX2_never_17 : decode cX2_never 17 = .ok (.istore_n 3, 1) := dk_62 (dk_at dksX2_never_0 17 rfl rfl)
theorem dX2_never_18 : decode cX2_never 18 = .ok (.iconst 0, 1) := dk_3 (dk_at dksX2_never_0 18 rfl rfl)
theorem dX2_never_19 : decode cX2_never 19 = .ok (.istore 4, 2) := dk_54 4 (dk_at dksX2_never_0 19 rfl rfl)
theorem dX2_never_21 : decode cX2_never 21 = .ok (.iload 4, 2) := dk_21 4 (dk_at dksX2_never_0 21 rfl rfl)
theorem dX2_never_23 : decode cX2_never 23 = .ok (.aload_n 0, 1) := dk_42 (dk_at dksX2_never_0 23 rfl rfl)
theorem dX2_never_24 : decode cX2_never 24 = .ok (.invokevirtual 70, 3) := dk_182 0 70 (dk_at dksX2_never_1 0 rfl rfl)
theorem dX2_never_27 : decode cX2_never 27 = .ok (.if_icmp .gt 28, 3) := dk_163 0 28 (dk_at dksX2_never_1 3 rfl rfl)
theorem dX2_never_30 : decode cX2_never 30 = .ok (.iload_n 3, 1) := dk_29 (dk_at dksX2_never_1 6 rfl rfl)
theorem dX2_never_31 : decode cX2_never 31 = .ok (.aload_n 0, 1) := dk_42 (dk_at dksX2_never_1 7 rfl rfl)
theorem dX2_never_32 : decode cX2_never 32 = .ok (.getfield 50, 3) := dk_180 0 50 (dk_at dksX2_never_1 8 rfl rfl)
theorem dX2_never_35 : decode cX2_never 35 = .ok (.iload 4, 2) := dk_21 4 (dk_at dksX2_never_1 11 rfl rfl)
theorem dX2_never_37 : decode cX2_never 37 = .ok (.iaload, 1) := dk_46 (dk_at dksX2_never_1 13 rfl rfl)
theorem dX2_never_38 : decode cX2_never 38 = .ok (.iload_n 2, 1) := dk_28 (dk_at dksX2_never_1 14 rfl rfl)
theorem dX2_never_39 : decode cX2_never 39 = .ok (.if_icmp .ne 7, 3) := dk_160 0 7 (dk_at dksX2_never_1 15 rfl rfl)
theorem dX2_never_42 : decode cX2_never 42 = .ok (.iconst 1, 1) := dk_4 (dk_at dksX2_never_1 18 rfl rfl)
theorem dX2_never_43 : decode cX2_never 43 = .ok (.goto 4, 3) := dk_167 0 4 (dk_at dksX2_never_1 19 rfl rfl)
theorem dX2_never_46 : decode cX2_never 46 = .ok (.iconst 0, 1) := dk_3 (dk_at dksX2_never_1 22 rfl rfl)
theorem dX2_never_47 : decode cX2_never 47 = .ok (.ior, 1) := dk_128 (dk_at dksX2_never_1 23 rfl rfl)
theorem dX2_never_48 : decode cX2_never 48 = .ok (.istore_n 3, 1) := dk_62 (dk_at dksX2_never_2 0 rfl rfl)
theorem dX2_never_49 : decode cX2_never 49 = .ok (.iinc 4 1, 3) := dk_132 4 1 (dk_at dksX2_never_2 1 rfl rfl)
theorem dX2_never_52 : decode cX2_never 52 = .ok (.goto (-31), 3) := dk_167 255 225 (dk_at dksX2_never_2 4 rfl rfl)
theorem dX2_never_55 : decode cX2_never 55 = .ok (.iload_n 1, 1) := dk_27 (dk_at dksX2_never_2 7 rfl rfl)
theorem dX2_never_56 : decode cX2_never 56 = .ok (.iload_n 3, 1) := dk_29 (dk_at dksX2_never_2 8 rfl rfl)
theorem dX2_never_57 : decode cX2_never 57 = .ok (.ifCond .eq 7, 3) := dk_153 0 7 (dk_at dksX2_never_2 9 rfl rfl)
theorem dX2_never_60 : decode cX2_never 60 = .ok (.iconst 0, 1) := dk_3 (dk_at dksX2_never_2 12 rfl rfl)
theorem dX2_never_61 : decode cX2_never 61 = .ok (.goto 4, 3) := dk_167 0 4 (dk_at dksX2_never_2 13 rfl rfl)
theorem dX2_never_64 : decode cX2_never 64 = .ok (.iconst 1, 1) := dk_4 (dk_at dksX2_never_2 16 rfl rfl)
theorem dX2_never_65 : decode cX2_never 65 = .ok (.iadd, 1) := dk_96 (dk_at dksX2_never_2 17 rfl rfl)
theorem dX2_never_66 : decode cX2_never 66 = .ok (.istore_n 1, 1) := dk_60 (dk_at dksX2_never_2 18 rfl rfl)
theorem dX2_never_67 : decode cX2_never 67 = .ok (.iinc 2 1, 3) := dk_132 2 1 (dk_at dksX2_never_2 19 rfl rfl)
theorem dX2_never_70 : decode cX2_never 70 = .ok (.goto (-62), 3) := dk_167 255 194 (dk_at dksX2_never_3 0 rfl rfl)
theorem dX2_never_73 : decode cX2_never 73 = .ok (.iload_n 1, 1) := dk_27 (dk_at dksX2_never_3 3 rfl rfl)
theorem dX2_never_74 : decode cX2_never 74 = .ok (.ireturn, 1) := dk_172 (dk_at dksX2_never_3 4 rfl rfl)
abbrev cX2_after : ByteArray := prog_21_method_109_code
def yX2_after : MethodName := ⟨RX2, "after", "(II)I"⟩
def dkwX2_after_1 : List UInt8 := [42, 27, 28, 182, 1, 124, 172]
abbrev dktX2_after_1 : List UInt8 := dkwX2_after_1 ++ []
def dkwX2_after_0 : List UInt8 := [42, 27, 182, 1, 73, 153, 0, 13, 28, 3, 16, 60, 184, 0, 66, 154, 0, 5, 2, 172, 42, 182, 1, 121]
abbrev dktX2_after_0 : List UInt8 := dkwX2_after_0 ++ dktX2_after_1
theorem dksX2_after_0 : cX2_after.data.toList.drop 0 = dktX2_after_0 := by decide +kernel
theorem dksX2_after_1 : cX2_after.data.toList.drop 24 = dktX2_after_1 := dk_seg dksX2_after_0 24 rfl rfl
theorem dX2_after_0 : decode cX2_after 0 = .ok (.aload_n 0, 1) := dk_42 (dk_at dksX2_after_0 0 rfl rfl)
theorem dX2_after_1 : decode cX2_after 1 = .ok (.iload_n 1, 1) := dk_27 (dk_at dksX2_after_0 1 rfl rfl)
theorem dX2_after_2 : decode cX2_after 2 = .ok (.invokevirtual 329, 3) := dk_182 1 73 (dk_at dksX2_after_0 2 rfl rfl)
theorem dX2_after_5 : decode cX2_after 5 = .ok (.ifCond .eq 13, 3) := dk_153 0 13 (dk_at dksX2_after_0 5 rfl rfl)
theorem dX2_after_8 : decode cX2_after 8 = .ok (.iload_n 2, 1) := dk_28 (dk_at dksX2_after_0 8 rfl rfl)
theorem dX2_after_9 : decode cX2_after 9 = .ok (.iconst 0, 1) := dk_3 (dk_at dksX2_after_0 9 rfl rfl)
theorem dX2_after_10 : decode cX2_after 10 = .ok (.bipush 60, 2) := dk_16 60 (dk_at dksX2_after_0 10 rfl rfl)
theorem dX2_after_12 : decode cX2_after 12 = .ok (.invokestatic 66, 3) := dk_184 0 66 (dk_at dksX2_after_0 12 rfl rfl)
theorem dX2_after_15 : decode cX2_after 15 = .ok (.ifCond .ne 5, 3) := dk_154 0 5 (dk_at dksX2_after_0 15 rfl rfl)
theorem dX2_after_18 : decode cX2_after 18 = .ok (.iconst (-1), 1) := dk_2 (dk_at dksX2_after_0 18 rfl rfl)
theorem dX2_after_19 : decode cX2_after 19 = .ok (.ireturn, 1) := dk_172 (dk_at dksX2_after_0 19 rfl rfl)
theorem dX2_after_20 : decode cX2_after 20 = .ok (.aload_n 0, 1) := dk_42 (dk_at dksX2_after_0 20 rfl rfl)
theorem dX2_after_21 : decode cX2_after 21 = .ok (.invokevirtual 377, 3) := dk_182 1 121 (dk_at dksX2_after_0 21 rfl rfl)
theorem dX2_after_24 : decode cX2_after 24 = .ok (.aload_n 0, 1) := dk_42 (dk_at dksX2_after_1 0 rfl rfl)
theorem dX2_after_25 : decode cX2_after 25 = .ok (.iload_n 1, 1) := dk_27 (dk_at dksX2_after_1 1 rfl rfl)
theorem dX2_after_26 : decode cX2_after 26 = .ok (.iload_n 2, 1) := dk_28 (dk_at dksX2_after_1 2 rfl rfl)
theorem dX2_after_27 : decode cX2_after 27 = .ok (.invokevirtual 380, 3) := dk_182 1 124 (dk_at dksX2_after_1 3 rfl rfl)
theorem dX2_after_30 : decode cX2_after 30 = .ok (.ireturn, 1) := dk_172 (dk_at dksX2_after_1 6 rfl rfl)
abbrev cX2_times : ByteArray := prog_21_method_110_code
def yX2_times : MethodName := ⟨RX2, "times", "(II)I"⟩
def dkwX2_times_1 : List UInt8 := [28, 182, 1, 130, 172]
abbrev dktX2_times_1 : List UInt8 := dkwX2_times_1 ++ []
def dkwX2_times_0 : List UInt8 := [42, 27, 182, 1, 73, 153, 0, 11, 42, 28, 182, 1, 73, 154, 0, 5, 2, 172, 42, 182, 1, 121, 42, 27]
abbrev dktX2_times_0 : List UInt8 := dkwX2_times_0 ++ dktX2_times_1
theorem dksX2_times_0 : cX2_times.data.toList.drop 0 = dktX2_times_0 := by decide +kernel
theorem dksX2_times_1 : cX2_times.data.toList.drop 24 = dktX2_times_1 := dk_seg dksX2_times_0 24 rfl rfl
theorem dX2_times_0 : decode cX2_times 0 = .ok (.aload_n 0, 1) := dk_42 (dk_at dksX2_times_0 0 rfl rfl)
theorem dX2_times_1 : decode cX2_times 1 = .ok (.iload_n 1, 1) := dk_27 (dk_at dksX2_times_0 1 rfl rfl)
theorem dX2_times_2 : decode cX2_times 2 = .ok (.invokevirtual 329, 3) := dk_182 1 73 (dk_at dksX2_times_0 2 rfl rfl)
theorem dX2_times_5 : decode cX2_times 5 = .ok (.ifCond .eq 11, 3) := dk_153 0 11 (dk_at dksX2_times_0 5 rfl rfl)
theorem dX2_times_8 : decode cX2_times 8 = .ok (.aload_n 0, 1) := dk_42 (dk_at dksX2_times_0 8 rfl rfl)
theorem dX2_times_9 : decode cX2_times 9 = .ok (.iload_n 2, 1) := dk_28 (dk_at dksX2_times_0 9 rfl rfl)
theorem dX2_times_10 : decode cX2_times 10 = .ok (.invokevirtual 329, 3) := dk_182 1 73 (dk_at dksX2_times_0 10 rfl rfl)
theorem dX2_times_13 : decode cX2_times 13 = .ok (.ifCond .ne 5, 3) := dk_154 0 5 (dk_at dksX2_times_0 13 rfl rfl)
theorem dX2_times_16 : decode cX2_times 16 = .ok (.iconst (-1), 1) := dk_2 (dk_at dksX2_times_0 16 rfl rfl)
theorem dX2_times_17 : decode cX2_times 17 = .ok (.ireturn, 1) := dk_172 (dk_at dksX2_times_0 17 rfl rfl)
theorem dX2_times_18 : decode cX2_times 18 = .ok (.aload_n 0, 1) := dk_42 (dk_at dksX2_times_0 18 rfl rfl)
theorem dX2_times_19 : decode cX2_times 19 = .ok (.invokevirtual 377, 3) := dk_182 1 121 (dk_at dksX2_times_0 19 rfl rfl)
theorem dX2_times_22 : decode cX2_times 22 = .ok (.aload_n 0, 1) := dk_42 (dk_at dksX2_times_0 22 rfl rfl)
theorem dX2_times_23 : decode cX2_times 23 = .ok (.iload_n 1, 1) := dk_27 (dk_at dksX2_times_0 23 rfl rfl)
theorem dX2_times_24 : decode cX2_times 24 = .ok (.iload_n 2, 1) := dk_28 (dk_at dksX2_times_1 0 rfl rfl)
theorem dX2_times_25 : decode cX2_times 25 = .ok (.invokevirtual 386, 3) := dk_182 1 130 (dk_at dksX2_times_1 1 rfl rfl)
theorem dX2_times_28 : decode cX2_times 28 = .ok (.ireturn, 1) := dk_172 (dk_at dksX2_times_1 4 rfl rfl)
abbrev cX2_apart : ByteArray := prog_21_method_111_code
def yX2_apart : MethodName := ⟨RX2, "apart", "(II)I"⟩
def dkwX2_apart_2 : List UInt8 := [132, 3, 1, 167, 255, 229, 2, 172]
abbrev dktX2_apart_2 : List UInt8 := dkwX2_apart_2 ++ []
def dkwX2_apart_1 : List UInt8 := [29, 17, 1, 0, 163, 0, 26, 42, 27, 29, 182, 1, 124, 42, 28, 29, 182, 1, 124, 160, 0, 5, 29, 172]
abbrev dktX2_apart_1 : List UInt8 := dkwX2_apart_1 ++ dktX2_apart_2
def dkwX2_apart_0 : List UInt8 := [42, 27, 182, 1, 73, 153, 0, 11, 42, 28, 182, 1, 73, 154, 0, 5, 2, 172, 42, 182, 1, 121, 3, 62]
abbrev dktX2_apart_0 : List UInt8 := dkwX2_apart_0 ++ dktX2_apart_1
theorem dksX2_apart_0 : cX2_apart.data.toList.drop 0 = dktX2_apart_0 := by decide +kernel
theorem dksX2_apart_1 : cX2_apart.data.toList.drop 24 = dktX2_apart_1 := dk_seg dksX2_apart_0 24 rfl rfl
theorem dksX2_apart_2 : cX2_apart.data.toList.drop 48 = dktX2_apart_2 := dk_seg dksX2_apart_1 24 rfl rfl
theorem dX2_apart_0 : decode cX2_apart 0 = .ok (.aload_n 0, 1) := dk_42 (dk_at dksX2_apart_0 0 rfl rfl)
theorem dX2_apart_1 : decode cX2_apart 1 = .ok (.iload_n 1, 1) := dk_27 (dk_at dksX2_apart_0 1 rfl rfl)
theorem dX2_apart_2 : decode cX2_apart 2 = .ok (.invokevirtual 329, 3) := dk_182 1 73 (dk_at dksX2_apart_0 2 rfl rfl)
theorem dX2_apart_5 : decode cX2_apart 5 = .ok (.ifCond .eq 11, 3) := dk_153 0 11 (dk_at dksX2_apart_0 5 rfl rfl)
theorem dX2_apart_8 : decode cX2_apart 8 = .ok (.aload_n 0, 1) := dk_42 (dk_at dksX2_apart_0 8 rfl rfl)
theorem dX2_apart_9 : decode cX2_apart 9 = .ok (.iload_n 2, 1) := dk_28 (dk_at dksX2_apart_0 9 rfl rfl)
theorem dX2_apart_10 : decode cX2_apart 10 = .ok (.invokevirtual 329, 3) := dk_182 1 73 (dk_at dksX2_apart_0 10 rfl rfl)
theorem dX2_apart_13 : decode cX2_apart 13 = .ok (.ifCond .ne 5, 3) := dk_154 0 5 (dk_at dksX2_apart_0 13 rfl rfl)
theorem dX2_apart_16 : decode cX2_apart 16 = .ok (.iconst (-1), 1) := dk_2 (dk_at dksX2_apart_0 16 rfl rfl)
theorem dX2_apart_17 : decode cX2_apart 17 = .ok (.ireturn, 1) := dk_172 (dk_at dksX2_apart_0 17 rfl rfl)
theorem dX2_apart_18 : decode cX2_apart 18 = .ok (.aload_n 0, 1) := dk_42 (dk_at dksX2_apart_0 18 rfl rfl)
theorem dX2_apart_19 : decode cX2_apart 19 = .ok (.invokevirtual 377, 3) := dk_182 1 121 (dk_at dksX2_apart_0 19 rfl rfl)
theorem dX2_apart_22 : decode cX2_apart 22 = .ok (.iconst 0, 1) := dk_3 (dk_at dksX2_apart_0 22 rfl rfl)
theorem dX2_apart_23 : decode cX2_apart 23 = .ok (.istore_n 3, 1) := dk_62 (dk_at dksX2_apart_0 23 rfl rfl)
theorem dX2_apart_24 : decode cX2_apart 24 = .ok (.iload_n 3, 1) := dk_29 (dk_at dksX2_apart_1 0 rfl rfl)
theorem dX2_apart_25 : decode cX2_apart 25 = .ok (.sipush 256, 3) := dk_17 1 0 (dk_at dksX2_apart_1 1 rfl rfl)
theorem dX2_apart_28 : decode cX2_apart 28 = .ok (.if_icmp .gt 26, 3) := dk_163 0 26 (dk_at dksX2_apart_1 4 rfl rfl)
theorem dX2_apart_31 : decode cX2_apart 31 = .ok (.aload_n 0, 1) := dk_42 (dk_at dksX2_apart_1 7 rfl rfl)
theorem dX2_apart_32 : decode cX2_apart 32 = .ok (.iload_n 1, 1) := dk_27 (dk_at dksX2_apart_1 8 rfl rfl)
theorem dX2_apart_33 : decode cX2_apart 33 = .ok (.iload_n 3, 1) := dk_29 (dk_at dksX2_apart_1 9 rfl rfl)
theorem dX2_apart_34 : decode cX2_apart 34 = .ok (.invokevirtual 380, 3) := dk_182 1 124 (dk_at dksX2_apart_1 10 rfl rfl)
theorem dX2_apart_37 : decode cX2_apart 37 = .ok (.aload_n 0, 1) := dk_42 (dk_at dksX2_apart_1 13 rfl rfl)
theorem dX2_apart_38 : decode cX2_apart 38 = .ok (.iload_n 2, 1) := dk_28 (dk_at dksX2_apart_1 14 rfl rfl)
theorem dX2_apart_39 : decode cX2_apart 39 = .ok (.iload_n 3, 1) := dk_29 (dk_at dksX2_apart_1 15 rfl rfl)
theorem dX2_apart_40 : decode cX2_apart 40 = .ok (.invokevirtual 380, 3) := dk_182 1 124 (dk_at dksX2_apart_1 16 rfl rfl)
theorem dX2_apart_43 : decode cX2_apart 43 = .ok (.if_icmp .ne 5, 3) := dk_160 0 5 (dk_at dksX2_apart_1 19 rfl rfl)
theorem dX2_apart_46 : decode cX2_apart 46 = .ok (.iload_n 3, 1) := dk_29 (dk_at dksX2_apart_1 22 rfl rfl)
theorem dX2_apart_47 : decode cX2_apart 47 = .ok (.ireturn, 1) := dk_172 (dk_at dksX2_apart_1 23 rfl rfl)
theorem dX2_apart_48 : decode cX2_apart 48 = .ok (.iinc 3 1, 3) := dk_132 3 1 (dk_at dksX2_apart_2 0 rfl rfl)
theorem dX2_apart_51 : decode cX2_apart 51 = .ok (.goto (-27), 3) := dk_167 255 229 (dk_at dksX2_apart_2 3 rfl rfl)
theorem dX2_apart_54 : decode cX2_apart 54 = .ok (.iconst (-1), 1) := dk_2 (dk_at dksX2_apart_2 6 rfl rfl)
theorem dX2_apart_55 : decode cX2_apart 55 = .ok (.ireturn, 1) := dk_172 (dk_at dksX2_apart_2 7 rfl rfl)
abbrev cX2_always : ByteArray := prog_21_method_112_code
def yX2_always : MethodName := ⟨RX2, "always", "()I"⟩
def dkwX2_always_4 : List UInt8 := [28, 172]
abbrev dktX2_always_4 : List UInt8 := dkwX2_always_4 ++ []
def dkwX2_always_3 : List UInt8 := [153, 0, 7, 4, 167, 0, 4, 3, 96, 61, 132, 3, 1, 167, 255, 183, 42, 180, 0, 7, 16, 8, 27, 79]
abbrev dktX2_always_3 : List UInt8 := dkwX2_always_3 ++ dktX2_always_4
def dkwX2_always_2 : List UInt8 := [29, 182, 1, 64, 29, 160, 0, 7, 4, 167, 0, 4, 3, 54, 4, 132, 5, 1, 167, 255, 216, 28, 21, 4]
abbrev dktX2_always_2 : List UInt8 := dkwX2_always_2 ++ dktX2_always_3
def dkwX2_always_1 : List UInt8 := [54, 5, 21, 5, 16, 10, 162, 0, 39, 21, 4, 153, 0, 34, 42, 180, 0, 7, 16, 8, 21, 5, 79, 42]
abbrev dktX2_always_1 : List UInt8 := dkwX2_always_1 ++ dktX2_always_2
def dkwX2_always_0 : List UInt8 := [42, 180, 0, 7, 16, 8, 46, 60, 3, 61, 3, 62, 29, 42, 182, 0, 70, 163, 0, 71, 4, 54, 4, 3]
abbrev dktX2_always_0 : List UInt8 := dkwX2_always_0 ++ dktX2_always_1
theorem dksX2_always_0 : cX2_always.data.toList.drop 0 = dktX2_always_0 := by decide +kernel
theorem dksX2_always_1 : cX2_always.data.toList.drop 24 = dktX2_always_1 := dk_seg dksX2_always_0 24 rfl rfl
theorem dksX2_always_2 : cX2_always.data.toList.drop 48 = dktX2_always_2 := dk_seg dksX2_always_1 24 rfl rfl
theorem dksX2_always_3 : cX2_always.data.toList.drop 72 = dktX2_always_3 := dk_seg dksX2_always_2 24 rfl rfl
theorem dksX2_always_4 : cX2_always.data.toList.drop 96 = dktX2_always_4 := dk_seg dksX2_always_3 24 rfl rfl
theorem dX2_always_0 : decode cX2_always 0 = .ok (.aload_n 0, 1) := dk_42 (dk_at dksX2_always_0 0 rfl rfl)
theorem dX2_always_1 : decode cX2_always 1 = .ok (.getfield 7, 3) := dk_180 0 7 (dk_at dksX2_always_0 1 rfl rfl)
theorem dX2_always_4 : decode cX2_always 4 = .ok (.bipush 8, 2) := dk_16 8 (dk_at dksX2_always_0 4 rfl rfl)
theorem dX2_always_6 : decode cX2_always 6 = .ok (.iaload, 1) := dk_46 (dk_at dksX2_always_0 6 rfl rfl)
theorem dX2_always_7 : decode cX2_always 7 = .ok (.istore_n 1, 1) := dk_60 (dk_at dksX2_always_0 7 rfl rfl)
theorem dX2_always_8 : decode cX2_always 8 = .ok (.iconst 0, 1) := dk_3 (dk_at dksX2_always_0 8 rfl rfl)
theorem dX2_always_9 : decode cX2_always 9 = .ok (.istore_n 2, 1) := dk_61 (dk_at dksX2_always_0 9 rfl rfl)
theorem dX2_always_10 : decode cX2_always 10 = .ok (.iconst 0, 1) := dk_3 (dk_at dksX2_always_0 10 rfl rfl)
theorem dX2_always_11 : decode cX2_always 11 = .ok (.istore_n 3, 1) := dk_62 (dk_at dksX2_always_0 11 rfl rfl)
theorem dX2_always_12 : decode cX2_always 12 = .ok (.iload_n 3, 1) := dk_29 (dk_at dksX2_always_0 12 rfl rfl)
theorem dX2_always_13 : decode cX2_always 13 = .ok (.aload_n 0, 1) := dk_42 (dk_at dksX2_always_0 13 rfl rfl)
theorem dX2_always_14 : decode cX2_always 14 = .ok (.invokevirtual 70, 3) := dk_182 0 70 (dk_at dksX2_always_0 14 rfl rfl)
theorem dX2_always_17 : decode cX2_always 17 = .ok (.if_icmp .gt 71, 3) := dk_163 0 71 (dk_at dksX2_always_0 17 rfl rfl)
theorem dX2_always_20 : decode cX2_always 20 = .ok (.iconst 1, 1) := dk_4 (dk_at dksX2_always_0 20 rfl rfl)
theorem dX2_always_21 : decode cX2_always 21 = .ok (.istore 4, 2) := dk_54 4 (dk_at dksX2_always_0 21 rfl rfl)
theorem dX2_always_23 : decode cX2_always 23 = .ok (.iconst 0, 1) := dk_3 (dk_at dksX2_always_0 23 rfl rfl)
theorem dX2_always_24 : decode cX2_always 24 = .ok (.istore 5, 2) := dk_54 5 (dk_at dksX2_always_1 0 rfl rfl)
theorem dX2_always_26 : decode cX2_always 26 = .ok (.iload 5, 2) := dk_21 5 (dk_at dksX2_always_1 2 rfl rfl)
theorem dX2_always_28 : decode cX2_always 28 = .ok (.bipush 10, 2) := dk_16 10 (dk_at dksX2_always_1 4 rfl rfl)
theorem dX2_always_30 : decode cX2_always 30 = .ok (.if_icmp .ge 39, 3) := dk_162 0 39 (dk_at dksX2_always_1 6 rfl rfl)
theorem dX2_always_33 : decode cX2_always 33 = .ok (.iload 4, 2) := dk_21 4 (dk_at dksX2_always_1 9 rfl rfl)
theorem dX2_always_35 : decode cX2_always 35 = .ok (.ifCond .eq 34, 3) := dk_153 0 34 (dk_at dksX2_always_1 11 rfl rfl)
theorem dX2_always_38 : decode cX2_always 38 = .ok (.aload_n 0, 1) := dk_42 (dk_at dksX2_always_1 14 rfl rfl)
theorem dX2_always_39 : decode cX2_always 39 = .ok (.getfield 7, 3) := dk_180 0 7 (dk_at dksX2_always_1 15 rfl rfl)
theorem dX2_always_42 : decode cX2_always 42 = .ok (.bipush 8, 2) := dk_16 8 (dk_at dksX2_always_1 18 rfl rfl)
theorem dX2_always_44 : decode cX2_always 44 = .ok (.iload 5, 2) := dk_21 5 (dk_at dksX2_always_1 20 rfl rfl)
theorem dX2_always_46 : decode cX2_always 46 = .ok (.iastore, 1) := dk_79 (dk_at dksX2_always_1 22 rfl rfl)
theorem dX2_always_47 : decode cX2_always 47 = .ok (.aload_n 0, 1) := dk_42 (dk_at dksX2_always_1 23 rfl rfl)
theorem dX2_always_48 : decode cX2_always 48 = .ok (.iload_n 3, 1) := dk_29 (dk_at dksX2_always_2 0 rfl rfl)
theorem dX2_always_49 : decode cX2_always 49 = .ok (.invokevirtual 320, 3) := dk_182 1 64 (dk_at dksX2_always_2 1 rfl rfl)
theorem dX2_always_52 : decode cX2_always 52 = .ok (.iload_n 3, 1) := dk_29 (dk_at dksX2_always_2 4 rfl rfl)
theorem dX2_always_53 : decode cX2_always 53 = .ok (.if_icmp .ne 7, 3) := dk_160 0 7 (dk_at dksX2_always_2 5 rfl rfl)
theorem dX2_always_56 : decode cX2_always 56 = .ok (.iconst 1, 1) := dk_4 (dk_at dksX2_always_2 8 rfl rfl)
theorem dX2_always_57 : decode cX2_always 57 = .ok (.goto 4, 3) := dk_167 0 4 (dk_at dksX2_always_2 9 rfl rfl)
theorem dX2_always_60 : decode cX2_always 60 = .ok (.iconst 0, 1) := dk_3 (dk_at dksX2_always_2 12 rfl rfl)
theorem dX2_always_61 : decode cX2_always 61 = .ok (.istore 4, 2) := dk_54 4 (dk_at dksX2_always_2 13 rfl rfl)
theorem dX2_always_63 : decode cX2_always 63 = .ok (.iinc 5 1, 3) := dk_132 5 1 (dk_at dksX2_always_2 15 rfl rfl)
theorem dX2_always_66 : decode cX2_always 66 = .ok (.goto (-40), 3) := dk_167 255 216 (dk_at dksX2_always_2 18 rfl rfl)
theorem dX2_always_69 : decode cX2_always 69 = .ok (.iload_n 2, 1) := dk_28 (dk_at dksX2_always_2 21 rfl rfl)
theorem dX2_always_70 : decode cX2_always 70 = .ok (.iload 4, 2) := dk_21 4 (dk_at dksX2_always_2 22 rfl rfl)
theorem dX2_always_72 : decode cX2_always 72 = .ok (.ifCond .eq 7, 3) := dk_153 0 7 (dk_at dksX2_always_3 0 rfl rfl)
theorem dX2_always_75 : decode cX2_always 75 = .ok (.iconst 1, 1) := dk_4 (dk_at dksX2_always_3 3 rfl rfl)
theorem dX2_always_76 : decode cX2_always 76 = .ok (.goto 4, 3) := dk_167 0 4 (dk_at dksX2_always_3 4 rfl rfl)
theorem dX2_always_79 : decode cX2_always 79 = .ok (.iconst 0, 1) := dk_3 (dk_at dksX2_always_3 7 rfl rfl)
theorem dX2_always_80 : decode cX2_always 80 = .ok (.iadd, 1) := dk_96 (dk_at dksX2_always_3 8 rfl rfl)
theorem dX2_always_81 : decode cX2_always 81 = .ok (.istore_n 2, 1) := dk_61 (dk_at dksX2_always_3 9 rfl rfl)
theorem dX2_always_82 : decode cX2_always 82 = .ok (.iinc 3 1, 3) := dk_132 3 1 (dk_at dksX2_always_3 10 rfl rfl)
theorem dX2_always_85 : decode cX2_always 85 = .ok (.goto (-73), 3) := dk_167 255 183 (dk_at dksX2_always_3 13 rfl rfl)
theorem dX2_always_88 : decode cX2_always 88 = .ok (.aload_n 0, 1) := dk_42 (dk_at dksX2_always_3 16 rfl rfl)
theorem dX2_always_89 : decode cX2_always 89 = .ok (.getfield 7, 3) := dk_180 0 7 (dk_at dksX2_always_3 17 rfl rfl)
theorem dX2_always_92 : decode cX2_always 92 = .ok (.bipush 8, 2) := dk_16 8 (dk_at dksX2_always_3 20 rfl rfl)
theorem dX2_always_94 : decode cX2_always 94 = .ok (.iload_n 1, 1) := dk_27 (dk_at dksX2_always_3 22 rfl rfl)
theorem dX2_always_95 : decode cX2_always 95 = .ok (.iastore, 1) := dk_79 (dk_at dksX2_always_3 23 rfl rfl)
theorem dX2_always_96 : decode cX2_always 96 = .ok (.iload_n 2, 1) := dk_28 (dk_at dksX2_always_4 0 rfl rfl)
theorem dX2_always_97 : decode cX2_always 97 = .ok (.ireturn, 1) := dk_172 (dk_at dksX2_always_4 1 rfl rfl)
abbrev cX2_calm : ByteArray := prog_21_method_113_code
def yX2_calm : MethodName := ⟨RX2, "calm", "(Z)I"⟩
def dkwX2_calm_3 : List UInt8 := [167, 255, 194, 28, 172]
abbrev dktX2_calm_3 : List UInt8 := dkwX2_calm_3 ++ []
def dkwX2_calm_2 : List UInt8 := [29, 46, 184, 1, 42, 42, 180, 0, 50, 28, 46, 184, 1, 42, 162, 0, 5, 29, 61, 132, 3, 1]
abbrev dktX2_calm_2 : List UInt8 := dkwX2_calm_2 ++ dktX2_calm_3
def dkwX2_calm_1 : List UInt8 := [29, 46, 184, 1, 42, 42, 180, 0, 50, 28, 46, 184, 1, 42, 164, 0, 29, 167, 0, 24, 42, 180, 0, 50]
abbrev dktX2_calm_1 : List UInt8 := dkwX2_calm_1 ++ dktX2_calm_2
def dkwX2_calm_0 : List UInt8 := [42, 182, 1, 121, 3, 61, 4, 62, 29, 42, 182, 0, 70, 163, 0, 60, 27, 153, 0, 27, 42, 180, 0, 50]
abbrev dktX2_calm_0 : List UInt8 := dkwX2_calm_0 ++ dktX2_calm_1
theorem dksX2_calm_0 : cX2_calm.data.toList.drop 0 = dktX2_calm_0 := by decide +kernel
theorem dksX2_calm_1 : cX2_calm.data.toList.drop 24 = dktX2_calm_1 := dk_seg dksX2_calm_0 24 rfl rfl
theorem dksX2_calm_2 : cX2_calm.data.toList.drop 48 = dktX2_calm_2 := dk_seg dksX2_calm_1 24 rfl rfl
theorem dksX2_calm_3 : cX2_calm.data.toList.drop 70 = dktX2_calm_3 := dk_seg dksX2_calm_2 22 rfl rfl
theorem dX2_calm_0 : decode cX2_calm 0 = .ok (.aload_n 0, 1) := dk_42 (dk_at dksX2_calm_0 0 rfl rfl)
theorem dX2_calm_1 : decode cX2_calm 1 = .ok (.invokevirtual 377, 3) := dk_182 1 121 (dk_at dksX2_calm_0 1 rfl rfl)
theorem dX2_calm_4 : decode cX2_calm 4 = .ok (.iconst 0, 1) := dk_3 (dk_at dksX2_calm_0 4 rfl rfl)
theorem dX2_calm_5 : decode cX2_calm 5 = .ok (.istore_n 2, 1) := dk_61 (dk_at dksX2_calm_0 5 rfl rfl)
theorem dX2_calm_6 : decode cX2_calm 6 = .ok (.iconst 1, 1) := dk_4 (dk_at dksX2_calm_0 6 rfl rfl)
theorem dX2_calm_7 : decode cX2_calm 7 = .ok (.istore_n 3, 1) := dk_62 (dk_at dksX2_calm_0 7 rfl rfl)
theorem dX2_calm_8 : decode cX2_calm 8 = .ok (.iload_n 3, 1) := dk_29 (dk_at dksX2_calm_0 8 rfl rfl)
theorem dX2_calm_9 : decode cX2_calm 9 = .ok (.aload_n 0, 1) := dk_42 (dk_at dksX2_calm_0 9 rfl rfl)
theorem dX2_calm_10 : decode cX2_calm 10 = .ok (.invokevirtual 70, 3) := dk_182 0 70 (dk_at dksX2_calm_0 10 rfl rfl)
theorem dX2_calm_13 : decode cX2_calm 13 = .ok (.if_icmp .gt 60, 3) := dk_163 0 60 (dk_at dksX2_calm_0 13 rfl rfl)
theorem dX2_calm_16 : decode cX2_calm 16 = .ok (.iload_n 1, 1) := dk_27 (dk_at dksX2_calm_0 16 rfl rfl)
theorem dX2_calm_17 : decode cX2_calm 17 = .ok (.ifCond .eq 27, 3) := dk_153 0 27 (dk_at dksX2_calm_0 17 rfl rfl)
theorem dX2_calm_20 : decode cX2_calm 20 = .ok (.aload_n 0, 1) := dk_42 (dk_at dksX2_calm_0 20 rfl rfl)
theorem dX2_calm_21 : decode cX2_calm 21 = .ok (.getfield 50, 3) := dk_180 0 50 (dk_at dksX2_calm_0 21 rfl rfl)
theorem dX2_calm_24 : decode cX2_calm 24 = .ok (.iload_n 3, 1) := dk_29 (dk_at dksX2_calm_1 0 rfl rfl)
theorem dX2_calm_25 : decode cX2_calm 25 = .ok (.iaload, 1) := dk_46 (dk_at dksX2_calm_1 1 rfl rfl)
theorem dX2_calm_26 : decode cX2_calm 26 = .ok (.invokestatic 298, 3) := dk_184 1 42 (dk_at dksX2_calm_1 2 rfl rfl)
theorem dX2_calm_29 : decode cX2_calm 29 = .ok (.aload_n 0, 1) := dk_42 (dk_at dksX2_calm_1 5 rfl rfl)
theorem dX2_calm_30 : decode cX2_calm 30 = .ok (.getfield 50, 3) := dk_180 0 50 (dk_at dksX2_calm_1 6 rfl rfl)
theorem dX2_calm_33 : decode cX2_calm 33 = .ok (.iload_n 2, 1) := dk_28 (dk_at dksX2_calm_1 9 rfl rfl)
theorem dX2_calm_34 : decode cX2_calm 34 = .ok (.iaload, 1) := dk_46 (dk_at dksX2_calm_1 10 rfl rfl)
theorem dX2_calm_35 : decode cX2_calm 35 = .ok (.invokestatic 298, 3) := dk_184 1 42 (dk_at dksX2_calm_1 11 rfl rfl)
theorem dX2_calm_38 : decode cX2_calm 38 = .ok (.if_icmp .le 29, 3) := dk_164 0 29 (dk_at dksX2_calm_1 14 rfl rfl)
theorem dX2_calm_41 : decode cX2_calm 41 = .ok (.goto 24, 3) := dk_167 0 24 (dk_at dksX2_calm_1 17 rfl rfl)
theorem dX2_calm_44 : decode cX2_calm 44 = .ok (.aload_n 0, 1) := dk_42 (dk_at dksX2_calm_1 20 rfl rfl)
theorem dX2_calm_45 : decode cX2_calm 45 = .ok (.getfield 50, 3) := dk_180 0 50 (dk_at dksX2_calm_1 21 rfl rfl)
theorem dX2_calm_48 : decode cX2_calm 48 = .ok (.iload_n 3, 1) := dk_29 (dk_at dksX2_calm_2 0 rfl rfl)
theorem dX2_calm_49 : decode cX2_calm 49 = .ok (.iaload, 1) := dk_46 (dk_at dksX2_calm_2 1 rfl rfl)
theorem dX2_calm_50 : decode cX2_calm 50 = .ok (.invokestatic 298, 3) := dk_184 1 42 (dk_at dksX2_calm_2 2 rfl rfl)
theorem dX2_calm_53 : decode cX2_calm 53 = .ok (.aload_n 0, 1) := dk_42 (dk_at dksX2_calm_2 5 rfl rfl)
theorem dX2_calm_54 : decode cX2_calm 54 = .ok (.getfield 50, 3) := dk_180 0 50 (dk_at dksX2_calm_2 6 rfl rfl)
theorem dX2_calm_57 : decode cX2_calm 57 = .ok (.iload_n 2, 1) := dk_28 (dk_at dksX2_calm_2 9 rfl rfl)
theorem dX2_calm_58 : decode cX2_calm 58 = .ok (.iaload, 1) := dk_46 (dk_at dksX2_calm_2 10 rfl rfl)
theorem dX2_calm_59 : decode cX2_calm 59 = .ok (.invokestatic 298, 3) := dk_184 1 42 (dk_at dksX2_calm_2 11 rfl rfl)
theorem dX2_calm_62 : decode cX2_calm 62 = .ok (.if_icmp .ge 5, 3) := dk_162 0 5 (dk_at dksX2_calm_2 14 rfl rfl)
theorem dX2_calm_65 : decode cX2_calm 65 = .ok (.iload_n 3, 1) := dk_29 (dk_at dksX2_calm_2 17 rfl rfl)
theorem dX2_calm_66 : decode cX2_calm 66 = .ok (.istore_n 2, 1) := dk_61 (dk_at dksX2_calm_2 18 rfl rfl)
theorem dX2_calm_67 : decode cX2_calm 67 = .ok (.iinc 3 1, 3) := dk_132 3 1 (dk_at dksX2_calm_2 19 rfl rfl)
theorem dX2_calm_70 : decode cX2_calm 70 = .ok (.goto (-62), 3) := dk_167 255 194 (dk_at dksX2_calm_3 0 rfl rfl)
theorem dX2_calm_73 : decode cX2_calm 73 = .ok (.iload_n 2, 1) := dk_28 (dk_at dksX2_calm_3 3 rfl rfl)
theorem dX2_calm_74 : decode cX2_calm 74 = .ok (.ireturn, 1) := dk_172 (dk_at dksX2_calm_3 4 rfl rfl)
abbrev cX2_helped : ByteArray := prog_21_method_114_code
def yX2_helped : MethodName := ⟨RX2, "helped", "(IZ)I"⟩
def dkwX2_helped_1 : List UInt8 := [2, 130, 126, 167, 0, 16, 42, 3, 182, 1, 64, 42, 27, 182, 1, 64, 2, 130, 126, 172]
abbrev dktX2_helped_1 : List UInt8 := dkwX2_helped_1 ++ []
def dkwX2_helped_0 : List UInt8 := [42, 27, 182, 1, 73, 154, 0, 5, 2, 172, 28, 153, 0, 19, 42, 27, 182, 1, 64, 42, 3, 182, 1, 64]
abbrev dktX2_helped_0 : List UInt8 := dkwX2_helped_0 ++ dktX2_helped_1
theorem dksX2_helped_0 : cX2_helped.data.toList.drop 0 = dktX2_helped_0 := by decide +kernel
theorem dksX2_helped_1 : cX2_helped.data.toList.drop 24 = dktX2_helped_1 := dk_seg dksX2_helped_0 24 rfl rfl
theorem dX2_helped_0 : decode cX2_helped 0 = .ok (.aload_n 0, 1) := dk_42 (dk_at dksX2_helped_0 0 rfl rfl)
theorem dX2_helped_1 : decode cX2_helped 1 = .ok (.iload_n 1, 1) := dk_27 (dk_at dksX2_helped_0 1 rfl rfl)
theorem dX2_helped_2 : decode cX2_helped 2 = .ok (.invokevirtual 329, 3) := dk_182 1 73 (dk_at dksX2_helped_0 2 rfl rfl)
theorem dX2_helped_5 : decode cX2_helped 5 = .ok (.ifCond .ne 5, 3) := dk_154 0 5 (dk_at dksX2_helped_0 5 rfl rfl)
theorem dX2_helped_8 : decode cX2_helped 8 = .ok (.iconst (-1), 1) := dk_2 (dk_at dksX2_helped_0 8 rfl rfl)
theorem dX2_helped_9 : decode cX2_helped 9 = .ok (.ireturn, 1) := dk_172 (dk_at dksX2_helped_0 9 rfl rfl)
theorem dX2_helped_10 : decode cX2_helped 10 = .ok (.iload_n 2, 1) := dk_28 (dk_at dksX2_helped_0 10 rfl rfl)
theorem dX2_helped_11 : decode cX2_helped 11 = .ok (.ifCond .eq 19, 3) := dk_153 0 19 (dk_at dksX2_helped_0 11 rfl rfl)
theorem dX2_helped_14 : decode cX2_helped 14 = .ok (.aload_n 0, 1) := dk_42 (dk_at dksX2_helped_0 14 rfl rfl)
theorem dX2_helped_15 : decode cX2_helped 15 = .ok (.iload_n 1, 1) := dk_27 (dk_at dksX2_helped_0 15 rfl rfl)
theorem dX2_helped_16 : decode cX2_helped 16 = .ok (.invokevirtual 320, 3) := dk_182 1 64 (dk_at dksX2_helped_0 16 rfl rfl)
theorem dX2_helped_19 : decode cX2_helped 19 = .ok (.aload_n 0, 1) := dk_42 (dk_at dksX2_helped_0 19 rfl rfl)
theorem dX2_helped_20 : decode cX2_helped 20 = .ok (.iconst 0, 1) := dk_3 (dk_at dksX2_helped_0 20 rfl rfl)
theorem dX2_helped_21 : decode cX2_helped 21 = .ok (.invokevirtual 320, 3) := dk_182 1 64 (dk_at dksX2_helped_0 21 rfl rfl)
theorem dX2_helped_24 : decode cX2_helped 24 = .ok (.iconst (-1), 1) := dk_2 (dk_at dksX2_helped_1 0 rfl rfl)
theorem dX2_helped_25 : decode cX2_helped 25 = .ok (.ixor, 1) := dk_130 (dk_at dksX2_helped_1 1 rfl rfl)
theorem dX2_helped_26 : decode cX2_helped 26 = .ok (.iand, 1) := dk_126 (dk_at dksX2_helped_1 2 rfl rfl)
theorem dX2_helped_27 : decode cX2_helped 27 = .ok (.goto 16, 3) := dk_167 0 16 (dk_at dksX2_helped_1 3 rfl rfl)
theorem dX2_helped_30 : decode cX2_helped 30 = .ok (.aload_n 0, 1) := dk_42 (dk_at dksX2_helped_1 6 rfl rfl)
theorem dX2_helped_31 : decode cX2_helped 31 = .ok (.iconst 0, 1) := dk_3 (dk_at dksX2_helped_1 7 rfl rfl)
theorem dX2_helped_32 : decode cX2_helped 32 = .ok (.invokevirtual 320, 3) := dk_182 1 64 (dk_at dksX2_helped_1 8 rfl rfl)
theorem dX2_helped_35 : decode cX2_helped 35 = .ok (.aload_n 0, 1) := dk_42 (dk_at dksX2_helped_1 11 rfl rfl)
theorem dX2_helped_36 : decode cX2_helped 36 = .ok (.iload_n 1, 1) := dk_27 (dk_at dksX2_helped_1 12 rfl rfl)
theorem dX2_helped_37 : decode cX2_helped 37 = .ok (.invokevirtual 320, 3) := dk_182 1 64 (dk_at dksX2_helped_1 13 rfl rfl)
theorem dX2_helped_40 : decode cX2_helped 40 = .ok (.iconst (-1), 1) := dk_2 (dk_at dksX2_helped_1 16 rfl rfl)
theorem dX2_helped_41 : decode cX2_helped 41 = .ok (.ixor, 1) := dk_130 (dk_at dksX2_helped_1 17 rfl rfl)
theorem dX2_helped_42 : decode cX2_helped 42 = .ok (.iand, 1) := dk_126 (dk_at dksX2_helped_1 18 rfl rfl)
theorem dX2_helped_43 : decode cX2_helped 43 = .ok (.ireturn, 1) := dk_172 (dk_at dksX2_helped_1 19 rfl rfl)
abbrev cX2_early : ByteArray := prog_21_method_115_code
def yX2_early : MethodName := ⟨RX2, "early", "(I)I"⟩
def dkwX2_early_3 : List UInt8 := [153, 0, 13, 21, 5, 158, 0, 8, 21, 5, 167, 0, 4, 3, 96, 62, 132, 4, 1, 167, 255, 195, 29, 172]
abbrev dktX2_early_3 : List UInt8 := dkwX2_early_3 ++ []
def dkwX2_early_2 : List UInt8 := [180, 0, 7, 5, 46, 21, 4, 27, 28, 182, 1, 52, 100, 54, 5, 29, 42, 21, 4, 182, 1, 36]
abbrev dktX2_early_2 : List UInt8 := dkwX2_early_2 ++ dktX2_early_3
def dkwX2_early_1 : List UInt8 := [3, 54, 4, 21, 4, 42, 180, 0, 7, 3, 46, 162, 0, 56, 42, 21, 4, 3, 182, 0, 74, 42, 42]
abbrev dktX2_early_1 : List UInt8 := dkwX2_early_1 ++ dktX2_early_2
def dkwX2_early_0 : List UInt8 := [42, 27, 182, 1, 73, 154, 0, 5, 2, 172, 42, 42, 180, 0, 7, 5, 46, 27, 182, 1, 49, 61, 3, 62]
abbrev dktX2_early_0 : List UInt8 := dkwX2_early_0 ++ dktX2_early_1
theorem dksX2_early_0 : cX2_early.data.toList.drop 0 = dktX2_early_0 := by decide +kernel
theorem dksX2_early_1 : cX2_early.data.toList.drop 24 = dktX2_early_1 := dk_seg dksX2_early_0 24 rfl rfl
theorem dksX2_early_2 : cX2_early.data.toList.drop 47 = dktX2_early_2 := dk_seg dksX2_early_1 23 rfl rfl
theorem dksX2_early_3 : cX2_early.data.toList.drop 69 = dktX2_early_3 := dk_seg dksX2_early_2 22 rfl rfl
theorem dX2_early_0 : decode cX2_early 0 = .ok (.aload_n 0, 1) := dk_42 (dk_at dksX2_early_0 0 rfl rfl)
theorem dX2_early_1 : decode cX2_early 1 = .ok (.iload_n 1, 1) := dk_27 (dk_at dksX2_early_0 1 rfl rfl)
theorem dX2_early_2 : decode cX2_early 2 = .ok (.invokevirtual 329, 3) := dk_182 1 73 (dk_at dksX2_early_0 2 rfl rfl)
theorem dX2_early_5 : decode cX2_early 5 = .ok (.ifCond .ne 5, 3) := dk_154 0 5 (dk_at dksX2_early_0 5 rfl rfl)
theorem dX2_early_8 : decode cX2_early 8 = .ok (.iconst (-1), 1) := dk_2 (dk_at dksX2_early_0 8 rfl rfl)
theorem dX2_early_9 : decode cX2_early 9 = .ok (.ireturn, 1) := dk_172 (dk_at dksX2_early_0 9 rfl rfl)
theorem dX2_early_10 : decode cX2_early 10 = .ok (.aload_n 0, 1) := dk_42 (dk_at dksX2_early_0 10 rfl rfl)
theorem dX2_early_11 : decode cX2_early 11 = .ok (.aload_n 0, 1) := dk_42 (dk_at dksX2_early_0 11 rfl rfl)
theorem dX2_early_12 : decode cX2_early 12 = .ok (.getfield 7, 3) := dk_180 0 7 (dk_at dksX2_early_0 12 rfl rfl)
theorem dX2_early_15 : decode cX2_early 15 = .ok (.iconst 2, 1) := dk_5 (dk_at dksX2_early_0 15 rfl rfl)
theorem dX2_early_16 : decode cX2_early 16 = .ok (.iaload, 1) := dk_46 (dk_at dksX2_early_0 16 rfl rfl)
theorem dX2_early_17 : decode cX2_early 17 = .ok (.iload_n 1, 1) := dk_27 (dk_at dksX2_early_0 17 rfl rfl)
theorem dX2_early_18 : decode cX2_early 18 = .ok (.invokevirtual 305, 3) := dk_182 1 49 (dk_at dksX2_early_0 18 rfl rfl)
theorem dX2_early_21 : decode cX2_early 21 = .ok (.istore_n 2, 1) := dk_61 (dk_at dksX2_early_0 21 rfl rfl)
theorem dX2_early_22 : decode cX2_early 22 = .ok (.iconst 0, 1) := dk_3 (dk_at dksX2_early_0 22 rfl rfl)
theorem dX2_early_23 : decode cX2_early 23 = .ok (.istore_n 3, 1) := dk_62 (dk_at dksX2_early_0 23 rfl rfl)
theorem dX2_early_24 : decode cX2_early 24 = .ok (.iconst 0, 1) := dk_3 (dk_at dksX2_early_1 0 rfl rfl)
theorem dX2_early_25 : decode cX2_early 25 = .ok (.istore 4, 2) := dk_54 4 (dk_at dksX2_early_1 1 rfl rfl)
theorem dX2_early_27 : decode cX2_early 27 = .ok (.iload 4, 2) := dk_21 4 (dk_at dksX2_early_1 3 rfl rfl)
theorem dX2_early_29 : decode cX2_early 29 = .ok (.aload_n 0, 1) := dk_42 (dk_at dksX2_early_1 5 rfl rfl)
theorem dX2_early_30 : decode cX2_early 30 = .ok (.getfield 7, 3) := dk_180 0 7 (dk_at dksX2_early_1 6 rfl rfl)
theorem dX2_early_33 : decode cX2_early 33 = .ok (.iconst 0, 1) := dk_3 (dk_at dksX2_early_1 9 rfl rfl)
theorem dX2_early_34 : decode cX2_early 34 = .ok (.iaload, 1) := dk_46 (dk_at dksX2_early_1 10 rfl rfl)
theorem dX2_early_35 : decode cX2_early 35 = .ok (.if_icmp .ge 56, 3) := dk_162 0 56 (dk_at dksX2_early_1 11 rfl rfl)
theorem dX2_early_38 : decode cX2_early 38 = .ok (.aload_n 0, 1) := dk_42 (dk_at dksX2_early_1 14 rfl rfl)
theorem dX2_early_39 : decode cX2_early 39 = .ok (.iload 4, 2) := dk_21 4 (dk_at dksX2_early_1 15 rfl rfl)
theorem dX2_early_41 : decode cX2_early 41 = .ok (.iconst 0, 1) := dk_3 (dk_at dksX2_early_1 17 rfl rfl)
theorem dX2_early_42 : decode cX2_early 42 = .ok (.invokevirtual 74, 3) := dk_182 0 74 (dk_at dksX2_early_1 18 rfl rfl)
theorem dX2_early_45 : decode cX2_early 45 = .ok (.aload_n 0, 1) := dk_42 (dk_at dksX2_early_1 21 rfl rfl)
theorem dX2_early_46 : decode cX2_early 46 = .ok (.aload_n 0, 1) := dk_42 (dk_at dksX2_early_1 22 rfl rfl)
theorem dX2_early_47 : decode cX2_early 47 = .ok (.getfield 7, 3) := dk_180 0 7 (dk_at dksX2_early_2 0 rfl rfl)
theorem dX2_early_50 : decode cX2_early 50 = .ok (.iconst 2, 1) := dk_5 (dk_at dksX2_early_2 3 rfl rfl)
theorem dX2_early_51 : decode cX2_early 51 = .ok (.iaload, 1) := dk_46 (dk_at dksX2_early_2 4 rfl rfl)
theorem dX2_early_52 : decode cX2_early 52 = .ok (.iload 4, 2) := dk_21 4 (dk_at dksX2_early_2 5 rfl rfl)
theorem dX2_early_54 : decode cX2_early 54 = .ok (.iload_n 1, 1) := dk_27 (dk_at dksX2_early_2 7 rfl rfl)
theorem dX2_early_55 : decode cX2_early 55 = .ok (.iload_n 2, 1) := dk_28 (dk_at dksX2_early_2 8 rfl rfl)
theorem dX2_early_56 : decode cX2_early 56 = .ok (.invokevirtual 308, 3) := dk_182 1 52 (dk_at dksX2_early_2 9 rfl rfl)
theorem dX2_early_59 : decode cX2_early 59 = .ok (.isub, 1) := dk_100 (dk_at dksX2_early_2 12 rfl rfl)
theorem dX2_early_60 : decode cX2_early 60 = .ok (.istore 5, 2) := dk_54 5 (dk_at dksX2_early_2 13 rfl rfl)
theorem dX2_early_62 : decode cX2_early 62 = .ok (.iload_n 3, 1) := dk_29 (dk_at dksX2_early_2 15 rfl rfl)
theorem dX2_early_63 : decode cX2_early 63 = .ok (.aload_n 0, 1) := dk_42 (dk_at dksX2_early_2 16 rfl rfl)
theorem dX2_early_64 : decode cX2_early 64 = .ok (.iload 4, 2) := dk_21 4 (dk_at dksX2_early_2 17 rfl rfl)
theorem dX2_early_66 : decode cX2_early 66 = .ok (.invokevirtual 292, 3) := dk_182 1 36 (dk_at dksX2_early_2 19 rfl rfl)
theorem dX2_early_69 : decode cX2_early 69 = .ok (.ifCond .eq 13, 3) := dk_153 0 13 (dk_at dksX2_early_3 0 rfl rfl)
theorem dX2_early_72 : decode cX2_early 72 = .ok (.iload 5, 2) := dk_21 5 (dk_at dksX2_early_3 3 rfl rfl)
theorem dX2_early_74 : decode cX2_early 74 = .ok (.ifCond .le 8, 3) := dk_158 0 8 (dk_at dksX2_early_3 5 rfl rfl)
theorem dX2_early_77 : decode cX2_early 77 = .ok (.iload 5, 2) := dk_21 5 (dk_at dksX2_early_3 8 rfl rfl)
theorem dX2_early_79 : decode cX2_early 79 = .ok (.goto 4, 3) := dk_167 0 4 (dk_at dksX2_early_3 10 rfl rfl)
theorem dX2_early_82 : decode cX2_early 82 = .ok (.iconst 0, 1) := dk_3 (dk_at dksX2_early_3 13 rfl rfl)
theorem dX2_early_83 : decode cX2_early 83 = .ok (.iadd, 1) := dk_96 (dk_at dksX2_early_3 14 rfl rfl)
theorem dX2_early_84 : decode cX2_early 84 = .ok (.istore_n 3, 1) := dk_62 (dk_at dksX2_early_3 15 rfl rfl)
theorem dX2_early_85 : decode cX2_early 85 = .ok (.iinc 4 1, 3) := dk_132 4 1 (dk_at dksX2_early_3 16 rfl rfl)
theorem dX2_early_88 : decode cX2_early 88 = .ok (.goto (-61), 3) := dk_167 255 195 (dk_at dksX2_early_3 19 rfl rfl)
theorem dX2_early_91 : decode cX2_early 91 = .ok (.iload_n 3, 1) := dk_29 (dk_at dksX2_early_3 22 rfl rfl)
theorem dX2_early_92 : decode cX2_early 92 = .ok (.ireturn, 1) := dk_172 (dk_at dksX2_early_3 23 rfl rfl)
abbrev cX2_weathers : ByteArray := prog_21_method_116_code
def yX2_weathers : MethodName := ⟨RX2, "weathers", "(I)I"⟩
def dkwX2_weathers_3 : List UInt8 := [29, 172]
abbrev dktX2_weathers_3 : List UInt8 := dkwX2_weathers_3 ++ []
def dkwX2_weathers_2 : List UInt8 := [46, 182, 1, 64, 27, 122, 4, 126, 96, 62, 132, 4, 1, 167, 255, 219, 42, 180, 0, 7, 16, 8, 28, 79]
abbrev dktX2_weathers_2 : List UInt8 := dkwX2_weathers_2 ++ dktX2_weathers_3
def dkwX2_weathers_1 : List UInt8 := [21, 4, 16, 10, 162, 0, 36, 42, 180, 0, 7, 16, 8, 21, 4, 79, 29, 42, 42, 180, 0, 7, 16, 7]
abbrev dktX2_weathers_1 : List UInt8 := dkwX2_weathers_1 ++ dktX2_weathers_2
def dkwX2_weathers_0 : List UInt8 := [42, 27, 182, 1, 79, 154, 0, 5, 2, 172, 42, 180, 0, 7, 16, 8, 46, 61, 3, 62, 3, 54, 4]
abbrev dktX2_weathers_0 : List UInt8 := dkwX2_weathers_0 ++ dktX2_weathers_1
theorem dksX2_weathers_0 : cX2_weathers.data.toList.drop 0 = dktX2_weathers_0 := by decide +kernel
theorem dksX2_weathers_1 : cX2_weathers.data.toList.drop 23 = dktX2_weathers_1 := dk_seg dksX2_weathers_0 23 rfl rfl
theorem dksX2_weathers_2 : cX2_weathers.data.toList.drop 47 = dktX2_weathers_2 := dk_seg dksX2_weathers_1 24 rfl rfl
theorem dksX2_weathers_3 : cX2_weathers.data.toList.drop 71 = dktX2_weathers_3 := dk_seg dksX2_weathers_2 24 rfl rfl
theorem dX2_weathers_0 : decode cX2_weathers 0 = .ok (.aload_n 0, 1) := dk_42 (dk_at dksX2_weathers_0 0 rfl rfl)
theorem dX2_weathers_1 : decode cX2_weathers 1 = .ok (.iload_n 1, 1) := dk_27 (dk_at dksX2_weathers_0 1 rfl rfl)
theorem dX2_weathers_2 : decode cX2_weathers 2 = .ok (.invokevirtual 335, 3) := dk_182 1 79 (dk_at dksX2_weathers_0 2 rfl rfl)
theorem dX2_weathers_5 : decode cX2_weathers 5 = .ok (.ifCond .ne 5, 3) := dk_154 0 5 (dk_at dksX2_weathers_0 5 rfl rfl)
theorem dX2_weathers_8 : decode cX2_weathers 8 = .ok (.iconst (-1), 1) := dk_2 (dk_at dksX2_weathers_0 8 rfl rfl)
theorem dX2_weathers_9 : decode cX2_weathers 9 = .ok (.ireturn, 1) := dk_172 (dk_at dksX2_weathers_0 9 rfl rfl)
theorem dX2_weathers_10 : decode cX2_weathers 10 = .ok (.aload_n 0, 1) := dk_42 (dk_at dksX2_weathers_0 10 rfl rfl)
theorem dX2_weathers_11 : decode cX2_weathers 11 = .ok (.getfield 7, 3) := dk_180 0 7 (dk_at dksX2_weathers_0 11 rfl rfl)
theorem dX2_weathers_14 : decode cX2_weathers 14 = .ok (.bipush 8, 2) := dk_16 8 (dk_at dksX2_weathers_0 14 rfl rfl)
theorem dX2_weathers_16 : decode cX2_weathers 16 = .ok (.iaload, 1) := dk_46 (dk_at dksX2_weathers_0 16 rfl rfl)
theorem dX2_weathers_17 : decode cX2_weathers 17 = .ok (.istore_n 2, 1) := dk_61 (dk_at dksX2_weathers_0 17 rfl rfl)
theorem dX2_weathers_18 : decode cX2_weathers 18 = .ok (.iconst 0, 1) := dk_3 (dk_at dksX2_weathers_0 18 rfl rfl)
theorem dX2_weathers_19 : decode cX2_weathers 19 = .ok (.istore_n 3, 1) := dk_62 (dk_at dksX2_weathers_0 19 rfl rfl)
theorem dX2_weathers_20 : decode cX2_weathers 20 = .ok (.iconst 0, 1) := dk_3 (dk_at dksX2_weathers_0 20 rfl rfl)
theorem dX2_weathers_21 : decode cX2_weathers 21 = .ok (.istore 4, 2) := dk_54 4 (dk_at dksX2_weathers_0 21 rfl rfl)
theorem dX2_weathers_23 : decode cX2_weathers 23 = .ok (.iload 4, 2) := dk_21 4 (dk_at dksX2_weathers_1 0 rfl rfl)
theorem dX2_weathers_25 : decode cX2_weathers 25 = .ok (.bipush 10, 2) := dk_16 10 (dk_at dksX2_weathers_1 2 rfl rfl)
theorem dX2_weathers_27 : decode cX2_weathers 27 = .ok (.if_icmp .ge 36, 3) := dk_162 0 36 (dk_at dksX2_weathers_1 4 rfl rfl)
theorem dX2_weathers_30 : decode cX2_weathers 30 = .ok (.aload_n 0, 1) := dk_42 (dk_at dksX2_weathers_1 7 rfl rfl)
theorem dX2_weathers_31 : decode cX2_weathers 31 = .ok (.getfield 7, 3) := dk_180 0 7 (dk_at dksX2_weathers_1 8 rfl rfl)
theorem dX2_weathers_34 : decode cX2_weathers 34 = .ok (.bipush 8, 2) := dk_16 8 (dk_at dksX2_weathers_1 11 rfl rfl)
theorem dX2_weathers_36 : decode cX2_weathers 36 = .ok (.iload 4, 2) := dk_21 4 (dk_at dksX2_weathers_1 13 rfl rfl)
theorem dX2_weathers_38 : decode cX2_weathers 38 = .ok (.iastore, 1) := dk_79 (dk_at dksX2_weathers_1 15 rfl rfl)
theorem dX2_weathers_39 : decode cX2_weathers 39 = .ok (.iload_n 3, 1) := dk_29 (dk_at dksX2_weathers_1 16 rfl rfl)
theorem dX2_weathers_40 : decode cX2_weathers 40 = .ok (.aload_n 0, 1) := dk_42 (dk_at dksX2_weathers_1 17 rfl rfl)
theorem dX2_weathers_41 : decode cX2_weathers 41 = .ok (.aload_n 0, 1) := dk_42 (dk_at dksX2_weathers_1 18 rfl rfl)
theorem dX2_weathers_42 : decode cX2_weathers 42 = .ok (.getfield 7, 3) := dk_180 0 7 (dk_at dksX2_weathers_1 19 rfl rfl)
theorem dX2_weathers_45 : decode cX2_weathers 45 = .ok (.bipush 7, 2) := dk_16 7 (dk_at dksX2_weathers_1 22 rfl rfl)
theorem dX2_weathers_47 : decode cX2_weathers 47 = .ok (.iaload, 1) := dk_46 (dk_at dksX2_weathers_2 0 rfl rfl)
theorem dX2_weathers_48 : decode cX2_weathers 48 = .ok (.invokevirtual 320, 3) := dk_182 1 64 (dk_at dksX2_weathers_2 1 rfl rfl)
theorem dX2_weathers_51 : decode cX2_weathers 51 = .ok (.iload_n 1, 1) := dk_27 (dk_at dksX2_weathers_2 4 rfl rfl)
theorem dX2_weathers_52 : decode cX2_weathers 52 = .ok (.ishr, 1) := dk_122 (dk_at dksX2_weathers_2 5 rfl rfl)
theorem dX2_weathers_53 : decode cX2_weathers 53 = .ok (.iconst 1, 1) := dk_4 (dk_at dksX2_weathers_2 6 rfl rfl)
theorem dX2_weathers_54 : decode cX2_weathers 54 = .ok (.iand, 1) := dk_126 (dk_at dksX2_weathers_2 7 rfl rfl)
theorem dX2_weathers_55 : decode cX2_weathers 55 = .ok (.iadd, 1) := dk_96 (dk_at dksX2_weathers_2 8 rfl rfl)
theorem dX2_weathers_56 : decode cX2_weathers 56 = .ok (.istore_n 3, 1) := dk_62 (dk_at dksX2_weathers_2 9 rfl rfl)
theorem dX2_weathers_57 : decode cX2_weathers 57 = .ok (.iinc 4 1, 3) := dk_132 4 1 (dk_at dksX2_weathers_2 10 rfl rfl)
theorem dX2_weathers_60 : decode cX2_weathers 60 = .ok (.goto (-37), 3) := dk_167 255 219 (dk_at dksX2_weathers_2 13 rfl rfl)
theorem dX2_weathers_63 : decode cX2_weathers 63 = .ok (.aload_n 0, 1) := dk_42 (dk_at dksX2_weathers_2 16 rfl rfl)
theorem dX2_weathers_64 : decode cX2_weathers 64 = .ok (.getfield 7, 3) := dk_180 0 7 (dk_at dksX2_weathers_2 17 rfl rfl)
theorem dX2_weathers_67 : decode cX2_weathers 67 = .ok (.bipush 8, 2) := dk_16 8 (dk_at dksX2_weathers_2 20 rfl rfl)
theorem dX2_weathers_69 : decode cX2_weathers 69 = .ok (.iload_n 2, 1) := dk_28 (dk_at dksX2_weathers_2 22 rfl rfl)
theorem dX2_weathers_70 : decode cX2_weathers 70 = .ok (.iastore, 1) := dk_79 (dk_at dksX2_weathers_2 23 rfl rfl)
theorem dX2_weathers_71 : decode cX2_weathers 71 = .ok (.iload_n 3, 1) := dk_29 (dk_at dksX2_weathers_3 0 rfl rfl)
theorem dX2_weathers_72 : decode cX2_weathers 72 = .ok (.ireturn, 1) := dk_172 (dk_at dksX2_weathers_3 1 rfl rfl)
abbrev cX2_needless : ByteArray := prog_21_method_118_code
def yX2_needless : MethodName := ⟨RX2, "needless", "()I"⟩
def dkwX2_needless_1 : List UInt8 := [28, 120, 167, 0, 4, 3, 128, 60, 132, 2, 1, 167, 255, 225, 27, 172]
abbrev dktX2_needless_1 : List UInt8 := dkwX2_needless_1 ++ []
def dkwX2_needless_0 : List UInt8 := [3, 60, 3, 61, 28, 42, 180, 0, 7, 3, 46, 162, 0, 27, 27, 42, 28, 182, 1, 133, 153, 0, 9, 4]
abbrev dktX2_needless_0 : List UInt8 := dkwX2_needless_0 ++ dktX2_needless_1
theorem dksX2_needless_0 : cX2_needless.data.toList.drop 0 = dktX2_needless_0 := by decide +kernel
theorem dksX2_needless_1 : cX2_needless.data.toList.drop 24 = dktX2_needless_1 := dk_seg dksX2_needless_0 24 rfl rfl
theorem dX2_needless_0 : decode cX2_needless 0 = .ok (.iconst 0, 1) := dk_3 (dk_at dksX2_needless_0 0 rfl rfl)
theorem dX2_needless_1 : decode cX2_needless 1 = .ok (.istore_n 1, 1) := dk_60 (dk_at dksX2_needless_0 1 rfl rfl)
theorem dX2_needless_2 : decode cX2_needless 2 = .ok (.iconst 0, 1) := dk_3 (dk_at dksX2_needless_0 2 rfl rfl)
theorem dX2_needless_3 : decode cX2_needless 3 = .ok (.istore_n 2, 1) := dk_61 (dk_at dksX2_needless_0 3 rfl rfl)
theorem dX2_needless_4 : decode cX2_needless 4 = .ok (.iload_n 2, 1) := dk_28 (dk_at dksX2_needless_0 4 rfl rfl)
theorem dX2_needless_5 : decode cX2_needless 5 = .ok (.aload_n 0, 1) := dk_42 (dk_at dksX2_needless_0 5 rfl rfl)
theorem dX2_needless_6 : decode cX2_needless 6 = .ok (.getfield 7, 3) := dk_180 0 7 (dk_at dksX2_needless_0 6 rfl rfl)
theorem dX2_needless_9 : decode cX2_needless 9 = .ok (.iconst 0, 1) := dk_3 (dk_at dksX2_needless_0 9 rfl rfl)
theorem dX2_needless_10 : decode cX2_needless 10 = .ok (.iaload, 1) := dk_46 (dk_at dksX2_needless_0 10 rfl rfl)
theorem dX2_needless_11 : decode cX2_needless 11 = .ok (.if_icmp .ge 27, 3) := dk_162 0 27 (dk_at dksX2_needless_0 11 rfl rfl)
theorem dX2_needless_14 : decode cX2_needless 14 = .ok (.iload_n 1, 1) := dk_27 (dk_at dksX2_needless_0 14 rfl rfl)
theorem dX2_needless_15 : decode cX2_needless 15 = .ok (.aload_n 0, 1) := dk_42 (dk_at dksX2_needless_0 15 rfl rfl)
theorem dX2_needless_16 : decode cX2_needless 16 = .ok (.iload_n 2, 1) := dk_28 (dk_at dksX2_needless_0 16 rfl rfl)
theorem dX2_needless_17 : decode cX2_needless 17 = .ok (.invokevirtual 389, 3) := dk_182 1 133 (dk_at dksX2_needless_0 17 rfl rfl)
theorem dX2_needless_20 : decode cX2_needless 20 = .ok (.ifCond .eq 9, 3) := dk_153 0 9 (dk_at dksX2_needless_0 20 rfl rfl)
theorem dX2_needless_23 : decode cX2_needless 23 = .ok (.iconst 1, 1) := dk_4 (dk_at dksX2_needless_0 23 rfl rfl)
theorem dX2_needless_24 : decode cX2_needless 24 = .ok (.iload_n 2, 1) := dk_28 (dk_at dksX2_needless_1 0 rfl rfl)
theorem dX2_needless_25 : decode cX2_needless 25 = .ok (.ishl, 1) := dk_120 (dk_at dksX2_needless_1 1 rfl rfl)
theorem dX2_needless_26 : decode cX2_needless 26 = .ok (.goto 4, 3) := dk_167 0 4 (dk_at dksX2_needless_1 2 rfl rfl)
theorem dX2_needless_29 : decode cX2_needless 29 = .ok (.iconst 0, 1) := dk_3 (dk_at dksX2_needless_1 5 rfl rfl)
theorem dX2_needless_30 : decode cX2_needless 30 = .ok (.ior, 1) := dk_128 (dk_at dksX2_needless_1 6 rfl rfl)
theorem dX2_needless_31 : decode cX2_needless 31 = .ok (.istore_n 1, 1) := dk_60 (dk_at dksX2_needless_1 7 rfl rfl)
theorem dX2_needless_32 : decode cX2_needless 32 = .ok (.iinc 2 1, 3) := dk_132 2 1 (dk_at dksX2_needless_1 8 rfl rfl)
theorem dX2_needless_35 : decode cX2_needless 35 = .ok (.goto (-31), 3) := dk_167 255 225 (dk_at dksX2_needless_1 11 rfl rfl)
theorem dX2_needless_38 : decode cX2_needless 38 = .ok (.iload_n 1, 1) := dk_27 (dk_at dksX2_needless_1 14 rfl rfl)
theorem dX2_needless_39 : decode cX2_needless 39 = .ok (.ireturn, 1) := dk_172 (dk_at dksX2_needless_1 15 rfl rfl)
abbrev cX2_isNeedless : ByteArray := prog_21_method_117_code
def yX2_isNeedless : MethodName := ⟨RX2, "isNeedless", "(I)Z"⟩
def dkwX2_isNeedless_1 : List UInt8 := [182, 1, 115, 42, 27, 3, 182, 0, 74, 163, 0, 7, 4, 167, 0, 4, 3, 172]
abbrev dktX2_isNeedless_1 : List UInt8 := dkwX2_isNeedless_1 ++ []
def dkwX2_isNeedless_0 : List UInt8 := [42, 182, 1, 112, 27, 184, 0, 246, 153, 0, 31, 42, 27, 42, 182, 1, 112, 4, 27, 120, 2, 130, 126]
abbrev dktX2_isNeedless_0 : List UInt8 := dkwX2_isNeedless_0 ++ dktX2_isNeedless_1
theorem dksX2_isNeedless_0 : cX2_isNeedless.data.toList.drop 0 = dktX2_isNeedless_0 := by decide +kernel
theorem dksX2_isNeedless_1 : cX2_isNeedless.data.toList.drop 23 = dktX2_isNeedless_1 := dk_seg dksX2_isNeedless_0 23 rfl rfl
theorem dX2_isNeedless_0 : decode cX2_isNeedless 0 = .ok (.aload_n 0, 1) := dk_42 (dk_at dksX2_isNeedless_0 0 rfl rfl)
theorem dX2_isNeedless_1 : decode cX2_isNeedless 1 = .ok (.invokevirtual 368, 3) := dk_182 1 112 (dk_at dksX2_isNeedless_0 1 rfl rfl)
theorem dX2_isNeedless_4 : decode cX2_isNeedless 4 = .ok (.iload_n 1, 1) := dk_27 (dk_at dksX2_isNeedless_0 4 rfl rfl)
theorem dX2_isNeedless_5 : decode cX2_isNeedless 5 = .ok (.invokestatic 246, 3) := dk_184 0 246 (dk_at dksX2_isNeedless_0 5 rfl rfl)
theorem dX2_isNeedless_8 : decode cX2_isNeedless 8 = .ok (.ifCond .eq 31, 3) := dk_153 0 31 (dk_at dksX2_isNeedless_0 8 rfl rfl)
theorem dX2_isNeedless_11 : decode cX2_isNeedless 11 = .ok (.aload_n 0, 1) := dk_42 (dk_at dksX2_isNeedless_0 11 rfl rfl)
theorem dX2_isNeedless_12 : decode cX2_isNeedless 12 = .ok (.iload_n 1, 1) := dk_27 (dk_at dksX2_isNeedless_0 12 rfl rfl)
theorem dX2_isNeedless_13 : decode cX2_isNeedless 13 = .ok (.aload_n 0, 1) := dk_42 (dk_at dksX2_isNeedless_0 13 rfl rfl)
theorem dX2_isNeedless_14 : decode cX2_isNeedless 14 = .ok (.invokevirtual 368, 3) := dk_182 1 112 (dk_at dksX2_isNeedless_0 14 rfl rfl)
theorem dX2_isNeedless_17 : decode cX2_isNeedless 17 = .ok (.iconst 1, 1) := dk_4 (dk_at dksX2_isNeedless_0 17 rfl rfl)
theorem dX2_isNeedless_18 : decode cX2_isNeedless 18 = .ok (.iload_n 1, 1) := dk_27 (dk_at dksX2_isNeedless_0 18 rfl rfl)
theorem dX2_isNeedless_19 : decode cX2_isNeedless 19 = .ok (.ishl, 1) := dk_120 (dk_at dksX2_isNeedless_0 19 rfl rfl)
theorem dX2_isNeedless_20 : decode cX2_isNeedless 20 = .ok (.iconst (-1), 1) := dk_2 (dk_at dksX2_isNeedless_0 20 rfl rfl)
theorem dX2_isNeedless_21 : decode cX2_isNeedless 21 = .ok (.ixor, 1) := dk_130 (dk_at dksX2_isNeedless_0 21 rfl rfl)
theorem dX2_isNeedless_22 : decode cX2_isNeedless 22 = .ok (.iand, 1) := dk_126 (dk_at dksX2_isNeedless_0 22 rfl rfl)
theorem dX2_isNeedless_23 : decode cX2_isNeedless 23 = .ok (.invokevirtual 371, 3) := dk_182 1 115 (dk_at dksX2_isNeedless_1 0 rfl rfl)
theorem dX2_isNeedless_26 : decode cX2_isNeedless 26 = .ok (.aload_n 0, 1) := dk_42 (dk_at dksX2_isNeedless_1 3 rfl rfl)
theorem dX2_isNeedless_27 : decode cX2_isNeedless 27 = .ok (.iload_n 1, 1) := dk_27 (dk_at dksX2_isNeedless_1 4 rfl rfl)
theorem dX2_isNeedless_28 : decode cX2_isNeedless 28 = .ok (.iconst 0, 1) := dk_3 (dk_at dksX2_isNeedless_1 5 rfl rfl)
theorem dX2_isNeedless_29 : decode cX2_isNeedless 29 = .ok (.invokevirtual 74, 3) := dk_182 0 74 (dk_at dksX2_isNeedless_1 6 rfl rfl)
theorem dX2_isNeedless_32 : decode cX2_isNeedless 32 = .ok (.if_icmp .gt 7, 3) := dk_163 0 7 (dk_at dksX2_isNeedless_1 9 rfl rfl)
theorem dX2_isNeedless_35 : decode cX2_isNeedless 35 = .ok (.iconst 1, 1) := dk_4 (dk_at dksX2_isNeedless_1 12 rfl rfl)
theorem dX2_isNeedless_36 : decode cX2_isNeedless 36 = .ok (.goto 4, 3) := dk_167 0 4 (dk_at dksX2_isNeedless_1 13 rfl rfl)
theorem dX2_isNeedless_39 : decode cX2_isNeedless 39 = .ok (.iconst 0, 1) := dk_3 (dk_at dksX2_isNeedless_1 16 rfl rfl)
theorem dX2_isNeedless_40 : decode cX2_isNeedless 40 = .ok (.ireturn, 1) := dk_172 (dk_at dksX2_isNeedless_1 17 rfl rfl)
abbrev cX2_lateness : ByteArray := prog_21_method_119_code
def yX2_lateness : MethodName := ⟨RX2, "lateness", "(I)I"⟩
def dkwX2_lateness_4 : List UInt8 := [182, 0, 74, 163, 0, 7, 6, 167, 0, 4, 7, 172]
abbrev dktX2_lateness_4 : List UInt8 := dkwX2_lateness_4 ++ []
def dkwX2_lateness_3 : List UInt8 := [182, 1, 133, 153, 0, 5, 5, 172, 42, 27, 42, 182, 1, 112, 4, 27, 120, 126, 182, 1, 115, 42, 27, 3]
abbrev dktX2_lateness_3 : List UInt8 := dkwX2_lateness_3 ++ dktX2_lateness_4
def dkwX2_lateness_2 : List UInt8 := [182, 1, 64, 27, 184, 0, 246, 126, 61, 132, 3, 1, 167, 255, 233, 28, 153, 0, 5, 4, 172, 42, 27]
abbrev dktX2_lateness_2 : List UInt8 := dkwX2_lateness_2 ++ dktX2_lateness_3
def dkwX2_lateness_1 : List UInt8 := [184, 0, 246, 154, 0, 5, 3, 172, 4, 61, 3, 62, 29, 42, 182, 0, 70, 163, 0, 21, 28, 42, 29]
abbrev dktX2_lateness_1 : List UInt8 := dkwX2_lateness_1 ++ dktX2_lateness_2
def dkwX2_lateness_0 : List UInt8 := [42, 27, 182, 1, 79, 154, 0, 5, 2, 172, 42, 42, 180, 0, 7, 16, 7, 46, 182, 1, 64, 27]
abbrev dktX2_lateness_0 : List UInt8 := dkwX2_lateness_0 ++ dktX2_lateness_1
theorem dksX2_lateness_0 : cX2_lateness.data.toList.drop 0 = dktX2_lateness_0 := by decide +kernel
theorem dksX2_lateness_1 : cX2_lateness.data.toList.drop 22 = dktX2_lateness_1 := dk_seg dksX2_lateness_0 22 rfl rfl
theorem dksX2_lateness_2 : cX2_lateness.data.toList.drop 45 = dktX2_lateness_2 := dk_seg dksX2_lateness_1 23 rfl rfl
theorem dksX2_lateness_3 : cX2_lateness.data.toList.drop 68 = dktX2_lateness_3 := dk_seg dksX2_lateness_2 23 rfl rfl
theorem dksX2_lateness_4 : cX2_lateness.data.toList.drop 92 = dktX2_lateness_4 := dk_seg dksX2_lateness_3 24 rfl rfl
theorem dX2_lateness_0 : decode cX2_lateness 0 = .ok (.aload_n 0, 1) := dk_42 (dk_at dksX2_lateness_0 0 rfl rfl)
theorem dX2_lateness_1 : decode cX2_lateness 1 = .ok (.iload_n 1, 1) := dk_27 (dk_at dksX2_lateness_0 1 rfl rfl)
theorem dX2_lateness_2 : decode cX2_lateness 2 = .ok (.invokevirtual 335, 3) := dk_182 1 79 (dk_at dksX2_lateness_0 2 rfl rfl)
theorem dX2_lateness_5 : decode cX2_lateness 5 = .ok (.ifCond .ne 5, 3) := dk_154 0 5 (dk_at dksX2_lateness_0 5 rfl rfl)
theorem dX2_lateness_8 : decode cX2_lateness 8 = .ok (.iconst (-1), 1) := dk_2 (dk_at dksX2_lateness_0 8 rfl rfl)
theorem dX2_lateness_9 : decode cX2_lateness 9 = .ok (.ireturn, 1) := dk_172 (dk_at dksX2_lateness_0 9 rfl rfl)
theorem dX2_lateness_10 : decode cX2_lateness 10 = .ok (.aload_n 0, 1) := dk_42 (dk_at dksX2_lateness_0 10 rfl rfl)
theorem dX2_lateness_11 : decode cX2_lateness 11 = .ok (.aload_n 0, 1) := dk_42 (dk_at dksX2_lateness_0 11 rfl rfl)
theorem dX2_lateness_12 : decode cX2_lateness 12 = .ok (.getfield 7, 3) := dk_180 0 7 (dk_at dksX2_lateness_0 12 rfl rfl)
theorem dX2_lateness_15 : decode cX2_lateness 15 = .ok (.bipush 7, 2) := dk_16 7 (dk_at dksX2_lateness_0 15 rfl rfl)
theorem dX2_lateness_17 : decode cX2_lateness 17 = .ok (.iaload, 1) := dk_46 (dk_at dksX2_lateness_0 17 rfl rfl)
theorem dX2_lateness_18 : decode cX2_lateness 18 = .ok (.invokevirtual 320, 3) := dk_182 1 64 (dk_at dksX2_lateness_0 18 rfl rfl)
theorem dX2_lateness_21 : decode cX2_lateness 21 = .ok (.iload_n 1, 1) := dk_27 (dk_at dksX2_lateness_0 21 rfl rfl)
theorem dX2_lateness_22 : decode cX2_lateness 22 = .ok (.invokestatic 246, 3) := dk_184 0 246 (dk_at dksX2_lateness_1 0 rfl rfl)
theorem dX2_lateness_25 : decode cX2_lateness 25 = .ok (.ifCond .ne 5, 3) := dk_154 0 5 (dk_at dksX2_lateness_1 3 rfl rfl)
theorem dX2_lateness_28 : decode cX2_lateness 28 = .ok (.iconst 0, 1) := dk_3 (dk_at dksX2_lateness_1 6 rfl rfl)
theorem dX2_lateness_29 : decode cX2_lateness 29 = .ok (.ireturn, 1) := dk_172 (dk_at dksX2_lateness_1 7 rfl rfl)
theorem dX2_lateness_30 : decode cX2_lateness 30 = .ok (.iconst 1, 1) := dk_4 (dk_at dksX2_lateness_1 8 rfl rfl)
theorem dX2_lateness_31 : decode cX2_lateness 31 = .ok (.istore_n 2, 1) := dk_61 (dk_at dksX2_lateness_1 9 rfl rfl)
theorem dX2_lateness_32 : decode cX2_lateness 32 = .ok (.iconst 0, 1) := dk_3 (dk_at dksX2_lateness_1 10 rfl rfl)
theorem dX2_lateness_33 : decode cX2_lateness 33 = .ok (.istore_n 3, 1) := dk_62 (dk_at dksX2_lateness_1 11 rfl rfl)
theorem dX2_lateness_34 : decode cX2_lateness 34 = .ok (.iload_n 3, 1) := dk_29 (dk_at dksX2_lateness_1 12 rfl rfl)
theorem dX2_lateness_35 : decode cX2_lateness 35 = .ok (.aload_n 0, 1) := dk_42 (dk_at dksX2_lateness_1 13 rfl rfl)
theorem dX2_lateness_36 : decode cX2_lateness 36 = .ok (.invokevirtual 70, 3) := dk_182 0 70 (dk_at dksX2_lateness_1 14 rfl rfl)
theorem dX2_lateness_39 : decode cX2_lateness 39 = .ok (.if_icmp .gt 21, 3) := dk_163 0 21 (dk_at dksX2_lateness_1 17 rfl rfl)
theorem dX2_lateness_42 : decode cX2_lateness 42 = .ok (.iload_n 2, 1) := dk_28 (dk_at dksX2_lateness_1 20 rfl rfl)
theorem dX2_lateness_43 : decode cX2_lateness 43 = .ok (.aload_n 0, 1) := dk_42 (dk_at dksX2_lateness_1 21 rfl rfl)
theorem dX2_lateness_44 : decode cX2_lateness 44 = .ok (.iload_n 3, 1) := dk_29 (dk_at dksX2_lateness_1 22 rfl rfl)
theorem dX2_lateness_45 : decode cX2_lateness 45 = .ok (.invokevirtual 320, 3) := dk_182 1 64 (dk_at dksX2_lateness_2 0 rfl rfl)
theorem dX2_lateness_48 : decode cX2_lateness 48 = .ok (.iload_n 1, 1) := dk_27 (dk_at dksX2_lateness_2 3 rfl rfl)
theorem dX2_lateness_49 : decode cX2_lateness 49 = .ok (.invokestatic 246, 3) := dk_184 0 246 (dk_at dksX2_lateness_2 4 rfl rfl)
theorem dX2_lateness_52 : decode cX2_lateness 52 = .ok (.iand, 1) := dk_126 (dk_at dksX2_lateness_2 7 rfl rfl)
theorem dX2_lateness_53 : decode cX2_lateness 53 = .ok (.istore_n 2, 1) := dk_61 (dk_at dksX2_lateness_2 8 rfl rfl)
theorem dX2_lateness_54 : decode cX2_lateness 54 = .ok (.iinc 3 1, 3) := dk_132 3 1 (dk_at dksX2_lateness_2 9 rfl rfl)
theorem dX2_lateness_57 : decode cX2_lateness 57 = .ok (.goto (-23), 3) := dk_167 255 233 (dk_at dksX2_lateness_2 12 rfl rfl)
theorem dX2_lateness_60 : decode cX2_lateness 60 = .ok (.iload_n 2, 1) := dk_28 (dk_at dksX2_lateness_2 15 rfl rfl)
theorem dX2_lateness_61 : decode cX2_lateness 61 = .ok (.ifCond .eq 5, 3) := dk_153 0 5 (dk_at dksX2_lateness_2 16 rfl rfl)
theorem dX2_lateness_64 : decode cX2_lateness 64 = .ok (.iconst 1, 1) := dk_4 (dk_at dksX2_lateness_2 19 rfl rfl)
theorem dX2_lateness_65 : decode cX2_lateness 65 = .ok (.ireturn, 1) := dk_172 (dk_at dksX2_lateness_2 20 rfl rfl)
theorem dX2_lateness_66 : decode cX2_lateness 66 = .ok (.aload_n 0, 1) := dk_42 (dk_at dksX2_lateness_2 21 rfl rfl)
theorem dX2_lateness_67 : decode cX2_lateness 67 = .ok (.iload_n 1, 1) := dk_27 (dk_at dksX2_lateness_2 22 rfl rfl)
theorem dX2_lateness_68 : decode cX2_lateness 68 = .ok (.invokevirtual 389, 3) := dk_182 1 133 (dk_at dksX2_lateness_3 0 rfl rfl)
theorem dX2_lateness_71 : decode cX2_lateness 71 = .ok (.ifCond .eq 5, 3) := dk_153 0 5 (dk_at dksX2_lateness_3 3 rfl rfl)
theorem dX2_lateness_74 : decode cX2_lateness 74 = .ok (.iconst 2, 1) := dk_5 (dk_at dksX2_lateness_3 6 rfl rfl)
theorem dX2_lateness_75 : decode cX2_lateness 75 = .ok (.ireturn, 1) := dk_172 (dk_at dksX2_lateness_3 7 rfl rfl)
theorem dX2_lateness_76 : decode cX2_lateness 76 = .ok (.aload_n 0, 1) := dk_42 (dk_at dksX2_lateness_3 8 rfl rfl)
theorem dX2_lateness_77 : decode cX2_lateness 77 = .ok (.iload_n 1, 1) := dk_27 (dk_at dksX2_lateness_3 9 rfl rfl)
theorem dX2_lateness_78 : decode cX2_lateness 78 = .ok (.aload_n 0, 1) := dk_42 (dk_at dksX2_lateness_3 10 rfl rfl)
theorem dX2_lateness_79 : decode cX2_lateness 79 = .ok (.invokevirtual 368, 3) := dk_182 1 112 (dk_at dksX2_lateness_3 11 rfl rfl)
theorem dX2_lateness_82 : decode cX2_lateness 82 = .ok (.iconst 1, 1) := dk_4 (dk_at dksX2_lateness_3 14 rfl rfl)
theorem dX2_lateness_83 : decode cX2_lateness 83 = .ok (.iload_n 1, 1) := dk_27 (dk_at dksX2_lateness_3 15 rfl rfl)
theorem dX2_lateness_84 : decode cX2_lateness 84 = .ok (.ishl, 1) := dk_120 (dk_at dksX2_lateness_3 16 rfl rfl)
theorem dX2_lateness_85 : decode cX2_lateness 85 = .ok (.iand, 1) := dk_126 (dk_at dksX2_lateness_3 17 rfl rfl)
theorem dX2_lateness_86 : decode cX2_lateness 86 = .ok (.invokevirtual 371, 3) := dk_182 1 115 (dk_at dksX2_lateness_3 18 rfl rfl)
theorem dX2_lateness_89 : decode cX2_lateness 89 = .ok (.aload_n 0, 1) := dk_42 (dk_at dksX2_lateness_3 21 rfl rfl)
theorem dX2_lateness_90 : decode cX2_lateness 90 = .ok (.iload_n 1, 1) := dk_27 (dk_at dksX2_lateness_3 22 rfl rfl)
theorem dX2_lateness_91 : decode cX2_lateness 91 = .ok (.iconst 0, 1) := dk_3 (dk_at dksX2_lateness_3 23 rfl rfl)
theorem dX2_lateness_92 : decode cX2_lateness 92 = .ok (.invokevirtual 74, 3) := dk_182 0 74 (dk_at dksX2_lateness_4 0 rfl rfl)
theorem dX2_lateness_95 : decode cX2_lateness 95 = .ok (.if_icmp .gt 7, 3) := dk_163 0 7 (dk_at dksX2_lateness_4 3 rfl rfl)
theorem dX2_lateness_98 : decode cX2_lateness 98 = .ok (.iconst 3, 1) := dk_6 (dk_at dksX2_lateness_4 6 rfl rfl)
theorem dX2_lateness_99 : decode cX2_lateness 99 = .ok (.goto 4, 3) := dk_167 0 4 (dk_at dksX2_lateness_4 7 rfl rfl)
theorem dX2_lateness_102 : decode cX2_lateness 102 = .ok (.iconst 4, 1) := dk_7 (dk_at dksX2_lateness_4 10 rfl rfl)
theorem dX2_lateness_103 : decode cX2_lateness 103 = .ok (.ireturn, 1) := dk_172 (dk_at dksX2_lateness_4 11 rfl rfl)
abbrev cX2_race : ByteArray := prog_21_method_120_code
def yX2_race : MethodName := ⟨RX2, "race", "(IZ)I"⟩
def dkwX2_race_6 : List UInt8 := [180, 0, 53, 4, 46, 184, 1, 136, 172]
abbrev dktX2_race_6 : List UInt8 := dkwX2_race_6 ++ []
def dkwX2_race_5 : List UInt8 := [180, 0, 53, 3, 46, 164, 0, 7, 4, 167, 0, 23, 3, 167, 0, 19, 3, 42, 180, 0, 53, 3, 46, 42]
abbrev dktX2_race_5 : List UInt8 := dkwX2_race_5 ++ dktX2_race_6
def dkwX2_race_4 : List UInt8 := [132, 4, 1, 167, 255, 216, 132, 3, 255, 167, 255, 203, 28, 153, 0, 26, 42, 180, 0, 53, 4, 46, 42]
abbrev dktX2_race_4 : List UInt8 := dkwX2_race_4 ++ dktX2_race_5
def dkwX2_race_3 : List UInt8 := [29, 42, 180, 0, 53, 21, 4, 46, 42, 180, 0, 53, 21, 4, 4, 29, 120, 128, 46, 184, 1, 136, 79]
abbrev dktX2_race_3 : List UInt8 := dkwX2_race_3 ++ dktX2_race_4
def dkwX2_race_2 : List UInt8 := [4, 100, 62, 29, 158, 0, 55, 3, 54, 4, 21, 4, 4, 29, 120, 162, 0, 38, 42, 180, 0, 53, 21, 4]
abbrev dktX2_race_2 : List UInt8 := dkwX2_race_2 ++ dktX2_race_3
def dkwX2_race_1 : List UInt8 := [162, 0, 23, 42, 180, 0, 53, 29, 42, 29, 182, 1, 64, 184, 1, 42, 79, 132, 3, 1, 167, 255, 232, 27]
abbrev dktX2_race_1 : List UInt8 := dkwX2_race_1 ++ dktX2_race_2
def dkwX2_race_0 : List UInt8 := [27, 4, 42, 180, 0, 7, 3, 46, 184, 0, 66, 154, 0, 5, 2, 172, 3, 62, 29, 4, 27, 120]
abbrev dktX2_race_0 : List UInt8 := dkwX2_race_0 ++ dktX2_race_1
theorem dksX2_race_0 : cX2_race.data.toList.drop 0 = dktX2_race_0 := by decide +kernel
theorem dksX2_race_1 : cX2_race.data.toList.drop 22 = dktX2_race_1 := dk_seg dksX2_race_0 22 rfl rfl
theorem dksX2_race_2 : cX2_race.data.toList.drop 46 = dktX2_race_2 := dk_seg dksX2_race_1 24 rfl rfl
theorem dksX2_race_3 : cX2_race.data.toList.drop 70 = dktX2_race_3 := dk_seg dksX2_race_2 24 rfl rfl
theorem dksX2_race_4 : cX2_race.data.toList.drop 93 = dktX2_race_4 := dk_seg dksX2_race_3 23 rfl rfl
theorem dksX2_race_5 : cX2_race.data.toList.drop 116 = dktX2_race_5 := dk_seg dksX2_race_4 23 rfl rfl
theorem dksX2_race_6 : cX2_race.data.toList.drop 140 = dktX2_race_6 := dk_seg dksX2_race_5 24 rfl rfl
theorem dX2_race_0 : decode cX2_race 0 = .ok (.iload_n 1, 1) := dk_27 (dk_at dksX2_race_0 0 rfl rfl)
theorem dX2_race_1 : decode cX2_race 1 = .ok (.iconst 1, 1) := dk_4 (dk_at dksX2_race_0 1 rfl rfl)
theorem dX2_race_2 : decode cX2_race 2 = .ok (.aload_n 0, 1) := dk_42 (dk_at dksX2_race_0 2 rfl rfl)
theorem dX2_race_3 : decode cX2_race 3 = .ok (.getfield 7, 3) := dk_180 0 7 (dk_at dksX2_race_0 3 rfl rfl)
theorem dX2_race_6 : decode cX2_race 6 = .ok (.iconst 0, 1) := dk_3 (dk_at dksX2_race_0 6 rfl rfl)
theorem dX2_race_7 : decode cX2_race 7 = .ok (.iaload, 1) := dk_46 (dk_at dksX2_race_0 7 rfl rfl)
theorem dX2_race_8 : decode cX2_race 8 = .ok (.invokestatic 66, 3) := dk_184 0 66 (dk_at dksX2_race_0 8 rfl rfl)
theorem dX2_race_11 : decode cX2_race 11 = .ok (.ifCond .ne 5, 3) := dk_154 0 5 (dk_at dksX2_race_0 11 rfl rfl)
theorem dX2_race_14 : decode cX2_race 14 = .ok (.iconst (-1), 1) := dk_2 (dk_at dksX2_race_0 14 rfl rfl)
theorem dX2_race_15 : decode cX2_race 15 = .ok (.ireturn, 1) := dk_172 (dk_at dksX2_race_0 15 rfl rfl)
theorem dX2_race_16 : decode cX2_race 16 = .ok (.iconst 0, 1) := dk_3 (dk_at dksX2_race_0 16 rfl rfl)
theorem dX2_race_17 : decode cX2_race 17 = .ok (.istore_n 3, 1) := dk_62 (dk_at dksX2_race_0 17 rfl rfl)
theorem dX2_race_18 : decode cX2_race 18 = .ok (.iload_n 3, 1) := dk_29 (dk_at dksX2_race_0 18 rfl rfl)
theorem dX2_race_19 : decode cX2_race 19 = .ok (.iconst 1, 1) := dk_4 (dk_at dksX2_race_0 19 rfl rfl)
theorem dX2_race_20 : decode cX2_race 20 = .ok (.iload_n 1, 1) := dk_27 (dk_at dksX2_race_0 20 rfl rfl)
theorem dX2_race_21 : decode cX2_race 21 = .ok (.ishl, 1) := dk_120 (dk_at dksX2_race_0 21 rfl rfl)
theorem dX2_race_22 : decode cX2_race 22 = .ok (.if_icmp .ge 23, 3) := dk_162 0 23 (dk_at dksX2_race_1 0 rfl rfl)
theorem dX2_race_25 : decode cX2_race 25 = .ok (.aload_n 0, 1) := dk_42 (dk_at dksX2_race_1 3 rfl rfl)
theorem dX2_race_26 : decode cX2_race 26 = .ok (.getfield 53, 3) := dk_180 0 53 (dk_at dksX2_race_1 4 rfl rfl)
theorem dX2_race_29 : decode cX2_race 29 = .ok (.iload_n 3, 1) := dk_29 (dk_at dksX2_race_1 7 rfl rfl)
theorem dX2_race_30 : decode cX2_race 30 = .ok (.aload_n 0, 1) := dk_42 (dk_at dksX2_race_1 8 rfl rfl)
theorem dX2_race_31 : decode cX2_race 31 = .ok (.iload_n 3, 1) := dk_29 (dk_at dksX2_race_1 9 rfl rfl)
theorem dX2_race_32 : decode cX2_race 32 = .ok (.invokevirtual 320, 3) := dk_182 1 64 (dk_at dksX2_race_1 10 rfl rfl)
theorem dX2_race_35 : decode cX2_race 35 = .ok (.invokestatic 298, 3) := dk_184 1 42 (dk_at dksX2_race_1 13 rfl rfl)
theorem dX2_race_38 : decode cX2_race 38 = .ok (.iastore, 1) := dk_79 (dk_at dksX2_race_1 16 rfl rfl)
theorem dX2_race_39 : decode cX2_race 39 = .ok (.iinc 3 1, 3) := dk_132 3 1 (dk_at dksX2_race_1 17 rfl rfl)
theorem dX2_race_42 : decode cX2_race 42 = .ok (.goto (-24), 3) := dk_167 255 232 (dk_at dksX2_race_1 20 rfl rfl)
theorem dX2_race_45 : decode cX2_race 45 = .ok (.iload_n 1, 1) := dk_27 (dk_at dksX2_race_1 23 rfl rfl)
theorem dX2_race_46 : decode cX2_race 46 = .ok (.iconst 1, 1) := dk_4 (dk_at dksX2_race_2 0 rfl rfl)
theorem dX2_race_47 : decode cX2_race 47 = .ok (.isub, 1) := dk_100 (dk_at dksX2_race_2 1 rfl rfl)
theorem dX2_race_48 : decode cX2_race 48 = .ok (.istore_n 3, 1) := dk_62 (dk_at dksX2_race_2 2 rfl rfl)
theorem dX2_race_49 : decode cX2_race 49 = .ok (.iload_n 3, 1) := dk_29 (dk_at dksX2_race_2 3 rfl rfl)
theorem dX2_race_50 : decode cX2_race 50 = .ok (.ifCond .le 55, 3) := dk_158 0 55 (dk_at dksX2_race_2 4 rfl rfl)
theorem dX2_race_53 : decode cX2_race 53 = .ok (.iconst 0, 1) := dk_3 (dk_at dksX2_race_2 7 rfl rfl)
theorem dX2_race_54 : decode cX2_race 54 = .ok (.istore 4, 2) := dk_54 4 (dk_at dksX2_race_2 8 rfl rfl)
theorem dX2_race_56 : decode cX2_race 56 = .ok (.iload 4, 2) := dk_21 4 (dk_at dksX2_race_2 10 rfl rfl)
theorem dX2_race_58 : decode cX2_race 58 = .ok (.iconst 1, 1) := dk_4 (dk_at dksX2_race_2 12 rfl rfl)
theorem dX2_race_59 : decode cX2_race 59 = .ok (.iload_n 3, 1) := dk_29 (dk_at dksX2_race_2 13 rfl rfl)
theorem dX2_race_60 : decode cX2_race 60 = .ok (.ishl, 1) := dk_120 (dk_at dksX2_race_2 14 rfl rfl)
theorem dX2_race_61 : decode cX2_race 61 = .ok (.if_icmp .ge 38, 3) := dk_162 0 38 (dk_at dksX2_race_2 15 rfl rfl)
theorem dX2_race_64 : decode cX2_race 64 = .ok (.aload_n 0, 1) := dk_42 (dk_at dksX2_race_2 18 rfl rfl)
theorem dX2_race_65 : decode cX2_race 65 = .ok (.getfield 53, 3) := dk_180 0 53 (dk_at dksX2_race_2 19 rfl rfl)
theorem dX2_race_68 : decode cX2_race 68 = .ok (.iload 4, 2) := dk_21 4 (dk_at dksX2_race_2 22 rfl rfl)
theorem dX2_race_70 : decode cX2_race 70 = .ok (.iload_n 3, 1) := dk_29 (dk_at dksX2_race_3 0 rfl rfl)
theorem dX2_race_71 : decode cX2_race 71 = .ok (.aload_n 0, 1) := dk_42 (dk_at dksX2_race_3 1 rfl rfl)
theorem dX2_race_72 : decode cX2_race 72 = .ok (.getfield 53, 3) := dk_180 0 53 (dk_at dksX2_race_3 2 rfl rfl)
theorem dX2_race_75 : decode cX2_race 75 = .ok (.iload 4, 2) := dk_21 4 (dk_at dksX2_race_3 5 rfl rfl)
theorem dX2_race_77 : decode cX2_race 77 = .ok (.iaload, 1) := dk_46 (dk_at dksX2_race_3 7 rfl rfl)
theorem dX2_race_78 : decode cX2_race 78 = .ok (.aload_n 0, 1) := dk_42 (dk_at dksX2_race_3 8 rfl rfl)
theorem dX2_race_79 : decode cX2_race 79 = .ok (.getfield 53, 3) := dk_180 0 53 (dk_at dksX2_race_3 9 rfl rfl)
theorem dX2_race_82 : decode cX2_race 82 = .ok (.iload 4, 2) := dk_21 4 (dk_at dksX2_race_3 12 rfl rfl)
theorem dX2_race_84 : decode cX2_race 84 = .ok (.iconst 1, 1) := dk_4 (dk_at dksX2_race_3 14 rfl rfl)
theorem dX2_race_85 : decode cX2_race 85 = .ok (.iload_n 3, 1) := dk_29 (dk_at dksX2_race_3 15 rfl rfl)
theorem dX2_race_86 : decode cX2_race 86 = .ok (.ishl, 1) := dk_120 (dk_at dksX2_race_3 16 rfl rfl)
theorem dX2_race_87 : decode cX2_race 87 = .ok (.ior, 1) := dk_128 (dk_at dksX2_race_3 17 rfl rfl)
theorem dX2_race_88 : decode cX2_race 88 = .ok (.iaload, 1) := dk_46 (dk_at dksX2_race_3 18 rfl rfl)
theorem dX2_race_89 : decode cX2_race 89 = .ok (.invokestatic 392, 3) := dk_184 1 136 (dk_at dksX2_race_3 19 rfl rfl)
theorem dX2_race_92 : decode cX2_race 92 = .ok (.iastore, 1) := dk_79 (dk_at dksX2_race_3 22 rfl rfl)
theorem dX2_race_93 : decode cX2_race 93 = .ok (.iinc 4 1, 3) := dk_132 4 1 (dk_at dksX2_race_4 0 rfl rfl)
theorem dX2_race_96 : decode cX2_race 96 = .ok (.goto (-40), 3) := dk_167 255 216 (dk_at dksX2_race_4 3 rfl rfl)
theorem dX2_race_99 : decode cX2_race 99 = .ok (.iinc 3 (-1), 3) := dk_132 3 255 (dk_at dksX2_race_4 6 rfl rfl)
theorem dX2_race_102 : decode cX2_race 102 = .ok (.goto (-53), 3) := dk_167 255 203 (dk_at dksX2_race_4 9 rfl rfl)
theorem dX2_race_105 : decode cX2_race 105 = .ok (.iload_n 2, 1) := dk_28 (dk_at dksX2_race_4 12 rfl rfl)
theorem dX2_race_106 : decode cX2_race 106 = .ok (.ifCond .eq 26, 3) := dk_153 0 26 (dk_at dksX2_race_4 13 rfl rfl)
theorem dX2_race_109 : decode cX2_race 109 = .ok (.aload_n 0, 1) := dk_42 (dk_at dksX2_race_4 16 rfl rfl)
theorem dX2_race_110 : decode cX2_race 110 = .ok (.getfield 53, 3) := dk_180 0 53 (dk_at dksX2_race_4 17 rfl rfl)
theorem dX2_race_113 : decode cX2_race 113 = .ok (.iconst 1, 1) := dk_4 (dk_at dksX2_race_4 20 rfl rfl)
theorem dX2_race_114 : decode cX2_race 114 = .ok (.iaload, 1) := dk_46 (dk_at dksX2_race_4 21 rfl rfl)
theorem dX2_race_115 : decode cX2_race 115 = .ok (.aload_n 0, 1) := dk_42 (dk_at dksX2_race_4 22 rfl rfl)
theorem dX2_race_116 : decode cX2_race 116 = .ok (.getfield 53, 3) := dk_180 0 53 (dk_at dksX2_race_5 0 rfl rfl)
theorem dX2_race_119 : decode cX2_race 119 = .ok (.iconst 0, 1) := dk_3 (dk_at dksX2_race_5 3 rfl rfl)
theorem dX2_race_120 : decode cX2_race 120 = .ok (.iaload, 1) := dk_46 (dk_at dksX2_race_5 4 rfl rfl)
theorem dX2_race_121 : decode cX2_race 121 = .ok (.if_icmp .le 7, 3) := dk_164 0 7 (dk_at dksX2_race_5 5 rfl rfl)
theorem dX2_race_124 : decode cX2_race 124 = .ok (.iconst 1, 1) := dk_4 (dk_at dksX2_race_5 8 rfl rfl)
theorem dX2_race_125 : decode cX2_race 125 = .ok (.goto 23, 3) := dk_167 0 23 (dk_at dksX2_race_5 9 rfl rfl)
theorem dX2_race_128 : decode cX2_race 128 = .ok (.iconst 0, 1) := dk_3 (dk_at dksX2_race_5 12 rfl rfl)
theorem dX2_race_129 : decode cX2_race 129 = .ok (.goto 19, 3) := dk_167 0 19 (dk_at dksX2_race_5 13 rfl rfl)
theorem dX2_race_132 : decode cX2_race 132 = .ok (.iconst 0, 1) := dk_3 (dk_at dksX2_race_5 16 rfl rfl)
theorem dX2_race_133 : decode cX2_race 133 = .ok (.aload_n 0, 1) := dk_42 (dk_at dksX2_race_5 17 rfl rfl)
theorem dX2_race_134 : decode cX2_race 134 = .ok (.getfield 53, 3) := dk_180 0 53 (dk_at dksX2_race_5 18 rfl rfl)
theorem dX2_race_137 : decode cX2_race 137 = .ok (.iconst 0, 1) := dk_3 (dk_at dksX2_race_5 21 rfl rfl)
theorem dX2_race_138 : decode cX2_race 138 = .ok (.iaload, 1) := dk_46 (dk_at dksX2_race_5 22 rfl rfl)
theorem dX2_race_139 : decode cX2_race 139 = .ok (.aload_n 0, 1) := dk_42 (dk_at dksX2_race_5 23 rfl rfl)
theorem dX2_race_140 : decode cX2_race 140 = .ok (.getfield 53, 3) := dk_180 0 53 (dk_at dksX2_race_6 0 rfl rfl)
theorem dX2_race_143 : decode cX2_race 143 = .ok (.iconst 1, 1) := dk_4 (dk_at dksX2_race_6 3 rfl rfl)
theorem dX2_race_144 : decode cX2_race 144 = .ok (.iaload, 1) := dk_46 (dk_at dksX2_race_6 4 rfl rfl)
theorem dX2_race_145 : decode cX2_race 145 = .ok (.invokestatic 392, 3) := dk_184 1 136 (dk_at dksX2_race_6 5 rfl rfl)
theorem dX2_race_148 : decode cX2_race 148 = .ok (.ireturn, 1) := dk_172 (dk_at dksX2_race_6 8 rfl rfl)
abbrev cX2_chosen : ByteArray := prog_21_method_121_code
def yX2_chosen : MethodName := ⟨RX2, "chosen", "(III)I"⟩
def dkwX2_chosen_1 : List UInt8 := [28, 167, 0, 4, 27, 172]
abbrev dktX2_chosen_1 : List UInt8 := dkwX2_chosen_1 ++ []
def dkwX2_chosen_0 : List UInt8 := [26, 5, 112, 154, 0, 7, 4, 167, 0, 4, 3, 28, 27, 164, 0, 7, 4, 167, 0, 4, 3, 160, 0, 7]
abbrev dktX2_chosen_0 : List UInt8 := dkwX2_chosen_0 ++ dktX2_chosen_1
theorem dksX2_chosen_0 : cX2_chosen.data.toList.drop 0 = dktX2_chosen_0 := by decide +kernel
theorem dksX2_chosen_1 : cX2_chosen.data.toList.drop 24 = dktX2_chosen_1 := dk_seg dksX2_chosen_0 24 rfl rfl
theorem dX2_chosen_0 : decode cX2_chosen 0 = .ok (.iload_n 0, 1) := dk_26 (dk_at dksX2_chosen_0 0 rfl rfl)
theorem dX2_chosen_1 : decode cX2_chosen 1 = .ok (.iconst 2, 1) := dk_5 (dk_at dksX2_chosen_0 1 rfl rfl)
theorem dX2_chosen_2 : decode cX2_chosen 2 = .ok (.irem, 1) := dk_112 (dk_at dksX2_chosen_0 2 rfl rfl)
theorem dX2_chosen_3 : decode cX2_chosen 3 = .ok (.ifCond .ne 7, 3) := dk_154 0 7 (dk_at dksX2_chosen_0 3 rfl rfl)
theorem dX2_chosen_6 : decode cX2_chosen 6 = .ok (.iconst 1, 1) := dk_4 (dk_at dksX2_chosen_0 6 rfl rfl)
theorem dX2_chosen_7 : decode cX2_chosen 7 = .ok (.goto 4, 3) := dk_167 0 4 (dk_at dksX2_chosen_0 7 rfl rfl)
theorem dX2_chosen_10 : decode cX2_chosen 10 = .ok (.iconst 0, 1) := dk_3 (dk_at dksX2_chosen_0 10 rfl rfl)
theorem dX2_chosen_11 : decode cX2_chosen 11 = .ok (.iload_n 2, 1) := dk_28 (dk_at dksX2_chosen_0 11 rfl rfl)
theorem dX2_chosen_12 : decode cX2_chosen 12 = .ok (.iload_n 1, 1) := dk_27 (dk_at dksX2_chosen_0 12 rfl rfl)
theorem dX2_chosen_13 : decode cX2_chosen 13 = .ok (.if_icmp .le 7, 3) := dk_164 0 7 (dk_at dksX2_chosen_0 13 rfl rfl)
theorem dX2_chosen_16 : decode cX2_chosen 16 = .ok (.iconst 1, 1) := dk_4 (dk_at dksX2_chosen_0 16 rfl rfl)
theorem dX2_chosen_17 : decode cX2_chosen 17 = .ok (.goto 4, 3) := dk_167 0 4 (dk_at dksX2_chosen_0 17 rfl rfl)
theorem dX2_chosen_20 : decode cX2_chosen 20 = .ok (.iconst 0, 1) := dk_3 (dk_at dksX2_chosen_0 20 rfl rfl)
theorem dX2_chosen_21 : decode cX2_chosen 21 = .ok (.if_icmp .ne 7, 3) := dk_160 0 7 (dk_at dksX2_chosen_0 21 rfl rfl)
theorem dX2_chosen_24 : decode cX2_chosen 24 = .ok (.iload_n 2, 1) := dk_28 (dk_at dksX2_chosen_1 0 rfl rfl)
theorem dX2_chosen_25 : decode cX2_chosen 25 = .ok (.goto 4, 3) := dk_167 0 4 (dk_at dksX2_chosen_1 1 rfl rfl)
theorem dX2_chosen_28 : decode cX2_chosen 28 = .ok (.iload_n 1, 1) := dk_27 (dk_at dksX2_chosen_1 4 rfl rfl)
theorem dX2_chosen_29 : decode cX2_chosen 29 = .ok (.ireturn, 1) := dk_172 (dk_at dksX2_chosen_1 5 rfl rfl)
abbrev cX2_heard : ByteArray := prog_21_method_122_code
def yX2_heard : MethodName := ⟨RX2, "heard", "(IZ)I"⟩
def dkwX2_heard_4 : List UInt8 := [46, 172]
abbrev dktX2_heard_4 : List UInt8 := dkwX2_heard_4 ++ []
def dkwX2_heard_3 : List UInt8 := [153, 0, 7, 4, 167, 0, 4, 3, 79, 42, 180, 0, 7, 7, 92, 46, 4, 96, 79, 42, 180, 0, 7, 7]
abbrev dktX2_heard_3 : List UInt8 := dkwX2_heard_3 ++ dktX2_heard_4
def dkwX2_heard_2 : List UInt8 := [7, 46, 104, 96, 27, 79, 42, 180, 0, 7, 16, 75, 5, 42, 180, 0, 7, 7, 46, 104, 96, 4, 96, 28]
abbrev dktX2_heard_2 : List UInt8 := dkwX2_heard_2 ++ dktX2_heard_3
def dkwX2_heard_1 : List UInt8 := [180, 0, 7, 7, 46, 16, 8, 160, 0, 6, 16, 254, 172, 42, 180, 0, 7, 16, 75, 5, 42, 180, 0, 7]
abbrev dktX2_heard_1 : List UInt8 := dkwX2_heard_1 ++ dktX2_heard_2
def dkwX2_heard_0 : List UInt8 := [27, 2, 160, 0, 12, 42, 180, 0, 7, 7, 3, 79, 3, 172, 42, 27, 182, 1, 79, 153, 0, 14, 42]
abbrev dktX2_heard_0 : List UInt8 := dkwX2_heard_0 ++ dktX2_heard_1
theorem dksX2_heard_0 : cX2_heard.data.toList.drop 0 = dktX2_heard_0 := by decide +kernel
theorem dksX2_heard_1 : cX2_heard.data.toList.drop 23 = dktX2_heard_1 := dk_seg dksX2_heard_0 23 rfl rfl
theorem dksX2_heard_2 : cX2_heard.data.toList.drop 47 = dktX2_heard_2 := dk_seg dksX2_heard_1 24 rfl rfl
theorem dksX2_heard_3 : cX2_heard.data.toList.drop 71 = dktX2_heard_3 := dk_seg dksX2_heard_2 24 rfl rfl
theorem dksX2_heard_4 : cX2_heard.data.toList.drop 95 = dktX2_heard_4 := dk_seg dksX2_heard_3 24 rfl rfl
theorem dX2_heard_0 : decode cX2_heard 0 = .ok (.iload_n 1, 1) := dk_27 (dk_at dksX2_heard_0 0 rfl rfl)
theorem dX2_heard_1 : decode cX2_heard 1 = .ok (.iconst (-1), 1) := dk_2 (dk_at dksX2_heard_0 1 rfl rfl)
theorem dX2_heard_2 : decode cX2_heard 2 = .ok (.if_icmp .ne 12, 3) := dk_160 0 12 (dk_at dksX2_heard_0 2 rfl rfl)
theorem dX2_heard_5 : decode cX2_heard 5 = .ok (.aload_n 0, 1) := dk_42 (dk_at dksX2_heard_0 5 rfl rfl)
theorem dX2_heard_6 : decode cX2_heard 6 = .ok (.getfield 7, 3) := dk_180 0 7 (dk_at dksX2_heard_0 6 rfl rfl)
theorem dX2_heard_9 : decode cX2_heard 9 = .ok (.iconst 4, 1) := dk_7 (dk_at dksX2_heard_0 9 rfl rfl)
theorem dX2_heard_10 : decode cX2_heard 10 = .ok (.iconst 0, 1) := dk_3 (dk_at dksX2_heard_0 10 rfl rfl)
theorem dX2_heard_11 : decode cX2_heard 11 = .ok (.iastore, 1) := dk_79 (dk_at dksX2_heard_0 11 rfl rfl)
theorem dX2_heard_12 : decode cX2_heard 12 = .ok (.iconst 0, 1) := dk_3 (dk_at dksX2_heard_0 12 rfl rfl)
theorem dX2_heard_13 : decode cX2_heard 13 = .ok (.ireturn, 1) := dk_172 (dk_at dksX2_heard_0 13 rfl rfl)
theorem dX2_heard_14 : decode cX2_heard 14 = .ok (.aload_n 0, 1) := dk_42 (dk_at dksX2_heard_0 14 rfl rfl)
theorem dX2_heard_15 : decode cX2_heard 15 = .ok (.iload_n 1, 1) := dk_27 (dk_at dksX2_heard_0 15 rfl rfl)
theorem dX2_heard_16 : decode cX2_heard 16 = .ok (.invokevirtual 335, 3) := dk_182 1 79 (dk_at dksX2_heard_0 16 rfl rfl)
theorem dX2_heard_19 : decode cX2_heard 19 = .ok (.ifCond .eq 14, 3) := dk_153 0 14 (dk_at dksX2_heard_0 19 rfl rfl)
theorem dX2_heard_22 : decode cX2_heard 22 = .ok (.aload_n 0, 1) := dk_42 (dk_at dksX2_heard_0 22 rfl rfl)
theorem dX2_heard_23 : decode cX2_heard 23 = .ok (.getfield 7, 3) := dk_180 0 7 (dk_at dksX2_heard_1 0 rfl rfl)
theorem dX2_heard_26 : decode cX2_heard 26 = .ok (.iconst 4, 1) := dk_7 (dk_at dksX2_heard_1 3 rfl rfl)
theorem dX2_heard_27 : decode cX2_heard 27 = .ok (.iaload, 1) := dk_46 (dk_at dksX2_heard_1 4 rfl rfl)
theorem dX2_heard_28 : decode cX2_heard 28 = .ok (.bipush 8, 2) := dk_16 8 (dk_at dksX2_heard_1 5 rfl rfl)
theorem dX2_heard_30 : decode cX2_heard 30 = .ok (.if_icmp .ne 6, 3) := dk_160 0 6 (dk_at dksX2_heard_1 7 rfl rfl)
theorem dX2_heard_33 : decode cX2_heard 33 = .ok (.bipush (-2), 2) := dk_16 254 (dk_at dksX2_heard_1 10 rfl rfl)
theorem dX2_heard_35 : decode cX2_heard 35 = .ok (.ireturn, 1) := dk_172 (dk_at dksX2_heard_1 12 rfl rfl)
theorem dX2_heard_36 : decode cX2_heard 36 = .ok (.aload_n 0, 1) := dk_42 (dk_at dksX2_heard_1 13 rfl rfl)
theorem dX2_heard_37 : decode cX2_heard 37 = .ok (.getfield 7, 3) := dk_180 0 7 (dk_at dksX2_heard_1 14 rfl rfl)
theorem dX2_heard_40 : decode cX2_heard 40 = .ok (.bipush 75, 2) := dk_16 75 (dk_at dksX2_heard_1 17 rfl rfl)
theorem dX2_heard_42 : decode cX2_heard 42 = .ok (.iconst 2, 1) := dk_5 (dk_at dksX2_heard_1 19 rfl rfl)
theorem dX2_heard_43 : decode cX2_heard 43 = .ok (.aload_n 0, 1) := dk_42 (dk_at dksX2_heard_1 20 rfl rfl)
theorem dX2_heard_44 : decode cX2_heard 44 = .ok (.getfield 7, 3) := dk_180 0 7 (dk_at dksX2_heard_1 21 rfl rfl)
theorem dX2_heard_47 : decode cX2_heard 47 = .ok (.iconst 4, 1) := dk_7 (dk_at dksX2_heard_2 0 rfl rfl)
theorem dX2_heard_48 : decode cX2_heard 48 = .ok (.iaload, 1) := dk_46 (dk_at dksX2_heard_2 1 rfl rfl)
theorem dX2_heard_49 : decode cX2_heard 49 = .ok (.imul, 1) := dk_104 (dk_at dksX2_heard_2 2 rfl rfl)
theorem dX2_heard_50 : decode cX2_heard 50 = .ok (.iadd, 1) := dk_96 (dk_at dksX2_heard_2 3 rfl rfl)
theorem dX2_heard_51 : decode cX2_heard 51 = .ok (.iload_n 1, 1) := dk_27 (dk_at dksX2_heard_2 4 rfl rfl)
theorem dX2_heard_52 : decode cX2_heard 52 = .ok (.iastore, 1) := dk_79 (dk_at dksX2_heard_2 5 rfl rfl)
theorem dX2_heard_53 : decode cX2_heard 53 = .ok (.aload_n 0, 1) := dk_42 (dk_at dksX2_heard_2 6 rfl rfl)
theorem dX2_heard_54 : decode cX2_heard 54 = .ok (.getfield 7, 3) := dk_180 0 7 (dk_at dksX2_heard_2 7 rfl rfl)
theorem dX2_heard_57 : decode cX2_heard 57 = .ok (.bipush 75, 2) := dk_16 75 (dk_at dksX2_heard_2 10 rfl rfl)
theorem dX2_heard_59 : decode cX2_heard 59 = .ok (.iconst 2, 1) := dk_5 (dk_at dksX2_heard_2 12 rfl rfl)
theorem dX2_heard_60 : decode cX2_heard 60 = .ok (.aload_n 0, 1) := dk_42 (dk_at dksX2_heard_2 13 rfl rfl)
theorem dX2_heard_61 : decode cX2_heard 61 = .ok (.getfield 7, 3) := dk_180 0 7 (dk_at dksX2_heard_2 14 rfl rfl)
theorem dX2_heard_64 : decode cX2_heard 64 = .ok (.iconst 4, 1) := dk_7 (dk_at dksX2_heard_2 17 rfl rfl)
theorem dX2_heard_65 : decode cX2_heard 65 = .ok (.iaload, 1) := dk_46 (dk_at dksX2_heard_2 18 rfl rfl)
theorem dX2_heard_66 : decode cX2_heard 66 = .ok (.imul, 1) := dk_104 (dk_at dksX2_heard_2 19 rfl rfl)
theorem dX2_heard_67 : decode cX2_heard 67 = .ok (.iadd, 1) := dk_96 (dk_at dksX2_heard_2 20 rfl rfl)
theorem dX2_heard_68 : decode cX2_heard 68 = .ok (.iconst 1, 1) := dk_4 (dk_at dksX2_heard_2 21 rfl rfl)
theorem dX2_heard_69 : decode cX2_heard 69 = .ok (.iadd, 1) := dk_96 (dk_at dksX2_heard_2 22 rfl rfl)
theorem dX2_heard_70 : decode cX2_heard 70 = .ok (.iload_n 2, 1) := dk_28 (dk_at dksX2_heard_2 23 rfl rfl)
theorem dX2_heard_71 : decode cX2_heard 71 = .ok (.ifCond .eq 7, 3) := dk_153 0 7 (dk_at dksX2_heard_3 0 rfl rfl)
theorem dX2_heard_74 : decode cX2_heard 74 = .ok (.iconst 1, 1) := dk_4 (dk_at dksX2_heard_3 3 rfl rfl)
theorem dX2_heard_75 : decode cX2_heard 75 = .ok (.goto 4, 3) := dk_167 0 4 (dk_at dksX2_heard_3 4 rfl rfl)
theorem dX2_heard_78 : decode cX2_heard 78 = .ok (.iconst 0, 1) := dk_3 (dk_at dksX2_heard_3 7 rfl rfl)
theorem dX2_heard_79 : decode cX2_heard 79 = .ok (.iastore, 1) := dk_79 (dk_at dksX2_heard_3 8 rfl rfl)
theorem dX2_heard_80 : decode cX2_heard 80 = .ok (.aload_n 0, 1) := dk_42 (dk_at dksX2_heard_3 9 rfl rfl)
theorem dX2_heard_81 : decode cX2_heard 81 = .ok (.getfield 7, 3) := dk_180 0 7 (dk_at dksX2_heard_3 10 rfl rfl)
theorem dX2_heard_84 : decode cX2_heard 84 = .ok (.iconst 4, 1) := dk_7 (dk_at dksX2_heard_3 13 rfl rfl)
theorem dX2_heard_85 : decode cX2_heard 85 = .ok (.dup2, 1) := dk_92 (dk_at dksX2_heard_3 14 rfl rfl)
theorem dX2_heard_86 : decode cX2_heard 86 = .ok (.iaload, 1) := dk_46 (dk_at dksX2_heard_3 15 rfl rfl)
theorem dX2_heard_87 : decode cX2_heard 87 = .ok (.iconst 1, 1) := dk_4 (dk_at dksX2_heard_3 16 rfl rfl)
theorem dX2_heard_88 : decode cX2_heard 88 = .ok (.iadd, 1) := dk_96 (dk_at dksX2_heard_3 17 rfl rfl)
theorem dX2_heard_89 : decode cX2_heard 89 = .ok (.iastore, 1) := dk_79 (dk_at dksX2_heard_3 18 rfl rfl)
theorem dX2_heard_90 : decode cX2_heard 90 = .ok (.aload_n 0, 1) := dk_42 (dk_at dksX2_heard_3 19 rfl rfl)
theorem dX2_heard_91 : decode cX2_heard 91 = .ok (.getfield 7, 3) := dk_180 0 7 (dk_at dksX2_heard_3 20 rfl rfl)
theorem dX2_heard_94 : decode cX2_heard 94 = .ok (.iconst 4, 1) := dk_7 (dk_at dksX2_heard_3 23 rfl rfl)
theorem dX2_heard_95 : decode cX2_heard 95 = .ok (.iaload, 1) := dk_46 (dk_at dksX2_heard_4 0 rfl rfl)
theorem dX2_heard_96 : decode cX2_heard 96 = .ok (.ireturn, 1) := dk_172 (dk_at dksX2_heard_4 1 rfl rfl)
abbrev cX2_believes : ByteArray := prog_21_method_125_code
def yX2_believes : MethodName := ⟨RX2, "believes", "(IZ)I"⟩
def dkwX2_believes_2 : List UInt8 := [132, 5, 1, 167, 255, 231, 28, 153, 0, 7, 29, 167, 0, 5, 21, 4, 21, 4, 29, 184, 1, 142, 108, 172]
abbrev dktX2_believes_2 : List UInt8 := dkwX2_believes_2 ++ []
def dkwX2_believes_1 : List UInt8 := [54, 5, 21, 5, 29, 162, 0, 25, 21, 4, 42, 180, 0, 56, 21, 5, 46, 27, 122, 4, 126, 96, 54, 4]
abbrev dktX2_believes_1 : List UInt8 := dkwX2_believes_1 ++ dktX2_believes_2
def dkwX2_believes_0 : List UInt8 := [42, 182, 1, 139, 62, 42, 27, 182, 1, 79, 153, 0, 7, 29, 154, 0, 5, 2, 172, 3, 54, 4, 3]
abbrev dktX2_believes_0 : List UInt8 := dkwX2_believes_0 ++ dktX2_believes_1
theorem dksX2_believes_0 : cX2_believes.data.toList.drop 0 = dktX2_believes_0 := by decide +kernel
theorem dksX2_believes_1 : cX2_believes.data.toList.drop 23 = dktX2_believes_1 := dk_seg dksX2_believes_0 23 rfl rfl
theorem dksX2_believes_2 : cX2_believes.data.toList.drop 47 = dktX2_believes_2 := dk_seg dksX2_believes_1 24 rfl rfl
theorem dX2_believes_0 : decode cX2_believes 0 = .ok (.aload_n 0, 1) := dk_42 (dk_at dksX2_believes_0 0 rfl rfl)
theorem dX2_believes_1 : decode cX2_believes 1 = .ok (.invokevirtual 395, 3) := dk_182 1 139 (dk_at dksX2_believes_0 1 rfl rfl)
theorem dX2_believes_4 : decode cX2_believes 4 = .ok (.istore_n 3, 1) := dk_62 (dk_at dksX2_believes_0 4 rfl rfl)
theorem dX2_believes_5 : decode cX2_believes 5 = .ok (.aload_n 0, 1) := dk_42 (dk_at dksX2_believes_0 5 rfl rfl)
theorem dX2_believes_6 : decode cX2_believes 6 = .ok (.iload_n 1, 1) := dk_27 (dk_at dksX2_believes_0 6 rfl rfl)
theorem dX2_believes_7 : decode cX2_believes 7 = .ok (.invokevirtual 335, 3) := dk_182 1 79 (dk_at dksX2_believes_0 7 rfl rfl)
theorem dX2_believes_10 : decode cX2_believes 10 = .ok (.ifCond .eq 7, 3) := dk_153 0 7 (dk_at dksX2_believes_0 10 rfl rfl)
theorem dX2_believes_13 : decode cX2_believes 13 = .ok (.iload_n 3, 1) := dk_29 (dk_at dksX2_believes_0 13 rfl rfl)
theorem dX2_believes_14 : decode cX2_believes 14 = .ok (.ifCond .ne 5, 3) := dk_154 0 5 (dk_at dksX2_believes_0 14 rfl rfl)
theorem dX2_believes_17 : decode cX2_believes 17 = .ok (.iconst (-1), 1) := dk_2 (dk_at dksX2_believes_0 17 rfl rfl)
theorem dX2_believes_18 : decode cX2_believes 18 = .ok (.ireturn, 1) := dk_172 (dk_at dksX2_believes_0 18 rfl rfl)
theorem dX2_believes_19 : decode cX2_believes 19 = .ok (.iconst 0, 1) := dk_3 (dk_at dksX2_believes_0 19 rfl rfl)
theorem dX2_believes_20 : decode cX2_believes 20 = .ok (.istore 4, 2) := dk_54 4 (dk_at dksX2_believes_0 20 rfl rfl)
theorem dX2_believes_22 : decode cX2_believes 22 = .ok (.iconst 0, 1) := dk_3 (dk_at dksX2_believes_0 22 rfl rfl)
theorem dX2_believes_23 : decode cX2_believes 23 = .ok (.istore 5, 2) := dk_54 5 (dk_at dksX2_believes_1 0 rfl rfl)
theorem dX2_believes_25 : decode cX2_believes 25 = .ok (.iload 5, 2) := dk_21 5 (dk_at dksX2_believes_1 2 rfl rfl)
theorem dX2_believes_27 : decode cX2_believes 27 = .ok (.iload_n 3, 1) := dk_29 (dk_at dksX2_believes_1 4 rfl rfl)
theorem dX2_believes_28 : decode cX2_believes 28 = .ok (.if_icmp .ge 25, 3) := dk_162 0 25 (dk_at dksX2_believes_1 5 rfl rfl)
theorem dX2_believes_31 : decode cX2_believes 31 = .ok (.iload 4, 2) := dk_21 4 (dk_at dksX2_believes_1 8 rfl rfl)
theorem dX2_believes_33 : decode cX2_believes 33 = .ok (.aload_n 0, 1) := dk_42 (dk_at dksX2_believes_1 10 rfl rfl)
theorem dX2_believes_34 : decode cX2_believes 34 = .ok (.getfield 56, 3) := dk_180 0 56 (dk_at dksX2_believes_1 11 rfl rfl)
theorem dX2_believes_37 : decode cX2_believes 37 = .ok (.iload 5, 2) := dk_21 5 (dk_at dksX2_believes_1 14 rfl rfl)
theorem dX2_believes_39 : decode cX2_believes 39 = .ok (.iaload, 1) := dk_46 (dk_at dksX2_believes_1 16 rfl rfl)
theorem dX2_believes_40 : decode cX2_believes 40 = .ok (.iload_n 1, 1) := dk_27 (dk_at dksX2_believes_1 17 rfl rfl)
theorem dX2_believes_41 : decode cX2_believes 41 = .ok (.ishr, 1) := dk_122 (dk_at dksX2_believes_1 18 rfl rfl)
theorem dX2_believes_42 : decode cX2_believes 42 = .ok (.iconst 1, 1) := dk_4 (dk_at dksX2_believes_1 19 rfl rfl)
theorem dX2_believes_43 : decode cX2_believes 43 = .ok (.iand, 1) := dk_126 (dk_at dksX2_believes_1 20 rfl rfl)
theorem dX2_believes_44 : decode cX2_believes 44 = .ok (.iadd, 1) := dk_96 (dk_at dksX2_believes_1 21 rfl rfl)
theorem dX2_believes_45 : decode cX2_believes 45 = .ok (.istore 4, 2) := dk_54 4 (dk_at dksX2_believes_1 22 rfl rfl)
theorem dX2_believes_47 : decode cX2_believes 47 = .ok (.iinc 5 1, 3) := dk_132 5 1 (dk_at dksX2_believes_2 0 rfl rfl)
theorem dX2_believes_50 : decode cX2_believes 50 = .ok (.goto (-25), 3) := dk_167 255 231 (dk_at dksX2_believes_2 3 rfl rfl)
theorem dX2_believes_53 : decode cX2_believes 53 = .ok (.iload_n 2, 1) := dk_28 (dk_at dksX2_believes_2 6 rfl rfl)
theorem dX2_believes_54 : decode cX2_believes 54 = .ok (.ifCond .eq 7, 3) := dk_153 0 7 (dk_at dksX2_believes_2 7 rfl rfl)
theorem dX2_believes_57 : decode cX2_believes 57 = .ok (.iload_n 3, 1) := dk_29 (dk_at dksX2_believes_2 10 rfl rfl)
theorem dX2_believes_58 : decode cX2_believes 58 = .ok (.goto 5, 3) := dk_167 0 5 (dk_at dksX2_believes_2 11 rfl rfl)
theorem dX2_believes_61 : decode cX2_believes 61 = .ok (.iload 4, 2) := dk_21 4 (dk_at dksX2_believes_2 14 rfl rfl)
theorem dX2_believes_63 : decode cX2_believes 63 = .ok (.iload 4, 2) := dk_21 4 (dk_at dksX2_believes_2 16 rfl rfl)
theorem dX2_believes_65 : decode cX2_believes 65 = .ok (.iload_n 3, 1) := dk_29 (dk_at dksX2_believes_2 18 rfl rfl)
theorem dX2_believes_66 : decode cX2_believes 66 = .ok (.invokestatic 398, 3) := dk_184 1 142 (dk_at dksX2_believes_2 19 rfl rfl)
theorem dX2_believes_69 : decode cX2_believes 69 = .ok (.idiv, 1) := dk_108 (dk_at dksX2_believes_2 22 rfl rfl)
theorem dX2_believes_70 : decode cX2_believes 70 = .ok (.ireturn, 1) := dk_172 (dk_at dksX2_believes_2 23 rfl rfl)
abbrev cX2_layDays : ByteArray := prog_21_method_123_code
def yX2_layDays : MethodName := ⟨RX2, "layDays", "()I"⟩
def dkwX2_layDays_4 : List UInt8 := [154, 0, 6, 167, 0, 13, 42, 180, 0, 56, 27, 28, 79, 132, 1, 1, 132, 2, 1, 167, 255, 151, 27, 172]
abbrev dktX2_layDays_4 : List UInt8 := dkwX2_layDays_4 ++ []
def dkwX2_layDays_3 : List UInt8 := [21, 4, 104, 96, 4, 96, 46, 160, 0, 7, 4, 167, 0, 4, 3, 126, 62, 132, 4, 1, 167, 255, 201, 29]
abbrev dktX2_layDays_3 : List UInt8 := dkwX2_layDays_3 ++ dktX2_layDays_4
def dkwX2_layDays_2 : List UInt8 := [28, 42, 180, 0, 7, 16, 75, 5, 21, 4, 104, 96, 46, 122, 4, 126, 42, 180, 0, 7, 16, 75, 5]
abbrev dktX2_layDays_2 : List UInt8 := dkwX2_layDays_2 ++ dktX2_layDays_3
def dkwX2_layDays_1 : List UInt8 := [160, 0, 7, 4, 167, 0, 4, 3, 62, 3, 54, 4, 21, 4, 42, 180, 0, 7, 7, 46, 162, 0, 50, 29]
abbrev dktX2_layDays_1 : List UInt8 := dkwX2_layDays_1 ++ dktX2_layDays_2
def dkwX2_layDays_0 : List UInt8 := [42, 182, 1, 121, 3, 60, 3, 61, 28, 42, 182, 0, 70, 163, 0, 103, 42, 180, 0, 50, 28, 46, 28]
abbrev dktX2_layDays_0 : List UInt8 := dkwX2_layDays_0 ++ dktX2_layDays_1
theorem dksX2_layDays_0 : cX2_layDays.data.toList.drop 0 = dktX2_layDays_0 := by decide +kernel
theorem dksX2_layDays_1 : cX2_layDays.data.toList.drop 23 = dktX2_layDays_1 := dk_seg dksX2_layDays_0 23 rfl rfl
theorem dksX2_layDays_2 : cX2_layDays.data.toList.drop 47 = dktX2_layDays_2 := dk_seg dksX2_layDays_1 24 rfl rfl
theorem dksX2_layDays_3 : cX2_layDays.data.toList.drop 70 = dktX2_layDays_3 := dk_seg dksX2_layDays_2 23 rfl rfl
theorem dksX2_layDays_4 : cX2_layDays.data.toList.drop 94 = dktX2_layDays_4 := dk_seg dksX2_layDays_3 24 rfl rfl
theorem dX2_layDays_0 : decode cX2_layDays 0 = .ok (.aload_n 0, 1) := dk_42 (dk_at dksX2_layDays_0 0 rfl rfl)
theorem dX2_layDays_1 : decode cX2_layDays 1 = .ok (.invokevirtual 377, 3) := dk_182 1 121 (dk_at dksX2_layDays_0 1 rfl rfl)
theorem dX2_layDays_4 : decode cX2_layDays 4 = .ok (.iconst 0, 1) := dk_3 (dk_at dksX2_layDays_0 4 rfl rfl)
theorem dX2_layDays_5 : decode cX2_layDays 5 = .ok (.istore_n 1, 1) := dk_60 (dk_at dksX2_layDays_0 5 rfl rfl)
theorem dX2_layDays_6 : decode cX2_layDays 6 = .ok (.iconst 0, 1) := dk_3 (dk_at dksX2_layDays_0 6 rfl rfl)
theorem dX2_layDays_7 : decode cX2_layDays 7 = .ok (.istore_n 2, 1) := dk_61 (dk_at dksX2_layDays_0 7 rfl rfl)
theorem dX2_layDays_8 : decode cX2_layDays 8 = .ok (.iload_n 2, 1) := dk_28 (dk_at dksX2_layDays_0 8 rfl rfl)
theorem dX2_layDays_9 : decode cX2_layDays 9 = .ok (.aload_n 0, 1) := dk_42 (dk_at dksX2_layDays_0 9 rfl rfl)
theorem dX2_layDays_10 : decode cX2_layDays 10 = .ok (.invokevirtual 70, 3) := dk_182 0 70 (dk_at dksX2_layDays_0 10 rfl rfl)
theorem dX2_layDays_13 : decode cX2_layDays 13 = .ok (.if_icmp .gt 103, 3) := dk_163 0 103 (dk_at dksX2_layDays_0 13 rfl rfl)
theorem dX2_layDays_16 : decode cX2_layDays 16 = .ok (.aload_n 0, 1) := dk_42 (dk_at dksX2_layDays_0 16 rfl rfl)
theorem dX2_layDays_17 : decode cX2_layDays 17 = .ok (.getfield 50, 3) := dk_180 0 50 (dk_at dksX2_layDays_0 17 rfl rfl)
theorem dX2_layDays_20 : decode cX2_layDays 20 = .ok (.iload_n 2, 1) := dk_28 (dk_at dksX2_layDays_0 20 rfl rfl)
theorem dX2_layDays_21 : decode cX2_layDays 21 = .ok (.iaload, 1) := dk_46 (dk_at dksX2_layDays_0 21 rfl rfl)
theorem dX2_layDays_22 : decode cX2_layDays 22 = .ok (.iload_n 2, 1) := dk_28 (dk_at dksX2_layDays_0 22 rfl rfl)
theorem dX2_layDays_23 : decode cX2_layDays 23 = .ok (.if_icmp .ne 7, 3) := dk_160 0 7 (dk_at dksX2_layDays_1 0 rfl rfl)
theorem dX2_layDays_26 : decode cX2_layDays 26 = .ok (.iconst 1, 1) := dk_4 (dk_at dksX2_layDays_1 3 rfl rfl)
theorem dX2_layDays_27 : decode cX2_layDays 27 = .ok (.goto 4, 3) := dk_167 0 4 (dk_at dksX2_layDays_1 4 rfl rfl)
theorem dX2_layDays_30 : decode cX2_layDays 30 = .ok (.iconst 0, 1) := dk_3 (dk_at dksX2_layDays_1 7 rfl rfl)
theorem dX2_layDays_31 : decode cX2_layDays 31 = .ok (.istore_n 3, 1) := dk_62 (dk_at dksX2_layDays_1 8 rfl rfl)
theorem dX2_layDays_32 : decode cX2_layDays 32 = .ok (.iconst 0, 1) := dk_3 (dk_at dksX2_layDays_1 9 rfl rfl)
theorem dX2_layDays_33 : decode cX2_layDays 33 = .ok (.istore 4, 2) := dk_54 4 (dk_at dksX2_layDays_1 10 rfl rfl)
theorem dX2_layDays_35 : decode cX2_layDays 35 = .ok (.iload 4, 2) := dk_21 4 (dk_at dksX2_layDays_1 12 rfl rfl)
theorem dX2_layDays_37 : decode cX2_layDays 37 = .ok (.aload_n 0, 1) := dk_42 (dk_at dksX2_layDays_1 14 rfl rfl)
theorem dX2_layDays_38 : decode cX2_layDays 38 = .ok (.getfield 7, 3) := dk_180 0 7 (dk_at dksX2_layDays_1 15 rfl rfl)
theorem dX2_layDays_41 : decode cX2_layDays 41 = .ok (.iconst 4, 1) := dk_7 (dk_at dksX2_layDays_1 18 rfl rfl)
theorem dX2_layDays_42 : decode cX2_layDays 42 = .ok (.iaload, 1) := dk_46 (dk_at dksX2_layDays_1 19 rfl rfl)
theorem dX2_layDays_43 : decode cX2_layDays 43 = .ok (.if_icmp .ge 50, 3) := dk_162 0 50 (dk_at dksX2_layDays_1 20 rfl rfl)
theorem dX2_layDays_46 : decode cX2_layDays 46 = .ok (.iload_n 3, 1) := dk_29 (dk_at dksX2_layDays_1 23 rfl rfl)
theorem dX2_layDays_47 : decode cX2_layDays 47 = .ok (.iload_n 2, 1) := dk_28 (dk_at dksX2_layDays_2 0 rfl rfl)
theorem dX2_layDays_48 : decode cX2_layDays 48 = .ok (.aload_n 0, 1) := dk_42 (dk_at dksX2_layDays_2 1 rfl rfl)
theorem dX2_layDays_49 : decode cX2_layDays 49 = .ok (.getfield 7, 3) := dk_180 0 7 (dk_at dksX2_layDays_2 2 rfl rfl)
theorem dX2_layDays_52 : decode cX2_layDays 52 = .ok (.bipush 75, 2) := dk_16 75 (dk_at dksX2_layDays_2 5 rfl rfl)
theorem dX2_layDays_54 : decode cX2_layDays 54 = .ok (.iconst 2, 1) := dk_5 (dk_at dksX2_layDays_2 7 rfl rfl)
theorem dX2_layDays_55 : decode cX2_layDays 55 = .ok (.iload 4, 2) := dk_21 4 (dk_at dksX2_layDays_2 8 rfl rfl)
theorem dX2_layDays_57 : decode cX2_layDays 57 = .ok (.imul, 1) := dk_104 (dk_at dksX2_layDays_2 10 rfl rfl)
theorem dX2_layDays_58 : decode cX2_layDays 58 = .ok (.iadd, 1) := dk_96 (dk_at dksX2_layDays_2 11 rfl rfl)
theorem dX2_layDays_59 : decode cX2_layDays 59 = .ok (.iaload, 1) := dk_46 (dk_at dksX2_layDays_2 12 rfl rfl)
theorem dX2_layDays_60 : decode cX2_layDays 60 = .ok (.ishr, 1) := dk_122 (dk_at dksX2_layDays_2 13 rfl rfl)
theorem dX2_layDays_61 : decode cX2_layDays 61 = .ok (.iconst 1, 1) := dk_4 (dk_at dksX2_layDays_2 14 rfl rfl)
theorem dX2_layDays_62 : decode cX2_layDays 62 = .ok (.iand, 1) := dk_126 (dk_at dksX2_layDays_2 15 rfl rfl)
theorem dX2_layDays_63 : decode cX2_layDays 63 = .ok (.aload_n 0, 1) := dk_42 (dk_at dksX2_layDays_2 16 rfl rfl)
theorem dX2_layDays_64 : decode cX2_layDays 64 = .ok (.getfield 7, 3) := dk_180 0 7 (dk_at dksX2_layDays_2 17 rfl rfl)
theorem dX2_layDays_67 : decode cX2_layDays 67 = .ok (.bipush 75, 2) := dk_16 75 (dk_at dksX2_layDays_2 20 rfl rfl)
theorem dX2_layDays_69 : decode cX2_layDays 69 = .ok (.iconst 2, 1) := dk_5 (dk_at dksX2_layDays_2 22 rfl rfl)
theorem dX2_layDays_70 : decode cX2_layDays 70 = .ok (.iload 4, 2) := dk_21 4 (dk_at dksX2_layDays_3 0 rfl rfl)
theorem dX2_layDays_72 : decode cX2_layDays 72 = .ok (.imul, 1) := dk_104 (dk_at dksX2_layDays_3 2 rfl rfl)
theorem dX2_layDays_73 : decode cX2_layDays 73 = .ok (.iadd, 1) := dk_96 (dk_at dksX2_layDays_3 3 rfl rfl)
theorem dX2_layDays_74 : decode cX2_layDays 74 = .ok (.iconst 1, 1) := dk_4 (dk_at dksX2_layDays_3 4 rfl rfl)
theorem dX2_layDays_75 : decode cX2_layDays 75 = .ok (.iadd, 1) := dk_96 (dk_at dksX2_layDays_3 5 rfl rfl)
theorem dX2_layDays_76 : decode cX2_layDays 76 = .ok (.iaload, 1) := dk_46 (dk_at dksX2_layDays_3 6 rfl rfl)
theorem dX2_layDays_77 : decode cX2_layDays 77 = .ok (.if_icmp .ne 7, 3) := dk_160 0 7 (dk_at dksX2_layDays_3 7 rfl rfl)
theorem dX2_layDays_80 : decode cX2_layDays 80 = .ok (.iconst 1, 1) := dk_4 (dk_at dksX2_layDays_3 10 rfl rfl)
theorem dX2_layDays_81 : decode cX2_layDays 81 = .ok (.goto 4, 3) := dk_167 0 4 (dk_at dksX2_layDays_3 11 rfl rfl)
theorem dX2_layDays_84 : decode cX2_layDays 84 = .ok (.iconst 0, 1) := dk_3 (dk_at dksX2_layDays_3 14 rfl rfl)
theorem dX2_layDays_85 : decode cX2_layDays 85 = .ok (.iand, 1) := dk_126 (dk_at dksX2_layDays_3 15 rfl rfl)
theorem dX2_layDays_86 : decode cX2_layDays 86 = .ok (.istore_n 3, 1) := dk_62 (dk_at dksX2_layDays_3 16 rfl rfl)
theorem dX2_layDays_87 : decode cX2_layDays 87 = .ok (.iinc 4 1, 3) := dk_132 4 1 (dk_at dksX2_layDays_3 17 rfl rfl)
theorem dX2_layDays_90 : decode cX2_layDays 90 = .ok (.goto (-55), 3) := dk_167 255 201 (dk_at dksX2_layDays_3 20 rfl rfl)
theorem dX2_layDays_93 : decode cX2_layDays 93 = .ok (.iload_n 3, 1) := dk_29 (dk_at dksX2_layDays_3 23 rfl rfl)
theorem dX2_layDays_94 : decode cX2_layDays 94 = .ok (.ifCond .ne 6, 3) := dk_154 0 6 (dk_at dksX2_layDays_4 0 rfl rfl)
theorem dX2_layDays_97 : decode cX2_layDays 97 = .ok (.goto 13, 3) := dk_167 0 13 (dk_at dksX2_layDays_4 3 rfl rfl)
theorem dX2_layDays_100 : decode cX2_layDays 100 = .ok (.aload_n 0, 1) := dk_42 (dk_at dksX2_layDays_4 6 rfl rfl)
theorem dX2_layDays_101 : decode cX2_layDays 101 = .ok (.getfield 56, 3) := dk_180 0 56 (dk_at dksX2_layDays_4 7 rfl rfl)
theorem dX2_layDays_104 : decode cX2_layDays 104 = .ok (.iload_n 1, 1) := dk_27 (dk_at dksX2_layDays_4 10 rfl rfl)
theorem dX2_layDays_105 : decode cX2_layDays 105 = .ok (.iload_n 2, 1) := dk_28 (dk_at dksX2_layDays_4 11 rfl rfl)
theorem dX2_layDays_106 : decode cX2_layDays 106 = .ok (.iastore, 1) := dk_79 (dk_at dksX2_layDays_4 12 rfl rfl)
theorem dX2_layDays_107 : decode cX2_layDays 107 = .ok (.iinc 1 1, 3) := dk_132 1 1 (dk_at dksX2_layDays_4 13 rfl rfl)
theorem dX2_layDays_110 : decode cX2_layDays 110 = .ok (.iinc 2 1, 3) := dk_132 2 1 (dk_at dksX2_layDays_4 16 rfl rfl)
theorem dX2_layDays_113 : decode cX2_layDays 113 = .ok (.goto (-105), 3) := dk_167 255 151 (dk_at dksX2_layDays_4 19 rfl rfl)
theorem dX2_layDays_116 : decode cX2_layDays 116 = .ok (.iload_n 1, 1) := dk_27 (dk_at dksX2_layDays_4 22 rfl rfl)
theorem dX2_layDays_117 : decode cX2_layDays 117 = .ok (.ireturn, 1) := dk_172 (dk_at dksX2_layDays_4 23 rfl rfl)
abbrev cX2_divisor : ByteArray := prog_21_method_124_code
def yX2_divisor : MethodName := ⟨RX2, "divisor", "(II)I"⟩
def dkwX2_divisor_0 : List UInt8 := [26, 61, 27, 62, 29, 153, 0, 16, 28, 29, 112, 54, 4, 29, 61, 21, 4, 62, 167, 255, 242, 28, 172]
abbrev dktX2_divisor_0 : List UInt8 := dkwX2_divisor_0 ++ []
theorem dksX2_divisor_0 : cX2_divisor.data.toList.drop 0 = dktX2_divisor_0 := by decide +kernel
theorem dX2_divisor_0 : decode cX2_divisor 0 = .ok (.iload_n 0, 1) := dk_26 (dk_at dksX2_divisor_0 0 rfl rfl)
theorem dX2_divisor_1 : decode cX2_divisor 1 = .ok (.istore_n 2, 1) := dk_61 (dk_at dksX2_divisor_0 1 rfl rfl)
theorem dX2_divisor_2 : decode cX2_divisor 2 = .ok (.iload_n 1, 1) := dk_27 (dk_at dksX2_divisor_0 2 rfl rfl)
theorem dX2_divisor_3 : decode cX2_divisor 3 = .ok (.istore_n 3, 1) := dk_62 (dk_at dksX2_divisor_0 3 rfl rfl)
theorem dX2_divisor_4 : decode cX2_divisor 4 = .ok (.iload_n 3, 1) := dk_29 (dk_at dksX2_divisor_0 4 rfl rfl)
theorem dX2_divisor_5 : decode cX2_divisor 5 = .ok (.ifCond .eq 16, 3) := dk_153 0 16 (dk_at dksX2_divisor_0 5 rfl rfl)
theorem dX2_divisor_8 : decode cX2_divisor 8 = .ok (.iload_n 2, 1) := dk_28 (dk_at dksX2_divisor_0 8 rfl rfl)
theorem dX2_divisor_9 : decode cX2_divisor 9 = .ok (.iload_n 3, 1) := dk_29 (dk_at dksX2_divisor_0 9 rfl rfl)
theorem dX2_divisor_10 : decode cX2_divisor 10 = .ok (.irem, 1) := dk_112 (dk_at dksX2_divisor_0 10 rfl rfl)
theorem dX2_divisor_11 : decode cX2_divisor 11 = .ok (.istore 4, 2) := dk_54 4 (dk_at dksX2_divisor_0 11 rfl rfl)
theorem dX2_divisor_13 : decode cX2_divisor 13 = .ok (.iload_n 3, 1) := dk_29 (dk_at dksX2_divisor_0 13 rfl rfl)
theorem dX2_divisor_14 : decode cX2_divisor 14 = .ok (.istore_n 2, 1) := dk_61 (dk_at dksX2_divisor_0 14 rfl rfl)
theorem dX2_divisor_15 : decode cX2_divisor 15 = .ok (.iload 4, 2) := dk_21 4 (dk_at dksX2_divisor_0 15 rfl rfl)
theorem dX2_divisor_17 : decode cX2_divisor 17 = .ok (.istore_n 3, 1) := dk_62 (dk_at dksX2_divisor_0 17 rfl rfl)
theorem dX2_divisor_18 : decode cX2_divisor 18 = .ok (.goto (-14), 3) := dk_167 255 242 (dk_at dksX2_divisor_0 18 rfl rfl)
theorem dX2_divisor_21 : decode cX2_divisor 21 = .ok (.iload_n 2, 1) := dk_28 (dk_at dksX2_divisor_0 21 rfl rfl)
theorem dX2_divisor_22 : decode cX2_divisor 22 = .ok (.ireturn, 1) := dk_172 (dk_at dksX2_divisor_0 22 rfl rfl)
abbrev cX2_sure : ByteArray := prog_21_method_126_code
def yX2_sure : MethodName := ⟨RX2, "sure", "(Z)I"⟩
def dkwX2_sure_2 : List UInt8 := [46, 2, 130, 126, 62, 132, 4, 1, 167, 255, 221, 29, 172]
abbrev dktX2_sure_2 : List UInt8 := dkwX2_sure_2 ++ []
def dkwX2_sure_1 : List UInt8 := [162, 0, 35, 29, 27, 153, 0, 13, 42, 180, 0, 56, 21, 4, 46, 167, 0, 12, 42, 180, 0, 56, 21, 4]
abbrev dktX2_sure_1 : List UInt8 := dkwX2_sure_1 ++ dktX2_sure_2
def dkwX2_sure_0 : List UInt8 := [42, 182, 1, 139, 61, 28, 154, 0, 5, 2, 172, 42, 182, 0, 70, 62, 3, 54, 4, 21, 4, 28]
abbrev dktX2_sure_0 : List UInt8 := dkwX2_sure_0 ++ dktX2_sure_1
theorem dksX2_sure_0 : cX2_sure.data.toList.drop 0 = dktX2_sure_0 := by decide +kernel
theorem dksX2_sure_1 : cX2_sure.data.toList.drop 22 = dktX2_sure_1 := dk_seg dksX2_sure_0 22 rfl rfl
theorem dksX2_sure_2 : cX2_sure.data.toList.drop 46 = dktX2_sure_2 := dk_seg dksX2_sure_1 24 rfl rfl
theorem dX2_sure_0 : decode cX2_sure 0 = .ok (.aload_n 0, 1) := dk_42 (dk_at dksX2_sure_0 0 rfl rfl)
theorem dX2_sure_1 : decode cX2_sure 1 = .ok (.invokevirtual 395, 3) := dk_182 1 139 (dk_at dksX2_sure_0 1 rfl rfl)
theorem dX2_sure_4 : decode cX2_sure 4 = .ok (.istore_n 2, 1) := dk_61 (dk_at dksX2_sure_0 4 rfl rfl)
theorem dX2_sure_5 : decode cX2_sure 5 = .ok (.iload_n 2, 1) := dk_28 (dk_at dksX2_sure_0 5 rfl rfl)
theorem dX2_sure_6 : decode cX2_sure 6 = .ok (.ifCond .ne 5, 3) := dk_154 0 5 (dk_at dksX2_sure_0 6 rfl rfl)
theorem dX2_sure_9 : decode cX2_sure 9 = .ok (.iconst (-1), 1) := dk_2 (dk_at dksX2_sure_0 9 rfl rfl)
theorem dX2_sure_10 : decode cX2_sure 10 = .ok (.ireturn, 1) := dk_172 (dk_at dksX2_sure_0 10 rfl rfl)
theorem dX2_sure_11 : decode cX2_sure 11 = .ok (.aload_n 0, 1) := dk_42 (dk_at dksX2_sure_0 11 rfl rfl)
theorem dX2_sure_12 : decode cX2_sure 12 = .ok (.invokevirtual 70, 3) := dk_182 0 70 (dk_at dksX2_sure_0 12 rfl rfl)
theorem dX2_sure_15 : decode cX2_sure 15 = .ok (.istore_n 3, 1) := dk_62 (dk_at dksX2_sure_0 15 rfl rfl)
theorem dX2_sure_16 : decode cX2_sure 16 = .ok (.iconst 0, 1) := dk_3 (dk_at dksX2_sure_0 16 rfl rfl)
theorem dX2_sure_17 : decode cX2_sure 17 = .ok (.istore 4, 2) := dk_54 4 (dk_at dksX2_sure_0 17 rfl rfl)
theorem dX2_sure_19 : decode cX2_sure 19 = .ok (.iload 4, 2) := dk_21 4 (dk_at dksX2_sure_0 19 rfl rfl)
theorem dX2_sure_21 : decode cX2_sure 21 = .ok (.iload_n 2, 1) := dk_28 (dk_at dksX2_sure_0 21 rfl rfl)
theorem dX2_sure_22 : decode cX2_sure 22 = .ok (.if_icmp .ge 35, 3) := dk_162 0 35 (dk_at dksX2_sure_1 0 rfl rfl)
theorem dX2_sure_25 : decode cX2_sure 25 = .ok (.iload_n 3, 1) := dk_29 (dk_at dksX2_sure_1 3 rfl rfl)
theorem dX2_sure_26 : decode cX2_sure 26 = .ok (.iload_n 1, 1) := dk_27 (dk_at dksX2_sure_1 4 rfl rfl)
theorem dX2_sure_27 : decode cX2_sure 27 = .ok (.ifCond .eq 13, 3) := dk_153 0 13 (dk_at dksX2_sure_1 5 rfl rfl)
theorem dX2_sure_30 : decode cX2_sure 30 = .ok (.aload_n 0, 1) := dk_42 (dk_at dksX2_sure_1 8 rfl rfl)
theorem dX2_sure_31 : decode cX2_sure 31 = .ok (.getfield 56, 3) := dk_180 0 56 (dk_at dksX2_sure_1 9 rfl rfl)
theorem dX2_sure_34 : decode cX2_sure 34 = .ok (.iload 4, 2) := dk_21 4 (dk_at dksX2_sure_1 12 rfl rfl)
theorem dX2_sure_36 : decode cX2_sure 36 = .ok (.iaload, 1) := dk_46 (dk_at dksX2_sure_1 14 rfl rfl)
theorem dX2_sure_37 : decode cX2_sure 37 = .ok (.goto 12, 3) := dk_167 0 12 (dk_at dksX2_sure_1 15 rfl rfl)
theorem dX2_sure_40 : decode cX2_sure 40 = .ok (.aload_n 0, 1) := dk_42 (dk_at dksX2_sure_1 18 rfl rfl)
theorem dX2_sure_41 : decode cX2_sure 41 = .ok (.getfield 56, 3) := dk_180 0 56 (dk_at dksX2_sure_1 19 rfl rfl)
theorem dX2_sure_44 : decode cX2_sure 44 = .ok (.iload 4, 2) := dk_21 4 (dk_at dksX2_sure_1 22 rfl rfl)
theorem dX2_sure_46 : decode cX2_sure 46 = .ok (.iaload, 1) := dk_46 (dk_at dksX2_sure_2 0 rfl rfl)
theorem dX2_sure_47 : decode cX2_sure 47 = .ok (.iconst (-1), 1) := dk_2 (dk_at dksX2_sure_2 1 rfl rfl)
theorem dX2_sure_48 : decode cX2_sure 48 = .ok (.ixor, 1) := dk_130 (dk_at dksX2_sure_2 2 rfl rfl)
theorem dX2_sure_49 : decode cX2_sure 49 = .ok (.iand, 1) := dk_126 (dk_at dksX2_sure_2 3 rfl rfl)
theorem dX2_sure_50 : decode cX2_sure 50 = .ok (.istore_n 3, 1) := dk_62 (dk_at dksX2_sure_2 4 rfl rfl)
theorem dX2_sure_51 : decode cX2_sure 51 = .ok (.iinc 4 1, 3) := dk_132 4 1 (dk_at dksX2_sure_2 5 rfl rfl)
theorem dX2_sure_54 : decode cX2_sure 54 = .ok (.goto (-35), 3) := dk_167 255 221 (dk_at dksX2_sure_2 8 rfl rfl)
theorem dX2_sure_57 : decode cX2_sure 57 = .ok (.iload_n 3, 1) := dk_29 (dk_at dksX2_sure_2 11 rfl rfl)
theorem dX2_sure_58 : decode cX2_sure 58 = .ok (.ireturn, 1) := dk_172 (dk_at dksX2_sure_2 12 rfl rfl)
abbrev cX2_tells : ByteArray := prog_21_method_128_code
def yX2_tells : MethodName := ⟨RX2, "tells", "(I)I"⟩
def dkwX2_tells_7 : List UInt8 := [172]
abbrev dktX2_tells_7 : List UInt8 := dkwX2_tells_7 ++ []
def dkwX2_tells_6 : List UInt8 := [132, 4, 1, 167, 255, 155, 27, 154, 0, 7, 29, 167, 0, 13, 42, 180, 0, 59, 4, 28, 120, 4, 100, 46]
abbrev dktX2_tells_6 : List UInt8 := dkwX2_tells_6 ++ dktX2_tells_7
def dkwX2_tells_5 : List UInt8 := [161, 0, 6, 167, 0, 15, 42, 180, 0, 59, 21, 4, 21, 6, 79, 21, 5, 62, 132, 5, 1, 167, 255, 195]
abbrev dktX2_tells_5 : List UInt8 := dkwX2_tells_5 ++ dktX2_tells_6
def dkwX2_tells_4 : List UInt8 := [164, 0, 47, 42, 21, 4, 21, 5, 28, 182, 1, 146, 54, 6, 21, 6, 42, 180, 0, 59, 21, 4, 46]
abbrev dktX2_tells_4 : List UInt8 := dkwX2_tells_4 ++ dktX2_tells_5
def dkwX2_tells_3 : List UInt8 := [19, 1, 145, 79, 3, 54, 5, 21, 5, 42, 180, 0, 7, 3, 46, 162, 0, 56, 21, 4, 184, 1, 42, 4]
abbrev dktX2_tells_3 : List UInt8 := dkwX2_tells_3 ++ dktX2_tells_4
def dkwX2_tells_2 : List UInt8 := [162, 0, 99, 42, 180, 0, 59, 21, 4, 21, 4, 184, 1, 42, 5, 162, 0, 7, 3, 167, 0, 6]
abbrev dktX2_tells_2 : List UInt8 := dkwX2_tells_2 ++ dktX2_tells_3
def dkwX2_tells_1 : List UInt8 := [162, 0, 13, 27, 154, 0, 7, 2, 167, 0, 4, 3, 172, 2, 62, 3, 54, 4, 21, 4, 4, 28, 120]
abbrev dktX2_tells_1 : List UInt8 := dkwX2_tells_1 ++ dktX2_tells_2
def dkwX2_tells_0 : List UInt8 := [42, 182, 1, 139, 61, 27, 3, 4, 184, 0, 66, 153, 0, 9, 28, 16, 12, 164, 0, 5, 2, 172, 28, 5]
abbrev dktX2_tells_0 : List UInt8 := dkwX2_tells_0 ++ dktX2_tells_1
theorem dksX2_tells_0 : cX2_tells.data.toList.drop 0 = dktX2_tells_0 := by decide +kernel
theorem dksX2_tells_1 : cX2_tells.data.toList.drop 24 = dktX2_tells_1 := dk_seg dksX2_tells_0 24 rfl rfl
theorem dksX2_tells_2 : cX2_tells.data.toList.drop 47 = dktX2_tells_2 := dk_seg dksX2_tells_1 23 rfl rfl
theorem dksX2_tells_3 : cX2_tells.data.toList.drop 69 = dktX2_tells_3 := dk_seg dksX2_tells_2 22 rfl rfl
theorem dksX2_tells_4 : cX2_tells.data.toList.drop 93 = dktX2_tells_4 := dk_seg dksX2_tells_3 24 rfl rfl
theorem dksX2_tells_5 : cX2_tells.data.toList.drop 116 = dktX2_tells_5 := dk_seg dksX2_tells_4 23 rfl rfl
theorem dksX2_tells_6 : cX2_tells.data.toList.drop 140 = dktX2_tells_6 := dk_seg dksX2_tells_5 24 rfl rfl
theorem dksX2_tells_7 : cX2_tells.data.toList.drop 164 = dktX2_tells_7 := dk_seg dksX2_tells_6 24 rfl rfl
theorem dX2_tells_0 : decode cX2_tells 0 = .ok (.aload_n 0, 1) := dk_42 (dk_at dksX2_tells_0 0 rfl rfl)
theorem dX2_tells_1 : decode cX2_tells 1 = .ok (.invokevirtual 395, 3) := dk_182 1 139 (dk_at dksX2_tells_0 1 rfl rfl)
theorem dX2_tells_4 : decode cX2_tells 4 = .ok (.istore_n 2, 1) := dk_61 (dk_at dksX2_tells_0 4 rfl rfl)
theorem dX2_tells_5 : decode cX2_tells 5 = .ok (.iload_n 1, 1) := dk_27 (dk_at dksX2_tells_0 5 rfl rfl)
theorem dX2_tells_6 : decode cX2_tells 6 = .ok (.iconst 0, 1) := dk_3 (dk_at dksX2_tells_0 6 rfl rfl)
theorem dX2_tells_7 : decode cX2_tells 7 = .ok (.iconst 1, 1) := dk_4 (dk_at dksX2_tells_0 7 rfl rfl)
theorem dX2_tells_8 : decode cX2_tells 8 = .ok (.invokestatic 66, 3) := dk_184 0 66 (dk_at dksX2_tells_0 8 rfl rfl)
theorem dX2_tells_11 : decode cX2_tells 11 = .ok (.ifCond .eq 9, 3) := dk_153 0 9 (dk_at dksX2_tells_0 11 rfl rfl)
theorem dX2_tells_14 : decode cX2_tells 14 = .ok (.iload_n 2, 1) := dk_28 (dk_at dksX2_tells_0 14 rfl rfl)
theorem dX2_tells_15 : decode cX2_tells 15 = .ok (.bipush 12, 2) := dk_16 12 (dk_at dksX2_tells_0 15 rfl rfl)
theorem dX2_tells_17 : decode cX2_tells 17 = .ok (.if_icmp .le 5, 3) := dk_164 0 5 (dk_at dksX2_tells_0 17 rfl rfl)
theorem dX2_tells_20 : decode cX2_tells 20 = .ok (.iconst (-1), 1) := dk_2 (dk_at dksX2_tells_0 20 rfl rfl)
theorem dX2_tells_21 : decode cX2_tells 21 = .ok (.ireturn, 1) := dk_172 (dk_at dksX2_tells_0 21 rfl rfl)
theorem dX2_tells_22 : decode cX2_tells 22 = .ok (.iload_n 2, 1) := dk_28 (dk_at dksX2_tells_0 22 rfl rfl)
theorem dX2_tells_23 : decode cX2_tells 23 = .ok (.iconst 2, 1) := dk_5 (dk_at dksX2_tells_0 23 rfl rfl)
theorem dX2_tells_24 : decode cX2_tells 24 = .ok (.if_icmp .ge 13, 3) := dk_162 0 13 (dk_at dksX2_tells_1 0 rfl rfl)
theorem dX2_tells_27 : decode cX2_tells 27 = .ok (.iload_n 1, 1) := dk_27 (dk_at dksX2_tells_1 3 rfl rfl)
theorem dX2_tells_28 : decode cX2_tells 28 = .ok (.ifCond .ne 7, 3) := dk_154 0 7 (dk_at dksX2_tells_1 4 rfl rfl)
theorem dX2_tells_31 : decode cX2_tells 31 = .ok (.iconst (-1), 1) := dk_2 (dk_at dksX2_tells_1 7 rfl rfl)
theorem dX2_tells_32 : decode cX2_tells 32 = .ok (.goto 4, 3) := dk_167 0 4 (dk_at dksX2_tells_1 8 rfl rfl)
theorem dX2_tells_35 : decode cX2_tells 35 = .ok (.iconst 0, 1) := dk_3 (dk_at dksX2_tells_1 11 rfl rfl)
theorem dX2_tells_36 : decode cX2_tells 36 = .ok (.ireturn, 1) := dk_172 (dk_at dksX2_tells_1 12 rfl rfl)
theorem dX2_tells_37 : decode cX2_tells 37 = .ok (.iconst (-1), 1) := dk_2 (dk_at dksX2_tells_1 13 rfl rfl)
theorem dX2_tells_38 : decode cX2_tells 38 = .ok (.istore_n 3, 1) := dk_62 (dk_at dksX2_tells_1 14 rfl rfl)
theorem dX2_tells_39 : decode cX2_tells 39 = .ok (.iconst 0, 1) := dk_3 (dk_at dksX2_tells_1 15 rfl rfl)
theorem dX2_tells_40 : decode cX2_tells 40 = .ok (.istore 4, 2) := dk_54 4 (dk_at dksX2_tells_1 16 rfl rfl)
theorem dX2_tells_42 : decode cX2_tells 42 = .ok (.iload 4, 2) := dk_21 4 (dk_at dksX2_tells_1 18 rfl rfl)
theorem dX2_tells_44 : decode cX2_tells 44 = .ok (.iconst 1, 1) := dk_4 (dk_at dksX2_tells_1 20 rfl rfl)
theorem dX2_tells_45 : decode cX2_tells 45 = .ok (.iload_n 2, 1) := dk_28 (dk_at dksX2_tells_1 21 rfl rfl)
theorem dX2_tells_46 : decode cX2_tells 46 = .ok (.ishl, 1) := dk_120 (dk_at dksX2_tells_1 22 rfl rfl)
theorem dX2_tells_47 : decode cX2_tells 47 = .ok (.if_icmp .ge 99, 3) := dk_162 0 99 (dk_at dksX2_tells_2 0 rfl rfl)
theorem dX2_tells_50 : decode cX2_tells 50 = .ok (.aload_n 0, 1) := dk_42 (dk_at dksX2_tells_2 3 rfl rfl)
theorem dX2_tells_51 : decode cX2_tells 51 = .ok (.getfield 59, 3) := dk_180 0 59 (dk_at dksX2_tells_2 4 rfl rfl)
theorem dX2_tells_54 : decode cX2_tells 54 = .ok (.iload 4, 2) := dk_21 4 (dk_at dksX2_tells_2 7 rfl rfl)
theorem dX2_tells_56 : decode cX2_tells 56 = .ok (.iload 4, 2) := dk_21 4 (dk_at dksX2_tells_2 9 rfl rfl)
theorem dX2_tells_58 : decode cX2_tells 58 = .ok (.invokestatic 298, 3) := dk_184 1 42 (dk_at dksX2_tells_2 11 rfl rfl)
theorem dX2_tells_61 : decode cX2_tells 61 = .ok (.iconst 2, 1) := dk_5 (dk_at dksX2_tells_2 14 rfl rfl)
theorem dX2_tells_62 : decode cX2_tells 62 = .ok (.if_icmp .ge 7, 3) := dk_162 0 7 (dk_at dksX2_tells_2 15 rfl rfl)
theorem dX2_tells_65 : decode cX2_tells 65 = .ok (.iconst 0, 1) := dk_3 (dk_at dksX2_tells_2 18 rfl rfl)
theorem dX2_tells_66 : decode cX2_tells 66 = .ok (.goto 6, 3) := dk_167 0 6 (dk_at dksX2_tells_2 19 rfl rfl)
theorem dX2_tells_69 : decode cX2_tells 69 = .ok (.ldc_w 401, 3) := dk_19 1 145 (dk_at dksX2_tells_3 0 rfl rfl)
theorem dX2_tells_72 : decode cX2_tells 72 = .ok (.iastore, 1) := dk_79 (dk_at dksX2_tells_3 3 rfl rfl)
theorem dX2_tells_73 : decode cX2_tells 73 = .ok (.iconst 0, 1) := dk_3 (dk_at dksX2_tells_3 4 rfl rfl)
theorem dX2_tells_74 : decode cX2_tells 74 = .ok (.istore 5, 2) := dk_54 5 (dk_at dksX2_tells_3 5 rfl rfl)
theorem dX2_tells_76 : decode cX2_tells 76 = .ok (.iload 5, 2) := dk_21 5 (dk_at dksX2_tells_3 7 rfl rfl)
theorem dX2_tells_78 : decode cX2_tells 78 = .ok (.aload_n 0, 1) := dk_42 (dk_at dksX2_tells_3 9 rfl rfl)
theorem dX2_tells_79 : decode cX2_tells 79 = .ok (.getfield 7, 3) := dk_180 0 7 (dk_at dksX2_tells_3 10 rfl rfl)
theorem dX2_tells_82 : decode cX2_tells 82 = .ok (.iconst 0, 1) := dk_3 (dk_at dksX2_tells_3 13 rfl rfl)
theorem dX2_tells_83 : decode cX2_tells 83 = .ok (.iaload, 1) := dk_46 (dk_at dksX2_tells_3 14 rfl rfl)
theorem dX2_tells_84 : decode cX2_tells 84 = .ok (.if_icmp .ge 56, 3) := dk_162 0 56 (dk_at dksX2_tells_3 15 rfl rfl)
theorem dX2_tells_87 : decode cX2_tells 87 = .ok (.iload 4, 2) := dk_21 4 (dk_at dksX2_tells_3 18 rfl rfl)
theorem dX2_tells_89 : decode cX2_tells 89 = .ok (.invokestatic 298, 3) := dk_184 1 42 (dk_at dksX2_tells_3 20 rfl rfl)
theorem dX2_tells_92 : decode cX2_tells 92 = .ok (.iconst 1, 1) := dk_4 (dk_at dksX2_tells_3 23 rfl rfl)
theorem dX2_tells_93 : decode cX2_tells 93 = .ok (.if_icmp .le 47, 3) := dk_164 0 47 (dk_at dksX2_tells_4 0 rfl rfl)
theorem dX2_tells_96 : decode cX2_tells 96 = .ok (.aload_n 0, 1) := dk_42 (dk_at dksX2_tells_4 3 rfl rfl)
theorem dX2_tells_97 : decode cX2_tells 97 = .ok (.iload 4, 2) := dk_21 4 (dk_at dksX2_tells_4 4 rfl rfl)
theorem dX2_tells_99 : decode cX2_tells 99 = .ok (.iload 5, 2) := dk_21 5 (dk_at dksX2_tells_4 6 rfl rfl)
theorem dX2_tells_101 : decode cX2_tells 101 = .ok (.iload_n 2, 1) := dk_28 (dk_at dksX2_tells_4 8 rfl rfl)
theorem dX2_tells_102 : decode cX2_tells 102 = .ok (.invokevirtual 402, 3) := dk_182 1 146 (dk_at dksX2_tells_4 9 rfl rfl)
theorem dX2_tells_105 : decode cX2_tells 105 = .ok (.istore 6, 2) := dk_54 6 (dk_at dksX2_tells_4 12 rfl rfl)
theorem dX2_tells_107 : decode cX2_tells 107 = .ok (.iload 6, 2) := dk_21 6 (dk_at dksX2_tells_4 14 rfl rfl)
theorem dX2_tells_109 : decode cX2_tells 109 = .ok (.aload_n 0, 1) := dk_42 (dk_at dksX2_tells_4 16 rfl rfl)
theorem dX2_tells_110 : decode cX2_tells 110 = .ok (.getfield 59, 3) := dk_180 0 59 (dk_at dksX2_tells_4 17 rfl rfl)
theorem dX2_tells_113 : decode cX2_tells 113 = .ok (.iload 4, 2) := dk_21 4 (dk_at dksX2_tells_4 20 rfl rfl)
theorem dX2_tells_115 : decode cX2_tells 115 = .ok (.iaload, 1) := dk_46 (dk_at dksX2_tells_4 22 rfl rfl)
theorem dX2_tells_116 : decode cX2_tells 116 = .ok (.if_icmp .lt 6, 3) := dk_161 0 6 (dk_at dksX2_tells_5 0 rfl rfl)
theorem dX2_tells_119 : decode cX2_tells 119 = .ok (.goto 15, 3) := dk_167 0 15 (dk_at dksX2_tells_5 3 rfl rfl)
theorem dX2_tells_122 : decode cX2_tells 122 = .ok (.aload_n 0, 1) := dk_42 (dk_at dksX2_tells_5 6 rfl rfl)
theorem dX2_tells_123 : decode cX2_tells 123 = .ok (.getfield 59, 3) := dk_180 0 59 (dk_at dksX2_tells_5 7 rfl rfl)
theorem dX2_tells_126 : decode cX2_tells 126 = .ok (.iload 4, 2) := dk_21 4 (dk_at dksX2_tells_5 10 rfl rfl)
theorem dX2_tells_128 : decode cX2_tells 128 = .ok (.iload 6, 2) := dk_21 6 (dk_at dksX2_tells_5 12 rfl rfl)
theorem dX2_tells_130 : decode cX2_tells 130 = .ok (.iastore, 1) := dk_79 (dk_at dksX2_tells_5 14 rfl rfl)
theorem dX2_tells_131 : decode cX2_tells 131 = .ok (.iload 5, 2) := dk_21 5 (dk_at dksX2_tells_5 15 rfl rfl)
theorem dX2_tells_133 : decode cX2_tells 133 = .ok (.istore_n 3, 1) := dk_62 (dk_at dksX2_tells_5 17 rfl rfl)
theorem dX2_tells_134 : decode cX2_tells 134 = .ok (.iinc 5 1, 3) := dk_132 5 1 (dk_at dksX2_tells_5 18 rfl rfl)
theorem dX2_tells_137 : decode cX2_tells 137 = .ok (.goto (-61), 3) := dk_167 255 195 (dk_at dksX2_tells_5 21 rfl rfl)
theorem dX2_tells_140 : decode cX2_tells 140 = .ok (.iinc 4 1, 3) := dk_132 4 1 (dk_at dksX2_tells_6 0 rfl rfl)
theorem dX2_tells_143 : decode cX2_tells 143 = .ok (.goto (-101), 3) := dk_167 255 155 (dk_at dksX2_tells_6 3 rfl rfl)
theorem dX2_tells_146 : decode cX2_tells 146 = .ok (.iload_n 1, 1) := dk_27 (dk_at dksX2_tells_6 6 rfl rfl)
theorem dX2_tells_147 : decode cX2_tells 147 = .ok (.ifCond .ne 7, 3) := dk_154 0 7 (dk_at dksX2_tells_6 7 rfl rfl)
theorem dX2_tells_150 : decode cX2_tells 150 = .ok (.iload_n 3, 1) := dk_29 (dk_at dksX2_tells_6 10 rfl rfl)
theorem dX2_tells_151 : decode cX2_tells 151 = .ok (.goto 13, 3) := dk_167 0 13 (dk_at dksX2_tells_6 11 rfl rfl)
theorem dX2_tells_154 : decode cX2_tells 154 = .ok (.aload_n 0, 1) := dk_42 (dk_at dksX2_tells_6 14 rfl rfl)
theorem dX2_tells_155 : decode cX2_tells 155 = .ok (.getfield 59, 3) := dk_180 0 59 (dk_at dksX2_tells_6 15 rfl rfl)
theorem dX2_tells_158 : decode cX2_tells 158 = .ok (.iconst 1, 1) := dk_4 (dk_at dksX2_tells_6 18 rfl rfl)
theorem dX2_tells_159 : decode cX2_tells 159 = .ok (.iload_n 2, 1) := dk_28 (dk_at dksX2_tells_6 19 rfl rfl)
theorem dX2_tells_160 : decode cX2_tells 160 = .ok (.ishl, 1) := dk_120 (dk_at dksX2_tells_6 20 rfl rfl)
theorem dX2_tells_161 : decode cX2_tells 161 = .ok (.iconst 1, 1) := dk_4 (dk_at dksX2_tells_6 21 rfl rfl)
theorem dX2_tells_162 : decode cX2_tells 162 = .ok (.isub, 1) := dk_100 (dk_at dksX2_tells_6 22 rfl rfl)
theorem dX2_tells_163 : decode cX2_tells 163 = .ok (.iaload, 1) := dk_46 (dk_at dksX2_tells_6 23 rfl rfl)
theorem dX2_tells_164 : decode cX2_tells 164 = .ok (.ireturn, 1) := dk_172 (dk_at dksX2_tells_7 0 rfl rfl)
abbrev cX2_asksBy : ByteArray := prog_21_method_127_code
def yX2_asksBy : MethodName := ⟨RX2, "asksBy", "(III)I"⟩
def dkwX2_asksBy_4 : List UInt8 := [180, 0, 59, 21, 4, 46, 167, 0, 10, 42, 180, 0, 59, 21, 5, 46, 96, 172]
abbrev dktX2_asksBy_4 : List UInt8 := dkwX2_asksBy_4 ++ []
def dkwX2_asksBy_3 : List UInt8 := [2, 130, 126, 54, 5, 4, 42, 180, 0, 59, 21, 4, 46, 42, 180, 0, 59, 21, 5, 46, 164, 0, 13, 42]
abbrev dktX2_asksBy_3 : List UInt8 := dkwX2_asksBy_3 ++ dktX2_asksBy_4
def dkwX2_asksBy_2 : List UInt8 := [132, 5, 1, 167, 255, 211, 21, 4, 153, 0, 9, 21, 4, 27, 160, 0, 7, 19, 1, 145, 172, 27, 21, 4]
abbrev dktX2_asksBy_2 : List UInt8 := dkwX2_asksBy_2 ++ dktX2_asksBy_3
def dkwX2_asksBy_1 : List UInt8 := [180, 0, 56, 21, 5, 46, 28, 184, 0, 246, 153, 0, 10, 4, 21, 5, 120, 167, 0, 4, 3, 128, 54, 4]
abbrev dktX2_asksBy_1 : List UInt8 := dkwX2_asksBy_1 ++ dktX2_asksBy_2
def dkwX2_asksBy_0 : List UInt8 := [3, 54, 4, 3, 54, 5, 21, 5, 29, 162, 0, 45, 21, 4, 27, 21, 5, 184, 0, 246, 153, 0, 24, 42]
abbrev dktX2_asksBy_0 : List UInt8 := dkwX2_asksBy_0 ++ dktX2_asksBy_1
theorem dksX2_asksBy_0 : cX2_asksBy.data.toList.drop 0 = dktX2_asksBy_0 := by decide +kernel
theorem dksX2_asksBy_1 : cX2_asksBy.data.toList.drop 24 = dktX2_asksBy_1 := dk_seg dksX2_asksBy_0 24 rfl rfl
theorem dksX2_asksBy_2 : cX2_asksBy.data.toList.drop 48 = dktX2_asksBy_2 := dk_seg dksX2_asksBy_1 24 rfl rfl
theorem dksX2_asksBy_3 : cX2_asksBy.data.toList.drop 72 = dktX2_asksBy_3 := dk_seg dksX2_asksBy_2 24 rfl rfl
theorem dksX2_asksBy_4 : cX2_asksBy.data.toList.drop 96 = dktX2_asksBy_4 := dk_seg dksX2_asksBy_3 24 rfl rfl
theorem dX2_asksBy_0 : decode cX2_asksBy 0 = .ok (.iconst 0, 1) := dk_3 (dk_at dksX2_asksBy_0 0 rfl rfl)
theorem dX2_asksBy_1 : decode cX2_asksBy 1 = .ok (.istore 4, 2) := dk_54 4 (dk_at dksX2_asksBy_0 1 rfl rfl)
theorem dX2_asksBy_3 : decode cX2_asksBy 3 = .ok (.iconst 0, 1) := dk_3 (dk_at dksX2_asksBy_0 3 rfl rfl)
theorem dX2_asksBy_4 : decode cX2_asksBy 4 = .ok (.istore 5, 2) := dk_54 5 (dk_at dksX2_asksBy_0 4 rfl rfl)
theorem dX2_asksBy_6 : decode cX2_asksBy 6 = .ok (.iload 5, 2) := dk_21 5 (dk_at dksX2_asksBy_0 6 rfl rfl)
theorem dX2_asksBy_8 : decode cX2_asksBy 8 = .ok (.iload_n 3, 1) := dk_29 (dk_at dksX2_asksBy_0 8 rfl rfl)
theorem dX2_asksBy_9 : decode cX2_asksBy 9 = .ok (.if_icmp .ge 45, 3) := dk_162 0 45 (dk_at dksX2_asksBy_0 9 rfl rfl)
theorem dX2_asksBy_12 : decode cX2_asksBy 12 = .ok (.iload 4, 2) := dk_21 4 (dk_at dksX2_asksBy_0 12 rfl rfl)
theorem dX2_asksBy_14 : decode cX2_asksBy 14 = .ok (.iload_n 1, 1) := dk_27 (dk_at dksX2_asksBy_0 14 rfl rfl)
theorem dX2_asksBy_15 : decode cX2_asksBy 15 = .ok (.iload 5, 2) := dk_21 5 (dk_at dksX2_asksBy_0 15 rfl rfl)
theorem dX2_asksBy_17 : decode cX2_asksBy 17 = .ok (.invokestatic 246, 3) := dk_184 0 246 (dk_at dksX2_asksBy_0 17 rfl rfl)
theorem dX2_asksBy_20 : decode cX2_asksBy 20 = .ok (.ifCond .eq 24, 3) := dk_153 0 24 (dk_at dksX2_asksBy_0 20 rfl rfl)
theorem dX2_asksBy_23 : decode cX2_asksBy 23 = .ok (.aload_n 0, 1) := dk_42 (dk_at dksX2_asksBy_0 23 rfl rfl)
theorem dX2_asksBy_24 : decode cX2_asksBy 24 = .ok (.getfield 56, 3) := dk_180 0 56 (dk_at dksX2_asksBy_1 0 rfl rfl)
theorem dX2_asksBy_27 : decode cX2_asksBy 27 = .ok (.iload 5, 2) := dk_21 5 (dk_at dksX2_asksBy_1 3 rfl rfl)
theorem dX2_asksBy_29 : decode cX2_asksBy 29 = .ok (.iaload, 1) := dk_46 (dk_at dksX2_asksBy_1 5 rfl rfl)
theorem dX2_asksBy_30 : decode cX2_asksBy 30 = .ok (.iload_n 2, 1) := dk_28 (dk_at dksX2_asksBy_1 6 rfl rfl)
theorem dX2_asksBy_31 : decode cX2_asksBy 31 = .ok (.invokestatic 246, 3) := dk_184 0 246 (dk_at dksX2_asksBy_1 7 rfl rfl)
theorem dX2_asksBy_34 : decode cX2_asksBy 34 = .ok (.ifCond .eq 10, 3) := dk_153 0 10 (dk_at dksX2_asksBy_1 10 rfl rfl)
theorem dX2_asksBy_37 : decode cX2_asksBy 37 = .ok (.iconst 1, 1) := dk_4 (dk_at dksX2_asksBy_1 13 rfl rfl)
theorem dX2_asksBy_38 : decode cX2_asksBy 38 = .ok (.iload 5, 2) := dk_21 5 (dk_at dksX2_asksBy_1 14 rfl rfl)
theorem dX2_asksBy_40 : decode cX2_asksBy 40 = .ok (.ishl, 1) := dk_120 (dk_at dksX2_asksBy_1 16 rfl rfl)
theorem dX2_asksBy_41 : decode cX2_asksBy 41 = .ok (.goto 4, 3) := dk_167 0 4 (dk_at dksX2_asksBy_1 17 rfl rfl)
theorem dX2_asksBy_44 : decode cX2_asksBy 44 = .ok (.iconst 0, 1) := dk_3 (dk_at dksX2_asksBy_1 20 rfl rfl)
theorem dX2_asksBy_45 : decode cX2_asksBy 45 = .ok (.ior, 1) := dk_128 (dk_at dksX2_asksBy_1 21 rfl rfl)
theorem dX2_asksBy_46 : decode cX2_asksBy 46 = .ok (.istore 4, 2) := dk_54 4 (dk_at dksX2_asksBy_1 22 rfl rfl)
theorem dX2_asksBy_48 : decode cX2_asksBy 48 = .ok (.iinc 5 1, 3) := dk_132 5 1 (dk_at dksX2_asksBy_2 0 rfl rfl)
theorem dX2_asksBy_51 : decode cX2_asksBy 51 = .ok (.goto (-45), 3) := dk_167 255 211 (dk_at dksX2_asksBy_2 3 rfl rfl)
theorem dX2_asksBy_54 : decode cX2_asksBy 54 = .ok (.iload 4, 2) := dk_21 4 (dk_at dksX2_asksBy_2 6 rfl rfl)
theorem dX2_asksBy_56 : decode cX2_asksBy 56 = .ok (.ifCond .eq 9, 3) := dk_153 0 9 (dk_at dksX2_asksBy_2 8 rfl rfl)
theorem dX2_asksBy_59 : decode cX2_asksBy 59 = .ok (.iload 4, 2) := dk_21 4 (dk_at dksX2_asksBy_2 11 rfl rfl)
theorem dX2_asksBy_61 : decode cX2_asksBy 61 = .ok (.iload_n 1, 1) := dk_27 (dk_at dksX2_asksBy_2 13 rfl rfl)
theorem dX2_asksBy_62 : decode cX2_asksBy 62 = .ok (.if_icmp .ne 7, 3) := dk_160 0 7 (dk_at dksX2_asksBy_2 14 rfl rfl)
theorem dX2_asksBy_65 : decode cX2_asksBy 65 = .ok (.ldc_w 401, 3) := dk_19 1 145 (dk_at dksX2_asksBy_2 17 rfl rfl)
theorem dX2_asksBy_68 : decode cX2_asksBy 68 = .ok (.ireturn, 1) := dk_172 (dk_at dksX2_asksBy_2 20 rfl rfl)
theorem dX2_asksBy_69 : decode cX2_asksBy 69 = .ok (.iload_n 1, 1) := dk_27 (dk_at dksX2_asksBy_2 21 rfl rfl)
theorem dX2_asksBy_70 : decode cX2_asksBy 70 = .ok (.iload 4, 2) := dk_21 4 (dk_at dksX2_asksBy_2 22 rfl rfl)
theorem dX2_asksBy_72 : decode cX2_asksBy 72 = .ok (.iconst (-1), 1) := dk_2 (dk_at dksX2_asksBy_3 0 rfl rfl)
theorem dX2_asksBy_73 : decode cX2_asksBy 73 = .ok (.ixor, 1) := dk_130 (dk_at dksX2_asksBy_3 1 rfl rfl)
theorem dX2_asksBy_74 : decode cX2_asksBy 74 = .ok (.iand, 1) := dk_126 (dk_at dksX2_asksBy_3 2 rfl rfl)
theorem dX2_asksBy_75 : decode cX2_asksBy 75 = .ok (.istore 5, 2) := dk_54 5 (dk_at dksX2_asksBy_3 3 rfl rfl)
theorem dX2_asksBy_77 : decode cX2_asksBy 77 = .ok (.iconst 1, 1) := dk_4 (dk_at dksX2_asksBy_3 5 rfl rfl)
theorem dX2_asksBy_78 : decode cX2_asksBy 78 = .ok (.aload_n 0, 1) := dk_42 (dk_at dksX2_asksBy_3 6 rfl rfl)
theorem dX2_asksBy_79 : decode cX2_asksBy 79 = .ok (.getfield 59, 3) := dk_180 0 59 (dk_at dksX2_asksBy_3 7 rfl rfl)
theorem dX2_asksBy_82 : decode cX2_asksBy 82 = .ok (.iload 4, 2) := dk_21 4 (dk_at dksX2_asksBy_3 10 rfl rfl)
theorem dX2_asksBy_84 : decode cX2_asksBy 84 = .ok (.iaload, 1) := dk_46 (dk_at dksX2_asksBy_3 12 rfl rfl)
theorem dX2_asksBy_85 : decode cX2_asksBy 85 = .ok (.aload_n 0, 1) := dk_42 (dk_at dksX2_asksBy_3 13 rfl rfl)
theorem dX2_asksBy_86 : decode cX2_asksBy 86 = .ok (.getfield 59, 3) := dk_180 0 59 (dk_at dksX2_asksBy_3 14 rfl rfl)
theorem dX2_asksBy_89 : decode cX2_asksBy 89 = .ok (.iload 5, 2) := dk_21 5 (dk_at dksX2_asksBy_3 17 rfl rfl)
theorem dX2_asksBy_91 : decode cX2_asksBy 91 = .ok (.iaload, 1) := dk_46 (dk_at dksX2_asksBy_3 19 rfl rfl)
theorem dX2_asksBy_92 : decode cX2_asksBy 92 = .ok (.if_icmp .le 13, 3) := dk_164 0 13 (dk_at dksX2_asksBy_3 20 rfl rfl)
theorem dX2_asksBy_95 : decode cX2_asksBy 95 = .ok (.aload_n 0, 1) := dk_42 (dk_at dksX2_asksBy_3 23 rfl rfl)
theorem dX2_asksBy_96 : decode cX2_asksBy 96 = .ok (.getfield 59, 3) := dk_180 0 59 (dk_at dksX2_asksBy_4 0 rfl rfl)
theorem dX2_asksBy_99 : decode cX2_asksBy 99 = .ok (.iload 4, 2) := dk_21 4 (dk_at dksX2_asksBy_4 3 rfl rfl)
theorem dX2_asksBy_101 : decode cX2_asksBy 101 = .ok (.iaload, 1) := dk_46 (dk_at dksX2_asksBy_4 5 rfl rfl)
theorem dX2_asksBy_102 : decode cX2_asksBy 102 = .ok (.goto 10, 3) := dk_167 0 10 (dk_at dksX2_asksBy_4 6 rfl rfl)
theorem dX2_asksBy_105 : decode cX2_asksBy 105 = .ok (.aload_n 0, 1) := dk_42 (dk_at dksX2_asksBy_4 9 rfl rfl)
theorem dX2_asksBy_106 : decode cX2_asksBy 106 = .ok (.getfield 59, 3) := dk_180 0 59 (dk_at dksX2_asksBy_4 10 rfl rfl)
theorem dX2_asksBy_109 : decode cX2_asksBy 109 = .ok (.iload 5, 2) := dk_21 5 (dk_at dksX2_asksBy_4 13 rfl rfl)
theorem dX2_asksBy_111 : decode cX2_asksBy 111 = .ok (.iaload, 1) := dk_46 (dk_at dksX2_asksBy_4 15 rfl rfl)
theorem dX2_asksBy_112 : decode cX2_asksBy 112 = .ok (.iadd, 1) := dk_96 (dk_at dksX2_asksBy_4 16 rfl rfl)
theorem dX2_asksBy_113 : decode cX2_asksBy 113 = .ok (.ireturn, 1) := dk_172 (dk_at dksX2_asksBy_4 17 rfl rfl)
abbrev cX2_asleep : ByteArray := prog_21_method_132_code
def yX2_asleep : MethodName := ⟨RX2, "asleep", "(Z)I"⟩
def dkwX2_asleep_0 : List UInt8 := [42, 182, 1, 155, 61, 27, 153, 0, 10, 28, 184, 1, 42, 167, 0, 4, 28, 172]
abbrev dktX2_asleep_0 : List UInt8 := dkwX2_asleep_0 ++ []
theorem dksX2_asleep_0 : cX2_asleep.data.toList.drop 0 = dktX2_asleep_0 := by decide +kernel
theorem dX2_asleep_0 : decode cX2_asleep 0 = .ok (.aload_n 0, 1) := dk_42 (dk_at dksX2_asleep_0 0 rfl rfl)
theorem dX2_asleep_1 : decode cX2_asleep 1 = .ok (.invokevirtual 411, 3) := dk_182 1 155 (dk_at dksX2_asleep_0 1 rfl rfl)
theorem dX2_asleep_4 : decode cX2_asleep 4 = .ok (.istore_n 2, 1) := dk_61 (dk_at dksX2_asleep_0 4 rfl rfl)
theorem dX2_asleep_5 : decode cX2_asleep 5 = .ok (.iload_n 1, 1) := dk_27 (dk_at dksX2_asleep_0 5 rfl rfl)
theorem dX2_asleep_6 : decode cX2_asleep 6 = .ok (.ifCond .eq 10, 3) := dk_153 0 10 (dk_at dksX2_asleep_0 6 rfl rfl)
theorem dX2_asleep_9 : decode cX2_asleep 9 = .ok (.iload_n 2, 1) := dk_28 (dk_at dksX2_asleep_0 9 rfl rfl)
theorem dX2_asleep_10 : decode cX2_asleep 10 = .ok (.invokestatic 298, 3) := dk_184 1 42 (dk_at dksX2_asleep_0 10 rfl rfl)
theorem dX2_asleep_13 : decode cX2_asleep 13 = .ok (.goto 4, 3) := dk_167 0 4 (dk_at dksX2_asleep_0 13 rfl rfl)
theorem dX2_asleep_16 : decode cX2_asleep 16 = .ok (.iload_n 2, 1) := dk_28 (dk_at dksX2_asleep_0 16 rfl rfl)
theorem dX2_asleep_17 : decode cX2_asleep 17 = .ok (.ireturn, 1) := dk_172 (dk_at dksX2_asleep_0 17 rfl rfl)
abbrev cX2_leastAsleep : ByteArray := prog_21_method_131_code
def yX2_leastAsleep : MethodName := ⟨RX2, "leastAsleep", "()I"⟩
def dkwX2_leastAsleep_2 : List UInt8 := [154, 0, 5, 29, 61, 132, 3, 255, 167, 255, 212, 42, 27, 182, 1, 152, 28, 172]
abbrev dktX2_leastAsleep_2 : List UInt8 := dkwX2_leastAsleep_2 ++ []
def dkwX2_leastAsleep_1 : List UInt8 := [29, 184, 1, 42, 28, 184, 1, 42, 164, 0, 6, 167, 0, 18, 42, 29, 182, 1, 152, 42, 3, 182, 1, 64]
abbrev dktX2_leastAsleep_1 : List UInt8 := dkwX2_leastAsleep_1 ++ dktX2_leastAsleep_2
def dkwX2_leastAsleep_0 : List UInt8 := [42, 182, 1, 149, 60, 42, 182, 0, 70, 61, 28, 62, 29, 155, 0, 46, 27, 29, 2, 130, 126, 154, 0, 32]
abbrev dktX2_leastAsleep_0 : List UInt8 := dkwX2_leastAsleep_0 ++ dktX2_leastAsleep_1
theorem dksX2_leastAsleep_0 : cX2_leastAsleep.data.toList.drop 0 = dktX2_leastAsleep_0 := by decide +kernel
theorem dksX2_leastAsleep_1 : cX2_leastAsleep.data.toList.drop 24 = dktX2_leastAsleep_1 := dk_seg dksX2_leastAsleep_0 24 rfl rfl
theorem dksX2_leastAsleep_2 : cX2_leastAsleep.data.toList.drop 48 = dktX2_leastAsleep_2 := dk_seg dksX2_leastAsleep_1 24 rfl rfl
theorem dX2_leastAsleep_0 : decode cX2_leastAsleep 0 = .ok (.aload_n 0, 1) := dk_42 (dk_at dksX2_leastAsleep_0 0 rfl rfl)
theorem dX2_leastAsleep_1 : decode cX2_leastAsleep 1 = .ok (.invokevirtual 405, 3) := dk_182 1 149 (dk_at dksX2_leastAsleep_0 1 rfl rfl)
theorem dX2_leastAsleep_4 : decode cX2_leastAsleep 4 = .ok (.istore_n 1, 1) := dk_60 (dk_at dksX2_leastAsleep_0 4 rfl rfl)
theorem dX2_leastAsleep_5 : decode cX2_leastAsleep 5 = .ok (.aload_n 0, 1) := dk_42 (dk_at dksX2_leastAsleep_0 5 rfl rfl)
theorem dX2_leastAsleep_6 : decode cX2_leastAsleep 6 = .ok (.invokevirtual 70, 3) := dk_182 0 70 (dk_at dksX2_leastAsleep_0 6 rfl rfl)
theorem dX2_leastAsleep_9 : decode cX2_leastAsleep 9 = .ok (.istore_n 2, 1) := dk_61 (dk_at dksX2_leastAsleep_0 9 rfl rfl)
theorem dX2_leastAsleep_10 : decode cX2_leastAsleep 10 = .ok (.iload_n 2, 1) := dk_28 (dk_at dksX2_leastAsleep_0 10 rfl rfl)
theorem dX2_leastAsleep_11 : decode cX2_leastAsleep 11 = .ok (.istore_n 3, 1) := dk_62 (dk_at dksX2_leastAsleep_0 11 rfl rfl)
theorem dX2_leastAsleep_12 : decode cX2_leastAsleep 12 = .ok (.iload_n 3, 1) := dk_29 (dk_at dksX2_leastAsleep_0 12 rfl rfl)
theorem dX2_leastAsleep_13 : decode cX2_leastAsleep 13 = .ok (.ifCond .lt 46, 3) := dk_155 0 46 (dk_at dksX2_leastAsleep_0 13 rfl rfl)
theorem dX2_leastAsleep_16 : decode cX2_leastAsleep 16 = .ok (.iload_n 1, 1) := dk_27 (dk_at dksX2_leastAsleep_0 16 rfl rfl)
theorem dX2_leastAsleep_17 : decode cX2_leastAsleep 17 = .ok (.iload_n 3, 1) := dk_29 (dk_at dksX2_leastAsleep_0 17 rfl rfl)
theorem dX2_leastAsleep_18 : decode cX2_leastAsleep 18 = .ok (.iconst (-1), 1) := dk_2 (dk_at dksX2_leastAsleep_0 18 rfl rfl)
theorem dX2_leastAsleep_19 : decode cX2_leastAsleep 19 = .ok (.ixor, 1) := dk_130 (dk_at dksX2_leastAsleep_0 19 rfl rfl)
theorem dX2_leastAsleep_20 : decode cX2_leastAsleep 20 = .ok (.iand, 1) := dk_126 (dk_at dksX2_leastAsleep_0 20 rfl rfl)
theorem dX2_leastAsleep_21 : decode cX2_leastAsleep 21 = .ok (.ifCond .ne 32, 3) := dk_154 0 32 (dk_at dksX2_leastAsleep_0 21 rfl rfl)
theorem dX2_leastAsleep_24 : decode cX2_leastAsleep 24 = .ok (.iload_n 3, 1) := dk_29 (dk_at dksX2_leastAsleep_1 0 rfl rfl)
theorem dX2_leastAsleep_25 : decode cX2_leastAsleep 25 = .ok (.invokestatic 298, 3) := dk_184 1 42 (dk_at dksX2_leastAsleep_1 1 rfl rfl)
theorem dX2_leastAsleep_28 : decode cX2_leastAsleep 28 = .ok (.iload_n 2, 1) := dk_28 (dk_at dksX2_leastAsleep_1 4 rfl rfl)
theorem dX2_leastAsleep_29 : decode cX2_leastAsleep 29 = .ok (.invokestatic 298, 3) := dk_184 1 42 (dk_at dksX2_leastAsleep_1 5 rfl rfl)
theorem dX2_leastAsleep_32 : decode cX2_leastAsleep 32 = .ok (.if_icmp .le 6, 3) := dk_164 0 6 (dk_at dksX2_leastAsleep_1 8 rfl rfl)
theorem dX2_leastAsleep_35 : decode cX2_leastAsleep 35 = .ok (.goto 18, 3) := dk_167 0 18 (dk_at dksX2_leastAsleep_1 11 rfl rfl)
theorem dX2_leastAsleep_38 : decode cX2_leastAsleep 38 = .ok (.aload_n 0, 1) := dk_42 (dk_at dksX2_leastAsleep_1 14 rfl rfl)
theorem dX2_leastAsleep_39 : decode cX2_leastAsleep 39 = .ok (.iload_n 3, 1) := dk_29 (dk_at dksX2_leastAsleep_1 15 rfl rfl)
theorem dX2_leastAsleep_40 : decode cX2_leastAsleep 40 = .ok (.invokevirtual 408, 3) := dk_182 1 152 (dk_at dksX2_leastAsleep_1 16 rfl rfl)
theorem dX2_leastAsleep_43 : decode cX2_leastAsleep 43 = .ok (.aload_n 0, 1) := dk_42 (dk_at dksX2_leastAsleep_1 19 rfl rfl)
theorem dX2_leastAsleep_44 : decode cX2_leastAsleep 44 = .ok (.iconst 0, 1) := dk_3 (dk_at dksX2_leastAsleep_1 20 rfl rfl)
theorem dX2_leastAsleep_45 : decode cX2_leastAsleep 45 = .ok (.invokevirtual 320, 3) := dk_182 1 64 (dk_at dksX2_leastAsleep_1 21 rfl rfl)
theorem dX2_leastAsleep_48 : decode cX2_leastAsleep 48 = .ok (.ifCond .ne 5, 3) := dk_154 0 5 (dk_at dksX2_leastAsleep_2 0 rfl rfl)
theorem dX2_leastAsleep_51 : decode cX2_leastAsleep 51 = .ok (.iload_n 3, 1) := dk_29 (dk_at dksX2_leastAsleep_2 3 rfl rfl)
theorem dX2_leastAsleep_52 : decode cX2_leastAsleep 52 = .ok (.istore_n 2, 1) := dk_61 (dk_at dksX2_leastAsleep_2 4 rfl rfl)
theorem dX2_leastAsleep_53 : decode cX2_leastAsleep 53 = .ok (.iinc 3 (-1), 3) := dk_132 3 255 (dk_at dksX2_leastAsleep_2 5 rfl rfl)
theorem dX2_leastAsleep_56 : decode cX2_leastAsleep 56 = .ok (.goto (-44), 3) := dk_167 255 212 (dk_at dksX2_leastAsleep_2 8 rfl rfl)
theorem dX2_leastAsleep_59 : decode cX2_leastAsleep 59 = .ok (.aload_n 0, 1) := dk_42 (dk_at dksX2_leastAsleep_2 11 rfl rfl)
theorem dX2_leastAsleep_60 : decode cX2_leastAsleep 60 = .ok (.iload_n 1, 1) := dk_27 (dk_at dksX2_leastAsleep_2 12 rfl rfl)
theorem dX2_leastAsleep_61 : decode cX2_leastAsleep 61 = .ok (.invokevirtual 408, 3) := dk_182 1 152 (dk_at dksX2_leastAsleep_2 13 rfl rfl)
theorem dX2_leastAsleep_64 : decode cX2_leastAsleep 64 = .ok (.iload_n 2, 1) := dk_28 (dk_at dksX2_leastAsleep_2 16 rfl rfl)
theorem dX2_leastAsleep_65 : decode cX2_leastAsleep 65 = .ok (.ireturn, 1) := dk_172 (dk_at dksX2_leastAsleep_2 17 rfl rfl)
abbrev cX2_inBed : ByteArray := prog_21_method_129_code
def yX2_inBed : MethodName := ⟨RX2, "inBed", "()I"⟩
def dkwX2_inBed_1 : List UInt8 := [167, 0, 6, 4, 28, 120, 128, 60, 132, 2, 1, 167, 255, 225, 27, 172]
abbrev dktX2_inBed_1 : List UInt8 := dkwX2_inBed_1 ++ []
def dkwX2_inBed_0 : List UInt8 := [3, 60, 3, 61, 28, 42, 180, 0, 7, 3, 46, 162, 0, 27, 27, 42, 28, 182, 1, 36, 153, 0, 7, 3]
abbrev dktX2_inBed_0 : List UInt8 := dkwX2_inBed_0 ++ dktX2_inBed_1
theorem dksX2_inBed_0 : cX2_inBed.data.toList.drop 0 = dktX2_inBed_0 := by decide +kernel
theorem dksX2_inBed_1 : cX2_inBed.data.toList.drop 24 = dktX2_inBed_1 := dk_seg dksX2_inBed_0 24 rfl rfl
theorem dX2_inBed_0 : decode cX2_inBed 0 = .ok (.iconst 0, 1) := dk_3 (dk_at dksX2_inBed_0 0 rfl rfl)
theorem dX2_inBed_1 : decode cX2_inBed 1 = .ok (.istore_n 1, 1) := dk_60 (dk_at dksX2_inBed_0 1 rfl rfl)
theorem dX2_inBed_2 : decode cX2_inBed 2 = .ok (.iconst 0, 1) := dk_3 (dk_at dksX2_inBed_0 2 rfl rfl)
theorem dX2_inBed_3 : decode cX2_inBed 3 = .ok (.istore_n 2, 1) := dk_61 (dk_at dksX2_inBed_0 3 rfl rfl)
theorem dX2_inBed_4 : decode cX2_inBed 4 = .ok (.iload_n 2, 1) := dk_28 (dk_at dksX2_inBed_0 4 rfl rfl)
theorem dX2_inBed_5 : decode cX2_inBed 5 = .ok (.aload_n 0, 1) := dk_42 (dk_at dksX2_inBed_0 5 rfl rfl)
theorem dX2_inBed_6 : decode cX2_inBed 6 = .ok (.getfield 7, 3) := dk_180 0 7 (dk_at dksX2_inBed_0 6 rfl rfl)
theorem dX2_inBed_9 : decode cX2_inBed 9 = .ok (.iconst 0, 1) := dk_3 (dk_at dksX2_inBed_0 9 rfl rfl)
theorem dX2_inBed_10 : decode cX2_inBed 10 = .ok (.iaload, 1) := dk_46 (dk_at dksX2_inBed_0 10 rfl rfl)
theorem dX2_inBed_11 : decode cX2_inBed 11 = .ok (.if_icmp .ge 27, 3) := dk_162 0 27 (dk_at dksX2_inBed_0 11 rfl rfl)
theorem dX2_inBed_14 : decode cX2_inBed 14 = .ok (.iload_n 1, 1) := dk_27 (dk_at dksX2_inBed_0 14 rfl rfl)
theorem dX2_inBed_15 : decode cX2_inBed 15 = .ok (.aload_n 0, 1) := dk_42 (dk_at dksX2_inBed_0 15 rfl rfl)
theorem dX2_inBed_16 : decode cX2_inBed 16 = .ok (.iload_n 2, 1) := dk_28 (dk_at dksX2_inBed_0 16 rfl rfl)
theorem dX2_inBed_17 : decode cX2_inBed 17 = .ok (.invokevirtual 292, 3) := dk_182 1 36 (dk_at dksX2_inBed_0 17 rfl rfl)
theorem dX2_inBed_20 : decode cX2_inBed 20 = .ok (.ifCond .eq 7, 3) := dk_153 0 7 (dk_at dksX2_inBed_0 20 rfl rfl)
theorem dX2_inBed_23 : decode cX2_inBed 23 = .ok (.iconst 0, 1) := dk_3 (dk_at dksX2_inBed_0 23 rfl rfl)
theorem dX2_inBed_24 : decode cX2_inBed 24 = .ok (.goto 6, 3) := dk_167 0 6 (dk_at dksX2_inBed_1 0 rfl rfl)
theorem dX2_inBed_27 : decode cX2_inBed 27 = .ok (.iconst 1, 1) := dk_4 (dk_at dksX2_inBed_1 3 rfl rfl)
theorem dX2_inBed_28 : decode cX2_inBed 28 = .ok (.iload_n 2, 1) := dk_28 (dk_at dksX2_inBed_1 4 rfl rfl)
theorem dX2_inBed_29 : decode cX2_inBed 29 = .ok (.ishl, 1) := dk_120 (dk_at dksX2_inBed_1 5 rfl rfl)
theorem dX2_inBed_30 : decode cX2_inBed 30 = .ok (.ior, 1) := dk_128 (dk_at dksX2_inBed_1 6 rfl rfl)
theorem dX2_inBed_31 : decode cX2_inBed 31 = .ok (.istore_n 1, 1) := dk_60 (dk_at dksX2_inBed_1 7 rfl rfl)
theorem dX2_inBed_32 : decode cX2_inBed 32 = .ok (.iinc 2 1, 3) := dk_132 2 1 (dk_at dksX2_inBed_1 8 rfl rfl)
theorem dX2_inBed_35 : decode cX2_inBed 35 = .ok (.goto (-31), 3) := dk_167 255 225 (dk_at dksX2_inBed_1 11 rfl rfl)
theorem dX2_inBed_38 : decode cX2_inBed 38 = .ok (.iload_n 1, 1) := dk_27 (dk_at dksX2_inBed_1 14 rfl rfl)
theorem dX2_inBed_39 : decode cX2_inBed 39 = .ok (.ireturn, 1) := dk_172 (dk_at dksX2_inBed_1 15 rfl rfl)
abbrev cX2_layBeds : ByteArray := prog_21_method_130_code
def yX2_layBeds : MethodName := ⟨RX2, "layBeds", "(I)V"⟩
def dkwX2_layBeds_1 : List UInt8 := [132, 2, 1, 167, 255, 232, 177]
abbrev dktX2_layBeds_1 : List UInt8 := dkwX2_layBeds_1 ++ []
def dkwX2_layBeds_0 : List UInt8 := [3, 61, 28, 42, 180, 0, 7, 3, 46, 162, 0, 20, 42, 28, 4, 27, 28, 122, 4, 126, 182, 0, 78]
abbrev dktX2_layBeds_0 : List UInt8 := dkwX2_layBeds_0 ++ dktX2_layBeds_1
theorem dksX2_layBeds_0 : cX2_layBeds.data.toList.drop 0 = dktX2_layBeds_0 := by decide +kernel
theorem dksX2_layBeds_1 : cX2_layBeds.data.toList.drop 23 = dktX2_layBeds_1 := dk_seg dksX2_layBeds_0 23 rfl rfl
theorem dX2_layBeds_0 : decode cX2_layBeds 0 = .ok (.iconst 0, 1) := dk_3 (dk_at dksX2_layBeds_0 0 rfl rfl)
theorem dX2_layBeds_1 : decode cX2_layBeds 1 = .ok (.istore_n 2, 1) := dk_61 (dk_at dksX2_layBeds_0 1 rfl rfl)
theorem dX2_layBeds_2 : decode cX2_layBeds 2 = .ok (.iload_n 2, 1) := dk_28 (dk_at dksX2_layBeds_0 2 rfl rfl)
theorem dX2_layBeds_3 : decode cX2_layBeds 3 = .ok (.aload_n 0, 1) := dk_42 (dk_at dksX2_layBeds_0 3 rfl rfl)
theorem dX2_layBeds_4 : decode cX2_layBeds 4 = .ok (.getfield 7, 3) := dk_180 0 7 (dk_at dksX2_layBeds_0 4 rfl rfl)
theorem dX2_layBeds_7 : decode cX2_layBeds 7 = .ok (.iconst 0, 1) := dk_3 (dk_at dksX2_layBeds_0 7 rfl rfl)
theorem dX2_layBeds_8 : decode cX2_layBeds 8 = .ok (.iaload, 1) := dk_46 (dk_at dksX2_layBeds_0 8 rfl rfl)
theorem dX2_layBeds_9 : decode cX2_layBeds 9 = .ok (.if_icmp .ge 20, 3) := dk_162 0 20 (dk_at dksX2_layBeds_0 9 rfl rfl)
theorem dX2_layBeds_12 : decode cX2_layBeds 12 = .ok (.aload_n 0, 1) := dk_42 (dk_at dksX2_layBeds_0 12 rfl rfl)
theorem dX2_layBeds_13 : decode cX2_layBeds 13 = .ok (.iload_n 2, 1) := dk_28 (dk_at dksX2_layBeds_0 13 rfl rfl)
theorem dX2_layBeds_14 : decode cX2_layBeds 14 = .ok (.iconst 1, 1) := dk_4 (dk_at dksX2_layBeds_0 14 rfl rfl)
theorem dX2_layBeds_15 : decode cX2_layBeds 15 = .ok (.iload_n 1, 1) := dk_27 (dk_at dksX2_layBeds_0 15 rfl rfl)
theorem dX2_layBeds_16 : decode cX2_layBeds 16 = .ok (.iload_n 2, 1) := dk_28 (dk_at dksX2_layBeds_0 16 rfl rfl)
theorem dX2_layBeds_17 : decode cX2_layBeds 17 = .ok (.ishr, 1) := dk_122 (dk_at dksX2_layBeds_0 17 rfl rfl)
theorem dX2_layBeds_18 : decode cX2_layBeds 18 = .ok (.iconst 1, 1) := dk_4 (dk_at dksX2_layBeds_0 18 rfl rfl)
theorem dX2_layBeds_19 : decode cX2_layBeds 19 = .ok (.iand, 1) := dk_126 (dk_at dksX2_layBeds_0 19 rfl rfl)
theorem dX2_layBeds_20 : decode cX2_layBeds 20 = .ok (.invokevirtual 78, 3) := dk_182 0 78 (dk_at dksX2_layBeds_0 20 rfl rfl)
theorem dX2_layBeds_23 : decode cX2_layBeds 23 = .ok (.iinc 2 1, 3) := dk_132 2 1 (dk_at dksX2_layBeds_1 0 rfl rfl)
theorem dX2_layBeds_26 : decode cX2_layBeds 26 = .ok (.goto (-24), 3) := dk_167 255 232 (dk_at dksX2_layBeds_1 3 rfl rfl)
theorem dX2_layBeds_29 : decode cX2_layBeds 29 = .ok (.return_, 1) := dk_177 (dk_at dksX2_layBeds_1 6 rfl rfl)
abbrev cX2_slack : ByteArray := prog_21_method_133_code
def yX2_slack : MethodName := ⟨RX2, "slack", "(I)I"⟩
def dkwX2_slack_1 : List UInt8 := [167, 0, 6, 17, 252, 24, 172]
abbrev dktX2_slack_1 : List UInt8 := dkwX2_slack_1 ++ []
def dkwX2_slack_0 : List UInt8 := [42, 27, 182, 1, 79, 153, 0, 22, 42, 27, 3, 182, 0, 74, 42, 27, 42, 182, 1, 112, 182, 1, 115, 100]
abbrev dktX2_slack_0 : List UInt8 := dkwX2_slack_0 ++ dktX2_slack_1
theorem dksX2_slack_0 : cX2_slack.data.toList.drop 0 = dktX2_slack_0 := by decide +kernel
theorem dksX2_slack_1 : cX2_slack.data.toList.drop 24 = dktX2_slack_1 := dk_seg dksX2_slack_0 24 rfl rfl
theorem dX2_slack_0 : decode cX2_slack 0 = .ok (.aload_n 0, 1) := dk_42 (dk_at dksX2_slack_0 0 rfl rfl)
theorem dX2_slack_1 : decode cX2_slack 1 = .ok (.iload_n 1, 1) := dk_27 (dk_at dksX2_slack_0 1 rfl rfl)
theorem dX2_slack_2 : decode cX2_slack 2 = .ok (.invokevirtual 335, 3) := dk_182 1 79 (dk_at dksX2_slack_0 2 rfl rfl)
theorem dX2_slack_5 : decode cX2_slack 5 = .ok (.ifCond .eq 22, 3) := dk_153 0 22 (dk_at dksX2_slack_0 5 rfl rfl)
theorem dX2_slack_8 : decode cX2_slack 8 = .ok (.aload_n 0, 1) := dk_42 (dk_at dksX2_slack_0 8 rfl rfl)
theorem dX2_slack_9 : decode cX2_slack 9 = .ok (.iload_n 1, 1) := dk_27 (dk_at dksX2_slack_0 9 rfl rfl)
theorem dX2_slack_10 : decode cX2_slack 10 = .ok (.iconst 0, 1) := dk_3 (dk_at dksX2_slack_0 10 rfl rfl)
theorem dX2_slack_11 : decode cX2_slack 11 = .ok (.invokevirtual 74, 3) := dk_182 0 74 (dk_at dksX2_slack_0 11 rfl rfl)
theorem dX2_slack_14 : decode cX2_slack 14 = .ok (.aload_n 0, 1) := dk_42 (dk_at dksX2_slack_0 14 rfl rfl)
theorem dX2_slack_15 : decode cX2_slack 15 = .ok (.iload_n 1, 1) := dk_27 (dk_at dksX2_slack_0 15 rfl rfl)
theorem dX2_slack_16 : decode cX2_slack 16 = .ok (.aload_n 0, 1) := dk_42 (dk_at dksX2_slack_0 16 rfl rfl)
theorem dX2_slack_17 : decode cX2_slack 17 = .ok (.invokevirtual 368, 3) := dk_182 1 112 (dk_at dksX2_slack_0 17 rfl rfl)
theorem dX2_slack_20 : decode cX2_slack 20 = .ok (.invokevirtual 371, 3) := dk_182 1 115 (dk_at dksX2_slack_0 20 rfl rfl)
theorem dX2_slack_23 : decode cX2_slack 23 = .ok (.isub, 1) := dk_100 (dk_at dksX2_slack_0 23 rfl rfl)
theorem dX2_slack_24 : decode cX2_slack 24 = .ok (.goto 6, 3) := dk_167 0 6 (dk_at dksX2_slack_1 0 rfl rfl)
theorem dX2_slack_27 : decode cX2_slack 27 = .ok (.sipush (-1000), 3) := dk_17 252 24 (dk_at dksX2_slack_1 3 rfl rfl)
theorem dX2_slack_30 : decode cX2_slack 30 = .ok (.ireturn, 1) := dk_172 (dk_at dksX2_slack_1 6 rfl rfl)
abbrev cX2_least : ByteArray := prog_21_method_134_code
def yX2_least : MethodName := ⟨RX2, "least", "(I)I"⟩
def dkwX2_least_1 : List UInt8 := [167, 0, 4, 2, 172]
abbrev dktX2_least_1 : List UInt8 := dkwX2_least_1 ++ []
def dkwX2_least_0 : List UInt8 := [42, 27, 182, 1, 79, 153, 0, 22, 42, 27, 42, 182, 1, 112, 182, 1, 115, 133, 3, 16, 99, 184, 1, 32]
abbrev dktX2_least_0 : List UInt8 := dkwX2_least_0 ++ dktX2_least_1
theorem dksX2_least_0 : cX2_least.data.toList.drop 0 = dktX2_least_0 := by decide +kernel
theorem dksX2_least_1 : cX2_least.data.toList.drop 24 = dktX2_least_1 := dk_seg dksX2_least_0 24 rfl rfl
theorem dX2_least_0 : decode cX2_least 0 = .ok (.aload_n 0, 1) := dk_42 (dk_at dksX2_least_0 0 rfl rfl)
theorem dX2_least_1 : decode cX2_least 1 = .ok (.iload_n 1, 1) := dk_27 (dk_at dksX2_least_0 1 rfl rfl)
theorem dX2_least_2 : decode cX2_least 2 = .ok (.invokevirtual 335, 3) := dk_182 1 79 (dk_at dksX2_least_0 2 rfl rfl)
theorem dX2_least_5 : decode cX2_least 5 = .ok (.ifCond .eq 22, 3) := dk_153 0 22 (dk_at dksX2_least_0 5 rfl rfl)
theorem dX2_least_8 : decode cX2_least 8 = .ok (.aload_n 0, 1) := dk_42 (dk_at dksX2_least_0 8 rfl rfl)
theorem dX2_least_9 : decode cX2_least 9 = .ok (.iload_n 1, 1) := dk_27 (dk_at dksX2_least_0 9 rfl rfl)
theorem dX2_least_10 : decode cX2_least 10 = .ok (.aload_n 0, 1) := dk_42 (dk_at dksX2_least_0 10 rfl rfl)
theorem dX2_least_11 : decode cX2_least 11 = .ok (.invokevirtual 368, 3) := dk_182 1 112 (dk_at dksX2_least_0 11 rfl rfl)
theorem dX2_least_14 : decode cX2_least 14 = .ok (.invokevirtual 371, 3) := dk_182 1 115 (dk_at dksX2_least_0 14 rfl rfl)
theorem dX2_least_17 : decode cX2_least 17 = .ok (.i2l, 1) := dk_133 (dk_at dksX2_least_0 17 rfl rfl)
theorem dX2_least_18 : decode cX2_least 18 = .ok (.iconst 0, 1) := dk_3 (dk_at dksX2_least_0 18 rfl rfl)
theorem dX2_least_19 : decode cX2_least 19 = .ok (.bipush 99, 2) := dk_16 99 (dk_at dksX2_least_0 19 rfl rfl)
theorem dX2_least_21 : decode cX2_least 21 = .ok (.invokestatic 288, 3) := dk_184 1 32 (dk_at dksX2_least_0 21 rfl rfl)
theorem dX2_least_24 : decode cX2_least 24 = .ok (.goto 4, 3) := dk_167 0 4 (dk_at dksX2_least_1 0 rfl rfl)
theorem dX2_least_27 : decode cX2_least 27 = .ok (.iconst (-1), 1) := dk_2 (dk_at dksX2_least_1 3 rfl rfl)
theorem dX2_least_28 : decode cX2_least 28 = .ok (.ireturn, 1) := dk_172 (dk_at dksX2_least_1 4 rfl rfl)
abbrev cX2_moves : ByteArray := prog_21_method_135_code
def yX2_moves : MethodName := ⟨RX2, "moves", "(II)I"⟩
def dkwX2_moves_2 : List UInt8 := [182, 1, 64, 130, 28, 122, 4, 126, 172]
abbrev dktX2_moves_2 : List UInt8 := dkwX2_moves_2 ++ []
def dkwX2_moves_1 : List UInt8 := [16, 7, 46, 4, 27, 120, 2, 130, 126, 182, 1, 64, 42, 42, 180, 0, 7, 16, 7, 46, 4, 27, 120, 128]
abbrev dktX2_moves_1 : List UInt8 := dkwX2_moves_1 ++ dktX2_moves_2
def dkwX2_moves_0 : List UInt8 := [42, 27, 182, 1, 79, 153, 0, 11, 42, 28, 182, 1, 79, 154, 0, 5, 2, 172, 42, 42, 180, 0, 7]
abbrev dktX2_moves_0 : List UInt8 := dkwX2_moves_0 ++ dktX2_moves_1
theorem dksX2_moves_0 : cX2_moves.data.toList.drop 0 = dktX2_moves_0 := by decide +kernel
theorem dksX2_moves_1 : cX2_moves.data.toList.drop 23 = dktX2_moves_1 := dk_seg dksX2_moves_0 23 rfl rfl
theorem dksX2_moves_2 : cX2_moves.data.toList.drop 47 = dktX2_moves_2 := dk_seg dksX2_moves_1 24 rfl rfl
theorem dX2_moves_0 : decode cX2_moves 0 = .ok (.aload_n 0, 1) := dk_42 (dk_at dksX2_moves_0 0 rfl rfl)
theorem dX2_moves_1 : decode cX2_moves 1 = .ok (.iload_n 1, 1) := dk_27 (dk_at dksX2_moves_0 1 rfl rfl)
theorem dX2_moves_2 : decode cX2_moves 2 = .ok (.invokevirtual 335, 3) := dk_182 1 79 (dk_at dksX2_moves_0 2 rfl rfl)
theorem dX2_moves_5 : decode cX2_moves 5 = .ok (.ifCond .eq 11, 3) := dk_153 0 11 (dk_at dksX2_moves_0 5 rfl rfl)
theorem dX2_moves_8 : decode cX2_moves 8 = .ok (.aload_n 0, 1) := dk_42 (dk_at dksX2_moves_0 8 rfl rfl)
theorem dX2_moves_9 : decode cX2_moves 9 = .ok (.iload_n 2, 1) := dk_28 (dk_at dksX2_moves_0 9 rfl rfl)
theorem dX2_moves_10 : decode cX2_moves 10 = .ok (.invokevirtual 335, 3) := dk_182 1 79 (dk_at dksX2_moves_0 10 rfl rfl)
theorem dX2_moves_13 : decode cX2_moves 13 = .ok (.ifCond .ne 5, 3) := dk_154 0 5 (dk_at dksX2_moves_0 13 rfl rfl)
theorem dX2_moves_16 : decode cX2_moves 16 = .ok (.iconst (-1), 1) := dk_2 (dk_at dksX2_moves_0 16 rfl rfl)
theorem dX2_moves_17 : decode cX2_moves 17 = .ok (.ireturn, 1) := dk_172 (dk_at dksX2_moves_0 17 rfl rfl)
theorem dX2_moves_18 : decode cX2_moves 18 = .ok (.aload_n 0, 1) := dk_42 (dk_at dksX2_moves_0 18 rfl rfl)
theorem dX2_moves_19 : decode cX2_moves 19 = .ok (.aload_n 0, 1) := dk_42 (dk_at dksX2_moves_0 19 rfl rfl)
theorem dX2_moves_20 : decode cX2_moves 20 = .ok (.getfield 7, 3) := dk_180 0 7 (dk_at dksX2_moves_0 20 rfl rfl)
theorem dX2_moves_23 : decode cX2_moves 23 = .ok (.bipush 7, 2) := dk_16 7 (dk_at dksX2_moves_1 0 rfl rfl)
theorem dX2_moves_25 : decode cX2_moves 25 = .ok (.iaload, 1) := dk_46 (dk_at dksX2_moves_1 2 rfl rfl)
theorem dX2_moves_26 : decode cX2_moves 26 = .ok (.iconst 1, 1) := dk_4 (dk_at dksX2_moves_1 3 rfl rfl)
theorem dX2_moves_27 : decode cX2_moves 27 = .ok (.iload_n 1, 1) := dk_27 (dk_at dksX2_moves_1 4 rfl rfl)
theorem dX2_moves_28 : decode cX2_moves 28 = .ok (.ishl, 1) := dk_120 (dk_at dksX2_moves_1 5 rfl rfl)
theorem dX2_moves_29 : decode cX2_moves 29 = .ok (.iconst (-1), 1) := dk_2 (dk_at dksX2_moves_1 6 rfl rfl)
theorem dX2_moves_30 : decode cX2_moves 30 = .ok (.ixor, 1) := dk_130 (dk_at dksX2_moves_1 7 rfl rfl)
theorem dX2_moves_31 : decode cX2_moves 31 = .ok (.iand, 1) := dk_126 (dk_at dksX2_moves_1 8 rfl rfl)
theorem dX2_moves_32 : decode cX2_moves 32 = .ok (.invokevirtual 320, 3) := dk_182 1 64 (dk_at dksX2_moves_1 9 rfl rfl)
theorem dX2_moves_35 : decode cX2_moves 35 = .ok (.aload_n 0, 1) := dk_42 (dk_at dksX2_moves_1 12 rfl rfl)
theorem dX2_moves_36 : decode cX2_moves 36 = .ok (.aload_n 0, 1) := dk_42 (dk_at dksX2_moves_1 13 rfl rfl)
theorem dX2_moves_37 : decode cX2_moves 37 = .ok (.getfield 7, 3) := dk_180 0 7 (dk_at dksX2_moves_1 14 rfl rfl)
theorem dX2_moves_40 : decode cX2_moves 40 = .ok (.bipush 7, 2) := dk_16 7 (dk_at dksX2_moves_1 17 rfl rfl)
theorem dX2_moves_42 : decode cX2_moves 42 = .ok (.iaload, 1) := dk_46 (dk_at dksX2_moves_1 19 rfl rfl)
theorem dX2_moves_43 : decode cX2_moves 43 = .ok (.iconst 1, 1) := dk_4 (dk_at dksX2_moves_1 20 rfl rfl)
theorem dX2_moves_44 : decode cX2_moves 44 = .ok (.iload_n 1, 1) := dk_27 (dk_at dksX2_moves_1 21 rfl rfl)
theorem dX2_moves_45 : decode cX2_moves 45 = .ok (.ishl, 1) := dk_120 (dk_at dksX2_moves_1 22 rfl rfl)
theorem dX2_moves_46 : decode cX2_moves 46 = .ok (.ior, 1) := dk_128 (dk_at dksX2_moves_1 23 rfl rfl)
theorem dX2_moves_47 : decode cX2_moves 47 = .ok (.invokevirtual 320, 3) := dk_182 1 64 (dk_at dksX2_moves_2 0 rfl rfl)
theorem dX2_moves_50 : decode cX2_moves 50 = .ok (.ixor, 1) := dk_130 (dk_at dksX2_moves_2 3 rfl rfl)
theorem dX2_moves_51 : decode cX2_moves 51 = .ok (.iload_n 2, 1) := dk_28 (dk_at dksX2_moves_2 4 rfl rfl)
theorem dX2_moves_52 : decode cX2_moves 52 = .ok (.ishr, 1) := dk_122 (dk_at dksX2_moves_2 5 rfl rfl)
theorem dX2_moves_53 : decode cX2_moves 53 = .ok (.iconst 1, 1) := dk_4 (dk_at dksX2_moves_2 6 rfl rfl)
theorem dX2_moves_54 : decode cX2_moves 54 = .ok (.iand, 1) := dk_126 (dk_at dksX2_moves_2 7 rfl rfl)
theorem dX2_moves_55 : decode cX2_moves 55 = .ok (.ireturn, 1) := dk_172 (dk_at dksX2_moves_2 8 rfl rfl)
abbrev cX2_said : ByteArray := prog_21_method_136_code
def yX2_said : MethodName := ⟨RX2, "said", "(II)I"⟩
def dkwX2_said_4 : List UInt8 := [180, 0, 7, 8, 46, 172]
abbrev dktX2_said_4 : List UInt8 := dkwX2_said_4 ++ []
def dkwX2_said_3 : List UInt8 := [180, 0, 7, 8, 46, 104, 96, 4, 96, 28, 79, 42, 180, 0, 7, 8, 92, 46, 4, 96, 79, 42]
abbrev dktX2_said_3 : List UInt8 := dkwX2_said_3 ++ dktX2_said_4
def dkwX2_said_2 : List UInt8 := [180, 0, 7, 16, 91, 5, 42, 180, 0, 7, 8, 46, 104, 96, 27, 79, 42, 180, 0, 7, 16, 91, 5, 42]
abbrev dktX2_said_2 : List UInt8 := dkwX2_said_2 ++ dktX2_said_3
def dkwX2_said_1 : List UInt8 := [17, 3, 231, 184, 0, 66, 153, 0, 14, 42, 180, 0, 7, 8, 46, 16, 8, 160, 0, 6, 16, 254, 172, 42]
abbrev dktX2_said_1 : List UInt8 := dkwX2_said_1 ++ dktX2_said_2
def dkwX2_said_0 : List UInt8 := [27, 2, 160, 0, 12, 42, 180, 0, 7, 8, 3, 79, 3, 172, 42, 27, 182, 1, 79, 153, 0, 25, 28, 3]
abbrev dktX2_said_0 : List UInt8 := dkwX2_said_0 ++ dktX2_said_1
theorem dksX2_said_0 : cX2_said.data.toList.drop 0 = dktX2_said_0 := by decide +kernel
theorem dksX2_said_1 : cX2_said.data.toList.drop 24 = dktX2_said_1 := dk_seg dksX2_said_0 24 rfl rfl
theorem dksX2_said_2 : cX2_said.data.toList.drop 48 = dktX2_said_2 := dk_seg dksX2_said_1 24 rfl rfl
theorem dksX2_said_3 : cX2_said.data.toList.drop 72 = dktX2_said_3 := dk_seg dksX2_said_2 24 rfl rfl
theorem dksX2_said_4 : cX2_said.data.toList.drop 94 = dktX2_said_4 := dk_seg dksX2_said_3 22 rfl rfl
theorem dX2_said_0 : decode cX2_said 0 = .ok (.iload_n 1, 1) := dk_27 (dk_at dksX2_said_0 0 rfl rfl)
theorem dX2_said_1 : decode cX2_said 1 = .ok (.iconst (-1), 1) := dk_2 (dk_at dksX2_said_0 1 rfl rfl)
theorem dX2_said_2 : decode cX2_said 2 = .ok (.if_icmp .ne 12, 3) := dk_160 0 12 (dk_at dksX2_said_0 2 rfl rfl)
theorem dX2_said_5 : decode cX2_said 5 = .ok (.aload_n 0, 1) := dk_42 (dk_at dksX2_said_0 5 rfl rfl)
theorem dX2_said_6 : decode cX2_said 6 = .ok (.getfield 7, 3) := dk_180 0 7 (dk_at dksX2_said_0 6 rfl rfl)
theorem dX2_said_9 : decode cX2_said 9 = .ok (.iconst 5, 1) := dk_8 (dk_at dksX2_said_0 9 rfl rfl)
theorem dX2_said_10 : decode cX2_said 10 = .ok (.iconst 0, 1) := dk_3 (dk_at dksX2_said_0 10 rfl rfl)
theorem dX2_said_11 : decode cX2_said 11 = .ok (.iastore, 1) := dk_79 (dk_at dksX2_said_0 11 rfl rfl)
theorem dX2_said_12 : decode cX2_said 12 = .ok (.iconst 0, 1) := dk_3 (dk_at dksX2_said_0 12 rfl rfl)
theorem dX2_said_13 : decode cX2_said 13 = .ok (.ireturn, 1) := dk_172 (dk_at dksX2_said_0 13 rfl rfl)
theorem dX2_said_14 : decode cX2_said 14 = .ok (.aload_n 0, 1) := dk_42 (dk_at dksX2_said_0 14 rfl rfl)
theorem dX2_said_15 : decode cX2_said 15 = .ok (.iload_n 1, 1) := dk_27 (dk_at dksX2_said_0 15 rfl rfl)
theorem dX2_said_16 : decode cX2_said 16 = .ok (.invokevirtual 335, 3) := dk_182 1 79 (dk_at dksX2_said_0 16 rfl rfl)
theorem dX2_said_19 : decode cX2_said 19 = .ok (.ifCond .eq 25, 3) := dk_153 0 25 (dk_at dksX2_said_0 19 rfl rfl)
theorem dX2_said_22 : decode cX2_said 22 = .ok (.iload_n 2, 1) := dk_28 (dk_at dksX2_said_0 22 rfl rfl)
theorem dX2_said_23 : decode cX2_said 23 = .ok (.iconst 0, 1) := dk_3 (dk_at dksX2_said_0 23 rfl rfl)
theorem dX2_said_24 : decode cX2_said 24 = .ok (.sipush 999, 3) := dk_17 3 231 (dk_at dksX2_said_1 0 rfl rfl)
theorem dX2_said_27 : decode cX2_said 27 = .ok (.invokestatic 66, 3) := dk_184 0 66 (dk_at dksX2_said_1 3 rfl rfl)
theorem dX2_said_30 : decode cX2_said 30 = .ok (.ifCond .eq 14, 3) := dk_153 0 14 (dk_at dksX2_said_1 6 rfl rfl)
theorem dX2_said_33 : decode cX2_said 33 = .ok (.aload_n 0, 1) := dk_42 (dk_at dksX2_said_1 9 rfl rfl)
theorem dX2_said_34 : decode cX2_said 34 = .ok (.getfield 7, 3) := dk_180 0 7 (dk_at dksX2_said_1 10 rfl rfl)
theorem dX2_said_37 : decode cX2_said 37 = .ok (.iconst 5, 1) := dk_8 (dk_at dksX2_said_1 13 rfl rfl)
theorem dX2_said_38 : decode cX2_said 38 = .ok (.iaload, 1) := dk_46 (dk_at dksX2_said_1 14 rfl rfl)
theorem dX2_said_39 : decode cX2_said 39 = .ok (.bipush 8, 2) := dk_16 8 (dk_at dksX2_said_1 15 rfl rfl)
theorem dX2_said_41 : decode cX2_said 41 = .ok (.if_icmp .ne 6, 3) := dk_160 0 6 (dk_at dksX2_said_1 17 rfl rfl)
theorem dX2_said_44 : decode cX2_said 44 = .ok (.bipush (-2), 2) := dk_16 254 (dk_at dksX2_said_1 20 rfl rfl)
theorem dX2_said_46 : decode cX2_said 46 = .ok (.ireturn, 1) := dk_172 (dk_at dksX2_said_1 22 rfl rfl)
theorem dX2_said_47 : decode cX2_said 47 = .ok (.aload_n 0, 1) := dk_42 (dk_at dksX2_said_1 23 rfl rfl)
theorem dX2_said_48 : decode cX2_said 48 = .ok (.getfield 7, 3) := dk_180 0 7 (dk_at dksX2_said_2 0 rfl rfl)
theorem dX2_said_51 : decode cX2_said 51 = .ok (.bipush 91, 2) := dk_16 91 (dk_at dksX2_said_2 3 rfl rfl)
theorem dX2_said_53 : decode cX2_said 53 = .ok (.iconst 2, 1) := dk_5 (dk_at dksX2_said_2 5 rfl rfl)
theorem dX2_said_54 : decode cX2_said 54 = .ok (.aload_n 0, 1) := dk_42 (dk_at dksX2_said_2 6 rfl rfl)
theorem dX2_said_55 : decode cX2_said 55 = .ok (.getfield 7, 3) := dk_180 0 7 (dk_at dksX2_said_2 7 rfl rfl)
theorem dX2_said_58 : decode cX2_said 58 = .ok (.iconst 5, 1) := dk_8 (dk_at dksX2_said_2 10 rfl rfl)
theorem dX2_said_59 : decode cX2_said 59 = .ok (.iaload, 1) := dk_46 (dk_at dksX2_said_2 11 rfl rfl)
theorem dX2_said_60 : decode cX2_said 60 = .ok (.imul, 1) := dk_104 (dk_at dksX2_said_2 12 rfl rfl)
theorem dX2_said_61 : decode cX2_said 61 = .ok (.iadd, 1) := dk_96 (dk_at dksX2_said_2 13 rfl rfl)
theorem dX2_said_62 : decode cX2_said 62 = .ok (.iload_n 1, 1) := dk_27 (dk_at dksX2_said_2 14 rfl rfl)
theorem dX2_said_63 : decode cX2_said 63 = .ok (.iastore, 1) := dk_79 (dk_at dksX2_said_2 15 rfl rfl)
theorem dX2_said_64 : decode cX2_said 64 = .ok (.aload_n 0, 1) := dk_42 (dk_at dksX2_said_2 16 rfl rfl)
theorem dX2_said_65 : decode cX2_said 65 = .ok (.getfield 7, 3) := dk_180 0 7 (dk_at dksX2_said_2 17 rfl rfl)
theorem dX2_said_68 : decode cX2_said 68 = .ok (.bipush 91, 2) := dk_16 91 (dk_at dksX2_said_2 20 rfl rfl)
theorem dX2_said_70 : decode cX2_said 70 = .ok (.iconst 2, 1) := dk_5 (dk_at dksX2_said_2 22 rfl rfl)
theorem dX2_said_71 : decode cX2_said 71 = .ok (.aload_n 0, 1) := dk_42 (dk_at dksX2_said_2 23 rfl rfl)
theorem dX2_said_72 : decode cX2_said 72 = .ok (.getfield 7, 3) := dk_180 0 7 (dk_at dksX2_said_3 0 rfl rfl)
theorem dX2_said_75 : decode cX2_said 75 = .ok (.iconst 5, 1) := dk_8 (dk_at dksX2_said_3 3 rfl rfl)
theorem dX2_said_76 : decode cX2_said 76 = .ok (.iaload, 1) := dk_46 (dk_at dksX2_said_3 4 rfl rfl)
theorem dX2_said_77 : decode cX2_said 77 = .ok (.imul, 1) := dk_104 (dk_at dksX2_said_3 5 rfl rfl)
theorem dX2_said_78 : decode cX2_said 78 = .ok (.iadd, 1) := dk_96 (dk_at dksX2_said_3 6 rfl rfl)
theorem dX2_said_79 : decode cX2_said 79 = .ok (.iconst 1, 1) := dk_4 (dk_at dksX2_said_3 7 rfl rfl)
theorem dX2_said_80 : decode cX2_said 80 = .ok (.iadd, 1) := dk_96 (dk_at dksX2_said_3 8 rfl rfl)
theorem dX2_said_81 : decode cX2_said 81 = .ok (.iload_n 2, 1) := dk_28 (dk_at dksX2_said_3 9 rfl rfl)
theorem dX2_said_82 : decode cX2_said 82 = .ok (.iastore, 1) := dk_79 (dk_at dksX2_said_3 10 rfl rfl)
theorem dX2_said_83 : decode cX2_said 83 = .ok (.aload_n 0, 1) := dk_42 (dk_at dksX2_said_3 11 rfl rfl)
theorem dX2_said_84 : decode cX2_said 84 = .ok (.getfield 7, 3) := dk_180 0 7 (dk_at dksX2_said_3 12 rfl rfl)
theorem dX2_said_87 : decode cX2_said 87 = .ok (.iconst 5, 1) := dk_8 (dk_at dksX2_said_3 15 rfl rfl)
theorem dX2_said_88 : decode cX2_said 88 = .ok (.dup2, 1) := dk_92 (dk_at dksX2_said_3 16 rfl rfl)
theorem dX2_said_89 : decode cX2_said 89 = .ok (.iaload, 1) := dk_46 (dk_at dksX2_said_3 17 rfl rfl)
theorem dX2_said_90 : decode cX2_said 90 = .ok (.iconst 1, 1) := dk_4 (dk_at dksX2_said_3 18 rfl rfl)
theorem dX2_said_91 : decode cX2_said 91 = .ok (.iadd, 1) := dk_96 (dk_at dksX2_said_3 19 rfl rfl)
theorem dX2_said_92 : decode cX2_said 92 = .ok (.iastore, 1) := dk_79 (dk_at dksX2_said_3 20 rfl rfl)
theorem dX2_said_93 : decode cX2_said 93 = .ok (.aload_n 0, 1) := dk_42 (dk_at dksX2_said_3 21 rfl rfl)
theorem dX2_said_94 : decode cX2_said 94 = .ok (.getfield 7, 3) := dk_180 0 7 (dk_at dksX2_said_4 0 rfl rfl)
theorem dX2_said_97 : decode cX2_said 97 = .ok (.iconst 5, 1) := dk_8 (dk_at dksX2_said_4 3 rfl rfl)
theorem dX2_said_98 : decode cX2_said 98 = .ok (.iaload, 1) := dk_46 (dk_at dksX2_said_4 4 rfl rfl)
theorem dX2_said_99 : decode cX2_said 99 = .ok (.ireturn, 1) := dk_172 (dk_at dksX2_said_4 5 rfl rfl)
abbrev cX2_whose : ByteArray := prog_21_method_137_code
def yX2_whose : MethodName := ⟨RX2, "whose", "()I"⟩
def dkwX2_whose_5 : List UInt8 := [3, 128, 60, 132, 2, 1, 167, 255, 138, 27, 172]
abbrev dktX2_whose_5 : List UInt8 := dkwX2_whose_5 ++ []
def dkwX2_whose_4 : List UInt8 := [167, 0, 4, 3, 54, 4, 132, 5, 1, 167, 255, 188, 27, 21, 4, 153, 0, 9, 4, 28, 120, 167, 0, 4]
abbrev dktX2_whose_4 : List UInt8 := dkwX2_whose_4 ++ dktX2_whose_5
def dkwX2_whose_3 : List UInt8 := [29, 182, 1, 52, 42, 180, 0, 7, 16, 91, 5, 21, 5, 104, 96, 4, 96, 46, 160, 0, 7, 4]
abbrev dktX2_whose_3 : List UInt8 := dkwX2_whose_3 ++ dktX2_whose_4
def dkwX2_whose_2 : List UInt8 := [153, 0, 49, 42, 28, 42, 180, 0, 7, 16, 91, 5, 21, 5, 104, 96, 46, 42, 180, 0, 7, 16, 7, 46]
abbrev dktX2_whose_2 : List UInt8 := dkwX2_whose_2 ++ dktX2_whose_3
def dkwX2_whose_1 : List UInt8 := [182, 1, 49, 62, 4, 54, 4, 3, 54, 5, 21, 5, 42, 180, 0, 7, 8, 46, 162, 0, 63, 21, 4]
abbrev dktX2_whose_1 : List UInt8 := dkwX2_whose_1 ++ dktX2_whose_2
def dkwX2_whose_0 : List UInt8 := [3, 60, 3, 61, 28, 42, 180, 0, 7, 4, 46, 162, 0, 114, 42, 28, 42, 180, 0, 7, 16, 7, 46]
abbrev dktX2_whose_0 : List UInt8 := dkwX2_whose_0 ++ dktX2_whose_1
theorem dksX2_whose_0 : cX2_whose.data.toList.drop 0 = dktX2_whose_0 := by decide +kernel
theorem dksX2_whose_1 : cX2_whose.data.toList.drop 23 = dktX2_whose_1 := dk_seg dksX2_whose_0 23 rfl rfl
theorem dksX2_whose_2 : cX2_whose.data.toList.drop 46 = dktX2_whose_2 := dk_seg dksX2_whose_1 23 rfl rfl
theorem dksX2_whose_3 : cX2_whose.data.toList.drop 70 = dktX2_whose_3 := dk_seg dksX2_whose_2 24 rfl rfl
theorem dksX2_whose_4 : cX2_whose.data.toList.drop 92 = dktX2_whose_4 := dk_seg dksX2_whose_3 22 rfl rfl
theorem dksX2_whose_5 : cX2_whose.data.toList.drop 116 = dktX2_whose_5 := dk_seg dksX2_whose_4 24 rfl rfl
theorem dX2_whose_0 : decode cX2_whose 0 = .ok (.iconst 0, 1) := dk_3 (dk_at dksX2_whose_0 0 rfl rfl)
theorem dX2_whose_1 : decode cX2_whose 1 = .ok (.istore_n 1, 1) := dk_60 (dk_at dksX2_whose_0 1 rfl rfl)
theorem dX2_whose_2 : decode cX2_whose 2 = .ok (.iconst 0, 1) := dk_3 (dk_at dksX2_whose_0 2 rfl rfl)
theorem dX2_whose_3 : decode cX2_whose 3 = .ok (.istore_n 2, 1) := dk_61 (dk_at dksX2_whose_0 3 rfl rfl)
theorem dX2_whose_4 : decode cX2_whose 4 = .ok (.iload_n 2, 1) := dk_28 (dk_at dksX2_whose_0 4 rfl rfl)
theorem dX2_whose_5 : decode cX2_whose 5 = .ok (.aload_n 0, 1) := dk_42 (dk_at dksX2_whose_0 5 rfl rfl)
theorem dX2_whose_6 : decode cX2_whose 6 = .ok (.getfield 7, 3) := dk_180 0 7 (dk_at dksX2_whose_0 6 rfl rfl)
theorem dX2_whose_9 : decode cX2_whose 9 = .ok (.iconst 1, 1) := dk_4 (dk_at dksX2_whose_0 9 rfl rfl)
theorem dX2_whose_10 : decode cX2_whose 10 = .ok (.iaload, 1) := dk_46 (dk_at dksX2_whose_0 10 rfl rfl)
theorem dX2_whose_11 : decode cX2_whose 11 = .ok (.if_icmp .ge 114, 3) := dk_162 0 114 (dk_at dksX2_whose_0 11 rfl rfl)
theorem dX2_whose_14 : decode cX2_whose 14 = .ok (.aload_n 0, 1) := dk_42 (dk_at dksX2_whose_0 14 rfl rfl)
theorem dX2_whose_15 : decode cX2_whose 15 = .ok (.iload_n 2, 1) := dk_28 (dk_at dksX2_whose_0 15 rfl rfl)
theorem dX2_whose_16 : decode cX2_whose 16 = .ok (.aload_n 0, 1) := dk_42 (dk_at dksX2_whose_0 16 rfl rfl)
theorem dX2_whose_17 : decode cX2_whose 17 = .ok (.getfield 7, 3) := dk_180 0 7 (dk_at dksX2_whose_0 17 rfl rfl)
theorem dX2_whose_20 : decode cX2_whose 20 = .ok (.bipush 7, 2) := dk_16 7 (dk_at dksX2_whose_0 20 rfl rfl)
theorem dX2_whose_22 : decode cX2_whose 22 = .ok (.iaload, 1) := dk_46 (dk_at dksX2_whose_0 22 rfl rfl)
theorem dX2_whose_23 : decode cX2_whose 23 = .ok (.invokevirtual 305, 3) := dk_182 1 49 (dk_at dksX2_whose_1 0 rfl rfl)
theorem dX2_whose_26 : decode cX2_whose 26 = .ok (.istore_n 3, 1) := dk_62 (dk_at dksX2_whose_1 3 rfl rfl)
theorem dX2_whose_27 : decode cX2_whose 27 = .ok (.iconst 1, 1) := dk_4 (dk_at dksX2_whose_1 4 rfl rfl)
theorem dX2_whose_28 : decode cX2_whose 28 = .ok (.istore 4, 2) := dk_54 4 (dk_at dksX2_whose_1 5 rfl rfl)
theorem dX2_whose_30 : decode cX2_whose 30 = .ok (.iconst 0, 1) := dk_3 (dk_at dksX2_whose_1 7 rfl rfl)
theorem dX2_whose_31 : decode cX2_whose 31 = .ok (.istore 5, 2) := dk_54 5 (dk_at dksX2_whose_1 8 rfl rfl)
theorem dX2_whose_33 : decode cX2_whose 33 = .ok (.iload 5, 2) := dk_21 5 (dk_at dksX2_whose_1 10 rfl rfl)
theorem dX2_whose_35 : decode cX2_whose 35 = .ok (.aload_n 0, 1) := dk_42 (dk_at dksX2_whose_1 12 rfl rfl)
theorem dX2_whose_36 : decode cX2_whose 36 = .ok (.getfield 7, 3) := dk_180 0 7 (dk_at dksX2_whose_1 13 rfl rfl)
theorem dX2_whose_39 : decode cX2_whose 39 = .ok (.iconst 5, 1) := dk_8 (dk_at dksX2_whose_1 16 rfl rfl)
theorem dX2_whose_40 : decode cX2_whose 40 = .ok (.iaload, 1) := dk_46 (dk_at dksX2_whose_1 17 rfl rfl)
theorem dX2_whose_41 : decode cX2_whose 41 = .ok (.if_icmp .ge 63, 3) := dk_162 0 63 (dk_at dksX2_whose_1 18 rfl rfl)
theorem dX2_whose_44 : decode cX2_whose 44 = .ok (.iload 4, 2) := dk_21 4 (dk_at dksX2_whose_1 21 rfl rfl)
theorem dX2_whose_46 : decode cX2_whose 46 = .ok (.ifCond .eq 49, 3) := dk_153 0 49 (dk_at dksX2_whose_2 0 rfl rfl)
theorem dX2_whose_49 : decode cX2_whose 49 = .ok (.aload_n 0, 1) := dk_42 (dk_at dksX2_whose_2 3 rfl rfl)
theorem dX2_whose_50 : decode cX2_whose 50 = .ok (.iload_n 2, 1) := dk_28 (dk_at dksX2_whose_2 4 rfl rfl)
theorem dX2_whose_51 : decode cX2_whose 51 = .ok (.aload_n 0, 1) := dk_42 (dk_at dksX2_whose_2 5 rfl rfl)
theorem dX2_whose_52 : decode cX2_whose 52 = .ok (.getfield 7, 3) := dk_180 0 7 (dk_at dksX2_whose_2 6 rfl rfl)
theorem dX2_whose_55 : decode cX2_whose 55 = .ok (.bipush 91, 2) := dk_16 91 (dk_at dksX2_whose_2 9 rfl rfl)
theorem dX2_whose_57 : decode cX2_whose 57 = .ok (.iconst 2, 1) := dk_5 (dk_at dksX2_whose_2 11 rfl rfl)
theorem dX2_whose_58 : decode cX2_whose 58 = .ok (.iload 5, 2) := dk_21 5 (dk_at dksX2_whose_2 12 rfl rfl)
theorem dX2_whose_60 : decode cX2_whose 60 = .ok (.imul, 1) := dk_104 (dk_at dksX2_whose_2 14 rfl rfl)
theorem dX2_whose_61 : decode cX2_whose 61 = .ok (.iadd, 1) := dk_96 (dk_at dksX2_whose_2 15 rfl rfl)
theorem dX2_whose_62 : decode cX2_whose 62 = .ok (.iaload, 1) := dk_46 (dk_at dksX2_whose_2 16 rfl rfl)
theorem dX2_whose_63 : decode cX2_whose 63 = .ok (.aload_n 0, 1) := dk_42 (dk_at dksX2_whose_2 17 rfl rfl)
theorem dX2_whose_64 : decode cX2_whose 64 = .ok (.getfield 7, 3) := dk_180 0 7 (dk_at dksX2_whose_2 18 rfl rfl)
theorem dX2_whose_67 : decode cX2_whose 67 = .ok (.bipush 7, 2) := dk_16 7 (dk_at dksX2_whose_2 21 rfl rfl)
theorem dX2_whose_69 : decode cX2_whose 69 = .ok (.iaload, 1) := dk_46 (dk_at dksX2_whose_2 23 rfl rfl)
theorem dX2_whose_70 : decode cX2_whose 70 = .ok (.iload_n 3, 1) := dk_29 (dk_at dksX2_whose_3 0 rfl rfl)
theorem dX2_whose_71 : decode cX2_whose 71 = .ok (.invokevirtual 308, 3) := dk_182 1 52 (dk_at dksX2_whose_3 1 rfl rfl)
theorem dX2_whose_74 : decode cX2_whose 74 = .ok (.aload_n 0, 1) := dk_42 (dk_at dksX2_whose_3 4 rfl rfl)
theorem dX2_whose_75 : decode cX2_whose 75 = .ok (.getfield 7, 3) := dk_180 0 7 (dk_at dksX2_whose_3 5 rfl rfl)
theorem dX2_whose_78 : decode cX2_whose 78 = .ok (.bipush 91, 2) := dk_16 91 (dk_at dksX2_whose_3 8 rfl rfl)
theorem dX2_whose_80 : decode cX2_whose 80 = .ok (.iconst 2, 1) := dk_5 (dk_at dksX2_whose_3 10 rfl rfl)
theorem dX2_whose_81 : decode cX2_whose 81 = .ok (.iload 5, 2) := dk_21 5 (dk_at dksX2_whose_3 11 rfl rfl)
theorem dX2_whose_83 : decode cX2_whose 83 = .ok (.imul, 1) := dk_104 (dk_at dksX2_whose_3 13 rfl rfl)
theorem dX2_whose_84 : decode cX2_whose 84 = .ok (.iadd, 1) := dk_96 (dk_at dksX2_whose_3 14 rfl rfl)
theorem dX2_whose_85 : decode cX2_whose 85 = .ok (.iconst 1, 1) := dk_4 (dk_at dksX2_whose_3 15 rfl rfl)
theorem dX2_whose_86 : decode cX2_whose 86 = .ok (.iadd, 1) := dk_96 (dk_at dksX2_whose_3 16 rfl rfl)
theorem dX2_whose_87 : decode cX2_whose 87 = .ok (.iaload, 1) := dk_46 (dk_at dksX2_whose_3 17 rfl rfl)
theorem dX2_whose_88 : decode cX2_whose 88 = .ok (.if_icmp .ne 7, 3) := dk_160 0 7 (dk_at dksX2_whose_3 18 rfl rfl)
theorem dX2_whose_91 : decode cX2_whose 91 = .ok (.iconst 1, 1) := dk_4 (dk_at dksX2_whose_3 21 rfl rfl)
theorem dX2_whose_92 : decode cX2_whose 92 = .ok (.goto 4, 3) := dk_167 0 4 (dk_at dksX2_whose_4 0 rfl rfl)
theorem dX2_whose_95 : decode cX2_whose 95 = .ok (.iconst 0, 1) := dk_3 (dk_at dksX2_whose_4 3 rfl rfl)
theorem dX2_whose_96 : decode cX2_whose 96 = .ok (.istore 4, 2) := dk_54 4 (dk_at dksX2_whose_4 4 rfl rfl)
theorem dX2_whose_98 : decode cX2_whose 98 = .ok (.iinc 5 1, 3) := dk_132 5 1 (dk_at dksX2_whose_4 6 rfl rfl)
theorem dX2_whose_101 : decode cX2_whose 101 = .ok (.goto (-68), 3) := dk_167 255 188 (dk_at dksX2_whose_4 9 rfl rfl)
theorem dX2_whose_104 : decode cX2_whose 104 = .ok (.iload_n 1, 1) := dk_27 (dk_at dksX2_whose_4 12 rfl rfl)
theorem dX2_whose_105 : decode cX2_whose 105 = .ok (.iload 4, 2) := dk_21 4 (dk_at dksX2_whose_4 13 rfl rfl)
theorem dX2_whose_107 : decode cX2_whose 107 = .ok (.ifCond .eq 9, 3) := dk_153 0 9 (dk_at dksX2_whose_4 15 rfl rfl)
theorem dX2_whose_110 : decode cX2_whose 110 = .ok (.iconst 1, 1) := dk_4 (dk_at dksX2_whose_4 18 rfl rfl)
theorem dX2_whose_111 : decode cX2_whose 111 = .ok (.iload_n 2, 1) := dk_28 (dk_at dksX2_whose_4 19 rfl rfl)
theorem dX2_whose_112 : decode cX2_whose 112 = .ok (.ishl, 1) := dk_120 (dk_at dksX2_whose_4 20 rfl rfl)
theorem dX2_whose_113 : decode cX2_whose 113 = .ok (.goto 4, 3) := dk_167 0 4 (dk_at dksX2_whose_4 21 rfl rfl)
theorem dX2_whose_116 : decode cX2_whose 116 = .ok (.iconst 0, 1) := dk_3 (dk_at dksX2_whose_5 0 rfl rfl)
theorem dX2_whose_117 : decode cX2_whose 117 = .ok (.ior, 1) := dk_128 (dk_at dksX2_whose_5 1 rfl rfl)
theorem dX2_whose_118 : decode cX2_whose 118 = .ok (.istore_n 1, 1) := dk_60 (dk_at dksX2_whose_5 2 rfl rfl)
theorem dX2_whose_119 : decode cX2_whose 119 = .ok (.iinc 2 1, 3) := dk_132 2 1 (dk_at dksX2_whose_5 3 rfl rfl)
theorem dX2_whose_122 : decode cX2_whose 122 = .ok (.goto (-118), 3) := dk_167 255 138 (dk_at dksX2_whose_5 6 rfl rfl)
theorem dX2_whose_125 : decode cX2_whose 125 = .ok (.iload_n 1, 1) := dk_27 (dk_at dksX2_whose_5 9 rfl rfl)
theorem dX2_whose_126 : decode cX2_whose 126 = .ok (.ireturn, 1) := dk_172 (dk_at dksX2_whose_5 10 rfl rfl)
abbrev cX2_image : ByteArray := prog_21_method_138_code
def yX2_image : MethodName := ⟨RX2, "image", "()I"⟩
def dkwX2_image_0 : List UInt8 := [42, 180, 0, 7, 42, 180, 0, 13, 184, 0, 62, 42, 180, 0, 7, 16, 6, 46, 172]
abbrev dktX2_image_0 : List UInt8 := dkwX2_image_0 ++ []
theorem dksX2_image_0 : cX2_image.data.toList.drop 0 = dktX2_image_0 := by decide +kernel
theorem dX2_image_0 : decode cX2_image 0 = .ok (.aload_n 0, 1) := dk_42 (dk_at dksX2_image_0 0 rfl rfl)
theorem dX2_image_1 : decode cX2_image 1 = .ok (.getfield 7, 3) := dk_180 0 7 (dk_at dksX2_image_0 1 rfl rfl)
theorem dX2_image_4 : decode cX2_image 4 = .ok (.aload_n 0, 1) := dk_42 (dk_at dksX2_image_0 4 rfl rfl)
theorem dX2_image_5 : decode cX2_image 5 = .ok (.getfield 13, 3) := dk_180 0 13 (dk_at dksX2_image_0 5 rfl rfl)
theorem dX2_image_8 : decode cX2_image 8 = .ok (.invokestatic 62, 3) := dk_184 0 62 (dk_at dksX2_image_0 8 rfl rfl)
theorem dX2_image_11 : decode cX2_image 11 = .ok (.aload_n 0, 1) := dk_42 (dk_at dksX2_image_0 11 rfl rfl)
theorem dX2_image_12 : decode cX2_image 12 = .ok (.getfield 7, 3) := dk_180 0 7 (dk_at dksX2_image_0 12 rfl rfl)
theorem dX2_image_15 : decode cX2_image 15 = .ok (.bipush 6, 2) := dk_16 6 (dk_at dksX2_image_0 15 rfl rfl)
theorem dX2_image_17 : decode cX2_image 17 = .ok (.iaload, 1) := dk_46 (dk_at dksX2_image_0 17 rfl rfl)
theorem dX2_image_18 : decode cX2_image 18 = .ok (.ireturn, 1) := dk_172 (dk_at dksX2_image_0 18 rfl rfl)
abbrev cX2_back : ByteArray := prog_21_method_139_code
def yX2_back : MethodName := ⟨RX2, "back", "()I"⟩
def dkwX2_back_0 : List UInt8 := [42, 180, 0, 13, 42, 180, 0, 7, 184, 0, 62, 42, 180, 0, 7, 16, 6, 46, 172]
abbrev dktX2_back_0 : List UInt8 := dkwX2_back_0 ++ []
theorem dksX2_back_0 : cX2_back.data.toList.drop 0 = dktX2_back_0 := by decide +kernel
theorem dX2_back_0 : decode cX2_back 0 = .ok (.aload_n 0, 1) := dk_42 (dk_at dksX2_back_0 0 rfl rfl)
theorem dX2_back_1 : decode cX2_back 1 = .ok (.getfield 13, 3) := dk_180 0 13 (dk_at dksX2_back_0 1 rfl rfl)
theorem dX2_back_4 : decode cX2_back 4 = .ok (.aload_n 0, 1) := dk_42 (dk_at dksX2_back_0 4 rfl rfl)
theorem dX2_back_5 : decode cX2_back 5 = .ok (.getfield 7, 3) := dk_180 0 7 (dk_at dksX2_back_0 5 rfl rfl)
theorem dX2_back_8 : decode cX2_back 8 = .ok (.invokestatic 62, 3) := dk_184 0 62 (dk_at dksX2_back_0 8 rfl rfl)
theorem dX2_back_11 : decode cX2_back 11 = .ok (.aload_n 0, 1) := dk_42 (dk_at dksX2_back_0 11 rfl rfl)
theorem dX2_back_12 : decode cX2_back 12 = .ok (.getfield 7, 3) := dk_180 0 7 (dk_at dksX2_back_0 12 rfl rfl)
theorem dX2_back_15 : decode cX2_back 15 = .ok (.bipush 6, 2) := dk_16 6 (dk_at dksX2_back_0 15 rfl rfl)
theorem dX2_back_17 : decode cX2_back 17 = .ok (.iaload, 1) := dk_46 (dk_at dksX2_back_0 17 rfl rfl)
theorem dX2_back_18 : decode cX2_back 18 = .ok (.ireturn, 1) := dk_172 (dk_at dksX2_back_0 18 rfl rfl)
abbrev cX2_about : ByteArray := prog_21_method_140_code
def yX2_about : MethodName := ⟨RX2, "about", "(I)I"⟩
def dkwX2_about_1 : List UInt8 := [42, 180, 0, 86, 167, 0, 5, 16, 254, 172]
abbrev dktX2_about_1 : List UInt8 := dkwX2_about_1 ++ []
def dkwX2_about_0 : List UInt8 := [27, 3, 8, 184, 0, 66, 153, 0, 12, 42, 180, 0, 7, 27, 46, 167, 0, 18, 27, 16, 6, 160, 0, 10]
abbrev dktX2_about_0 : List UInt8 := dkwX2_about_0 ++ dktX2_about_1
theorem dksX2_about_0 : cX2_about.data.toList.drop 0 = dktX2_about_0 := by decide +kernel
theorem dksX2_about_1 : cX2_about.data.toList.drop 24 = dktX2_about_1 := dk_seg dksX2_about_0 24 rfl rfl
theorem dX2_about_0 : decode cX2_about 0 = .ok (.iload_n 1, 1) := dk_27 (dk_at dksX2_about_0 0 rfl rfl)
theorem dX2_about_1 : decode cX2_about 1 = .ok (.iconst 0, 1) := dk_3 (dk_at dksX2_about_0 1 rfl rfl)
theorem dX2_about_2 : decode cX2_about 2 = .ok (.iconst 5, 1) := dk_8 (dk_at dksX2_about_0 2 rfl rfl)
theorem dX2_about_3 : decode cX2_about 3 = .ok (.invokestatic 66, 3) := dk_184 0 66 (dk_at dksX2_about_0 3 rfl rfl)
theorem dX2_about_6 : decode cX2_about 6 = .ok (.ifCond .eq 12, 3) := dk_153 0 12 (dk_at dksX2_about_0 6 rfl rfl)
theorem dX2_about_9 : decode cX2_about 9 = .ok (.aload_n 0, 1) := dk_42 (dk_at dksX2_about_0 9 rfl rfl)
theorem dX2_about_10 : decode cX2_about 10 = .ok (.getfield 7, 3) := dk_180 0 7 (dk_at dksX2_about_0 10 rfl rfl)
theorem dX2_about_13 : decode cX2_about 13 = .ok (.iload_n 1, 1) := dk_27 (dk_at dksX2_about_0 13 rfl rfl)
theorem dX2_about_14 : decode cX2_about 14 = .ok (.iaload, 1) := dk_46 (dk_at dksX2_about_0 14 rfl rfl)
theorem dX2_about_15 : decode cX2_about 15 = .ok (.goto 18, 3) := dk_167 0 18 (dk_at dksX2_about_0 15 rfl rfl)
theorem dX2_about_18 : decode cX2_about 18 = .ok (.iload_n 1, 1) := dk_27 (dk_at dksX2_about_0 18 rfl rfl)
theorem dX2_about_19 : decode cX2_about 19 = .ok (.bipush 6, 2) := dk_16 6 (dk_at dksX2_about_0 19 rfl rfl)
theorem dX2_about_21 : decode cX2_about 21 = .ok (.if_icmp .ne 10, 3) := dk_160 0 10 (dk_at dksX2_about_0 21 rfl rfl)
theorem dX2_about_24 : decode cX2_about 24 = .ok (.aload_n 0, 1) := dk_42 (dk_at dksX2_about_1 0 rfl rfl)
theorem dX2_about_25 : decode cX2_about 25 = .ok (.getfield 86, 3) := dk_180 0 86 (dk_at dksX2_about_1 1 rfl rfl)
theorem dX2_about_28 : decode cX2_about 28 = .ok (.goto 5, 3) := dk_167 0 5 (dk_at dksX2_about_1 4 rfl rfl)
theorem dX2_about_31 : decode cX2_about 31 = .ok (.bipush (-2), 2) := dk_16 254 (dk_at dksX2_about_1 7 rfl rfl)
theorem dX2_about_33 : decode cX2_about 33 = .ok (.ireturn, 1) := dk_172 (dk_at dksX2_about_1 9 rfl rfl)
theorem q125 : (Jvm.Cond.initialized "TollsForLateModel") ∈ lw_all := lw_g (lw_at lw_m1 5 rfl) rfl
theorem q651 : (Jvm.Cond.selects "TollsForLateModel" ({ cls := "java/lang/Object", name := "getClass", desc := "()Ljava/lang/Class;" } : Jvm.MethodName) ({ cls := "java/lang/Object", name := "getClass", desc := "()Ljava/lang/Class;" } : Jvm.MethodName)) ∈ lw_all := lw_g (lw_at lw_m3 51 rfl) rfl
theorem q1398 : (Jvm.Cond.instantiable "TollsForLateModel" (31 : Nat)) ∈ lw_all := lw_g (lw_at lw_m6 78 rfl) rfl
theorem q1400 : (Jvm.Cond.instanceMethod ({ cls := "TollsForLateModel", name := "<init>", desc := "()V" } : Jvm.MethodName)) ∈ lw_all := lw_g (lw_at lw_m6 80 rfl) rfl
theorem q1401 : (Jvm.Cond.code ({ cls := "TollsForLateModel", name := "<init>", desc := "()V" } : Jvm.MethodName) prog_21_method_1_code (2 : Nat) (Option.none : Option Jvm.ClassFile.FieldType)) ∈ lw_all := lw_g (lw_at lw_m6 81 rfl) rfl
theorem q1402 : (Jvm.Cond.methodLink "TollsForLateModel" (1 : Nat) ({ cls := "java/lang/Object", name := "<init>", desc := "()V" } : Jvm.MethodName)) ∈ lw_all := lw_g (lw_at lw_m6 82 rfl) rfl
theorem q1403 : (Jvm.Cond.methodLink "TollsForLateModel" (62 : Nat) ({ cls := "TollsForLateModel", name := "copy", desc := "([I[I)V" } : Jvm.MethodName)) ∈ lw_all := lw_g (lw_at lw_m6 83 rfl) rfl
theorem q1404 : (Jvm.Cond.static ({ cls := "TollsForLateModel", name := "copy", desc := "([I[I)V" } : Jvm.MethodName)) ∈ lw_all := lw_g (lw_at lw_m6 84 rfl) rfl
theorem q1405 : (Jvm.Cond.code ({ cls := "TollsForLateModel", name := "copy", desc := "([I[I)V" } : Jvm.MethodName) prog_21_method_2_code (3 : Nat) (Option.none : Option Jvm.ClassFile.FieldType)) ∈ lw_all := lw_g (lw_at lw_m6 85 rfl) rfl
theorem q1406 : (Jvm.Cond.fieldLink "TollsForLateModel" (7 : Nat) "TollsForLateModel" "a" "[I") ∈ lw_all := lw_g (lw_at lw_m6 86 rfl) rfl
theorem q1407 : (Jvm.Cond.fieldLink "TollsForLateModel" (13 : Nat) "TollsForLateModel" "image" "[I") ∈ lw_all := lw_g (lw_at lw_m6 87 rfl) rfl
theorem q1408 : (Jvm.Cond.fieldLink "TollsForLateModel" (16 : Nat) "TollsForLateModel" "texts" "[I") ∈ lw_all := lw_g (lw_at lw_m6 88 rfl) rfl
theorem q1409 : (Jvm.Cond.fieldLink "TollsForLateModel" (19 : Nat) "TollsForLateModel" "tape" "[I") ∈ lw_all := lw_g (lw_at lw_m6 89 rfl) rfl
theorem q1410 : (Jvm.Cond.fieldLink "TollsForLateModel" (86 : Nat) "TollsForLateModel" "taped" "I") ∈ lw_all := lw_g (lw_at lw_m6 90 rfl) rfl
theorem q1411 : (Jvm.Cond.fieldLink "TollsForLateModel" (22 : Nat) "TollsForLateModel" "fault" "I") ∈ lw_all := lw_g (lw_at lw_m6 91 rfl) rfl
theorem q1412 : (Jvm.Cond.fieldLink "TollsForLateModel" (26 : Nat) "TollsForLateModel" "faultPlace" "I") ∈ lw_all := lw_g (lw_at lw_m6 92 rfl) rfl
theorem q1413 : (Jvm.Cond.fieldLink "TollsForLateModel" (92 : Nat) "TollsForLateModel" "at" "I") ∈ lw_all := lw_g (lw_at lw_m6 93 rfl) rfl
theorem q1414 : (Jvm.Cond.fieldLink "TollsForLateModel" (99 : Nat) "TollsForLateModel" "place" "I") ∈ lw_all := lw_g (lw_at lw_m6 94 rfl) rfl
theorem q1415 : (Jvm.Cond.fieldLink "TollsForLateModel" (102 : Nat) "TollsForLateModel" "token" "I") ∈ lw_all := lw_g (lw_at lw_m6 95 rfl) rfl
theorem q1416 : (Jvm.Cond.fieldLink "TollsForLateModel" (109 : Nat) "TollsForLateModel" "number" "I") ∈ lw_all := lw_g (lw_at lw_m6 96 rfl) rfl
theorem q1417 : (Jvm.Cond.fieldLink "TollsForLateModel" (116 : Nat) "TollsForLateModel" "word" "J") ∈ lw_all := lw_g (lw_at lw_m6 97 rfl) rfl
theorem q1418 : (Jvm.Cond.fieldLink "TollsForLateModel" (141 : Nat) "TollsForLateModel" "text0" "I") ∈ lw_all := lw_g (lw_at lw_m6 98 rfl) rfl
theorem q1419 : (Jvm.Cond.fieldLink "TollsForLateModel" (144 : Nat) "TollsForLateModel" "written" "I") ∈ lw_all := lw_g (lw_at lw_m6 99 rfl) rfl
theorem q1420 : (Jvm.Cond.fieldLink "TollsForLateModel" (151 : Nat) "TollsForLateModel" "sort0" "I") ∈ lw_all := lw_g (lw_at lw_m6 100 rfl) rfl
theorem q1421 : (Jvm.Cond.fieldLink "TollsForLateModel" (29 : Nat) "TollsForLateModel" "pile" "[I") ∈ lw_all := lw_g (lw_at lw_m6 101 rfl) rfl
theorem q1422 : (Jvm.Cond.fieldLink "TollsForLateModel" (154 : Nat) "TollsForLateModel" "piled" "I") ∈ lw_all := lw_g (lw_at lw_m6 102 rfl) rfl
theorem q1423 : (Jvm.Cond.fieldLink "TollsForLateModel" (164 : Nat) "TollsForLateModel" "opens" "I") ∈ lw_all := lw_g (lw_at lw_m6 103 rfl) rfl
theorem q1424 : (Jvm.Cond.fieldLink "TollsForLateModel" (182 : Nat) "TollsForLateModel" "isWhole" "Z") ∈ lw_all := lw_g (lw_at lw_m6 104 rfl) rfl
theorem q1425 : (Jvm.Cond.fieldLink "TollsForLateModel" (243 : Nat) "TollsForLateModel" "once" "I") ∈ lw_all := lw_g (lw_at lw_m6 105 rfl) rfl
theorem q1426 : (Jvm.Cond.fieldLink "TollsForLateModel" (32 : Nat) "TollsForLateModel" "named" "[I") ∈ lw_all := lw_g (lw_at lw_m6 106 rfl) rfl
theorem q1427 : (Jvm.Cond.fieldLink "TollsForLateModel" (267 : Nat) "TollsForLateModel" "ringsAsked" "I") ∈ lw_all := lw_g (lw_at lw_m6 107 rfl) rfl
theorem q1428 : (Jvm.Cond.fieldLink "TollsForLateModel" (35 : Nat) "TollsForLateModel" "values" "[J") ∈ lw_all := lw_g (lw_at lw_m6 108 rfl) rfl
theorem q1429 : (Jvm.Cond.fieldLink "TollsForLateModel" (39 : Nat) "TollsForLateModel" "truth" "[Z") ∈ lw_all := lw_g (lw_at lw_m6 109 rfl) rfl
theorem q1430 : (Jvm.Cond.fieldLink "TollsForLateModel" (43 : Nat) "TollsForLateModel" "isWritten" "Z") ∈ lw_all := lw_g (lw_at lw_m6 110 rfl) rfl
theorem q1431 : (Jvm.Cond.fieldLink "TollsForLateModel" (323 : Nat) "TollsForLateModel" "lateOnes" "I") ∈ lw_all := lw_g (lw_at lw_m6 111 rfl) rfl
theorem q1432 : (Jvm.Cond.fieldLink "TollsForLateModel" (47 : Nat) "TollsForLateModel" "aside" "[I") ∈ lw_all := lw_g (lw_at lw_m6 112 rfl) rfl
theorem q1433 : (Jvm.Cond.fieldLink "TollsForLateModel" (50 : Nat) "TollsForLateModel" "leads" "[I") ∈ lw_all := lw_g (lw_at lw_m6 113 rfl) rfl
theorem q1434 : (Jvm.Cond.fieldLink "TollsForLateModel" (53 : Nat) "TollsForLateModel" "raced" "[I") ∈ lw_all := lw_g (lw_at lw_m6 114 rfl) rfl
theorem q1435 : (Jvm.Cond.fieldLink "TollsForLateModel" (56 : Nat) "TollsForLateModel" "days" "[I") ∈ lw_all := lw_g (lw_at lw_m6 115 rfl) rfl
theorem q1436 : (Jvm.Cond.fieldLink "TollsForLateModel" (59 : Nat) "TollsForLateModel" "asks" "[I") ∈ lw_all := lw_g (lw_at lw_m6 116 rfl) rfl
theorem q1437 : (Jvm.Cond.laysFinal "TollsForLateModel" "TollsForLateModel" "a" "[I") ∈ lw_all := lw_g (lw_at lw_m6 117 rfl) rfl
theorem q1438 : (Jvm.Cond.soleField "TollsForLateModel" "a") ∈ lw_all := lw_g (lw_at lw_m6 118 rfl) rfl
theorem q1439 : (Jvm.Cond.laysFinal "TollsForLateModel" "TollsForLateModel" "image" "[I") ∈ lw_all := lw_g (lw_at lw_m6 119 rfl) rfl
theorem q1440 : (Jvm.Cond.soleField "TollsForLateModel" "image") ∈ lw_all := lw_g (lw_at lw_m6 120 rfl) rfl
theorem q1441 : (Jvm.Cond.laysFinal "TollsForLateModel" "TollsForLateModel" "texts" "[I") ∈ lw_all := lw_g (lw_at lw_m6 121 rfl) rfl
theorem q1442 : (Jvm.Cond.soleField "TollsForLateModel" "texts") ∈ lw_all := lw_g (lw_at lw_m6 122 rfl) rfl
theorem q1443 : (Jvm.Cond.laysFinal "TollsForLateModel" "TollsForLateModel" "tape" "[I") ∈ lw_all := lw_g (lw_at lw_m6 123 rfl) rfl
theorem q1444 : (Jvm.Cond.soleField "TollsForLateModel" "tape") ∈ lw_all := lw_g (lw_at lw_m6 124 rfl) rfl
theorem q1445 : (Jvm.Cond.lays "TollsForLateModel" "TollsForLateModel" "taped" "I") ∈ lw_all := lw_g (lw_at lw_m6 125 rfl) rfl
theorem q1446 : (Jvm.Cond.soleField "TollsForLateModel" "taped") ∈ lw_all := lw_g (lw_at lw_m6 126 rfl) rfl
theorem q1447 : (Jvm.Cond.lays "TollsForLateModel" "TollsForLateModel" "fault" "I") ∈ lw_all := lw_g (lw_at lw_m6 127 rfl) rfl
theorem q1448 : (Jvm.Cond.soleField "TollsForLateModel" "fault") ∈ lw_all := lw_g (lw_at lw_m6 128 rfl) rfl
theorem q1449 : (Jvm.Cond.lays "TollsForLateModel" "TollsForLateModel" "faultPlace" "I") ∈ lw_all := lw_g (lw_at lw_m6 129 rfl) rfl
theorem q1450 : (Jvm.Cond.soleField "TollsForLateModel" "faultPlace") ∈ lw_all := lw_g (lw_at lw_m6 130 rfl) rfl
theorem q1451 : (Jvm.Cond.lays "TollsForLateModel" "TollsForLateModel" "at" "I") ∈ lw_all := lw_g (lw_at lw_m6 131 rfl) rfl
theorem q1452 : (Jvm.Cond.soleField "TollsForLateModel" "at") ∈ lw_all := lw_g (lw_at lw_m6 132 rfl) rfl
theorem q1453 : (Jvm.Cond.lays "TollsForLateModel" "TollsForLateModel" "place" "I") ∈ lw_all := lw_g (lw_at lw_m6 133 rfl) rfl
theorem q1454 : (Jvm.Cond.soleField "TollsForLateModel" "place") ∈ lw_all := lw_g (lw_at lw_m6 134 rfl) rfl
theorem q1455 : (Jvm.Cond.lays "TollsForLateModel" "TollsForLateModel" "token" "I") ∈ lw_all := lw_g (lw_at lw_m6 135 rfl) rfl
theorem q1456 : (Jvm.Cond.soleField "TollsForLateModel" "token") ∈ lw_all := lw_g (lw_at lw_m6 136 rfl) rfl
theorem q1457 : (Jvm.Cond.lays "TollsForLateModel" "TollsForLateModel" "number" "I") ∈ lw_all := lw_g (lw_at lw_m6 137 rfl) rfl
theorem q1458 : (Jvm.Cond.soleField "TollsForLateModel" "number") ∈ lw_all := lw_g (lw_at lw_m6 138 rfl) rfl
theorem q1459 : (Jvm.Cond.lays "TollsForLateModel" "TollsForLateModel" "word" "J") ∈ lw_all := lw_g (lw_at lw_m6 139 rfl) rfl
theorem q1460 : (Jvm.Cond.soleField "TollsForLateModel" "word") ∈ lw_all := lw_g (lw_at lw_m6 140 rfl) rfl
theorem q1461 : (Jvm.Cond.lays "TollsForLateModel" "TollsForLateModel" "text0" "I") ∈ lw_all := lw_g (lw_at lw_m6 141 rfl) rfl
theorem q1462 : (Jvm.Cond.soleField "TollsForLateModel" "text0") ∈ lw_all := lw_g (lw_at lw_m6 142 rfl) rfl
theorem q1463 : (Jvm.Cond.lays "TollsForLateModel" "TollsForLateModel" "written" "I") ∈ lw_all := lw_g (lw_at lw_m6 143 rfl) rfl
theorem q1464 : (Jvm.Cond.soleField "TollsForLateModel" "written") ∈ lw_all := lw_g (lw_at lw_m6 144 rfl) rfl
theorem q1465 : (Jvm.Cond.lays "TollsForLateModel" "TollsForLateModel" "sort0" "I") ∈ lw_all := lw_g (lw_at lw_m6 145 rfl) rfl
theorem q1466 : (Jvm.Cond.soleField "TollsForLateModel" "sort0") ∈ lw_all := lw_g (lw_at lw_m6 146 rfl) rfl
theorem q1467 : (Jvm.Cond.laysFinal "TollsForLateModel" "TollsForLateModel" "pile" "[I") ∈ lw_all := lw_g (lw_at lw_m6 147 rfl) rfl
theorem q1468 : (Jvm.Cond.soleField "TollsForLateModel" "pile") ∈ lw_all := lw_g (lw_at lw_m6 148 rfl) rfl
theorem q1469 : (Jvm.Cond.lays "TollsForLateModel" "TollsForLateModel" "piled" "I") ∈ lw_all := lw_g (lw_at lw_m6 149 rfl) rfl
theorem q1470 : (Jvm.Cond.soleField "TollsForLateModel" "piled") ∈ lw_all := lw_g (lw_at lw_m6 150 rfl) rfl
theorem q1471 : (Jvm.Cond.lays "TollsForLateModel" "TollsForLateModel" "opens" "I") ∈ lw_all := lw_g (lw_at lw_m6 151 rfl) rfl
theorem q1472 : (Jvm.Cond.soleField "TollsForLateModel" "opens") ∈ lw_all := lw_g (lw_at lw_m6 152 rfl) rfl
theorem q1473 : (Jvm.Cond.lays "TollsForLateModel" "TollsForLateModel" "isWhole" "Z") ∈ lw_all := lw_g (lw_at lw_m6 153 rfl) rfl
theorem q1474 : (Jvm.Cond.soleField "TollsForLateModel" "isWhole") ∈ lw_all := lw_g (lw_at lw_m6 154 rfl) rfl
theorem q1475 : (Jvm.Cond.lays "TollsForLateModel" "TollsForLateModel" "once" "I") ∈ lw_all := lw_g (lw_at lw_m6 155 rfl) rfl
theorem q1476 : (Jvm.Cond.soleField "TollsForLateModel" "once") ∈ lw_all := lw_g (lw_at lw_m6 156 rfl) rfl
theorem q1477 : (Jvm.Cond.laysFinal "TollsForLateModel" "TollsForLateModel" "named" "[I") ∈ lw_all := lw_g (lw_at lw_m6 157 rfl) rfl
theorem q1478 : (Jvm.Cond.soleField "TollsForLateModel" "named") ∈ lw_all := lw_g (lw_at lw_m6 158 rfl) rfl
theorem q1479 : (Jvm.Cond.lays "TollsForLateModel" "TollsForLateModel" "ringsAsked" "I") ∈ lw_all := lw_g (lw_at lw_m6 159 rfl) rfl
theorem q1480 : (Jvm.Cond.soleField "TollsForLateModel" "ringsAsked") ∈ lw_all := lw_g (lw_at lw_m6 160 rfl) rfl
theorem q1481 : (Jvm.Cond.laysFinal "TollsForLateModel" "TollsForLateModel" "values" "[J") ∈ lw_all := lw_g (lw_at lw_m6 161 rfl) rfl
theorem q1482 : (Jvm.Cond.soleField "TollsForLateModel" "values") ∈ lw_all := lw_g (lw_at lw_m6 162 rfl) rfl
theorem q1483 : (Jvm.Cond.laysFinal "TollsForLateModel" "TollsForLateModel" "truth" "[Z") ∈ lw_all := lw_g (lw_at lw_m6 163 rfl) rfl
theorem q1484 : (Jvm.Cond.soleField "TollsForLateModel" "truth") ∈ lw_all := lw_g (lw_at lw_m6 164 rfl) rfl
theorem q1485 : (Jvm.Cond.lays "TollsForLateModel" "TollsForLateModel" "isWritten" "Z") ∈ lw_all := lw_g (lw_at lw_m6 165 rfl) rfl
theorem q1486 : (Jvm.Cond.soleField "TollsForLateModel" "isWritten") ∈ lw_all := lw_g (lw_at lw_m6 166 rfl) rfl
theorem q1487 : (Jvm.Cond.lays "TollsForLateModel" "TollsForLateModel" "lateOnes" "I") ∈ lw_all := lw_g (lw_at lw_m6 167 rfl) rfl
theorem q1488 : (Jvm.Cond.soleField "TollsForLateModel" "lateOnes") ∈ lw_all := lw_g (lw_at lw_m6 168 rfl) rfl
theorem q1489 : (Jvm.Cond.laysFinal "TollsForLateModel" "TollsForLateModel" "aside" "[I") ∈ lw_all := lw_g (lw_at lw_m6 169 rfl) rfl
theorem q1490 : (Jvm.Cond.soleField "TollsForLateModel" "aside") ∈ lw_all := lw_g (lw_at lw_m6 170 rfl) rfl
theorem q1491 : (Jvm.Cond.laysFinal "TollsForLateModel" "TollsForLateModel" "leads" "[I") ∈ lw_all := lw_g (lw_at lw_m6 171 rfl) rfl
theorem q1492 : (Jvm.Cond.soleField "TollsForLateModel" "leads") ∈ lw_all := lw_g (lw_at lw_m6 172 rfl) rfl
theorem q1493 : (Jvm.Cond.laysFinal "TollsForLateModel" "TollsForLateModel" "raced" "[I") ∈ lw_all := lw_g (lw_at lw_m6 173 rfl) rfl
theorem q1494 : (Jvm.Cond.soleField "TollsForLateModel" "raced") ∈ lw_all := lw_g (lw_at lw_m6 174 rfl) rfl
theorem q1495 : (Jvm.Cond.laysFinal "TollsForLateModel" "TollsForLateModel" "days" "[I") ∈ lw_all := lw_g (lw_at lw_m6 175 rfl) rfl
theorem q1496 : (Jvm.Cond.soleField "TollsForLateModel" "days") ∈ lw_all := lw_g (lw_at lw_m6 176 rfl) rfl
theorem q1497 : (Jvm.Cond.laysFinal "TollsForLateModel" "TollsForLateModel" "asks" "[I") ∈ lw_all := lw_g (lw_at lw_m6 177 rfl) rfl
theorem q1498 : (Jvm.Cond.soleField "TollsForLateModel" "asks") ∈ lw_all := lw_g (lw_at lw_m6 178 rfl) rfl
theorem q1499 : (Jvm.Cond.superclass "TollsForLateModel" "java/lang/Object") ∈ lw_all := lw_g (lw_at lw_m6 179 rfl) rfl
theorem q1502 : (Jvm.Cond.instanceMethod ({ cls := "TollsForLateModel", name := "person", desc := "(IIII)I" } : Jvm.MethodName)) ∈ lw_all := lw_g (lw_at lw_m6 182 rfl) rfl
theorem q1503 : (Jvm.Cond.selects "TollsForLateModel" ({ cls := "TollsForLateModel", name := "person", desc := "(IIII)I" } : Jvm.MethodName) ({ cls := "TollsForLateModel", name := "person", desc := "(IIII)I" } : Jvm.MethodName)) ∈ lw_all := lw_g (lw_at lw_m6 183 rfl) rfl
theorem q1504 : (Jvm.Cond.code ({ cls := "TollsForLateModel", name := "person", desc := "(IIII)I" } : Jvm.MethodName) prog_21_method_13_code (6 : Nat) (Option.some Jvm.ClassFile.FieldType.int)) ∈ lw_all := lw_g (lw_at lw_m6 184 rfl) rfl
theorem q1505 : (Jvm.Cond.methodLink "TollsForLateModel" (66 : Nat) ({ cls := "TollsForLateModel", name := "isIn", desc := "(III)Z" } : Jvm.MethodName)) ∈ lw_all := lw_g (lw_at lw_m6 185 rfl) rfl
theorem q1506 : (Jvm.Cond.static ({ cls := "TollsForLateModel", name := "isIn", desc := "(III)Z" } : Jvm.MethodName)) ∈ lw_all := lw_g (lw_at lw_m6 186 rfl) rfl
theorem q1507 : (Jvm.Cond.code ({ cls := "TollsForLateModel", name := "isIn", desc := "(III)Z" } : Jvm.MethodName) prog_21_method_3_code (3 : Nat) (Option.some Jvm.ClassFile.FieldType.boolean)) ∈ lw_all := lw_g (lw_at lw_m6 187 rfl) rfl
theorem q1508 : (Jvm.Cond.methodLink "TollsForLateModel" (78 : Nat) ({ cls := "TollsForLateModel", name := "put", desc := "(III)V" } : Jvm.MethodName)) ∈ lw_all := lw_g (lw_at lw_m6 188 rfl) rfl
theorem q1509 : (Jvm.Cond.privateMethod ({ cls := "TollsForLateModel", name := "put", desc := "(III)V" } : Jvm.MethodName)) ∈ lw_tbl := lw_at lw_m6 189 rfl
theorem q1510 : (Jvm.Cond.instanceMethod ({ cls := "TollsForLateModel", name := "put", desc := "(III)V" } : Jvm.MethodName)) ∈ lw_all := lw_g (lw_at lw_m6 190 rfl) rfl
theorem q1511 : (Jvm.Cond.code ({ cls := "TollsForLateModel", name := "put", desc := "(III)V" } : Jvm.MethodName) prog_21_method_11_code (4 : Nat) (Option.none : Option Jvm.ClassFile.FieldType)) ∈ lw_all := lw_g (lw_at lw_m6 191 rfl) rfl
theorem q1512 : (Jvm.Cond.methodLink "TollsForLateModel" (82 : Nat) ({ cls := "TollsForLateModel", name := "begin", desc := "(I)V" } : Jvm.MethodName)) ∈ lw_all := lw_g (lw_at lw_m6 192 rfl) rfl
theorem q1513 : (Jvm.Cond.privateMethod ({ cls := "TollsForLateModel", name := "begin", desc := "(I)V" } : Jvm.MethodName)) ∈ lw_tbl := lw_at lw_m6 193 rfl
theorem q1514 : (Jvm.Cond.instanceMethod ({ cls := "TollsForLateModel", name := "begin", desc := "(I)V" } : Jvm.MethodName)) ∈ lw_all := lw_g (lw_at lw_m6 194 rfl) rfl
theorem q1515 : (Jvm.Cond.code ({ cls := "TollsForLateModel", name := "begin", desc := "(I)V" } : Jvm.MethodName) prog_21_method_14_code (2 : Nat) (Option.none : Option Jvm.ClassFile.FieldType)) ∈ lw_all := lw_g (lw_at lw_m6 195 rfl) rfl
theorem q1516 : (Jvm.Cond.methodLink "TollsForLateModel" (74 : Nat) ({ cls := "TollsForLateModel", name := "get", desc := "(II)I" } : Jvm.MethodName)) ∈ lw_all := lw_g (lw_at lw_m6 196 rfl) rfl
theorem q1517 : (Jvm.Cond.privateMethod ({ cls := "TollsForLateModel", name := "get", desc := "(II)I" } : Jvm.MethodName)) ∈ lw_tbl := lw_at lw_m6 197 rfl
theorem q1518 : (Jvm.Cond.instanceMethod ({ cls := "TollsForLateModel", name := "get", desc := "(II)I" } : Jvm.MethodName)) ∈ lw_all := lw_g (lw_at lw_m6 198 rfl) rfl
theorem q1519 : (Jvm.Cond.code ({ cls := "TollsForLateModel", name := "get", desc := "(II)I" } : Jvm.MethodName) prog_21_method_10_code (3 : Nat) (Option.some Jvm.ClassFile.FieldType.int)) ∈ lw_all := lw_g (lw_at lw_m6 199 rfl) rfl
theorem q1521 : (Jvm.Cond.instanceMethod ({ cls := "TollsForLateModel", name := "hears", desc := "(IIZ)Z" } : Jvm.MethodName)) ∈ lw_all := lw_g (lw_at lw_m6 201 rfl) rfl
theorem q1522 : (Jvm.Cond.selects "TollsForLateModel" ({ cls := "TollsForLateModel", name := "hears", desc := "(IIZ)Z" } : Jvm.MethodName) ({ cls := "TollsForLateModel", name := "hears", desc := "(IIZ)Z" } : Jvm.MethodName)) ∈ lw_all := lw_g (lw_at lw_m6 202 rfl) rfl
theorem q1523 : (Jvm.Cond.code ({ cls := "TollsForLateModel", name := "hears", desc := "(IIZ)Z" } : Jvm.MethodName) prog_21_method_15_code (4 : Nat) (Option.some Jvm.ClassFile.FieldType.boolean)) ∈ lw_all := lw_g (lw_at lw_m6 203 rfl) rfl
theorem q1525 : (Jvm.Cond.instanceMethod ({ cls := "TollsForLateModel", name := "feed", desc := "(IIIII)I" } : Jvm.MethodName)) ∈ lw_all := lw_g (lw_at lw_m6 205 rfl) rfl
theorem q1526 : (Jvm.Cond.selects "TollsForLateModel" ({ cls := "TollsForLateModel", name := "feed", desc := "(IIIII)I" } : Jvm.MethodName) ({ cls := "TollsForLateModel", name := "feed", desc := "(IIIII)I" } : Jvm.MethodName)) ∈ lw_all := lw_g (lw_at lw_m6 206 rfl) rfl
theorem q1527 : (Jvm.Cond.code ({ cls := "TollsForLateModel", name := "feed", desc := "(IIIII)I" } : Jvm.MethodName) prog_21_method_17_code (6 : Nat) (Option.some Jvm.ClassFile.FieldType.int)) ∈ lw_all := lw_g (lw_at lw_m6 207 rfl) rfl
theorem q1528 : (Jvm.Cond.methodLink "TollsForLateModel" (89 : Nat) ({ cls := "TollsForLateModel", name := "four", desc := "(I)V" } : Jvm.MethodName)) ∈ lw_all := lw_g (lw_at lw_m6 208 rfl) rfl
theorem q1529 : (Jvm.Cond.privateMethod ({ cls := "TollsForLateModel", name := "four", desc := "(I)V" } : Jvm.MethodName)) ∈ lw_tbl := lw_at lw_m6 209 rfl
theorem q1530 : (Jvm.Cond.instanceMethod ({ cls := "TollsForLateModel", name := "four", desc := "(I)V" } : Jvm.MethodName)) ∈ lw_all := lw_g (lw_at lw_m6 210 rfl) rfl
theorem q1531 : (Jvm.Cond.code ({ cls := "TollsForLateModel", name := "four", desc := "(I)V" } : Jvm.MethodName) prog_21_method_16_code (3 : Nat) (Option.none : Option Jvm.ClassFile.FieldType)) ∈ lw_all := lw_g (lw_at lw_m6 211 rfl) rfl
theorem q1533 : (Jvm.Cond.instanceMethod ({ cls := "TollsForLateModel", name := "end", desc := "(I)I" } : Jvm.MethodName)) ∈ lw_all := lw_g (lw_at lw_m6 213 rfl) rfl
theorem q1534 : (Jvm.Cond.selects "TollsForLateModel" ({ cls := "TollsForLateModel", name := "end", desc := "(I)I" } : Jvm.MethodName) ({ cls := "TollsForLateModel", name := "end", desc := "(I)I" } : Jvm.MethodName)) ∈ lw_all := lw_g (lw_at lw_m6 214 rfl) rfl
theorem q1535 : (Jvm.Cond.code ({ cls := "TollsForLateModel", name := "end", desc := "(I)I" } : Jvm.MethodName) prog_21_method_18_code (2 : Nat) (Option.some Jvm.ClassFile.FieldType.int)) ∈ lw_all := lw_g (lw_at lw_m6 215 rfl) rfl
theorem q1537 : (Jvm.Cond.instanceMethod ({ cls := "TollsForLateModel", name := "text", desc := "()I" } : Jvm.MethodName)) ∈ lw_all := lw_g (lw_at lw_m6 217 rfl) rfl
theorem q1538 : (Jvm.Cond.selects "TollsForLateModel" ({ cls := "TollsForLateModel", name := "text", desc := "()I" } : Jvm.MethodName) ({ cls := "TollsForLateModel", name := "text", desc := "()I" } : Jvm.MethodName)) ∈ lw_all := lw_g (lw_at lw_m6 218 rfl) rfl
theorem q1539 : (Jvm.Cond.code ({ cls := "TollsForLateModel", name := "text", desc := "()I" } : Jvm.MethodName) prog_21_method_56_code (1 : Nat) (Option.some Jvm.ClassFile.FieldType.int)) ∈ lw_all := lw_g (lw_at lw_m6 219 rfl) rfl
theorem q1540 : (Jvm.Cond.methodLink "TollsForLateModel" (256 : Nat) ({ cls := "TollsForLateModel", name := "readText", desc := "()I" } : Jvm.MethodName)) ∈ lw_all := lw_g (lw_at lw_m6 220 rfl) rfl
theorem q1541 : (Jvm.Cond.privateMethod ({ cls := "TollsForLateModel", name := "readText", desc := "()I" } : Jvm.MethodName)) ∈ lw_tbl := lw_at lw_m6 221 rfl
theorem q1542 : (Jvm.Cond.instanceMethod ({ cls := "TollsForLateModel", name := "readText", desc := "()I" } : Jvm.MethodName)) ∈ lw_all := lw_g (lw_at lw_m6 222 rfl) rfl
theorem q1543 : (Jvm.Cond.code ({ cls := "TollsForLateModel", name := "readText", desc := "()I" } : Jvm.MethodName) prog_21_method_55_code (2 : Nat) (Option.some Jvm.ClassFile.FieldType.int)) ∈ lw_all := lw_g (lw_at lw_m6 223 rfl) rfl
theorem q1544 : (Jvm.Cond.methodLink "TollsForLateModel" (173 : Nat) ({ cls := "TollsForLateModel", name := "nextToken", desc := "()V" } : Jvm.MethodName)) ∈ lw_all := lw_g (lw_at lw_m6 224 rfl) rfl
theorem q1545 : (Jvm.Cond.privateMethod ({ cls := "TollsForLateModel", name := "nextToken", desc := "()V" } : Jvm.MethodName)) ∈ lw_tbl := lw_at lw_m6 225 rfl
theorem q1546 : (Jvm.Cond.instanceMethod ({ cls := "TollsForLateModel", name := "nextToken", desc := "()V" } : Jvm.MethodName)) ∈ lw_all := lw_g (lw_at lw_m6 226 rfl) rfl
theorem q1547 : (Jvm.Cond.code ({ cls := "TollsForLateModel", name := "nextToken", desc := "()V" } : Jvm.MethodName) prog_21_method_23_code (2 : Nat) (Option.none : Option Jvm.ClassFile.FieldType)) ∈ lw_all := lw_g (lw_at lw_m6 227 rfl) rfl
theorem q1548 : (Jvm.Cond.methodLink "TollsForLateModel" (95 : Nat) ({ cls := "TollsForLateModel", name := "byteAt", desc := "(I)I" } : Jvm.MethodName)) ∈ lw_all := lw_g (lw_at lw_m6 228 rfl) rfl
theorem q1549 : (Jvm.Cond.privateMethod ({ cls := "TollsForLateModel", name := "byteAt", desc := "(I)I" } : Jvm.MethodName)) ∈ lw_tbl := lw_at lw_m6 229 rfl
theorem q1550 : (Jvm.Cond.instanceMethod ({ cls := "TollsForLateModel", name := "byteAt", desc := "(I)I" } : Jvm.MethodName)) ∈ lw_all := lw_g (lw_at lw_m6 230 rfl) rfl
theorem q1551 : (Jvm.Cond.code ({ cls := "TollsForLateModel", name := "byteAt", desc := "(I)I" } : Jvm.MethodName) prog_21_method_19_code (2 : Nat) (Option.some Jvm.ClassFile.FieldType.int)) ∈ lw_all := lw_g (lw_at lw_m6 231 rfl) rfl
theorem q1552 : (Jvm.Cond.methodLink "TollsForLateModel" (105 : Nat) ({ cls := "TollsForLateModel", name := "isFigure", desc := "(I)Z" } : Jvm.MethodName)) ∈ lw_all := lw_g (lw_at lw_m6 232 rfl) rfl
theorem q1553 : (Jvm.Cond.static ({ cls := "TollsForLateModel", name := "isFigure", desc := "(I)Z" } : Jvm.MethodName)) ∈ lw_all := lw_g (lw_at lw_m6 233 rfl) rfl
theorem q1554 : (Jvm.Cond.code ({ cls := "TollsForLateModel", name := "isFigure", desc := "(I)Z" } : Jvm.MethodName) prog_21_method_21_code (1 : Nat) (Option.some Jvm.ClassFile.FieldType.boolean)) ∈ lw_all := lw_g (lw_at lw_m6 234 rfl) rfl
theorem q1555 : (Jvm.Cond.constant "TollsForLateModel" (112 : Nat) (99999 : Int32)) ∈ lw_all := lw_g (lw_at lw_m6 235 rfl) rfl
theorem q1556 : (Jvm.Cond.methodLink "TollsForLateModel" (113 : Nat) ({ cls := "TollsForLateModel", name := "isLetterByte", desc := "(I)Z" } : Jvm.MethodName)) ∈ lw_all := lw_g (lw_at lw_m6 236 rfl) rfl
theorem q1557 : (Jvm.Cond.static ({ cls := "TollsForLateModel", name := "isLetterByte", desc := "(I)Z" } : Jvm.MethodName)) ∈ lw_all := lw_g (lw_at lw_m6 237 rfl) rfl
theorem q1558 : (Jvm.Cond.code ({ cls := "TollsForLateModel", name := "isLetterByte", desc := "(I)Z" } : Jvm.MethodName) prog_21_method_20_code (1 : Nat) (Option.some Jvm.ClassFile.FieldType.boolean)) ∈ lw_all := lw_g (lw_at lw_m6 238 rfl) rfl
theorem q1559 : (Jvm.Cond.constantLong "TollsForLateModel" (120 : Nat) (1152921504606846976 : Int64)) ∈ lw_all := lw_g (lw_at lw_m6 239 rfl) rfl
theorem q1560 : (Jvm.Cond.methodLink "TollsForLateModel" (122 : Nat) ({ cls := "TollsForLateModel", name := "isSign", desc := "(I)Z" } : Jvm.MethodName)) ∈ lw_all := lw_g (lw_at lw_m7 0 rfl) rfl
theorem q1561 : (Jvm.Cond.static ({ cls := "TollsForLateModel", name := "isSign", desc := "(I)Z" } : Jvm.MethodName)) ∈ lw_all := lw_g (lw_at lw_m7 1 rfl) rfl
theorem q1562 : (Jvm.Cond.code ({ cls := "TollsForLateModel", name := "isSign", desc := "(I)Z" } : Jvm.MethodName) prog_21_method_22_code (1 : Nat) (Option.some Jvm.ClassFile.FieldType.boolean)) ∈ lw_all := lw_g (lw_at lw_m7 2 rfl) rfl
theorem q1563 : (Jvm.Cond.methodLink "TollsForLateModel" (253 : Nat) ({ cls := "TollsForLateModel", name := "clause", desc := "()I" } : Jvm.MethodName)) ∈ lw_all := lw_g (lw_at lw_m7 3 rfl) rfl
theorem q1564 : (Jvm.Cond.privateMethod ({ cls := "TollsForLateModel", name := "clause", desc := "()I" } : Jvm.MethodName)) ∈ lw_tbl := lw_at lw_m7 4 rfl
theorem q1565 : (Jvm.Cond.instanceMethod ({ cls := "TollsForLateModel", name := "clause", desc := "()I" } : Jvm.MethodName)) ∈ lw_all := lw_g (lw_at lw_m7 5 rfl) rfl
theorem q1566 : (Jvm.Cond.code ({ cls := "TollsForLateModel", name := "clause", desc := "()I" } : Jvm.MethodName) prog_21_method_54_code (5 : Nat) (Option.some Jvm.ClassFile.FieldType.int)) ∈ lw_all := lw_g (lw_at lw_m7 6 rfl) rfl
theorem q1567 : (Jvm.Cond.methodLink "TollsForLateModel" (240 : Nat) ({ cls := "TollsForLateModel", name := "sortOf", desc := "()I" } : Jvm.MethodName)) ∈ lw_all := lw_g (lw_at lw_m7 7 rfl) rfl
theorem q1568 : (Jvm.Cond.privateMethod ({ cls := "TollsForLateModel", name := "sortOf", desc := "()I" } : Jvm.MethodName)) ∈ lw_tbl := lw_at lw_m7 8 rfl
theorem q1569 : (Jvm.Cond.instanceMethod ({ cls := "TollsForLateModel", name := "sortOf", desc := "()I" } : Jvm.MethodName)) ∈ lw_all := lw_g (lw_at lw_m7 9 rfl) rfl
theorem q1570 : (Jvm.Cond.code ({ cls := "TollsForLateModel", name := "sortOf", desc := "()I" } : Jvm.MethodName) prog_21_method_53_code (1 : Nat) (Option.some Jvm.ClassFile.FieldType.int)) ∈ lw_all := lw_g (lw_at lw_m7 10 rfl) rfl
theorem q1571 : (Jvm.Cond.methodLink "TollsForLateModel" (133 : Nat) ({ cls := "TollsForLateModel", name := "w4", desc := "(IIII)J" } : Jvm.MethodName)) ∈ lw_all := lw_g (lw_at lw_m7 11 rfl) rfl
theorem q1572 : (Jvm.Cond.static ({ cls := "TollsForLateModel", name := "w4", desc := "(IIII)J" } : Jvm.MethodName)) ∈ lw_all := lw_g (lw_at lw_m7 12 rfl) rfl
theorem q1573 : (Jvm.Cond.code ({ cls := "TollsForLateModel", name := "w4", desc := "(IIII)J" } : Jvm.MethodName) prog_21_method_26_code (4 : Nat) (Option.some Jvm.ClassFile.FieldType.long)) ∈ lw_all := lw_g (lw_at lw_m7 13 rfl) rfl
theorem q1574 : (Jvm.Cond.methodLink "TollsForLateModel" (129 : Nat) ({ cls := "TollsForLateModel", name := "w3", desc := "(III)J" } : Jvm.MethodName)) ∈ lw_all := lw_g (lw_at lw_m7 14 rfl) rfl
theorem q1575 : (Jvm.Cond.static ({ cls := "TollsForLateModel", name := "w3", desc := "(III)J" } : Jvm.MethodName)) ∈ lw_all := lw_g (lw_at lw_m7 15 rfl) rfl
theorem q1576 : (Jvm.Cond.code ({ cls := "TollsForLateModel", name := "w3", desc := "(III)J" } : Jvm.MethodName) prog_21_method_25_code (3 : Nat) (Option.some Jvm.ClassFile.FieldType.long)) ∈ lw_all := lw_g (lw_at lw_m7 16 rfl) rfl
theorem q1577 : (Jvm.Cond.methodLink "TollsForLateModel" (125 : Nat) ({ cls := "TollsForLateModel", name := "w2", desc := "(II)J" } : Jvm.MethodName)) ∈ lw_all := lw_g (lw_at lw_m7 17 rfl) rfl
theorem q1578 : (Jvm.Cond.static ({ cls := "TollsForLateModel", name := "w2", desc := "(II)J" } : Jvm.MethodName)) ∈ lw_all := lw_g (lw_at lw_m7 18 rfl) rfl
theorem q1579 : (Jvm.Cond.code ({ cls := "TollsForLateModel", name := "w2", desc := "(II)J" } : Jvm.MethodName) prog_21_method_24_code (2 : Nat) (Option.some Jvm.ClassFile.FieldType.long)) ∈ lw_all := lw_g (lw_at lw_m7 19 rfl) rfl
theorem q1580 : (Jvm.Cond.methodLink "TollsForLateModel" (191 : Nat) ({ cls := "TollsForLateModel", name := "isWord", desc := "(J)Z" } : Jvm.MethodName)) ∈ lw_all := lw_g (lw_at lw_m7 20 rfl) rfl
theorem q1581 : (Jvm.Cond.privateMethod ({ cls := "TollsForLateModel", name := "isWord", desc := "(J)Z" } : Jvm.MethodName)) ∈ lw_tbl := lw_at lw_m7 21 rfl
theorem q1582 : (Jvm.Cond.instanceMethod ({ cls := "TollsForLateModel", name := "isWord", desc := "(J)Z" } : Jvm.MethodName)) ∈ lw_all := lw_g (lw_at lw_m7 22 rfl) rfl
theorem q1583 : (Jvm.Cond.code ({ cls := "TollsForLateModel", name := "isWord", desc := "(J)Z" } : Jvm.MethodName) prog_21_method_29_code (3 : Nat) (Option.some Jvm.ClassFile.FieldType.boolean)) ∈ lw_all := lw_g (lw_at lw_m7 23 rfl) rfl
theorem q1584 : (Jvm.Cond.methodLink "TollsForLateModel" (137 : Nat) ({ cls := "TollsForLateModel", name := "w5", desc := "(IIIII)J" } : Jvm.MethodName)) ∈ lw_all := lw_g (lw_at lw_m7 24 rfl) rfl
theorem q1585 : (Jvm.Cond.static ({ cls := "TollsForLateModel", name := "w5", desc := "(IIIII)J" } : Jvm.MethodName)) ∈ lw_all := lw_g (lw_at lw_m7 25 rfl) rfl
theorem q1586 : (Jvm.Cond.code ({ cls := "TollsForLateModel", name := "w5", desc := "(IIIII)J" } : Jvm.MethodName) prog_21_method_27_code (5 : Nat) (Option.some Jvm.ClassFile.FieldType.long)) ∈ lw_all := lw_g (lw_at lw_m7 26 rfl) rfl
theorem q1587 : (Jvm.Cond.methodLink "TollsForLateModel" (236 : Nat) ({ cls := "TollsForLateModel", name := "w6", desc := "(IIIIII)J" } : Jvm.MethodName)) ∈ lw_all := lw_g (lw_at lw_m7 27 rfl) rfl
theorem q1588 : (Jvm.Cond.static ({ cls := "TollsForLateModel", name := "w6", desc := "(IIIIII)J" } : Jvm.MethodName)) ∈ lw_all := lw_g (lw_at lw_m7 28 rfl) rfl
theorem q1589 : (Jvm.Cond.code ({ cls := "TollsForLateModel", name := "w6", desc := "(IIIIII)J" } : Jvm.MethodName) prog_21_method_28_code (6 : Nat) (Option.some Jvm.ClassFile.FieldType.long)) ∈ lw_all := lw_g (lw_at lw_m7 29 rfl) rfl
theorem q1590 : (Jvm.Cond.methodLink "TollsForLateModel" (246 : Nat) ({ cls := "TollsForLateModel", name := "has", desc := "(II)Z" } : Jvm.MethodName)) ∈ lw_all := lw_g (lw_at lw_m7 30 rfl) rfl
theorem q1591 : (Jvm.Cond.static ({ cls := "TollsForLateModel", name := "has", desc := "(II)Z" } : Jvm.MethodName)) ∈ lw_all := lw_g (lw_at lw_m7 31 rfl) rfl
theorem q1592 : (Jvm.Cond.code ({ cls := "TollsForLateModel", name := "has", desc := "(II)Z" } : Jvm.MethodName) prog_21_method_5_code (2 : Nat) (Option.some Jvm.ClassFile.FieldType.boolean)) ∈ lw_all := lw_g (lw_at lw_m7 32 rfl) rfl
theorem q1593 : (Jvm.Cond.methodLink "TollsForLateModel" (250 : Nat) ({ cls := "TollsForLateModel", name := "body", desc := "(II)I" } : Jvm.MethodName)) ∈ lw_all := lw_g (lw_at lw_m7 33 rfl) rfl
theorem q1594 : (Jvm.Cond.privateMethod ({ cls := "TollsForLateModel", name := "body", desc := "(II)I" } : Jvm.MethodName)) ∈ lw_tbl := lw_at lw_m7 34 rfl
theorem q1595 : (Jvm.Cond.instanceMethod ({ cls := "TollsForLateModel", name := "body", desc := "(II)I" } : Jvm.MethodName)) ∈ lw_all := lw_g (lw_at lw_m7 35 rfl) rfl
theorem q1596 : (Jvm.Cond.code ({ cls := "TollsForLateModel", name := "body", desc := "(II)I" } : Jvm.MethodName) prog_21_method_52_code (3 : Nat) (Option.some Jvm.ClassFile.FieldType.int)) ∈ lw_all := lw_g (lw_at lw_m7 36 rfl) rfl
theorem q1597 : (Jvm.Cond.methodLink "TollsForLateModel" (227 : Nat) ({ cls := "TollsForLateModel", name := "personClause", desc := "(I)I" } : Jvm.MethodName)) ∈ lw_all := lw_g (lw_at lw_m7 37 rfl) rfl
theorem q1598 : (Jvm.Cond.privateMethod ({ cls := "TollsForLateModel", name := "personClause", desc := "(I)I" } : Jvm.MethodName)) ∈ lw_tbl := lw_at lw_m7 38 rfl
theorem q1599 : (Jvm.Cond.instanceMethod ({ cls := "TollsForLateModel", name := "personClause", desc := "(I)I" } : Jvm.MethodName)) ∈ lw_all := lw_g (lw_at lw_m7 39 rfl) rfl
theorem q1600 : (Jvm.Cond.code ({ cls := "TollsForLateModel", name := "personClause", desc := "(I)I" } : Jvm.MethodName) prog_21_method_50_code (3 : Nat) (Option.some Jvm.ClassFile.FieldType.int)) ∈ lw_all := lw_g (lw_at lw_m7 40 rfl) rfl
theorem q1601 : (Jvm.Cond.methodLink "TollsForLateModel" (216 : Nat) ({ cls := "TollsForLateModel", name := "figure", desc := "(III)I" } : Jvm.MethodName)) ∈ lw_all := lw_g (lw_at lw_m7 41 rfl) rfl
theorem q1602 : (Jvm.Cond.privateMethod ({ cls := "TollsForLateModel", name := "figure", desc := "(III)I" } : Jvm.MethodName)) ∈ lw_tbl := lw_at lw_m7 42 rfl
theorem q1603 : (Jvm.Cond.instanceMethod ({ cls := "TollsForLateModel", name := "figure", desc := "(III)I" } : Jvm.MethodName)) ∈ lw_all := lw_g (lw_at lw_m7 43 rfl) rfl
theorem q1604 : (Jvm.Cond.code ({ cls := "TollsForLateModel", name := "figure", desc := "(III)I" } : Jvm.MethodName) prog_21_method_47_code (4 : Nat) (Option.some Jvm.ClassFile.FieldType.int)) ∈ lw_all := lw_g (lw_at lw_m7 44 rfl) rfl
theorem q1605 : (Jvm.Cond.methodLink "TollsForLateModel" (223 : Nat) ({ cls := "TollsForLateModel", name := "worded", desc := "(JIII)I" } : Jvm.MethodName)) ∈ lw_all := lw_g (lw_at lw_m7 45 rfl) rfl
theorem q1606 : (Jvm.Cond.privateMethod ({ cls := "TollsForLateModel", name := "worded", desc := "(JIII)I" } : Jvm.MethodName)) ∈ lw_tbl := lw_at lw_m7 46 rfl
theorem q1607 : (Jvm.Cond.instanceMethod ({ cls := "TollsForLateModel", name := "worded", desc := "(JIII)I" } : Jvm.MethodName)) ∈ lw_all := lw_g (lw_at lw_m7 47 rfl) rfl
theorem q1608 : (Jvm.Cond.code ({ cls := "TollsForLateModel", name := "worded", desc := "(JIII)I" } : Jvm.MethodName) prog_21_method_48_code (6 : Nat) (Option.some Jvm.ClassFile.FieldType.int)) ∈ lw_all := lw_g (lw_at lw_m7 48 rfl) rfl
theorem q1609 : (Jvm.Cond.methodLink "TollsForLateModel" (230 : Nat) ({ cls := "TollsForLateModel", name := "dueClause", desc := "(I)I" } : Jvm.MethodName)) ∈ lw_all := lw_g (lw_at lw_m7 49 rfl) rfl
theorem q1610 : (Jvm.Cond.privateMethod ({ cls := "TollsForLateModel", name := "dueClause", desc := "(I)I" } : Jvm.MethodName)) ∈ lw_tbl := lw_at lw_m7 50 rfl
theorem q1611 : (Jvm.Cond.instanceMethod ({ cls := "TollsForLateModel", name := "dueClause", desc := "(I)I" } : Jvm.MethodName)) ∈ lw_all := lw_g (lw_at lw_m7 51 rfl) rfl
theorem q1612 : (Jvm.Cond.code ({ cls := "TollsForLateModel", name := "dueClause", desc := "(I)I" } : Jvm.MethodName) prog_21_method_51_code (3 : Nat) (Option.some Jvm.ClassFile.FieldType.int)) ∈ lw_all := lw_g (lw_at lw_m7 52 rfl) rfl
theorem q1613 : (Jvm.Cond.methodLink "TollsForLateModel" (233 : Nat) ({ cls := "TollsForLateModel", name := "lawClause", desc := "(I)I" } : Jvm.MethodName)) ∈ lw_all := lw_g (lw_at lw_m7 53 rfl) rfl
theorem q1614 : (Jvm.Cond.privateMethod ({ cls := "TollsForLateModel", name := "lawClause", desc := "(I)I" } : Jvm.MethodName)) ∈ lw_tbl := lw_at lw_m7 54 rfl
theorem q1615 : (Jvm.Cond.instanceMethod ({ cls := "TollsForLateModel", name := "lawClause", desc := "(I)I" } : Jvm.MethodName)) ∈ lw_all := lw_g (lw_at lw_m7 55 rfl) rfl
theorem q1616 : (Jvm.Cond.code ({ cls := "TollsForLateModel", name := "lawClause", desc := "(I)I" } : Jvm.MethodName) prog_21_method_49_code (3 : Nat) (Option.some Jvm.ClassFile.FieldType.int)) ∈ lw_all := lw_g (lw_at lw_m7 56 rfl) rfl
theorem q1617 : (Jvm.Cond.methodLink "TollsForLateModel" (220 : Nat) ({ cls := "TollsForLateModel", name := "summed", desc := "()I" } : Jvm.MethodName)) ∈ lw_all := lw_g (lw_at lw_m7 57 rfl) rfl
theorem q1618 : (Jvm.Cond.privateMethod ({ cls := "TollsForLateModel", name := "summed", desc := "()I" } : Jvm.MethodName)) ∈ lw_tbl := lw_at lw_m7 58 rfl
theorem q1619 : (Jvm.Cond.instanceMethod ({ cls := "TollsForLateModel", name := "summed", desc := "()I" } : Jvm.MethodName)) ∈ lw_all := lw_g (lw_at lw_m7 59 rfl) rfl
theorem q1620 : (Jvm.Cond.code ({ cls := "TollsForLateModel", name := "summed", desc := "()I" } : Jvm.MethodName) prog_21_method_46_code (2 : Nat) (Option.some Jvm.ClassFile.FieldType.int)) ∈ lw_all := lw_g (lw_at lw_m7 60 rfl) rfl
theorem q1621 : (Jvm.Cond.methodLink "TollsForLateModel" (210 : Nat) ({ cls := "TollsForLateModel", name := "behindOne", desc := "()Z" } : Jvm.MethodName)) ∈ lw_all := lw_g (lw_at lw_m7 61 rfl) rfl
theorem q1622 : (Jvm.Cond.privateMethod ({ cls := "TollsForLateModel", name := "behindOne", desc := "()Z" } : Jvm.MethodName)) ∈ lw_tbl := lw_at lw_m7 62 rfl
theorem q1623 : (Jvm.Cond.instanceMethod ({ cls := "TollsForLateModel", name := "behindOne", desc := "()Z" } : Jvm.MethodName)) ∈ lw_all := lw_g (lw_at lw_m7 63 rfl) rfl
theorem q1624 : (Jvm.Cond.code ({ cls := "TollsForLateModel", name := "behindOne", desc := "()Z" } : Jvm.MethodName) prog_21_method_45_code (4 : Nat) (Option.some Jvm.ClassFile.FieldType.boolean)) ∈ lw_all := lw_g (lw_at lw_m7 64 rfl) rfl
theorem q1625 : (Jvm.Cond.methodLink "TollsForLateModel" (204 : Nat) ({ cls := "TollsForLateModel", name := "betweenOf", desc := "()I" } : Jvm.MethodName)) ∈ lw_all := lw_g (lw_at lw_m7 65 rfl) rfl
theorem q1626 : (Jvm.Cond.privateMethod ({ cls := "TollsForLateModel", name := "betweenOf", desc := "()I" } : Jvm.MethodName)) ∈ lw_tbl := lw_at lw_m7 66 rfl
theorem q1627 : (Jvm.Cond.instanceMethod ({ cls := "TollsForLateModel", name := "betweenOf", desc := "()I" } : Jvm.MethodName)) ∈ lw_all := lw_g (lw_at lw_m7 67 rfl) rfl
theorem q1628 : (Jvm.Cond.code ({ cls := "TollsForLateModel", name := "betweenOf", desc := "()I" } : Jvm.MethodName) prog_21_method_43_code (1 : Nat) (Option.some Jvm.ClassFile.FieldType.int)) ∈ lw_all := lw_g (lw_at lw_m7 68 rfl) rfl
theorem q1629 : (Jvm.Cond.methodLink "TollsForLateModel" (170 : Nat) ({ cls := "TollsForLateModel", name := "openNow", desc := "()I" } : Jvm.MethodName)) ∈ lw_all := lw_g (lw_at lw_m7 69 rfl) rfl
theorem q1630 : (Jvm.Cond.privateMethod ({ cls := "TollsForLateModel", name := "openNow", desc := "()I" } : Jvm.MethodName)) ∈ lw_tbl := lw_at lw_m7 70 rfl
theorem q1631 : (Jvm.Cond.instanceMethod ({ cls := "TollsForLateModel", name := "openNow", desc := "()I" } : Jvm.MethodName)) ∈ lw_all := lw_g (lw_at lw_m7 71 rfl) rfl
theorem q1632 : (Jvm.Cond.code ({ cls := "TollsForLateModel", name := "openNow", desc := "()I" } : Jvm.MethodName) prog_21_method_37_code (1 : Nat) (Option.some Jvm.ClassFile.FieldType.int)) ∈ lw_all := lw_g (lw_at lw_m7 72 rfl) rfl
theorem q1633 : (Jvm.Cond.methodLink "TollsForLateModel" (167 : Nat) ({ cls := "TollsForLateModel", name := "openAt", desc := "()I" } : Jvm.MethodName)) ∈ lw_all := lw_g (lw_at lw_m7 73 rfl) rfl
theorem q1634 : (Jvm.Cond.privateMethod ({ cls := "TollsForLateModel", name := "openAt", desc := "()I" } : Jvm.MethodName)) ∈ lw_tbl := lw_at lw_m7 74 rfl
theorem q1635 : (Jvm.Cond.instanceMethod ({ cls := "TollsForLateModel", name := "openAt", desc := "()I" } : Jvm.MethodName)) ∈ lw_all := lw_g (lw_at lw_m7 75 rfl) rfl
theorem q1636 : (Jvm.Cond.code ({ cls := "TollsForLateModel", name := "openAt", desc := "()I" } : Jvm.MethodName) prog_21_method_36_code (2 : Nat) (Option.some Jvm.ClassFile.FieldType.int)) ∈ lw_all := lw_g (lw_at lw_m7 76 rfl) rfl
theorem q1637 : (Jvm.Cond.methodLink "TollsForLateModel" (198 : Nat) ({ cls := "TollsForLateModel", name := "isCompared", desc := "()Z" } : Jvm.MethodName)) ∈ lw_all := lw_g (lw_at lw_m7 77 rfl) rfl
theorem q1638 : (Jvm.Cond.privateMethod ({ cls := "TollsForLateModel", name := "isCompared", desc := "()Z" } : Jvm.MethodName)) ∈ lw_tbl := lw_at lw_m7 78 rfl
theorem q1639 : (Jvm.Cond.instanceMethod ({ cls := "TollsForLateModel", name := "isCompared", desc := "()Z" } : Jvm.MethodName)) ∈ lw_all := lw_g (lw_at lw_m7 79 rfl) rfl
theorem q1640 : (Jvm.Cond.code ({ cls := "TollsForLateModel", name := "isCompared", desc := "()Z" } : Jvm.MethodName) prog_21_method_38_code (2 : Nat) (Option.some Jvm.ClassFile.FieldType.boolean)) ∈ lw_all := lw_g (lw_at lw_m7 80 rfl) rfl
theorem q1641 : (Jvm.Cond.methodLink "TollsForLateModel" (157 : Nat) ({ cls := "TollsForLateModel", name := "rank", desc := "(I)I" } : Jvm.MethodName)) ∈ lw_all := lw_g (lw_at lw_m7 81 rfl) rfl
theorem q1642 : (Jvm.Cond.static ({ cls := "TollsForLateModel", name := "rank", desc := "(I)I" } : Jvm.MethodName)) ∈ lw_all := lw_g (lw_at lw_m7 82 rfl) rfl
theorem q1643 : (Jvm.Cond.code ({ cls := "TollsForLateModel", name := "rank", desc := "(I)I" } : Jvm.MethodName) prog_21_method_34_code (1 : Nat) (Option.some Jvm.ClassFile.FieldType.int)) ∈ lw_all := lw_g (lw_at lw_m7 83 rfl) rfl
theorem q1644 : (Jvm.Cond.methodLink "TollsForLateModel" (201 : Nat) ({ cls := "TollsForLateModel", name := "compareOf", desc := "()I" } : Jvm.MethodName)) ∈ lw_all := lw_g (lw_at lw_m7 84 rfl) rfl
theorem q1645 : (Jvm.Cond.privateMethod ({ cls := "TollsForLateModel", name := "compareOf", desc := "()I" } : Jvm.MethodName)) ∈ lw_tbl := lw_at lw_m7 85 rfl
theorem q1646 : (Jvm.Cond.instanceMethod ({ cls := "TollsForLateModel", name := "compareOf", desc := "()I" } : Jvm.MethodName)) ∈ lw_all := lw_g (lw_at lw_m7 86 rfl) rfl
theorem q1647 : (Jvm.Cond.code ({ cls := "TollsForLateModel", name := "compareOf", desc := "()I" } : Jvm.MethodName) prog_21_method_42_code (1 : Nat) (Option.some Jvm.ClassFile.FieldType.int)) ∈ lw_all := lw_g (lw_at lw_m7 87 rfl) rfl
theorem q1648 : (Jvm.Cond.methodLink "TollsForLateModel" (185 : Nat) ({ cls := "TollsForLateModel", name := "settle", desc := "(I)V" } : Jvm.MethodName)) ∈ lw_all := lw_g (lw_at lw_m7 88 rfl) rfl
theorem q1649 : (Jvm.Cond.privateMethod ({ cls := "TollsForLateModel", name := "settle", desc := "(I)V" } : Jvm.MethodName)) ∈ lw_tbl := lw_at lw_m7 89 rfl
theorem q1650 : (Jvm.Cond.instanceMethod ({ cls := "TollsForLateModel", name := "settle", desc := "(I)V" } : Jvm.MethodName)) ∈ lw_all := lw_g (lw_at lw_m7 90 rfl) rfl
theorem q1651 : (Jvm.Cond.code ({ cls := "TollsForLateModel", name := "settle", desc := "(I)V" } : Jvm.MethodName) prog_21_method_35_code (2 : Nat) (Option.none : Option Jvm.ClassFile.FieldType)) ∈ lw_all := lw_g (lw_at lw_m7 91 rfl) rfl
theorem q1652 : (Jvm.Cond.methodLink "TollsForLateModel" (160 : Nat) ({ cls := "TollsForLateModel", name := "emit", desc := "(II)V" } : Jvm.MethodName)) ∈ lw_all := lw_g (lw_at lw_m7 92 rfl) rfl
theorem q1653 : (Jvm.Cond.privateMethod ({ cls := "TollsForLateModel", name := "emit", desc := "(II)V" } : Jvm.MethodName)) ∈ lw_tbl := lw_at lw_m7 93 rfl
theorem q1654 : (Jvm.Cond.instanceMethod ({ cls := "TollsForLateModel", name := "emit", desc := "(II)V" } : Jvm.MethodName)) ∈ lw_all := lw_g (lw_at lw_m7 94 rfl) rfl
theorem q1655 : (Jvm.Cond.code ({ cls := "TollsForLateModel", name := "emit", desc := "(II)V" } : Jvm.MethodName) prog_21_method_30_code (3 : Nat) (Option.none : Option Jvm.ClassFile.FieldType)) ∈ lw_all := lw_g (lw_at lw_m7 95 rfl) rfl
theorem q1656 : (Jvm.Cond.methodLink "TollsForLateModel" (207 : Nat) ({ cls := "TollsForLateModel", name := "partOf", desc := "(I)I" } : Jvm.MethodName)) ∈ lw_all := lw_g (lw_at lw_m7 96 rfl) rfl
theorem q1657 : (Jvm.Cond.privateMethod ({ cls := "TollsForLateModel", name := "partOf", desc := "(I)I" } : Jvm.MethodName)) ∈ lw_tbl := lw_at lw_m7 97 rfl
theorem q1658 : (Jvm.Cond.instanceMethod ({ cls := "TollsForLateModel", name := "partOf", desc := "(I)I" } : Jvm.MethodName)) ∈ lw_all := lw_g (lw_at lw_m7 98 rfl) rfl
theorem q1659 : (Jvm.Cond.code ({ cls := "TollsForLateModel", name := "partOf", desc := "(I)I" } : Jvm.MethodName) prog_21_method_44_code (2 : Nat) (Option.some Jvm.ClassFile.FieldType.int)) ∈ lw_all := lw_g (lw_at lw_m7 99 rfl) rfl
theorem q1660 : (Jvm.Cond.methodLink "TollsForLateModel" (213 : Nat) ({ cls := "TollsForLateModel", name := "beginOne", desc := "()I" } : Jvm.MethodName)) ∈ lw_all := lw_g (lw_at lw_m7 100 rfl) rfl
theorem q1661 : (Jvm.Cond.privateMethod ({ cls := "TollsForLateModel", name := "beginOne", desc := "()I" } : Jvm.MethodName)) ∈ lw_tbl := lw_at lw_m7 101 rfl
theorem q1662 : (Jvm.Cond.instanceMethod ({ cls := "TollsForLateModel", name := "beginOne", desc := "()I" } : Jvm.MethodName)) ∈ lw_all := lw_g (lw_at lw_m7 102 rfl) rfl
theorem q1663 : (Jvm.Cond.code ({ cls := "TollsForLateModel", name := "beginOne", desc := "()I" } : Jvm.MethodName) prog_21_method_41_code (2 : Nat) (Option.some Jvm.ClassFile.FieldType.int)) ∈ lw_all := lw_g (lw_at lw_m7 103 rfl) rfl
theorem q1664 : (Jvm.Cond.methodLink "TollsForLateModel" (176 : Nat) ({ cls := "TollsForLateModel", name := "nameOf", desc := "()I" } : Jvm.MethodName)) ∈ lw_all := lw_g (lw_at lw_m7 104 rfl) rfl
theorem q1665 : (Jvm.Cond.privateMethod ({ cls := "TollsForLateModel", name := "nameOf", desc := "()I" } : Jvm.MethodName)) ∈ lw_tbl := lw_at lw_m7 105 rfl
theorem q1666 : (Jvm.Cond.instanceMethod ({ cls := "TollsForLateModel", name := "nameOf", desc := "()I" } : Jvm.MethodName)) ∈ lw_all := lw_g (lw_at lw_m7 106 rfl) rfl
theorem q1667 : (Jvm.Cond.code ({ cls := "TollsForLateModel", name := "nameOf", desc := "()I" } : Jvm.MethodName) prog_21_method_32_code (1 : Nat) (Option.some Jvm.ClassFile.FieldType.int)) ∈ lw_all := lw_g (lw_at lw_m7 107 rfl) rfl
theorem q1668 : (Jvm.Cond.methodLink "TollsForLateModel" (147 : Nat) ({ cls := "TollsForLateModel", name := "isWeather", desc := "()Z" } : Jvm.MethodName)) ∈ lw_all := lw_g (lw_at lw_m7 108 rfl) rfl
theorem q1669 : (Jvm.Cond.privateMethod ({ cls := "TollsForLateModel", name := "isWeather", desc := "()Z" } : Jvm.MethodName)) ∈ lw_tbl := lw_at lw_m7 109 rfl
theorem q1670 : (Jvm.Cond.instanceMethod ({ cls := "TollsForLateModel", name := "isWeather", desc := "()Z" } : Jvm.MethodName)) ∈ lw_all := lw_g (lw_at lw_m7 110 rfl) rfl
theorem q1671 : (Jvm.Cond.code ({ cls := "TollsForLateModel", name := "isWeather", desc := "()Z" } : Jvm.MethodName) prog_21_method_31_code (1 : Nat) (Option.some Jvm.ClassFile.FieldType.boolean)) ∈ lw_all := lw_g (lw_at lw_m7 111 rfl) rfl
theorem q1672 : (Jvm.Cond.methodLink "TollsForLateModel" (179 : Nat) ({ cls := "TollsForLateModel", name := "isOf", desc := "(I)Z" } : Jvm.MethodName)) ∈ lw_all := lw_g (lw_at lw_m7 112 rfl) rfl
theorem q1673 : (Jvm.Cond.privateMethod ({ cls := "TollsForLateModel", name := "isOf", desc := "(I)Z" } : Jvm.MethodName)) ∈ lw_tbl := lw_at lw_m7 113 rfl
theorem q1674 : (Jvm.Cond.instanceMethod ({ cls := "TollsForLateModel", name := "isOf", desc := "(I)Z" } : Jvm.MethodName)) ∈ lw_all := lw_g (lw_at lw_m7 114 rfl) rfl
theorem q1675 : (Jvm.Cond.code ({ cls := "TollsForLateModel", name := "isOf", desc := "(I)Z" } : Jvm.MethodName) prog_21_method_33_code (2 : Nat) (Option.some Jvm.ClassFile.FieldType.boolean)) ∈ lw_all := lw_g (lw_at lw_m7 115 rfl) rfl
theorem q1676 : (Jvm.Cond.methodLink "TollsForLateModel" (188 : Nat) ({ cls := "TollsForLateModel", name := "opened", desc := "(I)I" } : Jvm.MethodName)) ∈ lw_all := lw_g (lw_at lw_m7 116 rfl) rfl
theorem q1677 : (Jvm.Cond.privateMethod ({ cls := "TollsForLateModel", name := "opened", desc := "(I)I" } : Jvm.MethodName)) ∈ lw_tbl := lw_at lw_m7 117 rfl
theorem q1678 : (Jvm.Cond.instanceMethod ({ cls := "TollsForLateModel", name := "opened", desc := "(I)I" } : Jvm.MethodName)) ∈ lw_all := lw_g (lw_at lw_m7 118 rfl) rfl
theorem q1679 : (Jvm.Cond.code ({ cls := "TollsForLateModel", name := "opened", desc := "(I)I" } : Jvm.MethodName) prog_21_method_40_code (2 : Nat) (Option.some Jvm.ClassFile.FieldType.int)) ∈ lw_all := lw_g (lw_at lw_m7 119 rfl) rfl
theorem q1680 : (Jvm.Cond.methodLink "TollsForLateModel" (195 : Nat) ({ cls := "TollsForLateModel", name := "isAskAhead", desc := "()Z" } : Jvm.MethodName)) ∈ lw_all := lw_g (lw_at lw_m7 120 rfl) rfl
theorem q1681 : (Jvm.Cond.privateMethod ({ cls := "TollsForLateModel", name := "isAskAhead", desc := "()Z" } : Jvm.MethodName)) ∈ lw_tbl := lw_at lw_m7 121 rfl
theorem q1682 : (Jvm.Cond.instanceMethod ({ cls := "TollsForLateModel", name := "isAskAhead", desc := "()Z" } : Jvm.MethodName)) ∈ lw_all := lw_g (lw_at lw_m7 122 rfl) rfl
theorem q1683 : (Jvm.Cond.code ({ cls := "TollsForLateModel", name := "isAskAhead", desc := "()Z" } : Jvm.MethodName) prog_21_method_39_code (1 : Nat) (Option.some Jvm.ClassFile.FieldType.boolean)) ∈ lw_all := lw_g (lw_at lw_m7 123 rfl) rfl
theorem q1685 : (Jvm.Cond.instanceMethod ({ cls := "TollsForLateModel", name := "fault", desc := "(I)I" } : Jvm.MethodName)) ∈ lw_all := lw_g (lw_at lw_m7 125 rfl) rfl
theorem q1686 : (Jvm.Cond.selects "TollsForLateModel" ({ cls := "TollsForLateModel", name := "fault", desc := "(I)I" } : Jvm.MethodName) ({ cls := "TollsForLateModel", name := "fault", desc := "(I)I" } : Jvm.MethodName)) ∈ lw_all := lw_g (lw_at lw_m7 126 rfl) rfl
theorem q1687 : (Jvm.Cond.code ({ cls := "TollsForLateModel", name := "fault", desc := "(I)I" } : Jvm.MethodName) prog_21_method_57_code (2 : Nat) (Option.some Jvm.ClassFile.FieldType.int)) ∈ lw_all := lw_g (lw_at lw_m7 127 rfl) rfl
theorem q1689 : (Jvm.Cond.instanceMethod ({ cls := "TollsForLateModel", name := "by", desc := "(I)Z" } : Jvm.MethodName)) ∈ lw_all := lw_g (lw_at lw_m7 129 rfl) rfl
theorem q1690 : (Jvm.Cond.selects "TollsForLateModel" ({ cls := "TollsForLateModel", name := "by", desc := "(I)Z" } : Jvm.MethodName) ({ cls := "TollsForLateModel", name := "by", desc := "(I)Z" } : Jvm.MethodName)) ∈ lw_all := lw_g (lw_at lw_m7 130 rfl) rfl
theorem q1691 : (Jvm.Cond.code ({ cls := "TollsForLateModel", name := "by", desc := "(I)Z" } : Jvm.MethodName) prog_21_method_58_code (2 : Nat) (Option.some Jvm.ClassFile.FieldType.boolean)) ∈ lw_all := lw_g (lw_at lw_m7 131 rfl) rfl
theorem q1693 : (Jvm.Cond.instanceMethod ({ cls := "TollsForLateModel", name := "undo", desc := "()I" } : Jvm.MethodName)) ∈ lw_all := lw_g (lw_at lw_m7 133 rfl) rfl
theorem q1694 : (Jvm.Cond.selects "TollsForLateModel" ({ cls := "TollsForLateModel", name := "undo", desc := "()I" } : Jvm.MethodName) ({ cls := "TollsForLateModel", name := "undo", desc := "()I" } : Jvm.MethodName)) ∈ lw_all := lw_g (lw_at lw_m7 134 rfl) rfl
theorem q1695 : (Jvm.Cond.code ({ cls := "TollsForLateModel", name := "undo", desc := "()I" } : Jvm.MethodName) prog_21_method_76_code (4 : Nat) (Option.some Jvm.ClassFile.FieldType.int)) ∈ lw_all := lw_g (lw_at lw_m7 135 rfl) rfl
theorem q1697 : (Jvm.Cond.instanceMethod ({ cls := "TollsForLateModel", name := "ring", desc := "(I)Z" } : Jvm.MethodName)) ∈ lw_all := lw_g (lw_at lw_m7 137 rfl) rfl
theorem q1698 : (Jvm.Cond.selects "TollsForLateModel" ({ cls := "TollsForLateModel", name := "ring", desc := "(I)Z" } : Jvm.MethodName) ({ cls := "TollsForLateModel", name := "ring", desc := "(I)Z" } : Jvm.MethodName)) ∈ lw_all := lw_g (lw_at lw_m7 138 rfl) rfl
theorem q1699 : (Jvm.Cond.code ({ cls := "TollsForLateModel", name := "ring", desc := "(I)Z" } : Jvm.MethodName) prog_21_method_77_code (2 : Nat) (Option.some Jvm.ClassFile.FieldType.boolean)) ∈ lw_all := lw_g (lw_at lw_m7 139 rfl) rfl
theorem q1700 : (Jvm.Cond.methodLink "TollsForLateModel" (329 : Nat) ({ cls := "TollsForLateModel", name := "areRings", desc := "(I)Z" } : Jvm.MethodName)) ∈ lw_all := lw_g (lw_at lw_m7 140 rfl) rfl
theorem q1701 : (Jvm.Cond.privateMethod ({ cls := "TollsForLateModel", name := "areRings", desc := "(I)Z" } : Jvm.MethodName)) ∈ lw_tbl := lw_at lw_m7 141 rfl
theorem q1702 : (Jvm.Cond.instanceMethod ({ cls := "TollsForLateModel", name := "areRings", desc := "(I)Z" } : Jvm.MethodName)) ∈ lw_all := lw_g (lw_at lw_m7 142 rfl) rfl
theorem q1703 : (Jvm.Cond.code ({ cls := "TollsForLateModel", name := "areRings", desc := "(I)Z" } : Jvm.MethodName) prog_21_method_9_code (2 : Nat) (Option.some Jvm.ClassFile.FieldType.boolean)) ∈ lw_all := lw_g (lw_at lw_m7 143 rfl) rfl
theorem q1704 : (Jvm.Cond.methodLink "TollsForLateModel" (70 : Nat) ({ cls := "TollsForLateModel", name := "all", desc := "()I" } : Jvm.MethodName)) ∈ lw_all := lw_g (lw_at lw_m7 144 rfl) rfl
theorem q1705 : (Jvm.Cond.privateMethod ({ cls := "TollsForLateModel", name := "all", desc := "()I" } : Jvm.MethodName)) ∈ lw_tbl := lw_at lw_m7 145 rfl
theorem q1706 : (Jvm.Cond.instanceMethod ({ cls := "TollsForLateModel", name := "all", desc := "()I" } : Jvm.MethodName)) ∈ lw_all := lw_g (lw_at lw_m7 146 rfl) rfl
theorem q1707 : (Jvm.Cond.code ({ cls := "TollsForLateModel", name := "all", desc := "()I" } : Jvm.MethodName) prog_21_method_8_code (1 : Nat) (Option.some Jvm.ClassFile.FieldType.int)) ∈ lw_all := lw_g (lw_at lw_m7 147 rfl) rfl
theorem q1708 : (Jvm.Cond.methodLink "TollsForLateModel" (332 : Nat) ({ cls := "TollsForLateModel", name := "keep", desc := "()V" } : Jvm.MethodName)) ∈ lw_all := lw_g (lw_at lw_m7 148 rfl) rfl
theorem q1709 : (Jvm.Cond.privateMethod ({ cls := "TollsForLateModel", name := "keep", desc := "()V" } : Jvm.MethodName)) ∈ lw_tbl := lw_at lw_m7 149 rfl
theorem q1710 : (Jvm.Cond.instanceMethod ({ cls := "TollsForLateModel", name := "keep", desc := "()V" } : Jvm.MethodName)) ∈ lw_all := lw_g (lw_at lw_m7 150 rfl) rfl
theorem q1711 : (Jvm.Cond.code ({ cls := "TollsForLateModel", name := "keep", desc := "()V" } : Jvm.MethodName) prog_21_method_75_code (4 : Nat) (Option.none : Option Jvm.ClassFile.FieldType)) ∈ lw_all := lw_g (lw_at lw_m7 151 rfl) rfl
theorem q1713 : (Jvm.Cond.instanceMethod ({ cls := "TollsForLateModel", name := "due", desc := "(II)Z" } : Jvm.MethodName)) ∈ lw_all := lw_g (lw_at lw_m7 153 rfl) rfl
theorem q1714 : (Jvm.Cond.selects "TollsForLateModel" ({ cls := "TollsForLateModel", name := "due", desc := "(II)Z" } : Jvm.MethodName) ({ cls := "TollsForLateModel", name := "due", desc := "(II)Z" } : Jvm.MethodName)) ∈ lw_all := lw_g (lw_at lw_m7 154 rfl) rfl
theorem q1715 : (Jvm.Cond.code ({ cls := "TollsForLateModel", name := "due", desc := "(II)Z" } : Jvm.MethodName) prog_21_method_78_code (3 : Nat) (Option.some Jvm.ClassFile.FieldType.boolean)) ∈ lw_all := lw_g (lw_at lw_m7 155 rfl) rfl
theorem q1716 : (Jvm.Cond.methodLink "TollsForLateModel" (335 : Nat) ({ cls := "TollsForLateModel", name := "isPerson", desc := "(I)Z" } : Jvm.MethodName)) ∈ lw_all := lw_g (lw_at lw_m7 156 rfl) rfl
theorem q1717 : (Jvm.Cond.privateMethod ({ cls := "TollsForLateModel", name := "isPerson", desc := "(I)Z" } : Jvm.MethodName)) ∈ lw_tbl := lw_at lw_m7 157 rfl
theorem q1718 : (Jvm.Cond.instanceMethod ({ cls := "TollsForLateModel", name := "isPerson", desc := "(I)Z" } : Jvm.MethodName)) ∈ lw_all := lw_g (lw_at lw_m7 158 rfl) rfl
theorem q1719 : (Jvm.Cond.code ({ cls := "TollsForLateModel", name := "isPerson", desc := "(I)Z" } : Jvm.MethodName) prog_21_method_7_code (2 : Nat) (Option.some Jvm.ClassFile.FieldType.boolean)) ∈ lw_all := lw_g (lw_at lw_m7 159 rfl) rfl
theorem q1721 : (Jvm.Cond.instanceMethod ({ cls := "TollsForLateModel", name := "bed", desc := "(I)Z" } : Jvm.MethodName)) ∈ lw_all := lw_g (lw_at lw_m7 161 rfl) rfl
theorem q1722 : (Jvm.Cond.selects "TollsForLateModel" ({ cls := "TollsForLateModel", name := "bed", desc := "(I)Z" } : Jvm.MethodName) ({ cls := "TollsForLateModel", name := "bed", desc := "(I)Z" } : Jvm.MethodName)) ∈ lw_all := lw_g (lw_at lw_m7 162 rfl) rfl
theorem q1723 : (Jvm.Cond.code ({ cls := "TollsForLateModel", name := "bed", desc := "(I)Z" } : Jvm.MethodName) prog_21_method_80_code (2 : Nat) (Option.some Jvm.ClassFile.FieldType.boolean)) ∈ lw_all := lw_g (lw_at lw_m7 163 rfl) rfl
theorem q1724 : (Jvm.Cond.methodLink "TollsForLateModel" (338 : Nat) ({ cls := "TollsForLateModel", name := "isLain", desc := "(II)Z" } : Jvm.MethodName)) ∈ lw_all := lw_g (lw_at lw_m7 164 rfl) rfl
theorem q1725 : (Jvm.Cond.privateMethod ({ cls := "TollsForLateModel", name := "isLain", desc := "(II)Z" } : Jvm.MethodName)) ∈ lw_tbl := lw_at lw_m7 165 rfl
theorem q1726 : (Jvm.Cond.instanceMethod ({ cls := "TollsForLateModel", name := "isLain", desc := "(II)Z" } : Jvm.MethodName)) ∈ lw_all := lw_g (lw_at lw_m7 166 rfl) rfl
theorem q1727 : (Jvm.Cond.code ({ cls := "TollsForLateModel", name := "isLain", desc := "(II)Z" } : Jvm.MethodName) prog_21_method_79_code (3 : Nat) (Option.some Jvm.ClassFile.FieldType.boolean)) ∈ lw_all := lw_g (lw_at lw_m7 167 rfl) rfl
theorem q1729 : (Jvm.Cond.instanceMethod ({ cls := "TollsForLateModel", name := "up", desc := "(I)Z" } : Jvm.MethodName)) ∈ lw_all := lw_g (lw_at lw_m7 169 rfl) rfl
theorem q1730 : (Jvm.Cond.selects "TollsForLateModel" ({ cls := "TollsForLateModel", name := "up", desc := "(I)Z" } : Jvm.MethodName) ({ cls := "TollsForLateModel", name := "up", desc := "(I)Z" } : Jvm.MethodName)) ∈ lw_all := lw_g (lw_at lw_m7 170 rfl) rfl
theorem q1731 : (Jvm.Cond.code ({ cls := "TollsForLateModel", name := "up", desc := "(I)Z" } : Jvm.MethodName) prog_21_method_81_code (2 : Nat) (Option.some Jvm.ClassFile.FieldType.boolean)) ∈ lw_all := lw_g (lw_at lw_m7 171 rfl) rfl
theorem q1733 : (Jvm.Cond.instanceMethod ({ cls := "TollsForLateModel", name := "day", desc := "(I)I" } : Jvm.MethodName)) ∈ lw_all := lw_g (lw_at lw_m7 173 rfl) rfl
theorem q1734 : (Jvm.Cond.selects "TollsForLateModel" ({ cls := "TollsForLateModel", name := "day", desc := "(I)I" } : Jvm.MethodName) ({ cls := "TollsForLateModel", name := "day", desc := "(I)I" } : Jvm.MethodName)) ∈ lw_all := lw_g (lw_at lw_m7 174 rfl) rfl
theorem q1735 : (Jvm.Cond.code ({ cls := "TollsForLateModel", name := "day", desc := "(I)I" } : Jvm.MethodName) prog_21_method_83_code (2 : Nat) (Option.some Jvm.ClassFile.FieldType.int)) ∈ lw_all := lw_g (lw_at lw_m7 175 rfl) rfl
theorem q1736 : (Jvm.Cond.methodLink "TollsForLateModel" (344 : Nat) ({ cls := "TollsForLateModel", name := "arePassed", desc := "(I)Z" } : Jvm.MethodName)) ∈ lw_all := lw_g (lw_at lw_m7 176 rfl) rfl
theorem q1737 : (Jvm.Cond.privateMethod ({ cls := "TollsForLateModel", name := "arePassed", desc := "(I)Z" } : Jvm.MethodName)) ∈ lw_tbl := lw_at lw_m7 177 rfl
theorem q1738 : (Jvm.Cond.instanceMethod ({ cls := "TollsForLateModel", name := "arePassed", desc := "(I)Z" } : Jvm.MethodName)) ∈ lw_all := lw_g (lw_at lw_m7 178 rfl) rfl
theorem q1739 : (Jvm.Cond.code ({ cls := "TollsForLateModel", name := "arePassed", desc := "(I)Z" } : Jvm.MethodName) prog_21_method_82_code (3 : Nat) (Option.some Jvm.ClassFile.FieldType.boolean)) ∈ lw_all := lw_g (lw_at lw_m7 179 rfl) rfl
theorem q1740 : (Jvm.Cond.methodLink "TollsForLateModel" (341 : Nat) ({ cls := "TollsForLateModel", name := "pass", desc := "()V" } : Jvm.MethodName)) ∈ lw_all := lw_g (lw_at lw_m7 180 rfl) rfl
theorem q1741 : (Jvm.Cond.privateMethod ({ cls := "TollsForLateModel", name := "pass", desc := "()V" } : Jvm.MethodName)) ∈ lw_tbl := lw_at lw_m7 181 rfl
theorem q1742 : (Jvm.Cond.instanceMethod ({ cls := "TollsForLateModel", name := "pass", desc := "()V" } : Jvm.MethodName)) ∈ lw_all := lw_g (lw_at lw_m7 182 rfl) rfl
theorem q1743 : (Jvm.Cond.code ({ cls := "TollsForLateModel", name := "pass", desc := "()V" } : Jvm.MethodName) prog_21_method_74_code (3 : Nat) (Option.none : Option Jvm.ClassFile.FieldType)) ∈ lw_all := lw_g (lw_at lw_m7 183 rfl) rfl
theorem q1744 : (Jvm.Cond.methodLink "TollsForLateModel" (317 : Nat) ({ cls := "TollsForLateModel", name := "anew", desc := "()V" } : Jvm.MethodName)) ∈ lw_all := lw_g (lw_at lw_m7 184 rfl) rfl
theorem q1745 : (Jvm.Cond.privateMethod ({ cls := "TollsForLateModel", name := "anew", desc := "()V" } : Jvm.MethodName)) ∈ lw_tbl := lw_at lw_m7 185 rfl
theorem q1746 : (Jvm.Cond.instanceMethod ({ cls := "TollsForLateModel", name := "anew", desc := "()V" } : Jvm.MethodName)) ∈ lw_all := lw_g (lw_at lw_m7 186 rfl) rfl
theorem q1747 : (Jvm.Cond.code ({ cls := "TollsForLateModel", name := "anew", desc := "()V" } : Jvm.MethodName) prog_21_method_73_code (1 : Nat) (Option.none : Option Jvm.ClassFile.FieldType)) ∈ lw_all := lw_g (lw_at lw_m7 187 rfl) rfl
theorem q1748 : (Jvm.Cond.constantLong "TollsForLateModel" (311 : Nat) (463 : Int64)) ∈ lw_all := lw_g (lw_at lw_m7 188 rfl) rfl
theorem q1749 : (Jvm.Cond.constantLong "TollsForLateModel" (313 : Nat) (353 : Int64)) ∈ lw_all := lw_g (lw_at lw_m7 189 rfl) rfl
theorem q1750 : (Jvm.Cond.constantLong "TollsForLateModel" (315 : Nat) (30643 : Int64)) ∈ lw_all := lw_g (lw_at lw_m7 190 rfl) rfl
theorem q1751 : (Jvm.Cond.methodLink "TollsForLateModel" (320 : Nat) ({ cls := "TollsForLateModel", name := "lateBy", desc := "(I)I" } : Jvm.MethodName)) ∈ lw_all := lw_g (lw_at lw_m7 191 rfl) rfl
theorem q1752 : (Jvm.Cond.privateMethod ({ cls := "TollsForLateModel", name := "lateBy", desc := "(I)I" } : Jvm.MethodName)) ∈ lw_tbl := lw_at lw_m7 192 rfl
theorem q1753 : (Jvm.Cond.instanceMethod ({ cls := "TollsForLateModel", name := "lateBy", desc := "(I)I" } : Jvm.MethodName)) ∈ lw_all := lw_g (lw_at lw_m7 193 rfl) rfl
theorem q1754 : (Jvm.Cond.code ({ cls := "TollsForLateModel", name := "lateBy", desc := "(I)I" } : Jvm.MethodName) prog_21_method_69_code (5 : Nat) (Option.some Jvm.ClassFile.FieldType.int)) ∈ lw_all := lw_g (lw_at lw_m7 194 rfl) rfl
theorem q1755 : (Jvm.Cond.methodLink "TollsForLateModel" (305 : Nat) ({ cls := "TollsForLateModel", name := "runnersBy", desc := "(II)I" } : Jvm.MethodName)) ∈ lw_all := lw_g (lw_at lw_m7 195 rfl) rfl
theorem q1756 : (Jvm.Cond.privateMethod ({ cls := "TollsForLateModel", name := "runnersBy", desc := "(II)I" } : Jvm.MethodName)) ∈ lw_tbl := lw_at lw_m7 196 rfl
theorem q1757 : (Jvm.Cond.instanceMethod ({ cls := "TollsForLateModel", name := "runnersBy", desc := "(II)I" } : Jvm.MethodName)) ∈ lw_all := lw_g (lw_at lw_m7 197 rfl) rfl
theorem q1758 : (Jvm.Cond.code ({ cls := "TollsForLateModel", name := "runnersBy", desc := "(II)I" } : Jvm.MethodName) prog_21_method_67_code (5 : Nat) (Option.some Jvm.ClassFile.FieldType.int)) ∈ lw_all := lw_g (lw_at lw_m7 198 rfl) rfl
theorem q1759 : (Jvm.Cond.methodLink "TollsForLateModel" (292 : Nat) ({ cls := "TollsForLateModel", name := "isUp", desc := "(I)Z" } : Jvm.MethodName)) ∈ lw_all := lw_g (lw_at lw_m7 199 rfl) rfl
theorem q1760 : (Jvm.Cond.privateMethod ({ cls := "TollsForLateModel", name := "isUp", desc := "(I)Z" } : Jvm.MethodName)) ∈ lw_tbl := lw_at lw_m7 200 rfl
theorem q1761 : (Jvm.Cond.instanceMethod ({ cls := "TollsForLateModel", name := "isUp", desc := "(I)Z" } : Jvm.MethodName)) ∈ lw_all := lw_g (lw_at lw_m7 201 rfl) rfl
theorem q1762 : (Jvm.Cond.code ({ cls := "TollsForLateModel", name := "isUp", desc := "(I)Z" } : Jvm.MethodName) prog_21_method_12_code (2 : Nat) (Option.some Jvm.ClassFile.FieldType.boolean)) ∈ lw_all := lw_g (lw_at lw_m7 202 rfl) rfl
theorem q1763 : (Jvm.Cond.methodLink "TollsForLateModel" (295 : Nat) ({ cls := "TollsForLateModel", name := "name", desc := "(II)V" } : Jvm.MethodName)) ∈ lw_all := lw_g (lw_at lw_m7 203 rfl) rfl
theorem q1764 : (Jvm.Cond.privateMethod ({ cls := "TollsForLateModel", name := "name", desc := "(II)V" } : Jvm.MethodName)) ∈ lw_tbl := lw_at lw_m7 204 rfl
theorem q1765 : (Jvm.Cond.instanceMethod ({ cls := "TollsForLateModel", name := "name", desc := "(II)V" } : Jvm.MethodName)) ∈ lw_all := lw_g (lw_at lw_m7 205 rfl) rfl
theorem q1766 : (Jvm.Cond.code ({ cls := "TollsForLateModel", name := "name", desc := "(II)V" } : Jvm.MethodName) prog_21_method_66_code (3 : Nat) (Option.none : Option Jvm.ClassFile.FieldType)) ∈ lw_all := lw_g (lw_at lw_m7 206 rfl) rfl
theorem q1767 : (Jvm.Cond.methodLink "TollsForLateModel" (298 : Nat) ({ cls := "TollsForLateModel", name := "bits", desc := "(I)I" } : Jvm.MethodName)) ∈ lw_all := lw_g (lw_at lw_m7 207 rfl) rfl
theorem q1768 : (Jvm.Cond.static ({ cls := "TollsForLateModel", name := "bits", desc := "(I)I" } : Jvm.MethodName)) ∈ lw_all := lw_g (lw_at lw_m7 208 rfl) rfl
theorem q1769 : (Jvm.Cond.code ({ cls := "TollsForLateModel", name := "bits", desc := "(I)I" } : Jvm.MethodName) prog_21_method_6_code (3 : Nat) (Option.some Jvm.ClassFile.FieldType.int)) ∈ lw_all := lw_g (lw_at lw_m7 209 rfl) rfl
theorem q1770 : (Jvm.Cond.methodLink "TollsForLateModel" (301 : Nat) ({ cls := "TollsForLateModel", name := "says", desc := "(IIII)I" } : Jvm.MethodName)) ∈ lw_all := lw_g (lw_at lw_m7 210 rfl) rfl
theorem q1771 : (Jvm.Cond.privateMethod ({ cls := "TollsForLateModel", name := "says", desc := "(IIII)I" } : Jvm.MethodName)) ∈ lw_tbl := lw_at lw_m7 211 rfl
theorem q1772 : (Jvm.Cond.instanceMethod ({ cls := "TollsForLateModel", name := "says", desc := "(IIII)I" } : Jvm.MethodName)) ∈ lw_all := lw_g (lw_at lw_m7 212 rfl) rfl
theorem q1773 : (Jvm.Cond.code ({ cls := "TollsForLateModel", name := "says", desc := "(IIII)I" } : Jvm.MethodName) prog_21_method_65_code (6 : Nat) (Option.some Jvm.ClassFile.FieldType.int)) ∈ lw_all := lw_g (lw_at lw_m7 213 rfl) rfl
theorem q1774 : (Jvm.Cond.methodLink "TollsForLateModel" (285 : Nat) ({ cls := "TollsForLateModel", name := "summedUp", desc := "(II)J" } : Jvm.MethodName)) ∈ lw_all := lw_g (lw_at lw_m7 214 rfl) rfl
theorem q1775 : (Jvm.Cond.privateMethod ({ cls := "TollsForLateModel", name := "summedUp", desc := "(II)J" } : Jvm.MethodName)) ∈ lw_tbl := lw_at lw_m7 215 rfl
theorem q1776 : (Jvm.Cond.instanceMethod ({ cls := "TollsForLateModel", name := "summedUp", desc := "(II)J" } : Jvm.MethodName)) ∈ lw_all := lw_g (lw_at lw_m7 216 rfl) rfl
theorem q1777 : (Jvm.Cond.code ({ cls := "TollsForLateModel", name := "summedUp", desc := "(II)J" } : Jvm.MethodName) prog_21_method_64_code (10 : Nat) (Option.some Jvm.ClassFile.FieldType.long)) ∈ lw_all := lw_g (lw_at lw_m7 217 rfl) rfl
theorem q1778 : (Jvm.Cond.methodLink "TollsForLateModel" (270 : Nat) ({ cls := "TollsForLateModel", name := "ringsFor", desc := "(J)J" } : Jvm.MethodName)) ∈ lw_all := lw_g (lw_at lw_m7 218 rfl) rfl
theorem q1779 : (Jvm.Cond.privateMethod ({ cls := "TollsForLateModel", name := "ringsFor", desc := "(J)J" } : Jvm.MethodName)) ∈ lw_tbl := lw_at lw_m7 219 rfl
theorem q1780 : (Jvm.Cond.instanceMethod ({ cls := "TollsForLateModel", name := "ringsFor", desc := "(J)J" } : Jvm.MethodName)) ∈ lw_all := lw_g (lw_at lw_m7 220 rfl) rfl
theorem q1781 : (Jvm.Cond.code ({ cls := "TollsForLateModel", name := "ringsFor", desc := "(J)J" } : Jvm.MethodName) prog_21_method_62_code (3 : Nat) (Option.some Jvm.ClassFile.FieldType.long)) ∈ lw_all := lw_g (lw_at lw_m7 221 rfl) rfl
theorem q1782 : (Jvm.Cond.methodLink "TollsForLateModel" (273 : Nat) ({ cls := "TollsForLateModel", name := "two", desc := "(IJJ)J" } : Jvm.MethodName)) ∈ lw_all := lw_g (lw_at lw_m7 222 rfl) rfl
theorem q1783 : (Jvm.Cond.static ({ cls := "TollsForLateModel", name := "two", desc := "(IJJ)J" } : Jvm.MethodName)) ∈ lw_all := lw_g (lw_at lw_m7 223 rfl) rfl
theorem q1784 : (Jvm.Cond.code ({ cls := "TollsForLateModel", name := "two", desc := "(IJJ)J" } : Jvm.MethodName) prog_21_method_60_code (5 : Nat) (Option.some Jvm.ClassFile.FieldType.long)) ∈ lw_all := lw_g (lw_at lw_m7 224 rfl) rfl
theorem q1785 : (Jvm.Cond.methodLink "TollsForLateModel" (263 : Nat) ({ cls := "TollsForLateModel", name := "clip", desc := "(J)J" } : Jvm.MethodName)) ∈ lw_all := lw_g (lw_at lw_m7 225 rfl) rfl
theorem q1786 : (Jvm.Cond.static ({ cls := "TollsForLateModel", name := "clip", desc := "(J)J" } : Jvm.MethodName)) ∈ lw_all := lw_g (lw_at lw_m7 226 rfl) rfl
theorem q1787 : (Jvm.Cond.code ({ cls := "TollsForLateModel", name := "clip", desc := "(J)J" } : Jvm.MethodName) prog_21_method_59_code (2 : Nat) (Option.some Jvm.ClassFile.FieldType.long)) ∈ lw_all := lw_g (lw_at lw_m7 227 rfl) rfl
theorem q1788 : (Jvm.Cond.constantLong "TollsForLateModel" (259 : Nat) (1000000 : Int64)) ∈ lw_all := lw_g (lw_at lw_m7 228 rfl) rfl
theorem q1789 : (Jvm.Cond.constantLong "TollsForLateModel" (261 : Nat) (-1000000 : Int64)) ∈ lw_all := lw_g (lw_at lw_m7 229 rfl) rfl
theorem q1790 : (Jvm.Cond.methodLink "TollsForLateModel" (277 : Nat) ({ cls := "TollsForLateModel", name := "isAsked", desc := "(IJJ)Z" } : Jvm.MethodName)) ∈ lw_all := lw_g (lw_at lw_m7 230 rfl) rfl
theorem q1791 : (Jvm.Cond.static ({ cls := "TollsForLateModel", name := "isAsked", desc := "(IJJ)Z" } : Jvm.MethodName)) ∈ lw_all := lw_g (lw_at lw_m7 231 rfl) rfl
theorem q1792 : (Jvm.Cond.code ({ cls := "TollsForLateModel", name := "isAsked", desc := "(IJJ)Z" } : Jvm.MethodName) prog_21_method_61_code (5 : Nat) (Option.some Jvm.ClassFile.FieldType.boolean)) ∈ lw_all := lw_g (lw_at lw_m7 232 rfl) rfl
theorem q1793 : (Jvm.Cond.methodLink "TollsForLateModel" (281 : Nat) ({ cls := "TollsForLateModel", name := "joined", desc := "(IZZ)Z" } : Jvm.MethodName)) ∈ lw_all := lw_g (lw_at lw_m7 233 rfl) rfl
theorem q1794 : (Jvm.Cond.static ({ cls := "TollsForLateModel", name := "joined", desc := "(IZZ)Z" } : Jvm.MethodName)) ∈ lw_all := lw_g (lw_at lw_m7 234 rfl) rfl
theorem q1795 : (Jvm.Cond.code ({ cls := "TollsForLateModel", name := "joined", desc := "(IZZ)Z" } : Jvm.MethodName) prog_21_method_63_code (3 : Nat) (Option.some Jvm.ClassFile.FieldType.boolean)) ∈ lw_all := lw_g (lw_at lw_m7 235 rfl) rfl
theorem q1796 : (Jvm.Cond.methodLink "TollsForLateModel" (288 : Nat) ({ cls := "TollsForLateModel", name := "cut", desc := "(JII)I" } : Jvm.MethodName)) ∈ lw_all := lw_g (lw_at lw_m7 236 rfl) rfl
theorem q1797 : (Jvm.Cond.static ({ cls := "TollsForLateModel", name := "cut", desc := "(JII)I" } : Jvm.MethodName)) ∈ lw_all := lw_g (lw_at lw_m7 237 rfl) rfl
theorem q1798 : (Jvm.Cond.code ({ cls := "TollsForLateModel", name := "cut", desc := "(JII)I" } : Jvm.MethodName) prog_21_method_4_code (4 : Nat) (Option.some Jvm.ClassFile.FieldType.int)) ∈ lw_all := lw_g (lw_at lw_m7 238 rfl) rfl
theorem q1799 : (Jvm.Cond.methodLink "TollsForLateModel" (308 : Nat) ({ cls := "TollsForLateModel", name := "takesOf", desc := "(IIII)I" } : Jvm.MethodName)) ∈ lw_all := lw_g (lw_at lw_m7 239 rfl) rfl
theorem q1800 : (Jvm.Cond.privateMethod ({ cls := "TollsForLateModel", name := "takesOf", desc := "(IIII)I" } : Jvm.MethodName)) ∈ lw_tbl := lw_at lw_m8 0 rfl
theorem q1801 : (Jvm.Cond.instanceMethod ({ cls := "TollsForLateModel", name := "takesOf", desc := "(IIII)I" } : Jvm.MethodName)) ∈ lw_all := lw_g (lw_at lw_m8 1 rfl) rfl
theorem q1802 : (Jvm.Cond.code ({ cls := "TollsForLateModel", name := "takesOf", desc := "(IIII)I" } : Jvm.MethodName) prog_21_method_68_code (7 : Nat) (Option.some Jvm.ClassFile.FieldType.int)) ∈ lw_all := lw_g (lw_at lw_m8 2 rfl) rfl
theorem q1803 : (Jvm.Cond.methodLink "TollsForLateModel" (326 : Nat) ({ cls := "TollsForLateModel", name := "write", desc := "(I)V" } : Jvm.MethodName)) ∈ lw_all := lw_g (lw_at lw_m8 3 rfl) rfl
theorem q1804 : (Jvm.Cond.privateMethod ({ cls := "TollsForLateModel", name := "write", desc := "(I)V" } : Jvm.MethodName)) ∈ lw_tbl := lw_at lw_m8 4 rfl
theorem q1805 : (Jvm.Cond.instanceMethod ({ cls := "TollsForLateModel", name := "write", desc := "(I)V" } : Jvm.MethodName)) ∈ lw_all := lw_g (lw_at lw_m8 5 rfl) rfl
theorem q1806 : (Jvm.Cond.code ({ cls := "TollsForLateModel", name := "write", desc := "(I)V" } : Jvm.MethodName) prog_21_method_72_code (3 : Nat) (Option.none : Option Jvm.ClassFile.FieldType)) ∈ lw_all := lw_g (lw_at lw_m8 6 rfl) rfl
theorem q1808 : (Jvm.Cond.instanceMethod ({ cls := "TollsForLateModel", name := "played", desc := "(I)I" } : Jvm.MethodName)) ∈ lw_all := lw_g (lw_at lw_m8 8 rfl) rfl
theorem q1809 : (Jvm.Cond.selects "TollsForLateModel" ({ cls := "TollsForLateModel", name := "played", desc := "(I)I" } : Jvm.MethodName) ({ cls := "TollsForLateModel", name := "played", desc := "(I)I" } : Jvm.MethodName)) ∈ lw_all := lw_g (lw_at lw_m8 9 rfl) rfl
theorem q1810 : (Jvm.Cond.code ({ cls := "TollsForLateModel", name := "played", desc := "(I)I" } : Jvm.MethodName) prog_21_method_85_code (3 : Nat) (Option.some Jvm.ClassFile.FieldType.int)) ∈ lw_all := lw_g (lw_at lw_m8 10 rfl) rfl
theorem q1811 : (Jvm.Cond.methodLink "TollsForLateModel" (362 : Nat) ({ cls := "TollsForLateModel", name := "isPlayed", desc := "(I)Z" } : Jvm.MethodName)) ∈ lw_all := lw_g (lw_at lw_m8 11 rfl) rfl
theorem q1812 : (Jvm.Cond.privateMethod ({ cls := "TollsForLateModel", name := "isPlayed", desc := "(I)Z" } : Jvm.MethodName)) ∈ lw_tbl := lw_at lw_m8 12 rfl
theorem q1813 : (Jvm.Cond.instanceMethod ({ cls := "TollsForLateModel", name := "isPlayed", desc := "(I)Z" } : Jvm.MethodName)) ∈ lw_all := lw_g (lw_at lw_m8 13 rfl) rfl
theorem q1814 : (Jvm.Cond.code ({ cls := "TollsForLateModel", name := "isPlayed", desc := "(I)Z" } : Jvm.MethodName) prog_21_method_84_code (4 : Nat) (Option.some Jvm.ClassFile.FieldType.boolean)) ∈ lw_all := lw_g (lw_at lw_m8 14 rfl) rfl
theorem q1815 : (Jvm.Cond.methodLink "TollsForLateModel" (347 : Nat) ({ cls := "TollsForLateModel", name := "person", desc := "(IIII)I" } : Jvm.MethodName)) ∈ lw_all := lw_g (lw_at lw_m8 15 rfl) rfl
theorem q1816 : (Jvm.Cond.methodLink "TollsForLateModel" (350 : Nat) ({ cls := "TollsForLateModel", name := "ring", desc := "(I)Z" } : Jvm.MethodName)) ∈ lw_all := lw_g (lw_at lw_m8 16 rfl) rfl
theorem q1817 : (Jvm.Cond.methodLink "TollsForLateModel" (353 : Nat) ({ cls := "TollsForLateModel", name := "due", desc := "(II)Z" } : Jvm.MethodName)) ∈ lw_all := lw_g (lw_at lw_m8 17 rfl) rfl
theorem q1818 : (Jvm.Cond.methodLink "TollsForLateModel" (356 : Nat) ({ cls := "TollsForLateModel", name := "bed", desc := "(I)Z" } : Jvm.MethodName)) ∈ lw_all := lw_g (lw_at lw_m8 18 rfl) rfl
theorem q1819 : (Jvm.Cond.methodLink "TollsForLateModel" (359 : Nat) ({ cls := "TollsForLateModel", name := "up", desc := "(I)Z" } : Jvm.MethodName)) ∈ lw_all := lw_g (lw_at lw_m8 19 rfl) rfl
theorem q1821 : (Jvm.Cond.instanceMethod ({ cls := "TollsForLateModel", name := "years", desc := "(II)I" } : Jvm.MethodName)) ∈ lw_all := lw_g (lw_at lw_m8 21 rfl) rfl
theorem q1822 : (Jvm.Cond.selects "TollsForLateModel" ({ cls := "TollsForLateModel", name := "years", desc := "(II)I" } : Jvm.MethodName) ({ cls := "TollsForLateModel", name := "years", desc := "(II)I" } : Jvm.MethodName)) ∈ lw_all := lw_g (lw_at lw_m8 22 rfl) rfl
theorem q1823 : (Jvm.Cond.code ({ cls := "TollsForLateModel", name := "years", desc := "(II)I" } : Jvm.MethodName) prog_21_method_87_code (5 : Nat) (Option.some Jvm.ClassFile.FieldType.int)) ∈ lw_all := lw_g (lw_at lw_m8 23 rfl) rfl
theorem q1824 : (Jvm.Cond.methodLink "TollsForLateModel" (365 : Nat) ({ cls := "TollsForLateModel", name := "happens", desc := "(I)V" } : Jvm.MethodName)) ∈ lw_all := lw_g (lw_at lw_m8 24 rfl) rfl
theorem q1825 : (Jvm.Cond.privateMethod ({ cls := "TollsForLateModel", name := "happens", desc := "(I)V" } : Jvm.MethodName)) ∈ lw_tbl := lw_at lw_m8 25 rfl
theorem q1826 : (Jvm.Cond.instanceMethod ({ cls := "TollsForLateModel", name := "happens", desc := "(I)V" } : Jvm.MethodName)) ∈ lw_all := lw_g (lw_at lw_m8 26 rfl) rfl
theorem q1827 : (Jvm.Cond.code ({ cls := "TollsForLateModel", name := "happens", desc := "(I)V" } : Jvm.MethodName) prog_21_method_86_code (3 : Nat) (Option.none : Option Jvm.ClassFile.FieldType)) ∈ lw_all := lw_g (lw_at lw_m8 27 rfl) rfl
theorem q1829 : (Jvm.Cond.instanceMethod ({ cls := "TollsForLateModel", name := "of", desc := "(II)I" } : Jvm.MethodName)) ∈ lw_all := lw_g (lw_at lw_m8 29 rfl) rfl
theorem q1830 : (Jvm.Cond.selects "TollsForLateModel" ({ cls := "TollsForLateModel", name := "of", desc := "(II)I" } : Jvm.MethodName) ({ cls := "TollsForLateModel", name := "of", desc := "(II)I" } : Jvm.MethodName)) ∈ lw_all := lw_g (lw_at lw_m8 30 rfl) rfl
theorem q1831 : (Jvm.Cond.code ({ cls := "TollsForLateModel", name := "of", desc := "(II)I" } : Jvm.MethodName) prog_21_method_88_code (3 : Nat) (Option.some Jvm.ClassFile.FieldType.int)) ∈ lw_all := lw_g (lw_at lw_m8 31 rfl) rfl
theorem q1832 : (Jvm.Cond.methodLink "TollsForLateModel" (368 : Nat) ({ cls := "TollsForLateModel", name := "runningNow", desc := "()I" } : Jvm.MethodName)) ∈ lw_all := lw_g (lw_at lw_m8 32 rfl) rfl
theorem q1833 : (Jvm.Cond.privateMethod ({ cls := "TollsForLateModel", name := "runningNow", desc := "()I" } : Jvm.MethodName)) ∈ lw_tbl := lw_at lw_m8 33 rfl
theorem q1834 : (Jvm.Cond.instanceMethod ({ cls := "TollsForLateModel", name := "runningNow", desc := "()I" } : Jvm.MethodName)) ∈ lw_all := lw_g (lw_at lw_m8 34 rfl) rfl
theorem q1835 : (Jvm.Cond.code ({ cls := "TollsForLateModel", name := "runningNow", desc := "()I" } : Jvm.MethodName) prog_21_method_70_code (1 : Nat) (Option.some Jvm.ClassFile.FieldType.int)) ∈ lw_all := lw_g (lw_at lw_m8 35 rfl) rfl
theorem q1836 : (Jvm.Cond.methodLink "TollsForLateModel" (371 : Nat) ({ cls := "TollsForLateModel", name := "takesNow", desc := "(II)I" } : Jvm.MethodName)) ∈ lw_all := lw_g (lw_at lw_m8 36 rfl) rfl
theorem q1837 : (Jvm.Cond.privateMethod ({ cls := "TollsForLateModel", name := "takesNow", desc := "(II)I" } : Jvm.MethodName)) ∈ lw_tbl := lw_at lw_m8 37 rfl
theorem q1838 : (Jvm.Cond.instanceMethod ({ cls := "TollsForLateModel", name := "takesNow", desc := "(II)I" } : Jvm.MethodName)) ∈ lw_all := lw_g (lw_at lw_m8 38 rfl) rfl
theorem q1839 : (Jvm.Cond.code ({ cls := "TollsForLateModel", name := "takesNow", desc := "(II)I" } : Jvm.MethodName) prog_21_method_71_code (3 : Nat) (Option.some Jvm.ClassFile.FieldType.int)) ∈ lw_all := lw_g (lw_at lw_m8 39 rfl) rfl
theorem q1841 : (Jvm.Cond.instanceMethod ({ cls := "TollsForLateModel", name := "is", desc := "(I)I" } : Jvm.MethodName)) ∈ lw_all := lw_g (lw_at lw_m8 41 rfl) rfl
theorem q1842 : (Jvm.Cond.selects "TollsForLateModel" ({ cls := "TollsForLateModel", name := "is", desc := "(I)I" } : Jvm.MethodName) ({ cls := "TollsForLateModel", name := "is", desc := "(I)I" } : Jvm.MethodName)) ∈ lw_all := lw_g (lw_at lw_m8 42 rfl) rfl
theorem q1843 : (Jvm.Cond.code ({ cls := "TollsForLateModel", name := "is", desc := "(I)I" } : Jvm.MethodName) prog_21_method_89_code (2 : Nat) (Option.some Jvm.ClassFile.FieldType.int)) ∈ lw_all := lw_g (lw_at lw_m8 43 rfl) rfl
theorem q1845 : (Jvm.Cond.instanceMethod ({ cls := "TollsForLateModel", name := "book", desc := "(II)I" } : Jvm.MethodName)) ∈ lw_all := lw_g (lw_at lw_m8 45 rfl) rfl
theorem q1846 : (Jvm.Cond.selects "TollsForLateModel" ({ cls := "TollsForLateModel", name := "book", desc := "(II)I" } : Jvm.MethodName) ({ cls := "TollsForLateModel", name := "book", desc := "(II)I" } : Jvm.MethodName)) ∈ lw_all := lw_g (lw_at lw_m8 46 rfl) rfl
theorem q1847 : (Jvm.Cond.code ({ cls := "TollsForLateModel", name := "book", desc := "(II)I" } : Jvm.MethodName) prog_21_method_90_code (5 : Nat) (Option.some Jvm.ClassFile.FieldType.int)) ∈ lw_all := lw_g (lw_at lw_m8 47 rfl) rfl
theorem q1849 : (Jvm.Cond.instanceMethod ({ cls := "TollsForLateModel", name := "ledger", desc := "(I)I" } : Jvm.MethodName)) ∈ lw_all := lw_g (lw_at lw_m8 49 rfl) rfl
theorem q1850 : (Jvm.Cond.selects "TollsForLateModel" ({ cls := "TollsForLateModel", name := "ledger", desc := "(I)I" } : Jvm.MethodName) ({ cls := "TollsForLateModel", name := "ledger", desc := "(I)I" } : Jvm.MethodName)) ∈ lw_all := lw_g (lw_at lw_m8 50 rfl) rfl
theorem q1851 : (Jvm.Cond.code ({ cls := "TollsForLateModel", name := "ledger", desc := "(I)I" } : Jvm.MethodName) prog_21_method_91_code (4 : Nat) (Option.some Jvm.ClassFile.FieldType.int)) ∈ lw_all := lw_g (lw_at lw_m8 51 rfl) rfl
theorem q1852 : (Jvm.Cond.methodLink "TollsForLateModel" (374 : Nat) ({ cls := "TollsForLateModel", name := "book", desc := "(II)I" } : Jvm.MethodName)) ∈ lw_all := lw_g (lw_at lw_m8 52 rfl) rfl
theorem q1854 : (Jvm.Cond.instanceMethod ({ cls := "TollsForLateModel", name := "latest", desc := "()I" } : Jvm.MethodName)) ∈ lw_all := lw_g (lw_at lw_m8 54 rfl) rfl
theorem q1855 : (Jvm.Cond.selects "TollsForLateModel" ({ cls := "TollsForLateModel", name := "latest", desc := "()I" } : Jvm.MethodName) ({ cls := "TollsForLateModel", name := "latest", desc := "()I" } : Jvm.MethodName)) ∈ lw_all := lw_g (lw_at lw_m8 55 rfl) rfl
theorem q1856 : (Jvm.Cond.code ({ cls := "TollsForLateModel", name := "latest", desc := "()I" } : Jvm.MethodName) prog_21_method_92_code (3 : Nat) (Option.some Jvm.ClassFile.FieldType.int)) ∈ lw_all := lw_g (lw_at lw_m8 56 rfl) rfl
theorem q1858 : (Jvm.Cond.instanceMethod ({ cls := "TollsForLateModel", name := "crowded", desc := "()I" } : Jvm.MethodName)) ∈ lw_all := lw_g (lw_at lw_m8 58 rfl) rfl
theorem q1859 : (Jvm.Cond.selects "TollsForLateModel" ({ cls := "TollsForLateModel", name := "crowded", desc := "()I" } : Jvm.MethodName) ({ cls := "TollsForLateModel", name := "crowded", desc := "()I" } : Jvm.MethodName)) ∈ lw_all := lw_g (lw_at lw_m8 59 rfl) rfl
theorem q1860 : (Jvm.Cond.code ({ cls := "TollsForLateModel", name := "crowded", desc := "()I" } : Jvm.MethodName) prog_21_method_93_code (6 : Nat) (Option.some Jvm.ClassFile.FieldType.int)) ∈ lw_all := lw_g (lw_at lw_m8 60 rfl) rfl
theorem q1862 : (Jvm.Cond.instanceMethod ({ cls := "TollsForLateModel", name := "deaf", desc := "()I" } : Jvm.MethodName)) ∈ lw_all := lw_g (lw_at lw_m8 62 rfl) rfl
theorem q1863 : (Jvm.Cond.selects "TollsForLateModel" ({ cls := "TollsForLateModel", name := "deaf", desc := "()I" } : Jvm.MethodName) ({ cls := "TollsForLateModel", name := "deaf", desc := "()I" } : Jvm.MethodName)) ∈ lw_all := lw_g (lw_at lw_m8 63 rfl) rfl
theorem q1864 : (Jvm.Cond.code ({ cls := "TollsForLateModel", name := "deaf", desc := "()I" } : Jvm.MethodName) prog_21_method_94_code (3 : Nat) (Option.some Jvm.ClassFile.FieldType.int)) ∈ lw_all := lw_g (lw_at lw_m8 64 rfl) rfl
theorem q1866 : (Jvm.Cond.instanceMethod ({ cls := "TollsForLateModel", name := "foretold", desc := "(II)I" } : Jvm.MethodName)) ∈ lw_all := lw_g (lw_at lw_m8 66 rfl) rfl
theorem q1867 : (Jvm.Cond.selects "TollsForLateModel" ({ cls := "TollsForLateModel", name := "foretold", desc := "(II)I" } : Jvm.MethodName) ({ cls := "TollsForLateModel", name := "foretold", desc := "(II)I" } : Jvm.MethodName)) ∈ lw_all := lw_g (lw_at lw_m8 67 rfl) rfl
theorem q1868 : (Jvm.Cond.code ({ cls := "TollsForLateModel", name := "foretold", desc := "(II)I" } : Jvm.MethodName) prog_21_method_95_code (5 : Nat) (Option.some Jvm.ClassFile.FieldType.int)) ∈ lw_all := lw_g (lw_at lw_m8 68 rfl) rfl
theorem q1870 : (Jvm.Cond.instanceMethod ({ cls := "TollsForLateModel", name := "late", desc := "(I)I" } : Jvm.MethodName)) ∈ lw_all := lw_g (lw_at lw_m8 70 rfl) rfl
theorem q1871 : (Jvm.Cond.selects "TollsForLateModel" ({ cls := "TollsForLateModel", name := "late", desc := "(I)I" } : Jvm.MethodName) ({ cls := "TollsForLateModel", name := "late", desc := "(I)I" } : Jvm.MethodName)) ∈ lw_all := lw_g (lw_at lw_m8 71 rfl) rfl
theorem q1872 : (Jvm.Cond.code ({ cls := "TollsForLateModel", name := "late", desc := "(I)I" } : Jvm.MethodName) prog_21_method_96_code (2 : Nat) (Option.some Jvm.ClassFile.FieldType.int)) ∈ lw_all := lw_g (lw_at lw_m8 72 rfl) rfl
theorem q1874 : (Jvm.Cond.instanceMethod ({ cls := "TollsForLateModel", name := "runners", desc := "(I)I" } : Jvm.MethodName)) ∈ lw_all := lw_g (lw_at lw_m8 74 rfl) rfl
theorem q1875 : (Jvm.Cond.selects "TollsForLateModel" ({ cls := "TollsForLateModel", name := "runners", desc := "(I)I" } : Jvm.MethodName) ({ cls := "TollsForLateModel", name := "runners", desc := "(I)I" } : Jvm.MethodName)) ∈ lw_all := lw_g (lw_at lw_m8 75 rfl) rfl
theorem q1876 : (Jvm.Cond.code ({ cls := "TollsForLateModel", name := "runners", desc := "(I)I" } : Jvm.MethodName) prog_21_method_97_code (2 : Nat) (Option.some Jvm.ClassFile.FieldType.int)) ∈ lw_all := lw_g (lw_at lw_m8 76 rfl) rfl
theorem q1878 : (Jvm.Cond.instanceMethod ({ cls := "TollsForLateModel", name := "settled", desc := "(I)I" } : Jvm.MethodName)) ∈ lw_all := lw_g (lw_at lw_m8 78 rfl) rfl
theorem q1879 : (Jvm.Cond.selects "TollsForLateModel" ({ cls := "TollsForLateModel", name := "settled", desc := "(I)I" } : Jvm.MethodName) ({ cls := "TollsForLateModel", name := "settled", desc := "(I)I" } : Jvm.MethodName)) ∈ lw_all := lw_g (lw_at lw_m8 79 rfl) rfl
theorem q1880 : (Jvm.Cond.code ({ cls := "TollsForLateModel", name := "settled", desc := "(I)I" } : Jvm.MethodName) prog_21_method_99_code (4 : Nat) (Option.some Jvm.ClassFile.FieldType.int)) ∈ lw_all := lw_g (lw_at lw_m8 80 rfl) rfl
theorem q1881 : (Jvm.Cond.methodLink "TollsForLateModel" (377 : Nat) ({ cls := "TollsForLateModel", name := "layLeads", desc := "()V" } : Jvm.MethodName)) ∈ lw_all := lw_g (lw_at lw_m8 81 rfl) rfl
theorem q1882 : (Jvm.Cond.privateMethod ({ cls := "TollsForLateModel", name := "layLeads", desc := "()V" } : Jvm.MethodName)) ∈ lw_tbl := lw_at lw_m8 82 rfl
theorem q1883 : (Jvm.Cond.instanceMethod ({ cls := "TollsForLateModel", name := "layLeads", desc := "()V" } : Jvm.MethodName)) ∈ lw_all := lw_g (lw_at lw_m8 83 rfl) rfl
theorem q1884 : (Jvm.Cond.code ({ cls := "TollsForLateModel", name := "layLeads", desc := "()V" } : Jvm.MethodName) prog_21_method_98_code (2 : Nat) (Option.none : Option Jvm.ClassFile.FieldType)) ∈ lw_all := lw_g (lw_at lw_m8 84 rfl) rfl
theorem q1886 : (Jvm.Cond.instanceMethod ({ cls := "TollsForLateModel", name := "fewest", desc := "(Z)I" } : Jvm.MethodName)) ∈ lw_all := lw_g (lw_at lw_m8 86 rfl) rfl
theorem q1887 : (Jvm.Cond.selects "TollsForLateModel" ({ cls := "TollsForLateModel", name := "fewest", desc := "(Z)I" } : Jvm.MethodName) ({ cls := "TollsForLateModel", name := "fewest", desc := "(Z)I" } : Jvm.MethodName)) ∈ lw_all := lw_g (lw_at lw_m8 87 rfl) rfl
theorem q1888 : (Jvm.Cond.code ({ cls := "TollsForLateModel", name := "fewest", desc := "(Z)I" } : Jvm.MethodName) prog_21_method_100_code (4 : Nat) (Option.some Jvm.ClassFile.FieldType.int)) ∈ lw_all := lw_g (lw_at lw_m8 88 rfl) rfl
theorem q1890 : (Jvm.Cond.instanceMethod ({ cls := "TollsForLateModel", name := "tail", desc := "(I)I" } : Jvm.MethodName)) ∈ lw_all := lw_g (lw_at lw_m8 90 rfl) rfl
theorem q1891 : (Jvm.Cond.selects "TollsForLateModel" ({ cls := "TollsForLateModel", name := "tail", desc := "(I)I" } : Jvm.MethodName) ({ cls := "TollsForLateModel", name := "tail", desc := "(I)I" } : Jvm.MethodName)) ∈ lw_all := lw_g (lw_at lw_m8 91 rfl) rfl
theorem q1892 : (Jvm.Cond.code ({ cls := "TollsForLateModel", name := "tail", desc := "(I)I" } : Jvm.MethodName) prog_21_method_103_code (3 : Nat) (Option.some Jvm.ClassFile.FieldType.int)) ∈ lw_all := lw_g (lw_at lw_m8 92 rfl) rfl
theorem q1893 : (Jvm.Cond.methodLink "TollsForLateModel" (380 : Nat) ({ cls := "TollsForLateModel", name := "goneFrom", desc := "(II)I" } : Jvm.MethodName)) ∈ lw_all := lw_g (lw_at lw_m8 93 rfl) rfl
theorem q1894 : (Jvm.Cond.privateMethod ({ cls := "TollsForLateModel", name := "goneFrom", desc := "(II)I" } : Jvm.MethodName)) ∈ lw_tbl := lw_at lw_m8 94 rfl
theorem q1895 : (Jvm.Cond.instanceMethod ({ cls := "TollsForLateModel", name := "goneFrom", desc := "(II)I" } : Jvm.MethodName)) ∈ lw_all := lw_g (lw_at lw_m8 95 rfl) rfl
theorem q1896 : (Jvm.Cond.code ({ cls := "TollsForLateModel", name := "goneFrom", desc := "(II)I" } : Jvm.MethodName) prog_21_method_101_code (5 : Nat) (Option.some Jvm.ClassFile.FieldType.int)) ∈ lw_all := lw_g (lw_at lw_m8 96 rfl) rfl
theorem q1897 : (Jvm.Cond.methodLink "TollsForLateModel" (383 : Nat) ({ cls := "TollsForLateModel", name := "isRound", desc := "(I)Z" } : Jvm.MethodName)) ∈ lw_all := lw_g (lw_at lw_m8 97 rfl) rfl
theorem q1898 : (Jvm.Cond.privateMethod ({ cls := "TollsForLateModel", name := "isRound", desc := "(I)Z" } : Jvm.MethodName)) ∈ lw_tbl := lw_at lw_m8 98 rfl
theorem q1899 : (Jvm.Cond.instanceMethod ({ cls := "TollsForLateModel", name := "isRound", desc := "(I)Z" } : Jvm.MethodName)) ∈ lw_all := lw_g (lw_at lw_m8 99 rfl) rfl
theorem q1900 : (Jvm.Cond.code ({ cls := "TollsForLateModel", name := "isRound", desc := "(I)Z" } : Jvm.MethodName) prog_21_method_102_code (4 : Nat) (Option.some Jvm.ClassFile.FieldType.boolean)) ∈ lw_all := lw_g (lw_at lw_m8 100 rfl) rfl
theorem q1902 : (Jvm.Cond.instanceMethod ({ cls := "TollsForLateModel", name := "round", desc := "(I)I" } : Jvm.MethodName)) ∈ lw_all := lw_g (lw_at lw_m8 102 rfl) rfl
theorem q1903 : (Jvm.Cond.selects "TollsForLateModel" ({ cls := "TollsForLateModel", name := "round", desc := "(I)I" } : Jvm.MethodName) ({ cls := "TollsForLateModel", name := "round", desc := "(I)I" } : Jvm.MethodName)) ∈ lw_all := lw_g (lw_at lw_m8 103 rfl) rfl
theorem q1904 : (Jvm.Cond.code ({ cls := "TollsForLateModel", name := "round", desc := "(I)I" } : Jvm.MethodName) prog_21_method_104_code (4 : Nat) (Option.some Jvm.ClassFile.FieldType.int)) ∈ lw_all := lw_g (lw_at lw_m8 104 rfl) rfl
theorem q1906 : (Jvm.Cond.instanceMethod ({ cls := "TollsForLateModel", name := "rounds", desc := "()I" } : Jvm.MethodName)) ∈ lw_all := lw_g (lw_at lw_m8 106 rfl) rfl
theorem q1907 : (Jvm.Cond.selects "TollsForLateModel" ({ cls := "TollsForLateModel", name := "rounds", desc := "()I" } : Jvm.MethodName) ({ cls := "TollsForLateModel", name := "rounds", desc := "()I" } : Jvm.MethodName)) ∈ lw_all := lw_g (lw_at lw_m8 107 rfl) rfl
theorem q1908 : (Jvm.Cond.code ({ cls := "TollsForLateModel", name := "rounds", desc := "()I" } : Jvm.MethodName) prog_21_method_105_code (5 : Nat) (Option.some Jvm.ClassFile.FieldType.int)) ∈ lw_all := lw_g (lw_at lw_m8 108 rfl) rfl
theorem q1910 : (Jvm.Cond.instanceMethod ({ cls := "TollsForLateModel", name := "basin", desc := "(I)I" } : Jvm.MethodName)) ∈ lw_all := lw_g (lw_at lw_m8 110 rfl) rfl
theorem q1911 : (Jvm.Cond.selects "TollsForLateModel" ({ cls := "TollsForLateModel", name := "basin", desc := "(I)I" } : Jvm.MethodName) ({ cls := "TollsForLateModel", name := "basin", desc := "(I)I" } : Jvm.MethodName)) ∈ lw_all := lw_g (lw_at lw_m8 111 rfl) rfl
theorem q1912 : (Jvm.Cond.code ({ cls := "TollsForLateModel", name := "basin", desc := "(I)I" } : Jvm.MethodName) prog_21_method_107_code (4 : Nat) (Option.some Jvm.ClassFile.FieldType.int)) ∈ lw_all := lw_g (lw_at lw_m8 112 rfl) rfl
theorem q1913 : (Jvm.Cond.methodLink "TollsForLateModel" (386 : Nat) ({ cls := "TollsForLateModel", name := "timesTo", desc := "(II)I" } : Jvm.MethodName)) ∈ lw_all := lw_g (lw_at lw_m8 113 rfl) rfl
theorem q1914 : (Jvm.Cond.privateMethod ({ cls := "TollsForLateModel", name := "timesTo", desc := "(II)I" } : Jvm.MethodName)) ∈ lw_tbl := lw_at lw_m8 114 rfl
theorem q1915 : (Jvm.Cond.instanceMethod ({ cls := "TollsForLateModel", name := "timesTo", desc := "(II)I" } : Jvm.MethodName)) ∈ lw_all := lw_g (lw_at lw_m8 115 rfl) rfl
theorem q1916 : (Jvm.Cond.code ({ cls := "TollsForLateModel", name := "timesTo", desc := "(II)I" } : Jvm.MethodName) prog_21_method_106_code (5 : Nat) (Option.some Jvm.ClassFile.FieldType.int)) ∈ lw_all := lw_g (lw_at lw_m8 116 rfl) rfl
theorem q1918 : (Jvm.Cond.instanceMethod ({ cls := "TollsForLateModel", name := "never", desc := "()I" } : Jvm.MethodName)) ∈ lw_all := lw_g (lw_at lw_m8 118 rfl) rfl
theorem q1919 : (Jvm.Cond.selects "TollsForLateModel" ({ cls := "TollsForLateModel", name := "never", desc := "()I" } : Jvm.MethodName) ({ cls := "TollsForLateModel", name := "never", desc := "()I" } : Jvm.MethodName)) ∈ lw_all := lw_g (lw_at lw_m8 119 rfl) rfl
theorem q1920 : (Jvm.Cond.code ({ cls := "TollsForLateModel", name := "never", desc := "()I" } : Jvm.MethodName) prog_21_method_108_code (5 : Nat) (Option.some Jvm.ClassFile.FieldType.int)) ∈ lw_all := lw_g (lw_at lw_m8 120 rfl) rfl
theorem q1922 : (Jvm.Cond.instanceMethod ({ cls := "TollsForLateModel", name := "after", desc := "(II)I" } : Jvm.MethodName)) ∈ lw_all := lw_g (lw_at lw_m8 122 rfl) rfl
theorem q1923 : (Jvm.Cond.selects "TollsForLateModel" ({ cls := "TollsForLateModel", name := "after", desc := "(II)I" } : Jvm.MethodName) ({ cls := "TollsForLateModel", name := "after", desc := "(II)I" } : Jvm.MethodName)) ∈ lw_all := lw_g (lw_at lw_m8 123 rfl) rfl
theorem q1924 : (Jvm.Cond.code ({ cls := "TollsForLateModel", name := "after", desc := "(II)I" } : Jvm.MethodName) prog_21_method_109_code (3 : Nat) (Option.some Jvm.ClassFile.FieldType.int)) ∈ lw_all := lw_g (lw_at lw_m8 124 rfl) rfl
theorem q1926 : (Jvm.Cond.instanceMethod ({ cls := "TollsForLateModel", name := "times", desc := "(II)I" } : Jvm.MethodName)) ∈ lw_all := lw_g (lw_at lw_m8 126 rfl) rfl
theorem q1927 : (Jvm.Cond.selects "TollsForLateModel" ({ cls := "TollsForLateModel", name := "times", desc := "(II)I" } : Jvm.MethodName) ({ cls := "TollsForLateModel", name := "times", desc := "(II)I" } : Jvm.MethodName)) ∈ lw_all := lw_g (lw_at lw_m8 127 rfl) rfl
theorem q1928 : (Jvm.Cond.code ({ cls := "TollsForLateModel", name := "times", desc := "(II)I" } : Jvm.MethodName) prog_21_method_110_code (3 : Nat) (Option.some Jvm.ClassFile.FieldType.int)) ∈ lw_all := lw_g (lw_at lw_m8 128 rfl) rfl
theorem q1930 : (Jvm.Cond.instanceMethod ({ cls := "TollsForLateModel", name := "apart", desc := "(II)I" } : Jvm.MethodName)) ∈ lw_all := lw_g (lw_at lw_m8 130 rfl) rfl
theorem q1931 : (Jvm.Cond.selects "TollsForLateModel" ({ cls := "TollsForLateModel", name := "apart", desc := "(II)I" } : Jvm.MethodName) ({ cls := "TollsForLateModel", name := "apart", desc := "(II)I" } : Jvm.MethodName)) ∈ lw_all := lw_g (lw_at lw_m8 131 rfl) rfl
theorem q1932 : (Jvm.Cond.code ({ cls := "TollsForLateModel", name := "apart", desc := "(II)I" } : Jvm.MethodName) prog_21_method_111_code (4 : Nat) (Option.some Jvm.ClassFile.FieldType.int)) ∈ lw_all := lw_g (lw_at lw_m8 132 rfl) rfl
theorem q1934 : (Jvm.Cond.instanceMethod ({ cls := "TollsForLateModel", name := "always", desc := "()I" } : Jvm.MethodName)) ∈ lw_all := lw_g (lw_at lw_m8 134 rfl) rfl
theorem q1935 : (Jvm.Cond.selects "TollsForLateModel" ({ cls := "TollsForLateModel", name := "always", desc := "()I" } : Jvm.MethodName) ({ cls := "TollsForLateModel", name := "always", desc := "()I" } : Jvm.MethodName)) ∈ lw_all := lw_g (lw_at lw_m8 135 rfl) rfl
theorem q1936 : (Jvm.Cond.code ({ cls := "TollsForLateModel", name := "always", desc := "()I" } : Jvm.MethodName) prog_21_method_112_code (6 : Nat) (Option.some Jvm.ClassFile.FieldType.int)) ∈ lw_all := lw_g (lw_at lw_m8 136 rfl) rfl
theorem q1938 : (Jvm.Cond.instanceMethod ({ cls := "TollsForLateModel", name := "calm", desc := "(Z)I" } : Jvm.MethodName)) ∈ lw_all := lw_g (lw_at lw_m8 138 rfl) rfl
theorem q1939 : (Jvm.Cond.selects "TollsForLateModel" ({ cls := "TollsForLateModel", name := "calm", desc := "(Z)I" } : Jvm.MethodName) ({ cls := "TollsForLateModel", name := "calm", desc := "(Z)I" } : Jvm.MethodName)) ∈ lw_all := lw_g (lw_at lw_m8 139 rfl) rfl
theorem q1940 : (Jvm.Cond.code ({ cls := "TollsForLateModel", name := "calm", desc := "(Z)I" } : Jvm.MethodName) prog_21_method_113_code (4 : Nat) (Option.some Jvm.ClassFile.FieldType.int)) ∈ lw_all := lw_g (lw_at lw_m8 140 rfl) rfl
theorem q1942 : (Jvm.Cond.instanceMethod ({ cls := "TollsForLateModel", name := "helped", desc := "(IZ)I" } : Jvm.MethodName)) ∈ lw_all := lw_g (lw_at lw_m8 142 rfl) rfl
theorem q1943 : (Jvm.Cond.selects "TollsForLateModel" ({ cls := "TollsForLateModel", name := "helped", desc := "(IZ)I" } : Jvm.MethodName) ({ cls := "TollsForLateModel", name := "helped", desc := "(IZ)I" } : Jvm.MethodName)) ∈ lw_all := lw_g (lw_at lw_m8 143 rfl) rfl
theorem q1944 : (Jvm.Cond.code ({ cls := "TollsForLateModel", name := "helped", desc := "(IZ)I" } : Jvm.MethodName) prog_21_method_114_code (3 : Nat) (Option.some Jvm.ClassFile.FieldType.int)) ∈ lw_all := lw_g (lw_at lw_m8 144 rfl) rfl
theorem q1946 : (Jvm.Cond.instanceMethod ({ cls := "TollsForLateModel", name := "early", desc := "(I)I" } : Jvm.MethodName)) ∈ lw_all := lw_g (lw_at lw_m8 146 rfl) rfl
theorem q1947 : (Jvm.Cond.selects "TollsForLateModel" ({ cls := "TollsForLateModel", name := "early", desc := "(I)I" } : Jvm.MethodName) ({ cls := "TollsForLateModel", name := "early", desc := "(I)I" } : Jvm.MethodName)) ∈ lw_all := lw_g (lw_at lw_m8 147 rfl) rfl
theorem q1948 : (Jvm.Cond.code ({ cls := "TollsForLateModel", name := "early", desc := "(I)I" } : Jvm.MethodName) prog_21_method_115_code (6 : Nat) (Option.some Jvm.ClassFile.FieldType.int)) ∈ lw_all := lw_g (lw_at lw_m8 148 rfl) rfl
theorem q1950 : (Jvm.Cond.instanceMethod ({ cls := "TollsForLateModel", name := "weathers", desc := "(I)I" } : Jvm.MethodName)) ∈ lw_all := lw_g (lw_at lw_m8 150 rfl) rfl
theorem q1951 : (Jvm.Cond.selects "TollsForLateModel" ({ cls := "TollsForLateModel", name := "weathers", desc := "(I)I" } : Jvm.MethodName) ({ cls := "TollsForLateModel", name := "weathers", desc := "(I)I" } : Jvm.MethodName)) ∈ lw_all := lw_g (lw_at lw_m8 151 rfl) rfl
theorem q1952 : (Jvm.Cond.code ({ cls := "TollsForLateModel", name := "weathers", desc := "(I)I" } : Jvm.MethodName) prog_21_method_116_code (5 : Nat) (Option.some Jvm.ClassFile.FieldType.int)) ∈ lw_all := lw_g (lw_at lw_m8 152 rfl) rfl
theorem q1954 : (Jvm.Cond.instanceMethod ({ cls := "TollsForLateModel", name := "needless", desc := "()I" } : Jvm.MethodName)) ∈ lw_all := lw_g (lw_at lw_m8 154 rfl) rfl
theorem q1955 : (Jvm.Cond.selects "TollsForLateModel" ({ cls := "TollsForLateModel", name := "needless", desc := "()I" } : Jvm.MethodName) ({ cls := "TollsForLateModel", name := "needless", desc := "()I" } : Jvm.MethodName)) ∈ lw_all := lw_g (lw_at lw_m8 155 rfl) rfl
theorem q1956 : (Jvm.Cond.code ({ cls := "TollsForLateModel", name := "needless", desc := "()I" } : Jvm.MethodName) prog_21_method_118_code (3 : Nat) (Option.some Jvm.ClassFile.FieldType.int)) ∈ lw_all := lw_g (lw_at lw_m8 156 rfl) rfl
theorem q1957 : (Jvm.Cond.methodLink "TollsForLateModel" (389 : Nat) ({ cls := "TollsForLateModel", name := "isNeedless", desc := "(I)Z" } : Jvm.MethodName)) ∈ lw_all := lw_g (lw_at lw_m8 157 rfl) rfl
theorem q1958 : (Jvm.Cond.privateMethod ({ cls := "TollsForLateModel", name := "isNeedless", desc := "(I)Z" } : Jvm.MethodName)) ∈ lw_tbl := lw_at lw_m8 158 rfl
theorem q1959 : (Jvm.Cond.instanceMethod ({ cls := "TollsForLateModel", name := "isNeedless", desc := "(I)Z" } : Jvm.MethodName)) ∈ lw_all := lw_g (lw_at lw_m8 159 rfl) rfl
theorem q1960 : (Jvm.Cond.code ({ cls := "TollsForLateModel", name := "isNeedless", desc := "(I)Z" } : Jvm.MethodName) prog_21_method_117_code (2 : Nat) (Option.some Jvm.ClassFile.FieldType.boolean)) ∈ lw_all := lw_g (lw_at lw_m8 160 rfl) rfl
theorem q1962 : (Jvm.Cond.instanceMethod ({ cls := "TollsForLateModel", name := "lateness", desc := "(I)I" } : Jvm.MethodName)) ∈ lw_all := lw_g (lw_at lw_m8 162 rfl) rfl
theorem q1963 : (Jvm.Cond.selects "TollsForLateModel" ({ cls := "TollsForLateModel", name := "lateness", desc := "(I)I" } : Jvm.MethodName) ({ cls := "TollsForLateModel", name := "lateness", desc := "(I)I" } : Jvm.MethodName)) ∈ lw_all := lw_g (lw_at lw_m8 163 rfl) rfl
theorem q1964 : (Jvm.Cond.code ({ cls := "TollsForLateModel", name := "lateness", desc := "(I)I" } : Jvm.MethodName) prog_21_method_119_code (4 : Nat) (Option.some Jvm.ClassFile.FieldType.int)) ∈ lw_all := lw_g (lw_at lw_m8 164 rfl) rfl
theorem q1966 : (Jvm.Cond.instanceMethod ({ cls := "TollsForLateModel", name := "race", desc := "(IZ)I" } : Jvm.MethodName)) ∈ lw_all := lw_g (lw_at lw_m8 166 rfl) rfl
theorem q1967 : (Jvm.Cond.selects "TollsForLateModel" ({ cls := "TollsForLateModel", name := "race", desc := "(IZ)I" } : Jvm.MethodName) ({ cls := "TollsForLateModel", name := "race", desc := "(IZ)I" } : Jvm.MethodName)) ∈ lw_all := lw_g (lw_at lw_m8 167 rfl) rfl
theorem q1968 : (Jvm.Cond.code ({ cls := "TollsForLateModel", name := "race", desc := "(IZ)I" } : Jvm.MethodName) prog_21_method_120_code (5 : Nat) (Option.some Jvm.ClassFile.FieldType.int)) ∈ lw_all := lw_g (lw_at lw_m8 168 rfl) rfl
theorem q1969 : (Jvm.Cond.methodLink "TollsForLateModel" (392 : Nat) ({ cls := "TollsForLateModel", name := "chosen", desc := "(III)I" } : Jvm.MethodName)) ∈ lw_all := lw_g (lw_at lw_m8 169 rfl) rfl
theorem q1970 : (Jvm.Cond.static ({ cls := "TollsForLateModel", name := "chosen", desc := "(III)I" } : Jvm.MethodName)) ∈ lw_all := lw_g (lw_at lw_m8 170 rfl) rfl
theorem q1971 : (Jvm.Cond.code ({ cls := "TollsForLateModel", name := "chosen", desc := "(III)I" } : Jvm.MethodName) prog_21_method_121_code (3 : Nat) (Option.some Jvm.ClassFile.FieldType.int)) ∈ lw_all := lw_g (lw_at lw_m8 171 rfl) rfl
theorem q1973 : (Jvm.Cond.instanceMethod ({ cls := "TollsForLateModel", name := "heard", desc := "(IZ)I" } : Jvm.MethodName)) ∈ lw_all := lw_g (lw_at lw_m8 173 rfl) rfl
theorem q1974 : (Jvm.Cond.selects "TollsForLateModel" ({ cls := "TollsForLateModel", name := "heard", desc := "(IZ)I" } : Jvm.MethodName) ({ cls := "TollsForLateModel", name := "heard", desc := "(IZ)I" } : Jvm.MethodName)) ∈ lw_all := lw_g (lw_at lw_m8 174 rfl) rfl
theorem q1975 : (Jvm.Cond.code ({ cls := "TollsForLateModel", name := "heard", desc := "(IZ)I" } : Jvm.MethodName) prog_21_method_122_code (3 : Nat) (Option.some Jvm.ClassFile.FieldType.int)) ∈ lw_all := lw_g (lw_at lw_m8 175 rfl) rfl
theorem q1977 : (Jvm.Cond.instanceMethod ({ cls := "TollsForLateModel", name := "believes", desc := "(IZ)I" } : Jvm.MethodName)) ∈ lw_all := lw_g (lw_at lw_m8 177 rfl) rfl
theorem q1978 : (Jvm.Cond.selects "TollsForLateModel" ({ cls := "TollsForLateModel", name := "believes", desc := "(IZ)I" } : Jvm.MethodName) ({ cls := "TollsForLateModel", name := "believes", desc := "(IZ)I" } : Jvm.MethodName)) ∈ lw_all := lw_g (lw_at lw_m8 178 rfl) rfl
theorem q1979 : (Jvm.Cond.code ({ cls := "TollsForLateModel", name := "believes", desc := "(IZ)I" } : Jvm.MethodName) prog_21_method_125_code (6 : Nat) (Option.some Jvm.ClassFile.FieldType.int)) ∈ lw_all := lw_g (lw_at lw_m8 179 rfl) rfl
theorem q1980 : (Jvm.Cond.methodLink "TollsForLateModel" (395 : Nat) ({ cls := "TollsForLateModel", name := "layDays", desc := "()I" } : Jvm.MethodName)) ∈ lw_all := lw_g (lw_at lw_m8 180 rfl) rfl
theorem q1981 : (Jvm.Cond.privateMethod ({ cls := "TollsForLateModel", name := "layDays", desc := "()I" } : Jvm.MethodName)) ∈ lw_tbl := lw_at lw_m8 181 rfl
theorem q1982 : (Jvm.Cond.instanceMethod ({ cls := "TollsForLateModel", name := "layDays", desc := "()I" } : Jvm.MethodName)) ∈ lw_all := lw_g (lw_at lw_m8 182 rfl) rfl
theorem q1983 : (Jvm.Cond.code ({ cls := "TollsForLateModel", name := "layDays", desc := "()I" } : Jvm.MethodName) prog_21_method_123_code (5 : Nat) (Option.some Jvm.ClassFile.FieldType.int)) ∈ lw_all := lw_g (lw_at lw_m8 183 rfl) rfl
theorem q1984 : (Jvm.Cond.methodLink "TollsForLateModel" (398 : Nat) ({ cls := "TollsForLateModel", name := "divisor", desc := "(II)I" } : Jvm.MethodName)) ∈ lw_all := lw_g (lw_at lw_m8 184 rfl) rfl
theorem q1985 : (Jvm.Cond.static ({ cls := "TollsForLateModel", name := "divisor", desc := "(II)I" } : Jvm.MethodName)) ∈ lw_all := lw_g (lw_at lw_m8 185 rfl) rfl
theorem q1986 : (Jvm.Cond.code ({ cls := "TollsForLateModel", name := "divisor", desc := "(II)I" } : Jvm.MethodName) prog_21_method_124_code (5 : Nat) (Option.some Jvm.ClassFile.FieldType.int)) ∈ lw_all := lw_g (lw_at lw_m8 186 rfl) rfl
theorem q1988 : (Jvm.Cond.instanceMethod ({ cls := "TollsForLateModel", name := "sure", desc := "(Z)I" } : Jvm.MethodName)) ∈ lw_all := lw_g (lw_at lw_m8 188 rfl) rfl
theorem q1989 : (Jvm.Cond.selects "TollsForLateModel" ({ cls := "TollsForLateModel", name := "sure", desc := "(Z)I" } : Jvm.MethodName) ({ cls := "TollsForLateModel", name := "sure", desc := "(Z)I" } : Jvm.MethodName)) ∈ lw_all := lw_g (lw_at lw_m8 189 rfl) rfl
theorem q1990 : (Jvm.Cond.code ({ cls := "TollsForLateModel", name := "sure", desc := "(Z)I" } : Jvm.MethodName) prog_21_method_126_code (5 : Nat) (Option.some Jvm.ClassFile.FieldType.int)) ∈ lw_all := lw_g (lw_at lw_m8 190 rfl) rfl
theorem q1992 : (Jvm.Cond.instanceMethod ({ cls := "TollsForLateModel", name := "tells", desc := "(I)I" } : Jvm.MethodName)) ∈ lw_all := lw_g (lw_at lw_m8 192 rfl) rfl
theorem q1993 : (Jvm.Cond.selects "TollsForLateModel" ({ cls := "TollsForLateModel", name := "tells", desc := "(I)I" } : Jvm.MethodName) ({ cls := "TollsForLateModel", name := "tells", desc := "(I)I" } : Jvm.MethodName)) ∈ lw_all := lw_g (lw_at lw_m8 193 rfl) rfl
theorem q1994 : (Jvm.Cond.code ({ cls := "TollsForLateModel", name := "tells", desc := "(I)I" } : Jvm.MethodName) prog_21_method_128_code (7 : Nat) (Option.some Jvm.ClassFile.FieldType.int)) ∈ lw_all := lw_g (lw_at lw_m8 194 rfl) rfl
theorem q1995 : (Jvm.Cond.constant "TollsForLateModel" (401 : Nat) (1000000 : Int32)) ∈ lw_all := lw_g (lw_at lw_m8 195 rfl) rfl
theorem q1996 : (Jvm.Cond.methodLink "TollsForLateModel" (402 : Nat) ({ cls := "TollsForLateModel", name := "asksBy", desc := "(III)I" } : Jvm.MethodName)) ∈ lw_all := lw_g (lw_at lw_m8 196 rfl) rfl
theorem q1997 : (Jvm.Cond.privateMethod ({ cls := "TollsForLateModel", name := "asksBy", desc := "(III)I" } : Jvm.MethodName)) ∈ lw_tbl := lw_at lw_m8 197 rfl
theorem q1998 : (Jvm.Cond.instanceMethod ({ cls := "TollsForLateModel", name := "asksBy", desc := "(III)I" } : Jvm.MethodName)) ∈ lw_all := lw_g (lw_at lw_m8 198 rfl) rfl
theorem q1999 : (Jvm.Cond.code ({ cls := "TollsForLateModel", name := "asksBy", desc := "(III)I" } : Jvm.MethodName) prog_21_method_127_code (6 : Nat) (Option.some Jvm.ClassFile.FieldType.int)) ∈ lw_all := lw_g (lw_at lw_m8 199 rfl) rfl
theorem q2001 : (Jvm.Cond.instanceMethod ({ cls := "TollsForLateModel", name := "asleep", desc := "(Z)I" } : Jvm.MethodName)) ∈ lw_all := lw_g (lw_at lw_m8 201 rfl) rfl
theorem q2002 : (Jvm.Cond.selects "TollsForLateModel" ({ cls := "TollsForLateModel", name := "asleep", desc := "(Z)I" } : Jvm.MethodName) ({ cls := "TollsForLateModel", name := "asleep", desc := "(Z)I" } : Jvm.MethodName)) ∈ lw_all := lw_g (lw_at lw_m8 202 rfl) rfl
theorem q2003 : (Jvm.Cond.code ({ cls := "TollsForLateModel", name := "asleep", desc := "(Z)I" } : Jvm.MethodName) prog_21_method_132_code (3 : Nat) (Option.some Jvm.ClassFile.FieldType.int)) ∈ lw_all := lw_g (lw_at lw_m8 203 rfl) rfl
theorem q2004 : (Jvm.Cond.methodLink "TollsForLateModel" (411 : Nat) ({ cls := "TollsForLateModel", name := "leastAsleep", desc := "()I" } : Jvm.MethodName)) ∈ lw_all := lw_g (lw_at lw_m8 204 rfl) rfl
theorem q2005 : (Jvm.Cond.privateMethod ({ cls := "TollsForLateModel", name := "leastAsleep", desc := "()I" } : Jvm.MethodName)) ∈ lw_tbl := lw_at lw_m8 205 rfl
theorem q2006 : (Jvm.Cond.instanceMethod ({ cls := "TollsForLateModel", name := "leastAsleep", desc := "()I" } : Jvm.MethodName)) ∈ lw_all := lw_g (lw_at lw_m8 206 rfl) rfl
theorem q2007 : (Jvm.Cond.code ({ cls := "TollsForLateModel", name := "leastAsleep", desc := "()I" } : Jvm.MethodName) prog_21_method_131_code (4 : Nat) (Option.some Jvm.ClassFile.FieldType.int)) ∈ lw_all := lw_g (lw_at lw_m8 207 rfl) rfl
theorem q2008 : (Jvm.Cond.methodLink "TollsForLateModel" (405 : Nat) ({ cls := "TollsForLateModel", name := "inBed", desc := "()I" } : Jvm.MethodName)) ∈ lw_all := lw_g (lw_at lw_m8 208 rfl) rfl
theorem q2009 : (Jvm.Cond.privateMethod ({ cls := "TollsForLateModel", name := "inBed", desc := "()I" } : Jvm.MethodName)) ∈ lw_tbl := lw_at lw_m8 209 rfl
theorem q2010 : (Jvm.Cond.instanceMethod ({ cls := "TollsForLateModel", name := "inBed", desc := "()I" } : Jvm.MethodName)) ∈ lw_all := lw_g (lw_at lw_m8 210 rfl) rfl
theorem q2011 : (Jvm.Cond.code ({ cls := "TollsForLateModel", name := "inBed", desc := "()I" } : Jvm.MethodName) prog_21_method_129_code (3 : Nat) (Option.some Jvm.ClassFile.FieldType.int)) ∈ lw_all := lw_g (lw_at lw_m8 211 rfl) rfl
theorem q2012 : (Jvm.Cond.methodLink "TollsForLateModel" (408 : Nat) ({ cls := "TollsForLateModel", name := "layBeds", desc := "(I)V" } : Jvm.MethodName)) ∈ lw_all := lw_g (lw_at lw_m8 212 rfl) rfl
theorem q2013 : (Jvm.Cond.privateMethod ({ cls := "TollsForLateModel", name := "layBeds", desc := "(I)V" } : Jvm.MethodName)) ∈ lw_tbl := lw_at lw_m8 213 rfl
theorem q2014 : (Jvm.Cond.instanceMethod ({ cls := "TollsForLateModel", name := "layBeds", desc := "(I)V" } : Jvm.MethodName)) ∈ lw_all := lw_g (lw_at lw_m8 214 rfl) rfl
theorem q2015 : (Jvm.Cond.code ({ cls := "TollsForLateModel", name := "layBeds", desc := "(I)V" } : Jvm.MethodName) prog_21_method_130_code (3 : Nat) (Option.none : Option Jvm.ClassFile.FieldType)) ∈ lw_all := lw_g (lw_at lw_m8 215 rfl) rfl
theorem q2017 : (Jvm.Cond.instanceMethod ({ cls := "TollsForLateModel", name := "slack", desc := "(I)I" } : Jvm.MethodName)) ∈ lw_all := lw_g (lw_at lw_m8 217 rfl) rfl
theorem q2018 : (Jvm.Cond.selects "TollsForLateModel" ({ cls := "TollsForLateModel", name := "slack", desc := "(I)I" } : Jvm.MethodName) ({ cls := "TollsForLateModel", name := "slack", desc := "(I)I" } : Jvm.MethodName)) ∈ lw_all := lw_g (lw_at lw_m8 218 rfl) rfl
theorem q2019 : (Jvm.Cond.code ({ cls := "TollsForLateModel", name := "slack", desc := "(I)I" } : Jvm.MethodName) prog_21_method_133_code (2 : Nat) (Option.some Jvm.ClassFile.FieldType.int)) ∈ lw_all := lw_g (lw_at lw_m8 219 rfl) rfl
theorem q2021 : (Jvm.Cond.instanceMethod ({ cls := "TollsForLateModel", name := "least", desc := "(I)I" } : Jvm.MethodName)) ∈ lw_all := lw_g (lw_at lw_m8 221 rfl) rfl
theorem q2022 : (Jvm.Cond.selects "TollsForLateModel" ({ cls := "TollsForLateModel", name := "least", desc := "(I)I" } : Jvm.MethodName) ({ cls := "TollsForLateModel", name := "least", desc := "(I)I" } : Jvm.MethodName)) ∈ lw_all := lw_g (lw_at lw_m8 222 rfl) rfl
theorem q2023 : (Jvm.Cond.code ({ cls := "TollsForLateModel", name := "least", desc := "(I)I" } : Jvm.MethodName) prog_21_method_134_code (2 : Nat) (Option.some Jvm.ClassFile.FieldType.int)) ∈ lw_all := lw_g (lw_at lw_m8 223 rfl) rfl
theorem q2025 : (Jvm.Cond.instanceMethod ({ cls := "TollsForLateModel", name := "moves", desc := "(II)I" } : Jvm.MethodName)) ∈ lw_all := lw_g (lw_at lw_m8 225 rfl) rfl
theorem q2026 : (Jvm.Cond.selects "TollsForLateModel" ({ cls := "TollsForLateModel", name := "moves", desc := "(II)I" } : Jvm.MethodName) ({ cls := "TollsForLateModel", name := "moves", desc := "(II)I" } : Jvm.MethodName)) ∈ lw_all := lw_g (lw_at lw_m8 226 rfl) rfl
theorem q2027 : (Jvm.Cond.code ({ cls := "TollsForLateModel", name := "moves", desc := "(II)I" } : Jvm.MethodName) prog_21_method_135_code (3 : Nat) (Option.some Jvm.ClassFile.FieldType.int)) ∈ lw_all := lw_g (lw_at lw_m8 227 rfl) rfl
theorem q2029 : (Jvm.Cond.instanceMethod ({ cls := "TollsForLateModel", name := "said", desc := "(II)I" } : Jvm.MethodName)) ∈ lw_all := lw_g (lw_at lw_m8 229 rfl) rfl
theorem q2030 : (Jvm.Cond.selects "TollsForLateModel" ({ cls := "TollsForLateModel", name := "said", desc := "(II)I" } : Jvm.MethodName) ({ cls := "TollsForLateModel", name := "said", desc := "(II)I" } : Jvm.MethodName)) ∈ lw_all := lw_g (lw_at lw_m8 230 rfl) rfl
theorem q2031 : (Jvm.Cond.code ({ cls := "TollsForLateModel", name := "said", desc := "(II)I" } : Jvm.MethodName) prog_21_method_136_code (3 : Nat) (Option.some Jvm.ClassFile.FieldType.int)) ∈ lw_all := lw_g (lw_at lw_m8 231 rfl) rfl
theorem q2033 : (Jvm.Cond.instanceMethod ({ cls := "TollsForLateModel", name := "whose", desc := "()I" } : Jvm.MethodName)) ∈ lw_all := lw_g (lw_at lw_m8 233 rfl) rfl
theorem q2034 : (Jvm.Cond.selects "TollsForLateModel" ({ cls := "TollsForLateModel", name := "whose", desc := "()I" } : Jvm.MethodName) ({ cls := "TollsForLateModel", name := "whose", desc := "()I" } : Jvm.MethodName)) ∈ lw_all := lw_g (lw_at lw_m8 234 rfl) rfl
theorem q2035 : (Jvm.Cond.code ({ cls := "TollsForLateModel", name := "whose", desc := "()I" } : Jvm.MethodName) prog_21_method_137_code (6 : Nat) (Option.some Jvm.ClassFile.FieldType.int)) ∈ lw_all := lw_g (lw_at lw_m8 235 rfl) rfl
theorem q2037 : (Jvm.Cond.instanceMethod ({ cls := "TollsForLateModel", name := "image", desc := "()I" } : Jvm.MethodName)) ∈ lw_all := lw_g (lw_at lw_m8 237 rfl) rfl
theorem q2038 : (Jvm.Cond.selects "TollsForLateModel" ({ cls := "TollsForLateModel", name := "image", desc := "()I" } : Jvm.MethodName) ({ cls := "TollsForLateModel", name := "image", desc := "()I" } : Jvm.MethodName)) ∈ lw_all := lw_g (lw_at lw_m8 238 rfl) rfl
theorem q2039 : (Jvm.Cond.code ({ cls := "TollsForLateModel", name := "image", desc := "()I" } : Jvm.MethodName) prog_21_method_138_code (1 : Nat) (Option.some Jvm.ClassFile.FieldType.int)) ∈ lw_all := lw_g (lw_at lw_m8 239 rfl) rfl
theorem q2041 : (Jvm.Cond.instanceMethod ({ cls := "TollsForLateModel", name := "back", desc := "()I" } : Jvm.MethodName)) ∈ lw_all := lw_g (lw_at lw_m9 1 rfl) rfl
theorem q2042 : (Jvm.Cond.selects "TollsForLateModel" ({ cls := "TollsForLateModel", name := "back", desc := "()I" } : Jvm.MethodName) ({ cls := "TollsForLateModel", name := "back", desc := "()I" } : Jvm.MethodName)) ∈ lw_all := lw_g (lw_at lw_m9 2 rfl) rfl
theorem q2043 : (Jvm.Cond.code ({ cls := "TollsForLateModel", name := "back", desc := "()I" } : Jvm.MethodName) prog_21_method_139_code (1 : Nat) (Option.some Jvm.ClassFile.FieldType.int)) ∈ lw_all := lw_g (lw_at lw_m9 3 rfl) rfl
theorem q2045 : (Jvm.Cond.instanceMethod ({ cls := "TollsForLateModel", name := "about", desc := "(I)I" } : Jvm.MethodName)) ∈ lw_all := lw_g (lw_at lw_m9 5 rfl) rfl
theorem q2046 : (Jvm.Cond.selects "TollsForLateModel" ({ cls := "TollsForLateModel", name := "about", desc := "(I)I" } : Jvm.MethodName) ({ cls := "TollsForLateModel", name := "about", desc := "(I)I" } : Jvm.MethodName)) ∈ lw_all := lw_g (lw_at lw_m9 6 rfl) rfl
theorem q2047 : (Jvm.Cond.code ({ cls := "TollsForLateModel", name := "about", desc := "(I)I" } : Jvm.MethodName) prog_21_method_140_code (2 : Nat) (Option.some Jvm.ClassFile.FieldType.int)) ∈ lw_all := lw_g (lw_at lw_m9 7 rfl) rfl
theorem q2055 : (Jvm.Cond.castable "TollsForLateModel" "java/lang/Object") ∈ lw_tbl := lw_at lw_m9 15 rfl
theorem in_X2 : ∀ w ∈ wsX20, w ∈ lw_all := lw_in wsX20 [1437, 1439, 1441, 1443, 1445, 1447, 1449, 1451, 1453, 1455, 1457, 1459, 1461, 1463, 1465, 1467, 1469, 1471, 1473, 1475, 1477, 1479, 1481, 1483, 1485, 1487, 1489, 1491, 1493, 1495, 1497] (by decide +kernel) (by decide +kernel)
