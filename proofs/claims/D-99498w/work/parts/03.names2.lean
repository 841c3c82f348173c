/-! TollsForLate -/
set_option maxRecDepth 100000
def RX0 : String := "TollsForLate"
def TX0 : u_T := fun k => match k with
  | 0 => ("TollsForLate", "now", "LTollsForLate$State;", true)
  | 1 => ("TollsForLate", "image", "LTollsForLate$State;", true)
  | 2 => ("TollsForLate", "tape", "[B", true)
  | 3 => ("TollsForLate", "taped", "I", false)
  | 4 => ("TollsForLate", "fault", "I", false)
  | 5 => ("TollsForLate", "faultAt", "I", false)
  | 6 => ("TollsForLate", "names", "[I", true)
  | 7 => ("TollsForLate", "tried", "[I", true)
  | 8 => ("TollsForLate", "leads", "[I", true)
  | 9 => ("TollsForLate", "days", "[I", true)
  | 10 => ("TollsForLate", "many", "I", false)
  | _ => ("TollsForLate", "asked", "[B", true)
def tyX0 : Nat → FieldType := fun k => match k with
  | 0 => .object "TollsForLate$State"
  | 1 => .object "TollsForLate$State"
  | 2 => .array .byte
  | 3 => .int
  | 4 => .int
  | 5 => .int
  | 6 => .array .int
  | 7 => .array .int
  | 8 => .array .int
  | 9 => .array .int
  | 10 => .int
  | _ => .array .byte
abbrev wsX00 : List Cond := u_ws RX0 TX0 12
theorem nmX0 : ∀ a, a < 12 → ∀ b, b < 12 → a ≠ b → (TX0 a).2.1 ≠ (TX0 b).2.1 := by decide +kernel
theorem tyX0_ok : ∀ k, k < 12 → parseFieldDescriptor (TX0 k).2.2.1 = some (tyX0 k) := by decide +kernel
abbrev cX0_init : ByteArray := prog_1_method_4_code
def yX0_init : MethodName := ⟨RX0, "<init>", "()V"⟩
def dkwX0_init_4 : List UInt8 := [180, 0, 25, 42, 180, 0, 21, 182, 0, 55, 177]
abbrev dktX0_init_4 : List UInt8 := dkwX0_init_4 ++ []
def dkwX0_init_3 : List UInt8 := [181, 0, 46, 42, 17, 1, 0, 188, 10, 181, 0, 49, 42, 17, 16, 0, 188, 8, 181, 0, 52, 42]
abbrev dktX0_init_3 : List UInt8 := dkwX0_init_3 ++ dktX0_init_4
def dkwX0_init_2 : List UInt8 := [16, 18, 188, 10, 181, 0, 39, 42, 17, 0, 149, 188, 10, 181, 0, 43, 42, 17, 1, 0, 188, 10]
abbrev dktX0_init_2 : List UInt8 := dkwX0_init_2 ++ dktX0_init_3
def dkwX0_init_1 : List UInt8 := [181, 0, 25, 42, 17, 1, 44, 188, 8, 181, 0, 28, 42, 2, 181, 0, 32, 42, 2, 181, 0, 36, 42]
abbrev dktX0_init_1 : List UInt8 := dkwX0_init_1 ++ dktX0_init_2
def dkwX0_init_0 : List UInt8 := [42, 183, 0, 12, 42, 187, 0, 18, 89, 183, 0, 20, 181, 0, 21, 42, 187, 0, 18, 89, 183, 0, 20]
abbrev dktX0_init_0 : List UInt8 := dkwX0_init_0 ++ dktX0_init_1
theorem dksX0_init_0 : cX0_init.data.toList.drop 0 = dktX0_init_0 := by decide +kernel
theorem dksX0_init_1 : cX0_init.data.toList.drop 23 = dktX0_init_1 := dk_seg dksX0_init_0 23 rfl rfl
theorem dksX0_init_2 : cX0_init.data.toList.drop 46 = dktX0_init_2 := dk_seg dksX0_init_1 23 rfl rfl
theorem dksX0_init_3 : cX0_init.data.toList.drop 68 = dktX0_init_3 := dk_seg dksX0_init_2 22 rfl rfl
theorem dksX0_init_4 : cX0_init.data.toList.drop 90 = dktX0_init_4 := dk_seg dksX0_init_3 22 rfl rfl
theorem dX0_init_0 : decode cX0_init 0 = .ok (.aload_n 0, 1) := dk_42 (dk_at dksX0_init_0 0 rfl rfl)
theorem dX0_init_1 : decode cX0_init 1 = .ok (.invokespecial 12, 3) := dk_183 0 12 (dk_at dksX0_init_0 1 rfl rfl)
theorem dX0_init_4 : decode cX0_init 4 = .ok (.aload_n 0, 1) := dk_42 (dk_at dksX0_init_0 4 rfl rfl)
theorem dX0_init_5 : decode cX0_init 5 = .ok (.new 18, 3) := dk_187 0 18 (dk_at dksX0_init_0 5 rfl rfl)
theorem dX0_init_8 : decode cX0_init 8 = .ok (.dup, 1) := dk_89 (dk_at dksX0_init_0 8 rfl rfl)
theorem dX0_init_9 : decode cX0_init 9 = .ok (.invokespecial 20, 3) := dk_183 0 20 (dk_at dksX0_init_0 9 rfl rfl)
theorem dX0_init_12 : decode cX0_init 12 = .ok (.putfield 21, 3) := dk_181 0 21 (dk_at dksX0_init_0 12 rfl rfl)
theorem dX0_init_15 : decode cX0_init 15 = .ok (.aload_n 0, 1) := dk_42 (dk_at dksX0_init_0 15 rfl rfl)
theorem dX0_init_16 : decode cX0_init 16 = .ok (.new 18, 3) := dk_187 0 18 (dk_at dksX0_init_0 16 rfl rfl)
theorem dX0_init_19 : decode cX0_init 19 = .ok (.dup, 1) := dk_89 (dk_at dksX0_init_0 19 rfl rfl)
theorem dX0_init_20 : decode cX0_init 20 = .ok (.invokespecial 20, 3) := dk_183 0 20 (dk_at dksX0_init_0 20 rfl rfl)
theorem dX0_init_23 : decode cX0_init 23 = .ok (.putfield 25, 3) := dk_181 0 25 (dk_at dksX0_init_1 0 rfl rfl)
theorem dX0_init_26 : decode cX0_init 26 = .ok (.aload_n 0, 1) := dk_42 (dk_at dksX0_init_1 3 rfl rfl)
theorem dX0_init_27 : decode cX0_init 27 = .ok (.sipush 300, 3) := dk_17 1 44 (dk_at dksX0_init_1 4 rfl rfl)
theorem dX0_init_30 : decode cX0_init 30 = .ok (.newarray .byte, 2) := dk_188_8 (dk_at dksX0_init_1 7 rfl rfl)
theorem dX0_init_32 : decode cX0_init 32 = .ok (.putfield 28, 3) := dk_181 0 28 (dk_at dksX0_init_1 9 rfl rfl)
theorem dX0_init_35 : decode cX0_init 35 = .ok (.aload_n 0, 1) := dk_42 (dk_at dksX0_init_1 12 rfl rfl)
theorem dX0_init_36 : decode cX0_init 36 = .ok (.iconst (-1), 1) := dk_2 (dk_at dksX0_init_1 13 rfl rfl)
theorem dX0_init_37 : decode cX0_init 37 = .ok (.putfield 32, 3) := dk_181 0 32 (dk_at dksX0_init_1 14 rfl rfl)
theorem dX0_init_40 : decode cX0_init 40 = .ok (.aload_n 0, 1) := dk_42 (dk_at dksX0_init_1 17 rfl rfl)
theorem dX0_init_41 : decode cX0_init 41 = .ok (.iconst (-1), 1) := dk_2 (dk_at dksX0_init_1 18 rfl rfl)
theorem dX0_init_42 : decode cX0_init 42 = .ok (.putfield 36, 3) := dk_181 0 36 (dk_at dksX0_init_1 19 rfl rfl)
theorem dX0_init_45 : decode cX0_init 45 = .ok (.aload_n 0, 1) := dk_42 (dk_at dksX0_init_1 22 rfl rfl)
theorem dX0_init_46 : decode cX0_init 46 = .ok (.bipush 18, 2) := dk_16 18 (dk_at dksX0_init_2 0 rfl rfl)
theorem dX0_init_48 : decode cX0_init 48 = .ok (.newarray .int, 2) := dk_188_10 (dk_at dksX0_init_2 2 rfl rfl)
theorem dX0_init_50 : decode cX0_init 50 = .ok (.putfield 39, 3) := dk_181 0 39 (dk_at dksX0_init_2 4 rfl rfl)
theorem dX0_init_53 : decode cX0_init 53 = .ok (.aload_n 0, 1) := dk_42 (dk_at dksX0_init_2 7 rfl rfl)
theorem dX0_init_54 : decode cX0_init 54 = .ok (.sipush 149, 3) := dk_17 0 149 (dk_at dksX0_init_2 8 rfl rfl)
theorem dX0_init_57 : decode cX0_init 57 = .ok (.newarray .int, 2) := dk_188_10 (dk_at dksX0_init_2 11 rfl rfl)
theorem dX0_init_59 : decode cX0_init 59 = .ok (.putfield 43, 3) := dk_181 0 43 (dk_at dksX0_init_2 13 rfl rfl)
theorem dX0_init_62 : decode cX0_init 62 = .ok (.aload_n 0, 1) := dk_42 (dk_at dksX0_init_2 16 rfl rfl)
theorem dX0_init_63 : decode cX0_init 63 = .ok (.sipush 256, 3) := dk_17 1 0 (dk_at dksX0_init_2 17 rfl rfl)
theorem dX0_init_66 : decode cX0_init 66 = .ok (.newarray .int, 2) := dk_188_10 (dk_at dksX0_init_2 20 rfl rfl)
theorem dX0_init_68 : decode cX0_init 68 = .ok (.putfield 46, 3) := dk_181 0 46 (dk_at dksX0_init_3 0 rfl rfl)
theorem dX0_init_71 : decode cX0_init 71 = .ok (.aload_n 0, 1) := dk_42 (dk_at dksX0_init_3 3 rfl rfl)
theorem dX0_init_72 : decode cX0_init 72 = .ok (.sipush 256, 3) := dk_17 1 0 (dk_at dksX0_init_3 4 rfl rfl)
theorem dX0_init_75 : decode cX0_init 75 = .ok (.newarray .int, 2) := dk_188_10 (dk_at dksX0_init_3 7 rfl rfl)
theorem dX0_init_77 : decode cX0_init 77 = .ok (.putfield 49, 3) := dk_181 0 49 (dk_at dksX0_init_3 9 rfl rfl)
theorem dX0_init_80 : decode cX0_init 80 = .ok (.aload_n 0, 1) := dk_42 (dk_at dksX0_init_3 12 rfl rfl)
theorem dX0_init_81 : decode cX0_init 81 = .ok (.sipush 4096, 3) := dk_17 16 0 (dk_at dksX0_init_3 13 rfl rfl)
theorem dX0_init_84 : decode cX0_init 84 = .ok (.newarray .byte, 2) := dk_188_8 (dk_at dksX0_init_3 16 rfl rfl)
theorem dX0_init_86 : decode cX0_init 86 = .ok (.putfield 52, 3) := dk_181 0 52 (dk_at dksX0_init_3 18 rfl rfl)
theorem dX0_init_89 : decode cX0_init 89 = .ok (.aload_n 0, 1) := dk_42 (dk_at dksX0_init_3 21 rfl rfl)
theorem dX0_init_90 : decode cX0_init 90 = .ok (.getfield 25, 3) := dk_180 0 25 (dk_at dksX0_init_4 0 rfl rfl)
theorem dX0_init_93 : decode cX0_init 93 = .ok (.aload_n 0, 1) := dk_42 (dk_at dksX0_init_4 3 rfl rfl)
theorem dX0_init_94 : decode cX0_init 94 = .ok (.getfield 21, 3) := dk_180 0 21 (dk_at dksX0_init_4 4 rfl rfl)
theorem dX0_init_97 : decode cX0_init 97 = .ok (.invokevirtual 55, 3) := dk_182 0 55 (dk_at dksX0_init_4 7 rfl rfl)
theorem dX0_init_100 : decode cX0_init 100 = .ok (.return_, 1) := dk_177 (dk_at dksX0_init_4 10 rfl rfl)
abbrev cX0_person : ByteArray := prog_1_method_8_code
def yX0_person : MethodName := ⟨RX0, "person", "(IIII)I"⟩
def dkwX0_person_5 : List UInt8 := [182, 0, 79, 21, 5, 172]
abbrev dktX0_person_5 : List UInt8 := dkwX0_person_5 ++ []
def dkwX0_person_4 : List UInt8 := [180, 0, 21, 180, 0, 59, 3, 92, 46, 4, 96, 79, 42, 180, 0, 21, 7, 21, 5, 96, 21, 4]
abbrev dktX0_person_4 : List UInt8 := dkwX0_person_4 ++ dktX0_person_5
def dkwX0_person_3 : List UInt8 := [180, 0, 21, 180, 0, 73, 21, 5, 28, 79, 42, 180, 0, 21, 180, 0, 76, 21, 5, 29, 79, 42]
abbrev dktX0_person_3 : List UInt8 := dkwX0_person_3 ++ dktX0_person_4
def dkwX0_person_2 : List UInt8 := [153, 0, 10, 21, 5, 16, 8, 160, 0, 5, 2, 172, 42, 180, 0, 21, 180, 0, 70, 21, 5, 27, 79, 42]
abbrev dktX0_person_2 : List UInt8 := dkwX0_person_2 ++ dktX0_person_3
def dkwX0_person_1 : List UInt8 := [184, 0, 62, 153, 0, 31, 29, 4, 16, 99, 184, 0, 62, 153, 0, 21, 21, 4, 3, 16, 99, 184, 0, 62]
abbrev dktX0_person_1 : List UInt8 := dkwX0_person_1 ++ dktX0_person_2
def dkwX0_person_0 : List UInt8 := [42, 180, 0, 21, 180, 0, 59, 3, 46, 54, 5, 27, 3, 6, 184, 0, 62, 153, 0, 41, 28, 4, 16, 99]
abbrev dktX0_person_0 : List UInt8 := dkwX0_person_0 ++ dktX0_person_1
theorem dksX0_person_0 : cX0_person.data.toList.drop 0 = dktX0_person_0 := by decide +kernel
theorem dksX0_person_1 : cX0_person.data.toList.drop 24 = dktX0_person_1 := dk_seg dksX0_person_0 24 rfl rfl
theorem dksX0_person_2 : cX0_person.data.toList.drop 48 = dktX0_person_2 := dk_seg dksX0_person_1 24 rfl rfl
theorem dksX0_person_3 : cX0_person.data.toList.drop 72 = dktX0_person_3 := dk_seg dksX0_person_2 24 rfl rfl
theorem dksX0_person_4 : cX0_person.data.toList.drop 94 = dktX0_person_4 := dk_seg dksX0_person_3 22 rfl rfl
theorem dksX0_person_5 : cX0_person.data.toList.drop 116 = dktX0_person_5 := dk_seg dksX0_person_4 22 rfl rfl
theorem dX0_person_0 : decode cX0_person 0 = .ok (.aload_n 0, 1) := dk_42 (dk_at dksX0_person_0 0 rfl rfl)
theorem dX0_person_1 : decode cX0_person 1 = .ok (.getfield 21, 3) := dk_180 0 21 (dk_at dksX0_person_0 1 rfl rfl)
theorem dX0_person_4 : decode cX0_person 4 = .ok (.getfield 59, 3) := dk_180 0 59 (dk_at dksX0_person_0 4 rfl rfl)
theorem dX0_person_7 : decode cX0_person 7 = .ok (.iconst 0, 1) := dk_3 (dk_at dksX0_person_0 7 rfl rfl)
theorem dX0_person_8 : decode cX0_person 8 = .ok (.iaload, 1) := dk_46 (dk_at dksX0_person_0 8 rfl rfl)
theorem dX0_person_9 : decode cX0_person 9 = .ok (.istore 5, 2) := dk_54 5 (dk_at dksX0_person_0 9 rfl rfl)
theorem dX0_person_11 : decode cX0_person 11 = .ok (.iload_n 1, 1) := dk_27 (dk_at dksX0_person_0 11 rfl rfl)
theorem dX0_person_12 : decode cX0_person 12 = .ok (.iconst 0, 1) := dk_3 (dk_at dksX0_person_0 12 rfl rfl)
theorem dX0_person_13 : decode cX0_person 13 = .ok (.iconst 3, 1) := dk_6 (dk_at dksX0_person_0 13 rfl rfl)
theorem dX0_person_14 : decode cX0_person 14 = .ok (.invokestatic 62, 3) := dk_184 0 62 (dk_at dksX0_person_0 14 rfl rfl)
theorem dX0_person_17 : decode cX0_person 17 = .ok (.ifCond .eq 41, 3) := dk_153 0 41 (dk_at dksX0_person_0 17 rfl rfl)
theorem dX0_person_20 : decode cX0_person 20 = .ok (.iload_n 2, 1) := dk_28 (dk_at dksX0_person_0 20 rfl rfl)
theorem dX0_person_21 : decode cX0_person 21 = .ok (.iconst 1, 1) := dk_4 (dk_at dksX0_person_0 21 rfl rfl)
theorem dX0_person_22 : decode cX0_person 22 = .ok (.bipush 99, 2) := dk_16 99 (dk_at dksX0_person_0 22 rfl rfl)
theorem dX0_person_24 : decode cX0_person 24 = .ok (.invokestatic 62, 3) := dk_184 0 62 (dk_at dksX0_person_1 0 rfl rfl)
theorem dX0_person_27 : decode cX0_person 27 = .ok (.ifCond .eq 31, 3) := dk_153 0 31 (dk_at dksX0_person_1 3 rfl rfl)
theorem dX0_person_30 : decode cX0_person 30 = .ok (.iload_n 3, 1) := dk_29 (dk_at dksX0_person_1 6 rfl rfl)
theorem dX0_person_31 : decode cX0_person 31 = .ok (.iconst 1, 1) := dk_4 (dk_at dksX0_person_1 7 rfl rfl)
theorem dX0_person_32 : decode cX0_person 32 = .ok (.bipush 99, 2) := dk_16 99 (dk_at dksX0_person_1 8 rfl rfl)
theorem dX0_person_34 : decode cX0_person 34 = .ok (.invokestatic 62, 3) := dk_184 0 62 (dk_at dksX0_person_1 10 rfl rfl)
theorem dX0_person_37 : decode cX0_person 37 = .ok (.ifCond .eq 21, 3) := dk_153 0 21 (dk_at dksX0_person_1 13 rfl rfl)
theorem dX0_person_40 : decode cX0_person 40 = .ok (.iload 4, 2) := dk_21 4 (dk_at dksX0_person_1 16 rfl rfl)
theorem dX0_person_42 : decode cX0_person 42 = .ok (.iconst 0, 1) := dk_3 (dk_at dksX0_person_1 18 rfl rfl)
theorem dX0_person_43 : decode cX0_person 43 = .ok (.bipush 99, 2) := dk_16 99 (dk_at dksX0_person_1 19 rfl rfl)
theorem dX0_person_45 : decode cX0_person 45 = .ok (.invokestatic 62, 3) := dk_184 0 62 (dk_at dksX0_person_1 21 rfl rfl)
theorem dX0_person_48 : decode cX0_person 48 = .ok (.ifCond .eq 10, 3) := dk_153 0 10 (dk_at dksX0_person_2 0 rfl rfl)
theorem dX0_person_51 : decode cX0_person 51 = .ok (.iload 5, 2) := dk_21 5 (dk_at dksX0_person_2 3 rfl rfl)
theorem dX0_person_53 : decode cX0_person 53 = .ok (.bipush 8, 2) := dk_16 8 (dk_at dksX0_person_2 5 rfl rfl)
theorem dX0_person_55 : decode cX0_person 55 = .ok (.if_icmp .ne 5, 3) := dk_160 0 5 (dk_at dksX0_person_2 7 rfl rfl)
theorem dX0_person_58 : decode cX0_person 58 = .ok (.iconst (-1), 1) := dk_2 (dk_at dksX0_person_2 10 rfl rfl)
theorem dX0_person_59 : decode cX0_person 59 = .ok (.ireturn, 1) := dk_172 (dk_at dksX0_person_2 11 rfl rfl)
theorem dX0_person_60 : decode cX0_person 60 = .ok (.aload_n 0, 1) := dk_42 (dk_at dksX0_person_2 12 rfl rfl)
theorem dX0_person_61 : decode cX0_person 61 = .ok (.getfield 21, 3) := dk_180 0 21 (dk_at dksX0_person_2 13 rfl rfl)
theorem dX0_person_64 : decode cX0_person 64 = .ok (.getfield 70, 3) := dk_180 0 70 (dk_at dksX0_person_2 16 rfl rfl)
theorem dX0_person_67 : decode cX0_person 67 = .ok (.iload 5, 2) := dk_21 5 (dk_at dksX0_person_2 19 rfl rfl)
theorem dX0_person_69 : decode cX0_person 69 = .ok (.iload_n 1, 1) := dk_27 (dk_at dksX0_person_2 21 rfl rfl)
theorem dX0_person_70 : decode cX0_person 70 = .ok (.iastore, 1) := dk_79 (dk_at dksX0_person_2 22 rfl rfl)
theorem dX0_person_71 : decode cX0_person 71 = .ok (.aload_n 0, 1) := dk_42 (dk_at dksX0_person_2 23 rfl rfl)
theorem dX0_person_72 : decode cX0_person 72 = .ok (.getfield 21, 3) := dk_180 0 21 (dk_at dksX0_person_3 0 rfl rfl)
theorem dX0_person_75 : decode cX0_person 75 = .ok (.getfield 73, 3) := dk_180 0 73 (dk_at dksX0_person_3 3 rfl rfl)
theorem dX0_person_78 : decode cX0_person 78 = .ok (.iload 5, 2) := dk_21 5 (dk_at dksX0_person_3 6 rfl rfl)
theorem dX0_person_80 : decode cX0_person 80 = .ok (.iload_n 2, 1) := dk_28 (dk_at dksX0_person_3 8 rfl rfl)
theorem dX0_person_81 : decode cX0_person 81 = .ok (.iastore, 1) := dk_79 (dk_at dksX0_person_3 9 rfl rfl)
theorem dX0_person_82 : decode cX0_person 82 = .ok (.aload_n 0, 1) := dk_42 (dk_at dksX0_person_3 10 rfl rfl)
theorem dX0_person_83 : decode cX0_person 83 = .ok (.getfield 21, 3) := dk_180 0 21 (dk_at dksX0_person_3 11 rfl rfl)
theorem dX0_person_86 : decode cX0_person 86 = .ok (.getfield 76, 3) := dk_180 0 76 (dk_at dksX0_person_3 14 rfl rfl)
theorem dX0_person_89 : decode cX0_person 89 = .ok (.iload 5, 2) := dk_21 5 (dk_at dksX0_person_3 17 rfl rfl)
theorem dX0_person_91 : decode cX0_person 91 = .ok (.iload_n 3, 1) := dk_29 (dk_at dksX0_person_3 19 rfl rfl)
theorem dX0_person_92 : decode cX0_person 92 = .ok (.iastore, 1) := dk_79 (dk_at dksX0_person_3 20 rfl rfl)
theorem dX0_person_93 : decode cX0_person 93 = .ok (.aload_n 0, 1) := dk_42 (dk_at dksX0_person_3 21 rfl rfl)
theorem dX0_person_94 : decode cX0_person 94 = .ok (.getfield 21, 3) := dk_180 0 21 (dk_at dksX0_person_4 0 rfl rfl)
theorem dX0_person_97 : decode cX0_person 97 = .ok (.getfield 59, 3) := dk_180 0 59 (dk_at dksX0_person_4 3 rfl rfl)
theorem dX0_person_100 : decode cX0_person 100 = .ok (.iconst 0, 1) := dk_3 (dk_at dksX0_person_4 6 rfl rfl)
theorem dX0_person_101 : decode cX0_person 101 = .ok (.dup2, 1) := dk_92 (dk_at dksX0_person_4 7 rfl rfl)
theorem dX0_person_102 : decode cX0_person 102 = .ok (.iaload, 1) := dk_46 (dk_at dksX0_person_4 8 rfl rfl)
theorem dX0_person_103 : decode cX0_person 103 = .ok (.iconst 1, 1) := dk_4 (dk_at dksX0_person_4 9 rfl rfl)
theorem dX0_person_104 : decode cX0_person 104 = .ok (.iadd, 1) := dk_96 (dk_at dksX0_person_4 10 rfl rfl)
theorem dX0_person_105 : decode cX0_person 105 = .ok (.iastore, 1) := dk_79 (dk_at dksX0_person_4 11 rfl rfl)
theorem dX0_person_106 : decode cX0_person 106 = .ok (.aload_n 0, 1) := dk_42 (dk_at dksX0_person_4 12 rfl rfl)
theorem dX0_person_107 : decode cX0_person 107 = .ok (.getfield 21, 3) := dk_180 0 21 (dk_at dksX0_person_4 13 rfl rfl)
theorem dX0_person_110 : decode cX0_person 110 = .ok (.iconst 4, 1) := dk_7 (dk_at dksX0_person_4 16 rfl rfl)
theorem dX0_person_111 : decode cX0_person 111 = .ok (.iload 5, 2) := dk_21 5 (dk_at dksX0_person_4 17 rfl rfl)
theorem dX0_person_113 : decode cX0_person 113 = .ok (.iadd, 1) := dk_96 (dk_at dksX0_person_4 19 rfl rfl)
theorem dX0_person_114 : decode cX0_person 114 = .ok (.iload 4, 2) := dk_21 4 (dk_at dksX0_person_4 20 rfl rfl)
theorem dX0_person_116 : decode cX0_person 116 = .ok (.invokevirtual 79, 3) := dk_182 0 79 (dk_at dksX0_person_5 0 rfl rfl)
theorem dX0_person_119 : decode cX0_person 119 = .ok (.iload 5, 2) := dk_21 5 (dk_at dksX0_person_5 3 rfl rfl)
theorem dX0_person_121 : decode cX0_person 121 = .ok (.ireturn, 1) := dk_172 (dk_at dksX0_person_5 5 rfl rfl)
abbrev cX0_in : ByteArray := prog_1_method_1_code
def yX0_in : MethodName := ⟨RX0, "in", "(III)Z"⟩
def dkwX0_in_0 : List UInt8 := [26, 27, 161, 0, 12, 26, 28, 163, 0, 7, 4, 167, 0, 4, 3, 172]
abbrev dktX0_in_0 : List UInt8 := dkwX0_in_0 ++ []
theorem dksX0_in_0 : cX0_in.data.toList.drop 0 = dktX0_in_0 := by decide +kernel
theorem dX0_in_0 : decode cX0_in 0 = .ok (.iload_n 0, 1) := dk_26 (dk_at dksX0_in_0 0 rfl rfl)
theorem dX0_in_1 : decode cX0_in 1 = .ok (.iload_n 1, 1) := dk_27 (dk_at dksX0_in_0 1 rfl rfl)
theorem dX0_in_2 : decode cX0_in 2 = .ok (.if_icmp .lt 12, 3) := dk_161 0 12 (dk_at dksX0_in_0 2 rfl rfl)
theorem dX0_in_5 : decode cX0_in 5 = .ok (.iload_n 0, 1) := dk_26 (dk_at dksX0_in_0 5 rfl rfl)
theorem dX0_in_6 : decode cX0_in 6 = .ok (.iload_n 2, 1) := dk_28 (dk_at dksX0_in_0 6 rfl rfl)
theorem dX0_in_7 : decode cX0_in 7 = .ok (.if_icmp .gt 7, 3) := dk_163 0 7 (dk_at dksX0_in_0 7 rfl rfl)
theorem dX0_in_10 : decode cX0_in 10 = .ok (.iconst 1, 1) := dk_4 (dk_at dksX0_in_0 10 rfl rfl)
theorem dX0_in_11 : decode cX0_in 11 = .ok (.goto 4, 3) := dk_167 0 4 (dk_at dksX0_in_0 11 rfl rfl)
theorem dX0_in_14 : decode cX0_in 14 = .ok (.iconst 0, 1) := dk_3 (dk_at dksX0_in_0 14 rfl rfl)
theorem dX0_in_15 : decode cX0_in 15 = .ok (.ireturn, 1) := dk_172 (dk_at dksX0_in_0 15 rfl rfl)
abbrev cX0_hears : ByteArray := prog_1_method_9_code
def yX0_hears : MethodName := ⟨RX0, "hears", "(IIZ)Z"⟩
def dkwX0_hears_2 : List UInt8 := [167, 0, 18, 42, 180, 0, 21, 180, 0, 83, 27, 46, 4, 28, 120, 2, 130, 126, 79, 4, 172]
abbrev dktX0_hears_2 : List UInt8 := dkwX0_hears_2 ++ []
def dkwX0_hears_1 : List UInt8 := [180, 0, 21, 180, 0, 83, 27, 29, 153, 0, 19, 42, 180, 0, 21, 180, 0, 83, 27, 46, 4, 28, 120, 128]
abbrev dktX0_hears_1 : List UInt8 := dkwX0_hears_1 ++ dktX0_hears_2
def dkwX0_hears_0 : List UInt8 := [27, 3, 16, 7, 184, 0, 62, 153, 0, 13, 28, 3, 16, 7, 184, 0, 62, 154, 0, 5, 3, 172, 42]
abbrev dktX0_hears_0 : List UInt8 := dkwX0_hears_0 ++ dktX0_hears_1
theorem dksX0_hears_0 : cX0_hears.data.toList.drop 0 = dktX0_hears_0 := by decide +kernel
theorem dksX0_hears_1 : cX0_hears.data.toList.drop 23 = dktX0_hears_1 := dk_seg dksX0_hears_0 23 rfl rfl
theorem dksX0_hears_2 : cX0_hears.data.toList.drop 47 = dktX0_hears_2 := dk_seg dksX0_hears_1 24 rfl rfl
theorem dX0_hears_0 : decode cX0_hears 0 = .ok (.iload_n 1, 1) := dk_27 (dk_at dksX0_hears_0 0 rfl rfl)
theorem dX0_hears_1 : decode cX0_hears 1 = .ok (.iconst 0, 1) := dk_3 (dk_at dksX0_hears_0 1 rfl rfl)
theorem dX0_hears_2 : decode cX0_hears 2 = .ok (.bipush 7, 2) := dk_16 7 (dk_at dksX0_hears_0 2 rfl rfl)
theorem dX0_hears_4 : decode cX0_hears 4 = .ok (.invokestatic 62, 3) := dk_184 0 62 (dk_at dksX0_hears_0 4 rfl rfl)
theorem dX0_hears_7 : decode cX0_hears 7 = .ok (.ifCond .eq 13, 3) := dk_153 0 13 (dk_at dksX0_hears_0 7 rfl rfl)
theorem dX0_hears_10 : decode cX0_hears 10 = .ok (.iload_n 2, 1) := dk_28 (dk_at dksX0_hears_0 10 rfl rfl)
theorem dX0_hears_11 : decode cX0_hears 11 = .ok (.iconst 0, 1) := dk_3 (dk_at dksX0_hears_0 11 rfl rfl)
theorem dX0_hears_12 : decode cX0_hears 12 = .ok (.bipush 7, 2) := dk_16 7 (dk_at dksX0_hears_0 12 rfl rfl)
theorem dX0_hears_14 : decode cX0_hears 14 = .ok (.invokestatic 62, 3) := dk_184 0 62 (dk_at dksX0_hears_0 14 rfl rfl)
theorem dX0_hears_17 : decode cX0_hears 17 = .ok (.ifCond .ne 5, 3) := dk_154 0 5 (dk_at dksX0_hears_0 17 rfl rfl)
theorem dX0_hears_20 : decode cX0_hears 20 = .ok (.iconst 0, 1) := dk_3 (dk_at dksX0_hears_0 20 rfl rfl)
theorem dX0_hears_21 : decode cX0_hears 21 = .ok (.ireturn, 1) := dk_172 (dk_at dksX0_hears_0 21 rfl rfl)
theorem dX0_hears_22 : decode cX0_hears 22 = .ok (.aload_n 0, 1) := dk_42 (dk_at dksX0_hears_0 22 rfl rfl)
theorem dX0_hears_23 : decode cX0_hears 23 = .ok (.getfield 21, 3) := dk_180 0 21 (dk_at dksX0_hears_1 0 rfl rfl)
theorem dX0_hears_26 : decode cX0_hears 26 = .ok (.getfield 83, 3) := dk_180 0 83 (dk_at dksX0_hears_1 3 rfl rfl)
theorem dX0_hears_29 : decode cX0_hears 29 = .ok (.iload_n 1, 1) := dk_27 (dk_at dksX0_hears_1 6 rfl rfl)
theorem dX0_hears_30 : decode cX0_hears 30 = .ok (.iload_n 3, 1) := dk_29 (dk_at dksX0_hears_1 7 rfl rfl)
theorem dX0_hears_31 : decode cX0_hears 31 = .ok (.ifCond .eq 19, 3) := dk_153 0 19 (dk_at dksX0_hears_1 8 rfl rfl)
theorem dX0_hears_34 : decode cX0_hears 34 = .ok (.aload_n 0, 1) := dk_42 (dk_at dksX0_hears_1 11 rfl rfl)
theorem dX0_hears_35 : decode cX0_hears 35 = .ok (.getfield 21, 3) := dk_180 0 21 (dk_at dksX0_hears_1 12 rfl rfl)
theorem dX0_hears_38 : decode cX0_hears 38 = .ok (.getfield 83, 3) := dk_180 0 83 (dk_at dksX0_hears_1 15 rfl rfl)
theorem dX0_hears_41 : decode cX0_hears 41 = .ok (.iload_n 1, 1) := dk_27 (dk_at dksX0_hears_1 18 rfl rfl)
theorem dX0_hears_42 : decode cX0_hears 42 = .ok (.iaload, 1) := dk_46 (dk_at dksX0_hears_1 19 rfl rfl)
theorem dX0_hears_43 : decode cX0_hears 43 = .ok (.iconst 1, 1) := dk_4 (dk_at dksX0_hears_1 20 rfl rfl)
theorem dX0_hears_44 : decode cX0_hears 44 = .ok (.iload_n 2, 1) := dk_28 (dk_at dksX0_hears_1 21 rfl rfl)
theorem dX0_hears_45 : decode cX0_hears 45 = .ok (.ishl, 1) := dk_120 (dk_at dksX0_hears_1 22 rfl rfl)
theorem dX0_hears_46 : decode cX0_hears 46 = .ok (.ior, 1) := dk_128 (dk_at dksX0_hears_1 23 rfl rfl)
theorem dX0_hears_47 : decode cX0_hears 47 = .ok (.goto 18, 3) := dk_167 0 18 (dk_at dksX0_hears_2 0 rfl rfl)
theorem dX0_hears_50 : decode cX0_hears 50 = .ok (.aload_n 0, 1) := dk_42 (dk_at dksX0_hears_2 3 rfl rfl)
theorem dX0_hears_51 : decode cX0_hears 51 = .ok (.getfield 21, 3) := dk_180 0 21 (dk_at dksX0_hears_2 4 rfl rfl)
theorem dX0_hears_54 : decode cX0_hears 54 = .ok (.getfield 83, 3) := dk_180 0 83 (dk_at dksX0_hears_2 7 rfl rfl)
theorem dX0_hears_57 : decode cX0_hears 57 = .ok (.iload_n 1, 1) := dk_27 (dk_at dksX0_hears_2 10 rfl rfl)
theorem dX0_hears_58 : decode cX0_hears 58 = .ok (.iaload, 1) := dk_46 (dk_at dksX0_hears_2 11 rfl rfl)
theorem dX0_hears_59 : decode cX0_hears 59 = .ok (.iconst 1, 1) := dk_4 (dk_at dksX0_hears_2 12 rfl rfl)
theorem dX0_hears_60 : decode cX0_hears 60 = .ok (.iload_n 2, 1) := dk_28 (dk_at dksX0_hears_2 13 rfl rfl)
theorem dX0_hears_61 : decode cX0_hears 61 = .ok (.ishl, 1) := dk_120 (dk_at dksX0_hears_2 14 rfl rfl)
theorem dX0_hears_62 : decode cX0_hears 62 = .ok (.iconst (-1), 1) := dk_2 (dk_at dksX0_hears_2 15 rfl rfl)
theorem dX0_hears_63 : decode cX0_hears 63 = .ok (.ixor, 1) := dk_130 (dk_at dksX0_hears_2 16 rfl rfl)
theorem dX0_hears_64 : decode cX0_hears 64 = .ok (.iand, 1) := dk_126 (dk_at dksX0_hears_2 17 rfl rfl)
theorem dX0_hears_65 : decode cX0_hears 65 = .ok (.iastore, 1) := dk_79 (dk_at dksX0_hears_2 18 rfl rfl)
theorem dX0_hears_66 : decode cX0_hears 66 = .ok (.iconst 1, 1) := dk_4 (dk_at dksX0_hears_2 19 rfl rfl)
theorem dX0_hears_67 : decode cX0_hears 67 = .ok (.ireturn, 1) := dk_172 (dk_at dksX0_hears_2 20 rfl rfl)
abbrev cX0_feed : ByteArray := prog_1_method_11_code
def yX0_feed : MethodName := ⟨RX0, "feed", "(IIIII)I"⟩
def dkwX0_feed_2 : List UInt8 := [172]
abbrev dktX0_feed_2 : List UInt8 := dkwX0_feed_2 ++ []
def dkwX0_feed_1 : List UInt8 := [182, 0, 89, 42, 29, 182, 0, 89, 42, 21, 4, 182, 0, 89, 42, 21, 5, 182, 0, 89, 42, 180, 0, 86]
abbrev dktX0_feed_1 : List UInt8 := dkwX0_feed_1 ++ dktX0_feed_2
def dkwX0_feed_0 : List UInt8 := [42, 180, 0, 86, 16, 20, 96, 17, 1, 44, 164, 0, 5, 2, 172, 42, 27, 182, 0, 89, 42, 28]
abbrev dktX0_feed_0 : List UInt8 := dkwX0_feed_0 ++ dktX0_feed_1
theorem dksX0_feed_0 : cX0_feed.data.toList.drop 0 = dktX0_feed_0 := by decide +kernel
theorem dksX0_feed_1 : cX0_feed.data.toList.drop 22 = dktX0_feed_1 := dk_seg dksX0_feed_0 22 rfl rfl
theorem dksX0_feed_2 : cX0_feed.data.toList.drop 46 = dktX0_feed_2 := dk_seg dksX0_feed_1 24 rfl rfl
theorem dX0_feed_0 : decode cX0_feed 0 = .ok (.aload_n 0, 1) := dk_42 (dk_at dksX0_feed_0 0 rfl rfl)
theorem dX0_feed_1 : decode cX0_feed 1 = .ok (.getfield 86, 3) := dk_180 0 86 (dk_at dksX0_feed_0 1 rfl rfl)
theorem dX0_feed_4 : decode cX0_feed 4 = .ok (.bipush 20, 2) := dk_16 20 (dk_at dksX0_feed_0 4 rfl rfl)
theorem dX0_feed_6 : decode cX0_feed 6 = .ok (.iadd, 1) := dk_96 (dk_at dksX0_feed_0 6 rfl rfl)
theorem dX0_feed_7 : decode cX0_feed 7 = .ok (.sipush 300, 3) := dk_17 1 44 (dk_at dksX0_feed_0 7 rfl rfl)
theorem dX0_feed_10 : decode cX0_feed 10 = .ok (.if_icmp .le 5, 3) := dk_164 0 5 (dk_at dksX0_feed_0 10 rfl rfl)
theorem dX0_feed_13 : decode cX0_feed 13 = .ok (.iconst (-1), 1) := dk_2 (dk_at dksX0_feed_0 13 rfl rfl)
theorem dX0_feed_14 : decode cX0_feed 14 = .ok (.ireturn, 1) := dk_172 (dk_at dksX0_feed_0 14 rfl rfl)
theorem dX0_feed_15 : decode cX0_feed 15 = .ok (.aload_n 0, 1) := dk_42 (dk_at dksX0_feed_0 15 rfl rfl)
theorem dX0_feed_16 : decode cX0_feed 16 = .ok (.iload_n 1, 1) := dk_27 (dk_at dksX0_feed_0 16 rfl rfl)
theorem dX0_feed_17 : decode cX0_feed 17 = .ok (.invokevirtual 89, 3) := dk_182 0 89 (dk_at dksX0_feed_0 17 rfl rfl)
theorem dX0_feed_20 : decode cX0_feed 20 = .ok (.aload_n 0, 1) := dk_42 (dk_at dksX0_feed_0 20 rfl rfl)
theorem dX0_feed_21 : decode cX0_feed 21 = .ok (.iload_n 2, 1) := dk_28 (dk_at dksX0_feed_0 21 rfl rfl)
theorem dX0_feed_22 : decode cX0_feed 22 = .ok (.invokevirtual 89, 3) := dk_182 0 89 (dk_at dksX0_feed_1 0 rfl rfl)
theorem dX0_feed_25 : decode cX0_feed 25 = .ok (.aload_n 0, 1) := dk_42 (dk_at dksX0_feed_1 3 rfl rfl)
theorem dX0_feed_26 : decode cX0_feed 26 = .ok (.iload_n 3, 1) := dk_29 (dk_at dksX0_feed_1 4 rfl rfl)
theorem dX0_feed_27 : decode cX0_feed 27 = .ok (.invokevirtual 89, 3) := dk_182 0 89 (dk_at dksX0_feed_1 5 rfl rfl)
theorem dX0_feed_30 : decode cX0_feed 30 = .ok (.aload_n 0, 1) := dk_42 (dk_at dksX0_feed_1 8 rfl rfl)
theorem dX0_feed_31 : decode cX0_feed 31 = .ok (.iload 4, 2) := dk_21 4 (dk_at dksX0_feed_1 9 rfl rfl)
theorem dX0_feed_33 : decode cX0_feed 33 = .ok (.invokevirtual 89, 3) := dk_182 0 89 (dk_at dksX0_feed_1 11 rfl rfl)
theorem dX0_feed_36 : decode cX0_feed 36 = .ok (.aload_n 0, 1) := dk_42 (dk_at dksX0_feed_1 14 rfl rfl)
theorem dX0_feed_37 : decode cX0_feed 37 = .ok (.iload 5, 2) := dk_21 5 (dk_at dksX0_feed_1 15 rfl rfl)
theorem dX0_feed_39 : decode cX0_feed 39 = .ok (.invokevirtual 89, 3) := dk_182 0 89 (dk_at dksX0_feed_1 17 rfl rfl)
theorem dX0_feed_42 : decode cX0_feed 42 = .ok (.aload_n 0, 1) := dk_42 (dk_at dksX0_feed_1 20 rfl rfl)
theorem dX0_feed_43 : decode cX0_feed 43 = .ok (.getfield 86, 3) := dk_180 0 86 (dk_at dksX0_feed_1 21 rfl rfl)
theorem dX0_feed_46 : decode cX0_feed 46 = .ok (.ireturn, 1) := dk_172 (dk_at dksX0_feed_2 0 rfl rfl)
abbrev cX0_put : ByteArray := prog_1_method_10_code
def yX0_put : MethodName := ⟨RX0, "put", "(I)V"⟩
def dkwX0_put_1 : List UInt8 := [180, 0, 86, 4, 96, 181, 0, 86, 132, 2, 248, 167, 255, 226, 177]
abbrev dktX0_put_1 : List UInt8 := dkwX0_put_1 ++ []
def dkwX0_put_0 : List UInt8 := [16, 24, 61, 28, 155, 0, 32, 42, 180, 0, 28, 42, 180, 0, 86, 27, 28, 122, 145, 84, 42, 89]
abbrev dktX0_put_0 : List UInt8 := dkwX0_put_0 ++ dktX0_put_1
theorem dksX0_put_0 : cX0_put.data.toList.drop 0 = dktX0_put_0 := by decide +kernel
theorem dksX0_put_1 : cX0_put.data.toList.drop 22 = dktX0_put_1 := dk_seg dksX0_put_0 22 rfl rfl
theorem dX0_put_0 : decode cX0_put 0 = .ok (.bipush 24, 2) := dk_16 24 (dk_at dksX0_put_0 0 rfl rfl)
theorem dX0_put_2 : decode cX0_put 2 = .ok (.istore_n 2, 1) := dk_61 (dk_at dksX0_put_0 2 rfl rfl)
theorem dX0_put_3 : decode cX0_put 3 = .ok (.iload_n 2, 1) := dk_28 (dk_at dksX0_put_0 3 rfl rfl)
theorem dX0_put_4 : decode cX0_put 4 = .ok (.ifCond .lt 32, 3) := dk_155 0 32 (dk_at dksX0_put_0 4 rfl rfl)
theorem dX0_put_7 : decode cX0_put 7 = .ok (.aload_n 0, 1) := dk_42 (dk_at dksX0_put_0 7 rfl rfl)
theorem dX0_put_8 : decode cX0_put 8 = .ok (.getfield 28, 3) := dk_180 0 28 (dk_at dksX0_put_0 8 rfl rfl)
theorem dX0_put_11 : decode cX0_put 11 = .ok (.aload_n 0, 1) := dk_42 (dk_at dksX0_put_0 11 rfl rfl)
theorem dX0_put_12 : decode cX0_put 12 = .ok (.getfield 86, 3) := dk_180 0 86 (dk_at dksX0_put_0 12 rfl rfl)
theorem dX0_put_15 : decode cX0_put 15 = .ok (.iload_n 1, 1) := dk_27 (dk_at dksX0_put_0 15 rfl rfl)
theorem dX0_put_16 : decode cX0_put 16 = .ok (.iload_n 2, 1) := dk_28 (dk_at dksX0_put_0 16 rfl rfl)
theorem dX0_put_17 : decode cX0_put 17 = .ok (.ishr, 1) := dk_122 (dk_at dksX0_put_0 17 rfl rfl)
theorem dX0_put_18 : decode cX0_put 18 = .ok (.i2b, 1) := dk_145 (dk_at dksX0_put_0 18 rfl rfl)
theorem dX0_put_19 : decode cX0_put 19 = .ok (.bastore, 1) := dk_84 (dk_at dksX0_put_0 19 rfl rfl)
theorem dX0_put_20 : decode cX0_put 20 = .ok (.aload_n 0, 1) := dk_42 (dk_at dksX0_put_0 20 rfl rfl)
theorem dX0_put_21 : decode cX0_put 21 = .ok (.dup, 1) := dk_89 (dk_at dksX0_put_0 21 rfl rfl)
theorem dX0_put_22 : decode cX0_put 22 = .ok (.getfield 86, 3) := dk_180 0 86 (dk_at dksX0_put_1 0 rfl rfl)
theorem dX0_put_25 : decode cX0_put 25 = .ok (.iconst 1, 1) := dk_4 (dk_at dksX0_put_1 3 rfl rfl)
theorem dX0_put_26 : decode cX0_put 26 = .ok (.iadd, 1) := dk_96 (dk_at dksX0_put_1 4 rfl rfl)
theorem dX0_put_27 : decode cX0_put 27 = .ok (.putfield 86, 3) := dk_181 0 86 (dk_at dksX0_put_1 5 rfl rfl)
theorem dX0_put_30 : decode cX0_put 30 = .ok (.iinc 2 (-8), 3) := dk_132 2 248 (dk_at dksX0_put_1 8 rfl rfl)
theorem dX0_put_33 : decode cX0_put 33 = .ok (.goto (-30), 3) := dk_167 255 226 (dk_at dksX0_put_1 11 rfl rfl)
theorem dX0_put_36 : decode cX0_put 36 = .ok (.return_, 1) := dk_177 (dk_at dksX0_put_1 14 rfl rfl)
abbrev cX0_end : ByteArray := prog_1_method_12_code
def yX0_end : MethodName := ⟨RX0, "end", "(I)I"⟩
def dkwX0_end_0 : List UInt8 := [27, 3, 42, 180, 0, 86, 184, 0, 62, 154, 0, 5, 2, 172, 42, 27, 181, 0, 86, 27, 172]
abbrev dktX0_end_0 : List UInt8 := dkwX0_end_0 ++ []
theorem dksX0_end_0 : cX0_end.data.toList.drop 0 = dktX0_end_0 := by decide +kernel
theorem dX0_end_0 : decode cX0_end 0 = .ok (.iload_n 1, 1) := dk_27 (dk_at dksX0_end_0 0 rfl rfl)
theorem dX0_end_1 : decode cX0_end 1 = .ok (.iconst 0, 1) := dk_3 (dk_at dksX0_end_0 1 rfl rfl)
theorem dX0_end_2 : decode cX0_end 2 = .ok (.aload_n 0, 1) := dk_42 (dk_at dksX0_end_0 2 rfl rfl)
theorem dX0_end_3 : decode cX0_end 3 = .ok (.getfield 86, 3) := dk_180 0 86 (dk_at dksX0_end_0 3 rfl rfl)
theorem dX0_end_6 : decode cX0_end 6 = .ok (.invokestatic 62, 3) := dk_184 0 62 (dk_at dksX0_end_0 6 rfl rfl)
theorem dX0_end_9 : decode cX0_end 9 = .ok (.ifCond .ne 5, 3) := dk_154 0 5 (dk_at dksX0_end_0 9 rfl rfl)
theorem dX0_end_12 : decode cX0_end 12 = .ok (.iconst (-1), 1) := dk_2 (dk_at dksX0_end_0 12 rfl rfl)
theorem dX0_end_13 : decode cX0_end 13 = .ok (.ireturn, 1) := dk_172 (dk_at dksX0_end_0 13 rfl rfl)
theorem dX0_end_14 : decode cX0_end 14 = .ok (.aload_n 0, 1) := dk_42 (dk_at dksX0_end_0 14 rfl rfl)
theorem dX0_end_15 : decode cX0_end 15 = .ok (.iload_n 1, 1) := dk_27 (dk_at dksX0_end_0 15 rfl rfl)
theorem dX0_end_16 : decode cX0_end 16 = .ok (.putfield 86, 3) := dk_181 0 86 (dk_at dksX0_end_0 16 rfl rfl)
theorem dX0_end_19 : decode cX0_end 19 = .ok (.iload_n 1, 1) := dk_27 (dk_at dksX0_end_0 19 rfl rfl)
theorem dX0_end_20 : decode cX0_end 20 = .ok (.ireturn, 1) := dk_172 (dk_at dksX0_end_0 20 rfl rfl)
abbrev cX0_text : ByteArray := prog_1_method_13_code
def yX0_text : MethodName := ⟨RX0, "text", "()I"⟩
def dkwX0_text_5 : List UInt8 := [79, 42, 180, 0, 21, 180, 0, 59, 4, 46, 4, 100, 172]
abbrev dktX0_text_5 : List UInt8 := dkwX0_text_5 ++ []
def dkwX0_text_4 : List UInt8 := [29, 172, 58, 4, 42, 3, 181, 0, 86, 25, 4, 191, 42, 180, 0, 21, 180, 0, 59, 4, 92, 46, 4, 96]
abbrev dktX0_text_4 : List UInt8 := dkwX0_text_4 ++ dktX0_text_5
def dkwX0_text_3 : List UInt8 := [77, 42, 44, 180, 0, 108, 181, 0, 32, 42, 44, 180, 0, 109, 181, 0, 36, 2, 62, 42, 3, 181, 0, 86]
abbrev dktX0_text_3 : List UInt8 := dkwX0_text_3 ++ dktX0_text_4
def dkwX0_text_2 : List UInt8 := [187, 0, 97, 89, 42, 180, 0, 28, 27, 183, 0, 99, 182, 0, 102, 83, 42, 3, 181, 0, 86, 167, 0, 39]
abbrev dktX0_text_2 : List UInt8 := dkwX0_text_2 ++ dktX0_text_3
def dkwX0_text_1 : List UInt8 := [181, 0, 32, 42, 2, 181, 0, 36, 42, 180, 0, 21, 180, 0, 93, 42, 180, 0, 21, 180, 0, 59, 4, 46]
abbrev dktX0_text_1 : List UInt8 := dkwX0_text_1 ++ dktX0_text_2
def dkwX0_text_0 : List UInt8 := [42, 180, 0, 21, 180, 0, 59, 4, 46, 7, 160, 0, 5, 2, 172, 42, 180, 0, 86, 60, 42, 3]
abbrev dktX0_text_0 : List UInt8 := dkwX0_text_0 ++ dktX0_text_1
theorem dksX0_text_0 : cX0_text.data.toList.drop 0 = dktX0_text_0 := by decide +kernel
theorem dksX0_text_1 : cX0_text.data.toList.drop 22 = dktX0_text_1 := dk_seg dksX0_text_0 22 rfl rfl
theorem dksX0_text_2 : cX0_text.data.toList.drop 46 = dktX0_text_2 := dk_seg dksX0_text_1 24 rfl rfl
theorem dksX0_text_3 : cX0_text.data.toList.drop 70 = dktX0_text_3 := dk_seg dksX0_text_2 24 rfl rfl
theorem dksX0_text_4 : cX0_text.data.toList.drop 94 = dktX0_text_4 := dk_seg dksX0_text_3 24 rfl rfl
theorem dksX0_text_5 : cX0_text.data.toList.drop 118 = dktX0_text_5 := dk_seg dksX0_text_4 24 rfl rfl
theorem dX0_text_0 : decode cX0_text 0 = .ok (.aload_n 0, 1) := dk_42 (dk_at dksX0_text_0 0 rfl rfl)
theorem dX0_text_1 : decode cX0_text 1 = .ok (.getfield 21, 3) := dk_180 0 21 (dk_at dksX0_text_0 1 rfl rfl)
theorem dX0_text_4 : decode cX0_text 4 = .ok (.getfield 59, 3) := dk_180 0 59 (dk_at dksX0_text_0 4 rfl rfl)
theorem dX0_text_7 : decode cX0_text 7 = .ok (.iconst 1, 1) := dk_4 (dk_at dksX0_text_0 7 rfl rfl)
theorem dX0_text_8 : decode cX0_text 8 = .ok (.iaload, 1) := dk_46 (dk_at dksX0_text_0 8 rfl rfl)
theorem dX0_text_9 : decode cX0_text 9 = .ok (.iconst 4, 1) := dk_7 (dk_at dksX0_text_0 9 rfl rfl)
theorem dX0_text_10 : decode cX0_text 10 = .ok (.if_icmp .ne 5, 3) := dk_160 0 5 (dk_at dksX0_text_0 10 rfl rfl)
theorem dX0_text_13 : decode cX0_text 13 = .ok (.iconst (-1), 1) := dk_2 (dk_at dksX0_text_0 13 rfl rfl)
theorem dX0_text_14 : decode cX0_text 14 = .ok (.ireturn, 1) := dk_172 (dk_at dksX0_text_0 14 rfl rfl)
theorem dX0_text_15 : decode cX0_text 15 = .ok (.aload_n 0, 1) := dk_42 (dk_at dksX0_text_0 15 rfl rfl)
theorem dX0_text_16 : decode cX0_text 16 = .ok (.getfield 86, 3) := dk_180 0 86 (dk_at dksX0_text_0 16 rfl rfl)
theorem dX0_text_19 : decode cX0_text 19 = .ok (.istore_n 1, 1) := dk_60 (dk_at dksX0_text_0 19 rfl rfl)
theorem dX0_text_20 : decode cX0_text 20 = .ok (.aload_n 0, 1) := dk_42 (dk_at dksX0_text_0 20 rfl rfl)
theorem dX0_text_21 : decode cX0_text 21 = .ok (.iconst 0, 1) := dk_3 (dk_at dksX0_text_0 21 rfl rfl)
theorem dX0_text_22 : decode cX0_text 22 = .ok (.putfield 32, 3) := dk_181 0 32 (dk_at dksX0_text_1 0 rfl rfl)
theorem dX0_text_25 : decode cX0_text 25 = .ok (.aload_n 0, 1) := dk_42 (dk_at dksX0_text_1 3 rfl rfl)
theorem dX0_text_26 : decode cX0_text 26 = .ok (.iconst (-1), 1) := dk_2 (dk_at dksX0_text_1 4 rfl rfl)
theorem dX0_text_27 : decode cX0_text 27 = .ok (.putfield 36, 3) := dk_181 0 36 (dk_at dksX0_text_1 5 rfl rfl)
theorem dX0_text_30 : decode cX0_text 30 = .ok (.aload_n 0, 1) := dk_42 (dk_at dksX0_text_1 8 rfl rfl)
theorem dX0_text_31 : decode cX0_text 31 = .ok (.getfield 21, 3) := dk_180 0 21 (dk_at dksX0_text_1 9 rfl rfl)
theorem dX0_text_34 : decode cX0_text 34 = .ok (.getfield 93, 3) := dk_180 0 93 (dk_at dksX0_text_1 12 rfl rfl)
theorem dX0_text_37 : decode cX0_text 37 = .ok (.aload_n 0, 1) := dk_42 (dk_at dksX0_text_1 15 rfl rfl)
theorem dX0_text_38 : decode cX0_text 38 = .ok (.getfield 21, 3) := dk_180 0 21 (dk_at dksX0_text_1 16 rfl rfl)
theorem dX0_text_41 : decode cX0_text 41 = .ok (.getfield 59, 3) := dk_180 0 59 (dk_at dksX0_text_1 19 rfl rfl)
theorem dX0_text_44 : decode cX0_text 44 = .ok (.iconst 1, 1) := dk_4 (dk_at dksX0_text_1 22 rfl rfl)
theorem dX0_text_45 : decode cX0_text 45 = .ok (.iaload, 1) := dk_46 (dk_at dksX0_text_1 23 rfl rfl)
theorem dX0_text_46 : decode cX0_text 46 = .ok (.new 97, 3) := dk_187 0 97 (dk_at dksX0_text_2 0 rfl rfl)
theorem dX0_text_49 : decode cX0_text 49 = .ok (.dup, 1) := dk_89 (dk_at dksX0_text_2 3 rfl rfl)
theorem dX0_text_50 : decode cX0_text 50 = .ok (.aload_n 0, 1) := dk_42 (dk_at dksX0_text_2 4 rfl rfl)
theorem dX0_text_51 : decode cX0_text 51 = .ok (.getfield 28, 3) := dk_180 0 28 (dk_at dksX0_text_2 5 rfl rfl)
theorem dX0_text_54 : decode cX0_text 54 = .ok (.iload_n 1, 1) := dk_27 (dk_at dksX0_text_2 8 rfl rfl)
theorem dX0_text_55 : decode cX0_text 55 = .ok (.invokespecial 99, 3) := dk_183 0 99 (dk_at dksX0_text_2 9 rfl rfl)
theorem dX0_text_58 : decode cX0_text 58 = .ok (.invokevirtual 102, 3) := dk_182 0 102 (dk_at dksX0_text_2 12 rfl rfl)
theorem dX0_text_61 : decode cX0_text 61 = .ok (.aastore, 1) := dk_83 (dk_at dksX0_text_2 15 rfl rfl)
theorem dX0_text_62 : decode cX0_text 62 = .ok (.aload_n 0, 1) := dk_42 (dk_at dksX0_text_2 16 rfl rfl)
theorem dX0_text_63 : decode cX0_text 63 = .ok (.iconst 0, 1) := dk_3 (dk_at dksX0_text_2 17 rfl rfl)
theorem dX0_text_64 : decode cX0_text 64 = .ok (.putfield 86, 3) := dk_181 0 86 (dk_at dksX0_text_2 18 rfl rfl)
theorem dX0_text_67 : decode cX0_text 67 = .ok (.goto 39, 3) := dk_167 0 39 (dk_at dksX0_text_2 21 rfl rfl)
theorem dX0_text_70 : decode cX0_text 70 = .ok (.astore_n 2, 1) := dk_77 (dk_at dksX0_text_3 0 rfl rfl)
theorem dX0_text_71 : decode cX0_text 71 = .ok (.aload_n 0, 1) := dk_42 (dk_at dksX0_text_3 1 rfl rfl)
theorem dX0_text_72 : decode cX0_text 72 = .ok (.aload_n 2, 1) := dk_44 (dk_at dksX0_text_3 2 rfl rfl)
theorem dX0_text_73 : decode cX0_text 73 = .ok (.getfield 108, 3) := dk_180 0 108 (dk_at dksX0_text_3 3 rfl rfl)
theorem dX0_text_76 : decode cX0_text 76 = .ok (.putfield 32, 3) := dk_181 0 32 (dk_at dksX0_text_3 6 rfl rfl)
theorem dX0_text_79 : decode cX0_text 79 = .ok (.aload_n 0, 1) := dk_42 (dk_at dksX0_text_3 9 rfl rfl)
theorem dX0_text_80 : decode cX0_text 80 = .ok (.aload_n 2, 1) := dk_44 (dk_at dksX0_text_3 10 rfl rfl)
theorem dX0_text_81 : decode cX0_text 81 = .ok (.getfield 109, 3) := dk_180 0 109 (dk_at dksX0_text_3 11 rfl rfl)
theorem dX0_text_84 : decode cX0_text 84 = .ok (.putfield 36, 3) := dk_181 0 36 (dk_at dksX0_text_3 14 rfl rfl)
theorem dX0_text_87 : decode cX0_text 87 = .ok (.iconst (-1), 1) := dk_2 (dk_at dksX0_text_3 17 rfl rfl)
theorem dX0_text_88 : decode cX0_text 88 = .ok (.istore_n 3, 1) := dk_62 (dk_at dksX0_text_3 18 rfl rfl)
theorem dX0_text_89 : decode cX0_text 89 = .ok (.aload_n 0, 1) := dk_42 (dk_at dksX0_text_3 19 rfl rfl)
theorem dX0_text_90 : decode cX0_text 90 = .ok (.iconst 0, 1) := dk_3 (dk_at dksX0_text_3 20 rfl rfl)
theorem dX0_text_91 : decode cX0_text 91 = .ok (.putfield 86, 3) := dk_181 0 86 (dk_at dksX0_text_3 21 rfl rfl)
theorem dX0_text_94 : decode cX0_text 94 = .ok (.iload_n 3, 1) := dk_29 (dk_at dksX0_text_4 0 rfl rfl)
theorem dX0_text_95 : decode cX0_text 95 = .ok (.ireturn, 1) := dk_172 (dk_at dksX0_text_4 1 rfl rfl)
theorem dX0_text_96 : decode cX0_text 96 = .ok (.astore 4, 2) := dk_58 4 (dk_at dksX0_text_4 2 rfl rfl)
theorem dX0_text_98 : decode cX0_text 98 = .ok (.aload_n 0, 1) := dk_42 (dk_at dksX0_text_4 4 rfl rfl)
theorem dX0_text_99 : decode cX0_text 99 = .ok (.iconst 0, 1) := dk_3 (dk_at dksX0_text_4 5 rfl rfl)
theorem dX0_text_100 : decode cX0_text 100 = .ok (.putfield 86, 3) := dk_181 0 86 (dk_at dksX0_text_4 6 rfl rfl)
theorem dX0_text_103 : decode cX0_text 103 = .ok (.aload 4, 2) := dk_25 4 (dk_at dksX0_text_4 9 rfl rfl)
theorem dX0_text_105 : decode cX0_text 105 = .ok (.athrow, 1) := dk_191 (dk_at dksX0_text_4 11 rfl rfl)
theorem dX0_text_106 : decode cX0_text 106 = .ok (.aload_n 0, 1) := dk_42 (dk_at dksX0_text_4 12 rfl rfl)
theorem dX0_text_107 : decode cX0_text 107 = .ok (.getfield 21, 3) := dk_180 0 21 (dk_at dksX0_text_4 13 rfl rfl)
theorem dX0_text_110 : decode cX0_text 110 = .ok (.getfield 59, 3) := dk_180 0 59 (dk_at dksX0_text_4 16 rfl rfl)
theorem dX0_text_113 : decode cX0_text 113 = .ok (.iconst 1, 1) := dk_4 (dk_at dksX0_text_4 19 rfl rfl)
theorem dX0_text_114 : decode cX0_text 114 = .ok (.dup2, 1) := dk_92 (dk_at dksX0_text_4 20 rfl rfl)
theorem dX0_text_115 : decode cX0_text 115 = .ok (.iaload, 1) := dk_46 (dk_at dksX0_text_4 21 rfl rfl)
theorem dX0_text_116 : decode cX0_text 116 = .ok (.iconst 1, 1) := dk_4 (dk_at dksX0_text_4 22 rfl rfl)
theorem dX0_text_117 : decode cX0_text 117 = .ok (.iadd, 1) := dk_96 (dk_at dksX0_text_4 23 rfl rfl)
theorem dX0_text_118 : decode cX0_text 118 = .ok (.iastore, 1) := dk_79 (dk_at dksX0_text_5 0 rfl rfl)
theorem dX0_text_119 : decode cX0_text 119 = .ok (.aload_n 0, 1) := dk_42 (dk_at dksX0_text_5 1 rfl rfl)
theorem dX0_text_120 : decode cX0_text 120 = .ok (.getfield 21, 3) := dk_180 0 21 (dk_at dksX0_text_5 2 rfl rfl)
theorem dX0_text_123 : decode cX0_text 123 = .ok (.getfield 59, 3) := dk_180 0 59 (dk_at dksX0_text_5 5 rfl rfl)
theorem dX0_text_126 : decode cX0_text 126 = .ok (.iconst 1, 1) := dk_4 (dk_at dksX0_text_5 8 rfl rfl)
theorem dX0_text_127 : decode cX0_text 127 = .ok (.iaload, 1) := dk_46 (dk_at dksX0_text_5 9 rfl rfl)
theorem dX0_text_128 : decode cX0_text 128 = .ok (.iconst 1, 1) := dk_4 (dk_at dksX0_text_5 10 rfl rfl)
theorem dX0_text_129 : decode cX0_text 129 = .ok (.isub, 1) := dk_100 (dk_at dksX0_text_5 11 rfl rfl)
theorem dX0_text_130 : decode cX0_text 130 = .ok (.ireturn, 1) := dk_172 (dk_at dksX0_text_5 12 rfl rfl)
abbrev cX0_fault : ByteArray := prog_1_method_14_code
def yX0_fault : MethodName := ⟨RX0, "fault", "(I)I"⟩
def dkwX0_fault_1 : List UInt8 := [172]
abbrev dktX0_fault_1 : List UInt8 := dkwX0_fault_1 ++ []
def dkwX0_fault_0 : List UInt8 := [27, 154, 0, 10, 42, 180, 0, 32, 167, 0, 16, 27, 4, 160, 0, 10, 42, 180, 0, 36, 167, 0, 4, 2]
abbrev dktX0_fault_0 : List UInt8 := dkwX0_fault_0 ++ dktX0_fault_1
theorem dksX0_fault_0 : cX0_fault.data.toList.drop 0 = dktX0_fault_0 := by decide +kernel
theorem dksX0_fault_1 : cX0_fault.data.toList.drop 24 = dktX0_fault_1 := dk_seg dksX0_fault_0 24 rfl rfl
theorem dX0_fault_0 : decode cX0_fault 0 = .ok (.iload_n 1, 1) := dk_27 (dk_at dksX0_fault_0 0 rfl rfl)
theorem dX0_fault_1 : decode cX0_fault 1 = .ok (.ifCond .ne 10, 3) := dk_154 0 10 (dk_at dksX0_fault_0 1 rfl rfl)
theorem dX0_fault_4 : decode cX0_fault 4 = .ok (.aload_n 0, 1) := dk_42 (dk_at dksX0_fault_0 4 rfl rfl)
theorem dX0_fault_5 : decode cX0_fault 5 = .ok (.getfield 32, 3) := dk_180 0 32 (dk_at dksX0_fault_0 5 rfl rfl)
theorem dX0_fault_8 : decode cX0_fault 8 = .ok (.goto 16, 3) := dk_167 0 16 (dk_at dksX0_fault_0 8 rfl rfl)
theorem dX0_fault_11 : decode cX0_fault 11 = .ok (.iload_n 1, 1) := dk_27 (dk_at dksX0_fault_0 11 rfl rfl)
theorem dX0_fault_12 : decode cX0_fault 12 = .ok (.iconst 1, 1) := dk_4 (dk_at dksX0_fault_0 12 rfl rfl)
theorem dX0_fault_13 : decode cX0_fault 13 = .ok (.if_icmp .ne 10, 3) := dk_160 0 10 (dk_at dksX0_fault_0 13 rfl rfl)
theorem dX0_fault_16 : decode cX0_fault 16 = .ok (.aload_n 0, 1) := dk_42 (dk_at dksX0_fault_0 16 rfl rfl)
theorem dX0_fault_17 : decode cX0_fault 17 = .ok (.getfield 36, 3) := dk_180 0 36 (dk_at dksX0_fault_0 17 rfl rfl)
theorem dX0_fault_20 : decode cX0_fault 20 = .ok (.goto 4, 3) := dk_167 0 4 (dk_at dksX0_fault_0 20 rfl rfl)
theorem dX0_fault_23 : decode cX0_fault 23 = .ok (.iconst (-1), 1) := dk_2 (dk_at dksX0_fault_0 23 rfl rfl)
theorem dX0_fault_24 : decode cX0_fault 24 = .ok (.ireturn, 1) := dk_172 (dk_at dksX0_fault_1 0 rfl rfl)
abbrev cX0_by : ByteArray := prog_1_method_16_code
def yX0_by : MethodName := ⟨RX0, "by", "(I)Z"⟩
def dkwX0_by_1 : List UInt8 := [79, 4, 172]
abbrev dktX0_by_1 : List UInt8 := dkwX0_by_1 ++ []
def dkwX0_by_0 : List UInt8 := [27, 2, 159, 0, 13, 42, 27, 182, 0, 112, 154, 0, 5, 3, 172, 42, 180, 0, 21, 180, 0, 59, 5, 27]
abbrev dktX0_by_0 : List UInt8 := dkwX0_by_0 ++ dktX0_by_1
theorem dksX0_by_0 : cX0_by.data.toList.drop 0 = dktX0_by_0 := by decide +kernel
theorem dksX0_by_1 : cX0_by.data.toList.drop 24 = dktX0_by_1 := dk_seg dksX0_by_0 24 rfl rfl
theorem dX0_by_0 : decode cX0_by 0 = .ok (.iload_n 1, 1) := dk_27 (dk_at dksX0_by_0 0 rfl rfl)
theorem dX0_by_1 : decode cX0_by 1 = .ok (.iconst (-1), 1) := dk_2 (dk_at dksX0_by_0 1 rfl rfl)
theorem dX0_by_2 : decode cX0_by 2 = .ok (.if_icmp .eq 13, 3) := dk_159 0 13 (dk_at dksX0_by_0 2 rfl rfl)
theorem dX0_by_5 : decode cX0_by 5 = .ok (.aload_n 0, 1) := dk_42 (dk_at dksX0_by_0 5 rfl rfl)
theorem dX0_by_6 : decode cX0_by 6 = .ok (.iload_n 1, 1) := dk_27 (dk_at dksX0_by_0 6 rfl rfl)
theorem dX0_by_7 : decode cX0_by 7 = .ok (.invokevirtual 112, 3) := dk_182 0 112 (dk_at dksX0_by_0 7 rfl rfl)
theorem dX0_by_10 : decode cX0_by 10 = .ok (.ifCond .ne 5, 3) := dk_154 0 5 (dk_at dksX0_by_0 10 rfl rfl)
theorem dX0_by_13 : decode cX0_by 13 = .ok (.iconst 0, 1) := dk_3 (dk_at dksX0_by_0 13 rfl rfl)
theorem dX0_by_14 : decode cX0_by 14 = .ok (.ireturn, 1) := dk_172 (dk_at dksX0_by_0 14 rfl rfl)
theorem dX0_by_15 : decode cX0_by 15 = .ok (.aload_n 0, 1) := dk_42 (dk_at dksX0_by_0 15 rfl rfl)
theorem dX0_by_16 : decode cX0_by 16 = .ok (.getfield 21, 3) := dk_180 0 21 (dk_at dksX0_by_0 16 rfl rfl)
theorem dX0_by_19 : decode cX0_by 19 = .ok (.getfield 59, 3) := dk_180 0 59 (dk_at dksX0_by_0 19 rfl rfl)
theorem dX0_by_22 : decode cX0_by 22 = .ok (.iconst 2, 1) := dk_5 (dk_at dksX0_by_0 22 rfl rfl)
theorem dX0_by_23 : decode cX0_by 23 = .ok (.iload_n 1, 1) := dk_27 (dk_at dksX0_by_0 23 rfl rfl)
theorem dX0_by_24 : decode cX0_by 24 = .ok (.iastore, 1) := dk_79 (dk_at dksX0_by_1 0 rfl rfl)
theorem dX0_by_25 : decode cX0_by 25 = .ok (.iconst 1, 1) := dk_4 (dk_at dksX0_by_1 1 rfl rfl)
theorem dX0_by_26 : decode cX0_by 26 = .ok (.ireturn, 1) := dk_172 (dk_at dksX0_by_1 2 rfl rfl)
abbrev cX0_isText : ByteArray := prog_1_method_15_code
def yX0_isText : MethodName := ⟨RX0, "isText", "(I)Z"⟩
def dkwX0_isText_0 : List UInt8 := [27, 3, 42, 180, 0, 21, 180, 0, 59, 4, 46, 4, 100, 184, 0, 62, 172]
abbrev dktX0_isText_0 : List UInt8 := dkwX0_isText_0 ++ []
theorem dksX0_isText_0 : cX0_isText.data.toList.drop 0 = dktX0_isText_0 := by decide +kernel
theorem dX0_isText_0 : decode cX0_isText 0 = .ok (.iload_n 1, 1) := dk_27 (dk_at dksX0_isText_0 0 rfl rfl)
theorem dX0_isText_1 : decode cX0_isText 1 = .ok (.iconst 0, 1) := dk_3 (dk_at dksX0_isText_0 1 rfl rfl)
theorem dX0_isText_2 : decode cX0_isText 2 = .ok (.aload_n 0, 1) := dk_42 (dk_at dksX0_isText_0 2 rfl rfl)
theorem dX0_isText_3 : decode cX0_isText 3 = .ok (.getfield 21, 3) := dk_180 0 21 (dk_at dksX0_isText_0 3 rfl rfl)
theorem dX0_isText_6 : decode cX0_isText 6 = .ok (.getfield 59, 3) := dk_180 0 59 (dk_at dksX0_isText_0 6 rfl rfl)
theorem dX0_isText_9 : decode cX0_isText 9 = .ok (.iconst 1, 1) := dk_4 (dk_at dksX0_isText_0 9 rfl rfl)
theorem dX0_isText_10 : decode cX0_isText 10 = .ok (.iaload, 1) := dk_46 (dk_at dksX0_isText_0 10 rfl rfl)
theorem dX0_isText_11 : decode cX0_isText 11 = .ok (.iconst 1, 1) := dk_4 (dk_at dksX0_isText_0 11 rfl rfl)
theorem dX0_isText_12 : decode cX0_isText 12 = .ok (.isub, 1) := dk_100 (dk_at dksX0_isText_0 12 rfl rfl)
theorem dX0_isText_13 : decode cX0_isText 13 = .ok (.invokestatic 62, 3) := dk_184 0 62 (dk_at dksX0_isText_0 13 rfl rfl)
theorem dX0_isText_16 : decode cX0_isText 16 = .ok (.ireturn, 1) := dk_172 (dk_at dksX0_isText_0 16 rfl rfl)
abbrev cX0_day : ByteArray := prog_1_method_27_code
def yX0_day : MethodName := ⟨RX0, "day", "(I)I"⟩
def dkwX0_day_2 : List UInt8 := [180, 0, 21, 180, 0, 188, 182, 0, 194, 96, 61, 132, 3, 1, 167, 255, 227, 28, 172]
abbrev dktX0_day_2 : List UInt8 := dkwX0_day_2 ++ []
def dkwX0_day_1 : List UInt8 := [164, 0, 5, 2, 172, 3, 61, 3, 62, 29, 27, 162, 0, 30, 42, 180, 0, 21, 182, 0, 191, 28, 42, 42]
abbrev dktX0_day_1 : List UInt8 := dkwX0_day_1 ++ dktX0_day_2
def dkwX0_day_0 : List UInt8 := [27, 4, 16, 60, 184, 0, 62, 153, 0, 20, 42, 180, 0, 21, 180, 0, 188, 3, 46, 27, 96, 17, 39, 15]
abbrev dktX0_day_0 : List UInt8 := dkwX0_day_0 ++ dktX0_day_1
theorem dksX0_day_0 : cX0_day.data.toList.drop 0 = dktX0_day_0 := by decide +kernel
theorem dksX0_day_1 : cX0_day.data.toList.drop 24 = dktX0_day_1 := dk_seg dksX0_day_0 24 rfl rfl
theorem dksX0_day_2 : cX0_day.data.toList.drop 48 = dktX0_day_2 := dk_seg dksX0_day_1 24 rfl rfl
theorem dX0_day_0 : decode cX0_day 0 = .ok (.iload_n 1, 1) := dk_27 (dk_at dksX0_day_0 0 rfl rfl)
theorem dX0_day_1 : decode cX0_day 1 = .ok (.iconst 1, 1) := dk_4 (dk_at dksX0_day_0 1 rfl rfl)
theorem dX0_day_2 : decode cX0_day 2 = .ok (.bipush 60, 2) := dk_16 60 (dk_at dksX0_day_0 2 rfl rfl)
theorem dX0_day_4 : decode cX0_day 4 = .ok (.invokestatic 62, 3) := dk_184 0 62 (dk_at dksX0_day_0 4 rfl rfl)
theorem dX0_day_7 : decode cX0_day 7 = .ok (.ifCond .eq 20, 3) := dk_153 0 20 (dk_at dksX0_day_0 7 rfl rfl)
theorem dX0_day_10 : decode cX0_day 10 = .ok (.aload_n 0, 1) := dk_42 (dk_at dksX0_day_0 10 rfl rfl)
theorem dX0_day_11 : decode cX0_day 11 = .ok (.getfield 21, 3) := dk_180 0 21 (dk_at dksX0_day_0 11 rfl rfl)
theorem dX0_day_14 : decode cX0_day 14 = .ok (.getfield 188, 3) := dk_180 0 188 (dk_at dksX0_day_0 14 rfl rfl)
theorem dX0_day_17 : decode cX0_day 17 = .ok (.iconst 0, 1) := dk_3 (dk_at dksX0_day_0 17 rfl rfl)
theorem dX0_day_18 : decode cX0_day 18 = .ok (.iaload, 1) := dk_46 (dk_at dksX0_day_0 18 rfl rfl)
theorem dX0_day_19 : decode cX0_day 19 = .ok (.iload_n 1, 1) := dk_27 (dk_at dksX0_day_0 19 rfl rfl)
theorem dX0_day_20 : decode cX0_day 20 = .ok (.iadd, 1) := dk_96 (dk_at dksX0_day_0 20 rfl rfl)
theorem dX0_day_21 : decode cX0_day 21 = .ok (.sipush 9999, 3) := dk_17 39 15 (dk_at dksX0_day_0 21 rfl rfl)
theorem dX0_day_24 : decode cX0_day 24 = .ok (.if_icmp .le 5, 3) := dk_164 0 5 (dk_at dksX0_day_1 0 rfl rfl)
theorem dX0_day_27 : decode cX0_day 27 = .ok (.iconst (-1), 1) := dk_2 (dk_at dksX0_day_1 3 rfl rfl)
theorem dX0_day_28 : decode cX0_day 28 = .ok (.ireturn, 1) := dk_172 (dk_at dksX0_day_1 4 rfl rfl)
theorem dX0_day_29 : decode cX0_day 29 = .ok (.iconst 0, 1) := dk_3 (dk_at dksX0_day_1 5 rfl rfl)
theorem dX0_day_30 : decode cX0_day 30 = .ok (.istore_n 2, 1) := dk_61 (dk_at dksX0_day_1 6 rfl rfl)
theorem dX0_day_31 : decode cX0_day 31 = .ok (.iconst 0, 1) := dk_3 (dk_at dksX0_day_1 7 rfl rfl)
theorem dX0_day_32 : decode cX0_day 32 = .ok (.istore_n 3, 1) := dk_62 (dk_at dksX0_day_1 8 rfl rfl)
theorem dX0_day_33 : decode cX0_day 33 = .ok (.iload_n 3, 1) := dk_29 (dk_at dksX0_day_1 9 rfl rfl)
theorem dX0_day_34 : decode cX0_day 34 = .ok (.iload_n 1, 1) := dk_27 (dk_at dksX0_day_1 10 rfl rfl)
theorem dX0_day_35 : decode cX0_day 35 = .ok (.if_icmp .ge 30, 3) := dk_162 0 30 (dk_at dksX0_day_1 11 rfl rfl)
theorem dX0_day_38 : decode cX0_day 38 = .ok (.aload_n 0, 1) := dk_42 (dk_at dksX0_day_1 14 rfl rfl)
theorem dX0_day_39 : decode cX0_day 39 = .ok (.getfield 21, 3) := dk_180 0 21 (dk_at dksX0_day_1 15 rfl rfl)
theorem dX0_day_42 : decode cX0_day 42 = .ok (.invokevirtual 191, 3) := dk_182 0 191 (dk_at dksX0_day_1 18 rfl rfl)
theorem dX0_day_45 : decode cX0_day 45 = .ok (.iload_n 2, 1) := dk_28 (dk_at dksX0_day_1 21 rfl rfl)
theorem dX0_day_46 : decode cX0_day 46 = .ok (.aload_n 0, 1) := dk_42 (dk_at dksX0_day_1 22 rfl rfl)
theorem dX0_day_47 : decode cX0_day 47 = .ok (.aload_n 0, 1) := dk_42 (dk_at dksX0_day_1 23 rfl rfl)
theorem dX0_day_48 : decode cX0_day 48 = .ok (.getfield 21, 3) := dk_180 0 21 (dk_at dksX0_day_2 0 rfl rfl)
theorem dX0_day_51 : decode cX0_day 51 = .ok (.getfield 188, 3) := dk_180 0 188 (dk_at dksX0_day_2 3 rfl rfl)
theorem dX0_day_54 : decode cX0_day 54 = .ok (.invokevirtual 194, 3) := dk_182 0 194 (dk_at dksX0_day_2 6 rfl rfl)
theorem dX0_day_57 : decode cX0_day 57 = .ok (.iadd, 1) := dk_96 (dk_at dksX0_day_2 9 rfl rfl)
theorem dX0_day_58 : decode cX0_day 58 = .ok (.istore_n 2, 1) := dk_61 (dk_at dksX0_day_2 10 rfl rfl)
theorem dX0_day_59 : decode cX0_day 59 = .ok (.iinc 3 1, 3) := dk_132 3 1 (dk_at dksX0_day_2 11 rfl rfl)
theorem dX0_day_62 : decode cX0_day 62 = .ok (.goto (-29), 3) := dk_167 255 227 (dk_at dksX0_day_2 14 rfl rfl)
theorem dX0_day_65 : decode cX0_day 65 = .ok (.iload_n 2, 1) := dk_28 (dk_at dksX0_day_2 17 rfl rfl)
theorem dX0_day_66 : decode cX0_day 66 = .ok (.ireturn, 1) := dk_172 (dk_at dksX0_day_2 18 rfl rfl)
abbrev cX0_passes : ByteArray := prog_1_method_26_code
def yX0_passes : MethodName := ⟨RX0, "passes", "([I)I"⟩
def dkwX0_passes_3 : List UInt8 := [43, 4, 28, 79, 43, 3, 92, 46, 4, 96, 79, 28, 184, 0, 140, 172]
abbrev dktX0_passes_3 : List UInt8 := dkwX0_passes_3 ++ []
def dkwX0_passes_2 : List UInt8 := [29, 96, 46, 28, 29, 122, 4, 126, 96, 184, 0, 182, 79, 132, 3, 1, 167, 255, 216, 43, 28, 184, 0, 184]
abbrev dktX0_passes_2 : List UInt8 := dkwX0_passes_2 ++ dktX0_passes_3
def dkwX0_passes_1 : List UInt8 := [29, 42, 180, 0, 21, 180, 0, 59, 3, 46, 162, 0, 33, 43, 16, 20, 29, 96, 17, 39, 15, 43, 16, 20]
abbrev dktX0_passes_1 : List UInt8 := dkwX0_passes_1 ++ dktX0_passes_2
def dkwX0_passes_0 : List UInt8 := [43, 5, 43, 6, 46, 16, 10, 112, 79, 43, 184, 0, 174, 42, 43, 43, 4, 46, 182, 0, 178, 61, 3, 62]
abbrev dktX0_passes_0 : List UInt8 := dkwX0_passes_0 ++ dktX0_passes_1
theorem dksX0_passes_0 : cX0_passes.data.toList.drop 0 = dktX0_passes_0 := by decide +kernel
theorem dksX0_passes_1 : cX0_passes.data.toList.drop 24 = dktX0_passes_1 := dk_seg dksX0_passes_0 24 rfl rfl
theorem dksX0_passes_2 : cX0_passes.data.toList.drop 48 = dktX0_passes_2 := dk_seg dksX0_passes_1 24 rfl rfl
theorem dksX0_passes_3 : cX0_passes.data.toList.drop 72 = dktX0_passes_3 := dk_seg dksX0_passes_2 24 rfl rfl
theorem dX0_passes_0 : decode cX0_passes 0 = .ok (.aload_n 1, 1) := dk_43 (dk_at dksX0_passes_0 0 rfl rfl)
theorem dX0_passes_1 : decode cX0_passes 1 = .ok (.iconst 2, 1) := dk_5 (dk_at dksX0_passes_0 1 rfl rfl)
theorem dX0_passes_2 : decode cX0_passes 2 = .ok (.aload_n 1, 1) := dk_43 (dk_at dksX0_passes_0 2 rfl rfl)
theorem dX0_passes_3 : decode cX0_passes 3 = .ok (.iconst 3, 1) := dk_6 (dk_at dksX0_passes_0 3 rfl rfl)
theorem dX0_passes_4 : decode cX0_passes 4 = .ok (.iaload, 1) := dk_46 (dk_at dksX0_passes_0 4 rfl rfl)
theorem dX0_passes_5 : decode cX0_passes 5 = .ok (.bipush 10, 2) := dk_16 10 (dk_at dksX0_passes_0 5 rfl rfl)
theorem dX0_passes_7 : decode cX0_passes 7 = .ok (.irem, 1) := dk_112 (dk_at dksX0_passes_0 7 rfl rfl)
theorem dX0_passes_8 : decode cX0_passes 8 = .ok (.iastore, 1) := dk_79 (dk_at dksX0_passes_0 8 rfl rfl)
theorem dX0_passes_9 : decode cX0_passes 9 = .ok (.aload_n 1, 1) := dk_43 (dk_at dksX0_passes_0 9 rfl rfl)
theorem dX0_passes_10 : decode cX0_passes 10 = .ok (.invokestatic 174, 3) := dk_184 0 174 (dk_at dksX0_passes_0 10 rfl rfl)
theorem dX0_passes_13 : decode cX0_passes 13 = .ok (.aload_n 0, 1) := dk_42 (dk_at dksX0_passes_0 13 rfl rfl)
theorem dX0_passes_14 : decode cX0_passes 14 = .ok (.aload_n 1, 1) := dk_43 (dk_at dksX0_passes_0 14 rfl rfl)
theorem dX0_passes_15 : decode cX0_passes 15 = .ok (.aload_n 1, 1) := dk_43 (dk_at dksX0_passes_0 15 rfl rfl)
theorem dX0_passes_16 : decode cX0_passes 16 = .ok (.iconst 1, 1) := dk_4 (dk_at dksX0_passes_0 16 rfl rfl)
theorem dX0_passes_17 : decode cX0_passes 17 = .ok (.iaload, 1) := dk_46 (dk_at dksX0_passes_0 17 rfl rfl)
theorem dX0_passes_18 : decode cX0_passes 18 = .ok (.invokevirtual 178, 3) := dk_182 0 178 (dk_at dksX0_passes_0 18 rfl rfl)
theorem dX0_passes_21 : decode cX0_passes 21 = .ok (.istore_n 2, 1) := dk_61 (dk_at dksX0_passes_0 21 rfl rfl)
theorem dX0_passes_22 : decode cX0_passes 22 = .ok (.iconst 0, 1) := dk_3 (dk_at dksX0_passes_0 22 rfl rfl)
theorem dX0_passes_23 : decode cX0_passes 23 = .ok (.istore_n 3, 1) := dk_62 (dk_at dksX0_passes_0 23 rfl rfl)
theorem dX0_passes_24 : decode cX0_passes 24 = .ok (.iload_n 3, 1) := dk_29 (dk_at dksX0_passes_1 0 rfl rfl)
theorem dX0_passes_25 : decode cX0_passes 25 = .ok (.aload_n 0, 1) := dk_42 (dk_at dksX0_passes_1 1 rfl rfl)
theorem dX0_passes_26 : decode cX0_passes 26 = .ok (.getfield 21, 3) := dk_180 0 21 (dk_at dksX0_passes_1 2 rfl rfl)
theorem dX0_passes_29 : decode cX0_passes 29 = .ok (.getfield 59, 3) := dk_180 0 59 (dk_at dksX0_passes_1 5 rfl rfl)
theorem dX0_passes_32 : decode cX0_passes 32 = .ok (.iconst 0, 1) := dk_3 (dk_at dksX0_passes_1 8 rfl rfl)
theorem dX0_passes_33 : decode cX0_passes 33 = .ok (.iaload, 1) := dk_46 (dk_at dksX0_passes_1 9 rfl rfl)
theorem dX0_passes_34 : decode cX0_passes 34 = .ok (.if_icmp .ge 33, 3) := dk_162 0 33 (dk_at dksX0_passes_1 10 rfl rfl)
theorem dX0_passes_37 : decode cX0_passes 37 = .ok (.aload_n 1, 1) := dk_43 (dk_at dksX0_passes_1 13 rfl rfl)
theorem dX0_passes_38 : decode cX0_passes 38 = .ok (.bipush 20, 2) := dk_16 20 (dk_at dksX0_passes_1 14 rfl rfl)
theorem dX0_passes_40 : decode cX0_passes 40 = .ok (.iload_n 3, 1) := dk_29 (dk_at dksX0_passes_1 16 rfl rfl)
theorem dX0_passes_41 : decode cX0_passes 41 = .ok (.iadd, 1) := dk_96 (dk_at dksX0_passes_1 17 rfl rfl)
theorem dX0_passes_42 : decode cX0_passes 42 = .ok (.sipush 9999, 3) := dk_17 39 15 (dk_at dksX0_passes_1 18 rfl rfl)
theorem dX0_passes_45 : decode cX0_passes 45 = .ok (.aload_n 1, 1) := dk_43 (dk_at dksX0_passes_1 21 rfl rfl)
theorem dX0_passes_46 : decode cX0_passes 46 = .ok (.bipush 20, 2) := dk_16 20 (dk_at dksX0_passes_1 22 rfl rfl)
theorem dX0_passes_48 : decode cX0_passes 48 = .ok (.iload_n 3, 1) := dk_29 (dk_at dksX0_passes_2 0 rfl rfl)
theorem dX0_passes_49 : decode cX0_passes 49 = .ok (.iadd, 1) := dk_96 (dk_at dksX0_passes_2 1 rfl rfl)
theorem dX0_passes_50 : decode cX0_passes 50 = .ok (.iaload, 1) := dk_46 (dk_at dksX0_passes_2 2 rfl rfl)
theorem dX0_passes_51 : decode cX0_passes 51 = .ok (.iload_n 2, 1) := dk_28 (dk_at dksX0_passes_2 3 rfl rfl)
theorem dX0_passes_52 : decode cX0_passes 52 = .ok (.iload_n 3, 1) := dk_29 (dk_at dksX0_passes_2 4 rfl rfl)
theorem dX0_passes_53 : decode cX0_passes 53 = .ok (.ishr, 1) := dk_122 (dk_at dksX0_passes_2 5 rfl rfl)
theorem dX0_passes_54 : decode cX0_passes 54 = .ok (.iconst 1, 1) := dk_4 (dk_at dksX0_passes_2 6 rfl rfl)
theorem dX0_passes_55 : decode cX0_passes 55 = .ok (.iand, 1) := dk_126 (dk_at dksX0_passes_2 7 rfl rfl)
theorem dX0_passes_56 : decode cX0_passes 56 = .ok (.iadd, 1) := dk_96 (dk_at dksX0_passes_2 8 rfl rfl)
theorem dX0_passes_57 : decode cX0_passes 57 = .ok (.invokestatic 182, 3) := dk_184 0 182 (dk_at dksX0_passes_2 9 rfl rfl)
theorem dX0_passes_60 : decode cX0_passes 60 = .ok (.iastore, 1) := dk_79 (dk_at dksX0_passes_2 12 rfl rfl)
theorem dX0_passes_61 : decode cX0_passes 61 = .ok (.iinc 3 1, 3) := dk_132 3 1 (dk_at dksX0_passes_2 13 rfl rfl)
theorem dX0_passes_64 : decode cX0_passes 64 = .ok (.goto (-40), 3) := dk_167 255 216 (dk_at dksX0_passes_2 16 rfl rfl)
theorem dX0_passes_67 : decode cX0_passes 67 = .ok (.aload_n 1, 1) := dk_43 (dk_at dksX0_passes_2 19 rfl rfl)
theorem dX0_passes_68 : decode cX0_passes 68 = .ok (.iload_n 2, 1) := dk_28 (dk_at dksX0_passes_2 20 rfl rfl)
theorem dX0_passes_69 : decode cX0_passes 69 = .ok (.invokestatic 184, 3) := dk_184 0 184 (dk_at dksX0_passes_2 21 rfl rfl)
theorem dX0_passes_72 : decode cX0_passes 72 = .ok (.aload_n 1, 1) := dk_43 (dk_at dksX0_passes_3 0 rfl rfl)
theorem dX0_passes_73 : decode cX0_passes 73 = .ok (.iconst 1, 1) := dk_4 (dk_at dksX0_passes_3 1 rfl rfl)
theorem dX0_passes_74 : decode cX0_passes 74 = .ok (.iload_n 2, 1) := dk_28 (dk_at dksX0_passes_3 2 rfl rfl)
theorem dX0_passes_75 : decode cX0_passes 75 = .ok (.iastore, 1) := dk_79 (dk_at dksX0_passes_3 3 rfl rfl)
theorem dX0_passes_76 : decode cX0_passes 76 = .ok (.aload_n 1, 1) := dk_43 (dk_at dksX0_passes_3 4 rfl rfl)
theorem dX0_passes_77 : decode cX0_passes 77 = .ok (.iconst 0, 1) := dk_3 (dk_at dksX0_passes_3 5 rfl rfl)
theorem dX0_passes_78 : decode cX0_passes 78 = .ok (.dup2, 1) := dk_92 (dk_at dksX0_passes_3 6 rfl rfl)
theorem dX0_passes_79 : decode cX0_passes 79 = .ok (.iaload, 1) := dk_46 (dk_at dksX0_passes_3 7 rfl rfl)
theorem dX0_passes_80 : decode cX0_passes 80 = .ok (.iconst 1, 1) := dk_4 (dk_at dksX0_passes_3 8 rfl rfl)
theorem dX0_passes_81 : decode cX0_passes 81 = .ok (.iadd, 1) := dk_96 (dk_at dksX0_passes_3 9 rfl rfl)
theorem dX0_passes_82 : decode cX0_passes 82 = .ok (.iastore, 1) := dk_79 (dk_at dksX0_passes_3 10 rfl rfl)
theorem dX0_passes_83 : decode cX0_passes 83 = .ok (.iload_n 2, 1) := dk_28 (dk_at dksX0_passes_3 11 rfl rfl)
theorem dX0_passes_84 : decode cX0_passes 84 = .ok (.invokestatic 140, 3) := dk_184 0 140 (dk_at dksX0_passes_3 12 rfl rfl)
theorem dX0_passes_87 : decode cX0_passes 87 = .ok (.ireturn, 1) := dk_172 (dk_at dksX0_passes_3 15 rfl rfl)
abbrev cX0_draws : ByteArray := prog_1_method_25_code
def yX0_draws : MethodName := ⟨RX0, "draws", "([I)V"⟩
def dkwX0_draws_0 : List UInt8 := [42, 6, 42, 6, 46, 17, 1, 207, 104, 17, 1, 97, 96, 17, 119, 179, 112, 79, 177]
abbrev dktX0_draws_0 : List UInt8 := dkwX0_draws_0 ++ []
theorem dksX0_draws_0 : cX0_draws.data.toList.drop 0 = dktX0_draws_0 := by decide +kernel
theorem dX0_draws_0 : decode cX0_draws 0 = .ok (.aload_n 0, 1) := dk_42 (dk_at dksX0_draws_0 0 rfl rfl)
theorem dX0_draws_1 : decode cX0_draws 1 = .ok (.iconst 3, 1) := dk_6 (dk_at dksX0_draws_0 1 rfl rfl)
theorem dX0_draws_2 : decode cX0_draws 2 = .ok (.aload_n 0, 1) := dk_42 (dk_at dksX0_draws_0 2 rfl rfl)
theorem dX0_draws_3 : decode cX0_draws 3 = .ok (.iconst 3, 1) := dk_6 (dk_at dksX0_draws_0 3 rfl rfl)
theorem dX0_draws_4 : decode cX0_draws 4 = .ok (.iaload, 1) := dk_46 (dk_at dksX0_draws_0 4 rfl rfl)
theorem dX0_draws_5 : decode cX0_draws 5 = .ok (.sipush 463, 3) := dk_17 1 207 (dk_at dksX0_draws_0 5 rfl rfl)
theorem dX0_draws_8 : decode cX0_draws 8 = .ok (.imul, 1) := dk_104 (dk_at dksX0_draws_0 8 rfl rfl)
theorem dX0_draws_9 : decode cX0_draws 9 = .ok (.sipush 353, 3) := dk_17 1 97 (dk_at dksX0_draws_0 9 rfl rfl)
theorem dX0_draws_12 : decode cX0_draws 12 = .ok (.iadd, 1) := dk_96 (dk_at dksX0_draws_0 12 rfl rfl)
theorem dX0_draws_13 : decode cX0_draws 13 = .ok (.sipush 30643, 3) := dk_17 119 179 (dk_at dksX0_draws_0 13 rfl rfl)
theorem dX0_draws_16 : decode cX0_draws 16 = .ok (.irem, 1) := dk_112 (dk_at dksX0_draws_0 16 rfl rfl)
theorem dX0_draws_17 : decode cX0_draws 17 = .ok (.iastore, 1) := dk_79 (dk_at dksX0_draws_0 17 rfl rfl)
theorem dX0_draws_18 : decode cX0_draws 18 = .ok (.return_, 1) := dk_177 (dk_at dksX0_draws_0 18 rfl rfl)
abbrev cX0_lateBy : ByteArray := prog_1_method_23_code
def yX0_lateBy : MethodName := ⟨RX0, "lateBy", "([II)I"⟩
def dkwX0_lateBy_3 : List UInt8 := [167, 0, 4, 3, 128, 54, 4, 132, 5, 1, 167, 255, 194, 21, 4, 172]
abbrev dktX0_lateBy_3 : List UInt8 := dkwX0_lateBy_3 ++ []
def dkwX0_lateBy_2 : List UInt8 := [182, 0, 157, 43, 21, 5, 28, 29, 182, 0, 164, 43, 7, 21, 5, 96, 46, 164, 0, 10, 4, 21, 5, 120]
abbrev dktX0_lateBy_2 : List UInt8 := dkwX0_lateBy_2 ++ dktX0_lateBy_3
def dkwX0_lateBy_1 : List UInt8 := [180, 0, 59, 3, 46, 162, 0, 54, 21, 4, 43, 16, 12, 21, 5, 96, 46, 154, 0, 32, 42, 42]
abbrev dktX0_lateBy_1 : List UInt8 := dkwX0_lateBy_1 ++ dktX0_lateBy_2
def dkwX0_lateBy_0 : List UInt8 := [42, 42, 182, 0, 157, 43, 28, 182, 0, 160, 62, 3, 54, 4, 3, 54, 5, 21, 5, 42, 180, 0, 21]
abbrev dktX0_lateBy_0 : List UInt8 := dkwX0_lateBy_0 ++ dktX0_lateBy_1
theorem dksX0_lateBy_0 : cX0_lateBy.data.toList.drop 0 = dktX0_lateBy_0 := by decide +kernel
theorem dksX0_lateBy_1 : cX0_lateBy.data.toList.drop 23 = dktX0_lateBy_1 := dk_seg dksX0_lateBy_0 23 rfl rfl
theorem dksX0_lateBy_2 : cX0_lateBy.data.toList.drop 45 = dktX0_lateBy_2 := dk_seg dksX0_lateBy_1 22 rfl rfl
theorem dksX0_lateBy_3 : cX0_lateBy.data.toList.drop 69 = dktX0_lateBy_3 := dk_seg dksX0_lateBy_2 24 rfl rfl
theorem dX0_lateBy_0 : decode cX0_lateBy 0 = .ok (.aload_n 0, 1) := dk_42 (dk_at dksX0_lateBy_0 0 rfl rfl)
theorem dX0_lateBy_1 : decode cX0_lateBy 1 = .ok (.aload_n 0, 1) := dk_42 (dk_at dksX0_lateBy_0 1 rfl rfl)
theorem dX0_lateBy_2 : decode cX0_lateBy 2 = .ok (.invokevirtual 157, 3) := dk_182 0 157 (dk_at dksX0_lateBy_0 2 rfl rfl)
theorem dX0_lateBy_5 : decode cX0_lateBy 5 = .ok (.aload_n 1, 1) := dk_43 (dk_at dksX0_lateBy_0 5 rfl rfl)
theorem dX0_lateBy_6 : decode cX0_lateBy 6 = .ok (.iload_n 2, 1) := dk_28 (dk_at dksX0_lateBy_0 6 rfl rfl)
theorem dX0_lateBy_7 : decode cX0_lateBy 7 = .ok (.invokevirtual 160, 3) := dk_182 0 160 (dk_at dksX0_lateBy_0 7 rfl rfl)
theorem dX0_lateBy_10 : decode cX0_lateBy 10 = .ok (.istore_n 3, 1) := dk_62 (dk_at dksX0_lateBy_0 10 rfl rfl)
theorem dX0_lateBy_11 : decode cX0_lateBy 11 = .ok (.iconst 0, 1) := dk_3 (dk_at dksX0_lateBy_0 11 rfl rfl)
theorem dX0_lateBy_12 : decode cX0_lateBy 12 = .ok (.istore 4, 2) := dk_54 4 (dk_at dksX0_lateBy_0 12 rfl rfl)
theorem dX0_lateBy_14 : decode cX0_lateBy 14 = .ok (.iconst 0, 1) := dk_3 (dk_at dksX0_lateBy_0 14 rfl rfl)
theorem dX0_lateBy_15 : decode cX0_lateBy 15 = .ok (.istore 5, 2) := dk_54 5 (dk_at dksX0_lateBy_0 15 rfl rfl)
theorem dX0_lateBy_17 : decode cX0_lateBy 17 = .ok (.iload 5, 2) := dk_21 5 (dk_at dksX0_lateBy_0 17 rfl rfl)
theorem dX0_lateBy_19 : decode cX0_lateBy 19 = .ok (.aload_n 0, 1) := dk_42 (dk_at dksX0_lateBy_0 19 rfl rfl)
theorem dX0_lateBy_20 : decode cX0_lateBy 20 = .ok (.getfield 21, 3) := dk_180 0 21 (dk_at dksX0_lateBy_0 20 rfl rfl)
theorem dX0_lateBy_23 : decode cX0_lateBy 23 = .ok (.getfield 59, 3) := dk_180 0 59 (dk_at dksX0_lateBy_1 0 rfl rfl)
theorem dX0_lateBy_26 : decode cX0_lateBy 26 = .ok (.iconst 0, 1) := dk_3 (dk_at dksX0_lateBy_1 3 rfl rfl)
theorem dX0_lateBy_27 : decode cX0_lateBy 27 = .ok (.iaload, 1) := dk_46 (dk_at dksX0_lateBy_1 4 rfl rfl)
theorem dX0_lateBy_28 : decode cX0_lateBy 28 = .ok (.if_icmp .ge 54, 3) := dk_162 0 54 (dk_at dksX0_lateBy_1 5 rfl rfl)
theorem dX0_lateBy_31 : decode cX0_lateBy 31 = .ok (.iload 4, 2) := dk_21 4 (dk_at dksX0_lateBy_1 8 rfl rfl)
theorem dX0_lateBy_33 : decode cX0_lateBy 33 = .ok (.aload_n 1, 1) := dk_43 (dk_at dksX0_lateBy_1 10 rfl rfl)
theorem dX0_lateBy_34 : decode cX0_lateBy 34 = .ok (.bipush 12, 2) := dk_16 12 (dk_at dksX0_lateBy_1 11 rfl rfl)
theorem dX0_lateBy_36 : decode cX0_lateBy 36 = .ok (.iload 5, 2) := dk_21 5 (dk_at dksX0_lateBy_1 13 rfl rfl)
theorem dX0_lateBy_38 : decode cX0_lateBy 38 = .ok (.iadd, 1) := dk_96 (dk_at dksX0_lateBy_1 15 rfl rfl)
theorem dX0_lateBy_39 : decode cX0_lateBy 39 = .ok (.iaload, 1) := dk_46 (dk_at dksX0_lateBy_1 16 rfl rfl)
theorem dX0_lateBy_40 : decode cX0_lateBy 40 = .ok (.ifCond .ne 32, 3) := dk_154 0 32 (dk_at dksX0_lateBy_1 17 rfl rfl)
theorem dX0_lateBy_43 : decode cX0_lateBy 43 = .ok (.aload_n 0, 1) := dk_42 (dk_at dksX0_lateBy_1 20 rfl rfl)
theorem dX0_lateBy_44 : decode cX0_lateBy 44 = .ok (.aload_n 0, 1) := dk_42 (dk_at dksX0_lateBy_1 21 rfl rfl)
theorem dX0_lateBy_45 : decode cX0_lateBy 45 = .ok (.invokevirtual 157, 3) := dk_182 0 157 (dk_at dksX0_lateBy_2 0 rfl rfl)
theorem dX0_lateBy_48 : decode cX0_lateBy 48 = .ok (.aload_n 1, 1) := dk_43 (dk_at dksX0_lateBy_2 3 rfl rfl)
theorem dX0_lateBy_49 : decode cX0_lateBy 49 = .ok (.iload 5, 2) := dk_21 5 (dk_at dksX0_lateBy_2 4 rfl rfl)
theorem dX0_lateBy_51 : decode cX0_lateBy 51 = .ok (.iload_n 2, 1) := dk_28 (dk_at dksX0_lateBy_2 6 rfl rfl)
theorem dX0_lateBy_52 : decode cX0_lateBy 52 = .ok (.iload_n 3, 1) := dk_29 (dk_at dksX0_lateBy_2 7 rfl rfl)
theorem dX0_lateBy_53 : decode cX0_lateBy 53 = .ok (.invokevirtual 164, 3) := dk_182 0 164 (dk_at dksX0_lateBy_2 8 rfl rfl)
theorem dX0_lateBy_56 : decode cX0_lateBy 56 = .ok (.aload_n 1, 1) := dk_43 (dk_at dksX0_lateBy_2 11 rfl rfl)
theorem dX0_lateBy_57 : decode cX0_lateBy 57 = .ok (.iconst 4, 1) := dk_7 (dk_at dksX0_lateBy_2 12 rfl rfl)
theorem dX0_lateBy_58 : decode cX0_lateBy 58 = .ok (.iload 5, 2) := dk_21 5 (dk_at dksX0_lateBy_2 13 rfl rfl)
theorem dX0_lateBy_60 : decode cX0_lateBy 60 = .ok (.iadd, 1) := dk_96 (dk_at dksX0_lateBy_2 15 rfl rfl)
theorem dX0_lateBy_61 : decode cX0_lateBy 61 = .ok (.iaload, 1) := dk_46 (dk_at dksX0_lateBy_2 16 rfl rfl)
theorem dX0_lateBy_62 : decode cX0_lateBy 62 = .ok (.if_icmp .le 10, 3) := dk_164 0 10 (dk_at dksX0_lateBy_2 17 rfl rfl)
theorem dX0_lateBy_65 : decode cX0_lateBy 65 = .ok (.iconst 1, 1) := dk_4 (dk_at dksX0_lateBy_2 20 rfl rfl)
theorem dX0_lateBy_66 : decode cX0_lateBy 66 = .ok (.iload 5, 2) := dk_21 5 (dk_at dksX0_lateBy_2 21 rfl rfl)
theorem dX0_lateBy_68 : decode cX0_lateBy 68 = .ok (.ishl, 1) := dk_120 (dk_at dksX0_lateBy_2 23 rfl rfl)
theorem dX0_lateBy_69 : decode cX0_lateBy 69 = .ok (.goto 4, 3) := dk_167 0 4 (dk_at dksX0_lateBy_3 0 rfl rfl)
theorem dX0_lateBy_72 : decode cX0_lateBy 72 = .ok (.iconst 0, 1) := dk_3 (dk_at dksX0_lateBy_3 3 rfl rfl)
theorem dX0_lateBy_73 : decode cX0_lateBy 73 = .ok (.ior, 1) := dk_128 (dk_at dksX0_lateBy_3 4 rfl rfl)
theorem dX0_lateBy_74 : decode cX0_lateBy 74 = .ok (.istore 4, 2) := dk_54 4 (dk_at dksX0_lateBy_3 5 rfl rfl)
theorem dX0_lateBy_76 : decode cX0_lateBy 76 = .ok (.iinc 5 1, 3) := dk_132 5 1 (dk_at dksX0_lateBy_3 7 rfl rfl)
theorem dX0_lateBy_79 : decode cX0_lateBy 79 = .ok (.goto (-62), 3) := dk_167 255 194 (dk_at dksX0_lateBy_3 10 rfl rfl)
theorem dX0_lateBy_82 : decode cX0_lateBy 82 = .ok (.iload 4, 2) := dk_21 4 (dk_at dksX0_lateBy_3 13 rfl rfl)
theorem dX0_lateBy_84 : decode cX0_lateBy 84 = .ok (.ireturn, 1) := dk_172 (dk_at dksX0_lateBy_3 15 rfl rfl)
abbrev cX0_rules : ByteArray := prog_1_method_17_code
def yX0_rules : MethodName := ⟨RX0, "rules", "()LTollsForLate$Text;"⟩
def dkwX0_rules_1 : List UInt8 := [180, 0, 93, 42, 180, 0, 21, 180, 0, 59, 5, 46, 50, 176]
abbrev dktX0_rules_1 : List UInt8 := dkwX0_rules_1 ++ []
def dkwX0_rules_0 : List UInt8 := [42, 180, 0, 21, 180, 0, 59, 5, 46, 2, 160, 0, 9, 178, 0, 116, 167, 0, 20, 42, 180, 0, 21]
abbrev dktX0_rules_0 : List UInt8 := dkwX0_rules_0 ++ dktX0_rules_1
theorem dksX0_rules_0 : cX0_rules.data.toList.drop 0 = dktX0_rules_0 := by decide +kernel
theorem dksX0_rules_1 : cX0_rules.data.toList.drop 23 = dktX0_rules_1 := dk_seg dksX0_rules_0 23 rfl rfl
theorem dX0_rules_0 : decode cX0_rules 0 = .ok (.aload_n 0, 1) := dk_42 (dk_at dksX0_rules_0 0 rfl rfl)
theorem dX0_rules_1 : decode cX0_rules 1 = .ok (.getfield 21, 3) := dk_180 0 21 (dk_at dksX0_rules_0 1 rfl rfl)
theorem dX0_rules_4 : decode cX0_rules 4 = .ok (.getfield 59, 3) := dk_180 0 59 (dk_at dksX0_rules_0 4 rfl rfl)
theorem dX0_rules_7 : decode cX0_rules 7 = .ok (.iconst 2, 1) := dk_5 (dk_at dksX0_rules_0 7 rfl rfl)
theorem dX0_rules_8 : decode cX0_rules 8 = .ok (.iaload, 1) := dk_46 (dk_at dksX0_rules_0 8 rfl rfl)
theorem dX0_rules_9 : decode cX0_rules 9 = .ok (.iconst (-1), 1) := dk_2 (dk_at dksX0_rules_0 9 rfl rfl)
theorem dX0_rules_10 : decode cX0_rules 10 = .ok (.if_icmp .ne 9, 3) := dk_160 0 9 (dk_at dksX0_rules_0 10 rfl rfl)
theorem dX0_rules_13 : decode cX0_rules 13 = .ok (.getstatic 116, 3) := dk_178 0 116 (dk_at dksX0_rules_0 13 rfl rfl)
theorem dX0_rules_16 : decode cX0_rules 16 = .ok (.goto 20, 3) := dk_167 0 20 (dk_at dksX0_rules_0 16 rfl rfl)
theorem dX0_rules_19 : decode cX0_rules 19 = .ok (.aload_n 0, 1) := dk_42 (dk_at dksX0_rules_0 19 rfl rfl)
theorem dX0_rules_20 : decode cX0_rules 20 = .ok (.getfield 21, 3) := dk_180 0 21 (dk_at dksX0_rules_0 20 rfl rfl)
theorem dX0_rules_23 : decode cX0_rules 23 = .ok (.getfield 93, 3) := dk_180 0 93 (dk_at dksX0_rules_1 0 rfl rfl)
theorem dX0_rules_26 : decode cX0_rules 26 = .ok (.aload_n 0, 1) := dk_42 (dk_at dksX0_rules_1 3 rfl rfl)
theorem dX0_rules_27 : decode cX0_rules 27 = .ok (.getfield 21, 3) := dk_180 0 21 (dk_at dksX0_rules_1 4 rfl rfl)
theorem dX0_rules_30 : decode cX0_rules 30 = .ok (.getfield 59, 3) := dk_180 0 59 (dk_at dksX0_rules_1 7 rfl rfl)
theorem dX0_rules_33 : decode cX0_rules 33 = .ok (.iconst 2, 1) := dk_5 (dk_at dksX0_rules_1 10 rfl rfl)
theorem dX0_rules_34 : decode cX0_rules 34 = .ok (.iaload, 1) := dk_46 (dk_at dksX0_rules_1 11 rfl rfl)
theorem dX0_rules_35 : decode cX0_rules 35 = .ok (.aaload, 1) := dk_50 (dk_at dksX0_rules_1 12 rfl rfl)
theorem dX0_rules_36 : decode cX0_rules 36 = .ok (.areturn, 1) := dk_176 (dk_at dksX0_rules_1 13 rfl rfl)
abbrev cX0_runBy : ByteArray := prog_1_method_20_code
def yX0_runBy : MethodName := ⟨RX0, "runBy", "(LTollsForLate$Text;[II)I"⟩
def dkwX0_runBy_5 : List UInt8 := [21, 4, 172]
abbrev dktX0_runBy_5 : List UInt8 := dkwX0_runBy_5 ++ []
def dkwX0_runBy_4 : List UInt8 := [21, 5, 96, 46, 154, 0, 10, 4, 21, 5, 120, 167, 0, 4, 3, 128, 54, 4, 132, 5, 1, 167, 255, 148]
abbrev dktX0_runBy_4 : List UInt8 := dkwX0_runBy_4 ++ dktX0_runBy_5
def dkwX0_runBy_3 : List UInt8 := [182, 0, 146, 158, 0, 7, 4, 167, 0, 4, 3, 54, 6, 21, 4, 21, 6, 153, 0, 20, 44, 16, 12]
abbrev dktX0_runBy_3 : List UInt8 := dkwX0_runBy_3 ++ dktX0_runBy_4
def dkwX0_runBy_2 : List UInt8 := [184, 0, 140, 79, 42, 43, 3, 42, 180, 0, 39, 16, 7, 46, 158, 0, 7, 4, 167, 0, 4, 3, 16, 9]
abbrev dktX0_runBy_2 : List UInt8 := dkwX0_runBy_2 ++ dktX0_runBy_3
def dkwX0_runBy_1 : List UInt8 := [29, 182, 0, 136, 42, 180, 0, 39, 16, 7, 29, 42, 180, 0, 21, 180, 0, 83, 21, 5, 46, 126]
abbrev dktX0_runBy_1 : List UInt8 := dkwX0_runBy_1 ++ dktX0_runBy_2
def dkwX0_runBy_0 : List UInt8 := [3, 54, 4, 3, 54, 5, 21, 5, 42, 180, 0, 21, 180, 0, 59, 3, 46, 162, 0, 100, 42, 44, 21, 5]
abbrev dktX0_runBy_0 : List UInt8 := dkwX0_runBy_0 ++ dktX0_runBy_1
theorem dksX0_runBy_0 : cX0_runBy.data.toList.drop 0 = dktX0_runBy_0 := by decide +kernel
theorem dksX0_runBy_1 : cX0_runBy.data.toList.drop 24 = dktX0_runBy_1 := dk_seg dksX0_runBy_0 24 rfl rfl
theorem dksX0_runBy_2 : cX0_runBy.data.toList.drop 46 = dktX0_runBy_2 := dk_seg dksX0_runBy_1 22 rfl rfl
theorem dksX0_runBy_3 : cX0_runBy.data.toList.drop 70 = dktX0_runBy_3 := dk_seg dksX0_runBy_2 24 rfl rfl
theorem dksX0_runBy_4 : cX0_runBy.data.toList.drop 93 = dktX0_runBy_4 := dk_seg dksX0_runBy_3 23 rfl rfl
theorem dksX0_runBy_5 : cX0_runBy.data.toList.drop 117 = dktX0_runBy_5 := dk_seg dksX0_runBy_4 24 rfl rfl
theorem dX0_runBy_0 : decode cX0_runBy 0 = .ok (.iconst 0, 1) := dk_3 (dk_at dksX0_runBy_0 0 rfl rfl)
theorem dX0_runBy_1 : decode cX0_runBy 1 = .ok (.istore 4, 2) := dk_54 4 (dk_at dksX0_runBy_0 1 rfl rfl)
theorem dX0_runBy_3 : decode cX0_runBy 3 = .ok (.iconst 0, 1) := dk_3 (dk_at dksX0_runBy_0 3 rfl rfl)
theorem dX0_runBy_4 : decode cX0_runBy 4 = .ok (.istore 5, 2) := dk_54 5 (dk_at dksX0_runBy_0 4 rfl rfl)
theorem dX0_runBy_6 : decode cX0_runBy 6 = .ok (.iload 5, 2) := dk_21 5 (dk_at dksX0_runBy_0 6 rfl rfl)
theorem dX0_runBy_8 : decode cX0_runBy 8 = .ok (.aload_n 0, 1) := dk_42 (dk_at dksX0_runBy_0 8 rfl rfl)
theorem dX0_runBy_9 : decode cX0_runBy 9 = .ok (.getfield 21, 3) := dk_180 0 21 (dk_at dksX0_runBy_0 9 rfl rfl)
theorem dX0_runBy_12 : decode cX0_runBy 12 = .ok (.getfield 59, 3) := dk_180 0 59 (dk_at dksX0_runBy_0 12 rfl rfl)
theorem dX0_runBy_15 : decode cX0_runBy 15 = .ok (.iconst 0, 1) := dk_3 (dk_at dksX0_runBy_0 15 rfl rfl)
theorem dX0_runBy_16 : decode cX0_runBy 16 = .ok (.iaload, 1) := dk_46 (dk_at dksX0_runBy_0 16 rfl rfl)
theorem dX0_runBy_17 : decode cX0_runBy 17 = .ok (.if_icmp .ge 100, 3) := dk_162 0 100 (dk_at dksX0_runBy_0 17 rfl rfl)
theorem dX0_runBy_20 : decode cX0_runBy 20 = .ok (.aload_n 0, 1) := dk_42 (dk_at dksX0_runBy_0 20 rfl rfl)
theorem dX0_runBy_21 : decode cX0_runBy 21 = .ok (.aload_n 2, 1) := dk_44 (dk_at dksX0_runBy_0 21 rfl rfl)
theorem dX0_runBy_22 : decode cX0_runBy 22 = .ok (.iload 5, 2) := dk_21 5 (dk_at dksX0_runBy_0 22 rfl rfl)
theorem dX0_runBy_24 : decode cX0_runBy 24 = .ok (.iload_n 3, 1) := dk_29 (dk_at dksX0_runBy_1 0 rfl rfl)
theorem dX0_runBy_25 : decode cX0_runBy 25 = .ok (.invokevirtual 136, 3) := dk_182 0 136 (dk_at dksX0_runBy_1 1 rfl rfl)
theorem dX0_runBy_28 : decode cX0_runBy 28 = .ok (.aload_n 0, 1) := dk_42 (dk_at dksX0_runBy_1 4 rfl rfl)
theorem dX0_runBy_29 : decode cX0_runBy 29 = .ok (.getfield 39, 3) := dk_180 0 39 (dk_at dksX0_runBy_1 5 rfl rfl)
theorem dX0_runBy_32 : decode cX0_runBy 32 = .ok (.bipush 7, 2) := dk_16 7 (dk_at dksX0_runBy_1 8 rfl rfl)
theorem dX0_runBy_34 : decode cX0_runBy 34 = .ok (.iload_n 3, 1) := dk_29 (dk_at dksX0_runBy_1 10 rfl rfl)
theorem dX0_runBy_35 : decode cX0_runBy 35 = .ok (.aload_n 0, 1) := dk_42 (dk_at dksX0_runBy_1 11 rfl rfl)
theorem dX0_runBy_36 : decode cX0_runBy 36 = .ok (.getfield 21, 3) := dk_180 0 21 (dk_at dksX0_runBy_1 12 rfl rfl)
theorem dX0_runBy_39 : decode cX0_runBy 39 = .ok (.getfield 83, 3) := dk_180 0 83 (dk_at dksX0_runBy_1 15 rfl rfl)
theorem dX0_runBy_42 : decode cX0_runBy 42 = .ok (.iload 5, 2) := dk_21 5 (dk_at dksX0_runBy_1 18 rfl rfl)
theorem dX0_runBy_44 : decode cX0_runBy 44 = .ok (.iaload, 1) := dk_46 (dk_at dksX0_runBy_1 20 rfl rfl)
theorem dX0_runBy_45 : decode cX0_runBy 45 = .ok (.iand, 1) := dk_126 (dk_at dksX0_runBy_1 21 rfl rfl)
theorem dX0_runBy_46 : decode cX0_runBy 46 = .ok (.invokestatic 140, 3) := dk_184 0 140 (dk_at dksX0_runBy_2 0 rfl rfl)
theorem dX0_runBy_49 : decode cX0_runBy 49 = .ok (.iastore, 1) := dk_79 (dk_at dksX0_runBy_2 3 rfl rfl)
theorem dX0_runBy_50 : decode cX0_runBy 50 = .ok (.aload_n 0, 1) := dk_42 (dk_at dksX0_runBy_2 4 rfl rfl)
theorem dX0_runBy_51 : decode cX0_runBy 51 = .ok (.aload_n 1, 1) := dk_43 (dk_at dksX0_runBy_2 5 rfl rfl)
theorem dX0_runBy_52 : decode cX0_runBy 52 = .ok (.iconst 0, 1) := dk_3 (dk_at dksX0_runBy_2 6 rfl rfl)
theorem dX0_runBy_53 : decode cX0_runBy 53 = .ok (.aload_n 0, 1) := dk_42 (dk_at dksX0_runBy_2 7 rfl rfl)
theorem dX0_runBy_54 : decode cX0_runBy 54 = .ok (.getfield 39, 3) := dk_180 0 39 (dk_at dksX0_runBy_2 8 rfl rfl)
theorem dX0_runBy_57 : decode cX0_runBy 57 = .ok (.bipush 7, 2) := dk_16 7 (dk_at dksX0_runBy_2 11 rfl rfl)
theorem dX0_runBy_59 : decode cX0_runBy 59 = .ok (.iaload, 1) := dk_46 (dk_at dksX0_runBy_2 13 rfl rfl)
theorem dX0_runBy_60 : decode cX0_runBy 60 = .ok (.ifCond .le 7, 3) := dk_158 0 7 (dk_at dksX0_runBy_2 14 rfl rfl)
theorem dX0_runBy_63 : decode cX0_runBy 63 = .ok (.iconst 1, 1) := dk_4 (dk_at dksX0_runBy_2 17 rfl rfl)
theorem dX0_runBy_64 : decode cX0_runBy 64 = .ok (.goto 4, 3) := dk_167 0 4 (dk_at dksX0_runBy_2 18 rfl rfl)
theorem dX0_runBy_67 : decode cX0_runBy 67 = .ok (.iconst 0, 1) := dk_3 (dk_at dksX0_runBy_2 21 rfl rfl)
theorem dX0_runBy_68 : decode cX0_runBy 68 = .ok (.bipush 9, 2) := dk_16 9 (dk_at dksX0_runBy_2 22 rfl rfl)
theorem dX0_runBy_70 : decode cX0_runBy 70 = .ok (.invokevirtual 146, 3) := dk_182 0 146 (dk_at dksX0_runBy_3 0 rfl rfl)
theorem dX0_runBy_73 : decode cX0_runBy 73 = .ok (.ifCond .le 7, 3) := dk_158 0 7 (dk_at dksX0_runBy_3 3 rfl rfl)
theorem dX0_runBy_76 : decode cX0_runBy 76 = .ok (.iconst 1, 1) := dk_4 (dk_at dksX0_runBy_3 6 rfl rfl)
theorem dX0_runBy_77 : decode cX0_runBy 77 = .ok (.goto 4, 3) := dk_167 0 4 (dk_at dksX0_runBy_3 7 rfl rfl)
theorem dX0_runBy_80 : decode cX0_runBy 80 = .ok (.iconst 0, 1) := dk_3 (dk_at dksX0_runBy_3 10 rfl rfl)
theorem dX0_runBy_81 : decode cX0_runBy 81 = .ok (.istore 6, 2) := dk_54 6 (dk_at dksX0_runBy_3 11 rfl rfl)
theorem dX0_runBy_83 : decode cX0_runBy 83 = .ok (.iload 4, 2) := dk_21 4 (dk_at dksX0_runBy_3 13 rfl rfl)
theorem dX0_runBy_85 : decode cX0_runBy 85 = .ok (.iload 6, 2) := dk_21 6 (dk_at dksX0_runBy_3 15 rfl rfl)
theorem dX0_runBy_87 : decode cX0_runBy 87 = .ok (.ifCond .eq 20, 3) := dk_153 0 20 (dk_at dksX0_runBy_3 17 rfl rfl)
theorem dX0_runBy_90 : decode cX0_runBy 90 = .ok (.aload_n 2, 1) := dk_44 (dk_at dksX0_runBy_3 20 rfl rfl)
theorem dX0_runBy_91 : decode cX0_runBy 91 = .ok (.bipush 12, 2) := dk_16 12 (dk_at dksX0_runBy_3 21 rfl rfl)
theorem dX0_runBy_93 : decode cX0_runBy 93 = .ok (.iload 5, 2) := dk_21 5 (dk_at dksX0_runBy_4 0 rfl rfl)
theorem dX0_runBy_95 : decode cX0_runBy 95 = .ok (.iadd, 1) := dk_96 (dk_at dksX0_runBy_4 2 rfl rfl)
theorem dX0_runBy_96 : decode cX0_runBy 96 = .ok (.iaload, 1) := dk_46 (dk_at dksX0_runBy_4 3 rfl rfl)
theorem dX0_runBy_97 : decode cX0_runBy 97 = .ok (.ifCond .ne 10, 3) := dk_154 0 10 (dk_at dksX0_runBy_4 4 rfl rfl)
theorem dX0_runBy_100 : decode cX0_runBy 100 = .ok (.iconst 1, 1) := dk_4 (dk_at dksX0_runBy_4 7 rfl rfl)
theorem dX0_runBy_101 : decode cX0_runBy 101 = .ok (.iload 5, 2) := dk_21 5 (dk_at dksX0_runBy_4 8 rfl rfl)
theorem dX0_runBy_103 : decode cX0_runBy 103 = .ok (.ishl, 1) := dk_120 (dk_at dksX0_runBy_4 10 rfl rfl)
theorem dX0_runBy_104 : decode cX0_runBy 104 = .ok (.goto 4, 3) := dk_167 0 4 (dk_at dksX0_runBy_4 11 rfl rfl)
theorem dX0_runBy_107 : decode cX0_runBy 107 = .ok (.iconst 0, 1) := dk_3 (dk_at dksX0_runBy_4 14 rfl rfl)
theorem dX0_runBy_108 : decode cX0_runBy 108 = .ok (.ior, 1) := dk_128 (dk_at dksX0_runBy_4 15 rfl rfl)
theorem dX0_runBy_109 : decode cX0_runBy 109 = .ok (.istore 4, 2) := dk_54 4 (dk_at dksX0_runBy_4 16 rfl rfl)
theorem dX0_runBy_111 : decode cX0_runBy 111 = .ok (.iinc 5 1, 3) := dk_132 5 1 (dk_at dksX0_runBy_4 18 rfl rfl)
theorem dX0_runBy_114 : decode cX0_runBy 114 = .ok (.goto (-108), 3) := dk_167 255 148 (dk_at dksX0_runBy_4 21 rfl rfl)
theorem dX0_runBy_117 : decode cX0_runBy 117 = .ok (.iload 4, 2) := dk_21 4 (dk_at dksX0_runBy_5 0 rfl rfl)
theorem dX0_runBy_119 : decode cX0_runBy 119 = .ok (.ireturn, 1) := dk_172 (dk_at dksX0_runBy_5 2 rfl rfl)
abbrev cX0_namesOf : ByteArray := prog_1_method_18_code
def yX0_namesOf : MethodName := ⟨RX0, "namesOf", "([III)V"⟩
def dkwX0_namesOf_4 : List UInt8 := [180, 0, 39, 16, 10, 21, 4, 96, 29, 21, 4, 122, 4, 126, 79, 132, 4, 1, 167, 255, 230, 177]
abbrev dktX0_namesOf_4 : List UInt8 := dkwX0_namesOf_4 ++ []
def dkwX0_namesOf_3 : List UInt8 := [42, 180, 0, 39, 16, 6, 43, 7, 28, 96, 46, 79, 3, 54, 4, 21, 4, 16, 8, 162, 0, 25, 42]
abbrev dktX0_namesOf_3 : List UInt8 := dkwX0_namesOf_3 ++ dktX0_namesOf_4
def dkwX0_namesOf_2 : List UInt8 := [180, 0, 21, 180, 0, 73, 28, 46, 79, 42, 180, 0, 39, 8, 42, 180, 0, 21, 180, 0, 76, 28, 46, 79]
abbrev dktX0_namesOf_2 : List UInt8 := dkwX0_namesOf_2 ++ dktX0_namesOf_3
def dkwX0_namesOf_1 : List UInt8 := [79, 42, 180, 0, 39, 6, 42, 180, 0, 21, 180, 0, 70, 28, 46, 79, 42, 180, 0, 39, 7, 42]
abbrev dktX0_namesOf_1 : List UInt8 := dkwX0_namesOf_1 ++ dktX0_namesOf_2
def dkwX0_namesOf_0 : List UInt8 := [42, 180, 0, 39, 3, 43, 3, 46, 79, 42, 180, 0, 39, 4, 43, 5, 46, 79, 42, 180, 0, 39, 5, 28]
abbrev dktX0_namesOf_0 : List UInt8 := dkwX0_namesOf_0 ++ dktX0_namesOf_1
theorem dksX0_namesOf_0 : cX0_namesOf.data.toList.drop 0 = dktX0_namesOf_0 := by decide +kernel
theorem dksX0_namesOf_1 : cX0_namesOf.data.toList.drop 24 = dktX0_namesOf_1 := dk_seg dksX0_namesOf_0 24 rfl rfl
theorem dksX0_namesOf_2 : cX0_namesOf.data.toList.drop 46 = dktX0_namesOf_2 := dk_seg dksX0_namesOf_1 22 rfl rfl
theorem dksX0_namesOf_3 : cX0_namesOf.data.toList.drop 70 = dktX0_namesOf_3 := dk_seg dksX0_namesOf_2 24 rfl rfl
theorem dksX0_namesOf_4 : cX0_namesOf.data.toList.drop 93 = dktX0_namesOf_4 := dk_seg dksX0_namesOf_3 23 rfl rfl
theorem dX0_namesOf_0 : decode cX0_namesOf 0 = .ok (.aload_n 0, 1) := dk_42 (dk_at dksX0_namesOf_0 0 rfl rfl)
theorem dX0_namesOf_1 : decode cX0_namesOf 1 = .ok (.getfield 39, 3) := dk_180 0 39 (dk_at dksX0_namesOf_0 1 rfl rfl)
theorem dX0_namesOf_4 : decode cX0_namesOf 4 = .ok (.iconst 0, 1) := dk_3 (dk_at dksX0_namesOf_0 4 rfl rfl)
theorem dX0_namesOf_5 : decode cX0_namesOf 5 = .ok (.aload_n 1, 1) := dk_43 (dk_at dksX0_namesOf_0 5 rfl rfl)
theorem dX0_namesOf_6 : decode cX0_namesOf 6 = .ok (.iconst 0, 1) := dk_3 (dk_at dksX0_namesOf_0 6 rfl rfl)
theorem dX0_namesOf_7 : decode cX0_namesOf 7 = .ok (.iaload, 1) := dk_46 (dk_at dksX0_namesOf_0 7 rfl rfl)
theorem dX0_namesOf_8 : decode cX0_namesOf 8 = .ok (.iastore, 1) := dk_79 (dk_at dksX0_namesOf_0 8 rfl rfl)
theorem dX0_namesOf_9 : decode cX0_namesOf 9 = .ok (.aload_n 0, 1) := dk_42 (dk_at dksX0_namesOf_0 9 rfl rfl)
theorem dX0_namesOf_10 : decode cX0_namesOf 10 = .ok (.getfield 39, 3) := dk_180 0 39 (dk_at dksX0_namesOf_0 10 rfl rfl)
theorem dX0_namesOf_13 : decode cX0_namesOf 13 = .ok (.iconst 1, 1) := dk_4 (dk_at dksX0_namesOf_0 13 rfl rfl)
theorem dX0_namesOf_14 : decode cX0_namesOf 14 = .ok (.aload_n 1, 1) := dk_43 (dk_at dksX0_namesOf_0 14 rfl rfl)
theorem dX0_namesOf_15 : decode cX0_namesOf 15 = .ok (.iconst 2, 1) := dk_5 (dk_at dksX0_namesOf_0 15 rfl rfl)
theorem dX0_namesOf_16 : decode cX0_namesOf 16 = .ok (.iaload, 1) := dk_46 (dk_at dksX0_namesOf_0 16 rfl rfl)
theorem dX0_namesOf_17 : decode cX0_namesOf 17 = .ok (.iastore, 1) := dk_79 (dk_at dksX0_namesOf_0 17 rfl rfl)
theorem dX0_namesOf_18 : decode cX0_namesOf 18 = .ok (.aload_n 0, 1) := dk_42 (dk_at dksX0_namesOf_0 18 rfl rfl)
theorem dX0_namesOf_19 : decode cX0_namesOf 19 = .ok (.getfield 39, 3) := dk_180 0 39 (dk_at dksX0_namesOf_0 19 rfl rfl)
theorem dX0_namesOf_22 : decode cX0_namesOf 22 = .ok (.iconst 2, 1) := dk_5 (dk_at dksX0_namesOf_0 22 rfl rfl)
theorem dX0_namesOf_23 : decode cX0_namesOf 23 = .ok (.iload_n 2, 1) := dk_28 (dk_at dksX0_namesOf_0 23 rfl rfl)
theorem dX0_namesOf_24 : decode cX0_namesOf 24 = .ok (.iastore, 1) := dk_79 (dk_at dksX0_namesOf_1 0 rfl rfl)
theorem dX0_namesOf_25 : decode cX0_namesOf 25 = .ok (.aload_n 0, 1) := dk_42 (dk_at dksX0_namesOf_1 1 rfl rfl)
theorem dX0_namesOf_26 : decode cX0_namesOf 26 = .ok (.getfield 39, 3) := dk_180 0 39 (dk_at dksX0_namesOf_1 2 rfl rfl)
theorem dX0_namesOf_29 : decode cX0_namesOf 29 = .ok (.iconst 3, 1) := dk_6 (dk_at dksX0_namesOf_1 5 rfl rfl)
theorem dX0_namesOf_30 : decode cX0_namesOf 30 = .ok (.aload_n 0, 1) := dk_42 (dk_at dksX0_namesOf_1 6 rfl rfl)
theorem dX0_namesOf_31 : decode cX0_namesOf 31 = .ok (.getfield 21, 3) := dk_180 0 21 (dk_at dksX0_namesOf_1 7 rfl rfl)
theorem dX0_namesOf_34 : decode cX0_namesOf 34 = .ok (.getfield 70, 3) := dk_180 0 70 (dk_at dksX0_namesOf_1 10 rfl rfl)
theorem dX0_namesOf_37 : decode cX0_namesOf 37 = .ok (.iload_n 2, 1) := dk_28 (dk_at dksX0_namesOf_1 13 rfl rfl)
theorem dX0_namesOf_38 : decode cX0_namesOf 38 = .ok (.iaload, 1) := dk_46 (dk_at dksX0_namesOf_1 14 rfl rfl)
theorem dX0_namesOf_39 : decode cX0_namesOf 39 = .ok (.iastore, 1) := dk_79 (dk_at dksX0_namesOf_1 15 rfl rfl)
theorem dX0_namesOf_40 : decode cX0_namesOf 40 = .ok (.aload_n 0, 1) := dk_42 (dk_at dksX0_namesOf_1 16 rfl rfl)
theorem dX0_namesOf_41 : decode cX0_namesOf 41 = .ok (.getfield 39, 3) := dk_180 0 39 (dk_at dksX0_namesOf_1 17 rfl rfl)
theorem dX0_namesOf_44 : decode cX0_namesOf 44 = .ok (.iconst 4, 1) := dk_7 (dk_at dksX0_namesOf_1 20 rfl rfl)
theorem dX0_namesOf_45 : decode cX0_namesOf 45 = .ok (.aload_n 0, 1) := dk_42 (dk_at dksX0_namesOf_1 21 rfl rfl)
theorem dX0_namesOf_46 : decode cX0_namesOf 46 = .ok (.getfield 21, 3) := dk_180 0 21 (dk_at dksX0_namesOf_2 0 rfl rfl)
theorem dX0_namesOf_49 : decode cX0_namesOf 49 = .ok (.getfield 73, 3) := dk_180 0 73 (dk_at dksX0_namesOf_2 3 rfl rfl)
theorem dX0_namesOf_52 : decode cX0_namesOf 52 = .ok (.iload_n 2, 1) := dk_28 (dk_at dksX0_namesOf_2 6 rfl rfl)
theorem dX0_namesOf_53 : decode cX0_namesOf 53 = .ok (.iaload, 1) := dk_46 (dk_at dksX0_namesOf_2 7 rfl rfl)
theorem dX0_namesOf_54 : decode cX0_namesOf 54 = .ok (.iastore, 1) := dk_79 (dk_at dksX0_namesOf_2 8 rfl rfl)
theorem dX0_namesOf_55 : decode cX0_namesOf 55 = .ok (.aload_n 0, 1) := dk_42 (dk_at dksX0_namesOf_2 9 rfl rfl)
theorem dX0_namesOf_56 : decode cX0_namesOf 56 = .ok (.getfield 39, 3) := dk_180 0 39 (dk_at dksX0_namesOf_2 10 rfl rfl)
theorem dX0_namesOf_59 : decode cX0_namesOf 59 = .ok (.iconst 5, 1) := dk_8 (dk_at dksX0_namesOf_2 13 rfl rfl)
theorem dX0_namesOf_60 : decode cX0_namesOf 60 = .ok (.aload_n 0, 1) := dk_42 (dk_at dksX0_namesOf_2 14 rfl rfl)
theorem dX0_namesOf_61 : decode cX0_namesOf 61 = .ok (.getfield 21, 3) := dk_180 0 21 (dk_at dksX0_namesOf_2 15 rfl rfl)
theorem dX0_namesOf_64 : decode cX0_namesOf 64 = .ok (.getfield 76, 3) := dk_180 0 76 (dk_at dksX0_namesOf_2 18 rfl rfl)
theorem dX0_namesOf_67 : decode cX0_namesOf 67 = .ok (.iload_n 2, 1) := dk_28 (dk_at dksX0_namesOf_2 21 rfl rfl)
theorem dX0_namesOf_68 : decode cX0_namesOf 68 = .ok (.iaload, 1) := dk_46 (dk_at dksX0_namesOf_2 22 rfl rfl)
theorem dX0_namesOf_69 : decode cX0_namesOf 69 = .ok (.iastore, 1) := dk_79 (dk_at dksX0_namesOf_2 23 rfl rfl)
theorem dX0_namesOf_70 : decode cX0_namesOf 70 = .ok (.aload_n 0, 1) := dk_42 (dk_at dksX0_namesOf_3 0 rfl rfl)
theorem dX0_namesOf_71 : decode cX0_namesOf 71 = .ok (.getfield 39, 3) := dk_180 0 39 (dk_at dksX0_namesOf_3 1 rfl rfl)
theorem dX0_namesOf_74 : decode cX0_namesOf 74 = .ok (.bipush 6, 2) := dk_16 6 (dk_at dksX0_namesOf_3 4 rfl rfl)
theorem dX0_namesOf_76 : decode cX0_namesOf 76 = .ok (.aload_n 1, 1) := dk_43 (dk_at dksX0_namesOf_3 6 rfl rfl)
theorem dX0_namesOf_77 : decode cX0_namesOf 77 = .ok (.iconst 4, 1) := dk_7 (dk_at dksX0_namesOf_3 7 rfl rfl)
theorem dX0_namesOf_78 : decode cX0_namesOf 78 = .ok (.iload_n 2, 1) := dk_28 (dk_at dksX0_namesOf_3 8 rfl rfl)
theorem dX0_namesOf_79 : decode cX0_namesOf 79 = .ok (.iadd, 1) := dk_96 (dk_at dksX0_namesOf_3 9 rfl rfl)
theorem dX0_namesOf_80 : decode cX0_namesOf 80 = .ok (.iaload, 1) := dk_46 (dk_at dksX0_namesOf_3 10 rfl rfl)
theorem dX0_namesOf_81 : decode cX0_namesOf 81 = .ok (.iastore, 1) := dk_79 (dk_at dksX0_namesOf_3 11 rfl rfl)
theorem dX0_namesOf_82 : decode cX0_namesOf 82 = .ok (.iconst 0, 1) := dk_3 (dk_at dksX0_namesOf_3 12 rfl rfl)
theorem dX0_namesOf_83 : decode cX0_namesOf 83 = .ok (.istore 4, 2) := dk_54 4 (dk_at dksX0_namesOf_3 13 rfl rfl)
theorem dX0_namesOf_85 : decode cX0_namesOf 85 = .ok (.iload 4, 2) := dk_21 4 (dk_at dksX0_namesOf_3 15 rfl rfl)
theorem dX0_namesOf_87 : decode cX0_namesOf 87 = .ok (.bipush 8, 2) := dk_16 8 (dk_at dksX0_namesOf_3 17 rfl rfl)
theorem dX0_namesOf_89 : decode cX0_namesOf 89 = .ok (.if_icmp .ge 25, 3) := dk_162 0 25 (dk_at dksX0_namesOf_3 19 rfl rfl)
theorem dX0_namesOf_92 : decode cX0_namesOf 92 = .ok (.aload_n 0, 1) := dk_42 (dk_at dksX0_namesOf_3 22 rfl rfl)
theorem dX0_namesOf_93 : decode cX0_namesOf 93 = .ok (.getfield 39, 3) := dk_180 0 39 (dk_at dksX0_namesOf_4 0 rfl rfl)
theorem dX0_namesOf_96 : decode cX0_namesOf 96 = .ok (.bipush 10, 2) := dk_16 10 (dk_at dksX0_namesOf_4 3 rfl rfl)
theorem dX0_namesOf_98 : decode cX0_namesOf 98 = .ok (.iload 4, 2) := dk_21 4 (dk_at dksX0_namesOf_4 5 rfl rfl)
theorem dX0_namesOf_100 : decode cX0_namesOf 100 = .ok (.iadd, 1) := dk_96 (dk_at dksX0_namesOf_4 7 rfl rfl)
theorem dX0_namesOf_101 : decode cX0_namesOf 101 = .ok (.iload_n 3, 1) := dk_29 (dk_at dksX0_namesOf_4 8 rfl rfl)
theorem dX0_namesOf_102 : decode cX0_namesOf 102 = .ok (.iload 4, 2) := dk_21 4 (dk_at dksX0_namesOf_4 9 rfl rfl)
theorem dX0_namesOf_104 : decode cX0_namesOf 104 = .ok (.ishr, 1) := dk_122 (dk_at dksX0_namesOf_4 11 rfl rfl)
theorem dX0_namesOf_105 : decode cX0_namesOf 105 = .ok (.iconst 1, 1) := dk_4 (dk_at dksX0_namesOf_4 12 rfl rfl)
theorem dX0_namesOf_106 : decode cX0_namesOf 106 = .ok (.iand, 1) := dk_126 (dk_at dksX0_namesOf_4 13 rfl rfl)
theorem dX0_namesOf_107 : decode cX0_namesOf 107 = .ok (.iastore, 1) := dk_79 (dk_at dksX0_namesOf_4 14 rfl rfl)
theorem dX0_namesOf_108 : decode cX0_namesOf 108 = .ok (.iinc 4 1, 3) := dk_132 4 1 (dk_at dksX0_namesOf_4 15 rfl rfl)
theorem dX0_namesOf_111 : decode cX0_namesOf 111 = .ok (.goto (-26), 3) := dk_167 255 230 (dk_at dksX0_namesOf_4 18 rfl rfl)
theorem dX0_namesOf_114 : decode cX0_namesOf 114 = .ok (.return_, 1) := dk_177 (dk_at dksX0_namesOf_4 21 rfl rfl)
abbrev cX0_law : ByteArray := prog_1_method_19_code
def yX0_law : MethodName := ⟨RX0, "law", "(LTollsForLate$Text;III)I"⟩
def dkwX0_law_1 : List UInt8 := [185, 0, 126, 2, 0, 3, 21, 4, 184, 0, 132, 172]
abbrev dktX0_law_1 : List UInt8 := dkwX0_law_1 ++ []
def dkwX0_law_0 : List UInt8 := [43, 180, 0, 120, 28, 50, 199, 0, 8, 29, 133, 167, 0, 18, 43, 180, 0, 120, 28, 50, 42, 180, 0, 39]
abbrev dktX0_law_0 : List UInt8 := dkwX0_law_0 ++ dktX0_law_1
theorem dksX0_law_0 : cX0_law.data.toList.drop 0 = dktX0_law_0 := by decide +kernel
theorem dksX0_law_1 : cX0_law.data.toList.drop 24 = dktX0_law_1 := dk_seg dksX0_law_0 24 rfl rfl
theorem dX0_law_0 : decode cX0_law 0 = .ok (.aload_n 1, 1) := dk_43 (dk_at dksX0_law_0 0 rfl rfl)
theorem dX0_law_1 : decode cX0_law 1 = .ok (.getfield 120, 3) := dk_180 0 120 (dk_at dksX0_law_0 1 rfl rfl)
theorem dX0_law_4 : decode cX0_law 4 = .ok (.iload_n 2, 1) := dk_28 (dk_at dksX0_law_0 4 rfl rfl)
theorem dX0_law_5 : decode cX0_law 5 = .ok (.aaload, 1) := dk_50 (dk_at dksX0_law_0 5 rfl rfl)
theorem dX0_law_6 : decode cX0_law 6 = .ok (.ifnonnull 8, 3) := dk_199 0 8 (dk_at dksX0_law_0 6 rfl rfl)
theorem dX0_law_9 : decode cX0_law 9 = .ok (.iload_n 3, 1) := dk_29 (dk_at dksX0_law_0 9 rfl rfl)
theorem dX0_law_10 : decode cX0_law 10 = .ok (.i2l, 1) := dk_133 (dk_at dksX0_law_0 10 rfl rfl)
theorem dX0_law_11 : decode cX0_law 11 = .ok (.goto 18, 3) := dk_167 0 18 (dk_at dksX0_law_0 11 rfl rfl)
theorem dX0_law_14 : decode cX0_law 14 = .ok (.aload_n 1, 1) := dk_43 (dk_at dksX0_law_0 14 rfl rfl)
theorem dX0_law_15 : decode cX0_law 15 = .ok (.getfield 120, 3) := dk_180 0 120 (dk_at dksX0_law_0 15 rfl rfl)
theorem dX0_law_18 : decode cX0_law 18 = .ok (.iload_n 2, 1) := dk_28 (dk_at dksX0_law_0 18 rfl rfl)
theorem dX0_law_19 : decode cX0_law 19 = .ok (.aaload, 1) := dk_50 (dk_at dksX0_law_0 19 rfl rfl)
theorem dX0_law_20 : decode cX0_law 20 = .ok (.aload_n 0, 1) := dk_42 (dk_at dksX0_law_0 20 rfl rfl)
theorem dX0_law_21 : decode cX0_law 21 = .ok (.getfield 39, 3) := dk_180 0 39 (dk_at dksX0_law_0 21 rfl rfl)
theorem dX0_law_24 : decode cX0_law 24 = .ok (.invokeinterface 126 2, 5) := by decide +kernel
theorem dX0_law_29 : decode cX0_law 29 = .ok (.iconst 0, 1) := dk_3 (dk_at dksX0_law_1 5 rfl rfl)
theorem dX0_law_30 : decode cX0_law 30 = .ok (.iload 4, 2) := dk_21 4 (dk_at dksX0_law_1 6 rfl rfl)
theorem dX0_law_32 : decode cX0_law 32 = .ok (.invokestatic 132, 3) := dk_184 0 132 (dk_at dksX0_law_1 8 rfl rfl)
theorem dX0_law_35 : decode cX0_law 35 = .ok (.ireturn, 1) := dk_172 (dk_at dksX0_law_1 11 rfl rfl)
abbrev cX0_held : ByteArray := prog_1_method_3_code
def yX0_held : MethodName := ⟨RX0, "held", "(JII)I"⟩
def dkwX0_held_0 : List UInt8 := [28, 133, 29, 133, 30, 184, 0, 3, 184, 0, 9, 136, 172]
abbrev dktX0_held_0 : List UInt8 := dkwX0_held_0 ++ []
theorem dksX0_held_0 : cX0_held.data.toList.drop 0 = dktX0_held_0 := by decide +kernel
theorem dX0_held_0 : decode cX0_held 0 = .ok (.iload_n 2, 1) := dk_28 (dk_at dksX0_held_0 0 rfl rfl)
theorem dX0_held_1 : decode cX0_held 1 = .ok (.i2l, 1) := dk_133 (dk_at dksX0_held_0 1 rfl rfl)
theorem dX0_held_2 : decode cX0_held 2 = .ok (.iload_n 3, 1) := dk_29 (dk_at dksX0_held_0 2 rfl rfl)
theorem dX0_held_3 : decode cX0_held 3 = .ok (.i2l, 1) := dk_133 (dk_at dksX0_held_0 3 rfl rfl)
theorem dX0_held_4 : decode cX0_held 4 = .ok (.lload_n 0, 1) := dk_30 (dk_at dksX0_held_0 4 rfl rfl)
theorem dX0_held_5 : decode cX0_held 5 = .ok (.invokestatic 3, 3) := dk_184 0 3 (dk_at dksX0_held_0 5 rfl rfl)
theorem dX0_held_8 : decode cX0_held 8 = .ok (.invokestatic 9, 3) := dk_184 0 9 (dk_at dksX0_held_0 8 rfl rfl)
theorem dX0_held_11 : decode cX0_held 11 = .ok (.l2i, 1) := dk_136 (dk_at dksX0_held_0 11 rfl rfl)
theorem dX0_held_12 : decode cX0_held 12 = .ok (.ireturn, 1) := dk_172 (dk_at dksX0_held_0 12 rfl rfl)
abbrev cX0_takesBy : ByteArray := prog_1_method_22_code
def yX0_takesBy : MethodName := ⟨RX0, "takesBy", "(LTollsForLate$Text;[IIII)I"⟩
def dkwX0_takesBy_4 : List UInt8 := [182, 0, 146, 172]
abbrev dktX0_takesBy_4 : List UInt8 := dkwX0_takesBy_4 ++ []
def dkwX0_takesBy_3 : List UInt8 := [167, 0, 9, 42, 180, 0, 39, 7, 46, 42, 180, 0, 39, 16, 9, 46, 5, 108, 96, 17, 3, 231]
abbrev dktX0_takesBy_3 : List UInt8 := dkwX0_takesBy_3 ++ dktX0_takesBy_4
def dkwX0_takesBy_2 : List UInt8 := [182, 0, 153, 79, 42, 43, 4, 42, 180, 0, 39, 16, 8, 46, 4, 160, 0, 12, 42, 180, 0, 39, 8, 46]
abbrev dktX0_takesBy_2 : List UInt8 := dkwX0_takesBy_2 ++ dktX0_takesBy_3
def dkwX0_takesBy_1 : List UInt8 := [180, 0, 39, 16, 9, 42, 21, 5, 4, 29, 120, 2, 130, 126, 42, 180, 0, 21, 180, 0, 70, 29, 46]
abbrev dktX0_takesBy_1 : List UInt8 := dkwX0_takesBy_1 ++ dktX0_takesBy_2
def dkwX0_takesBy_0 : List UInt8 := [42, 44, 29, 21, 4, 182, 0, 136, 42, 180, 0, 39, 16, 8, 21, 5, 29, 122, 4, 126, 79, 42]
abbrev dktX0_takesBy_0 : List UInt8 := dkwX0_takesBy_0 ++ dktX0_takesBy_1
theorem dksX0_takesBy_0 : cX0_takesBy.data.toList.drop 0 = dktX0_takesBy_0 := by decide +kernel
theorem dksX0_takesBy_1 : cX0_takesBy.data.toList.drop 22 = dktX0_takesBy_1 := dk_seg dksX0_takesBy_0 22 rfl rfl
theorem dksX0_takesBy_2 : cX0_takesBy.data.toList.drop 45 = dktX0_takesBy_2 := dk_seg dksX0_takesBy_1 23 rfl rfl
theorem dksX0_takesBy_3 : cX0_takesBy.data.toList.drop 69 = dktX0_takesBy_3 := dk_seg dksX0_takesBy_2 24 rfl rfl
theorem dksX0_takesBy_4 : cX0_takesBy.data.toList.drop 91 = dktX0_takesBy_4 := dk_seg dksX0_takesBy_3 22 rfl rfl
theorem dX0_takesBy_0 : decode cX0_takesBy 0 = .ok (.aload_n 0, 1) := dk_42 (dk_at dksX0_takesBy_0 0 rfl rfl)
theorem dX0_takesBy_1 : decode cX0_takesBy 1 = .ok (.aload_n 2, 1) := dk_44 (dk_at dksX0_takesBy_0 1 rfl rfl)
theorem dX0_takesBy_2 : decode cX0_takesBy 2 = .ok (.iload_n 3, 1) := dk_29 (dk_at dksX0_takesBy_0 2 rfl rfl)
theorem dX0_takesBy_3 : decode cX0_takesBy 3 = .ok (.iload 4, 2) := dk_21 4 (dk_at dksX0_takesBy_0 3 rfl rfl)
theorem dX0_takesBy_5 : decode cX0_takesBy 5 = .ok (.invokevirtual 136, 3) := dk_182 0 136 (dk_at dksX0_takesBy_0 5 rfl rfl)
theorem dX0_takesBy_8 : decode cX0_takesBy 8 = .ok (.aload_n 0, 1) := dk_42 (dk_at dksX0_takesBy_0 8 rfl rfl)
theorem dX0_takesBy_9 : decode cX0_takesBy 9 = .ok (.getfield 39, 3) := dk_180 0 39 (dk_at dksX0_takesBy_0 9 rfl rfl)
theorem dX0_takesBy_12 : decode cX0_takesBy 12 = .ok (.bipush 8, 2) := dk_16 8 (dk_at dksX0_takesBy_0 12 rfl rfl)
theorem dX0_takesBy_14 : decode cX0_takesBy 14 = .ok (.iload 5, 2) := dk_21 5 (dk_at dksX0_takesBy_0 14 rfl rfl)
theorem dX0_takesBy_16 : decode cX0_takesBy 16 = .ok (.iload_n 3, 1) := dk_29 (dk_at dksX0_takesBy_0 16 rfl rfl)
theorem dX0_takesBy_17 : decode cX0_takesBy 17 = .ok (.ishr, 1) := dk_122 (dk_at dksX0_takesBy_0 17 rfl rfl)
theorem dX0_takesBy_18 : decode cX0_takesBy 18 = .ok (.iconst 1, 1) := dk_4 (dk_at dksX0_takesBy_0 18 rfl rfl)
theorem dX0_takesBy_19 : decode cX0_takesBy 19 = .ok (.iand, 1) := dk_126 (dk_at dksX0_takesBy_0 19 rfl rfl)
theorem dX0_takesBy_20 : decode cX0_takesBy 20 = .ok (.iastore, 1) := dk_79 (dk_at dksX0_takesBy_0 20 rfl rfl)
theorem dX0_takesBy_21 : decode cX0_takesBy 21 = .ok (.aload_n 0, 1) := dk_42 (dk_at dksX0_takesBy_0 21 rfl rfl)
theorem dX0_takesBy_22 : decode cX0_takesBy 22 = .ok (.getfield 39, 3) := dk_180 0 39 (dk_at dksX0_takesBy_1 0 rfl rfl)
theorem dX0_takesBy_25 : decode cX0_takesBy 25 = .ok (.bipush 9, 2) := dk_16 9 (dk_at dksX0_takesBy_1 3 rfl rfl)
theorem dX0_takesBy_27 : decode cX0_takesBy 27 = .ok (.aload_n 0, 1) := dk_42 (dk_at dksX0_takesBy_1 5 rfl rfl)
theorem dX0_takesBy_28 : decode cX0_takesBy 28 = .ok (.iload 5, 2) := dk_21 5 (dk_at dksX0_takesBy_1 6 rfl rfl)
theorem dX0_takesBy_30 : decode cX0_takesBy 30 = .ok (.iconst 1, 1) := dk_4 (dk_at dksX0_takesBy_1 8 rfl rfl)
theorem dX0_takesBy_31 : decode cX0_takesBy 31 = .ok (.iload_n 3, 1) := dk_29 (dk_at dksX0_takesBy_1 9 rfl rfl)
theorem dX0_takesBy_32 : decode cX0_takesBy 32 = .ok (.ishl, 1) := dk_120 (dk_at dksX0_takesBy_1 10 rfl rfl)
theorem dX0_takesBy_33 : decode cX0_takesBy 33 = .ok (.iconst (-1), 1) := dk_2 (dk_at dksX0_takesBy_1 11 rfl rfl)
theorem dX0_takesBy_34 : decode cX0_takesBy 34 = .ok (.ixor, 1) := dk_130 (dk_at dksX0_takesBy_1 12 rfl rfl)
theorem dX0_takesBy_35 : decode cX0_takesBy 35 = .ok (.iand, 1) := dk_126 (dk_at dksX0_takesBy_1 13 rfl rfl)
theorem dX0_takesBy_36 : decode cX0_takesBy 36 = .ok (.aload_n 0, 1) := dk_42 (dk_at dksX0_takesBy_1 14 rfl rfl)
theorem dX0_takesBy_37 : decode cX0_takesBy 37 = .ok (.getfield 21, 3) := dk_180 0 21 (dk_at dksX0_takesBy_1 15 rfl rfl)
theorem dX0_takesBy_40 : decode cX0_takesBy 40 = .ok (.getfield 70, 3) := dk_180 0 70 (dk_at dksX0_takesBy_1 18 rfl rfl)
theorem dX0_takesBy_43 : decode cX0_takesBy 43 = .ok (.iload_n 3, 1) := dk_29 (dk_at dksX0_takesBy_1 21 rfl rfl)
theorem dX0_takesBy_44 : decode cX0_takesBy 44 = .ok (.iaload, 1) := dk_46 (dk_at dksX0_takesBy_1 22 rfl rfl)
theorem dX0_takesBy_45 : decode cX0_takesBy 45 = .ok (.invokevirtual 153, 3) := dk_182 0 153 (dk_at dksX0_takesBy_2 0 rfl rfl)
theorem dX0_takesBy_48 : decode cX0_takesBy 48 = .ok (.iastore, 1) := dk_79 (dk_at dksX0_takesBy_2 3 rfl rfl)
theorem dX0_takesBy_49 : decode cX0_takesBy 49 = .ok (.aload_n 0, 1) := dk_42 (dk_at dksX0_takesBy_2 4 rfl rfl)
theorem dX0_takesBy_50 : decode cX0_takesBy 50 = .ok (.aload_n 1, 1) := dk_43 (dk_at dksX0_takesBy_2 5 rfl rfl)
theorem dX0_takesBy_51 : decode cX0_takesBy 51 = .ok (.iconst 1, 1) := dk_4 (dk_at dksX0_takesBy_2 6 rfl rfl)
theorem dX0_takesBy_52 : decode cX0_takesBy 52 = .ok (.aload_n 0, 1) := dk_42 (dk_at dksX0_takesBy_2 7 rfl rfl)
theorem dX0_takesBy_53 : decode cX0_takesBy 53 = .ok (.getfield 39, 3) := dk_180 0 39 (dk_at dksX0_takesBy_2 8 rfl rfl)
theorem dX0_takesBy_56 : decode cX0_takesBy 56 = .ok (.bipush 8, 2) := dk_16 8 (dk_at dksX0_takesBy_2 11 rfl rfl)
theorem dX0_takesBy_58 : decode cX0_takesBy 58 = .ok (.iaload, 1) := dk_46 (dk_at dksX0_takesBy_2 13 rfl rfl)
theorem dX0_takesBy_59 : decode cX0_takesBy 59 = .ok (.iconst 1, 1) := dk_4 (dk_at dksX0_takesBy_2 14 rfl rfl)
theorem dX0_takesBy_60 : decode cX0_takesBy 60 = .ok (.if_icmp .ne 12, 3) := dk_160 0 12 (dk_at dksX0_takesBy_2 15 rfl rfl)
theorem dX0_takesBy_63 : decode cX0_takesBy 63 = .ok (.aload_n 0, 1) := dk_42 (dk_at dksX0_takesBy_2 18 rfl rfl)
theorem dX0_takesBy_64 : decode cX0_takesBy 64 = .ok (.getfield 39, 3) := dk_180 0 39 (dk_at dksX0_takesBy_2 19 rfl rfl)
theorem dX0_takesBy_67 : decode cX0_takesBy 67 = .ok (.iconst 5, 1) := dk_8 (dk_at dksX0_takesBy_2 22 rfl rfl)
theorem dX0_takesBy_68 : decode cX0_takesBy 68 = .ok (.iaload, 1) := dk_46 (dk_at dksX0_takesBy_2 23 rfl rfl)
theorem dX0_takesBy_69 : decode cX0_takesBy 69 = .ok (.goto 9, 3) := dk_167 0 9 (dk_at dksX0_takesBy_3 0 rfl rfl)
theorem dX0_takesBy_72 : decode cX0_takesBy 72 = .ok (.aload_n 0, 1) := dk_42 (dk_at dksX0_takesBy_3 3 rfl rfl)
theorem dX0_takesBy_73 : decode cX0_takesBy 73 = .ok (.getfield 39, 3) := dk_180 0 39 (dk_at dksX0_takesBy_3 4 rfl rfl)
theorem dX0_takesBy_76 : decode cX0_takesBy 76 = .ok (.iconst 4, 1) := dk_7 (dk_at dksX0_takesBy_3 7 rfl rfl)
theorem dX0_takesBy_77 : decode cX0_takesBy 77 = .ok (.iaload, 1) := dk_46 (dk_at dksX0_takesBy_3 8 rfl rfl)
theorem dX0_takesBy_78 : decode cX0_takesBy 78 = .ok (.aload_n 0, 1) := dk_42 (dk_at dksX0_takesBy_3 9 rfl rfl)
theorem dX0_takesBy_79 : decode cX0_takesBy 79 = .ok (.getfield 39, 3) := dk_180 0 39 (dk_at dksX0_takesBy_3 10 rfl rfl)
theorem dX0_takesBy_82 : decode cX0_takesBy 82 = .ok (.bipush 9, 2) := dk_16 9 (dk_at dksX0_takesBy_3 13 rfl rfl)
theorem dX0_takesBy_84 : decode cX0_takesBy 84 = .ok (.iaload, 1) := dk_46 (dk_at dksX0_takesBy_3 15 rfl rfl)
theorem dX0_takesBy_85 : decode cX0_takesBy 85 = .ok (.iconst 2, 1) := dk_5 (dk_at dksX0_takesBy_3 16 rfl rfl)
theorem dX0_takesBy_86 : decode cX0_takesBy 86 = .ok (.idiv, 1) := dk_108 (dk_at dksX0_takesBy_3 17 rfl rfl)
theorem dX0_takesBy_87 : decode cX0_takesBy 87 = .ok (.iadd, 1) := dk_96 (dk_at dksX0_takesBy_3 18 rfl rfl)
theorem dX0_takesBy_88 : decode cX0_takesBy 88 = .ok (.sipush 999, 3) := dk_17 3 231 (dk_at dksX0_takesBy_3 19 rfl rfl)
theorem dX0_takesBy_91 : decode cX0_takesBy 91 = .ok (.invokevirtual 146, 3) := dk_182 0 146 (dk_at dksX0_takesBy_4 0 rfl rfl)
theorem dX0_takesBy_94 : decode cX0_takesBy 94 = .ok (.ireturn, 1) := dk_172 (dk_at dksX0_takesBy_4 3 rfl rfl)
abbrev cX0_onRoad : ByteArray := prog_1_method_21_code
def yX0_onRoad : MethodName := ⟨RX0, "onRoad", "(II)I"⟩
def dkwX0_onRoad_2 : List UInt8 := [3, 96, 62, 132, 4, 1, 167, 255, 208, 29, 172]
abbrev dktX0_onRoad_2 : List UInt8 := dkwX0_onRoad_2 ++ []
def dkwX0_onRoad_1 : List UInt8 := [184, 0, 149, 153, 0, 21, 42, 180, 0, 21, 180, 0, 70, 21, 4, 46, 28, 160, 0, 7, 4, 167, 0, 4]
abbrev dktX0_onRoad_1 : List UInt8 := dkwX0_onRoad_1 ++ dktX0_onRoad_2
def dkwX0_onRoad_0 : List UInt8 := [3, 62, 3, 54, 4, 21, 4, 42, 180, 0, 21, 180, 0, 59, 3, 46, 162, 0, 40, 29, 27, 21, 4]
abbrev dktX0_onRoad_0 : List UInt8 := dkwX0_onRoad_0 ++ dktX0_onRoad_1
theorem dksX0_onRoad_0 : cX0_onRoad.data.toList.drop 0 = dktX0_onRoad_0 := by decide +kernel
theorem dksX0_onRoad_1 : cX0_onRoad.data.toList.drop 23 = dktX0_onRoad_1 := dk_seg dksX0_onRoad_0 23 rfl rfl
theorem dksX0_onRoad_2 : cX0_onRoad.data.toList.drop 47 = dktX0_onRoad_2 := dk_seg dksX0_onRoad_1 24 rfl rfl
theorem dX0_onRoad_0 : decode cX0_onRoad 0 = .ok (.iconst 0, 1) := dk_3 (dk_at dksX0_onRoad_0 0 rfl rfl)
theorem dX0_onRoad_1 : decode cX0_onRoad 1 = .ok (.istore_n 3, 1) := dk_62 (dk_at dksX0_onRoad_0 1 rfl rfl)
theorem dX0_onRoad_2 : decode cX0_onRoad 2 = .ok (.iconst 0, 1) := dk_3 (dk_at dksX0_onRoad_0 2 rfl rfl)
theorem dX0_onRoad_3 : decode cX0_onRoad 3 = .ok (.istore 4, 2) := dk_54 4 (dk_at dksX0_onRoad_0 3 rfl rfl)
theorem dX0_onRoad_5 : decode cX0_onRoad 5 = .ok (.iload 4, 2) := dk_21 4 (dk_at dksX0_onRoad_0 5 rfl rfl)
theorem dX0_onRoad_7 : decode cX0_onRoad 7 = .ok (.aload_n 0, 1) := dk_42 (dk_at dksX0_onRoad_0 7 rfl rfl)
theorem dX0_onRoad_8 : decode cX0_onRoad 8 = .ok (.getfield 21, 3) := dk_180 0 21 (dk_at dksX0_onRoad_0 8 rfl rfl)
theorem dX0_onRoad_11 : decode cX0_onRoad 11 = .ok (.getfield 59, 3) := dk_180 0 59 (dk_at dksX0_onRoad_0 11 rfl rfl)
theorem dX0_onRoad_14 : decode cX0_onRoad 14 = .ok (.iconst 0, 1) := dk_3 (dk_at dksX0_onRoad_0 14 rfl rfl)
theorem dX0_onRoad_15 : decode cX0_onRoad 15 = .ok (.iaload, 1) := dk_46 (dk_at dksX0_onRoad_0 15 rfl rfl)
theorem dX0_onRoad_16 : decode cX0_onRoad 16 = .ok (.if_icmp .ge 40, 3) := dk_162 0 40 (dk_at dksX0_onRoad_0 16 rfl rfl)
theorem dX0_onRoad_19 : decode cX0_onRoad 19 = .ok (.iload_n 3, 1) := dk_29 (dk_at dksX0_onRoad_0 19 rfl rfl)
theorem dX0_onRoad_20 : decode cX0_onRoad 20 = .ok (.iload_n 1, 1) := dk_27 (dk_at dksX0_onRoad_0 20 rfl rfl)
theorem dX0_onRoad_21 : decode cX0_onRoad 21 = .ok (.iload 4, 2) := dk_21 4 (dk_at dksX0_onRoad_0 21 rfl rfl)
theorem dX0_onRoad_23 : decode cX0_onRoad 23 = .ok (.invokestatic 149, 3) := dk_184 0 149 (dk_at dksX0_onRoad_1 0 rfl rfl)
theorem dX0_onRoad_26 : decode cX0_onRoad 26 = .ok (.ifCond .eq 21, 3) := dk_153 0 21 (dk_at dksX0_onRoad_1 3 rfl rfl)
theorem dX0_onRoad_29 : decode cX0_onRoad 29 = .ok (.aload_n 0, 1) := dk_42 (dk_at dksX0_onRoad_1 6 rfl rfl)
theorem dX0_onRoad_30 : decode cX0_onRoad 30 = .ok (.getfield 21, 3) := dk_180 0 21 (dk_at dksX0_onRoad_1 7 rfl rfl)
theorem dX0_onRoad_33 : decode cX0_onRoad 33 = .ok (.getfield 70, 3) := dk_180 0 70 (dk_at dksX0_onRoad_1 10 rfl rfl)
theorem dX0_onRoad_36 : decode cX0_onRoad 36 = .ok (.iload 4, 2) := dk_21 4 (dk_at dksX0_onRoad_1 13 rfl rfl)
theorem dX0_onRoad_38 : decode cX0_onRoad 38 = .ok (.iaload, 1) := dk_46 (dk_at dksX0_onRoad_1 15 rfl rfl)
theorem dX0_onRoad_39 : decode cX0_onRoad 39 = .ok (.iload_n 2, 1) := dk_28 (dk_at dksX0_onRoad_1 16 rfl rfl)
theorem dX0_onRoad_40 : decode cX0_onRoad 40 = .ok (.if_icmp .ne 7, 3) := dk_160 0 7 (dk_at dksX0_onRoad_1 17 rfl rfl)
theorem dX0_onRoad_43 : decode cX0_onRoad 43 = .ok (.iconst 1, 1) := dk_4 (dk_at dksX0_onRoad_1 20 rfl rfl)
theorem dX0_onRoad_44 : decode cX0_onRoad 44 = .ok (.goto 4, 3) := dk_167 0 4 (dk_at dksX0_onRoad_1 21 rfl rfl)
theorem dX0_onRoad_47 : decode cX0_onRoad 47 = .ok (.iconst 0, 1) := dk_3 (dk_at dksX0_onRoad_2 0 rfl rfl)
theorem dX0_onRoad_48 : decode cX0_onRoad 48 = .ok (.iadd, 1) := dk_96 (dk_at dksX0_onRoad_2 1 rfl rfl)
theorem dX0_onRoad_49 : decode cX0_onRoad 49 = .ok (.istore_n 3, 1) := dk_62 (dk_at dksX0_onRoad_2 2 rfl rfl)
theorem dX0_onRoad_50 : decode cX0_onRoad 50 = .ok (.iinc 4 1, 3) := dk_132 4 1 (dk_at dksX0_onRoad_2 3 rfl rfl)
theorem dX0_onRoad_53 : decode cX0_onRoad 53 = .ok (.goto (-48), 3) := dk_167 255 208 (dk_at dksX0_onRoad_2 6 rfl rfl)
theorem dX0_onRoad_56 : decode cX0_onRoad 56 = .ok (.iload_n 3, 1) := dk_29 (dk_at dksX0_onRoad_2 9 rfl rfl)
theorem dX0_onRoad_57 : decode cX0_onRoad 57 = .ok (.ireturn, 1) := dk_172 (dk_at dksX0_onRoad_2 10 rfl rfl)
abbrev cX0_has : ByteArray := prog_1_method_2_code
def yX0_has : MethodName := ⟨RX0, "has", "(II)Z"⟩
def dkwX0_has_0 : List UInt8 := [26, 27, 122, 4, 126, 4, 160, 0, 7, 4, 167, 0, 4, 3, 172]
abbrev dktX0_has_0 : List UInt8 := dkwX0_has_0 ++ []
theorem dksX0_has_0 : cX0_has.data.toList.drop 0 = dktX0_has_0 := by decide +kernel
theorem dX0_has_0 : decode cX0_has 0 = .ok (.iload_n 0, 1) := dk_26 (dk_at dksX0_has_0 0 rfl rfl)
theorem dX0_has_1 : decode cX0_has 1 = .ok (.iload_n 1, 1) := dk_27 (dk_at dksX0_has_0 1 rfl rfl)
theorem dX0_has_2 : decode cX0_has 2 = .ok (.ishr, 1) := dk_122 (dk_at dksX0_has_0 2 rfl rfl)
theorem dX0_has_3 : decode cX0_has 3 = .ok (.iconst 1, 1) := dk_4 (dk_at dksX0_has_0 3 rfl rfl)
theorem dX0_has_4 : decode cX0_has 4 = .ok (.iand, 1) := dk_126 (dk_at dksX0_has_0 4 rfl rfl)
theorem dX0_has_5 : decode cX0_has 5 = .ok (.iconst 1, 1) := dk_4 (dk_at dksX0_has_0 5 rfl rfl)
theorem dX0_has_6 : decode cX0_has 6 = .ok (.if_icmp .ne 7, 3) := dk_160 0 7 (dk_at dksX0_has_0 6 rfl rfl)
theorem dX0_has_9 : decode cX0_has 9 = .ok (.iconst 1, 1) := dk_4 (dk_at dksX0_has_0 9 rfl rfl)
theorem dX0_has_10 : decode cX0_has 10 = .ok (.goto 4, 3) := dk_167 0 4 (dk_at dksX0_has_0 10 rfl rfl)
theorem dX0_has_13 : decode cX0_has 13 = .ok (.iconst 0, 1) := dk_3 (dk_at dksX0_has_0 13 rfl rfl)
theorem dX0_has_14 : decode cX0_has 14 = .ok (.ireturn, 1) := dk_172 (dk_at dksX0_has_0 14 rfl rfl)
abbrev cX0_writes : ByteArray := prog_1_method_24_code
def yX0_writes : MethodName := ⟨RX0, "writes", "([II)V"⟩
def dkwX0_writes_3 : List UInt8 := [16, 28, 92, 46, 4, 96, 79, 177]
abbrev dktX0_writes_3 : List UInt8 := dkwX0_writes_3 ++ []
def dkwX0_writes_2 : List UInt8 := [6, 42, 5, 46, 79, 77, 44, 3, 42, 16, 29, 7, 42, 16, 28, 46, 104, 96, 7, 184, 0, 168, 42]
abbrev dktX0_writes_2 : List UInt8 := dkwX0_writes_2 ++ dktX0_writes_3
def dkwX0_writes_1 : List UInt8 := [46, 4, 100, 79, 7, 188, 10, 89, 3, 42, 3, 46, 79, 89, 4, 42, 4, 46, 79, 89, 5, 27, 79, 89]
abbrev dktX0_writes_1 : List UInt8 := dkwX0_writes_1 ++ dktX0_writes_2
def dkwX0_writes_0 : List UInt8 := [42, 16, 28, 46, 16, 30, 160, 0, 22, 42, 16, 33, 42, 16, 29, 16, 116, 184, 0, 168, 42, 16, 28, 92]
abbrev dktX0_writes_0 : List UInt8 := dkwX0_writes_0 ++ dktX0_writes_1
theorem dksX0_writes_0 : cX0_writes.data.toList.drop 0 = dktX0_writes_0 := by decide +kernel
theorem dksX0_writes_1 : cX0_writes.data.toList.drop 24 = dktX0_writes_1 := dk_seg dksX0_writes_0 24 rfl rfl
theorem dksX0_writes_2 : cX0_writes.data.toList.drop 48 = dktX0_writes_2 := dk_seg dksX0_writes_1 24 rfl rfl
theorem dksX0_writes_3 : cX0_writes.data.toList.drop 71 = dktX0_writes_3 := dk_seg dksX0_writes_2 23 rfl rfl
theorem dX0_writes_0 : decode cX0_writes 0 = .ok (.aload_n 0, 1) := dk_42 (dk_at dksX0_writes_0 0 rfl rfl)
theorem dX0_writes_1 : decode cX0_writes 1 = .ok (.bipush 28, 2) := dk_16 28 (dk_at dksX0_writes_0 1 rfl rfl)
theorem dX0_writes_3 : decode cX0_writes 3 = .ok (.iaload, 1) := dk_46 (dk_at dksX0_writes_0 3 rfl rfl)
theorem dX0_writes_4 : decode cX0_writes 4 = .ok (.bipush 30, 2) := dk_16 30 (dk_at dksX0_writes_0 4 rfl rfl)
theorem dX0_writes_6 : decode cX0_writes 6 = .ok (.if_icmp .ne 22, 3) := dk_160 0 22 (dk_at dksX0_writes_0 6 rfl rfl)
theorem dX0_writes_9 : decode cX0_writes 9 = .ok (.aload_n 0, 1) := dk_42 (dk_at dksX0_writes_0 9 rfl rfl)
theorem dX0_writes_10 : decode cX0_writes 10 = .ok (.bipush 33, 2) := dk_16 33 (dk_at dksX0_writes_0 10 rfl rfl)
theorem dX0_writes_12 : decode cX0_writes 12 = .ok (.aload_n 0, 1) := dk_42 (dk_at dksX0_writes_0 12 rfl rfl)
theorem dX0_writes_13 : decode cX0_writes 13 = .ok (.bipush 29, 2) := dk_16 29 (dk_at dksX0_writes_0 13 rfl rfl)
theorem dX0_writes_15 : decode cX0_writes 15 = .ok (.bipush 116, 2) := dk_16 116 (dk_at dksX0_writes_0 15 rfl rfl)
theorem dX0_writes_17 : decode cX0_writes 17 = .ok (.invokestatic 168, 3) := dk_184 0 168 (dk_at dksX0_writes_0 17 rfl rfl)
theorem dX0_writes_20 : decode cX0_writes 20 = .ok (.aload_n 0, 1) := dk_42 (dk_at dksX0_writes_0 20 rfl rfl)
theorem dX0_writes_21 : decode cX0_writes 21 = .ok (.bipush 28, 2) := dk_16 28 (dk_at dksX0_writes_0 21 rfl rfl)
theorem dX0_writes_23 : decode cX0_writes 23 = .ok (.dup2, 1) := dk_92 (dk_at dksX0_writes_0 23 rfl rfl)
theorem dX0_writes_24 : decode cX0_writes 24 = .ok (.iaload, 1) := dk_46 (dk_at dksX0_writes_1 0 rfl rfl)
theorem dX0_writes_25 : decode cX0_writes 25 = .ok (.iconst 1, 1) := dk_4 (dk_at dksX0_writes_1 1 rfl rfl)
theorem dX0_writes_26 : decode cX0_writes 26 = .ok (.isub, 1) := dk_100 (dk_at dksX0_writes_1 2 rfl rfl)
theorem dX0_writes_27 : decode cX0_writes 27 = .ok (.iastore, 1) := dk_79 (dk_at dksX0_writes_1 3 rfl rfl)
theorem dX0_writes_28 : decode cX0_writes 28 = .ok (.iconst 4, 1) := dk_7 (dk_at dksX0_writes_1 4 rfl rfl)
theorem dX0_writes_29 : decode cX0_writes 29 = .ok (.newarray .int, 2) := dk_188_10 (dk_at dksX0_writes_1 5 rfl rfl)
theorem dX0_writes_31 : decode cX0_writes 31 = .ok (.dup, 1) := dk_89 (dk_at dksX0_writes_1 7 rfl rfl)
theorem dX0_writes_32 : decode cX0_writes 32 = .ok (.iconst 0, 1) := dk_3 (dk_at dksX0_writes_1 8 rfl rfl)
theorem dX0_writes_33 : decode cX0_writes 33 = .ok (.aload_n 0, 1) := dk_42 (dk_at dksX0_writes_1 9 rfl rfl)
theorem dX0_writes_34 : decode cX0_writes 34 = .ok (.iconst 0, 1) := dk_3 (dk_at dksX0_writes_1 10 rfl rfl)
theorem dX0_writes_35 : decode cX0_writes 35 = .ok (.iaload, 1) := dk_46 (dk_at dksX0_writes_1 11 rfl rfl)
theorem dX0_writes_36 : decode cX0_writes 36 = .ok (.iastore, 1) := dk_79 (dk_at dksX0_writes_1 12 rfl rfl)
theorem dX0_writes_37 : decode cX0_writes 37 = .ok (.dup, 1) := dk_89 (dk_at dksX0_writes_1 13 rfl rfl)
theorem dX0_writes_38 : decode cX0_writes 38 = .ok (.iconst 1, 1) := dk_4 (dk_at dksX0_writes_1 14 rfl rfl)
theorem dX0_writes_39 : decode cX0_writes 39 = .ok (.aload_n 0, 1) := dk_42 (dk_at dksX0_writes_1 15 rfl rfl)
theorem dX0_writes_40 : decode cX0_writes 40 = .ok (.iconst 1, 1) := dk_4 (dk_at dksX0_writes_1 16 rfl rfl)
theorem dX0_writes_41 : decode cX0_writes 41 = .ok (.iaload, 1) := dk_46 (dk_at dksX0_writes_1 17 rfl rfl)
theorem dX0_writes_42 : decode cX0_writes 42 = .ok (.iastore, 1) := dk_79 (dk_at dksX0_writes_1 18 rfl rfl)
theorem dX0_writes_43 : decode cX0_writes 43 = .ok (.dup, 1) := dk_89 (dk_at dksX0_writes_1 19 rfl rfl)
theorem dX0_writes_44 : decode cX0_writes 44 = .ok (.iconst 2, 1) := dk_5 (dk_at dksX0_writes_1 20 rfl rfl)
theorem dX0_writes_45 : decode cX0_writes 45 = .ok (.iload_n 1, 1) := dk_27 (dk_at dksX0_writes_1 21 rfl rfl)
theorem dX0_writes_46 : decode cX0_writes 46 = .ok (.iastore, 1) := dk_79 (dk_at dksX0_writes_1 22 rfl rfl)
theorem dX0_writes_47 : decode cX0_writes 47 = .ok (.dup, 1) := dk_89 (dk_at dksX0_writes_1 23 rfl rfl)
theorem dX0_writes_48 : decode cX0_writes 48 = .ok (.iconst 3, 1) := dk_6 (dk_at dksX0_writes_2 0 rfl rfl)
theorem dX0_writes_49 : decode cX0_writes 49 = .ok (.aload_n 0, 1) := dk_42 (dk_at dksX0_writes_2 1 rfl rfl)
theorem dX0_writes_50 : decode cX0_writes 50 = .ok (.iconst 2, 1) := dk_5 (dk_at dksX0_writes_2 2 rfl rfl)
theorem dX0_writes_51 : decode cX0_writes 51 = .ok (.iaload, 1) := dk_46 (dk_at dksX0_writes_2 3 rfl rfl)
theorem dX0_writes_52 : decode cX0_writes 52 = .ok (.iastore, 1) := dk_79 (dk_at dksX0_writes_2 4 rfl rfl)
theorem dX0_writes_53 : decode cX0_writes 53 = .ok (.astore_n 2, 1) := dk_77 (dk_at dksX0_writes_2 5 rfl rfl)
theorem dX0_writes_54 : decode cX0_writes 54 = .ok (.aload_n 2, 1) := dk_44 (dk_at dksX0_writes_2 6 rfl rfl)
theorem dX0_writes_55 : decode cX0_writes 55 = .ok (.iconst 0, 1) := dk_3 (dk_at dksX0_writes_2 7 rfl rfl)
theorem dX0_writes_56 : decode cX0_writes 56 = .ok (.aload_n 0, 1) := dk_42 (dk_at dksX0_writes_2 8 rfl rfl)
theorem dX0_writes_57 : decode cX0_writes 57 = .ok (.bipush 29, 2) := dk_16 29 (dk_at dksX0_writes_2 9 rfl rfl)
theorem dX0_writes_59 : decode cX0_writes 59 = .ok (.iconst 4, 1) := dk_7 (dk_at dksX0_writes_2 11 rfl rfl)
theorem dX0_writes_60 : decode cX0_writes 60 = .ok (.aload_n 0, 1) := dk_42 (dk_at dksX0_writes_2 12 rfl rfl)
theorem dX0_writes_61 : decode cX0_writes 61 = .ok (.bipush 28, 2) := dk_16 28 (dk_at dksX0_writes_2 13 rfl rfl)
theorem dX0_writes_63 : decode cX0_writes 63 = .ok (.iaload, 1) := dk_46 (dk_at dksX0_writes_2 15 rfl rfl)
theorem dX0_writes_64 : decode cX0_writes 64 = .ok (.imul, 1) := dk_104 (dk_at dksX0_writes_2 16 rfl rfl)
theorem dX0_writes_65 : decode cX0_writes 65 = .ok (.iadd, 1) := dk_96 (dk_at dksX0_writes_2 17 rfl rfl)
theorem dX0_writes_66 : decode cX0_writes 66 = .ok (.iconst 4, 1) := dk_7 (dk_at dksX0_writes_2 18 rfl rfl)
theorem dX0_writes_67 : decode cX0_writes 67 = .ok (.invokestatic 168, 3) := dk_184 0 168 (dk_at dksX0_writes_2 19 rfl rfl)
theorem dX0_writes_70 : decode cX0_writes 70 = .ok (.aload_n 0, 1) := dk_42 (dk_at dksX0_writes_2 22 rfl rfl)
theorem dX0_writes_71 : decode cX0_writes 71 = .ok (.bipush 28, 2) := dk_16 28 (dk_at dksX0_writes_3 0 rfl rfl)
theorem dX0_writes_73 : decode cX0_writes 73 = .ok (.dup2, 1) := dk_92 (dk_at dksX0_writes_3 2 rfl rfl)
theorem dX0_writes_74 : decode cX0_writes 74 = .ok (.iaload, 1) := dk_46 (dk_at dksX0_writes_3 3 rfl rfl)
theorem dX0_writes_75 : decode cX0_writes 75 = .ok (.iconst 1, 1) := dk_4 (dk_at dksX0_writes_3 4 rfl rfl)
theorem dX0_writes_76 : decode cX0_writes 76 = .ok (.iadd, 1) := dk_96 (dk_at dksX0_writes_3 5 rfl rfl)
theorem dX0_writes_77 : decode cX0_writes 77 = .ok (.iastore, 1) := dk_79 (dk_at dksX0_writes_3 6 rfl rfl)
theorem dX0_writes_78 : decode cX0_writes 78 = .ok (.return_, 1) := dk_177 (dk_at dksX0_writes_3 7 rfl rfl)
abbrev cX0_ring : ByteArray := prog_1_method_29_code
def yX0_ring : MethodName := ⟨RX0, "ring", "(I)Z"⟩
def dkwX0_ring_0 : List UInt8 := [42, 27, 182, 0, 198, 153, 0, 16, 42, 4, 27, 182, 0, 201, 153, 0, 7, 4, 167, 0, 4, 3, 172]
abbrev dktX0_ring_0 : List UInt8 := dkwX0_ring_0 ++ []
theorem dksX0_ring_0 : cX0_ring.data.toList.drop 0 = dktX0_ring_0 := by decide +kernel
theorem dX0_ring_0 : decode cX0_ring 0 = .ok (.aload_n 0, 1) := dk_42 (dk_at dksX0_ring_0 0 rfl rfl)
theorem dX0_ring_1 : decode cX0_ring 1 = .ok (.iload_n 1, 1) := dk_27 (dk_at dksX0_ring_0 1 rfl rfl)
theorem dX0_ring_2 : decode cX0_ring 2 = .ok (.invokevirtual 198, 3) := dk_182 0 198 (dk_at dksX0_ring_0 2 rfl rfl)
theorem dX0_ring_5 : decode cX0_ring 5 = .ok (.ifCond .eq 16, 3) := dk_153 0 16 (dk_at dksX0_ring_0 5 rfl rfl)
theorem dX0_ring_8 : decode cX0_ring 8 = .ok (.aload_n 0, 1) := dk_42 (dk_at dksX0_ring_0 8 rfl rfl)
theorem dX0_ring_9 : decode cX0_ring 9 = .ok (.iconst 1, 1) := dk_4 (dk_at dksX0_ring_0 9 rfl rfl)
theorem dX0_ring_10 : decode cX0_ring 10 = .ok (.iload_n 1, 1) := dk_27 (dk_at dksX0_ring_0 10 rfl rfl)
theorem dX0_ring_11 : decode cX0_ring 11 = .ok (.invokevirtual 201, 3) := dk_182 0 201 (dk_at dksX0_ring_0 11 rfl rfl)
theorem dX0_ring_14 : decode cX0_ring 14 = .ok (.ifCond .eq 7, 3) := dk_153 0 7 (dk_at dksX0_ring_0 14 rfl rfl)
theorem dX0_ring_17 : decode cX0_ring 17 = .ok (.iconst 1, 1) := dk_4 (dk_at dksX0_ring_0 17 rfl rfl)
theorem dX0_ring_18 : decode cX0_ring 18 = .ok (.goto 4, 3) := dk_167 0 4 (dk_at dksX0_ring_0 18 rfl rfl)
theorem dX0_ring_21 : decode cX0_ring 21 = .ok (.iconst 0, 1) := dk_3 (dk_at dksX0_ring_0 21 rfl rfl)
theorem dX0_ring_22 : decode cX0_ring 22 = .ok (.ireturn, 1) := dk_172 (dk_at dksX0_ring_0 22 rfl rfl)
abbrev cX0_areRings : ByteArray := prog_1_method_7_code
def yX0_areRings : MethodName := ⟨RX0, "areRings", "(I)Z"⟩
def dkwX0_areRings_0 : List UInt8 := [27, 3, 42, 182, 0, 66, 4, 100, 184, 0, 62, 172]
abbrev dktX0_areRings_0 : List UInt8 := dkwX0_areRings_0 ++ []
theorem dksX0_areRings_0 : cX0_areRings.data.toList.drop 0 = dktX0_areRings_0 := by decide +kernel
theorem dX0_areRings_0 : decode cX0_areRings 0 = .ok (.iload_n 1, 1) := dk_27 (dk_at dksX0_areRings_0 0 rfl rfl)
theorem dX0_areRings_1 : decode cX0_areRings 1 = .ok (.iconst 0, 1) := dk_3 (dk_at dksX0_areRings_0 1 rfl rfl)
theorem dX0_areRings_2 : decode cX0_areRings 2 = .ok (.aload_n 0, 1) := dk_42 (dk_at dksX0_areRings_0 2 rfl rfl)
theorem dX0_areRings_3 : decode cX0_areRings 3 = .ok (.invokevirtual 66, 3) := dk_182 0 66 (dk_at dksX0_areRings_0 3 rfl rfl)
theorem dX0_areRings_6 : decode cX0_areRings 6 = .ok (.iconst 1, 1) := dk_4 (dk_at dksX0_areRings_0 6 rfl rfl)
theorem dX0_areRings_7 : decode cX0_areRings 7 = .ok (.isub, 1) := dk_100 (dk_at dksX0_areRings_0 7 rfl rfl)
theorem dX0_areRings_8 : decode cX0_areRings 8 = .ok (.invokestatic 62, 3) := dk_184 0 62 (dk_at dksX0_areRings_0 8 rfl rfl)
theorem dX0_areRings_11 : decode cX0_areRings 11 = .ok (.ireturn, 1) := dk_172 (dk_at dksX0_areRings_0 11 rfl rfl)
abbrev cX0_sets : ByteArray := prog_1_method_6_code
def yX0_sets : MethodName := ⟨RX0, "sets", "()I"⟩
def dkwX0_sets_0 : List UInt8 := [4, 42, 180, 0, 21, 180, 0, 59, 3, 46, 120, 172]
abbrev dktX0_sets_0 : List UInt8 := dkwX0_sets_0 ++ []
theorem dksX0_sets_0 : cX0_sets.data.toList.drop 0 = dktX0_sets_0 := by decide +kernel
theorem dX0_sets_0 : decode cX0_sets 0 = .ok (.iconst 1, 1) := dk_4 (dk_at dksX0_sets_0 0 rfl rfl)
theorem dX0_sets_1 : decode cX0_sets 1 = .ok (.aload_n 0, 1) := dk_42 (dk_at dksX0_sets_0 1 rfl rfl)
theorem dX0_sets_2 : decode cX0_sets 2 = .ok (.getfield 21, 3) := dk_180 0 21 (dk_at dksX0_sets_0 2 rfl rfl)
theorem dX0_sets_5 : decode cX0_sets 5 = .ok (.getfield 59, 3) := dk_180 0 59 (dk_at dksX0_sets_0 5 rfl rfl)
theorem dX0_sets_8 : decode cX0_sets 8 = .ok (.iconst 0, 1) := dk_3 (dk_at dksX0_sets_0 8 rfl rfl)
theorem dX0_sets_9 : decode cX0_sets 9 = .ok (.iaload, 1) := dk_46 (dk_at dksX0_sets_0 9 rfl rfl)
theorem dX0_sets_10 : decode cX0_sets 10 = .ok (.ishl, 1) := dk_120 (dk_at dksX0_sets_0 10 rfl rfl)
theorem dX0_sets_11 : decode cX0_sets 11 = .ok (.ireturn, 1) := dk_172 (dk_at dksX0_sets_0 11 rfl rfl)
abbrev cX0_puts : ByteArray := prog_1_method_28_code
def yX0_puts : MethodName := ⟨RX0, "puts", "(II)Z"⟩
def dkwX0_puts_0 : List UInt8 := [42, 180, 0, 21, 182, 0, 191, 42, 180, 0, 21, 180, 0, 188, 27, 28, 79, 4, 172]
abbrev dktX0_puts_0 : List UInt8 := dkwX0_puts_0 ++ []
theorem dksX0_puts_0 : cX0_puts.data.toList.drop 0 = dktX0_puts_0 := by decide +kernel
theorem dX0_puts_0 : decode cX0_puts 0 = .ok (.aload_n 0, 1) := dk_42 (dk_at dksX0_puts_0 0 rfl rfl)
theorem dX0_puts_1 : decode cX0_puts 1 = .ok (.getfield 21, 3) := dk_180 0 21 (dk_at dksX0_puts_0 1 rfl rfl)
theorem dX0_puts_4 : decode cX0_puts 4 = .ok (.invokevirtual 191, 3) := dk_182 0 191 (dk_at dksX0_puts_0 4 rfl rfl)
theorem dX0_puts_7 : decode cX0_puts 7 = .ok (.aload_n 0, 1) := dk_42 (dk_at dksX0_puts_0 7 rfl rfl)
theorem dX0_puts_8 : decode cX0_puts 8 = .ok (.getfield 21, 3) := dk_180 0 21 (dk_at dksX0_puts_0 8 rfl rfl)
theorem dX0_puts_11 : decode cX0_puts 11 = .ok (.getfield 188, 3) := dk_180 0 188 (dk_at dksX0_puts_0 11 rfl rfl)
theorem dX0_puts_14 : decode cX0_puts 14 = .ok (.iload_n 1, 1) := dk_27 (dk_at dksX0_puts_0 14 rfl rfl)
theorem dX0_puts_15 : decode cX0_puts 15 = .ok (.iload_n 2, 1) := dk_28 (dk_at dksX0_puts_0 15 rfl rfl)
theorem dX0_puts_16 : decode cX0_puts 16 = .ok (.iastore, 1) := dk_79 (dk_at dksX0_puts_0 16 rfl rfl)
theorem dX0_puts_17 : decode cX0_puts 17 = .ok (.iconst 1, 1) := dk_4 (dk_at dksX0_puts_0 17 rfl rfl)
theorem dX0_puts_18 : decode cX0_puts 18 = .ok (.ireturn, 1) := dk_172 (dk_at dksX0_puts_0 18 rfl rfl)
abbrev cX0_due : ByteArray := prog_1_method_31_code
def yX0_due : MethodName := ⟨RX0, "due", "(II)Z"⟩
def dkwX0_due_1 : List UInt8 := [3, 172]
abbrev dktX0_due_1 : List UInt8 := dkwX0_due_1 ++ []
def dkwX0_due_0 : List UInt8 := [42, 27, 28, 182, 0, 207, 153, 0, 18, 42, 7, 27, 96, 28, 182, 0, 201, 153, 0, 7, 4, 167, 0, 4]
abbrev dktX0_due_0 : List UInt8 := dkwX0_due_0 ++ dktX0_due_1
theorem dksX0_due_0 : cX0_due.data.toList.drop 0 = dktX0_due_0 := by decide +kernel
theorem dksX0_due_1 : cX0_due.data.toList.drop 24 = dktX0_due_1 := dk_seg dksX0_due_0 24 rfl rfl
theorem dX0_due_0 : decode cX0_due 0 = .ok (.aload_n 0, 1) := dk_42 (dk_at dksX0_due_0 0 rfl rfl)
theorem dX0_due_1 : decode cX0_due 1 = .ok (.iload_n 1, 1) := dk_27 (dk_at dksX0_due_0 1 rfl rfl)
theorem dX0_due_2 : decode cX0_due 2 = .ok (.iload_n 2, 1) := dk_28 (dk_at dksX0_due_0 2 rfl rfl)
theorem dX0_due_3 : decode cX0_due 3 = .ok (.invokevirtual 207, 3) := dk_182 0 207 (dk_at dksX0_due_0 3 rfl rfl)
theorem dX0_due_6 : decode cX0_due 6 = .ok (.ifCond .eq 18, 3) := dk_153 0 18 (dk_at dksX0_due_0 6 rfl rfl)
theorem dX0_due_9 : decode cX0_due 9 = .ok (.aload_n 0, 1) := dk_42 (dk_at dksX0_due_0 9 rfl rfl)
theorem dX0_due_10 : decode cX0_due 10 = .ok (.iconst 4, 1) := dk_7 (dk_at dksX0_due_0 10 rfl rfl)
theorem dX0_due_11 : decode cX0_due 11 = .ok (.iload_n 1, 1) := dk_27 (dk_at dksX0_due_0 11 rfl rfl)
theorem dX0_due_12 : decode cX0_due 12 = .ok (.iadd, 1) := dk_96 (dk_at dksX0_due_0 12 rfl rfl)
theorem dX0_due_13 : decode cX0_due 13 = .ok (.iload_n 2, 1) := dk_28 (dk_at dksX0_due_0 13 rfl rfl)
theorem dX0_due_14 : decode cX0_due 14 = .ok (.invokevirtual 201, 3) := dk_182 0 201 (dk_at dksX0_due_0 14 rfl rfl)
theorem dX0_due_17 : decode cX0_due 17 = .ok (.ifCond .eq 7, 3) := dk_153 0 7 (dk_at dksX0_due_0 17 rfl rfl)
theorem dX0_due_20 : decode cX0_due 20 = .ok (.iconst 1, 1) := dk_4 (dk_at dksX0_due_0 20 rfl rfl)
theorem dX0_due_21 : decode cX0_due 21 = .ok (.goto 4, 3) := dk_167 0 4 (dk_at dksX0_due_0 21 rfl rfl)
theorem dX0_due_24 : decode cX0_due 24 = .ok (.iconst 0, 1) := dk_3 (dk_at dksX0_due_1 0 rfl rfl)
theorem dX0_due_25 : decode cX0_due 25 = .ok (.ireturn, 1) := dk_172 (dk_at dksX0_due_1 1 rfl rfl)
abbrev cX0_canPutOff : ByteArray := prog_1_method_30_code
def yX0_canPutOff : MethodName := ⟨RX0, "canPutOff", "(II)Z"⟩
def dkwX0_canPutOff_1 : List UInt8 := [180, 0, 188, 7, 27, 96, 46, 28, 159, 0, 7, 4, 167, 0, 4, 3, 172]
abbrev dktX0_canPutOff_1 : List UInt8 := dkwX0_canPutOff_1 ++ []
def dkwX0_canPutOff_0 : List UInt8 := [42, 27, 182, 0, 204, 153, 0, 32, 28, 3, 16, 99, 184, 0, 62, 153, 0, 22, 42, 180, 0, 21]
abbrev dktX0_canPutOff_0 : List UInt8 := dkwX0_canPutOff_0 ++ dktX0_canPutOff_1
theorem dksX0_canPutOff_0 : cX0_canPutOff.data.toList.drop 0 = dktX0_canPutOff_0 := by decide +kernel
theorem dksX0_canPutOff_1 : cX0_canPutOff.data.toList.drop 22 = dktX0_canPutOff_1 := dk_seg dksX0_canPutOff_0 22 rfl rfl
theorem dX0_canPutOff_0 : decode cX0_canPutOff 0 = .ok (.aload_n 0, 1) := dk_42 (dk_at dksX0_canPutOff_0 0 rfl rfl)
theorem dX0_canPutOff_1 : decode cX0_canPutOff 1 = .ok (.iload_n 1, 1) := dk_27 (dk_at dksX0_canPutOff_0 1 rfl rfl)
theorem dX0_canPutOff_2 : decode cX0_canPutOff 2 = .ok (.invokevirtual 204, 3) := dk_182 0 204 (dk_at dksX0_canPutOff_0 2 rfl rfl)
theorem dX0_canPutOff_5 : decode cX0_canPutOff 5 = .ok (.ifCond .eq 32, 3) := dk_153 0 32 (dk_at dksX0_canPutOff_0 5 rfl rfl)
theorem dX0_canPutOff_8 : decode cX0_canPutOff 8 = .ok (.iload_n 2, 1) := dk_28 (dk_at dksX0_canPutOff_0 8 rfl rfl)
theorem dX0_canPutOff_9 : decode cX0_canPutOff 9 = .ok (.iconst 0, 1) := dk_3 (dk_at dksX0_canPutOff_0 9 rfl rfl)
theorem dX0_canPutOff_10 : decode cX0_canPutOff 10 = .ok (.bipush 99, 2) := dk_16 99 (dk_at dksX0_canPutOff_0 10 rfl rfl)
theorem dX0_canPutOff_12 : decode cX0_canPutOff 12 = .ok (.invokestatic 62, 3) := dk_184 0 62 (dk_at dksX0_canPutOff_0 12 rfl rfl)
theorem dX0_canPutOff_15 : decode cX0_canPutOff 15 = .ok (.ifCond .eq 22, 3) := dk_153 0 22 (dk_at dksX0_canPutOff_0 15 rfl rfl)
theorem dX0_canPutOff_18 : decode cX0_canPutOff 18 = .ok (.aload_n 0, 1) := dk_42 (dk_at dksX0_canPutOff_0 18 rfl rfl)
theorem dX0_canPutOff_19 : decode cX0_canPutOff 19 = .ok (.getfield 21, 3) := dk_180 0 21 (dk_at dksX0_canPutOff_0 19 rfl rfl)
theorem dX0_canPutOff_22 : decode cX0_canPutOff 22 = .ok (.getfield 188, 3) := dk_180 0 188 (dk_at dksX0_canPutOff_1 0 rfl rfl)
theorem dX0_canPutOff_25 : decode cX0_canPutOff 25 = .ok (.iconst 4, 1) := dk_7 (dk_at dksX0_canPutOff_1 3 rfl rfl)
theorem dX0_canPutOff_26 : decode cX0_canPutOff 26 = .ok (.iload_n 1, 1) := dk_27 (dk_at dksX0_canPutOff_1 4 rfl rfl)
theorem dX0_canPutOff_27 : decode cX0_canPutOff 27 = .ok (.iadd, 1) := dk_96 (dk_at dksX0_canPutOff_1 5 rfl rfl)
theorem dX0_canPutOff_28 : decode cX0_canPutOff 28 = .ok (.iaload, 1) := dk_46 (dk_at dksX0_canPutOff_1 6 rfl rfl)
theorem dX0_canPutOff_29 : decode cX0_canPutOff 29 = .ok (.iload_n 2, 1) := dk_28 (dk_at dksX0_canPutOff_1 7 rfl rfl)
theorem dX0_canPutOff_30 : decode cX0_canPutOff 30 = .ok (.if_icmp .eq 7, 3) := dk_159 0 7 (dk_at dksX0_canPutOff_1 8 rfl rfl)
theorem dX0_canPutOff_33 : decode cX0_canPutOff 33 = .ok (.iconst 1, 1) := dk_4 (dk_at dksX0_canPutOff_1 11 rfl rfl)
theorem dX0_canPutOff_34 : decode cX0_canPutOff 34 = .ok (.goto 4, 3) := dk_167 0 4 (dk_at dksX0_canPutOff_1 12 rfl rfl)
theorem dX0_canPutOff_37 : decode cX0_canPutOff 37 = .ok (.iconst 0, 1) := dk_3 (dk_at dksX0_canPutOff_1 15 rfl rfl)
theorem dX0_canPutOff_38 : decode cX0_canPutOff 38 = .ok (.ireturn, 1) := dk_172 (dk_at dksX0_canPutOff_1 16 rfl rfl)
abbrev cX0_isPerson : ByteArray := prog_1_method_5_code
def yX0_isPerson : MethodName := ⟨RX0, "isPerson", "(I)Z"⟩
def dkwX0_isPerson_0 : List UInt8 := [27, 3, 42, 180, 0, 21, 180, 0, 59, 3, 46, 4, 100, 184, 0, 62, 172]
abbrev dktX0_isPerson_0 : List UInt8 := dkwX0_isPerson_0 ++ []
theorem dksX0_isPerson_0 : cX0_isPerson.data.toList.drop 0 = dktX0_isPerson_0 := by decide +kernel
theorem dX0_isPerson_0 : decode cX0_isPerson 0 = .ok (.iload_n 1, 1) := dk_27 (dk_at dksX0_isPerson_0 0 rfl rfl)
theorem dX0_isPerson_1 : decode cX0_isPerson 1 = .ok (.iconst 0, 1) := dk_3 (dk_at dksX0_isPerson_0 1 rfl rfl)
theorem dX0_isPerson_2 : decode cX0_isPerson 2 = .ok (.aload_n 0, 1) := dk_42 (dk_at dksX0_isPerson_0 2 rfl rfl)
theorem dX0_isPerson_3 : decode cX0_isPerson 3 = .ok (.getfield 21, 3) := dk_180 0 21 (dk_at dksX0_isPerson_0 3 rfl rfl)
theorem dX0_isPerson_6 : decode cX0_isPerson 6 = .ok (.getfield 59, 3) := dk_180 0 59 (dk_at dksX0_isPerson_0 6 rfl rfl)
theorem dX0_isPerson_9 : decode cX0_isPerson 9 = .ok (.iconst 0, 1) := dk_3 (dk_at dksX0_isPerson_0 9 rfl rfl)
theorem dX0_isPerson_10 : decode cX0_isPerson 10 = .ok (.iaload, 1) := dk_46 (dk_at dksX0_isPerson_0 10 rfl rfl)
theorem dX0_isPerson_11 : decode cX0_isPerson 11 = .ok (.iconst 1, 1) := dk_4 (dk_at dksX0_isPerson_0 11 rfl rfl)
theorem dX0_isPerson_12 : decode cX0_isPerson 12 = .ok (.isub, 1) := dk_100 (dk_at dksX0_isPerson_0 12 rfl rfl)
theorem dX0_isPerson_13 : decode cX0_isPerson 13 = .ok (.invokestatic 62, 3) := dk_184 0 62 (dk_at dksX0_isPerson_0 13 rfl rfl)
theorem dX0_isPerson_16 : decode cX0_isPerson 16 = .ok (.ireturn, 1) := dk_172 (dk_at dksX0_isPerson_0 16 rfl rfl)
abbrev cX0_bed : ByteArray := prog_1_method_33_code
def yX0_bed : MethodName := ⟨RX0, "bed", "(I)Z"⟩
def dkwX0_bed_1 : List UInt8 := [167, 0, 4, 3, 172]
abbrev dktX0_bed_1 : List UInt8 := dkwX0_bed_1 ++ []
def dkwX0_bed_0 : List UInt8 := [42, 27, 3, 182, 0, 210, 153, 0, 19, 42, 16, 12, 27, 96, 4, 182, 0, 201, 153, 0, 7, 4]
abbrev dktX0_bed_0 : List UInt8 := dkwX0_bed_0 ++ dktX0_bed_1
theorem dksX0_bed_0 : cX0_bed.data.toList.drop 0 = dktX0_bed_0 := by decide +kernel
theorem dksX0_bed_1 : cX0_bed.data.toList.drop 22 = dktX0_bed_1 := dk_seg dksX0_bed_0 22 rfl rfl
theorem dX0_bed_0 : decode cX0_bed 0 = .ok (.aload_n 0, 1) := dk_42 (dk_at dksX0_bed_0 0 rfl rfl)
theorem dX0_bed_1 : decode cX0_bed 1 = .ok (.iload_n 1, 1) := dk_27 (dk_at dksX0_bed_0 1 rfl rfl)
theorem dX0_bed_2 : decode cX0_bed 2 = .ok (.iconst 0, 1) := dk_3 (dk_at dksX0_bed_0 2 rfl rfl)
theorem dX0_bed_3 : decode cX0_bed 3 = .ok (.invokevirtual 210, 3) := dk_182 0 210 (dk_at dksX0_bed_0 3 rfl rfl)
theorem dX0_bed_6 : decode cX0_bed 6 = .ok (.ifCond .eq 19, 3) := dk_153 0 19 (dk_at dksX0_bed_0 6 rfl rfl)
theorem dX0_bed_9 : decode cX0_bed 9 = .ok (.aload_n 0, 1) := dk_42 (dk_at dksX0_bed_0 9 rfl rfl)
theorem dX0_bed_10 : decode cX0_bed 10 = .ok (.bipush 12, 2) := dk_16 12 (dk_at dksX0_bed_0 10 rfl rfl)
theorem dX0_bed_12 : decode cX0_bed 12 = .ok (.iload_n 1, 1) := dk_27 (dk_at dksX0_bed_0 12 rfl rfl)
theorem dX0_bed_13 : decode cX0_bed 13 = .ok (.iadd, 1) := dk_96 (dk_at dksX0_bed_0 13 rfl rfl)
theorem dX0_bed_14 : decode cX0_bed 14 = .ok (.iconst 1, 1) := dk_4 (dk_at dksX0_bed_0 14 rfl rfl)
theorem dX0_bed_15 : decode cX0_bed 15 = .ok (.invokevirtual 201, 3) := dk_182 0 201 (dk_at dksX0_bed_0 15 rfl rfl)
theorem dX0_bed_18 : decode cX0_bed 18 = .ok (.ifCond .eq 7, 3) := dk_153 0 7 (dk_at dksX0_bed_0 18 rfl rfl)
theorem dX0_bed_21 : decode cX0_bed 21 = .ok (.iconst 1, 1) := dk_4 (dk_at dksX0_bed_0 21 rfl rfl)
theorem dX0_bed_22 : decode cX0_bed 22 = .ok (.goto 4, 3) := dk_167 0 4 (dk_at dksX0_bed_1 0 rfl rfl)
theorem dX0_bed_25 : decode cX0_bed 25 = .ok (.iconst 0, 1) := dk_3 (dk_at dksX0_bed_1 3 rfl rfl)
theorem dX0_bed_26 : decode cX0_bed 26 = .ok (.ireturn, 1) := dk_172 (dk_at dksX0_bed_1 4 rfl rfl)
abbrev cX0_isIn : ByteArray := prog_1_method_32_code
def yX0_isIn : MethodName := ⟨RX0, "isIn", "(II)Z"⟩
def dkwX0_isIn_1 : List UInt8 := [4, 167, 0, 4, 3, 172]
abbrev dktX0_isIn_1 : List UInt8 := dkwX0_isIn_1 ++ []
def dkwX0_isIn_0 : List UInt8 := [42, 27, 182, 0, 204, 153, 0, 23, 42, 180, 0, 21, 180, 0, 188, 16, 12, 27, 96, 46, 28, 160, 0, 7]
abbrev dktX0_isIn_0 : List UInt8 := dkwX0_isIn_0 ++ dktX0_isIn_1
theorem dksX0_isIn_0 : cX0_isIn.data.toList.drop 0 = dktX0_isIn_0 := by decide +kernel
theorem dksX0_isIn_1 : cX0_isIn.data.toList.drop 24 = dktX0_isIn_1 := dk_seg dksX0_isIn_0 24 rfl rfl
theorem dX0_isIn_0 : decode cX0_isIn 0 = .ok (.aload_n 0, 1) := dk_42 (dk_at dksX0_isIn_0 0 rfl rfl)
theorem dX0_isIn_1 : decode cX0_isIn 1 = .ok (.iload_n 1, 1) := dk_27 (dk_at dksX0_isIn_0 1 rfl rfl)
theorem dX0_isIn_2 : decode cX0_isIn 2 = .ok (.invokevirtual 204, 3) := dk_182 0 204 (dk_at dksX0_isIn_0 2 rfl rfl)
theorem dX0_isIn_5 : decode cX0_isIn 5 = .ok (.ifCond .eq 23, 3) := dk_153 0 23 (dk_at dksX0_isIn_0 5 rfl rfl)
theorem dX0_isIn_8 : decode cX0_isIn 8 = .ok (.aload_n 0, 1) := dk_42 (dk_at dksX0_isIn_0 8 rfl rfl)
theorem dX0_isIn_9 : decode cX0_isIn 9 = .ok (.getfield 21, 3) := dk_180 0 21 (dk_at dksX0_isIn_0 9 rfl rfl)
theorem dX0_isIn_12 : decode cX0_isIn 12 = .ok (.getfield 188, 3) := dk_180 0 188 (dk_at dksX0_isIn_0 12 rfl rfl)
theorem dX0_isIn_15 : decode cX0_isIn 15 = .ok (.bipush 12, 2) := dk_16 12 (dk_at dksX0_isIn_0 15 rfl rfl)
theorem dX0_isIn_17 : decode cX0_isIn 17 = .ok (.iload_n 1, 1) := dk_27 (dk_at dksX0_isIn_0 17 rfl rfl)
theorem dX0_isIn_18 : decode cX0_isIn 18 = .ok (.iadd, 1) := dk_96 (dk_at dksX0_isIn_0 18 rfl rfl)
theorem dX0_isIn_19 : decode cX0_isIn 19 = .ok (.iaload, 1) := dk_46 (dk_at dksX0_isIn_0 19 rfl rfl)
theorem dX0_isIn_20 : decode cX0_isIn 20 = .ok (.iload_n 2, 1) := dk_28 (dk_at dksX0_isIn_0 20 rfl rfl)
theorem dX0_isIn_21 : decode cX0_isIn 21 = .ok (.if_icmp .ne 7, 3) := dk_160 0 7 (dk_at dksX0_isIn_0 21 rfl rfl)
theorem dX0_isIn_24 : decode cX0_isIn 24 = .ok (.iconst 1, 1) := dk_4 (dk_at dksX0_isIn_1 0 rfl rfl)
theorem dX0_isIn_25 : decode cX0_isIn 25 = .ok (.goto 4, 3) := dk_167 0 4 (dk_at dksX0_isIn_1 1 rfl rfl)
theorem dX0_isIn_28 : decode cX0_isIn 28 = .ok (.iconst 0, 1) := dk_3 (dk_at dksX0_isIn_1 4 rfl rfl)
theorem dX0_isIn_29 : decode cX0_isIn 29 = .ok (.ireturn, 1) := dk_172 (dk_at dksX0_isIn_1 5 rfl rfl)
abbrev cX0_up : ByteArray := prog_1_method_34_code
def yX0_up : MethodName := ⟨RX0, "up", "(I)Z"⟩
def dkwX0_up_1 : List UInt8 := [167, 0, 4, 3, 172]
abbrev dktX0_up_1 : List UInt8 := dkwX0_up_1 ++ []
def dkwX0_up_0 : List UInt8 := [42, 27, 4, 182, 0, 210, 153, 0, 19, 42, 16, 12, 27, 96, 3, 182, 0, 201, 153, 0, 7, 4]
abbrev dktX0_up_0 : List UInt8 := dkwX0_up_0 ++ dktX0_up_1
theorem dksX0_up_0 : cX0_up.data.toList.drop 0 = dktX0_up_0 := by decide +kernel
theorem dksX0_up_1 : cX0_up.data.toList.drop 22 = dktX0_up_1 := dk_seg dksX0_up_0 22 rfl rfl
theorem dX0_up_0 : decode cX0_up 0 = .ok (.aload_n 0, 1) := dk_42 (dk_at dksX0_up_0 0 rfl rfl)
theorem dX0_up_1 : decode cX0_up 1 = .ok (.iload_n 1, 1) := dk_27 (dk_at dksX0_up_0 1 rfl rfl)
theorem dX0_up_2 : decode cX0_up 2 = .ok (.iconst 1, 1) := dk_4 (dk_at dksX0_up_0 2 rfl rfl)
theorem dX0_up_3 : decode cX0_up 3 = .ok (.invokevirtual 210, 3) := dk_182 0 210 (dk_at dksX0_up_0 3 rfl rfl)
theorem dX0_up_6 : decode cX0_up 6 = .ok (.ifCond .eq 19, 3) := dk_153 0 19 (dk_at dksX0_up_0 6 rfl rfl)
theorem dX0_up_9 : decode cX0_up 9 = .ok (.aload_n 0, 1) := dk_42 (dk_at dksX0_up_0 9 rfl rfl)
theorem dX0_up_10 : decode cX0_up 10 = .ok (.bipush 12, 2) := dk_16 12 (dk_at dksX0_up_0 10 rfl rfl)
theorem dX0_up_12 : decode cX0_up 12 = .ok (.iload_n 1, 1) := dk_27 (dk_at dksX0_up_0 12 rfl rfl)
theorem dX0_up_13 : decode cX0_up 13 = .ok (.iadd, 1) := dk_96 (dk_at dksX0_up_0 13 rfl rfl)
theorem dX0_up_14 : decode cX0_up 14 = .ok (.iconst 0, 1) := dk_3 (dk_at dksX0_up_0 14 rfl rfl)
theorem dX0_up_15 : decode cX0_up 15 = .ok (.invokevirtual 201, 3) := dk_182 0 201 (dk_at dksX0_up_0 15 rfl rfl)
theorem dX0_up_18 : decode cX0_up 18 = .ok (.ifCond .eq 7, 3) := dk_153 0 7 (dk_at dksX0_up_0 18 rfl rfl)
theorem dX0_up_21 : decode cX0_up 21 = .ok (.iconst 1, 1) := dk_4 (dk_at dksX0_up_0 21 rfl rfl)
theorem dX0_up_22 : decode cX0_up 22 = .ok (.goto 4, 3) := dk_167 0 4 (dk_at dksX0_up_1 0 rfl rfl)
theorem dX0_up_25 : decode cX0_up 25 = .ok (.iconst 0, 1) := dk_3 (dk_at dksX0_up_1 3 rfl rfl)
theorem dX0_up_26 : decode cX0_up 26 = .ok (.ireturn, 1) := dk_172 (dk_at dksX0_up_1 4 rfl rfl)
abbrev cX0_played : ByteArray := prog_1_method_37_code
def yX0_played : MethodName := ⟨RX0, "played", "(I)I"⟩
def dkwX0_played_2 : List UInt8 := [154, 0, 15, 44, 29, 182, 1, 5, 192, 0, 217, 182, 1, 13, 172, 132, 3, 1, 167, 255, 218, 2, 172]
abbrev dktX0_played_2 : List UInt8 := dkwX0_played_2 ++ []
def dkwX0_played_1 : List UInt8 := [3, 62, 29, 44, 182, 1, 0, 162, 0, 36, 42, 44, 29, 182, 1, 5, 192, 0, 217, 182, 1, 9]
abbrev dktX0_played_1 : List UInt8 := dkwX0_played_1 ++ dktX0_played_2
def dkwX0_played_0 : List UInt8 := [42, 27, 182, 0, 112, 154, 0, 6, 16, 254, 172, 42, 180, 0, 21, 180, 0, 93, 27, 50, 180, 0, 252, 77]
abbrev dktX0_played_0 : List UInt8 := dkwX0_played_0 ++ dktX0_played_1
theorem dksX0_played_0 : cX0_played.data.toList.drop 0 = dktX0_played_0 := by decide +kernel
theorem dksX0_played_1 : cX0_played.data.toList.drop 24 = dktX0_played_1 := dk_seg dksX0_played_0 24 rfl rfl
theorem dksX0_played_2 : cX0_played.data.toList.drop 46 = dktX0_played_2 := dk_seg dksX0_played_1 22 rfl rfl
theorem dX0_played_0 : decode cX0_played 0 = .ok (.aload_n 0, 1) := dk_42 (dk_at dksX0_played_0 0 rfl rfl)
theorem dX0_played_1 : decode cX0_played 1 = .ok (.iload_n 1, 1) := dk_27 (dk_at dksX0_played_0 1 rfl rfl)
theorem dX0_played_2 : decode cX0_played 2 = .ok (.invokevirtual 112, 3) := dk_182 0 112 (dk_at dksX0_played_0 2 rfl rfl)
theorem dX0_played_5 : decode cX0_played 5 = .ok (.ifCond .ne 6, 3) := dk_154 0 6 (dk_at dksX0_played_0 5 rfl rfl)
theorem dX0_played_8 : decode cX0_played 8 = .ok (.bipush (-2), 2) := dk_16 254 (dk_at dksX0_played_0 8 rfl rfl)
theorem dX0_played_10 : decode cX0_played 10 = .ok (.ireturn, 1) := dk_172 (dk_at dksX0_played_0 10 rfl rfl)
theorem dX0_played_11 : decode cX0_played 11 = .ok (.aload_n 0, 1) := dk_42 (dk_at dksX0_played_0 11 rfl rfl)
theorem dX0_played_12 : decode cX0_played 12 = .ok (.getfield 21, 3) := dk_180 0 21 (dk_at dksX0_played_0 12 rfl rfl)
theorem dX0_played_15 : decode cX0_played 15 = .ok (.getfield 93, 3) := dk_180 0 93 (dk_at dksX0_played_0 15 rfl rfl)
theorem dX0_played_18 : decode cX0_played 18 = .ok (.iload_n 1, 1) := dk_27 (dk_at dksX0_played_0 18 rfl rfl)
theorem dX0_played_19 : decode cX0_played 19 = .ok (.aaload, 1) := dk_50 (dk_at dksX0_played_0 19 rfl rfl)
theorem dX0_played_20 : decode cX0_played 20 = .ok (.getfield 252, 3) := dk_180 0 252 (dk_at dksX0_played_0 20 rfl rfl)
theorem dX0_played_23 : decode cX0_played 23 = .ok (.astore_n 2, 1) := dk_77 (dk_at dksX0_played_0 23 rfl rfl)
theorem dX0_played_24 : decode cX0_played 24 = .ok (.iconst 0, 1) := dk_3 (dk_at dksX0_played_1 0 rfl rfl)
theorem dX0_played_25 : decode cX0_played 25 = .ok (.istore_n 3, 1) := dk_62 (dk_at dksX0_played_1 1 rfl rfl)
theorem dX0_played_26 : decode cX0_played 26 = .ok (.iload_n 3, 1) := dk_29 (dk_at dksX0_played_1 2 rfl rfl)
theorem dX0_played_27 : decode cX0_played 27 = .ok (.aload_n 2, 1) := dk_44 (dk_at dksX0_played_1 3 rfl rfl)
theorem dX0_played_28 : decode cX0_played 28 = .ok (.invokevirtual 256, 3) := dk_182 1 0 (dk_at dksX0_played_1 4 rfl rfl)
theorem dX0_played_31 : decode cX0_played 31 = .ok (.if_icmp .ge 36, 3) := dk_162 0 36 (dk_at dksX0_played_1 7 rfl rfl)
theorem dX0_played_34 : decode cX0_played 34 = .ok (.aload_n 0, 1) := dk_42 (dk_at dksX0_played_1 10 rfl rfl)
theorem dX0_played_35 : decode cX0_played 35 = .ok (.aload_n 2, 1) := dk_44 (dk_at dksX0_played_1 11 rfl rfl)
theorem dX0_played_36 : decode cX0_played 36 = .ok (.iload_n 3, 1) := dk_29 (dk_at dksX0_played_1 12 rfl rfl)
theorem dX0_played_37 : decode cX0_played 37 = .ok (.invokevirtual 261, 3) := dk_182 1 5 (dk_at dksX0_played_1 13 rfl rfl)
theorem dX0_played_40 : decode cX0_played 40 = .ok (.checkcast 217, 3) := dk_192 0 217 (dk_at dksX0_played_1 16 rfl rfl)
theorem dX0_played_43 : decode cX0_played 43 = .ok (.invokevirtual 265, 3) := dk_182 1 9 (dk_at dksX0_played_1 19 rfl rfl)
theorem dX0_played_46 : decode cX0_played 46 = .ok (.ifCond .ne 15, 3) := dk_154 0 15 (dk_at dksX0_played_2 0 rfl rfl)
theorem dX0_played_49 : decode cX0_played 49 = .ok (.aload_n 2, 1) := dk_44 (dk_at dksX0_played_2 3 rfl rfl)
theorem dX0_played_50 : decode cX0_played 50 = .ok (.iload_n 3, 1) := dk_29 (dk_at dksX0_played_2 4 rfl rfl)
theorem dX0_played_51 : decode cX0_played 51 = .ok (.invokevirtual 261, 3) := dk_182 1 5 (dk_at dksX0_played_2 5 rfl rfl)
theorem dX0_played_54 : decode cX0_played 54 = .ok (.checkcast 217, 3) := dk_192 0 217 (dk_at dksX0_played_2 8 rfl rfl)
theorem dX0_played_57 : decode cX0_played 57 = .ok (.invokevirtual 269, 3) := dk_182 1 13 (dk_at dksX0_played_2 11 rfl rfl)
theorem dX0_played_60 : decode cX0_played 60 = .ok (.ireturn, 1) := dk_172 (dk_at dksX0_played_2 14 rfl rfl)
theorem dX0_played_61 : decode cX0_played 61 = .ok (.iinc 3 1, 3) := dk_132 3 1 (dk_at dksX0_played_2 15 rfl rfl)
theorem dX0_played_64 : decode cX0_played 64 = .ok (.goto (-38), 3) := dk_167 255 218 (dk_at dksX0_played_2 18 rfl rfl)
theorem dX0_played_67 : decode cX0_played 67 = .ok (.iconst (-1), 1) := dk_2 (dk_at dksX0_played_2 21 rfl rfl)
theorem dX0_played_68 : decode cX0_played 68 = .ok (.ireturn, 1) := dk_172 (dk_at dksX0_played_2 22 rfl rfl)
abbrev cX0_does : ByteArray := prog_1_method_36_code
def yX0_does : MethodName := ⟨RX0, "does", "(LTollsForLate$Doing;)Z"⟩
def dkwX0_does_5 : List UInt8 := [182, 0, 221, 182, 0, 249, 172]
abbrev dktX0_does_5 : List UInt8 := dkwX0_does_5 ++ []
def dkwX0_does_4 : List UInt8 := [182, 0, 240, 172, 42, 43, 182, 0, 221, 182, 0, 243, 172, 42, 43, 182, 0, 221, 182, 0, 246, 172, 42, 43]
abbrev dktX0_does_4 : List UInt8 := dkwX0_does_4 ++ dktX0_does_5
def dkwX0_does_3 : List UInt8 := [4, 167, 0, 4, 3, 172, 42, 43, 182, 0, 221, 182, 0, 237, 172, 42, 43, 182, 0, 224, 43, 182, 0, 221]
abbrev dktX0_does_3 : List UInt8 := dkwX0_does_3 ++ dktX0_does_4
def dkwX0_does_2 : List UInt8 := [42, 43, 182, 0, 221, 43, 182, 0, 224, 43, 182, 0, 227, 43, 182, 0, 230, 182, 0, 233, 2, 159, 0, 7]
abbrev dktX0_does_2 : List UInt8 := dkwX0_does_2 ++ dktX0_does_3
def dkwX0_does_1 : List UInt8 := [170, 0, 0, 0, 0, 0, 0, 106, 0, 0, 0, 202, 0, 0, 0, 206, 0, 0, 0, 36, 0, 0, 0, 66, 0, 0, 0, 75, 0, 0, 0, 88, 0, 0, 0, 97]
abbrev dktX0_does_1 : List UInt8 := dkwX0_does_1 ++ dktX0_does_2
def dkwX0_does_0 : List UInt8 := [43, 182, 0, 216]
abbrev dktX0_does_0 : List UInt8 := dkwX0_does_0 ++ dktX0_does_1
theorem dksX0_does_0 : cX0_does.data.toList.drop 0 = dktX0_does_0 := by decide +kernel
theorem dksX0_does_1 : cX0_does.data.toList.drop 4 = dktX0_does_1 := dk_seg dksX0_does_0 4 rfl rfl
theorem dksX0_does_2 : cX0_does.data.toList.drop 40 = dktX0_does_2 := dk_seg dksX0_does_1 36 rfl rfl
theorem dksX0_does_3 : cX0_does.data.toList.drop 64 = dktX0_does_3 := dk_seg dksX0_does_2 24 rfl rfl
theorem dksX0_does_4 : cX0_does.data.toList.drop 88 = dktX0_does_4 := dk_seg dksX0_does_3 24 rfl rfl
theorem dksX0_does_5 : cX0_does.data.toList.drop 112 = dktX0_does_5 := dk_seg dksX0_does_4 24 rfl rfl
theorem dX0_does_0 : decode cX0_does 0 = .ok (.aload_n 1, 1) := dk_43 (dk_at dksX0_does_0 0 rfl rfl)
theorem dX0_does_1 : decode cX0_does 1 = .ok (.invokevirtual 216, 3) := dk_182 0 216 (dk_at dksX0_does_0 1 rfl rfl)
theorem dX0_does_4 : decode cX0_does 4 = .ok (.tableswitch 106 202 206 #[36, 66, 75, 88, 97], 36) := by decide +kernel
theorem dX0_does_40 : decode cX0_does 40 = .ok (.aload_n 0, 1) := dk_42 (dk_at dksX0_does_2 0 rfl rfl)
theorem dX0_does_41 : decode cX0_does 41 = .ok (.aload_n 1, 1) := dk_43 (dk_at dksX0_does_2 1 rfl rfl)
theorem dX0_does_42 : decode cX0_does 42 = .ok (.invokevirtual 221, 3) := dk_182 0 221 (dk_at dksX0_does_2 2 rfl rfl)
theorem dX0_does_45 : decode cX0_does 45 = .ok (.aload_n 1, 1) := dk_43 (dk_at dksX0_does_2 5 rfl rfl)
theorem dX0_does_46 : decode cX0_does 46 = .ok (.invokevirtual 224, 3) := dk_182 0 224 (dk_at dksX0_does_2 6 rfl rfl)
theorem dX0_does_49 : decode cX0_does 49 = .ok (.aload_n 1, 1) := dk_43 (dk_at dksX0_does_2 9 rfl rfl)
theorem dX0_does_50 : decode cX0_does 50 = .ok (.invokevirtual 227, 3) := dk_182 0 227 (dk_at dksX0_does_2 10 rfl rfl)
theorem dX0_does_53 : decode cX0_does 53 = .ok (.aload_n 1, 1) := dk_43 (dk_at dksX0_does_2 13 rfl rfl)
theorem dX0_does_54 : decode cX0_does 54 = .ok (.invokevirtual 230, 3) := dk_182 0 230 (dk_at dksX0_does_2 14 rfl rfl)
theorem dX0_does_57 : decode cX0_does 57 = .ok (.invokevirtual 233, 3) := dk_182 0 233 (dk_at dksX0_does_2 17 rfl rfl)
theorem dX0_does_60 : decode cX0_does 60 = .ok (.iconst (-1), 1) := dk_2 (dk_at dksX0_does_2 20 rfl rfl)
theorem dX0_does_61 : decode cX0_does 61 = .ok (.if_icmp .eq 7, 3) := dk_159 0 7 (dk_at dksX0_does_2 21 rfl rfl)
theorem dX0_does_64 : decode cX0_does 64 = .ok (.iconst 1, 1) := dk_4 (dk_at dksX0_does_3 0 rfl rfl)
theorem dX0_does_65 : decode cX0_does 65 = .ok (.goto 4, 3) := dk_167 0 4 (dk_at dksX0_does_3 1 rfl rfl)
theorem dX0_does_68 : decode cX0_does 68 = .ok (.iconst 0, 1) := dk_3 (dk_at dksX0_does_3 4 rfl rfl)
theorem dX0_does_69 : decode cX0_does 69 = .ok (.ireturn, 1) := dk_172 (dk_at dksX0_does_3 5 rfl rfl)
theorem dX0_does_70 : decode cX0_does 70 = .ok (.aload_n 0, 1) := dk_42 (dk_at dksX0_does_3 6 rfl rfl)
theorem dX0_does_71 : decode cX0_does 71 = .ok (.aload_n 1, 1) := dk_43 (dk_at dksX0_does_3 7 rfl rfl)
theorem dX0_does_72 : decode cX0_does 72 = .ok (.invokevirtual 221, 3) := dk_182 0 221 (dk_at dksX0_does_3 8 rfl rfl)
theorem dX0_does_75 : decode cX0_does 75 = .ok (.invokevirtual 237, 3) := dk_182 0 237 (dk_at dksX0_does_3 11 rfl rfl)
theorem dX0_does_78 : decode cX0_does 78 = .ok (.ireturn, 1) := dk_172 (dk_at dksX0_does_3 14 rfl rfl)
theorem dX0_does_79 : decode cX0_does 79 = .ok (.aload_n 0, 1) := dk_42 (dk_at dksX0_does_3 15 rfl rfl)
theorem dX0_does_80 : decode cX0_does 80 = .ok (.aload_n 1, 1) := dk_43 (dk_at dksX0_does_3 16 rfl rfl)
theorem dX0_does_81 : decode cX0_does 81 = .ok (.invokevirtual 224, 3) := dk_182 0 224 (dk_at dksX0_does_3 17 rfl rfl)
theorem dX0_does_84 : decode cX0_does 84 = .ok (.aload_n 1, 1) := dk_43 (dk_at dksX0_does_3 20 rfl rfl)
theorem dX0_does_85 : decode cX0_does 85 = .ok (.invokevirtual 221, 3) := dk_182 0 221 (dk_at dksX0_does_3 21 rfl rfl)
theorem dX0_does_88 : decode cX0_does 88 = .ok (.invokevirtual 240, 3) := dk_182 0 240 (dk_at dksX0_does_4 0 rfl rfl)
theorem dX0_does_91 : decode cX0_does 91 = .ok (.ireturn, 1) := dk_172 (dk_at dksX0_does_4 3 rfl rfl)
theorem dX0_does_92 : decode cX0_does 92 = .ok (.aload_n 0, 1) := dk_42 (dk_at dksX0_does_4 4 rfl rfl)
theorem dX0_does_93 : decode cX0_does 93 = .ok (.aload_n 1, 1) := dk_43 (dk_at dksX0_does_4 5 rfl rfl)
theorem dX0_does_94 : decode cX0_does 94 = .ok (.invokevirtual 221, 3) := dk_182 0 221 (dk_at dksX0_does_4 6 rfl rfl)
theorem dX0_does_97 : decode cX0_does 97 = .ok (.invokevirtual 243, 3) := dk_182 0 243 (dk_at dksX0_does_4 9 rfl rfl)
theorem dX0_does_100 : decode cX0_does 100 = .ok (.ireturn, 1) := dk_172 (dk_at dksX0_does_4 12 rfl rfl)
theorem dX0_does_101 : decode cX0_does 101 = .ok (.aload_n 0, 1) := dk_42 (dk_at dksX0_does_4 13 rfl rfl)
theorem dX0_does_102 : decode cX0_does 102 = .ok (.aload_n 1, 1) := dk_43 (dk_at dksX0_does_4 14 rfl rfl)
theorem dX0_does_103 : decode cX0_does 103 = .ok (.invokevirtual 221, 3) := dk_182 0 221 (dk_at dksX0_does_4 15 rfl rfl)
theorem dX0_does_106 : decode cX0_does 106 = .ok (.invokevirtual 246, 3) := dk_182 0 246 (dk_at dksX0_does_4 18 rfl rfl)
theorem dX0_does_109 : decode cX0_does 109 = .ok (.ireturn, 1) := dk_172 (dk_at dksX0_does_4 21 rfl rfl)
theorem dX0_does_110 : decode cX0_does 110 = .ok (.aload_n 0, 1) := dk_42 (dk_at dksX0_does_4 22 rfl rfl)
theorem dX0_does_111 : decode cX0_does 111 = .ok (.aload_n 1, 1) := dk_43 (dk_at dksX0_does_4 23 rfl rfl)
theorem dX0_does_112 : decode cX0_does 112 = .ok (.invokevirtual 221, 3) := dk_182 0 221 (dk_at dksX0_does_5 0 rfl rfl)
theorem dX0_does_115 : decode cX0_does 115 = .ok (.invokevirtual 249, 3) := dk_182 0 249 (dk_at dksX0_does_5 3 rfl rfl)
theorem dX0_does_118 : decode cX0_does 118 = .ok (.ireturn, 1) := dk_172 (dk_at dksX0_does_5 6 rfl rfl)
abbrev cX0_passesAll : ByteArray := prog_1_method_35_code
def yX0_passesAll : MethodName := ⟨RX0, "passesAll", "(I)Z"⟩
def dkwX0_passesAll_1 : List UInt8 := [4, 172]
abbrev dktX0_passesAll_1 : List UInt8 := dkwX0_passesAll_1 ++ []
def dkwX0_passesAll_0 : List UInt8 := [3, 61, 28, 27, 162, 0, 20, 42, 4, 182, 0, 213, 2, 160, 0, 5, 3, 172, 132, 2, 1, 167, 255, 237]
abbrev dktX0_passesAll_0 : List UInt8 := dkwX0_passesAll_0 ++ dktX0_passesAll_1
theorem dksX0_passesAll_0 : cX0_passesAll.data.toList.drop 0 = dktX0_passesAll_0 := by decide +kernel
theorem dksX0_passesAll_1 : cX0_passesAll.data.toList.drop 24 = dktX0_passesAll_1 := dk_seg dksX0_passesAll_0 24 rfl rfl
theorem dX0_passesAll_0 : decode cX0_passesAll 0 = .ok (.iconst 0, 1) := dk_3 (dk_at dksX0_passesAll_0 0 rfl rfl)
theorem dX0_passesAll_1 : decode cX0_passesAll 1 = .ok (.istore_n 2, 1) := dk_61 (dk_at dksX0_passesAll_0 1 rfl rfl)
theorem dX0_passesAll_2 : decode cX0_passesAll 2 = .ok (.iload_n 2, 1) := dk_28 (dk_at dksX0_passesAll_0 2 rfl rfl)
theorem dX0_passesAll_3 : decode cX0_passesAll 3 = .ok (.iload_n 1, 1) := dk_27 (dk_at dksX0_passesAll_0 3 rfl rfl)
theorem dX0_passesAll_4 : decode cX0_passesAll 4 = .ok (.if_icmp .ge 20, 3) := dk_162 0 20 (dk_at dksX0_passesAll_0 4 rfl rfl)
theorem dX0_passesAll_7 : decode cX0_passesAll 7 = .ok (.aload_n 0, 1) := dk_42 (dk_at dksX0_passesAll_0 7 rfl rfl)
theorem dX0_passesAll_8 : decode cX0_passesAll 8 = .ok (.iconst 1, 1) := dk_4 (dk_at dksX0_passesAll_0 8 rfl rfl)
theorem dX0_passesAll_9 : decode cX0_passesAll 9 = .ok (.invokevirtual 213, 3) := dk_182 0 213 (dk_at dksX0_passesAll_0 9 rfl rfl)
theorem dX0_passesAll_12 : decode cX0_passesAll 12 = .ok (.iconst (-1), 1) := dk_2 (dk_at dksX0_passesAll_0 12 rfl rfl)
theorem dX0_passesAll_13 : decode cX0_passesAll 13 = .ok (.if_icmp .ne 5, 3) := dk_160 0 5 (dk_at dksX0_passesAll_0 13 rfl rfl)
theorem dX0_passesAll_16 : decode cX0_passesAll 16 = .ok (.iconst 0, 1) := dk_3 (dk_at dksX0_passesAll_0 16 rfl rfl)
theorem dX0_passesAll_17 : decode cX0_passesAll 17 = .ok (.ireturn, 1) := dk_172 (dk_at dksX0_passesAll_0 17 rfl rfl)
theorem dX0_passesAll_18 : decode cX0_passesAll 18 = .ok (.iinc 2 1, 3) := dk_132 2 1 (dk_at dksX0_passesAll_0 18 rfl rfl)
theorem dX0_passesAll_21 : decode cX0_passesAll 21 = .ok (.goto (-19), 3) := dk_167 255 237 (dk_at dksX0_passesAll_0 21 rfl rfl)
theorem dX0_passesAll_24 : decode cX0_passesAll 24 = .ok (.iconst 1, 1) := dk_4 (dk_at dksX0_passesAll_1 0 rfl rfl)
theorem dX0_passesAll_25 : decode cX0_passesAll 25 = .ok (.ireturn, 1) := dk_172 (dk_at dksX0_passesAll_1 1 rfl rfl)
abbrev cX0_years : ByteArray := prog_1_method_39_code
def yX0_years : MethodName := ⟨RX0, "years", "(II)I"⟩
def dkwX0_years_7 : List UInt8 := [180, 0, 188, 3, 46, 172]
abbrev dktX0_years_7 : List UInt8 := dkwX0_years_7 ++ []
def dkwX0_years_6 : List UInt8 := [29, 42, 42, 180, 0, 21, 180, 0, 188, 182, 0, 194, 96, 62, 132, 4, 1, 167, 255, 146, 42, 180, 0, 21]
abbrev dktX0_years_6 : List UInt8 := dkwX0_years_6 ++ dktX0_years_7
def dkwX0_years_5 : List UInt8 := [21, 5, 16, 6, 112, 6, 164, 0, 32, 42, 180, 0, 21, 180, 0, 188, 3, 46, 17, 39, 15, 162, 0, 17]
abbrev dktX0_years_5 : List UInt8 := dkwX0_years_5 ++ dktX0_years_6
def dkwX0_years_4 : List UInt8 := [158, 0, 24, 42, 21, 5, 42, 180, 0, 21, 180, 0, 59, 3, 46, 112, 21, 5, 182, 1, 16, 167, 0, 41]
abbrev dktX0_years_4 : List UInt8 := dkwX0_years_4 ++ dktX0_years_5
def dkwX0_years_3 : List UInt8 := [180, 0, 188, 184, 0, 174, 21, 5, 16, 6, 112, 7, 162, 0, 36, 42, 180, 0, 21, 180, 0, 59, 3, 46]
abbrev dktX0_years_3 : List UInt8 := dkwX0_years_3 ++ dktX0_years_4
def dkwX0_years_2 : List UInt8 := [3, 54, 4, 21, 4, 28, 162, 0, 110, 42, 180, 0, 21, 180, 0, 188, 6, 46, 54, 5, 42, 180, 0, 21]
abbrev dktX0_years_2 : List UInt8 := dkwX0_years_2 ++ dktX0_years_3
def dkwX0_years_1 : List UInt8 := [180, 0, 21, 182, 0, 191, 42, 180, 0, 21, 180, 0, 188, 6, 27, 5, 104, 17, 0, 229, 96, 79, 3, 62]
abbrev dktX0_years_1 : List UInt8 := dkwX0_years_1 ++ dktX0_years_2
def dkwX0_years_0 : List UInt8 := [27, 3, 17, 39, 15, 184, 0, 62, 153, 0, 13, 28, 4, 16, 40, 184, 0, 62, 154, 0, 5, 2, 172, 42]
abbrev dktX0_years_0 : List UInt8 := dkwX0_years_0 ++ dktX0_years_1
theorem dksX0_years_0 : cX0_years.data.toList.drop 0 = dktX0_years_0 := by decide +kernel
theorem dksX0_years_1 : cX0_years.data.toList.drop 24 = dktX0_years_1 := dk_seg dksX0_years_0 24 rfl rfl
theorem dksX0_years_2 : cX0_years.data.toList.drop 48 = dktX0_years_2 := dk_seg dksX0_years_1 24 rfl rfl
theorem dksX0_years_3 : cX0_years.data.toList.drop 72 = dktX0_years_3 := dk_seg dksX0_years_2 24 rfl rfl
theorem dksX0_years_4 : cX0_years.data.toList.drop 96 = dktX0_years_4 := dk_seg dksX0_years_3 24 rfl rfl
theorem dksX0_years_5 : cX0_years.data.toList.drop 120 = dktX0_years_5 := dk_seg dksX0_years_4 24 rfl rfl
theorem dksX0_years_6 : cX0_years.data.toList.drop 144 = dktX0_years_6 := dk_seg dksX0_years_5 24 rfl rfl
theorem dksX0_years_7 : cX0_years.data.toList.drop 168 = dktX0_years_7 := dk_seg dksX0_years_6 24 rfl rfl
theorem dX0_years_0 : decode cX0_years 0 = .ok (.iload_n 1, 1) := dk_27 (dk_at dksX0_years_0 0 rfl rfl)
theorem dX0_years_1 : decode cX0_years 1 = .ok (.iconst 0, 1) := dk_3 (dk_at dksX0_years_0 1 rfl rfl)
theorem dX0_years_2 : decode cX0_years 2 = .ok (.sipush 9999, 3) := dk_17 39 15 (dk_at dksX0_years_0 2 rfl rfl)
theorem dX0_years_5 : decode cX0_years 5 = .ok (.invokestatic 62, 3) := dk_184 0 62 (dk_at dksX0_years_0 5 rfl rfl)
theorem dX0_years_8 : decode cX0_years 8 = .ok (.ifCond .eq 13, 3) := dk_153 0 13 (dk_at dksX0_years_0 8 rfl rfl)
theorem dX0_years_11 : decode cX0_years 11 = .ok (.iload_n 2, 1) := dk_28 (dk_at dksX0_years_0 11 rfl rfl)
theorem dX0_years_12 : decode cX0_years 12 = .ok (.iconst 1, 1) := dk_4 (dk_at dksX0_years_0 12 rfl rfl)
theorem dX0_years_13 : decode cX0_years 13 = .ok (.bipush 40, 2) := dk_16 40 (dk_at dksX0_years_0 13 rfl rfl)
theorem dX0_years_15 : decode cX0_years 15 = .ok (.invokestatic 62, 3) := dk_184 0 62 (dk_at dksX0_years_0 15 rfl rfl)
theorem dX0_years_18 : decode cX0_years 18 = .ok (.ifCond .ne 5, 3) := dk_154 0 5 (dk_at dksX0_years_0 18 rfl rfl)
theorem dX0_years_21 : decode cX0_years 21 = .ok (.iconst (-1), 1) := dk_2 (dk_at dksX0_years_0 21 rfl rfl)
theorem dX0_years_22 : decode cX0_years 22 = .ok (.ireturn, 1) := dk_172 (dk_at dksX0_years_0 22 rfl rfl)
theorem dX0_years_23 : decode cX0_years 23 = .ok (.aload_n 0, 1) := dk_42 (dk_at dksX0_years_0 23 rfl rfl)
theorem dX0_years_24 : decode cX0_years 24 = .ok (.getfield 21, 3) := dk_180 0 21 (dk_at dksX0_years_1 0 rfl rfl)
theorem dX0_years_27 : decode cX0_years 27 = .ok (.invokevirtual 191, 3) := dk_182 0 191 (dk_at dksX0_years_1 3 rfl rfl)
theorem dX0_years_30 : decode cX0_years 30 = .ok (.aload_n 0, 1) := dk_42 (dk_at dksX0_years_1 6 rfl rfl)
theorem dX0_years_31 : decode cX0_years 31 = .ok (.getfield 21, 3) := dk_180 0 21 (dk_at dksX0_years_1 7 rfl rfl)
theorem dX0_years_34 : decode cX0_years 34 = .ok (.getfield 188, 3) := dk_180 0 188 (dk_at dksX0_years_1 10 rfl rfl)
theorem dX0_years_37 : decode cX0_years 37 = .ok (.iconst 3, 1) := dk_6 (dk_at dksX0_years_1 13 rfl rfl)
theorem dX0_years_38 : decode cX0_years 38 = .ok (.iload_n 1, 1) := dk_27 (dk_at dksX0_years_1 14 rfl rfl)
theorem dX0_years_39 : decode cX0_years 39 = .ok (.iconst 2, 1) := dk_5 (dk_at dksX0_years_1 15 rfl rfl)
theorem dX0_years_40 : decode cX0_years 40 = .ok (.imul, 1) := dk_104 (dk_at dksX0_years_1 16 rfl rfl)
theorem dX0_years_41 : decode cX0_years 41 = .ok (.sipush 229, 3) := dk_17 0 229 (dk_at dksX0_years_1 17 rfl rfl)
theorem dX0_years_44 : decode cX0_years 44 = .ok (.iadd, 1) := dk_96 (dk_at dksX0_years_1 20 rfl rfl)
theorem dX0_years_45 : decode cX0_years 45 = .ok (.iastore, 1) := dk_79 (dk_at dksX0_years_1 21 rfl rfl)
theorem dX0_years_46 : decode cX0_years 46 = .ok (.iconst 0, 1) := dk_3 (dk_at dksX0_years_1 22 rfl rfl)
theorem dX0_years_47 : decode cX0_years 47 = .ok (.istore_n 3, 1) := dk_62 (dk_at dksX0_years_1 23 rfl rfl)
theorem dX0_years_48 : decode cX0_years 48 = .ok (.iconst 0, 1) := dk_3 (dk_at dksX0_years_2 0 rfl rfl)
theorem dX0_years_49 : decode cX0_years 49 = .ok (.istore 4, 2) := dk_54 4 (dk_at dksX0_years_2 1 rfl rfl)
theorem dX0_years_51 : decode cX0_years 51 = .ok (.iload 4, 2) := dk_21 4 (dk_at dksX0_years_2 3 rfl rfl)
theorem dX0_years_53 : decode cX0_years 53 = .ok (.iload_n 2, 1) := dk_28 (dk_at dksX0_years_2 5 rfl rfl)
theorem dX0_years_54 : decode cX0_years 54 = .ok (.if_icmp .ge 110, 3) := dk_162 0 110 (dk_at dksX0_years_2 6 rfl rfl)
theorem dX0_years_57 : decode cX0_years 57 = .ok (.aload_n 0, 1) := dk_42 (dk_at dksX0_years_2 9 rfl rfl)
theorem dX0_years_58 : decode cX0_years 58 = .ok (.getfield 21, 3) := dk_180 0 21 (dk_at dksX0_years_2 10 rfl rfl)
theorem dX0_years_61 : decode cX0_years 61 = .ok (.getfield 188, 3) := dk_180 0 188 (dk_at dksX0_years_2 13 rfl rfl)
theorem dX0_years_64 : decode cX0_years 64 = .ok (.iconst 3, 1) := dk_6 (dk_at dksX0_years_2 16 rfl rfl)
theorem dX0_years_65 : decode cX0_years 65 = .ok (.iaload, 1) := dk_46 (dk_at dksX0_years_2 17 rfl rfl)
theorem dX0_years_66 : decode cX0_years 66 = .ok (.istore 5, 2) := dk_54 5 (dk_at dksX0_years_2 18 rfl rfl)
theorem dX0_years_68 : decode cX0_years 68 = .ok (.aload_n 0, 1) := dk_42 (dk_at dksX0_years_2 20 rfl rfl)
theorem dX0_years_69 : decode cX0_years 69 = .ok (.getfield 21, 3) := dk_180 0 21 (dk_at dksX0_years_2 21 rfl rfl)
theorem dX0_years_72 : decode cX0_years 72 = .ok (.getfield 188, 3) := dk_180 0 188 (dk_at dksX0_years_3 0 rfl rfl)
theorem dX0_years_75 : decode cX0_years 75 = .ok (.invokestatic 174, 3) := dk_184 0 174 (dk_at dksX0_years_3 3 rfl rfl)
theorem dX0_years_78 : decode cX0_years 78 = .ok (.iload 5, 2) := dk_21 5 (dk_at dksX0_years_3 6 rfl rfl)
theorem dX0_years_80 : decode cX0_years 80 = .ok (.bipush 6, 2) := dk_16 6 (dk_at dksX0_years_3 8 rfl rfl)
theorem dX0_years_82 : decode cX0_years 82 = .ok (.irem, 1) := dk_112 (dk_at dksX0_years_3 10 rfl rfl)
theorem dX0_years_83 : decode cX0_years 83 = .ok (.iconst 4, 1) := dk_7 (dk_at dksX0_years_3 11 rfl rfl)
theorem dX0_years_84 : decode cX0_years 84 = .ok (.if_icmp .ge 36, 3) := dk_162 0 36 (dk_at dksX0_years_3 12 rfl rfl)
theorem dX0_years_87 : decode cX0_years 87 = .ok (.aload_n 0, 1) := dk_42 (dk_at dksX0_years_3 15 rfl rfl)
theorem dX0_years_88 : decode cX0_years 88 = .ok (.getfield 21, 3) := dk_180 0 21 (dk_at dksX0_years_3 16 rfl rfl)
theorem dX0_years_91 : decode cX0_years 91 = .ok (.getfield 59, 3) := dk_180 0 59 (dk_at dksX0_years_3 19 rfl rfl)
theorem dX0_years_94 : decode cX0_years 94 = .ok (.iconst 0, 1) := dk_3 (dk_at dksX0_years_3 22 rfl rfl)
theorem dX0_years_95 : decode cX0_years 95 = .ok (.iaload, 1) := dk_46 (dk_at dksX0_years_3 23 rfl rfl)
theorem dX0_years_96 : decode cX0_years 96 = .ok (.ifCond .le 24, 3) := dk_158 0 24 (dk_at dksX0_years_4 0 rfl rfl)
theorem dX0_years_99 : decode cX0_years 99 = .ok (.aload_n 0, 1) := dk_42 (dk_at dksX0_years_4 3 rfl rfl)
theorem dX0_years_100 : decode cX0_years 100 = .ok (.iload 5, 2) := dk_21 5 (dk_at dksX0_years_4 4 rfl rfl)
theorem dX0_years_102 : decode cX0_years 102 = .ok (.aload_n 0, 1) := dk_42 (dk_at dksX0_years_4 6 rfl rfl)
theorem dX0_years_103 : decode cX0_years 103 = .ok (.getfield 21, 3) := dk_180 0 21 (dk_at dksX0_years_4 7 rfl rfl)
theorem dX0_years_106 : decode cX0_years 106 = .ok (.getfield 59, 3) := dk_180 0 59 (dk_at dksX0_years_4 10 rfl rfl)
theorem dX0_years_109 : decode cX0_years 109 = .ok (.iconst 0, 1) := dk_3 (dk_at dksX0_years_4 13 rfl rfl)
theorem dX0_years_110 : decode cX0_years 110 = .ok (.iaload, 1) := dk_46 (dk_at dksX0_years_4 14 rfl rfl)
theorem dX0_years_111 : decode cX0_years 111 = .ok (.irem, 1) := dk_112 (dk_at dksX0_years_4 15 rfl rfl)
theorem dX0_years_112 : decode cX0_years 112 = .ok (.iload 5, 2) := dk_21 5 (dk_at dksX0_years_4 16 rfl rfl)
theorem dX0_years_114 : decode cX0_years 114 = .ok (.invokevirtual 272, 3) := dk_182 1 16 (dk_at dksX0_years_4 18 rfl rfl)
theorem dX0_years_117 : decode cX0_years 117 = .ok (.goto 41, 3) := dk_167 0 41 (dk_at dksX0_years_4 21 rfl rfl)
theorem dX0_years_120 : decode cX0_years 120 = .ok (.iload 5, 2) := dk_21 5 (dk_at dksX0_years_5 0 rfl rfl)
theorem dX0_years_122 : decode cX0_years 122 = .ok (.bipush 6, 2) := dk_16 6 (dk_at dksX0_years_5 2 rfl rfl)
theorem dX0_years_124 : decode cX0_years 124 = .ok (.irem, 1) := dk_112 (dk_at dksX0_years_5 4 rfl rfl)
theorem dX0_years_125 : decode cX0_years 125 = .ok (.iconst 3, 1) := dk_6 (dk_at dksX0_years_5 5 rfl rfl)
theorem dX0_years_126 : decode cX0_years 126 = .ok (.if_icmp .le 32, 3) := dk_164 0 32 (dk_at dksX0_years_5 6 rfl rfl)
theorem dX0_years_129 : decode cX0_years 129 = .ok (.aload_n 0, 1) := dk_42 (dk_at dksX0_years_5 9 rfl rfl)
theorem dX0_years_130 : decode cX0_years 130 = .ok (.getfield 21, 3) := dk_180 0 21 (dk_at dksX0_years_5 10 rfl rfl)
theorem dX0_years_133 : decode cX0_years 133 = .ok (.getfield 188, 3) := dk_180 0 188 (dk_at dksX0_years_5 13 rfl rfl)
theorem dX0_years_136 : decode cX0_years 136 = .ok (.iconst 0, 1) := dk_3 (dk_at dksX0_years_5 16 rfl rfl)
theorem dX0_years_137 : decode cX0_years 137 = .ok (.iaload, 1) := dk_46 (dk_at dksX0_years_5 17 rfl rfl)
theorem dX0_years_138 : decode cX0_years 138 = .ok (.sipush 9999, 3) := dk_17 39 15 (dk_at dksX0_years_5 18 rfl rfl)
theorem dX0_years_141 : decode cX0_years 141 = .ok (.if_icmp .ge 17, 3) := dk_162 0 17 (dk_at dksX0_years_5 21 rfl rfl)
theorem dX0_years_144 : decode cX0_years 144 = .ok (.iload_n 3, 1) := dk_29 (dk_at dksX0_years_6 0 rfl rfl)
theorem dX0_years_145 : decode cX0_years 145 = .ok (.aload_n 0, 1) := dk_42 (dk_at dksX0_years_6 1 rfl rfl)
theorem dX0_years_146 : decode cX0_years 146 = .ok (.aload_n 0, 1) := dk_42 (dk_at dksX0_years_6 2 rfl rfl)
theorem dX0_years_147 : decode cX0_years 147 = .ok (.getfield 21, 3) := dk_180 0 21 (dk_at dksX0_years_6 3 rfl rfl)
theorem dX0_years_150 : decode cX0_years 150 = .ok (.getfield 188, 3) := dk_180 0 188 (dk_at dksX0_years_6 6 rfl rfl)
theorem dX0_years_153 : decode cX0_years 153 = .ok (.invokevirtual 194, 3) := dk_182 0 194 (dk_at dksX0_years_6 9 rfl rfl)
theorem dX0_years_156 : decode cX0_years 156 = .ok (.iadd, 1) := dk_96 (dk_at dksX0_years_6 12 rfl rfl)
theorem dX0_years_157 : decode cX0_years 157 = .ok (.istore_n 3, 1) := dk_62 (dk_at dksX0_years_6 13 rfl rfl)
theorem dX0_years_158 : decode cX0_years 158 = .ok (.iinc 4 1, 3) := dk_132 4 1 (dk_at dksX0_years_6 14 rfl rfl)
theorem dX0_years_161 : decode cX0_years 161 = .ok (.goto (-110), 3) := dk_167 255 146 (dk_at dksX0_years_6 17 rfl rfl)
theorem dX0_years_164 : decode cX0_years 164 = .ok (.aload_n 0, 1) := dk_42 (dk_at dksX0_years_6 20 rfl rfl)
theorem dX0_years_165 : decode cX0_years 165 = .ok (.getfield 21, 3) := dk_180 0 21 (dk_at dksX0_years_6 21 rfl rfl)
theorem dX0_years_168 : decode cX0_years 168 = .ok (.getfield 188, 3) := dk_180 0 188 (dk_at dksX0_years_7 0 rfl rfl)
theorem dX0_years_171 : decode cX0_years 171 = .ok (.iconst 0, 1) := dk_3 (dk_at dksX0_years_7 3 rfl rfl)
theorem dX0_years_172 : decode cX0_years 172 = .ok (.iaload, 1) := dk_46 (dk_at dksX0_years_7 4 rfl rfl)
theorem dX0_years_173 : decode cX0_years 173 = .ok (.ireturn, 1) := dk_172 (dk_at dksX0_years_7 5 rfl rfl)
abbrev cX0_befalls : ByteArray := prog_1_method_38_code
def yX0_befalls : MethodName := ⟨RX0, "befalls", "(II)V"⟩
def dkwX0_befalls_3 : List UInt8 := [45, 16, 12, 27, 96, 28, 16, 6, 112, 5, 160, 0, 7, 4, 167, 0, 4, 3, 79, 177]
abbrev dktX0_befalls_3 : List UInt8 := dkwX0_befalls_3 ++ []
def dkwX0_befalls_2 : List UInt8 := [45, 4, 4, 27, 120, 79, 167, 0, 37, 45, 7, 27, 96, 28, 16, 6, 108, 16, 100, 112, 79, 167, 0, 22]
abbrev dktX0_befalls_2 : List UInt8 := dkwX0_befalls_2 ++ dktX0_befalls_3
def dkwX0_befalls_1 : List UInt8 := [171, 0, 0, 0, 0, 0, 0, 52, 0, 0, 0, 2, 0, 0, 0, 0, 0, 0, 0, 28, 0, 0, 0, 1, 0, 0, 0, 37]
abbrev dktX0_befalls_1 : List UInt8 := dkwX0_befalls_1 ++ dktX0_befalls_2
def dkwX0_befalls_0 : List UInt8 := [42, 180, 0, 21, 180, 0, 188, 78, 28, 16, 6, 112]
abbrev dktX0_befalls_0 : List UInt8 := dkwX0_befalls_0 ++ dktX0_befalls_1
theorem dksX0_befalls_0 : cX0_befalls.data.toList.drop 0 = dktX0_befalls_0 := by decide +kernel
theorem dksX0_befalls_1 : cX0_befalls.data.toList.drop 12 = dktX0_befalls_1 := dk_seg dksX0_befalls_0 12 rfl rfl
theorem dksX0_befalls_2 : cX0_befalls.data.toList.drop 40 = dktX0_befalls_2 := dk_seg dksX0_befalls_1 28 rfl rfl
theorem dksX0_befalls_3 : cX0_befalls.data.toList.drop 64 = dktX0_befalls_3 := dk_seg dksX0_befalls_2 24 rfl rfl
theorem dX0_befalls_0 : decode cX0_befalls 0 = .ok (.aload_n 0, 1) := dk_42 (dk_at dksX0_befalls_0 0 rfl rfl)
theorem dX0_befalls_1 : decode cX0_befalls 1 = .ok (.getfield 21, 3) := dk_180 0 21 (dk_at dksX0_befalls_0 1 rfl rfl)
theorem dX0_befalls_4 : decode cX0_befalls 4 = .ok (.getfield 188, 3) := dk_180 0 188 (dk_at dksX0_befalls_0 4 rfl rfl)
theorem dX0_befalls_7 : decode cX0_befalls 7 = .ok (.astore_n 3, 1) := dk_78 (dk_at dksX0_befalls_0 7 rfl rfl)
theorem dX0_befalls_8 : decode cX0_befalls 8 = .ok (.iload_n 2, 1) := dk_28 (dk_at dksX0_befalls_0 8 rfl rfl)
theorem dX0_befalls_9 : decode cX0_befalls 9 = .ok (.bipush 6, 2) := dk_16 6 (dk_at dksX0_befalls_0 9 rfl rfl)
theorem dX0_befalls_11 : decode cX0_befalls 11 = .ok (.irem, 1) := dk_112 (dk_at dksX0_befalls_0 11 rfl rfl)
theorem dX0_befalls_12 : decode cX0_befalls 12 = .ok (.lookupswitch 52 #[(0, 28), (1, 37)], 28) := by decide +kernel
theorem dX0_befalls_40 : decode cX0_befalls 40 = .ok (.aload_n 3, 1) := dk_45 (dk_at dksX0_befalls_2 0 rfl rfl)
theorem dX0_befalls_41 : decode cX0_befalls 41 = .ok (.iconst 1, 1) := dk_4 (dk_at dksX0_befalls_2 1 rfl rfl)
theorem dX0_befalls_42 : decode cX0_befalls 42 = .ok (.iconst 1, 1) := dk_4 (dk_at dksX0_befalls_2 2 rfl rfl)
theorem dX0_befalls_43 : decode cX0_befalls 43 = .ok (.iload_n 1, 1) := dk_27 (dk_at dksX0_befalls_2 3 rfl rfl)
theorem dX0_befalls_44 : decode cX0_befalls 44 = .ok (.ishl, 1) := dk_120 (dk_at dksX0_befalls_2 4 rfl rfl)
theorem dX0_befalls_45 : decode cX0_befalls 45 = .ok (.iastore, 1) := dk_79 (dk_at dksX0_befalls_2 5 rfl rfl)
theorem dX0_befalls_46 : decode cX0_befalls 46 = .ok (.goto 37, 3) := dk_167 0 37 (dk_at dksX0_befalls_2 6 rfl rfl)
theorem dX0_befalls_49 : decode cX0_befalls 49 = .ok (.aload_n 3, 1) := dk_45 (dk_at dksX0_befalls_2 9 rfl rfl)
theorem dX0_befalls_50 : decode cX0_befalls 50 = .ok (.iconst 4, 1) := dk_7 (dk_at dksX0_befalls_2 10 rfl rfl)
theorem dX0_befalls_51 : decode cX0_befalls 51 = .ok (.iload_n 1, 1) := dk_27 (dk_at dksX0_befalls_2 11 rfl rfl)
theorem dX0_befalls_52 : decode cX0_befalls 52 = .ok (.iadd, 1) := dk_96 (dk_at dksX0_befalls_2 12 rfl rfl)
theorem dX0_befalls_53 : decode cX0_befalls 53 = .ok (.iload_n 2, 1) := dk_28 (dk_at dksX0_befalls_2 13 rfl rfl)
theorem dX0_befalls_54 : decode cX0_befalls 54 = .ok (.bipush 6, 2) := dk_16 6 (dk_at dksX0_befalls_2 14 rfl rfl)
theorem dX0_befalls_56 : decode cX0_befalls 56 = .ok (.idiv, 1) := dk_108 (dk_at dksX0_befalls_2 16 rfl rfl)
theorem dX0_befalls_57 : decode cX0_befalls 57 = .ok (.bipush 100, 2) := dk_16 100 (dk_at dksX0_befalls_2 17 rfl rfl)
theorem dX0_befalls_59 : decode cX0_befalls 59 = .ok (.irem, 1) := dk_112 (dk_at dksX0_befalls_2 19 rfl rfl)
theorem dX0_befalls_60 : decode cX0_befalls 60 = .ok (.iastore, 1) := dk_79 (dk_at dksX0_befalls_2 20 rfl rfl)
theorem dX0_befalls_61 : decode cX0_befalls 61 = .ok (.goto 22, 3) := dk_167 0 22 (dk_at dksX0_befalls_2 21 rfl rfl)
theorem dX0_befalls_64 : decode cX0_befalls 64 = .ok (.aload_n 3, 1) := dk_45 (dk_at dksX0_befalls_3 0 rfl rfl)
theorem dX0_befalls_65 : decode cX0_befalls 65 = .ok (.bipush 12, 2) := dk_16 12 (dk_at dksX0_befalls_3 1 rfl rfl)
theorem dX0_befalls_67 : decode cX0_befalls 67 = .ok (.iload_n 1, 1) := dk_27 (dk_at dksX0_befalls_3 3 rfl rfl)
theorem dX0_befalls_68 : decode cX0_befalls 68 = .ok (.iadd, 1) := dk_96 (dk_at dksX0_befalls_3 4 rfl rfl)
theorem dX0_befalls_69 : decode cX0_befalls 69 = .ok (.iload_n 2, 1) := dk_28 (dk_at dksX0_befalls_3 5 rfl rfl)
theorem dX0_befalls_70 : decode cX0_befalls 70 = .ok (.bipush 6, 2) := dk_16 6 (dk_at dksX0_befalls_3 6 rfl rfl)
theorem dX0_befalls_72 : decode cX0_befalls 72 = .ok (.irem, 1) := dk_112 (dk_at dksX0_befalls_3 8 rfl rfl)
theorem dX0_befalls_73 : decode cX0_befalls 73 = .ok (.iconst 2, 1) := dk_5 (dk_at dksX0_befalls_3 9 rfl rfl)
theorem dX0_befalls_74 : decode cX0_befalls 74 = .ok (.if_icmp .ne 7, 3) := dk_160 0 7 (dk_at dksX0_befalls_3 10 rfl rfl)
theorem dX0_befalls_77 : decode cX0_befalls 77 = .ok (.iconst 1, 1) := dk_4 (dk_at dksX0_befalls_3 13 rfl rfl)
theorem dX0_befalls_78 : decode cX0_befalls 78 = .ok (.goto 4, 3) := dk_167 0 4 (dk_at dksX0_befalls_3 14 rfl rfl)
theorem dX0_befalls_81 : decode cX0_befalls 81 = .ok (.iconst 0, 1) := dk_3 (dk_at dksX0_befalls_3 17 rfl rfl)
theorem dX0_befalls_82 : decode cX0_befalls 82 = .ok (.iastore, 1) := dk_79 (dk_at dksX0_befalls_3 18 rfl rfl)
theorem dX0_befalls_83 : decode cX0_befalls 83 = .ok (.return_, 1) := dk_177 (dk_at dksX0_befalls_3 19 rfl rfl)
abbrev cX0_undo : ByteArray := prog_1_method_40_code
def yX0_undo : MethodName := ⟨RX0, "undo", "()I"⟩
def dkwX0_undo_2 : List UInt8 := [180, 0, 188, 184, 1, 23, 42, 180, 0, 21, 180, 0, 59, 6, 46, 172]
abbrev dktX0_undo_2 : List UInt8 := dkwX0_undo_2 ++ []
def dkwX0_undo_1 : List UInt8 := [4, 100, 79, 42, 180, 0, 21, 180, 1, 19, 42, 180, 0, 21, 180, 0, 59, 6, 46, 50, 42, 180, 0, 21]
abbrev dktX0_undo_1 : List UInt8 := dkwX0_undo_1 ++ dktX0_undo_2
def dkwX0_undo_0 : List UInt8 := [42, 180, 0, 21, 180, 0, 59, 6, 46, 154, 0, 5, 2, 172, 42, 180, 0, 21, 180, 0, 59, 6, 92, 46]
abbrev dktX0_undo_0 : List UInt8 := dkwX0_undo_0 ++ dktX0_undo_1
theorem dksX0_undo_0 : cX0_undo.data.toList.drop 0 = dktX0_undo_0 := by decide +kernel
theorem dksX0_undo_1 : cX0_undo.data.toList.drop 24 = dktX0_undo_1 := dk_seg dksX0_undo_0 24 rfl rfl
theorem dksX0_undo_2 : cX0_undo.data.toList.drop 48 = dktX0_undo_2 := dk_seg dksX0_undo_1 24 rfl rfl
theorem dX0_undo_0 : decode cX0_undo 0 = .ok (.aload_n 0, 1) := dk_42 (dk_at dksX0_undo_0 0 rfl rfl)
theorem dX0_undo_1 : decode cX0_undo 1 = .ok (.getfield 21, 3) := dk_180 0 21 (dk_at dksX0_undo_0 1 rfl rfl)
theorem dX0_undo_4 : decode cX0_undo 4 = .ok (.getfield 59, 3) := dk_180 0 59 (dk_at dksX0_undo_0 4 rfl rfl)
theorem dX0_undo_7 : decode cX0_undo 7 = .ok (.iconst 3, 1) := dk_6 (dk_at dksX0_undo_0 7 rfl rfl)
theorem dX0_undo_8 : decode cX0_undo 8 = .ok (.iaload, 1) := dk_46 (dk_at dksX0_undo_0 8 rfl rfl)
theorem dX0_undo_9 : decode cX0_undo 9 = .ok (.ifCond .ne 5, 3) := dk_154 0 5 (dk_at dksX0_undo_0 9 rfl rfl)
theorem dX0_undo_12 : decode cX0_undo 12 = .ok (.iconst (-1), 1) := dk_2 (dk_at dksX0_undo_0 12 rfl rfl)
theorem dX0_undo_13 : decode cX0_undo 13 = .ok (.ireturn, 1) := dk_172 (dk_at dksX0_undo_0 13 rfl rfl)
theorem dX0_undo_14 : decode cX0_undo 14 = .ok (.aload_n 0, 1) := dk_42 (dk_at dksX0_undo_0 14 rfl rfl)
theorem dX0_undo_15 : decode cX0_undo 15 = .ok (.getfield 21, 3) := dk_180 0 21 (dk_at dksX0_undo_0 15 rfl rfl)
theorem dX0_undo_18 : decode cX0_undo 18 = .ok (.getfield 59, 3) := dk_180 0 59 (dk_at dksX0_undo_0 18 rfl rfl)
theorem dX0_undo_21 : decode cX0_undo 21 = .ok (.iconst 3, 1) := dk_6 (dk_at dksX0_undo_0 21 rfl rfl)
theorem dX0_undo_22 : decode cX0_undo 22 = .ok (.dup2, 1) := dk_92 (dk_at dksX0_undo_0 22 rfl rfl)
theorem dX0_undo_23 : decode cX0_undo 23 = .ok (.iaload, 1) := dk_46 (dk_at dksX0_undo_0 23 rfl rfl)
theorem dX0_undo_24 : decode cX0_undo 24 = .ok (.iconst 1, 1) := dk_4 (dk_at dksX0_undo_1 0 rfl rfl)
theorem dX0_undo_25 : decode cX0_undo 25 = .ok (.isub, 1) := dk_100 (dk_at dksX0_undo_1 1 rfl rfl)
theorem dX0_undo_26 : decode cX0_undo 26 = .ok (.iastore, 1) := dk_79 (dk_at dksX0_undo_1 2 rfl rfl)
theorem dX0_undo_27 : decode cX0_undo 27 = .ok (.aload_n 0, 1) := dk_42 (dk_at dksX0_undo_1 3 rfl rfl)
theorem dX0_undo_28 : decode cX0_undo 28 = .ok (.getfield 21, 3) := dk_180 0 21 (dk_at dksX0_undo_1 4 rfl rfl)
theorem dX0_undo_31 : decode cX0_undo 31 = .ok (.getfield 275, 3) := dk_180 1 19 (dk_at dksX0_undo_1 7 rfl rfl)
theorem dX0_undo_34 : decode cX0_undo 34 = .ok (.aload_n 0, 1) := dk_42 (dk_at dksX0_undo_1 10 rfl rfl)
theorem dX0_undo_35 : decode cX0_undo 35 = .ok (.getfield 21, 3) := dk_180 0 21 (dk_at dksX0_undo_1 11 rfl rfl)
theorem dX0_undo_38 : decode cX0_undo 38 = .ok (.getfield 59, 3) := dk_180 0 59 (dk_at dksX0_undo_1 14 rfl rfl)
theorem dX0_undo_41 : decode cX0_undo 41 = .ok (.iconst 3, 1) := dk_6 (dk_at dksX0_undo_1 17 rfl rfl)
theorem dX0_undo_42 : decode cX0_undo 42 = .ok (.iaload, 1) := dk_46 (dk_at dksX0_undo_1 18 rfl rfl)
theorem dX0_undo_43 : decode cX0_undo 43 = .ok (.aaload, 1) := dk_50 (dk_at dksX0_undo_1 19 rfl rfl)
theorem dX0_undo_44 : decode cX0_undo 44 = .ok (.aload_n 0, 1) := dk_42 (dk_at dksX0_undo_1 20 rfl rfl)
theorem dX0_undo_45 : decode cX0_undo 45 = .ok (.getfield 21, 3) := dk_180 0 21 (dk_at dksX0_undo_1 21 rfl rfl)
theorem dX0_undo_48 : decode cX0_undo 48 = .ok (.getfield 188, 3) := dk_180 0 188 (dk_at dksX0_undo_2 0 rfl rfl)
theorem dX0_undo_51 : decode cX0_undo 51 = .ok (.invokestatic 279, 3) := dk_184 1 23 (dk_at dksX0_undo_2 3 rfl rfl)
theorem dX0_undo_54 : decode cX0_undo 54 = .ok (.aload_n 0, 1) := dk_42 (dk_at dksX0_undo_2 6 rfl rfl)
theorem dX0_undo_55 : decode cX0_undo 55 = .ok (.getfield 21, 3) := dk_180 0 21 (dk_at dksX0_undo_2 7 rfl rfl)
theorem dX0_undo_58 : decode cX0_undo 58 = .ok (.getfield 59, 3) := dk_180 0 59 (dk_at dksX0_undo_2 10 rfl rfl)
theorem dX0_undo_61 : decode cX0_undo 61 = .ok (.iconst 3, 1) := dk_6 (dk_at dksX0_undo_2 13 rfl rfl)
theorem dX0_undo_62 : decode cX0_undo 62 = .ok (.iaload, 1) := dk_46 (dk_at dksX0_undo_2 14 rfl rfl)
theorem dX0_undo_63 : decode cX0_undo 63 = .ok (.ireturn, 1) := dk_172 (dk_at dksX0_undo_2 15 rfl rfl)
abbrev cX0_of : ByteArray := prog_1_method_42_code
def yX0_of : MethodName := ⟨RX0, "of", "(II)I"⟩
def dkwX0_of_6 : List UInt8 := [180, 0, 83, 27, 46, 172, 2, 172]
abbrev dktX0_of_6 : List UInt8 := dkwX0_of_6 ++ []
def dkwX0_of_5 : List UInt8 := [182, 0, 160, 27, 122, 4, 126, 172, 42, 42, 182, 0, 157, 27, 182, 1, 27, 172, 42, 180, 0, 21]
abbrev dktX0_of_5 : List UInt8 := dkwX0_of_5 ++ dktX0_of_6
def dkwX0_of_4 : List UInt8 := [172, 42, 42, 182, 0, 157, 42, 180, 0, 21, 180, 0, 188, 42, 180, 0, 21, 180, 0, 188, 4, 46]
abbrev dktX0_of_4 : List UInt8 := dkwX0_of_4 ++ dktX0_of_5
def dkwX0_of_3 : List UInt8 := [180, 0, 76, 27, 46, 172, 42, 180, 0, 21, 180, 0, 188, 7, 16, 8, 28, 6, 100, 104, 96, 27, 96, 46]
abbrev dktX0_of_3 : List UInt8 := dkwX0_of_3 ++ dktX0_of_4
def dkwX0_of_2 : List UInt8 := [42, 180, 0, 21, 180, 0, 70, 27, 46, 172, 42, 180, 0, 21, 180, 0, 73, 27, 46, 172, 42, 180, 0, 21]
abbrev dktX0_of_2 : List UInt8 := dkwX0_of_2 ++ dktX0_of_3
def dkwX0_of_1 : List UInt8 := [170, 0, 0, 0, 147, 0, 0, 0, 0, 0, 0, 0, 8, 0, 0, 0, 49, 0, 0, 0, 59, 0, 0, 0, 69, 0, 0, 0, 79, 0, 0, 0, 79, 0, 0, 0, 79, 0, 0, 0, 98, 0, 0, 0, 127, 0, 0, 0, 137]
abbrev dktX0_of_1 : List UInt8 := dkwX0_of_1 ++ dktX0_of_2
def dkwX0_of_0 : List UInt8 := [42, 27, 182, 0, 204, 154, 0, 5, 2, 172, 28]
abbrev dktX0_of_0 : List UInt8 := dkwX0_of_0 ++ dktX0_of_1
theorem dksX0_of_0 : cX0_of.data.toList.drop 0 = dktX0_of_0 := by decide +kernel
theorem dksX0_of_1 : cX0_of.data.toList.drop 11 = dktX0_of_1 := dk_seg dksX0_of_0 11 rfl rfl
theorem dksX0_of_2 : cX0_of.data.toList.drop 60 = dktX0_of_2 := dk_seg dksX0_of_1 49 rfl rfl
theorem dksX0_of_3 : cX0_of.data.toList.drop 84 = dktX0_of_3 := dk_seg dksX0_of_2 24 rfl rfl
theorem dksX0_of_4 : cX0_of.data.toList.drop 108 = dktX0_of_4 := dk_seg dksX0_of_3 24 rfl rfl
theorem dksX0_of_5 : cX0_of.data.toList.drop 130 = dktX0_of_5 := dk_seg dksX0_of_4 22 rfl rfl
theorem dksX0_of_6 : cX0_of.data.toList.drop 152 = dktX0_of_6 := dk_seg dksX0_of_5 22 rfl rfl
theorem dX0_of_0 : decode cX0_of 0 = .ok (.aload_n 0, 1) := dk_42 (dk_at dksX0_of_0 0 rfl rfl)
theorem dX0_of_1 : decode cX0_of 1 = .ok (.iload_n 1, 1) := dk_27 (dk_at dksX0_of_0 1 rfl rfl)
theorem dX0_of_2 : decode cX0_of 2 = .ok (.invokevirtual 204, 3) := dk_182 0 204 (dk_at dksX0_of_0 2 rfl rfl)
theorem dX0_of_5 : decode cX0_of 5 = .ok (.ifCond .ne 5, 3) := dk_154 0 5 (dk_at dksX0_of_0 5 rfl rfl)
theorem dX0_of_8 : decode cX0_of 8 = .ok (.iconst (-1), 1) := dk_2 (dk_at dksX0_of_0 8 rfl rfl)
theorem dX0_of_9 : decode cX0_of 9 = .ok (.ireturn, 1) := dk_172 (dk_at dksX0_of_0 9 rfl rfl)
theorem dX0_of_10 : decode cX0_of 10 = .ok (.iload_n 2, 1) := dk_28 (dk_at dksX0_of_0 10 rfl rfl)
theorem dX0_of_11 : decode cX0_of 11 = .ok (.tableswitch 147 0 8 #[49, 59, 69, 79, 79, 79, 98, 127, 137], 49) := by decide +kernel
theorem dX0_of_60 : decode cX0_of 60 = .ok (.aload_n 0, 1) := dk_42 (dk_at dksX0_of_2 0 rfl rfl)
theorem dX0_of_61 : decode cX0_of 61 = .ok (.getfield 21, 3) := dk_180 0 21 (dk_at dksX0_of_2 1 rfl rfl)
theorem dX0_of_64 : decode cX0_of 64 = .ok (.getfield 70, 3) := dk_180 0 70 (dk_at dksX0_of_2 4 rfl rfl)
theorem dX0_of_67 : decode cX0_of 67 = .ok (.iload_n 1, 1) := dk_27 (dk_at dksX0_of_2 7 rfl rfl)
theorem dX0_of_68 : decode cX0_of 68 = .ok (.iaload, 1) := dk_46 (dk_at dksX0_of_2 8 rfl rfl)
theorem dX0_of_69 : decode cX0_of 69 = .ok (.ireturn, 1) := dk_172 (dk_at dksX0_of_2 9 rfl rfl)
theorem dX0_of_70 : decode cX0_of 70 = .ok (.aload_n 0, 1) := dk_42 (dk_at dksX0_of_2 10 rfl rfl)
theorem dX0_of_71 : decode cX0_of 71 = .ok (.getfield 21, 3) := dk_180 0 21 (dk_at dksX0_of_2 11 rfl rfl)
theorem dX0_of_74 : decode cX0_of 74 = .ok (.getfield 73, 3) := dk_180 0 73 (dk_at dksX0_of_2 14 rfl rfl)
theorem dX0_of_77 : decode cX0_of 77 = .ok (.iload_n 1, 1) := dk_27 (dk_at dksX0_of_2 17 rfl rfl)
theorem dX0_of_78 : decode cX0_of 78 = .ok (.iaload, 1) := dk_46 (dk_at dksX0_of_2 18 rfl rfl)
theorem dX0_of_79 : decode cX0_of 79 = .ok (.ireturn, 1) := dk_172 (dk_at dksX0_of_2 19 rfl rfl)
theorem dX0_of_80 : decode cX0_of 80 = .ok (.aload_n 0, 1) := dk_42 (dk_at dksX0_of_2 20 rfl rfl)
theorem dX0_of_81 : decode cX0_of 81 = .ok (.getfield 21, 3) := dk_180 0 21 (dk_at dksX0_of_2 21 rfl rfl)
theorem dX0_of_84 : decode cX0_of 84 = .ok (.getfield 76, 3) := dk_180 0 76 (dk_at dksX0_of_3 0 rfl rfl)
theorem dX0_of_87 : decode cX0_of 87 = .ok (.iload_n 1, 1) := dk_27 (dk_at dksX0_of_3 3 rfl rfl)
theorem dX0_of_88 : decode cX0_of 88 = .ok (.iaload, 1) := dk_46 (dk_at dksX0_of_3 4 rfl rfl)
theorem dX0_of_89 : decode cX0_of 89 = .ok (.ireturn, 1) := dk_172 (dk_at dksX0_of_3 5 rfl rfl)
theorem dX0_of_90 : decode cX0_of 90 = .ok (.aload_n 0, 1) := dk_42 (dk_at dksX0_of_3 6 rfl rfl)
theorem dX0_of_91 : decode cX0_of 91 = .ok (.getfield 21, 3) := dk_180 0 21 (dk_at dksX0_of_3 7 rfl rfl)
theorem dX0_of_94 : decode cX0_of 94 = .ok (.getfield 188, 3) := dk_180 0 188 (dk_at dksX0_of_3 10 rfl rfl)
theorem dX0_of_97 : decode cX0_of 97 = .ok (.iconst 4, 1) := dk_7 (dk_at dksX0_of_3 13 rfl rfl)
theorem dX0_of_98 : decode cX0_of 98 = .ok (.bipush 8, 2) := dk_16 8 (dk_at dksX0_of_3 14 rfl rfl)
theorem dX0_of_100 : decode cX0_of 100 = .ok (.iload_n 2, 1) := dk_28 (dk_at dksX0_of_3 16 rfl rfl)
theorem dX0_of_101 : decode cX0_of 101 = .ok (.iconst 3, 1) := dk_6 (dk_at dksX0_of_3 17 rfl rfl)
theorem dX0_of_102 : decode cX0_of 102 = .ok (.isub, 1) := dk_100 (dk_at dksX0_of_3 18 rfl rfl)
theorem dX0_of_103 : decode cX0_of 103 = .ok (.imul, 1) := dk_104 (dk_at dksX0_of_3 19 rfl rfl)
theorem dX0_of_104 : decode cX0_of 104 = .ok (.iadd, 1) := dk_96 (dk_at dksX0_of_3 20 rfl rfl)
theorem dX0_of_105 : decode cX0_of 105 = .ok (.iload_n 1, 1) := dk_27 (dk_at dksX0_of_3 21 rfl rfl)
theorem dX0_of_106 : decode cX0_of 106 = .ok (.iadd, 1) := dk_96 (dk_at dksX0_of_3 22 rfl rfl)
theorem dX0_of_107 : decode cX0_of 107 = .ok (.iaload, 1) := dk_46 (dk_at dksX0_of_3 23 rfl rfl)
theorem dX0_of_108 : decode cX0_of 108 = .ok (.ireturn, 1) := dk_172 (dk_at dksX0_of_4 0 rfl rfl)
theorem dX0_of_109 : decode cX0_of 109 = .ok (.aload_n 0, 1) := dk_42 (dk_at dksX0_of_4 1 rfl rfl)
theorem dX0_of_110 : decode cX0_of 110 = .ok (.aload_n 0, 1) := dk_42 (dk_at dksX0_of_4 2 rfl rfl)
theorem dX0_of_111 : decode cX0_of 111 = .ok (.invokevirtual 157, 3) := dk_182 0 157 (dk_at dksX0_of_4 3 rfl rfl)
theorem dX0_of_114 : decode cX0_of 114 = .ok (.aload_n 0, 1) := dk_42 (dk_at dksX0_of_4 6 rfl rfl)
theorem dX0_of_115 : decode cX0_of 115 = .ok (.getfield 21, 3) := dk_180 0 21 (dk_at dksX0_of_4 7 rfl rfl)
theorem dX0_of_118 : decode cX0_of 118 = .ok (.getfield 188, 3) := dk_180 0 188 (dk_at dksX0_of_4 10 rfl rfl)
theorem dX0_of_121 : decode cX0_of 121 = .ok (.aload_n 0, 1) := dk_42 (dk_at dksX0_of_4 13 rfl rfl)
theorem dX0_of_122 : decode cX0_of 122 = .ok (.getfield 21, 3) := dk_180 0 21 (dk_at dksX0_of_4 14 rfl rfl)
theorem dX0_of_125 : decode cX0_of 125 = .ok (.getfield 188, 3) := dk_180 0 188 (dk_at dksX0_of_4 17 rfl rfl)
theorem dX0_of_128 : decode cX0_of 128 = .ok (.iconst 1, 1) := dk_4 (dk_at dksX0_of_4 20 rfl rfl)
theorem dX0_of_129 : decode cX0_of 129 = .ok (.iaload, 1) := dk_46 (dk_at dksX0_of_4 21 rfl rfl)
theorem dX0_of_130 : decode cX0_of 130 = .ok (.invokevirtual 160, 3) := dk_182 0 160 (dk_at dksX0_of_5 0 rfl rfl)
theorem dX0_of_133 : decode cX0_of 133 = .ok (.iload_n 1, 1) := dk_27 (dk_at dksX0_of_5 3 rfl rfl)
theorem dX0_of_134 : decode cX0_of 134 = .ok (.ishr, 1) := dk_122 (dk_at dksX0_of_5 4 rfl rfl)
theorem dX0_of_135 : decode cX0_of 135 = .ok (.iconst 1, 1) := dk_4 (dk_at dksX0_of_5 5 rfl rfl)
theorem dX0_of_136 : decode cX0_of 136 = .ok (.iand, 1) := dk_126 (dk_at dksX0_of_5 6 rfl rfl)
theorem dX0_of_137 : decode cX0_of 137 = .ok (.ireturn, 1) := dk_172 (dk_at dksX0_of_5 7 rfl rfl)
theorem dX0_of_138 : decode cX0_of 138 = .ok (.aload_n 0, 1) := dk_42 (dk_at dksX0_of_5 8 rfl rfl)
theorem dX0_of_139 : decode cX0_of 139 = .ok (.aload_n 0, 1) := dk_42 (dk_at dksX0_of_5 9 rfl rfl)
theorem dX0_of_140 : decode cX0_of 140 = .ok (.invokevirtual 157, 3) := dk_182 0 157 (dk_at dksX0_of_5 10 rfl rfl)
theorem dX0_of_143 : decode cX0_of 143 = .ok (.iload_n 1, 1) := dk_27 (dk_at dksX0_of_5 13 rfl rfl)
theorem dX0_of_144 : decode cX0_of 144 = .ok (.invokevirtual 283, 3) := dk_182 1 27 (dk_at dksX0_of_5 14 rfl rfl)
theorem dX0_of_147 : decode cX0_of 147 = .ok (.ireturn, 1) := dk_172 (dk_at dksX0_of_5 17 rfl rfl)
theorem dX0_of_148 : decode cX0_of 148 = .ok (.aload_n 0, 1) := dk_42 (dk_at dksX0_of_5 18 rfl rfl)
theorem dX0_of_149 : decode cX0_of 149 = .ok (.getfield 21, 3) := dk_180 0 21 (dk_at dksX0_of_5 19 rfl rfl)
theorem dX0_of_152 : decode cX0_of 152 = .ok (.getfield 83, 3) := dk_180 0 83 (dk_at dksX0_of_6 0 rfl rfl)
theorem dX0_of_155 : decode cX0_of 155 = .ok (.iload_n 1, 1) := dk_27 (dk_at dksX0_of_6 3 rfl rfl)
theorem dX0_of_156 : decode cX0_of 156 = .ok (.iaload, 1) := dk_46 (dk_at dksX0_of_6 4 rfl rfl)
theorem dX0_of_157 : decode cX0_of 157 = .ok (.ireturn, 1) := dk_172 (dk_at dksX0_of_6 5 rfl rfl)
theorem dX0_of_158 : decode cX0_of 158 = .ok (.iconst (-1), 1) := dk_2 (dk_at dksX0_of_6 6 rfl rfl)
theorem dX0_of_159 : decode cX0_of 159 = .ok (.ireturn, 1) := dk_172 (dk_at dksX0_of_6 7 rfl rfl)
abbrev cX0_takesNow : ByteArray := prog_1_method_41_code
def yX0_takesNow : MethodName := ⟨RX0, "takesNow", "(LTollsForLate$Text;I)I"⟩
def dkwX0_takesNow_1 : List UInt8 := [180, 0, 21, 180, 0, 188, 42, 180, 0, 21, 180, 0, 188, 4, 46, 182, 0, 160, 182, 0, 164, 172]
abbrev dktX0_takesNow_1 : List UInt8 := dkwX0_takesNow_1 ++ []
def dkwX0_takesNow_0 : List UInt8 := [42, 43, 42, 180, 0, 21, 180, 0, 188, 28, 42, 180, 0, 21, 180, 0, 188, 4, 46, 42, 43, 42]
abbrev dktX0_takesNow_0 : List UInt8 := dkwX0_takesNow_0 ++ dktX0_takesNow_1
theorem dksX0_takesNow_0 : cX0_takesNow.data.toList.drop 0 = dktX0_takesNow_0 := by decide +kernel
theorem dksX0_takesNow_1 : cX0_takesNow.data.toList.drop 22 = dktX0_takesNow_1 := dk_seg dksX0_takesNow_0 22 rfl rfl
theorem dX0_takesNow_0 : decode cX0_takesNow 0 = .ok (.aload_n 0, 1) := dk_42 (dk_at dksX0_takesNow_0 0 rfl rfl)
theorem dX0_takesNow_1 : decode cX0_takesNow 1 = .ok (.aload_n 1, 1) := dk_43 (dk_at dksX0_takesNow_0 1 rfl rfl)
theorem dX0_takesNow_2 : decode cX0_takesNow 2 = .ok (.aload_n 0, 1) := dk_42 (dk_at dksX0_takesNow_0 2 rfl rfl)
theorem dX0_takesNow_3 : decode cX0_takesNow 3 = .ok (.getfield 21, 3) := dk_180 0 21 (dk_at dksX0_takesNow_0 3 rfl rfl)
theorem dX0_takesNow_6 : decode cX0_takesNow 6 = .ok (.getfield 188, 3) := dk_180 0 188 (dk_at dksX0_takesNow_0 6 rfl rfl)
theorem dX0_takesNow_9 : decode cX0_takesNow 9 = .ok (.iload_n 2, 1) := dk_28 (dk_at dksX0_takesNow_0 9 rfl rfl)
theorem dX0_takesNow_10 : decode cX0_takesNow 10 = .ok (.aload_n 0, 1) := dk_42 (dk_at dksX0_takesNow_0 10 rfl rfl)
theorem dX0_takesNow_11 : decode cX0_takesNow 11 = .ok (.getfield 21, 3) := dk_180 0 21 (dk_at dksX0_takesNow_0 11 rfl rfl)
theorem dX0_takesNow_14 : decode cX0_takesNow 14 = .ok (.getfield 188, 3) := dk_180 0 188 (dk_at dksX0_takesNow_0 14 rfl rfl)
theorem dX0_takesNow_17 : decode cX0_takesNow 17 = .ok (.iconst 1, 1) := dk_4 (dk_at dksX0_takesNow_0 17 rfl rfl)
theorem dX0_takesNow_18 : decode cX0_takesNow 18 = .ok (.iaload, 1) := dk_46 (dk_at dksX0_takesNow_0 18 rfl rfl)
theorem dX0_takesNow_19 : decode cX0_takesNow 19 = .ok (.aload_n 0, 1) := dk_42 (dk_at dksX0_takesNow_0 19 rfl rfl)
theorem dX0_takesNow_20 : decode cX0_takesNow 20 = .ok (.aload_n 1, 1) := dk_43 (dk_at dksX0_takesNow_0 20 rfl rfl)
theorem dX0_takesNow_21 : decode cX0_takesNow 21 = .ok (.aload_n 0, 1) := dk_42 (dk_at dksX0_takesNow_0 21 rfl rfl)
theorem dX0_takesNow_22 : decode cX0_takesNow 22 = .ok (.getfield 21, 3) := dk_180 0 21 (dk_at dksX0_takesNow_1 0 rfl rfl)
theorem dX0_takesNow_25 : decode cX0_takesNow 25 = .ok (.getfield 188, 3) := dk_180 0 188 (dk_at dksX0_takesNow_1 3 rfl rfl)
theorem dX0_takesNow_28 : decode cX0_takesNow 28 = .ok (.aload_n 0, 1) := dk_42 (dk_at dksX0_takesNow_1 6 rfl rfl)
theorem dX0_takesNow_29 : decode cX0_takesNow 29 = .ok (.getfield 21, 3) := dk_180 0 21 (dk_at dksX0_takesNow_1 7 rfl rfl)
theorem dX0_takesNow_32 : decode cX0_takesNow 32 = .ok (.getfield 188, 3) := dk_180 0 188 (dk_at dksX0_takesNow_1 10 rfl rfl)
theorem dX0_takesNow_35 : decode cX0_takesNow 35 = .ok (.iconst 1, 1) := dk_4 (dk_at dksX0_takesNow_1 13 rfl rfl)
theorem dX0_takesNow_36 : decode cX0_takesNow 36 = .ok (.iaload, 1) := dk_46 (dk_at dksX0_takesNow_1 14 rfl rfl)
theorem dX0_takesNow_37 : decode cX0_takesNow 37 = .ok (.invokevirtual 160, 3) := dk_182 0 160 (dk_at dksX0_takesNow_1 15 rfl rfl)
theorem dX0_takesNow_40 : decode cX0_takesNow 40 = .ok (.invokevirtual 164, 3) := dk_182 0 164 (dk_at dksX0_takesNow_1 18 rfl rfl)
theorem dX0_takesNow_43 : decode cX0_takesNow 43 = .ok (.ireturn, 1) := dk_172 (dk_at dksX0_takesNow_1 21 rfl rfl)
abbrev cX0_is : ByteArray := prog_1_method_43_code
def yX0_is : MethodName := ⟨RX0, "is", "(I)I"⟩
def dkwX0_is_0 : List UInt8 := [27, 3, 6, 184, 0, 62, 153, 0, 15, 42, 180, 0, 21, 180, 0, 188, 27, 46, 167, 0, 5, 16, 254, 172]
abbrev dktX0_is_0 : List UInt8 := dkwX0_is_0 ++ []
theorem dksX0_is_0 : cX0_is.data.toList.drop 0 = dktX0_is_0 := by decide +kernel
theorem dX0_is_0 : decode cX0_is 0 = .ok (.iload_n 1, 1) := dk_27 (dk_at dksX0_is_0 0 rfl rfl)
theorem dX0_is_1 : decode cX0_is 1 = .ok (.iconst 0, 1) := dk_3 (dk_at dksX0_is_0 1 rfl rfl)
theorem dX0_is_2 : decode cX0_is 2 = .ok (.iconst 3, 1) := dk_6 (dk_at dksX0_is_0 2 rfl rfl)
theorem dX0_is_3 : decode cX0_is 3 = .ok (.invokestatic 62, 3) := dk_184 0 62 (dk_at dksX0_is_0 3 rfl rfl)
theorem dX0_is_6 : decode cX0_is 6 = .ok (.ifCond .eq 15, 3) := dk_153 0 15 (dk_at dksX0_is_0 6 rfl rfl)
theorem dX0_is_9 : decode cX0_is 9 = .ok (.aload_n 0, 1) := dk_42 (dk_at dksX0_is_0 9 rfl rfl)
theorem dX0_is_10 : decode cX0_is 10 = .ok (.getfield 21, 3) := dk_180 0 21 (dk_at dksX0_is_0 10 rfl rfl)
theorem dX0_is_13 : decode cX0_is 13 = .ok (.getfield 188, 3) := dk_180 0 188 (dk_at dksX0_is_0 13 rfl rfl)
theorem dX0_is_16 : decode cX0_is 16 = .ok (.iload_n 1, 1) := dk_27 (dk_at dksX0_is_0 16 rfl rfl)
theorem dX0_is_17 : decode cX0_is 17 = .ok (.iaload, 1) := dk_46 (dk_at dksX0_is_0 17 rfl rfl)
theorem dX0_is_18 : decode cX0_is 18 = .ok (.goto 5, 3) := dk_167 0 5 (dk_at dksX0_is_0 18 rfl rfl)
theorem dX0_is_21 : decode cX0_is 21 = .ok (.bipush (-2), 2) := dk_16 254 (dk_at dksX0_is_0 21 rfl rfl)
theorem dX0_is_23 : decode cX0_is 23 = .ok (.ireturn, 1) := dk_172 (dk_at dksX0_is_0 23 rfl rfl)
abbrev cX0_book : ByteArray := prog_1_method_44_code
def yX0_book : MethodName := ⟨RX0, "book", "(II)I"⟩
def dkwX0_book_2 : List UInt8 := [180, 0, 21, 180, 0, 188, 16, 29, 7, 27, 104, 96, 28, 96, 46, 167, 0, 5, 16, 254, 172]
abbrev dktX0_book_2 : List UInt8 := dkwX0_book_2 ++ []
def dkwX0_book_1 : List UInt8 := [180, 0, 188, 16, 28, 46, 4, 100, 184, 0, 62, 153, 0, 31, 28, 3, 6, 184, 0, 62, 153, 0, 22, 42]
abbrev dktX0_book_1 : List UInt8 := dkwX0_book_1 ++ dktX0_book_2
def dkwX0_book_0 : List UInt8 := [27, 2, 160, 0, 14, 42, 180, 0, 21, 180, 0, 188, 16, 28, 46, 172, 27, 3, 42, 180, 0, 21]
abbrev dktX0_book_0 : List UInt8 := dkwX0_book_0 ++ dktX0_book_1
theorem dksX0_book_0 : cX0_book.data.toList.drop 0 = dktX0_book_0 := by decide +kernel
theorem dksX0_book_1 : cX0_book.data.toList.drop 22 = dktX0_book_1 := dk_seg dksX0_book_0 22 rfl rfl
theorem dksX0_book_2 : cX0_book.data.toList.drop 46 = dktX0_book_2 := dk_seg dksX0_book_1 24 rfl rfl
theorem dX0_book_0 : decode cX0_book 0 = .ok (.iload_n 1, 1) := dk_27 (dk_at dksX0_book_0 0 rfl rfl)
theorem dX0_book_1 : decode cX0_book 1 = .ok (.iconst (-1), 1) := dk_2 (dk_at dksX0_book_0 1 rfl rfl)
theorem dX0_book_2 : decode cX0_book 2 = .ok (.if_icmp .ne 14, 3) := dk_160 0 14 (dk_at dksX0_book_0 2 rfl rfl)
theorem dX0_book_5 : decode cX0_book 5 = .ok (.aload_n 0, 1) := dk_42 (dk_at dksX0_book_0 5 rfl rfl)
theorem dX0_book_6 : decode cX0_book 6 = .ok (.getfield 21, 3) := dk_180 0 21 (dk_at dksX0_book_0 6 rfl rfl)
theorem dX0_book_9 : decode cX0_book 9 = .ok (.getfield 188, 3) := dk_180 0 188 (dk_at dksX0_book_0 9 rfl rfl)
theorem dX0_book_12 : decode cX0_book 12 = .ok (.bipush 28, 2) := dk_16 28 (dk_at dksX0_book_0 12 rfl rfl)
theorem dX0_book_14 : decode cX0_book 14 = .ok (.iaload, 1) := dk_46 (dk_at dksX0_book_0 14 rfl rfl)
theorem dX0_book_15 : decode cX0_book 15 = .ok (.ireturn, 1) := dk_172 (dk_at dksX0_book_0 15 rfl rfl)
theorem dX0_book_16 : decode cX0_book 16 = .ok (.iload_n 1, 1) := dk_27 (dk_at dksX0_book_0 16 rfl rfl)
theorem dX0_book_17 : decode cX0_book 17 = .ok (.iconst 0, 1) := dk_3 (dk_at dksX0_book_0 17 rfl rfl)
theorem dX0_book_18 : decode cX0_book 18 = .ok (.aload_n 0, 1) := dk_42 (dk_at dksX0_book_0 18 rfl rfl)
theorem dX0_book_19 : decode cX0_book 19 = .ok (.getfield 21, 3) := dk_180 0 21 (dk_at dksX0_book_0 19 rfl rfl)
theorem dX0_book_22 : decode cX0_book 22 = .ok (.getfield 188, 3) := dk_180 0 188 (dk_at dksX0_book_1 0 rfl rfl)
theorem dX0_book_25 : decode cX0_book 25 = .ok (.bipush 28, 2) := dk_16 28 (dk_at dksX0_book_1 3 rfl rfl)
theorem dX0_book_27 : decode cX0_book 27 = .ok (.iaload, 1) := dk_46 (dk_at dksX0_book_1 5 rfl rfl)
theorem dX0_book_28 : decode cX0_book 28 = .ok (.iconst 1, 1) := dk_4 (dk_at dksX0_book_1 6 rfl rfl)
theorem dX0_book_29 : decode cX0_book 29 = .ok (.isub, 1) := dk_100 (dk_at dksX0_book_1 7 rfl rfl)
theorem dX0_book_30 : decode cX0_book 30 = .ok (.invokestatic 62, 3) := dk_184 0 62 (dk_at dksX0_book_1 8 rfl rfl)
theorem dX0_book_33 : decode cX0_book 33 = .ok (.ifCond .eq 31, 3) := dk_153 0 31 (dk_at dksX0_book_1 11 rfl rfl)
theorem dX0_book_36 : decode cX0_book 36 = .ok (.iload_n 2, 1) := dk_28 (dk_at dksX0_book_1 14 rfl rfl)
theorem dX0_book_37 : decode cX0_book 37 = .ok (.iconst 0, 1) := dk_3 (dk_at dksX0_book_1 15 rfl rfl)
theorem dX0_book_38 : decode cX0_book 38 = .ok (.iconst 3, 1) := dk_6 (dk_at dksX0_book_1 16 rfl rfl)
theorem dX0_book_39 : decode cX0_book 39 = .ok (.invokestatic 62, 3) := dk_184 0 62 (dk_at dksX0_book_1 17 rfl rfl)
theorem dX0_book_42 : decode cX0_book 42 = .ok (.ifCond .eq 22, 3) := dk_153 0 22 (dk_at dksX0_book_1 20 rfl rfl)
theorem dX0_book_45 : decode cX0_book 45 = .ok (.aload_n 0, 1) := dk_42 (dk_at dksX0_book_1 23 rfl rfl)
theorem dX0_book_46 : decode cX0_book 46 = .ok (.getfield 21, 3) := dk_180 0 21 (dk_at dksX0_book_2 0 rfl rfl)
theorem dX0_book_49 : decode cX0_book 49 = .ok (.getfield 188, 3) := dk_180 0 188 (dk_at dksX0_book_2 3 rfl rfl)
theorem dX0_book_52 : decode cX0_book 52 = .ok (.bipush 29, 2) := dk_16 29 (dk_at dksX0_book_2 6 rfl rfl)
theorem dX0_book_54 : decode cX0_book 54 = .ok (.iconst 4, 1) := dk_7 (dk_at dksX0_book_2 8 rfl rfl)
theorem dX0_book_55 : decode cX0_book 55 = .ok (.iload_n 1, 1) := dk_27 (dk_at dksX0_book_2 9 rfl rfl)
theorem dX0_book_56 : decode cX0_book 56 = .ok (.imul, 1) := dk_104 (dk_at dksX0_book_2 10 rfl rfl)
theorem dX0_book_57 : decode cX0_book 57 = .ok (.iadd, 1) := dk_96 (dk_at dksX0_book_2 11 rfl rfl)
theorem dX0_book_58 : decode cX0_book 58 = .ok (.iload_n 2, 1) := dk_28 (dk_at dksX0_book_2 12 rfl rfl)
theorem dX0_book_59 : decode cX0_book 59 = .ok (.iadd, 1) := dk_96 (dk_at dksX0_book_2 13 rfl rfl)
theorem dX0_book_60 : decode cX0_book 60 = .ok (.iaload, 1) := dk_46 (dk_at dksX0_book_2 14 rfl rfl)
theorem dX0_book_61 : decode cX0_book 61 = .ok (.goto 5, 3) := dk_167 0 5 (dk_at dksX0_book_2 15 rfl rfl)
theorem dX0_book_64 : decode cX0_book 64 = .ok (.bipush (-2), 2) := dk_16 254 (dk_at dksX0_book_2 18 rfl rfl)
theorem dX0_book_66 : decode cX0_book 66 = .ok (.ireturn, 1) := dk_172 (dk_at dksX0_book_2 20 rfl rfl)
abbrev cX0_foretold : ByteArray := prog_1_method_45_code
def yX0_foretold : MethodName := ⟨RX0, "foretold", "(II)I"⟩
def dkwX0_foretold_4 : List UInt8 := [29, 167, 0, 9, 42, 180, 0, 43, 5, 46, 172]
abbrev dktX0_foretold_4 : List UInt8 := dkwX0_foretold_4 ++ []
def dkwX0_foretold_3 : List UInt8 := [132, 4, 1, 167, 255, 224, 28, 154, 0, 12, 42, 180, 0, 43, 4, 46, 167, 0, 18, 28, 4, 160, 0, 7]
abbrev dktX0_foretold_3 : List UInt8 := dkwX0_foretold_3 ++ dktX0_foretold_4
def dkwX0_foretold_2 : List UInt8 := [42, 180, 0, 43, 3, 46, 17, 39, 15, 162, 0, 20, 29, 42, 42, 180, 0, 43, 182, 0, 194, 96, 62]
abbrev dktX0_foretold_2 : List UInt8 := dkwX0_foretold_2 ++ dktX0_foretold_3
def dkwX0_foretold_1 : List UInt8 := [180, 0, 21, 180, 0, 188, 42, 180, 0, 43, 184, 1, 23, 3, 62, 3, 54, 4, 21, 4, 27, 162, 0, 32]
abbrev dktX0_foretold_1 : List UInt8 := dkwX0_foretold_1 ++ dktX0_foretold_2
def dkwX0_foretold_0 : List UInt8 := [27, 4, 16, 60, 184, 0, 62, 153, 0, 12, 28, 3, 5, 184, 0, 62, 154, 0, 5, 2, 172, 42]
abbrev dktX0_foretold_0 : List UInt8 := dkwX0_foretold_0 ++ dktX0_foretold_1
theorem dksX0_foretold_0 : cX0_foretold.data.toList.drop 0 = dktX0_foretold_0 := by decide +kernel
theorem dksX0_foretold_1 : cX0_foretold.data.toList.drop 22 = dktX0_foretold_1 := dk_seg dksX0_foretold_0 22 rfl rfl
theorem dksX0_foretold_2 : cX0_foretold.data.toList.drop 46 = dktX0_foretold_2 := dk_seg dksX0_foretold_1 24 rfl rfl
theorem dksX0_foretold_3 : cX0_foretold.data.toList.drop 69 = dktX0_foretold_3 := dk_seg dksX0_foretold_2 23 rfl rfl
theorem dksX0_foretold_4 : cX0_foretold.data.toList.drop 93 = dktX0_foretold_4 := dk_seg dksX0_foretold_3 24 rfl rfl
theorem dX0_foretold_0 : decode cX0_foretold 0 = .ok (.iload_n 1, 1) := dk_27 (dk_at dksX0_foretold_0 0 rfl rfl)
theorem dX0_foretold_1 : decode cX0_foretold 1 = .ok (.iconst 1, 1) := dk_4 (dk_at dksX0_foretold_0 1 rfl rfl)
theorem dX0_foretold_2 : decode cX0_foretold 2 = .ok (.bipush 60, 2) := dk_16 60 (dk_at dksX0_foretold_0 2 rfl rfl)
theorem dX0_foretold_4 : decode cX0_foretold 4 = .ok (.invokestatic 62, 3) := dk_184 0 62 (dk_at dksX0_foretold_0 4 rfl rfl)
theorem dX0_foretold_7 : decode cX0_foretold 7 = .ok (.ifCond .eq 12, 3) := dk_153 0 12 (dk_at dksX0_foretold_0 7 rfl rfl)
theorem dX0_foretold_10 : decode cX0_foretold 10 = .ok (.iload_n 2, 1) := dk_28 (dk_at dksX0_foretold_0 10 rfl rfl)
theorem dX0_foretold_11 : decode cX0_foretold 11 = .ok (.iconst 0, 1) := dk_3 (dk_at dksX0_foretold_0 11 rfl rfl)
theorem dX0_foretold_12 : decode cX0_foretold 12 = .ok (.iconst 2, 1) := dk_5 (dk_at dksX0_foretold_0 12 rfl rfl)
theorem dX0_foretold_13 : decode cX0_foretold 13 = .ok (.invokestatic 62, 3) := dk_184 0 62 (dk_at dksX0_foretold_0 13 rfl rfl)
theorem dX0_foretold_16 : decode cX0_foretold 16 = .ok (.ifCond .ne 5, 3) := dk_154 0 5 (dk_at dksX0_foretold_0 16 rfl rfl)
theorem dX0_foretold_19 : decode cX0_foretold 19 = .ok (.iconst (-1), 1) := dk_2 (dk_at dksX0_foretold_0 19 rfl rfl)
theorem dX0_foretold_20 : decode cX0_foretold 20 = .ok (.ireturn, 1) := dk_172 (dk_at dksX0_foretold_0 20 rfl rfl)
theorem dX0_foretold_21 : decode cX0_foretold 21 = .ok (.aload_n 0, 1) := dk_42 (dk_at dksX0_foretold_0 21 rfl rfl)
theorem dX0_foretold_22 : decode cX0_foretold 22 = .ok (.getfield 21, 3) := dk_180 0 21 (dk_at dksX0_foretold_1 0 rfl rfl)
theorem dX0_foretold_25 : decode cX0_foretold 25 = .ok (.getfield 188, 3) := dk_180 0 188 (dk_at dksX0_foretold_1 3 rfl rfl)
theorem dX0_foretold_28 : decode cX0_foretold 28 = .ok (.aload_n 0, 1) := dk_42 (dk_at dksX0_foretold_1 6 rfl rfl)
theorem dX0_foretold_29 : decode cX0_foretold 29 = .ok (.getfield 43, 3) := dk_180 0 43 (dk_at dksX0_foretold_1 7 rfl rfl)
theorem dX0_foretold_32 : decode cX0_foretold 32 = .ok (.invokestatic 279, 3) := dk_184 1 23 (dk_at dksX0_foretold_1 10 rfl rfl)
theorem dX0_foretold_35 : decode cX0_foretold 35 = .ok (.iconst 0, 1) := dk_3 (dk_at dksX0_foretold_1 13 rfl rfl)
theorem dX0_foretold_36 : decode cX0_foretold 36 = .ok (.istore_n 3, 1) := dk_62 (dk_at dksX0_foretold_1 14 rfl rfl)
theorem dX0_foretold_37 : decode cX0_foretold 37 = .ok (.iconst 0, 1) := dk_3 (dk_at dksX0_foretold_1 15 rfl rfl)
theorem dX0_foretold_38 : decode cX0_foretold 38 = .ok (.istore 4, 2) := dk_54 4 (dk_at dksX0_foretold_1 16 rfl rfl)
theorem dX0_foretold_40 : decode cX0_foretold 40 = .ok (.iload 4, 2) := dk_21 4 (dk_at dksX0_foretold_1 18 rfl rfl)
theorem dX0_foretold_42 : decode cX0_foretold 42 = .ok (.iload_n 1, 1) := dk_27 (dk_at dksX0_foretold_1 20 rfl rfl)
theorem dX0_foretold_43 : decode cX0_foretold 43 = .ok (.if_icmp .ge 32, 3) := dk_162 0 32 (dk_at dksX0_foretold_1 21 rfl rfl)
theorem dX0_foretold_46 : decode cX0_foretold 46 = .ok (.aload_n 0, 1) := dk_42 (dk_at dksX0_foretold_2 0 rfl rfl)
theorem dX0_foretold_47 : decode cX0_foretold 47 = .ok (.getfield 43, 3) := dk_180 0 43 (dk_at dksX0_foretold_2 1 rfl rfl)
theorem dX0_foretold_50 : decode cX0_foretold 50 = .ok (.iconst 0, 1) := dk_3 (dk_at dksX0_foretold_2 4 rfl rfl)
theorem dX0_foretold_51 : decode cX0_foretold 51 = .ok (.iaload, 1) := dk_46 (dk_at dksX0_foretold_2 5 rfl rfl)
theorem dX0_foretold_52 : decode cX0_foretold 52 = .ok (.sipush 9999, 3) := dk_17 39 15 (dk_at dksX0_foretold_2 6 rfl rfl)
theorem dX0_foretold_55 : decode cX0_foretold 55 = .ok (.if_icmp .ge 20, 3) := dk_162 0 20 (dk_at dksX0_foretold_2 9 rfl rfl)
theorem dX0_foretold_58 : decode cX0_foretold 58 = .ok (.iload_n 3, 1) := dk_29 (dk_at dksX0_foretold_2 12 rfl rfl)
theorem dX0_foretold_59 : decode cX0_foretold 59 = .ok (.aload_n 0, 1) := dk_42 (dk_at dksX0_foretold_2 13 rfl rfl)
theorem dX0_foretold_60 : decode cX0_foretold 60 = .ok (.aload_n 0, 1) := dk_42 (dk_at dksX0_foretold_2 14 rfl rfl)
theorem dX0_foretold_61 : decode cX0_foretold 61 = .ok (.getfield 43, 3) := dk_180 0 43 (dk_at dksX0_foretold_2 15 rfl rfl)
theorem dX0_foretold_64 : decode cX0_foretold 64 = .ok (.invokevirtual 194, 3) := dk_182 0 194 (dk_at dksX0_foretold_2 18 rfl rfl)
theorem dX0_foretold_67 : decode cX0_foretold 67 = .ok (.iadd, 1) := dk_96 (dk_at dksX0_foretold_2 21 rfl rfl)
theorem dX0_foretold_68 : decode cX0_foretold 68 = .ok (.istore_n 3, 1) := dk_62 (dk_at dksX0_foretold_2 22 rfl rfl)
theorem dX0_foretold_69 : decode cX0_foretold 69 = .ok (.iinc 4 1, 3) := dk_132 4 1 (dk_at dksX0_foretold_3 0 rfl rfl)
theorem dX0_foretold_72 : decode cX0_foretold 72 = .ok (.goto (-32), 3) := dk_167 255 224 (dk_at dksX0_foretold_3 3 rfl rfl)
theorem dX0_foretold_75 : decode cX0_foretold 75 = .ok (.iload_n 2, 1) := dk_28 (dk_at dksX0_foretold_3 6 rfl rfl)
theorem dX0_foretold_76 : decode cX0_foretold 76 = .ok (.ifCond .ne 12, 3) := dk_154 0 12 (dk_at dksX0_foretold_3 7 rfl rfl)
theorem dX0_foretold_79 : decode cX0_foretold 79 = .ok (.aload_n 0, 1) := dk_42 (dk_at dksX0_foretold_3 10 rfl rfl)
theorem dX0_foretold_80 : decode cX0_foretold 80 = .ok (.getfield 43, 3) := dk_180 0 43 (dk_at dksX0_foretold_3 11 rfl rfl)
theorem dX0_foretold_83 : decode cX0_foretold 83 = .ok (.iconst 1, 1) := dk_4 (dk_at dksX0_foretold_3 14 rfl rfl)
theorem dX0_foretold_84 : decode cX0_foretold 84 = .ok (.iaload, 1) := dk_46 (dk_at dksX0_foretold_3 15 rfl rfl)
theorem dX0_foretold_85 : decode cX0_foretold 85 = .ok (.goto 18, 3) := dk_167 0 18 (dk_at dksX0_foretold_3 16 rfl rfl)
theorem dX0_foretold_88 : decode cX0_foretold 88 = .ok (.iload_n 2, 1) := dk_28 (dk_at dksX0_foretold_3 19 rfl rfl)
theorem dX0_foretold_89 : decode cX0_foretold 89 = .ok (.iconst 1, 1) := dk_4 (dk_at dksX0_foretold_3 20 rfl rfl)
theorem dX0_foretold_90 : decode cX0_foretold 90 = .ok (.if_icmp .ne 7, 3) := dk_160 0 7 (dk_at dksX0_foretold_3 21 rfl rfl)
theorem dX0_foretold_93 : decode cX0_foretold 93 = .ok (.iload_n 3, 1) := dk_29 (dk_at dksX0_foretold_4 0 rfl rfl)
theorem dX0_foretold_94 : decode cX0_foretold 94 = .ok (.goto 9, 3) := dk_167 0 9 (dk_at dksX0_foretold_4 1 rfl rfl)
theorem dX0_foretold_97 : decode cX0_foretold 97 = .ok (.aload_n 0, 1) := dk_42 (dk_at dksX0_foretold_4 4 rfl rfl)
theorem dX0_foretold_98 : decode cX0_foretold 98 = .ok (.getfield 43, 3) := dk_180 0 43 (dk_at dksX0_foretold_4 5 rfl rfl)
theorem dX0_foretold_101 : decode cX0_foretold 101 = .ok (.iconst 2, 1) := dk_5 (dk_at dksX0_foretold_4 8 rfl rfl)
theorem dX0_foretold_102 : decode cX0_foretold 102 = .ok (.iaload, 1) := dk_46 (dk_at dksX0_foretold_4 9 rfl rfl)
theorem dX0_foretold_103 : decode cX0_foretold 103 = .ok (.ireturn, 1) := dk_172 (dk_at dksX0_foretold_4 10 rfl rfl)
abbrev cX0_late : ByteArray := prog_1_method_46_code
def yX0_late : MethodName := ⟨RX0, "late", "(I)I"⟩
def dkwX0_late_1 : List UInt8 := [172]
abbrev dktX0_late_1 : List UInt8 := dkwX0_late_1 ++ []
def dkwX0_late_0 : List UInt8 := [42, 27, 182, 0, 198, 153, 0, 18, 42, 42, 180, 0, 21, 180, 0, 188, 27, 182, 0, 178, 167, 0, 4, 2]
abbrev dktX0_late_0 : List UInt8 := dkwX0_late_0 ++ dktX0_late_1
theorem dksX0_late_0 : cX0_late.data.toList.drop 0 = dktX0_late_0 := by decide +kernel
theorem dksX0_late_1 : cX0_late.data.toList.drop 24 = dktX0_late_1 := dk_seg dksX0_late_0 24 rfl rfl
theorem dX0_late_0 : decode cX0_late 0 = .ok (.aload_n 0, 1) := dk_42 (dk_at dksX0_late_0 0 rfl rfl)
theorem dX0_late_1 : decode cX0_late 1 = .ok (.iload_n 1, 1) := dk_27 (dk_at dksX0_late_0 1 rfl rfl)
theorem dX0_late_2 : decode cX0_late 2 = .ok (.invokevirtual 198, 3) := dk_182 0 198 (dk_at dksX0_late_0 2 rfl rfl)
theorem dX0_late_5 : decode cX0_late 5 = .ok (.ifCond .eq 18, 3) := dk_153 0 18 (dk_at dksX0_late_0 5 rfl rfl)
theorem dX0_late_8 : decode cX0_late 8 = .ok (.aload_n 0, 1) := dk_42 (dk_at dksX0_late_0 8 rfl rfl)
theorem dX0_late_9 : decode cX0_late 9 = .ok (.aload_n 0, 1) := dk_42 (dk_at dksX0_late_0 9 rfl rfl)
theorem dX0_late_10 : decode cX0_late 10 = .ok (.getfield 21, 3) := dk_180 0 21 (dk_at dksX0_late_0 10 rfl rfl)
theorem dX0_late_13 : decode cX0_late 13 = .ok (.getfield 188, 3) := dk_180 0 188 (dk_at dksX0_late_0 13 rfl rfl)
theorem dX0_late_16 : decode cX0_late 16 = .ok (.iload_n 1, 1) := dk_27 (dk_at dksX0_late_0 16 rfl rfl)
theorem dX0_late_17 : decode cX0_late 17 = .ok (.invokevirtual 178, 3) := dk_182 0 178 (dk_at dksX0_late_0 17 rfl rfl)
theorem dX0_late_20 : decode cX0_late 20 = .ok (.goto 4, 3) := dk_167 0 4 (dk_at dksX0_late_0 20 rfl rfl)
theorem dX0_late_23 : decode cX0_late 23 = .ok (.iconst (-1), 1) := dk_2 (dk_at dksX0_late_0 23 rfl rfl)
theorem dX0_late_24 : decode cX0_late 24 = .ok (.ireturn, 1) := dk_172 (dk_at dksX0_late_1 0 rfl rfl)
abbrev cX0_runners : ByteArray := prog_1_method_47_code
def yX0_runners : MethodName := ⟨RX0, "runners", "(I)I"⟩
def dkwX0_runners_1 : List UInt8 := [167, 0, 4, 2, 172]
abbrev dktX0_runners_1 : List UInt8 := dkwX0_runners_1 ++ []
def dkwX0_runners_0 : List UInt8 := [42, 27, 182, 0, 198, 153, 0, 22, 42, 42, 182, 0, 157, 42, 180, 0, 21, 180, 0, 188, 27, 182, 0, 160]
abbrev dktX0_runners_0 : List UInt8 := dkwX0_runners_0 ++ dktX0_runners_1
theorem dksX0_runners_0 : cX0_runners.data.toList.drop 0 = dktX0_runners_0 := by decide +kernel
theorem dksX0_runners_1 : cX0_runners.data.toList.drop 24 = dktX0_runners_1 := dk_seg dksX0_runners_0 24 rfl rfl
theorem dX0_runners_0 : decode cX0_runners 0 = .ok (.aload_n 0, 1) := dk_42 (dk_at dksX0_runners_0 0 rfl rfl)
theorem dX0_runners_1 : decode cX0_runners 1 = .ok (.iload_n 1, 1) := dk_27 (dk_at dksX0_runners_0 1 rfl rfl)
theorem dX0_runners_2 : decode cX0_runners 2 = .ok (.invokevirtual 198, 3) := dk_182 0 198 (dk_at dksX0_runners_0 2 rfl rfl)
theorem dX0_runners_5 : decode cX0_runners 5 = .ok (.ifCond .eq 22, 3) := dk_153 0 22 (dk_at dksX0_runners_0 5 rfl rfl)
theorem dX0_runners_8 : decode cX0_runners 8 = .ok (.aload_n 0, 1) := dk_42 (dk_at dksX0_runners_0 8 rfl rfl)
theorem dX0_runners_9 : decode cX0_runners 9 = .ok (.aload_n 0, 1) := dk_42 (dk_at dksX0_runners_0 9 rfl rfl)
theorem dX0_runners_10 : decode cX0_runners 10 = .ok (.invokevirtual 157, 3) := dk_182 0 157 (dk_at dksX0_runners_0 10 rfl rfl)
theorem dX0_runners_13 : decode cX0_runners 13 = .ok (.aload_n 0, 1) := dk_42 (dk_at dksX0_runners_0 13 rfl rfl)
theorem dX0_runners_14 : decode cX0_runners 14 = .ok (.getfield 21, 3) := dk_180 0 21 (dk_at dksX0_runners_0 14 rfl rfl)
theorem dX0_runners_17 : decode cX0_runners 17 = .ok (.getfield 188, 3) := dk_180 0 188 (dk_at dksX0_runners_0 17 rfl rfl)
theorem dX0_runners_20 : decode cX0_runners 20 = .ok (.iload_n 1, 1) := dk_27 (dk_at dksX0_runners_0 20 rfl rfl)
theorem dX0_runners_21 : decode cX0_runners 21 = .ok (.invokevirtual 160, 3) := dk_182 0 160 (dk_at dksX0_runners_0 21 rfl rfl)
theorem dX0_runners_24 : decode cX0_runners 24 = .ok (.goto 4, 3) := dk_167 0 4 (dk_at dksX0_runners_1 0 rfl rfl)
theorem dX0_runners_27 : decode cX0_runners 27 = .ok (.iconst (-1), 1) := dk_2 (dk_at dksX0_runners_1 3 rfl rfl)
theorem dX0_runners_28 : decode cX0_runners 28 = .ok (.ireturn, 1) := dk_172 (dk_at dksX0_runners_1 4 rfl rfl)
abbrev cX0_settled : ByteArray := prog_1_method_50_code
def yX0_settled : MethodName := ⟨RX0, "settled", "(I)I"⟩
def dkwX0_settled_1 : List UInt8 := [184, 0, 62, 153, 0, 12, 42, 180, 0, 49, 27, 46, 167, 0, 5, 16, 254, 172]
abbrev dktX0_settled_1 : List UInt8 := dkwX0_settled_1 ++ []
def dkwX0_settled_0 : List UInt8 := [42, 182, 1, 37, 27, 2, 160, 0, 10, 42, 180, 1, 34, 167, 0, 28, 27, 3, 42, 180, 1, 34, 4, 100]
abbrev dktX0_settled_0 : List UInt8 := dkwX0_settled_0 ++ dktX0_settled_1
theorem dksX0_settled_0 : cX0_settled.data.toList.drop 0 = dktX0_settled_0 := by decide +kernel
theorem dksX0_settled_1 : cX0_settled.data.toList.drop 24 = dktX0_settled_1 := dk_seg dksX0_settled_0 24 rfl rfl
theorem dX0_settled_0 : decode cX0_settled 0 = .ok (.aload_n 0, 1) := dk_42 (dk_at dksX0_settled_0 0 rfl rfl)
theorem dX0_settled_1 : decode cX0_settled 1 = .ok (.invokevirtual 293, 3) := dk_182 1 37 (dk_at dksX0_settled_0 1 rfl rfl)
theorem dX0_settled_4 : decode cX0_settled 4 = .ok (.iload_n 1, 1) := dk_27 (dk_at dksX0_settled_0 4 rfl rfl)
theorem dX0_settled_5 : decode cX0_settled 5 = .ok (.iconst (-1), 1) := dk_2 (dk_at dksX0_settled_0 5 rfl rfl)
theorem dX0_settled_6 : decode cX0_settled 6 = .ok (.if_icmp .ne 10, 3) := dk_160 0 10 (dk_at dksX0_settled_0 6 rfl rfl)
theorem dX0_settled_9 : decode cX0_settled 9 = .ok (.aload_n 0, 1) := dk_42 (dk_at dksX0_settled_0 9 rfl rfl)
theorem dX0_settled_10 : decode cX0_settled 10 = .ok (.getfield 290, 3) := dk_180 1 34 (dk_at dksX0_settled_0 10 rfl rfl)
theorem dX0_settled_13 : decode cX0_settled 13 = .ok (.goto 28, 3) := dk_167 0 28 (dk_at dksX0_settled_0 13 rfl rfl)
theorem dX0_settled_16 : decode cX0_settled 16 = .ok (.iload_n 1, 1) := dk_27 (dk_at dksX0_settled_0 16 rfl rfl)
theorem dX0_settled_17 : decode cX0_settled 17 = .ok (.iconst 0, 1) := dk_3 (dk_at dksX0_settled_0 17 rfl rfl)
theorem dX0_settled_18 : decode cX0_settled 18 = .ok (.aload_n 0, 1) := dk_42 (dk_at dksX0_settled_0 18 rfl rfl)
theorem dX0_settled_19 : decode cX0_settled 19 = .ok (.getfield 290, 3) := dk_180 1 34 (dk_at dksX0_settled_0 19 rfl rfl)
theorem dX0_settled_22 : decode cX0_settled 22 = .ok (.iconst 1, 1) := dk_4 (dk_at dksX0_settled_0 22 rfl rfl)
theorem dX0_settled_23 : decode cX0_settled 23 = .ok (.isub, 1) := dk_100 (dk_at dksX0_settled_0 23 rfl rfl)
theorem dX0_settled_24 : decode cX0_settled 24 = .ok (.invokestatic 62, 3) := dk_184 0 62 (dk_at dksX0_settled_1 0 rfl rfl)
theorem dX0_settled_27 : decode cX0_settled 27 = .ok (.ifCond .eq 12, 3) := dk_153 0 12 (dk_at dksX0_settled_1 3 rfl rfl)
theorem dX0_settled_30 : decode cX0_settled 30 = .ok (.aload_n 0, 1) := dk_42 (dk_at dksX0_settled_1 6 rfl rfl)
theorem dX0_settled_31 : decode cX0_settled 31 = .ok (.getfield 49, 3) := dk_180 0 49 (dk_at dksX0_settled_1 7 rfl rfl)
theorem dX0_settled_34 : decode cX0_settled 34 = .ok (.iload_n 1, 1) := dk_27 (dk_at dksX0_settled_1 10 rfl rfl)
theorem dX0_settled_35 : decode cX0_settled 35 = .ok (.iaload, 1) := dk_46 (dk_at dksX0_settled_1 11 rfl rfl)
theorem dX0_settled_36 : decode cX0_settled 36 = .ok (.goto 5, 3) := dk_167 0 5 (dk_at dksX0_settled_1 12 rfl rfl)
theorem dX0_settled_39 : decode cX0_settled 39 = .ok (.bipush (-2), 2) := dk_16 254 (dk_at dksX0_settled_1 15 rfl rfl)
theorem dX0_settled_41 : decode cX0_settled 41 = .ok (.ireturn, 1) := dk_172 (dk_at dksX0_settled_1 17 rfl rfl)
abbrev cX0_laysSettled : ByteArray := prog_1_method_49_code
def yX0_laysSettled : MethodName := ⟨RX0, "laysSettled", "()V"⟩
def dkwX0_laysSettled_2 : List UInt8 := [96, 181, 1, 34, 132, 1, 1, 167, 255, 212, 177]
abbrev dktX0_laysSettled_2 : List UInt8 := dkwX0_laysSettled_2 ++ []
def dkwX0_laysSettled_1 : List UInt8 := [46, 27, 159, 0, 6, 167, 0, 23, 42, 180, 0, 49, 42, 180, 1, 34, 27, 79, 42, 89, 180, 1, 34, 4]
abbrev dktX0_laysSettled_1 : List UInt8 := dkwX0_laysSettled_1 ++ dktX0_laysSettled_2
def dkwX0_laysSettled_0 : List UInt8 := [42, 182, 1, 31, 42, 3, 181, 1, 34, 3, 60, 27, 42, 182, 0, 66, 162, 0, 42, 42, 180, 0, 46, 27]
abbrev dktX0_laysSettled_0 : List UInt8 := dkwX0_laysSettled_0 ++ dktX0_laysSettled_1
theorem dksX0_laysSettled_0 : cX0_laysSettled.data.toList.drop 0 = dktX0_laysSettled_0 := by decide +kernel
theorem dksX0_laysSettled_1 : cX0_laysSettled.data.toList.drop 24 = dktX0_laysSettled_1 := dk_seg dksX0_laysSettled_0 24 rfl rfl
theorem dksX0_laysSettled_2 : cX0_laysSettled.data.toList.drop 48 = dktX0_laysSettled_2 := dk_seg dksX0_laysSettled_1 24 rfl rfl
theorem dX0_laysSettled_0 : decode cX0_laysSettled 0 = .ok (.aload_n 0, 1) := dk_42 (dk_at dksX0_laysSettled_0 0 rfl rfl)
theorem dX0_laysSettled_1 : decode cX0_laysSettled 1 = .ok (.invokevirtual 287, 3) := dk_182 1 31 (dk_at dksX0_laysSettled_0 1 rfl rfl)
theorem dX0_laysSettled_4 : decode cX0_laysSettled 4 = .ok (.aload_n 0, 1) := dk_42 (dk_at dksX0_laysSettled_0 4 rfl rfl)
theorem dX0_laysSettled_5 : decode cX0_laysSettled 5 = .ok (.iconst 0, 1) := dk_3 (dk_at dksX0_laysSettled_0 5 rfl rfl)
theorem dX0_laysSettled_6 : decode cX0_laysSettled 6 = .ok (.putfield 290, 3) := dk_181 1 34 (dk_at dksX0_laysSettled_0 6 rfl rfl)
theorem dX0_laysSettled_9 : decode cX0_laysSettled 9 = .ok (.iconst 0, 1) := dk_3 (dk_at dksX0_laysSettled_0 9 rfl rfl)
theorem dX0_laysSettled_10 : decode cX0_laysSettled 10 = .ok (.istore_n 1, 1) := dk_60 (dk_at dksX0_laysSettled_0 10 rfl rfl)
theorem dX0_laysSettled_11 : decode cX0_laysSettled 11 = .ok (.iload_n 1, 1) := dk_27 (dk_at dksX0_laysSettled_0 11 rfl rfl)
theorem dX0_laysSettled_12 : decode cX0_laysSettled 12 = .ok (.aload_n 0, 1) := dk_42 (dk_at dksX0_laysSettled_0 12 rfl rfl)
theorem dX0_laysSettled_13 : decode cX0_laysSettled 13 = .ok (.invokevirtual 66, 3) := dk_182 0 66 (dk_at dksX0_laysSettled_0 13 rfl rfl)
theorem dX0_laysSettled_16 : decode cX0_laysSettled 16 = .ok (.if_icmp .ge 42, 3) := dk_162 0 42 (dk_at dksX0_laysSettled_0 16 rfl rfl)
theorem dX0_laysSettled_19 : decode cX0_laysSettled 19 = .ok (.aload_n 0, 1) := dk_42 (dk_at dksX0_laysSettled_0 19 rfl rfl)
theorem dX0_laysSettled_20 : decode cX0_laysSettled 20 = .ok (.getfield 46, 3) := dk_180 0 46 (dk_at dksX0_laysSettled_0 20 rfl rfl)
theorem dX0_laysSettled_23 : decode cX0_laysSettled 23 = .ok (.iload_n 1, 1) := dk_27 (dk_at dksX0_laysSettled_0 23 rfl rfl)
theorem dX0_laysSettled_24 : decode cX0_laysSettled 24 = .ok (.iaload, 1) := dk_46 (dk_at dksX0_laysSettled_1 0 rfl rfl)
theorem dX0_laysSettled_25 : decode cX0_laysSettled 25 = .ok (.iload_n 1, 1) := dk_27 (dk_at dksX0_laysSettled_1 1 rfl rfl)
theorem dX0_laysSettled_26 : decode cX0_laysSettled 26 = .ok (.if_icmp .eq 6, 3) := dk_159 0 6 (dk_at dksX0_laysSettled_1 2 rfl rfl)
theorem dX0_laysSettled_29 : decode cX0_laysSettled 29 = .ok (.goto 23, 3) := dk_167 0 23 (dk_at dksX0_laysSettled_1 5 rfl rfl)
theorem dX0_laysSettled_32 : decode cX0_laysSettled 32 = .ok (.aload_n 0, 1) := dk_42 (dk_at dksX0_laysSettled_1 8 rfl rfl)
theorem dX0_laysSettled_33 : decode cX0_laysSettled 33 = .ok (.getfield 49, 3) := dk_180 0 49 (dk_at dksX0_laysSettled_1 9 rfl rfl)
theorem dX0_laysSettled_36 : decode cX0_laysSettled 36 = .ok (.aload_n 0, 1) := dk_42 (dk_at dksX0_laysSettled_1 12 rfl rfl)
theorem dX0_laysSettled_37 : decode cX0_laysSettled 37 = .ok (.getfield 290, 3) := dk_180 1 34 (dk_at dksX0_laysSettled_1 13 rfl rfl)
theorem dX0_laysSettled_40 : decode cX0_laysSettled 40 = .ok (.iload_n 1, 1) := dk_27 (dk_at dksX0_laysSettled_1 16 rfl rfl)
theorem dX0_laysSettled_41 : decode cX0_laysSettled 41 = .ok (.iastore, 1) := dk_79 (dk_at dksX0_laysSettled_1 17 rfl rfl)
theorem dX0_laysSettled_42 : decode cX0_laysSettled 42 = .ok (.aload_n 0, 1) := dk_42 (dk_at dksX0_laysSettled_1 18 rfl rfl)
theorem dX0_laysSettled_43 : decode cX0_laysSettled 43 = .ok (.dup, 1) := dk_89 (dk_at dksX0_laysSettled_1 19 rfl rfl)
theorem dX0_laysSettled_44 : decode cX0_laysSettled 44 = .ok (.getfield 290, 3) := dk_180 1 34 (dk_at dksX0_laysSettled_1 20 rfl rfl)
theorem dX0_laysSettled_47 : decode cX0_laysSettled 47 = .ok (.iconst 1, 1) := dk_4 (dk_at dksX0_laysSettled_1 23 rfl rfl)
theorem dX0_laysSettled_48 : decode cX0_laysSettled 48 = .ok (.iadd, 1) := dk_96 (dk_at dksX0_laysSettled_2 0 rfl rfl)
theorem dX0_laysSettled_49 : decode cX0_laysSettled 49 = .ok (.putfield 290, 3) := dk_181 1 34 (dk_at dksX0_laysSettled_2 1 rfl rfl)
theorem dX0_laysSettled_52 : decode cX0_laysSettled 52 = .ok (.iinc 1 1, 3) := dk_132 1 1 (dk_at dksX0_laysSettled_2 4 rfl rfl)
theorem dX0_laysSettled_55 : decode cX0_laysSettled 55 = .ok (.goto (-44), 3) := dk_167 255 212 (dk_at dksX0_laysSettled_2 7 rfl rfl)
theorem dX0_laysSettled_58 : decode cX0_laysSettled 58 = .ok (.return_, 1) := dk_177 (dk_at dksX0_laysSettled_2 10 rfl rfl)
abbrev cX0_laysLeads : ByteArray := prog_1_method_48_code
def yX0_laysLeads : MethodName := ⟨RX0, "laysLeads", "()V"⟩
def dkwX0_laysLeads_1 : List UInt8 := [182, 0, 178, 79, 132, 1, 1, 167, 255, 227, 177]
abbrev dktX0_laysLeads_1 : List UInt8 := dkwX0_laysLeads_1 ++ []
def dkwX0_laysLeads_0 : List UInt8 := [3, 60, 27, 42, 182, 0, 66, 162, 0, 27, 42, 180, 0, 46, 27, 42, 42, 180, 0, 21, 180, 0, 188, 27]
abbrev dktX0_laysLeads_0 : List UInt8 := dkwX0_laysLeads_0 ++ dktX0_laysLeads_1
theorem dksX0_laysLeads_0 : cX0_laysLeads.data.toList.drop 0 = dktX0_laysLeads_0 := by decide +kernel
theorem dksX0_laysLeads_1 : cX0_laysLeads.data.toList.drop 24 = dktX0_laysLeads_1 := dk_seg dksX0_laysLeads_0 24 rfl rfl
theorem dX0_laysLeads_0 : decode cX0_laysLeads 0 = .ok (.iconst 0, 1) := dk_3 (dk_at dksX0_laysLeads_0 0 rfl rfl)
theorem dX0_laysLeads_1 : decode cX0_laysLeads 1 = .ok (.istore_n 1, 1) := dk_60 (dk_at dksX0_laysLeads_0 1 rfl rfl)
theorem dX0_laysLeads_2 : decode cX0_laysLeads 2 = .ok (.iload_n 1, 1) := dk_27 (dk_at dksX0_laysLeads_0 2 rfl rfl)
theorem dX0_laysLeads_3 : decode cX0_laysLeads 3 = .ok (.aload_n 0, 1) := dk_42 (dk_at dksX0_laysLeads_0 3 rfl rfl)
theorem dX0_laysLeads_4 : decode cX0_laysLeads 4 = .ok (.invokevirtual 66, 3) := dk_182 0 66 (dk_at dksX0_laysLeads_0 4 rfl rfl)
theorem dX0_laysLeads_7 : decode cX0_laysLeads 7 = .ok (.if_icmp .ge 27, 3) := dk_162 0 27 (dk_at dksX0_laysLeads_0 7 rfl rfl)
theorem dX0_laysLeads_10 : decode cX0_laysLeads 10 = .ok (.aload_n 0, 1) := dk_42 (dk_at dksX0_laysLeads_0 10 rfl rfl)
theorem dX0_laysLeads_11 : decode cX0_laysLeads 11 = .ok (.getfield 46, 3) := dk_180 0 46 (dk_at dksX0_laysLeads_0 11 rfl rfl)
theorem dX0_laysLeads_14 : decode cX0_laysLeads 14 = .ok (.iload_n 1, 1) := dk_27 (dk_at dksX0_laysLeads_0 14 rfl rfl)
theorem dX0_laysLeads_15 : decode cX0_laysLeads 15 = .ok (.aload_n 0, 1) := dk_42 (dk_at dksX0_laysLeads_0 15 rfl rfl)
theorem dX0_laysLeads_16 : decode cX0_laysLeads 16 = .ok (.aload_n 0, 1) := dk_42 (dk_at dksX0_laysLeads_0 16 rfl rfl)
theorem dX0_laysLeads_17 : decode cX0_laysLeads 17 = .ok (.getfield 21, 3) := dk_180 0 21 (dk_at dksX0_laysLeads_0 17 rfl rfl)
theorem dX0_laysLeads_20 : decode cX0_laysLeads 20 = .ok (.getfield 188, 3) := dk_180 0 188 (dk_at dksX0_laysLeads_0 20 rfl rfl)
theorem dX0_laysLeads_23 : decode cX0_laysLeads 23 = .ok (.iload_n 1, 1) := dk_27 (dk_at dksX0_laysLeads_0 23 rfl rfl)
theorem dX0_laysLeads_24 : decode cX0_laysLeads 24 = .ok (.invokevirtual 178, 3) := dk_182 0 178 (dk_at dksX0_laysLeads_1 0 rfl rfl)
theorem dX0_laysLeads_27 : decode cX0_laysLeads 27 = .ok (.iastore, 1) := dk_79 (dk_at dksX0_laysLeads_1 3 rfl rfl)
theorem dX0_laysLeads_28 : decode cX0_laysLeads 28 = .ok (.iinc 1 1, 3) := dk_132 1 1 (dk_at dksX0_laysLeads_1 4 rfl rfl)
theorem dX0_laysLeads_31 : decode cX0_laysLeads 31 = .ok (.goto (-29), 3) := dk_167 255 227 (dk_at dksX0_laysLeads_1 7 rfl rfl)
theorem dX0_laysLeads_34 : decode cX0_laysLeads 34 = .ok (.return_, 1) := dk_177 (dk_at dksX0_laysLeads_1 10 rfl rfl)
abbrev cX0_fewest : ByteArray := prog_1_method_51_code
def yX0_fewest : MethodName := ⟨RX0, "fewest", "(Z)I"⟩
def dkwX0_fewest_3 : List UInt8 := [132, 3, 1, 167, 255, 191, 28, 172]
abbrev dktX0_fewest_3 : List UInt8 := dkwX0_fewest_3 ++ []
def dkwX0_fewest_2 : List UInt8 := [27, 153, 0, 11, 21, 4, 158, 0, 18, 167, 0, 8, 21, 4, 156, 0, 10, 42, 180, 0, 49, 29, 46, 61]
abbrev dktX0_fewest_2 : List UInt8 := dkwX0_fewest_2 ++ dktX0_fewest_3
def dkwX0_fewest_1 : List UInt8 := [167, 0, 17, 42, 180, 0, 49, 29, 46, 184, 0, 140, 28, 184, 0, 140, 100, 54, 4, 28, 2, 159, 0, 20]
abbrev dktX0_fewest_1 : List UInt8 := dkwX0_fewest_1 ++ dktX0_fewest_2
def dkwX0_fewest_0 : List UInt8 := [42, 182, 1, 37, 2, 61, 3, 62, 29, 42, 180, 1, 34, 162, 0, 63, 28, 2, 160, 0, 7, 4]
abbrev dktX0_fewest_0 : List UInt8 := dkwX0_fewest_0 ++ dktX0_fewest_1
theorem dksX0_fewest_0 : cX0_fewest.data.toList.drop 0 = dktX0_fewest_0 := by decide +kernel
theorem dksX0_fewest_1 : cX0_fewest.data.toList.drop 22 = dktX0_fewest_1 := dk_seg dksX0_fewest_0 22 rfl rfl
theorem dksX0_fewest_2 : cX0_fewest.data.toList.drop 46 = dktX0_fewest_2 := dk_seg dksX0_fewest_1 24 rfl rfl
theorem dksX0_fewest_3 : cX0_fewest.data.toList.drop 70 = dktX0_fewest_3 := dk_seg dksX0_fewest_2 24 rfl rfl
theorem dX0_fewest_0 : decode cX0_fewest 0 = .ok (.aload_n 0, 1) := dk_42 (dk_at dksX0_fewest_0 0 rfl rfl)
theorem dX0_fewest_1 : decode cX0_fewest 1 = .ok (.invokevirtual 293, 3) := dk_182 1 37 (dk_at dksX0_fewest_0 1 rfl rfl)
theorem dX0_fewest_4 : decode cX0_fewest 4 = .ok (.iconst (-1), 1) := dk_2 (dk_at dksX0_fewest_0 4 rfl rfl)
theorem dX0_fewest_5 : decode cX0_fewest 5 = .ok (.istore_n 2, 1) := dk_61 (dk_at dksX0_fewest_0 5 rfl rfl)
theorem dX0_fewest_6 : decode cX0_fewest 6 = .ok (.iconst 0, 1) := dk_3 (dk_at dksX0_fewest_0 6 rfl rfl)
theorem dX0_fewest_7 : decode cX0_fewest 7 = .ok (.istore_n 3, 1) := dk_62 (dk_at dksX0_fewest_0 7 rfl rfl)
theorem dX0_fewest_8 : decode cX0_fewest 8 = .ok (.iload_n 3, 1) := dk_29 (dk_at dksX0_fewest_0 8 rfl rfl)
theorem dX0_fewest_9 : decode cX0_fewest 9 = .ok (.aload_n 0, 1) := dk_42 (dk_at dksX0_fewest_0 9 rfl rfl)
theorem dX0_fewest_10 : decode cX0_fewest 10 = .ok (.getfield 290, 3) := dk_180 1 34 (dk_at dksX0_fewest_0 10 rfl rfl)
theorem dX0_fewest_13 : decode cX0_fewest 13 = .ok (.if_icmp .ge 63, 3) := dk_162 0 63 (dk_at dksX0_fewest_0 13 rfl rfl)
theorem dX0_fewest_16 : decode cX0_fewest 16 = .ok (.iload_n 2, 1) := dk_28 (dk_at dksX0_fewest_0 16 rfl rfl)
theorem dX0_fewest_17 : decode cX0_fewest 17 = .ok (.iconst (-1), 1) := dk_2 (dk_at dksX0_fewest_0 17 rfl rfl)
theorem dX0_fewest_18 : decode cX0_fewest 18 = .ok (.if_icmp .ne 7, 3) := dk_160 0 7 (dk_at dksX0_fewest_0 18 rfl rfl)
theorem dX0_fewest_21 : decode cX0_fewest 21 = .ok (.iconst 1, 1) := dk_4 (dk_at dksX0_fewest_0 21 rfl rfl)
theorem dX0_fewest_22 : decode cX0_fewest 22 = .ok (.goto 17, 3) := dk_167 0 17 (dk_at dksX0_fewest_1 0 rfl rfl)
theorem dX0_fewest_25 : decode cX0_fewest 25 = .ok (.aload_n 0, 1) := dk_42 (dk_at dksX0_fewest_1 3 rfl rfl)
theorem dX0_fewest_26 : decode cX0_fewest 26 = .ok (.getfield 49, 3) := dk_180 0 49 (dk_at dksX0_fewest_1 4 rfl rfl)
theorem dX0_fewest_29 : decode cX0_fewest 29 = .ok (.iload_n 3, 1) := dk_29 (dk_at dksX0_fewest_1 7 rfl rfl)
theorem dX0_fewest_30 : decode cX0_fewest 30 = .ok (.iaload, 1) := dk_46 (dk_at dksX0_fewest_1 8 rfl rfl)
theorem dX0_fewest_31 : decode cX0_fewest 31 = .ok (.invokestatic 140, 3) := dk_184 0 140 (dk_at dksX0_fewest_1 9 rfl rfl)
theorem dX0_fewest_34 : decode cX0_fewest 34 = .ok (.iload_n 2, 1) := dk_28 (dk_at dksX0_fewest_1 12 rfl rfl)
theorem dX0_fewest_35 : decode cX0_fewest 35 = .ok (.invokestatic 140, 3) := dk_184 0 140 (dk_at dksX0_fewest_1 13 rfl rfl)
theorem dX0_fewest_38 : decode cX0_fewest 38 = .ok (.isub, 1) := dk_100 (dk_at dksX0_fewest_1 16 rfl rfl)
theorem dX0_fewest_39 : decode cX0_fewest 39 = .ok (.istore 4, 2) := dk_54 4 (dk_at dksX0_fewest_1 17 rfl rfl)
theorem dX0_fewest_41 : decode cX0_fewest 41 = .ok (.iload_n 2, 1) := dk_28 (dk_at dksX0_fewest_1 19 rfl rfl)
theorem dX0_fewest_42 : decode cX0_fewest 42 = .ok (.iconst (-1), 1) := dk_2 (dk_at dksX0_fewest_1 20 rfl rfl)
theorem dX0_fewest_43 : decode cX0_fewest 43 = .ok (.if_icmp .eq 20, 3) := dk_159 0 20 (dk_at dksX0_fewest_1 21 rfl rfl)
theorem dX0_fewest_46 : decode cX0_fewest 46 = .ok (.iload_n 1, 1) := dk_27 (dk_at dksX0_fewest_2 0 rfl rfl)
theorem dX0_fewest_47 : decode cX0_fewest 47 = .ok (.ifCond .eq 11, 3) := dk_153 0 11 (dk_at dksX0_fewest_2 1 rfl rfl)
theorem dX0_fewest_50 : decode cX0_fewest 50 = .ok (.iload 4, 2) := dk_21 4 (dk_at dksX0_fewest_2 4 rfl rfl)
theorem dX0_fewest_52 : decode cX0_fewest 52 = .ok (.ifCond .le 18, 3) := dk_158 0 18 (dk_at dksX0_fewest_2 6 rfl rfl)
theorem dX0_fewest_55 : decode cX0_fewest 55 = .ok (.goto 8, 3) := dk_167 0 8 (dk_at dksX0_fewest_2 9 rfl rfl)
theorem dX0_fewest_58 : decode cX0_fewest 58 = .ok (.iload 4, 2) := dk_21 4 (dk_at dksX0_fewest_2 12 rfl rfl)
theorem dX0_fewest_60 : decode cX0_fewest 60 = .ok (.ifCond .ge 10, 3) := dk_156 0 10 (dk_at dksX0_fewest_2 14 rfl rfl)
theorem dX0_fewest_63 : decode cX0_fewest 63 = .ok (.aload_n 0, 1) := dk_42 (dk_at dksX0_fewest_2 17 rfl rfl)
theorem dX0_fewest_64 : decode cX0_fewest 64 = .ok (.getfield 49, 3) := dk_180 0 49 (dk_at dksX0_fewest_2 18 rfl rfl)
theorem dX0_fewest_67 : decode cX0_fewest 67 = .ok (.iload_n 3, 1) := dk_29 (dk_at dksX0_fewest_2 21 rfl rfl)
theorem dX0_fewest_68 : decode cX0_fewest 68 = .ok (.iaload, 1) := dk_46 (dk_at dksX0_fewest_2 22 rfl rfl)
theorem dX0_fewest_69 : decode cX0_fewest 69 = .ok (.istore_n 2, 1) := dk_61 (dk_at dksX0_fewest_2 23 rfl rfl)
theorem dX0_fewest_70 : decode cX0_fewest 70 = .ok (.iinc 3 1, 3) := dk_132 3 1 (dk_at dksX0_fewest_3 0 rfl rfl)
theorem dX0_fewest_73 : decode cX0_fewest 73 = .ok (.goto (-65), 3) := dk_167 255 191 (dk_at dksX0_fewest_3 3 rfl rfl)
theorem dX0_fewest_76 : decode cX0_fewest 76 = .ok (.iload_n 2, 1) := dk_28 (dk_at dksX0_fewest_3 6 rfl rfl)
theorem dX0_fewest_77 : decode cX0_fewest 77 = .ok (.ireturn, 1) := dk_172 (dk_at dksX0_fewest_3 7 rfl rfl)
abbrev cX0_round : ByteArray := prog_1_method_54_code
def yX0_round : MethodName := ⟨RX0, "round", "(I)I"⟩
def dkwX0_round_0 : List UInt8 := [42, 27, 182, 0, 198, 154, 0, 5, 2, 172, 42, 182, 1, 31, 42, 27, 182, 1, 43, 172]
abbrev dktX0_round_0 : List UInt8 := dkwX0_round_0 ++ []
theorem dksX0_round_0 : cX0_round.data.toList.drop 0 = dktX0_round_0 := by decide +kernel
theorem dX0_round_0 : decode cX0_round 0 = .ok (.aload_n 0, 1) := dk_42 (dk_at dksX0_round_0 0 rfl rfl)
theorem dX0_round_1 : decode cX0_round 1 = .ok (.iload_n 1, 1) := dk_27 (dk_at dksX0_round_0 1 rfl rfl)
theorem dX0_round_2 : decode cX0_round 2 = .ok (.invokevirtual 198, 3) := dk_182 0 198 (dk_at dksX0_round_0 2 rfl rfl)
theorem dX0_round_5 : decode cX0_round 5 = .ok (.ifCond .ne 5, 3) := dk_154 0 5 (dk_at dksX0_round_0 5 rfl rfl)
theorem dX0_round_8 : decode cX0_round 8 = .ok (.iconst (-1), 1) := dk_2 (dk_at dksX0_round_0 8 rfl rfl)
theorem dX0_round_9 : decode cX0_round 9 = .ok (.ireturn, 1) := dk_172 (dk_at dksX0_round_0 9 rfl rfl)
theorem dX0_round_10 : decode cX0_round 10 = .ok (.aload_n 0, 1) := dk_42 (dk_at dksX0_round_0 10 rfl rfl)
theorem dX0_round_11 : decode cX0_round 11 = .ok (.invokevirtual 287, 3) := dk_182 1 31 (dk_at dksX0_round_0 11 rfl rfl)
theorem dX0_round_14 : decode cX0_round 14 = .ok (.aload_n 0, 1) := dk_42 (dk_at dksX0_round_0 14 rfl rfl)
theorem dX0_round_15 : decode cX0_round 15 = .ok (.iload_n 1, 1) := dk_27 (dk_at dksX0_round_0 15 rfl rfl)
theorem dX0_round_16 : decode cX0_round 16 = .ok (.invokevirtual 299, 3) := dk_182 1 43 (dk_at dksX0_round_0 16 rfl rfl)
theorem dX0_round_19 : decode cX0_round 19 = .ok (.ireturn, 1) := dk_172 (dk_at dksX0_round_0 19 rfl rfl)
abbrev cX0_roundOf : ByteArray := prog_1_method_53_code
def yX0_roundOf : MethodName := ⟨RX0, "roundOf", "(I)I"⟩
def dkwX0_roundOf_1 : List UInt8 := [132, 3, 1, 167, 255, 243, 29, 172]
abbrev dktX0_roundOf_1 : List UInt8 := dkwX0_roundOf_1 ++ []
def dkwX0_roundOf_0 : List UInt8 := [42, 27, 42, 182, 0, 66, 182, 1, 40, 61, 4, 62, 42, 28, 29, 182, 1, 40, 28, 159, 0, 9]
abbrev dktX0_roundOf_0 : List UInt8 := dkwX0_roundOf_0 ++ dktX0_roundOf_1
theorem dksX0_roundOf_0 : cX0_roundOf.data.toList.drop 0 = dktX0_roundOf_0 := by decide +kernel
theorem dksX0_roundOf_1 : cX0_roundOf.data.toList.drop 22 = dktX0_roundOf_1 := dk_seg dksX0_roundOf_0 22 rfl rfl
theorem dX0_roundOf_0 : decode cX0_roundOf 0 = .ok (.aload_n 0, 1) := dk_42 (dk_at dksX0_roundOf_0 0 rfl rfl)
theorem dX0_roundOf_1 : decode cX0_roundOf 1 = .ok (.iload_n 1, 1) := dk_27 (dk_at dksX0_roundOf_0 1 rfl rfl)
theorem dX0_roundOf_2 : decode cX0_roundOf 2 = .ok (.aload_n 0, 1) := dk_42 (dk_at dksX0_roundOf_0 2 rfl rfl)
theorem dX0_roundOf_3 : decode cX0_roundOf 3 = .ok (.invokevirtual 66, 3) := dk_182 0 66 (dk_at dksX0_roundOf_0 3 rfl rfl)
theorem dX0_roundOf_6 : decode cX0_roundOf 6 = .ok (.invokevirtual 296, 3) := dk_182 1 40 (dk_at dksX0_roundOf_0 6 rfl rfl)
theorem dX0_roundOf_9 : decode cX0_roundOf 9 = .ok (.istore_n 2, 1) := dk_61 (dk_at dksX0_roundOf_0 9 rfl rfl)
theorem dX0_roundOf_10 : decode cX0_roundOf 10 = .ok (.iconst 1, 1) := dk_4 (dk_at dksX0_roundOf_0 10 rfl rfl)
theorem dX0_roundOf_11 : decode cX0_roundOf 11 = .ok (.istore_n 3, 1) := dk_62 (dk_at dksX0_roundOf_0 11 rfl rfl)
theorem dX0_roundOf_12 : decode cX0_roundOf 12 = .ok (.aload_n 0, 1) := dk_42 (dk_at dksX0_roundOf_0 12 rfl rfl)
theorem dX0_roundOf_13 : decode cX0_roundOf 13 = .ok (.iload_n 2, 1) := dk_28 (dk_at dksX0_roundOf_0 13 rfl rfl)
theorem dX0_roundOf_14 : decode cX0_roundOf 14 = .ok (.iload_n 3, 1) := dk_29 (dk_at dksX0_roundOf_0 14 rfl rfl)
theorem dX0_roundOf_15 : decode cX0_roundOf 15 = .ok (.invokevirtual 296, 3) := dk_182 1 40 (dk_at dksX0_roundOf_0 15 rfl rfl)
theorem dX0_roundOf_18 : decode cX0_roundOf 18 = .ok (.iload_n 2, 1) := dk_28 (dk_at dksX0_roundOf_0 18 rfl rfl)
theorem dX0_roundOf_19 : decode cX0_roundOf 19 = .ok (.if_icmp .eq 9, 3) := dk_159 0 9 (dk_at dksX0_roundOf_0 19 rfl rfl)
theorem dX0_roundOf_22 : decode cX0_roundOf 22 = .ok (.iinc 3 1, 3) := dk_132 3 1 (dk_at dksX0_roundOf_1 0 rfl rfl)
theorem dX0_roundOf_25 : decode cX0_roundOf 25 = .ok (.goto (-13), 3) := dk_167 255 243 (dk_at dksX0_roundOf_1 3 rfl rfl)
theorem dX0_roundOf_28 : decode cX0_roundOf 28 = .ok (.iload_n 3, 1) := dk_29 (dk_at dksX0_roundOf_1 6 rfl rfl)
theorem dX0_roundOf_29 : decode cX0_roundOf 29 = .ok (.ireturn, 1) := dk_172 (dk_at dksX0_roundOf_1 7 rfl rfl)
abbrev cX0_leadsTo : ByteArray := prog_1_method_52_code
def yX0_leadsTo : MethodName := ⟨RX0, "leadsTo", "(II)I"⟩
def dkwX0_leadsTo_1 : List UInt8 := [29, 172]
abbrev dktX0_leadsTo_1 : List UInt8 := dkwX0_leadsTo_1 ++ []
def dkwX0_leadsTo_0 : List UInt8 := [27, 62, 3, 54, 4, 21, 4, 28, 162, 0, 16, 42, 180, 0, 46, 29, 46, 62, 132, 4, 1, 167, 255, 240]
abbrev dktX0_leadsTo_0 : List UInt8 := dkwX0_leadsTo_0 ++ dktX0_leadsTo_1
theorem dksX0_leadsTo_0 : cX0_leadsTo.data.toList.drop 0 = dktX0_leadsTo_0 := by decide +kernel
theorem dksX0_leadsTo_1 : cX0_leadsTo.data.toList.drop 24 = dktX0_leadsTo_1 := dk_seg dksX0_leadsTo_0 24 rfl rfl
theorem dX0_leadsTo_0 : decode cX0_leadsTo 0 = .ok (.iload_n 1, 1) := dk_27 (dk_at dksX0_leadsTo_0 0 rfl rfl)
theorem dX0_leadsTo_1 : decode cX0_leadsTo 1 = .ok (.istore_n 3, 1) := dk_62 (dk_at dksX0_leadsTo_0 1 rfl rfl)
theorem dX0_leadsTo_2 : decode cX0_leadsTo 2 = .ok (.iconst 0, 1) := dk_3 (dk_at dksX0_leadsTo_0 2 rfl rfl)
theorem dX0_leadsTo_3 : decode cX0_leadsTo 3 = .ok (.istore 4, 2) := dk_54 4 (dk_at dksX0_leadsTo_0 3 rfl rfl)
theorem dX0_leadsTo_5 : decode cX0_leadsTo 5 = .ok (.iload 4, 2) := dk_21 4 (dk_at dksX0_leadsTo_0 5 rfl rfl)
theorem dX0_leadsTo_7 : decode cX0_leadsTo 7 = .ok (.iload_n 2, 1) := dk_28 (dk_at dksX0_leadsTo_0 7 rfl rfl)
theorem dX0_leadsTo_8 : decode cX0_leadsTo 8 = .ok (.if_icmp .ge 16, 3) := dk_162 0 16 (dk_at dksX0_leadsTo_0 8 rfl rfl)
theorem dX0_leadsTo_11 : decode cX0_leadsTo 11 = .ok (.aload_n 0, 1) := dk_42 (dk_at dksX0_leadsTo_0 11 rfl rfl)
theorem dX0_leadsTo_12 : decode cX0_leadsTo 12 = .ok (.getfield 46, 3) := dk_180 0 46 (dk_at dksX0_leadsTo_0 12 rfl rfl)
theorem dX0_leadsTo_15 : decode cX0_leadsTo 15 = .ok (.iload_n 3, 1) := dk_29 (dk_at dksX0_leadsTo_0 15 rfl rfl)
theorem dX0_leadsTo_16 : decode cX0_leadsTo 16 = .ok (.iaload, 1) := dk_46 (dk_at dksX0_leadsTo_0 16 rfl rfl)
theorem dX0_leadsTo_17 : decode cX0_leadsTo 17 = .ok (.istore_n 3, 1) := dk_62 (dk_at dksX0_leadsTo_0 17 rfl rfl)
theorem dX0_leadsTo_18 : decode cX0_leadsTo 18 = .ok (.iinc 4 1, 3) := dk_132 4 1 (dk_at dksX0_leadsTo_0 18 rfl rfl)
theorem dX0_leadsTo_21 : decode cX0_leadsTo 21 = .ok (.goto (-16), 3) := dk_167 255 240 (dk_at dksX0_leadsTo_0 21 rfl rfl)
theorem dX0_leadsTo_24 : decode cX0_leadsTo 24 = .ok (.iload_n 3, 1) := dk_29 (dk_at dksX0_leadsTo_1 0 rfl rfl)
theorem dX0_leadsTo_25 : decode cX0_leadsTo 25 = .ok (.ireturn, 1) := dk_172 (dk_at dksX0_leadsTo_1 1 rfl rfl)
abbrev cX0_tail : ByteArray := prog_1_method_55_code
def yX0_tail : MethodName := ⟨RX0, "tail", "(I)I"⟩
def dkwX0_tail_1 : List UInt8 := [29, 182, 1, 40, 42, 27, 29, 28, 96, 182, 1, 40, 159, 0, 9, 132, 3, 1, 167, 255, 236, 29, 172]
abbrev dktX0_tail_1 : List UInt8 := dkwX0_tail_1 ++ []
def dkwX0_tail_0 : List UInt8 := [42, 27, 182, 0, 198, 154, 0, 5, 2, 172, 42, 182, 1, 31, 42, 27, 182, 1, 43, 61, 3, 62, 42, 27]
abbrev dktX0_tail_0 : List UInt8 := dkwX0_tail_0 ++ dktX0_tail_1
theorem dksX0_tail_0 : cX0_tail.data.toList.drop 0 = dktX0_tail_0 := by decide +kernel
theorem dksX0_tail_1 : cX0_tail.data.toList.drop 24 = dktX0_tail_1 := dk_seg dksX0_tail_0 24 rfl rfl
theorem dX0_tail_0 : decode cX0_tail 0 = .ok (.aload_n 0, 1) := dk_42 (dk_at dksX0_tail_0 0 rfl rfl)
theorem dX0_tail_1 : decode cX0_tail 1 = .ok (.iload_n 1, 1) := dk_27 (dk_at dksX0_tail_0 1 rfl rfl)
theorem dX0_tail_2 : decode cX0_tail 2 = .ok (.invokevirtual 198, 3) := dk_182 0 198 (dk_at dksX0_tail_0 2 rfl rfl)
theorem dX0_tail_5 : decode cX0_tail 5 = .ok (.ifCond .ne 5, 3) := dk_154 0 5 (dk_at dksX0_tail_0 5 rfl rfl)
theorem dX0_tail_8 : decode cX0_tail 8 = .ok (.iconst (-1), 1) := dk_2 (dk_at dksX0_tail_0 8 rfl rfl)
theorem dX0_tail_9 : decode cX0_tail 9 = .ok (.ireturn, 1) := dk_172 (dk_at dksX0_tail_0 9 rfl rfl)
theorem dX0_tail_10 : decode cX0_tail 10 = .ok (.aload_n 0, 1) := dk_42 (dk_at dksX0_tail_0 10 rfl rfl)
theorem dX0_tail_11 : decode cX0_tail 11 = .ok (.invokevirtual 287, 3) := dk_182 1 31 (dk_at dksX0_tail_0 11 rfl rfl)
theorem dX0_tail_14 : decode cX0_tail 14 = .ok (.aload_n 0, 1) := dk_42 (dk_at dksX0_tail_0 14 rfl rfl)
theorem dX0_tail_15 : decode cX0_tail 15 = .ok (.iload_n 1, 1) := dk_27 (dk_at dksX0_tail_0 15 rfl rfl)
theorem dX0_tail_16 : decode cX0_tail 16 = .ok (.invokevirtual 299, 3) := dk_182 1 43 (dk_at dksX0_tail_0 16 rfl rfl)
theorem dX0_tail_19 : decode cX0_tail 19 = .ok (.istore_n 2, 1) := dk_61 (dk_at dksX0_tail_0 19 rfl rfl)
theorem dX0_tail_20 : decode cX0_tail 20 = .ok (.iconst 0, 1) := dk_3 (dk_at dksX0_tail_0 20 rfl rfl)
theorem dX0_tail_21 : decode cX0_tail 21 = .ok (.istore_n 3, 1) := dk_62 (dk_at dksX0_tail_0 21 rfl rfl)
theorem dX0_tail_22 : decode cX0_tail 22 = .ok (.aload_n 0, 1) := dk_42 (dk_at dksX0_tail_0 22 rfl rfl)
theorem dX0_tail_23 : decode cX0_tail 23 = .ok (.iload_n 1, 1) := dk_27 (dk_at dksX0_tail_0 23 rfl rfl)
theorem dX0_tail_24 : decode cX0_tail 24 = .ok (.iload_n 3, 1) := dk_29 (dk_at dksX0_tail_1 0 rfl rfl)
theorem dX0_tail_25 : decode cX0_tail 25 = .ok (.invokevirtual 296, 3) := dk_182 1 40 (dk_at dksX0_tail_1 1 rfl rfl)
theorem dX0_tail_28 : decode cX0_tail 28 = .ok (.aload_n 0, 1) := dk_42 (dk_at dksX0_tail_1 4 rfl rfl)
theorem dX0_tail_29 : decode cX0_tail 29 = .ok (.iload_n 1, 1) := dk_27 (dk_at dksX0_tail_1 5 rfl rfl)
theorem dX0_tail_30 : decode cX0_tail 30 = .ok (.iload_n 3, 1) := dk_29 (dk_at dksX0_tail_1 6 rfl rfl)
theorem dX0_tail_31 : decode cX0_tail 31 = .ok (.iload_n 2, 1) := dk_28 (dk_at dksX0_tail_1 7 rfl rfl)
theorem dX0_tail_32 : decode cX0_tail 32 = .ok (.iadd, 1) := dk_96 (dk_at dksX0_tail_1 8 rfl rfl)
theorem dX0_tail_33 : decode cX0_tail 33 = .ok (.invokevirtual 296, 3) := dk_182 1 40 (dk_at dksX0_tail_1 9 rfl rfl)
theorem dX0_tail_36 : decode cX0_tail 36 = .ok (.if_icmp .eq 9, 3) := dk_159 0 9 (dk_at dksX0_tail_1 12 rfl rfl)
theorem dX0_tail_39 : decode cX0_tail 39 = .ok (.iinc 3 1, 3) := dk_132 3 1 (dk_at dksX0_tail_1 15 rfl rfl)
theorem dX0_tail_42 : decode cX0_tail 42 = .ok (.goto (-20), 3) := dk_167 255 236 (dk_at dksX0_tail_1 18 rfl rfl)
theorem dX0_tail_45 : decode cX0_tail 45 = .ok (.iload_n 3, 1) := dk_29 (dk_at dksX0_tail_1 21 rfl rfl)
theorem dX0_tail_46 : decode cX0_tail 46 = .ok (.ireturn, 1) := dk_172 (dk_at dksX0_tail_1 22 rfl rfl)
abbrev cX0_rounds : ByteArray := prog_1_method_57_code
def yX0_rounds : MethodName := ⟨RX0, "rounds", "()I"⟩
def dkwX0_rounds_1 : List UInt8 := [160, 0, 7, 4, 167, 0, 4, 3, 96, 60, 132, 2, 1, 167, 255, 228, 27, 172]
abbrev dktX0_rounds_1 : List UInt8 := dkwX0_rounds_1 ++ []
def dkwX0_rounds_0 : List UInt8 := [42, 182, 1, 31, 3, 60, 3, 61, 28, 42, 182, 0, 66, 162, 0, 26, 27, 42, 28, 182, 1, 46, 28]
abbrev dktX0_rounds_0 : List UInt8 := dkwX0_rounds_0 ++ dktX0_rounds_1
theorem dksX0_rounds_0 : cX0_rounds.data.toList.drop 0 = dktX0_rounds_0 := by decide +kernel
theorem dksX0_rounds_1 : cX0_rounds.data.toList.drop 23 = dktX0_rounds_1 := dk_seg dksX0_rounds_0 23 rfl rfl
theorem dX0_rounds_0 : decode cX0_rounds 0 = .ok (.aload_n 0, 1) := dk_42 (dk_at dksX0_rounds_0 0 rfl rfl)
theorem dX0_rounds_1 : decode cX0_rounds 1 = .ok (.invokevirtual 287, 3) := dk_182 1 31 (dk_at dksX0_rounds_0 1 rfl rfl)
theorem dX0_rounds_4 : decode cX0_rounds 4 = .ok (.iconst 0, 1) := dk_3 (dk_at dksX0_rounds_0 4 rfl rfl)
theorem dX0_rounds_5 : decode cX0_rounds 5 = .ok (.istore_n 1, 1) := dk_60 (dk_at dksX0_rounds_0 5 rfl rfl)
theorem dX0_rounds_6 : decode cX0_rounds 6 = .ok (.iconst 0, 1) := dk_3 (dk_at dksX0_rounds_0 6 rfl rfl)
theorem dX0_rounds_7 : decode cX0_rounds 7 = .ok (.istore_n 2, 1) := dk_61 (dk_at dksX0_rounds_0 7 rfl rfl)
theorem dX0_rounds_8 : decode cX0_rounds 8 = .ok (.iload_n 2, 1) := dk_28 (dk_at dksX0_rounds_0 8 rfl rfl)
theorem dX0_rounds_9 : decode cX0_rounds 9 = .ok (.aload_n 0, 1) := dk_42 (dk_at dksX0_rounds_0 9 rfl rfl)
theorem dX0_rounds_10 : decode cX0_rounds 10 = .ok (.invokevirtual 66, 3) := dk_182 0 66 (dk_at dksX0_rounds_0 10 rfl rfl)
theorem dX0_rounds_13 : decode cX0_rounds 13 = .ok (.if_icmp .ge 26, 3) := dk_162 0 26 (dk_at dksX0_rounds_0 13 rfl rfl)
theorem dX0_rounds_16 : decode cX0_rounds 16 = .ok (.iload_n 1, 1) := dk_27 (dk_at dksX0_rounds_0 16 rfl rfl)
theorem dX0_rounds_17 : decode cX0_rounds 17 = .ok (.aload_n 0, 1) := dk_42 (dk_at dksX0_rounds_0 17 rfl rfl)
theorem dX0_rounds_18 : decode cX0_rounds 18 = .ok (.iload_n 2, 1) := dk_28 (dk_at dksX0_rounds_0 18 rfl rfl)
theorem dX0_rounds_19 : decode cX0_rounds 19 = .ok (.invokevirtual 302, 3) := dk_182 1 46 (dk_at dksX0_rounds_0 19 rfl rfl)
theorem dX0_rounds_22 : decode cX0_rounds 22 = .ok (.iload_n 2, 1) := dk_28 (dk_at dksX0_rounds_0 22 rfl rfl)
theorem dX0_rounds_23 : decode cX0_rounds 23 = .ok (.if_icmp .ne 7, 3) := dk_160 0 7 (dk_at dksX0_rounds_1 0 rfl rfl)
theorem dX0_rounds_26 : decode cX0_rounds 26 = .ok (.iconst 1, 1) := dk_4 (dk_at dksX0_rounds_1 3 rfl rfl)
theorem dX0_rounds_27 : decode cX0_rounds 27 = .ok (.goto 4, 3) := dk_167 0 4 (dk_at dksX0_rounds_1 4 rfl rfl)
theorem dX0_rounds_30 : decode cX0_rounds 30 = .ok (.iconst 0, 1) := dk_3 (dk_at dksX0_rounds_1 7 rfl rfl)
theorem dX0_rounds_31 : decode cX0_rounds 31 = .ok (.iadd, 1) := dk_96 (dk_at dksX0_rounds_1 8 rfl rfl)
theorem dX0_rounds_32 : decode cX0_rounds 32 = .ok (.istore_n 1, 1) := dk_60 (dk_at dksX0_rounds_1 9 rfl rfl)
theorem dX0_rounds_33 : decode cX0_rounds 33 = .ok (.iinc 2 1, 3) := dk_132 2 1 (dk_at dksX0_rounds_1 10 rfl rfl)
theorem dX0_rounds_36 : decode cX0_rounds 36 = .ok (.goto (-28), 3) := dk_167 255 228 (dk_at dksX0_rounds_1 13 rfl rfl)
theorem dX0_rounds_39 : decode cX0_rounds 39 = .ok (.iload_n 1, 1) := dk_27 (dk_at dksX0_rounds_1 16 rfl rfl)
theorem dX0_rounds_40 : decode cX0_rounds 40 = .ok (.ireturn, 1) := dk_172 (dk_at dksX0_rounds_1 17 rfl rfl)
abbrev cX0_leastOf : ByteArray := prog_1_method_56_code
def yX0_leastOf : MethodName := ⟨RX0, "leastOf", "(I)I"⟩
def dkwX0_leastOf_1 : List UInt8 := [159, 0, 22, 29, 21, 4, 184, 0, 182, 62, 42, 180, 0, 46, 21, 4, 46, 54, 4, 167, 255, 234, 29, 172]
abbrev dktX0_leastOf_1 : List UInt8 := dkwX0_leastOf_1 ++ []
def dkwX0_leastOf_0 : List UInt8 := [42, 27, 42, 182, 0, 66, 182, 1, 40, 61, 28, 62, 42, 180, 0, 46, 28, 46, 54, 4, 21, 4, 28]
abbrev dktX0_leastOf_0 : List UInt8 := dkwX0_leastOf_0 ++ dktX0_leastOf_1
theorem dksX0_leastOf_0 : cX0_leastOf.data.toList.drop 0 = dktX0_leastOf_0 := by decide +kernel
theorem dksX0_leastOf_1 : cX0_leastOf.data.toList.drop 23 = dktX0_leastOf_1 := dk_seg dksX0_leastOf_0 23 rfl rfl
theorem dX0_leastOf_0 : decode cX0_leastOf 0 = .ok (.aload_n 0, 1) := dk_42 (dk_at dksX0_leastOf_0 0 rfl rfl)
theorem dX0_leastOf_1 : decode cX0_leastOf 1 = .ok (.iload_n 1, 1) := dk_27 (dk_at dksX0_leastOf_0 1 rfl rfl)
theorem dX0_leastOf_2 : decode cX0_leastOf 2 = .ok (.aload_n 0, 1) := dk_42 (dk_at dksX0_leastOf_0 2 rfl rfl)
theorem dX0_leastOf_3 : decode cX0_leastOf 3 = .ok (.invokevirtual 66, 3) := dk_182 0 66 (dk_at dksX0_leastOf_0 3 rfl rfl)
theorem dX0_leastOf_6 : decode cX0_leastOf 6 = .ok (.invokevirtual 296, 3) := dk_182 1 40 (dk_at dksX0_leastOf_0 6 rfl rfl)
theorem dX0_leastOf_9 : decode cX0_leastOf 9 = .ok (.istore_n 2, 1) := dk_61 (dk_at dksX0_leastOf_0 9 rfl rfl)
theorem dX0_leastOf_10 : decode cX0_leastOf 10 = .ok (.iload_n 2, 1) := dk_28 (dk_at dksX0_leastOf_0 10 rfl rfl)
theorem dX0_leastOf_11 : decode cX0_leastOf 11 = .ok (.istore_n 3, 1) := dk_62 (dk_at dksX0_leastOf_0 11 rfl rfl)
theorem dX0_leastOf_12 : decode cX0_leastOf 12 = .ok (.aload_n 0, 1) := dk_42 (dk_at dksX0_leastOf_0 12 rfl rfl)
theorem dX0_leastOf_13 : decode cX0_leastOf 13 = .ok (.getfield 46, 3) := dk_180 0 46 (dk_at dksX0_leastOf_0 13 rfl rfl)
theorem dX0_leastOf_16 : decode cX0_leastOf 16 = .ok (.iload_n 2, 1) := dk_28 (dk_at dksX0_leastOf_0 16 rfl rfl)
theorem dX0_leastOf_17 : decode cX0_leastOf 17 = .ok (.iaload, 1) := dk_46 (dk_at dksX0_leastOf_0 17 rfl rfl)
theorem dX0_leastOf_18 : decode cX0_leastOf 18 = .ok (.istore 4, 2) := dk_54 4 (dk_at dksX0_leastOf_0 18 rfl rfl)
theorem dX0_leastOf_20 : decode cX0_leastOf 20 = .ok (.iload 4, 2) := dk_21 4 (dk_at dksX0_leastOf_0 20 rfl rfl)
theorem dX0_leastOf_22 : decode cX0_leastOf 22 = .ok (.iload_n 2, 1) := dk_28 (dk_at dksX0_leastOf_0 22 rfl rfl)
theorem dX0_leastOf_23 : decode cX0_leastOf 23 = .ok (.if_icmp .eq 22, 3) := dk_159 0 22 (dk_at dksX0_leastOf_1 0 rfl rfl)
theorem dX0_leastOf_26 : decode cX0_leastOf 26 = .ok (.iload_n 3, 1) := dk_29 (dk_at dksX0_leastOf_1 3 rfl rfl)
theorem dX0_leastOf_27 : decode cX0_leastOf 27 = .ok (.iload 4, 2) := dk_21 4 (dk_at dksX0_leastOf_1 4 rfl rfl)
theorem dX0_leastOf_29 : decode cX0_leastOf 29 = .ok (.invokestatic 182, 3) := dk_184 0 182 (dk_at dksX0_leastOf_1 6 rfl rfl)
theorem dX0_leastOf_32 : decode cX0_leastOf 32 = .ok (.istore_n 3, 1) := dk_62 (dk_at dksX0_leastOf_1 9 rfl rfl)
theorem dX0_leastOf_33 : decode cX0_leastOf 33 = .ok (.aload_n 0, 1) := dk_42 (dk_at dksX0_leastOf_1 10 rfl rfl)
theorem dX0_leastOf_34 : decode cX0_leastOf 34 = .ok (.getfield 46, 3) := dk_180 0 46 (dk_at dksX0_leastOf_1 11 rfl rfl)
theorem dX0_leastOf_37 : decode cX0_leastOf 37 = .ok (.iload 4, 2) := dk_21 4 (dk_at dksX0_leastOf_1 14 rfl rfl)
theorem dX0_leastOf_39 : decode cX0_leastOf 39 = .ok (.iaload, 1) := dk_46 (dk_at dksX0_leastOf_1 16 rfl rfl)
theorem dX0_leastOf_40 : decode cX0_leastOf 40 = .ok (.istore 4, 2) := dk_54 4 (dk_at dksX0_leastOf_1 17 rfl rfl)
theorem dX0_leastOf_42 : decode cX0_leastOf 42 = .ok (.goto (-22), 3) := dk_167 255 234 (dk_at dksX0_leastOf_1 19 rfl rfl)
theorem dX0_leastOf_45 : decode cX0_leastOf 45 = .ok (.iload_n 3, 1) := dk_29 (dk_at dksX0_leastOf_1 22 rfl rfl)
theorem dX0_leastOf_46 : decode cX0_leastOf 46 = .ok (.ireturn, 1) := dk_172 (dk_at dksX0_leastOf_1 23 rfl rfl)
abbrev cX0_basin : ByteArray := prog_1_method_58_code
def yX0_basin : MethodName := ⟨RX0, "basin", "(I)I"⟩
def dkwX0_basin_3 : List UInt8 := [167, 0, 4, 3, 96, 61, 132, 3, 1, 167, 255, 195, 28, 172]
abbrev dktX0_basin_3 : List UInt8 := dkwX0_basin_3 ++ []
def dkwX0_basin_2 : List UInt8 := [42, 180, 0, 46, 21, 4, 46, 54, 4, 132, 5, 1, 167, 255, 229, 28, 21, 4, 27, 160, 0, 7, 4]
abbrev dktX0_basin_2 : List UInt8 := dkwX0_basin_2 ++ dktX0_basin_3
def dkwX0_basin_1 : List UInt8 := [162, 0, 59, 29, 54, 4, 3, 54, 5, 21, 5, 42, 182, 0, 66, 162, 0, 24, 21, 4, 27, 159, 0, 18]
abbrev dktX0_basin_1 : List UInt8 := dkwX0_basin_1 ++ dktX0_basin_2
def dkwX0_basin_0 : List UInt8 := [42, 27, 182, 0, 198, 154, 0, 5, 2, 172, 42, 182, 1, 31, 3, 61, 3, 62, 29, 42, 182, 0, 66]
abbrev dktX0_basin_0 : List UInt8 := dkwX0_basin_0 ++ dktX0_basin_1
theorem dksX0_basin_0 : cX0_basin.data.toList.drop 0 = dktX0_basin_0 := by decide +kernel
theorem dksX0_basin_1 : cX0_basin.data.toList.drop 23 = dktX0_basin_1 := dk_seg dksX0_basin_0 23 rfl rfl
theorem dksX0_basin_2 : cX0_basin.data.toList.drop 47 = dktX0_basin_2 := dk_seg dksX0_basin_1 24 rfl rfl
theorem dksX0_basin_3 : cX0_basin.data.toList.drop 70 = dktX0_basin_3 := dk_seg dksX0_basin_2 23 rfl rfl
theorem dX0_basin_0 : decode cX0_basin 0 = .ok (.aload_n 0, 1) := dk_42 (dk_at dksX0_basin_0 0 rfl rfl)
theorem dX0_basin_1 : decode cX0_basin 1 = .ok (.iload_n 1, 1) := dk_27 (dk_at dksX0_basin_0 1 rfl rfl)
theorem dX0_basin_2 : decode cX0_basin 2 = .ok (.invokevirtual 198, 3) := dk_182 0 198 (dk_at dksX0_basin_0 2 rfl rfl)
theorem dX0_basin_5 : decode cX0_basin 5 = .ok (.ifCond .ne 5, 3) := dk_154 0 5 (dk_at dksX0_basin_0 5 rfl rfl)
theorem dX0_basin_8 : decode cX0_basin 8 = .ok (.iconst (-1), 1) := dk_2 (dk_at dksX0_basin_0 8 rfl rfl)
theorem dX0_basin_9 : decode cX0_basin 9 = .ok (.ireturn, 1) := dk_172 (dk_at dksX0_basin_0 9 rfl rfl)
theorem dX0_basin_10 : decode cX0_basin 10 = .ok (.aload_n 0, 1) := dk_42 (dk_at dksX0_basin_0 10 rfl rfl)
theorem dX0_basin_11 : decode cX0_basin 11 = .ok (.invokevirtual 287, 3) := dk_182 1 31 (dk_at dksX0_basin_0 11 rfl rfl)
theorem dX0_basin_14 : decode cX0_basin 14 = .ok (.iconst 0, 1) := dk_3 (dk_at dksX0_basin_0 14 rfl rfl)
theorem dX0_basin_15 : decode cX0_basin 15 = .ok (.istore_n 2, 1) := dk_61 (dk_at dksX0_basin_0 15 rfl rfl)
theorem dX0_basin_16 : decode cX0_basin 16 = .ok (.iconst 0, 1) := dk_3 (dk_at dksX0_basin_0 16 rfl rfl)
theorem dX0_basin_17 : decode cX0_basin 17 = .ok (.istore_n 3, 1) := dk_62 (dk_at dksX0_basin_0 17 rfl rfl)
theorem dX0_basin_18 : decode cX0_basin 18 = .ok (.iload_n 3, 1) := dk_29 (dk_at dksX0_basin_0 18 rfl rfl)
theorem dX0_basin_19 : decode cX0_basin 19 = .ok (.aload_n 0, 1) := dk_42 (dk_at dksX0_basin_0 19 rfl rfl)
theorem dX0_basin_20 : decode cX0_basin 20 = .ok (.invokevirtual 66, 3) := dk_182 0 66 (dk_at dksX0_basin_0 20 rfl rfl)
theorem dX0_basin_23 : decode cX0_basin 23 = .ok (.if_icmp .ge 59, 3) := dk_162 0 59 (dk_at dksX0_basin_1 0 rfl rfl)
theorem dX0_basin_26 : decode cX0_basin 26 = .ok (.iload_n 3, 1) := dk_29 (dk_at dksX0_basin_1 3 rfl rfl)
theorem dX0_basin_27 : decode cX0_basin 27 = .ok (.istore 4, 2) := dk_54 4 (dk_at dksX0_basin_1 4 rfl rfl)
theorem dX0_basin_29 : decode cX0_basin 29 = .ok (.iconst 0, 1) := dk_3 (dk_at dksX0_basin_1 6 rfl rfl)
theorem dX0_basin_30 : decode cX0_basin 30 = .ok (.istore 5, 2) := dk_54 5 (dk_at dksX0_basin_1 7 rfl rfl)
theorem dX0_basin_32 : decode cX0_basin 32 = .ok (.iload 5, 2) := dk_21 5 (dk_at dksX0_basin_1 9 rfl rfl)
theorem dX0_basin_34 : decode cX0_basin 34 = .ok (.aload_n 0, 1) := dk_42 (dk_at dksX0_basin_1 11 rfl rfl)
theorem dX0_basin_35 : decode cX0_basin 35 = .ok (.invokevirtual 66, 3) := dk_182 0 66 (dk_at dksX0_basin_1 12 rfl rfl)
theorem dX0_basin_38 : decode cX0_basin 38 = .ok (.if_icmp .ge 24, 3) := dk_162 0 24 (dk_at dksX0_basin_1 15 rfl rfl)
theorem dX0_basin_41 : decode cX0_basin 41 = .ok (.iload 4, 2) := dk_21 4 (dk_at dksX0_basin_1 18 rfl rfl)
theorem dX0_basin_43 : decode cX0_basin 43 = .ok (.iload_n 1, 1) := dk_27 (dk_at dksX0_basin_1 20 rfl rfl)
theorem dX0_basin_44 : decode cX0_basin 44 = .ok (.if_icmp .eq 18, 3) := dk_159 0 18 (dk_at dksX0_basin_1 21 rfl rfl)
theorem dX0_basin_47 : decode cX0_basin 47 = .ok (.aload_n 0, 1) := dk_42 (dk_at dksX0_basin_2 0 rfl rfl)
theorem dX0_basin_48 : decode cX0_basin 48 = .ok (.getfield 46, 3) := dk_180 0 46 (dk_at dksX0_basin_2 1 rfl rfl)
theorem dX0_basin_51 : decode cX0_basin 51 = .ok (.iload 4, 2) := dk_21 4 (dk_at dksX0_basin_2 4 rfl rfl)
theorem dX0_basin_53 : decode cX0_basin 53 = .ok (.iaload, 1) := dk_46 (dk_at dksX0_basin_2 6 rfl rfl)
theorem dX0_basin_54 : decode cX0_basin 54 = .ok (.istore 4, 2) := dk_54 4 (dk_at dksX0_basin_2 7 rfl rfl)
theorem dX0_basin_56 : decode cX0_basin 56 = .ok (.iinc 5 1, 3) := dk_132 5 1 (dk_at dksX0_basin_2 9 rfl rfl)
theorem dX0_basin_59 : decode cX0_basin 59 = .ok (.goto (-27), 3) := dk_167 255 229 (dk_at dksX0_basin_2 12 rfl rfl)
theorem dX0_basin_62 : decode cX0_basin 62 = .ok (.iload_n 2, 1) := dk_28 (dk_at dksX0_basin_2 15 rfl rfl)
theorem dX0_basin_63 : decode cX0_basin 63 = .ok (.iload 4, 2) := dk_21 4 (dk_at dksX0_basin_2 16 rfl rfl)
theorem dX0_basin_65 : decode cX0_basin 65 = .ok (.iload_n 1, 1) := dk_27 (dk_at dksX0_basin_2 18 rfl rfl)
theorem dX0_basin_66 : decode cX0_basin 66 = .ok (.if_icmp .ne 7, 3) := dk_160 0 7 (dk_at dksX0_basin_2 19 rfl rfl)
theorem dX0_basin_69 : decode cX0_basin 69 = .ok (.iconst 1, 1) := dk_4 (dk_at dksX0_basin_2 22 rfl rfl)
theorem dX0_basin_70 : decode cX0_basin 70 = .ok (.goto 4, 3) := dk_167 0 4 (dk_at dksX0_basin_3 0 rfl rfl)
theorem dX0_basin_73 : decode cX0_basin 73 = .ok (.iconst 0, 1) := dk_3 (dk_at dksX0_basin_3 3 rfl rfl)
theorem dX0_basin_74 : decode cX0_basin 74 = .ok (.iadd, 1) := dk_96 (dk_at dksX0_basin_3 4 rfl rfl)
theorem dX0_basin_75 : decode cX0_basin 75 = .ok (.istore_n 2, 1) := dk_61 (dk_at dksX0_basin_3 5 rfl rfl)
theorem dX0_basin_76 : decode cX0_basin 76 = .ok (.iinc 3 1, 3) := dk_132 3 1 (dk_at dksX0_basin_3 6 rfl rfl)
theorem dX0_basin_79 : decode cX0_basin 79 = .ok (.goto (-61), 3) := dk_167 255 195 (dk_at dksX0_basin_3 9 rfl rfl)
theorem dX0_basin_82 : decode cX0_basin 82 = .ok (.iload_n 2, 1) := dk_28 (dk_at dksX0_basin_3 12 rfl rfl)
theorem dX0_basin_83 : decode cX0_basin 83 = .ok (.ireturn, 1) := dk_172 (dk_at dksX0_basin_3 13 rfl rfl)
abbrev cX0_never : ByteArray := prog_1_method_59_code
def yX0_never : MethodName := ⟨RX0, "never", "()I"⟩
def dkwX0_never_3 : List UInt8 := [172]
abbrev dktX0_never_3 : List UInt8 := dkwX0_never_3 ++ []
def dkwX0_never_2 : List UInt8 := [162, 0, 23, 28, 43, 29, 51, 153, 0, 7, 3, 167, 0, 4, 4, 96, 61, 132, 3, 1, 167, 255, 231, 28]
abbrev dktX0_never_2 : List UInt8 := dkwX0_never_2 ++ dktX0_never_3
def dkwX0_never_1 : List UInt8 := [180, 0, 46, 28, 46, 4, 84, 132, 2, 1, 167, 255, 236, 3, 61, 3, 62, 29, 42, 182, 0, 66]
abbrev dktX0_never_1 : List UInt8 := dkwX0_never_1 ++ dktX0_never_2
def dkwX0_never_0 : List UInt8 := [42, 182, 1, 31, 17, 1, 0, 188, 4, 76, 3, 61, 28, 42, 182, 0, 66, 162, 0, 18, 43, 42]
abbrev dktX0_never_0 : List UInt8 := dkwX0_never_0 ++ dktX0_never_1
theorem dksX0_never_0 : cX0_never.data.toList.drop 0 = dktX0_never_0 := by decide +kernel
theorem dksX0_never_1 : cX0_never.data.toList.drop 22 = dktX0_never_1 := dk_seg dksX0_never_0 22 rfl rfl
theorem dksX0_never_2 : cX0_never.data.toList.drop 44 = dktX0_never_2 := dk_seg dksX0_never_1 22 rfl rfl
theorem dksX0_never_3 : cX0_never.data.toList.drop 68 = dktX0_never_3 := dk_seg dksX0_never_2 24 rfl rfl
theorem dX0_never_0 : decode cX0_never 0 = .ok (.aload_n 0, 1) := dk_42 (dk_at dksX0_never_0 0 rfl rfl)
theorem dX0_never_1 : decode cX0_never 1 = .ok (.invokevirtual 287, 3) := dk_182 1 31 (dk_at dksX0_never_0 1 rfl rfl)
theorem dX0_never_4 : decode cX0_never 4 = .ok (.sipush 256, 3) := dk_17 1 0 (dk_at dksX0_never_0 4 rfl rfl)
theorem dX0_never_7 : decode cX0_never 7 = .ok (.newarray .boolean, 2) := dk_188_4 (dk_at dksX0_never_0 7 rfl rfl)
theorem dX0_never_9 : decode cX0_never 9 = .ok (.astore_n 1, 1) := dk_76 (dk_at dksX0_never_0 9 rfl rfl)
theorem dX0_never_10 : decode cX0_never 10 = .ok (.iconst 0, 1) := dk_3 (dk_at dksX0_never_0 10 rfl rfl)
theorem dX0_never_11 : decode cX0_never 11 = .ok (.istore_n 2, 1) := dk_61 (dk_at dksX0_never_0 11 rfl rfl)
theorem dX0_never_12 : decode cX0_never 12 = .ok (.iload_n 2, 1) := dk_28 (dk_at dksX0_never_0 12 rfl rfl)
theorem dX0_never_13 : decode cX0_never 13 = .ok (.aload_n 0, 1) := dk_42 (dk_at dksX0_never_0 13 rfl rfl)
theorem dX0_never_14 : decode cX0_never 14 = .ok (.invokevirtual 66, 3) := dk_182 0 66 (dk_at dksX0_never_0 14 rfl rfl)
theorem dX0_never_17 : decode cX0_never 17 = .ok (.if_icmp .ge 18, 3) := dk_162 0 18 (dk_at dksX0_never_0 17 rfl rfl)
theorem dX0_never_20 : decode cX0_never 20 = .ok (.aload_n 1, 1) := dk_43 (dk_at dksX0_never_0 20 rfl rfl)
theorem dX0_never_21 : decode cX0_never 21 = .ok (.aload_n 0, 1) := dk_42 (dk_at dksX0_never_0 21 rfl rfl)
theorem dX0_never_22 : decode cX0_never 22 = .ok (.getfield 46, 3) := dk_180 0 46 (dk_at dksX0_never_1 0 rfl rfl)
theorem dX0_never_25 : decode cX0_never 25 = .ok (.iload_n 2, 1) := dk_28 (dk_at dksX0_never_1 3 rfl rfl)
theorem dX0_never_26 : decode cX0_never 26 = .ok (.iaload, 1) := dk_46 (dk_at dksX0_never_1 4 rfl rfl)
theorem dX0_never_27 : decode cX0_never 27 = .ok (.iconst 1, 1) := dk_4 (dk_at dksX0_never_1 5 rfl rfl)
theorem dX0_never_28 : decode cX0_never 28 = .ok (.bastore, 1) := dk_84 (dk_at dksX0_never_1 6 rfl rfl)
theorem dX0_never_29 : decode cX0_never 29 = .ok (.iinc 2 1, 3) := dk_132 2 1 (dk_at dksX0_never_1 7 rfl rfl)
theorem dX0_never_32 : decode cX0_never 32 = .ok (.goto (-20), 3) := dk_167 255 236 (dk_at dksX0_never_1 10 rfl rfl)
theorem dX0_never_35 : decode cX0_never 35 = .ok (.iconst 0, 1) := dk_3 (dk_at dksX0_never_1 13 rfl rfl)
theorem dX0_never_36 : decode cX0_never 36 = .ok (.istore_n 2, 1) := dk_61 (dk_at dksX0_never_1 14 rfl rfl)
theorem dX0_never_37 : decode cX0_never 37 = .ok (.iconst 0, 1) := dk_3 (dk_at dksX0_never_1 15 rfl rfl)
theorem dX0_never_38 : decode cX0_never 38 = .ok (.istore_n 3, 1) := dk_62 (dk_at dksX0_never_1 16 rfl rfl)
theorem dX0_never_39 : decode cX0_never 39 = .ok (.iload_n 3, 1) := dk_29 (dk_at dksX0_never_1 17 rfl rfl)
theorem dX0_never_40 : decode cX0_never 40 = .ok (.aload_n 0, 1) := dk_42 (dk_at dksX0_never_1 18 rfl rfl)
theorem dX0_never_41 : decode cX0_never 41 = .ok (.invokevirtual 66, 3) := dk_182 0 66 (dk_at dksX0_never_1 19 rfl rfl)
theorem dX0_never_44 : decode cX0_never 44 = .ok (.if_icmp .ge 23, 3) := dk_162 0 23 (dk_at dksX0_never_2 0 rfl rfl)
theorem dX0_never_47 : decode cX0_never 47 = .ok (.iload_n 2, 1) := dk_28 (dk_at dksX0_never_2 3 rfl rfl)
theorem dX0_never_48 : decode cX0_never 48 = .ok (.aload_n 1, 1) := dk_43 (dk_at dksX0_never_2 4 rfl rfl)
theorem dX0_never_49 : decode cX0_never 49 = .ok (.iload_n 3, 1) := dk_29 (dk_at dksX0_never_2 5 rfl rfl)
theorem dX0_never_50 : decode cX0_never 50 = .ok (.baload, 1) := dk_51 (dk_at dksX0_never_2 6 rfl rfl)
theorem dX0_never_51 : decode cX0_never 51 = .ok (.ifCond .eq 7, 3) := dk_153 0 7 (dk_at dksX0_never_2 7 rfl rfl)
theorem dX0_never_54 : decode cX0_never 54 = .ok (.iconst 0, 1) := dk_3 (dk_at dksX0_never_2 10 rfl rfl)
theorem dX0_never_55 : decode cX0_never 55 = .ok (.goto 4, 3) := dk_167 0 4 (dk_at dksX0_never_2 11 rfl rfl)
theorem dX0_never_58 : decode cX0_never 58 = .ok (.iconst 1, 1) := dk_4 (dk_at dksX0_never_2 14 rfl rfl)
theorem dX0_never_59 : decode cX0_never 59 = .ok (.iadd, 1) := dk_96 (dk_at dksX0_never_2 15 rfl rfl)
theorem dX0_never_60 : decode cX0_never 60 = .ok (.istore_n 2, 1) := dk_61 (dk_at dksX0_never_2 16 rfl rfl)
theorem dX0_never_61 : decode cX0_never 61 = .ok (.iinc 3 1, 3) := dk_132 3 1 (dk_at dksX0_never_2 17 rfl rfl)
theorem dX0_never_64 : decode cX0_never 64 = .ok (.goto (-25), 3) := dk_167 255 231 (dk_at dksX0_never_2 20 rfl rfl)
theorem dX0_never_67 : decode cX0_never 67 = .ok (.iload_n 2, 1) := dk_28 (dk_at dksX0_never_2 23 rfl rfl)
theorem dX0_never_68 : decode cX0_never 68 = .ok (.ireturn, 1) := dk_172 (dk_at dksX0_never_3 0 rfl rfl)
abbrev cX0_after : ByteArray := prog_1_method_60_code
def yX0_after : MethodName := ⟨RX0, "after", "(II)I"⟩
def dkwX0_after_1 : List UInt8 := [42, 27, 28, 182, 1, 40, 172]
abbrev dktX0_after_1 : List UInt8 := dkwX0_after_1 ++ []
def dkwX0_after_0 : List UInt8 := [42, 27, 182, 0, 198, 153, 0, 13, 28, 3, 16, 60, 184, 0, 62, 154, 0, 5, 2, 172, 42, 182, 1, 31]
abbrev dktX0_after_0 : List UInt8 := dkwX0_after_0 ++ dktX0_after_1
theorem dksX0_after_0 : cX0_after.data.toList.drop 0 = dktX0_after_0 := by decide +kernel
theorem dksX0_after_1 : cX0_after.data.toList.drop 24 = dktX0_after_1 := dk_seg dksX0_after_0 24 rfl rfl
theorem dX0_after_0 : decode cX0_after 0 = .ok (.aload_n 0, 1) := dk_42 (dk_at dksX0_after_0 0 rfl rfl)
theorem dX0_after_1 : decode cX0_after 1 = .ok (.iload_n 1, 1) := dk_27 (dk_at dksX0_after_0 1 rfl rfl)
theorem dX0_after_2 : decode cX0_after 2 = .ok (.invokevirtual 198, 3) := dk_182 0 198 (dk_at dksX0_after_0 2 rfl rfl)
theorem dX0_after_5 : decode cX0_after 5 = .ok (.ifCond .eq 13, 3) := dk_153 0 13 (dk_at dksX0_after_0 5 rfl rfl)
theorem dX0_after_8 : decode cX0_after 8 = .ok (.iload_n 2, 1) := dk_28 (dk_at dksX0_after_0 8 rfl rfl)
theorem dX0_after_9 : decode cX0_after 9 = .ok (.iconst 0, 1) := dk_3 (dk_at dksX0_after_0 9 rfl rfl)
theorem dX0_after_10 : decode cX0_after 10 = .ok (.bipush 60, 2) := dk_16 60 (dk_at dksX0_after_0 10 rfl rfl)
theorem dX0_after_12 : decode cX0_after 12 = .ok (.invokestatic 62, 3) := dk_184 0 62 (dk_at dksX0_after_0 12 rfl rfl)
theorem dX0_after_15 : decode cX0_after 15 = .ok (.ifCond .ne 5, 3) := dk_154 0 5 (dk_at dksX0_after_0 15 rfl rfl)
theorem dX0_after_18 : decode cX0_after 18 = .ok (.iconst (-1), 1) := dk_2 (dk_at dksX0_after_0 18 rfl rfl)
theorem dX0_after_19 : decode cX0_after 19 = .ok (.ireturn, 1) := dk_172 (dk_at dksX0_after_0 19 rfl rfl)
theorem dX0_after_20 : decode cX0_after 20 = .ok (.aload_n 0, 1) := dk_42 (dk_at dksX0_after_0 20 rfl rfl)
theorem dX0_after_21 : decode cX0_after 21 = .ok (.invokevirtual 287, 3) := dk_182 1 31 (dk_at dksX0_after_0 21 rfl rfl)
theorem dX0_after_24 : decode cX0_after 24 = .ok (.aload_n 0, 1) := dk_42 (dk_at dksX0_after_1 0 rfl rfl)
theorem dX0_after_25 : decode cX0_after 25 = .ok (.iload_n 1, 1) := dk_27 (dk_at dksX0_after_1 1 rfl rfl)
theorem dX0_after_26 : decode cX0_after 26 = .ok (.iload_n 2, 1) := dk_28 (dk_at dksX0_after_1 2 rfl rfl)
theorem dX0_after_27 : decode cX0_after 27 = .ok (.invokevirtual 296, 3) := dk_182 1 40 (dk_at dksX0_after_1 3 rfl rfl)
theorem dX0_after_30 : decode cX0_after 30 = .ok (.ireturn, 1) := dk_172 (dk_at dksX0_after_1 6 rfl rfl)
abbrev cX0_times : ByteArray := prog_1_method_61_code
def yX0_times : MethodName := ⟨RX0, "times", "(II)I"⟩
def dkwX0_times_2 : List UInt8 := [46, 62, 132, 4, 1, 167, 255, 230, 2, 172]
abbrev dktX0_times_2 : List UInt8 := dkwX0_times_2 ++ []
def dkwX0_times_1 : List UInt8 := [3, 54, 4, 21, 4, 17, 1, 0, 163, 0, 24, 29, 28, 160, 0, 6, 21, 4, 172, 42, 180, 0, 46, 29]
abbrev dktX0_times_1 : List UInt8 := dkwX0_times_1 ++ dktX0_times_2
def dkwX0_times_0 : List UInt8 := [42, 27, 182, 0, 198, 153, 0, 11, 42, 28, 182, 0, 198, 154, 0, 5, 2, 172, 42, 182, 1, 31, 27, 62]
abbrev dktX0_times_0 : List UInt8 := dkwX0_times_0 ++ dktX0_times_1
theorem dksX0_times_0 : cX0_times.data.toList.drop 0 = dktX0_times_0 := by decide +kernel
theorem dksX0_times_1 : cX0_times.data.toList.drop 24 = dktX0_times_1 := dk_seg dksX0_times_0 24 rfl rfl
theorem dksX0_times_2 : cX0_times.data.toList.drop 48 = dktX0_times_2 := dk_seg dksX0_times_1 24 rfl rfl
theorem dX0_times_0 : decode cX0_times 0 = .ok (.aload_n 0, 1) := dk_42 (dk_at dksX0_times_0 0 rfl rfl)
theorem dX0_times_1 : decode cX0_times 1 = .ok (.iload_n 1, 1) := dk_27 (dk_at dksX0_times_0 1 rfl rfl)
theorem dX0_times_2 : decode cX0_times 2 = .ok (.invokevirtual 198, 3) := dk_182 0 198 (dk_at dksX0_times_0 2 rfl rfl)
theorem dX0_times_5 : decode cX0_times 5 = .ok (.ifCond .eq 11, 3) := dk_153 0 11 (dk_at dksX0_times_0 5 rfl rfl)
theorem dX0_times_8 : decode cX0_times 8 = .ok (.aload_n 0, 1) := dk_42 (dk_at dksX0_times_0 8 rfl rfl)
theorem dX0_times_9 : decode cX0_times 9 = .ok (.iload_n 2, 1) := dk_28 (dk_at dksX0_times_0 9 rfl rfl)
theorem dX0_times_10 : decode cX0_times 10 = .ok (.invokevirtual 198, 3) := dk_182 0 198 (dk_at dksX0_times_0 10 rfl rfl)
theorem dX0_times_13 : decode cX0_times 13 = .ok (.ifCond .ne 5, 3) := dk_154 0 5 (dk_at dksX0_times_0 13 rfl rfl)
theorem dX0_times_16 : decode cX0_times 16 = .ok (.iconst (-1), 1) := dk_2 (dk_at dksX0_times_0 16 rfl rfl)
theorem dX0_times_17 : decode cX0_times 17 = .ok (.ireturn, 1) := dk_172 (dk_at dksX0_times_0 17 rfl rfl)
theorem dX0_times_18 : decode cX0_times 18 = .ok (.aload_n 0, 1) := dk_42 (dk_at dksX0_times_0 18 rfl rfl)
theorem dX0_times_19 : decode cX0_times 19 = .ok (.invokevirtual 287, 3) := dk_182 1 31 (dk_at dksX0_times_0 19 rfl rfl)
theorem dX0_times_22 : decode cX0_times 22 = .ok (.iload_n 1, 1) := dk_27 (dk_at dksX0_times_0 22 rfl rfl)
theorem dX0_times_23 : decode cX0_times 23 = .ok (.istore_n 3, 1) := dk_62 (dk_at dksX0_times_0 23 rfl rfl)
theorem dX0_times_24 : decode cX0_times 24 = .ok (.iconst 0, 1) := dk_3 (dk_at dksX0_times_1 0 rfl rfl)
theorem dX0_times_25 : decode cX0_times 25 = .ok (.istore 4, 2) := dk_54 4 (dk_at dksX0_times_1 1 rfl rfl)
theorem dX0_times_27 : decode cX0_times 27 = .ok (.iload 4, 2) := dk_21 4 (dk_at dksX0_times_1 3 rfl rfl)
theorem dX0_times_29 : decode cX0_times 29 = .ok (.sipush 256, 3) := dk_17 1 0 (dk_at dksX0_times_1 5 rfl rfl)
theorem dX0_times_32 : decode cX0_times 32 = .ok (.if_icmp .gt 24, 3) := dk_163 0 24 (dk_at dksX0_times_1 8 rfl rfl)
theorem dX0_times_35 : decode cX0_times 35 = .ok (.iload_n 3, 1) := dk_29 (dk_at dksX0_times_1 11 rfl rfl)
theorem dX0_times_36 : decode cX0_times 36 = .ok (.iload_n 2, 1) := dk_28 (dk_at dksX0_times_1 12 rfl rfl)
theorem dX0_times_37 : decode cX0_times 37 = .ok (.if_icmp .ne 6, 3) := dk_160 0 6 (dk_at dksX0_times_1 13 rfl rfl)
theorem dX0_times_40 : decode cX0_times 40 = .ok (.iload 4, 2) := dk_21 4 (dk_at dksX0_times_1 16 rfl rfl)
theorem dX0_times_42 : decode cX0_times 42 = .ok (.ireturn, 1) := dk_172 (dk_at dksX0_times_1 18 rfl rfl)
theorem dX0_times_43 : decode cX0_times 43 = .ok (.aload_n 0, 1) := dk_42 (dk_at dksX0_times_1 19 rfl rfl)
theorem dX0_times_44 : decode cX0_times 44 = .ok (.getfield 46, 3) := dk_180 0 46 (dk_at dksX0_times_1 20 rfl rfl)
theorem dX0_times_47 : decode cX0_times 47 = .ok (.iload_n 3, 1) := dk_29 (dk_at dksX0_times_1 23 rfl rfl)
theorem dX0_times_48 : decode cX0_times 48 = .ok (.iaload, 1) := dk_46 (dk_at dksX0_times_2 0 rfl rfl)
theorem dX0_times_49 : decode cX0_times 49 = .ok (.istore_n 3, 1) := dk_62 (dk_at dksX0_times_2 1 rfl rfl)
theorem dX0_times_50 : decode cX0_times 50 = .ok (.iinc 4 1, 3) := dk_132 4 1 (dk_at dksX0_times_2 2 rfl rfl)
theorem dX0_times_53 : decode cX0_times 53 = .ok (.goto (-26), 3) := dk_167 255 230 (dk_at dksX0_times_2 5 rfl rfl)
theorem dX0_times_56 : decode cX0_times 56 = .ok (.iconst (-1), 1) := dk_2 (dk_at dksX0_times_2 8 rfl rfl)
theorem dX0_times_57 : decode cX0_times 57 = .ok (.ireturn, 1) := dk_172 (dk_at dksX0_times_2 9 rfl rfl)
abbrev cX0_apart : ByteArray := prog_1_method_62_code
def yX0_apart : MethodName := ⟨RX0, "apart", "(II)I"⟩
def dkwX0_apart_2 : List UInt8 := [180, 0, 46, 29, 46, 62, 42, 180, 0, 46, 21, 4, 46, 54, 4, 132, 5, 1, 167, 255, 220, 2, 172]
abbrev dktX0_apart_2 : List UInt8 := dkwX0_apart_2 ++ []
def dkwX0_apart_1 : List UInt8 := [28, 54, 4, 3, 54, 5, 21, 5, 17, 1, 0, 163, 0, 34, 29, 21, 4, 160, 0, 6, 21, 5, 172, 42]
abbrev dktX0_apart_1 : List UInt8 := dkwX0_apart_1 ++ dktX0_apart_2
def dkwX0_apart_0 : List UInt8 := [42, 27, 182, 0, 198, 153, 0, 11, 42, 28, 182, 0, 198, 154, 0, 5, 2, 172, 42, 182, 1, 31, 27, 62]
abbrev dktX0_apart_0 : List UInt8 := dkwX0_apart_0 ++ dktX0_apart_1
theorem dksX0_apart_0 : cX0_apart.data.toList.drop 0 = dktX0_apart_0 := by decide +kernel
theorem dksX0_apart_1 : cX0_apart.data.toList.drop 24 = dktX0_apart_1 := dk_seg dksX0_apart_0 24 rfl rfl
theorem dksX0_apart_2 : cX0_apart.data.toList.drop 48 = dktX0_apart_2 := dk_seg dksX0_apart_1 24 rfl rfl
theorem dX0_apart_0 : decode cX0_apart 0 = .ok (.aload_n 0, 1) := dk_42 (dk_at dksX0_apart_0 0 rfl rfl)
theorem dX0_apart_1 : decode cX0_apart 1 = .ok (.iload_n 1, 1) := dk_27 (dk_at dksX0_apart_0 1 rfl rfl)
theorem dX0_apart_2 : decode cX0_apart 2 = .ok (.invokevirtual 198, 3) := dk_182 0 198 (dk_at dksX0_apart_0 2 rfl rfl)
theorem dX0_apart_5 : decode cX0_apart 5 = .ok (.ifCond .eq 11, 3) := dk_153 0 11 (dk_at dksX0_apart_0 5 rfl rfl)
theorem dX0_apart_8 : decode cX0_apart 8 = .ok (.aload_n 0, 1) := dk_42 (dk_at dksX0_apart_0 8 rfl rfl)
theorem dX0_apart_9 : decode cX0_apart 9 = .ok (.iload_n 2, 1) := dk_28 (dk_at dksX0_apart_0 9 rfl rfl)
theorem dX0_apart_10 : decode cX0_apart 10 = .ok (.invokevirtual 198, 3) := dk_182 0 198 (dk_at dksX0_apart_0 10 rfl rfl)
theorem dX0_apart_13 : decode cX0_apart 13 = .ok (.ifCond .ne 5, 3) := dk_154 0 5 (dk_at dksX0_apart_0 13 rfl rfl)
theorem dX0_apart_16 : decode cX0_apart 16 = .ok (.iconst (-1), 1) := dk_2 (dk_at dksX0_apart_0 16 rfl rfl)
theorem dX0_apart_17 : decode cX0_apart 17 = .ok (.ireturn, 1) := dk_172 (dk_at dksX0_apart_0 17 rfl rfl)
theorem dX0_apart_18 : decode cX0_apart 18 = .ok (.aload_n 0, 1) := dk_42 (dk_at dksX0_apart_0 18 rfl rfl)
theorem dX0_apart_19 : decode cX0_apart 19 = .ok (.invokevirtual 287, 3) := dk_182 1 31 (dk_at dksX0_apart_0 19 rfl rfl)
theorem dX0_apart_22 : decode cX0_apart 22 = .ok (.iload_n 1, 1) := dk_27 (dk_at dksX0_apart_0 22 rfl rfl)
theorem dX0_apart_23 : decode cX0_apart 23 = .ok (.istore_n 3, 1) := dk_62 (dk_at dksX0_apart_0 23 rfl rfl)
theorem dX0_apart_24 : decode cX0_apart 24 = .ok (.iload_n 2, 1) := dk_28 (dk_at dksX0_apart_1 0 rfl rfl)
theorem dX0_apart_25 : decode cX0_apart 25 = .ok (.istore 4, 2) := dk_54 4 (dk_at dksX0_apart_1 1 rfl rfl)
theorem dX0_apart_27 : decode cX0_apart 27 = .ok (.iconst 0, 1) := dk_3 (dk_at dksX0_apart_1 3 rfl rfl)
theorem dX0_apart_28 : decode cX0_apart 28 = .ok (.istore 5, 2) := dk_54 5 (dk_at dksX0_apart_1 4 rfl rfl)
theorem dX0_apart_30 : decode cX0_apart 30 = .ok (.iload 5, 2) := dk_21 5 (dk_at dksX0_apart_1 6 rfl rfl)
theorem dX0_apart_32 : decode cX0_apart 32 = .ok (.sipush 256, 3) := dk_17 1 0 (dk_at dksX0_apart_1 8 rfl rfl)
theorem dX0_apart_35 : decode cX0_apart 35 = .ok (.if_icmp .gt 34, 3) := dk_163 0 34 (dk_at dksX0_apart_1 11 rfl rfl)
theorem dX0_apart_38 : decode cX0_apart 38 = .ok (.iload_n 3, 1) := dk_29 (dk_at dksX0_apart_1 14 rfl rfl)
theorem dX0_apart_39 : decode cX0_apart 39 = .ok (.iload 4, 2) := dk_21 4 (dk_at dksX0_apart_1 15 rfl rfl)
theorem dX0_apart_41 : decode cX0_apart 41 = .ok (.if_icmp .ne 6, 3) := dk_160 0 6 (dk_at dksX0_apart_1 17 rfl rfl)
theorem dX0_apart_44 : decode cX0_apart 44 = .ok (.iload 5, 2) := dk_21 5 (dk_at dksX0_apart_1 20 rfl rfl)
theorem dX0_apart_46 : decode cX0_apart 46 = .ok (.ireturn, 1) := dk_172 (dk_at dksX0_apart_1 22 rfl rfl)
theorem dX0_apart_47 : decode cX0_apart 47 = .ok (.aload_n 0, 1) := dk_42 (dk_at dksX0_apart_1 23 rfl rfl)
theorem dX0_apart_48 : decode cX0_apart 48 = .ok (.getfield 46, 3) := dk_180 0 46 (dk_at dksX0_apart_2 0 rfl rfl)
theorem dX0_apart_51 : decode cX0_apart 51 = .ok (.iload_n 3, 1) := dk_29 (dk_at dksX0_apart_2 3 rfl rfl)
theorem dX0_apart_52 : decode cX0_apart 52 = .ok (.iaload, 1) := dk_46 (dk_at dksX0_apart_2 4 rfl rfl)
theorem dX0_apart_53 : decode cX0_apart 53 = .ok (.istore_n 3, 1) := dk_62 (dk_at dksX0_apart_2 5 rfl rfl)
theorem dX0_apart_54 : decode cX0_apart 54 = .ok (.aload_n 0, 1) := dk_42 (dk_at dksX0_apart_2 6 rfl rfl)
theorem dX0_apart_55 : decode cX0_apart 55 = .ok (.getfield 46, 3) := dk_180 0 46 (dk_at dksX0_apart_2 7 rfl rfl)
theorem dX0_apart_58 : decode cX0_apart 58 = .ok (.iload 4, 2) := dk_21 4 (dk_at dksX0_apart_2 10 rfl rfl)
theorem dX0_apart_60 : decode cX0_apart 60 = .ok (.iaload, 1) := dk_46 (dk_at dksX0_apart_2 12 rfl rfl)
theorem dX0_apart_61 : decode cX0_apart 61 = .ok (.istore 4, 2) := dk_54 4 (dk_at dksX0_apart_2 13 rfl rfl)
theorem dX0_apart_63 : decode cX0_apart 63 = .ok (.iinc 5 1, 3) := dk_132 5 1 (dk_at dksX0_apart_2 15 rfl rfl)
theorem dX0_apart_66 : decode cX0_apart 66 = .ok (.goto (-36), 3) := dk_167 255 220 (dk_at dksX0_apart_2 18 rfl rfl)
theorem dX0_apart_69 : decode cX0_apart 69 = .ok (.iconst (-1), 1) := dk_2 (dk_at dksX0_apart_2 21 rfl rfl)
theorem dX0_apart_70 : decode cX0_apart 70 = .ok (.ireturn, 1) := dk_172 (dk_at dksX0_apart_2 22 rfl rfl)
abbrev cX0_always : ByteArray := prog_1_method_64_code
def yX0_always : MethodName := ⟨RX0, "always", "()I"⟩
def dkwX0_always_2 : List UInt8 := [167, 0, 4, 3, 96, 60, 132, 2, 1, 167, 255, 203, 27, 172]
abbrev dktX0_always_2 : List UInt8 := dkwX0_always_2 ++ []
def dkwX0_always_1 : List UInt8 := [29, 153, 0, 17, 42, 21, 4, 28, 182, 1, 49, 62, 132, 4, 1, 167, 255, 234, 27, 29, 153, 0, 7, 4]
abbrev dktX0_always_1 : List UInt8 := dkwX0_always_1 ++ dktX0_always_2
def dkwX0_always_0 : List UInt8 := [3, 60, 3, 61, 28, 42, 182, 0, 66, 162, 0, 51, 4, 62, 3, 54, 4, 21, 4, 16, 10, 162, 0, 21]
abbrev dktX0_always_0 : List UInt8 := dkwX0_always_0 ++ dktX0_always_1
theorem dksX0_always_0 : cX0_always.data.toList.drop 0 = dktX0_always_0 := by decide +kernel
theorem dksX0_always_1 : cX0_always.data.toList.drop 24 = dktX0_always_1 := dk_seg dksX0_always_0 24 rfl rfl
theorem dksX0_always_2 : cX0_always.data.toList.drop 48 = dktX0_always_2 := dk_seg dksX0_always_1 24 rfl rfl
theorem dX0_always_0 : decode cX0_always 0 = .ok (.iconst 0, 1) := dk_3 (dk_at dksX0_always_0 0 rfl rfl)
theorem dX0_always_1 : decode cX0_always 1 = .ok (.istore_n 1, 1) := dk_60 (dk_at dksX0_always_0 1 rfl rfl)
theorem dX0_always_2 : decode cX0_always 2 = .ok (.iconst 0, 1) := dk_3 (dk_at dksX0_always_0 2 rfl rfl)
theorem dX0_always_3 : decode cX0_always 3 = .ok (.istore_n 2, 1) := dk_61 (dk_at dksX0_always_0 3 rfl rfl)
theorem dX0_always_4 : decode cX0_always 4 = .ok (.iload_n 2, 1) := dk_28 (dk_at dksX0_always_0 4 rfl rfl)
theorem dX0_always_5 : decode cX0_always 5 = .ok (.aload_n 0, 1) := dk_42 (dk_at dksX0_always_0 5 rfl rfl)
theorem dX0_always_6 : decode cX0_always 6 = .ok (.invokevirtual 66, 3) := dk_182 0 66 (dk_at dksX0_always_0 6 rfl rfl)
theorem dX0_always_9 : decode cX0_always 9 = .ok (.if_icmp .ge 51, 3) := dk_162 0 51 (dk_at dksX0_always_0 9 rfl rfl)
theorem dX0_always_12 : decode cX0_always 12 = .ok (.iconst 1, 1) := dk_4 (dk_at dksX0_always_0 12 rfl rfl)
theorem dX0_always_13 : decode cX0_always 13 = .ok (.istore_n 3, 1) := dk_62 (dk_at dksX0_always_0 13 rfl rfl)
theorem dX0_always_14 : decode cX0_always 14 = .ok (.iconst 0, 1) := dk_3 (dk_at dksX0_always_0 14 rfl rfl)
theorem dX0_always_15 : decode cX0_always 15 = .ok (.istore 4, 2) := dk_54 4 (dk_at dksX0_always_0 15 rfl rfl)
theorem dX0_always_17 : decode cX0_always 17 = .ok (.iload 4, 2) := dk_21 4 (dk_at dksX0_always_0 17 rfl rfl)
theorem dX0_always_19 : decode cX0_always 19 = .ok (.bipush 10, 2) := dk_16 10 (dk_at dksX0_always_0 19 rfl rfl)
theorem dX0_always_21 : decode cX0_always 21 = .ok (.if_icmp .ge 21, 3) := dk_162 0 21 (dk_at dksX0_always_0 21 rfl rfl)
theorem dX0_always_24 : decode cX0_always 24 = .ok (.iload_n 3, 1) := dk_29 (dk_at dksX0_always_1 0 rfl rfl)
theorem dX0_always_25 : decode cX0_always 25 = .ok (.ifCond .eq 17, 3) := dk_153 0 17 (dk_at dksX0_always_1 1 rfl rfl)
theorem dX0_always_28 : decode cX0_always 28 = .ok (.aload_n 0, 1) := dk_42 (dk_at dksX0_always_1 4 rfl rfl)
theorem dX0_always_29 : decode cX0_always 29 = .ok (.iload 4, 2) := dk_21 4 (dk_at dksX0_always_1 5 rfl rfl)
theorem dX0_always_31 : decode cX0_always 31 = .ok (.iload_n 2, 1) := dk_28 (dk_at dksX0_always_1 7 rfl rfl)
theorem dX0_always_32 : decode cX0_always 32 = .ok (.invokevirtual 305, 3) := dk_182 1 49 (dk_at dksX0_always_1 8 rfl rfl)
theorem dX0_always_35 : decode cX0_always 35 = .ok (.istore_n 3, 1) := dk_62 (dk_at dksX0_always_1 11 rfl rfl)
theorem dX0_always_36 : decode cX0_always 36 = .ok (.iinc 4 1, 3) := dk_132 4 1 (dk_at dksX0_always_1 12 rfl rfl)
theorem dX0_always_39 : decode cX0_always 39 = .ok (.goto (-22), 3) := dk_167 255 234 (dk_at dksX0_always_1 15 rfl rfl)
theorem dX0_always_42 : decode cX0_always 42 = .ok (.iload_n 1, 1) := dk_27 (dk_at dksX0_always_1 18 rfl rfl)
theorem dX0_always_43 : decode cX0_always 43 = .ok (.iload_n 3, 1) := dk_29 (dk_at dksX0_always_1 19 rfl rfl)
theorem dX0_always_44 : decode cX0_always 44 = .ok (.ifCond .eq 7, 3) := dk_153 0 7 (dk_at dksX0_always_1 20 rfl rfl)
theorem dX0_always_47 : decode cX0_always 47 = .ok (.iconst 1, 1) := dk_4 (dk_at dksX0_always_1 23 rfl rfl)
theorem dX0_always_48 : decode cX0_always 48 = .ok (.goto 4, 3) := dk_167 0 4 (dk_at dksX0_always_2 0 rfl rfl)
theorem dX0_always_51 : decode cX0_always 51 = .ok (.iconst 0, 1) := dk_3 (dk_at dksX0_always_2 3 rfl rfl)
theorem dX0_always_52 : decode cX0_always 52 = .ok (.iadd, 1) := dk_96 (dk_at dksX0_always_2 4 rfl rfl)
theorem dX0_always_53 : decode cX0_always 53 = .ok (.istore_n 1, 1) := dk_60 (dk_at dksX0_always_2 5 rfl rfl)
theorem dX0_always_54 : decode cX0_always 54 = .ok (.iinc 2 1, 3) := dk_132 2 1 (dk_at dksX0_always_2 6 rfl rfl)
theorem dX0_always_57 : decode cX0_always 57 = .ok (.goto (-53), 3) := dk_167 255 203 (dk_at dksX0_always_2 9 rfl rfl)
theorem dX0_always_60 : decode cX0_always 60 = .ok (.iload_n 1, 1) := dk_27 (dk_at dksX0_always_2 12 rfl rfl)
theorem dX0_always_61 : decode cX0_always 61 = .ok (.ireturn, 1) := dk_172 (dk_at dksX0_always_2 13 rfl rfl)
abbrev cX0_isSettledBy : ByteArray := prog_1_method_63_code
def yX0_isSettledBy : MethodName := ⟨RX0, "isSettledBy", "(II)Z"⟩
def dkwX0_isSettledBy_1 : List UInt8 := [180, 0, 43, 28, 182, 0, 178, 28, 160, 0, 7, 4, 167, 0, 4, 3, 172]
abbrev dktX0_isSettledBy_1 : List UInt8 := dkwX0_isSettledBy_1 ++ []
def dkwX0_isSettledBy_0 : List UInt8 := [42, 180, 0, 21, 180, 0, 188, 42, 180, 0, 43, 184, 1, 23, 42, 180, 0, 43, 5, 27, 79, 42, 42]
abbrev dktX0_isSettledBy_0 : List UInt8 := dkwX0_isSettledBy_0 ++ dktX0_isSettledBy_1
theorem dksX0_isSettledBy_0 : cX0_isSettledBy.data.toList.drop 0 = dktX0_isSettledBy_0 := by decide +kernel
theorem dksX0_isSettledBy_1 : cX0_isSettledBy.data.toList.drop 23 = dktX0_isSettledBy_1 := dk_seg dksX0_isSettledBy_0 23 rfl rfl
theorem dX0_isSettledBy_0 : decode cX0_isSettledBy 0 = .ok (.aload_n 0, 1) := dk_42 (dk_at dksX0_isSettledBy_0 0 rfl rfl)
theorem dX0_isSettledBy_1 : decode cX0_isSettledBy 1 = .ok (.getfield 21, 3) := dk_180 0 21 (dk_at dksX0_isSettledBy_0 1 rfl rfl)
theorem dX0_isSettledBy_4 : decode cX0_isSettledBy 4 = .ok (.getfield 188, 3) := dk_180 0 188 (dk_at dksX0_isSettledBy_0 4 rfl rfl)
theorem dX0_isSettledBy_7 : decode cX0_isSettledBy 7 = .ok (.aload_n 0, 1) := dk_42 (dk_at dksX0_isSettledBy_0 7 rfl rfl)
theorem dX0_isSettledBy_8 : decode cX0_isSettledBy 8 = .ok (.getfield 43, 3) := dk_180 0 43 (dk_at dksX0_isSettledBy_0 8 rfl rfl)
theorem dX0_isSettledBy_11 : decode cX0_isSettledBy 11 = .ok (.invokestatic 279, 3) := dk_184 1 23 (dk_at dksX0_isSettledBy_0 11 rfl rfl)
theorem dX0_isSettledBy_14 : decode cX0_isSettledBy 14 = .ok (.aload_n 0, 1) := dk_42 (dk_at dksX0_isSettledBy_0 14 rfl rfl)
theorem dX0_isSettledBy_15 : decode cX0_isSettledBy 15 = .ok (.getfield 43, 3) := dk_180 0 43 (dk_at dksX0_isSettledBy_0 15 rfl rfl)
theorem dX0_isSettledBy_18 : decode cX0_isSettledBy 18 = .ok (.iconst 2, 1) := dk_5 (dk_at dksX0_isSettledBy_0 18 rfl rfl)
theorem dX0_isSettledBy_19 : decode cX0_isSettledBy 19 = .ok (.iload_n 1, 1) := dk_27 (dk_at dksX0_isSettledBy_0 19 rfl rfl)
theorem dX0_isSettledBy_20 : decode cX0_isSettledBy 20 = .ok (.iastore, 1) := dk_79 (dk_at dksX0_isSettledBy_0 20 rfl rfl)
theorem dX0_isSettledBy_21 : decode cX0_isSettledBy 21 = .ok (.aload_n 0, 1) := dk_42 (dk_at dksX0_isSettledBy_0 21 rfl rfl)
theorem dX0_isSettledBy_22 : decode cX0_isSettledBy 22 = .ok (.aload_n 0, 1) := dk_42 (dk_at dksX0_isSettledBy_0 22 rfl rfl)
theorem dX0_isSettledBy_23 : decode cX0_isSettledBy 23 = .ok (.getfield 43, 3) := dk_180 0 43 (dk_at dksX0_isSettledBy_1 0 rfl rfl)
theorem dX0_isSettledBy_26 : decode cX0_isSettledBy 26 = .ok (.iload_n 2, 1) := dk_28 (dk_at dksX0_isSettledBy_1 3 rfl rfl)
theorem dX0_isSettledBy_27 : decode cX0_isSettledBy 27 = .ok (.invokevirtual 178, 3) := dk_182 0 178 (dk_at dksX0_isSettledBy_1 4 rfl rfl)
theorem dX0_isSettledBy_30 : decode cX0_isSettledBy 30 = .ok (.iload_n 2, 1) := dk_28 (dk_at dksX0_isSettledBy_1 7 rfl rfl)
theorem dX0_isSettledBy_31 : decode cX0_isSettledBy 31 = .ok (.if_icmp .ne 7, 3) := dk_160 0 7 (dk_at dksX0_isSettledBy_1 8 rfl rfl)
theorem dX0_isSettledBy_34 : decode cX0_isSettledBy 34 = .ok (.iconst 1, 1) := dk_4 (dk_at dksX0_isSettledBy_1 11 rfl rfl)
theorem dX0_isSettledBy_35 : decode cX0_isSettledBy 35 = .ok (.goto 4, 3) := dk_167 0 4 (dk_at dksX0_isSettledBy_1 12 rfl rfl)
theorem dX0_isSettledBy_38 : decode cX0_isSettledBy 38 = .ok (.iconst 0, 1) := dk_3 (dk_at dksX0_isSettledBy_1 15 rfl rfl)
theorem dX0_isSettledBy_39 : decode cX0_isSettledBy 39 = .ok (.ireturn, 1) := dk_172 (dk_at dksX0_isSettledBy_1 16 rfl rfl)
abbrev cX0_calm : ByteArray := prog_1_method_65_code
def yX0_calm : MethodName := ⟨RX0, "calm", "(Z)I"⟩
def dkwX0_calm_2 : List UInt8 := [167, 0, 8, 21, 4, 156, 0, 5, 29, 61, 132, 3, 1, 167, 255, 205, 28, 172]
abbrev dktX0_calm_2 : List UInt8 := dkwX0_calm_2 ++ []
def dkwX0_calm_1 : List UInt8 := [184, 0, 140, 42, 180, 0, 46, 28, 46, 184, 0, 140, 100, 54, 4, 27, 153, 0, 11, 21, 4, 158, 0, 13]
abbrev dktX0_calm_1 : List UInt8 := dkwX0_calm_1 ++ dktX0_calm_2
def dkwX0_calm_0 : List UInt8 := [42, 182, 1, 31, 3, 61, 4, 62, 29, 42, 182, 0, 66, 162, 0, 49, 42, 180, 0, 46, 29, 46]
abbrev dktX0_calm_0 : List UInt8 := dkwX0_calm_0 ++ dktX0_calm_1
theorem dksX0_calm_0 : cX0_calm.data.toList.drop 0 = dktX0_calm_0 := by decide +kernel
theorem dksX0_calm_1 : cX0_calm.data.toList.drop 22 = dktX0_calm_1 := dk_seg dksX0_calm_0 22 rfl rfl
theorem dksX0_calm_2 : cX0_calm.data.toList.drop 46 = dktX0_calm_2 := dk_seg dksX0_calm_1 24 rfl rfl
theorem dX0_calm_0 : decode cX0_calm 0 = .ok (.aload_n 0, 1) := dk_42 (dk_at dksX0_calm_0 0 rfl rfl)
theorem dX0_calm_1 : decode cX0_calm 1 = .ok (.invokevirtual 287, 3) := dk_182 1 31 (dk_at dksX0_calm_0 1 rfl rfl)
theorem dX0_calm_4 : decode cX0_calm 4 = .ok (.iconst 0, 1) := dk_3 (dk_at dksX0_calm_0 4 rfl rfl)
theorem dX0_calm_5 : decode cX0_calm 5 = .ok (.istore_n 2, 1) := dk_61 (dk_at dksX0_calm_0 5 rfl rfl)
theorem dX0_calm_6 : decode cX0_calm 6 = .ok (.iconst 1, 1) := dk_4 (dk_at dksX0_calm_0 6 rfl rfl)
theorem dX0_calm_7 : decode cX0_calm 7 = .ok (.istore_n 3, 1) := dk_62 (dk_at dksX0_calm_0 7 rfl rfl)
theorem dX0_calm_8 : decode cX0_calm 8 = .ok (.iload_n 3, 1) := dk_29 (dk_at dksX0_calm_0 8 rfl rfl)
theorem dX0_calm_9 : decode cX0_calm 9 = .ok (.aload_n 0, 1) := dk_42 (dk_at dksX0_calm_0 9 rfl rfl)
theorem dX0_calm_10 : decode cX0_calm 10 = .ok (.invokevirtual 66, 3) := dk_182 0 66 (dk_at dksX0_calm_0 10 rfl rfl)
theorem dX0_calm_13 : decode cX0_calm 13 = .ok (.if_icmp .ge 49, 3) := dk_162 0 49 (dk_at dksX0_calm_0 13 rfl rfl)
theorem dX0_calm_16 : decode cX0_calm 16 = .ok (.aload_n 0, 1) := dk_42 (dk_at dksX0_calm_0 16 rfl rfl)
theorem dX0_calm_17 : decode cX0_calm 17 = .ok (.getfield 46, 3) := dk_180 0 46 (dk_at dksX0_calm_0 17 rfl rfl)
theorem dX0_calm_20 : decode cX0_calm 20 = .ok (.iload_n 3, 1) := dk_29 (dk_at dksX0_calm_0 20 rfl rfl)
theorem dX0_calm_21 : decode cX0_calm 21 = .ok (.iaload, 1) := dk_46 (dk_at dksX0_calm_0 21 rfl rfl)
theorem dX0_calm_22 : decode cX0_calm 22 = .ok (.invokestatic 140, 3) := dk_184 0 140 (dk_at dksX0_calm_1 0 rfl rfl)
theorem dX0_calm_25 : decode cX0_calm 25 = .ok (.aload_n 0, 1) := dk_42 (dk_at dksX0_calm_1 3 rfl rfl)
theorem dX0_calm_26 : decode cX0_calm 26 = .ok (.getfield 46, 3) := dk_180 0 46 (dk_at dksX0_calm_1 4 rfl rfl)
theorem dX0_calm_29 : decode cX0_calm 29 = .ok (.iload_n 2, 1) := dk_28 (dk_at dksX0_calm_1 7 rfl rfl)
theorem dX0_calm_30 : decode cX0_calm 30 = .ok (.iaload, 1) := dk_46 (dk_at dksX0_calm_1 8 rfl rfl)
theorem dX0_calm_31 : decode cX0_calm 31 = .ok (.invokestatic 140, 3) := dk_184 0 140 (dk_at dksX0_calm_1 9 rfl rfl)
theorem dX0_calm_34 : decode cX0_calm 34 = .ok (.isub, 1) := dk_100 (dk_at dksX0_calm_1 12 rfl rfl)
theorem dX0_calm_35 : decode cX0_calm 35 = .ok (.istore 4, 2) := dk_54 4 (dk_at dksX0_calm_1 13 rfl rfl)
theorem dX0_calm_37 : decode cX0_calm 37 = .ok (.iload_n 1, 1) := dk_27 (dk_at dksX0_calm_1 15 rfl rfl)
theorem dX0_calm_38 : decode cX0_calm 38 = .ok (.ifCond .eq 11, 3) := dk_153 0 11 (dk_at dksX0_calm_1 16 rfl rfl)
theorem dX0_calm_41 : decode cX0_calm 41 = .ok (.iload 4, 2) := dk_21 4 (dk_at dksX0_calm_1 19 rfl rfl)
theorem dX0_calm_43 : decode cX0_calm 43 = .ok (.ifCond .le 13, 3) := dk_158 0 13 (dk_at dksX0_calm_1 21 rfl rfl)
theorem dX0_calm_46 : decode cX0_calm 46 = .ok (.goto 8, 3) := dk_167 0 8 (dk_at dksX0_calm_2 0 rfl rfl)
theorem dX0_calm_49 : decode cX0_calm 49 = .ok (.iload 4, 2) := dk_21 4 (dk_at dksX0_calm_2 3 rfl rfl)
theorem dX0_calm_51 : decode cX0_calm 51 = .ok (.ifCond .ge 5, 3) := dk_156 0 5 (dk_at dksX0_calm_2 5 rfl rfl)
theorem dX0_calm_54 : decode cX0_calm 54 = .ok (.iload_n 3, 1) := dk_29 (dk_at dksX0_calm_2 8 rfl rfl)
theorem dX0_calm_55 : decode cX0_calm 55 = .ok (.istore_n 2, 1) := dk_61 (dk_at dksX0_calm_2 9 rfl rfl)
theorem dX0_calm_56 : decode cX0_calm 56 = .ok (.iinc 3 1, 3) := dk_132 3 1 (dk_at dksX0_calm_2 10 rfl rfl)
theorem dX0_calm_59 : decode cX0_calm 59 = .ok (.goto (-51), 3) := dk_167 255 205 (dk_at dksX0_calm_2 13 rfl rfl)
theorem dX0_calm_62 : decode cX0_calm 62 = .ok (.iload_n 2, 1) := dk_28 (dk_at dksX0_calm_2 16 rfl rfl)
theorem dX0_calm_63 : decode cX0_calm 63 = .ok (.ireturn, 1) := dk_172 (dk_at dksX0_calm_2 17 rfl rfl)
abbrev cX0_helped : ByteArray := prog_1_method_66_code
def yX0_helped : MethodName := ⟨RX0, "helped", "(IZ)I"⟩
def dkwX0_helped_2 : List UInt8 := [167, 0, 9, 29, 21, 4, 2, 130, 126, 172]
abbrev dktX0_helped_2 : List UInt8 := dkwX0_helped_2 ++ []
def dkwX0_helped_1 : List UInt8 := [42, 180, 0, 21, 180, 0, 188, 27, 182, 0, 178, 54, 4, 28, 153, 0, 12, 21, 4, 29, 2, 130, 126]
abbrev dktX0_helped_1 : List UInt8 := dkwX0_helped_1 ++ dktX0_helped_2
def dkwX0_helped_0 : List UInt8 := [42, 27, 182, 0, 198, 154, 0, 5, 2, 172, 42, 42, 180, 0, 21, 180, 0, 188, 3, 182, 0, 178, 62, 42]
abbrev dktX0_helped_0 : List UInt8 := dkwX0_helped_0 ++ dktX0_helped_1
theorem dksX0_helped_0 : cX0_helped.data.toList.drop 0 = dktX0_helped_0 := by decide +kernel
theorem dksX0_helped_1 : cX0_helped.data.toList.drop 24 = dktX0_helped_1 := dk_seg dksX0_helped_0 24 rfl rfl
theorem dksX0_helped_2 : cX0_helped.data.toList.drop 47 = dktX0_helped_2 := dk_seg dksX0_helped_1 23 rfl rfl
theorem dX0_helped_0 : decode cX0_helped 0 = .ok (.aload_n 0, 1) := dk_42 (dk_at dksX0_helped_0 0 rfl rfl)
theorem dX0_helped_1 : decode cX0_helped 1 = .ok (.iload_n 1, 1) := dk_27 (dk_at dksX0_helped_0 1 rfl rfl)
theorem dX0_helped_2 : decode cX0_helped 2 = .ok (.invokevirtual 198, 3) := dk_182 0 198 (dk_at dksX0_helped_0 2 rfl rfl)
theorem dX0_helped_5 : decode cX0_helped 5 = .ok (.ifCond .ne 5, 3) := dk_154 0 5 (dk_at dksX0_helped_0 5 rfl rfl)
theorem dX0_helped_8 : decode cX0_helped 8 = .ok (.iconst (-1), 1) := dk_2 (dk_at dksX0_helped_0 8 rfl rfl)
theorem dX0_helped_9 : decode cX0_helped 9 = .ok (.ireturn, 1) := dk_172 (dk_at dksX0_helped_0 9 rfl rfl)
theorem dX0_helped_10 : decode cX0_helped 10 = .ok (.aload_n 0, 1) := dk_42 (dk_at dksX0_helped_0 10 rfl rfl)
theorem dX0_helped_11 : decode cX0_helped 11 = .ok (.aload_n 0, 1) := dk_42 (dk_at dksX0_helped_0 11 rfl rfl)
theorem dX0_helped_12 : decode cX0_helped 12 = .ok (.getfield 21, 3) := dk_180 0 21 (dk_at dksX0_helped_0 12 rfl rfl)
theorem dX0_helped_15 : decode cX0_helped 15 = .ok (.getfield 188, 3) := dk_180 0 188 (dk_at dksX0_helped_0 15 rfl rfl)
theorem dX0_helped_18 : decode cX0_helped 18 = .ok (.iconst 0, 1) := dk_3 (dk_at dksX0_helped_0 18 rfl rfl)
theorem dX0_helped_19 : decode cX0_helped 19 = .ok (.invokevirtual 178, 3) := dk_182 0 178 (dk_at dksX0_helped_0 19 rfl rfl)
theorem dX0_helped_22 : decode cX0_helped 22 = .ok (.istore_n 3, 1) := dk_62 (dk_at dksX0_helped_0 22 rfl rfl)
theorem dX0_helped_23 : decode cX0_helped 23 = .ok (.aload_n 0, 1) := dk_42 (dk_at dksX0_helped_0 23 rfl rfl)
theorem dX0_helped_24 : decode cX0_helped 24 = .ok (.aload_n 0, 1) := dk_42 (dk_at dksX0_helped_1 0 rfl rfl)
theorem dX0_helped_25 : decode cX0_helped 25 = .ok (.getfield 21, 3) := dk_180 0 21 (dk_at dksX0_helped_1 1 rfl rfl)
theorem dX0_helped_28 : decode cX0_helped 28 = .ok (.getfield 188, 3) := dk_180 0 188 (dk_at dksX0_helped_1 4 rfl rfl)
theorem dX0_helped_31 : decode cX0_helped 31 = .ok (.iload_n 1, 1) := dk_27 (dk_at dksX0_helped_1 7 rfl rfl)
theorem dX0_helped_32 : decode cX0_helped 32 = .ok (.invokevirtual 178, 3) := dk_182 0 178 (dk_at dksX0_helped_1 8 rfl rfl)
theorem dX0_helped_35 : decode cX0_helped 35 = .ok (.istore 4, 2) := dk_54 4 (dk_at dksX0_helped_1 11 rfl rfl)
theorem dX0_helped_37 : decode cX0_helped 37 = .ok (.iload_n 2, 1) := dk_28 (dk_at dksX0_helped_1 13 rfl rfl)
theorem dX0_helped_38 : decode cX0_helped 38 = .ok (.ifCond .eq 12, 3) := dk_153 0 12 (dk_at dksX0_helped_1 14 rfl rfl)
theorem dX0_helped_41 : decode cX0_helped 41 = .ok (.iload 4, 2) := dk_21 4 (dk_at dksX0_helped_1 17 rfl rfl)
theorem dX0_helped_43 : decode cX0_helped 43 = .ok (.iload_n 3, 1) := dk_29 (dk_at dksX0_helped_1 19 rfl rfl)
theorem dX0_helped_44 : decode cX0_helped 44 = .ok (.iconst (-1), 1) := dk_2 (dk_at dksX0_helped_1 20 rfl rfl)
theorem dX0_helped_45 : decode cX0_helped 45 = .ok (.ixor, 1) := dk_130 (dk_at dksX0_helped_1 21 rfl rfl)
theorem dX0_helped_46 : decode cX0_helped 46 = .ok (.iand, 1) := dk_126 (dk_at dksX0_helped_1 22 rfl rfl)
theorem dX0_helped_47 : decode cX0_helped 47 = .ok (.goto 9, 3) := dk_167 0 9 (dk_at dksX0_helped_2 0 rfl rfl)
theorem dX0_helped_50 : decode cX0_helped 50 = .ok (.iload_n 3, 1) := dk_29 (dk_at dksX0_helped_2 3 rfl rfl)
theorem dX0_helped_51 : decode cX0_helped 51 = .ok (.iload 4, 2) := dk_21 4 (dk_at dksX0_helped_2 4 rfl rfl)
theorem dX0_helped_53 : decode cX0_helped 53 = .ok (.iconst (-1), 1) := dk_2 (dk_at dksX0_helped_2 6 rfl rfl)
theorem dX0_helped_54 : decode cX0_helped 54 = .ok (.ixor, 1) := dk_130 (dk_at dksX0_helped_2 7 rfl rfl)
theorem dX0_helped_55 : decode cX0_helped 55 = .ok (.iand, 1) := dk_126 (dk_at dksX0_helped_2 8 rfl rfl)
theorem dX0_helped_56 : decode cX0_helped 56 = .ok (.ireturn, 1) := dk_172 (dk_at dksX0_helped_2 9 rfl rfl)
abbrev cX0_early : ByteArray := prog_1_method_67_code
def yX0_early : MethodName := ⟨RX0, "early", "(I)I"⟩
def dkwX0_early_4 : List UInt8 := [167, 0, 4, 3, 96, 62, 132, 4, 1, 167, 255, 186, 29, 172]
abbrev dktX0_early_4 : List UInt8 := dkwX0_early_4 ++ []
def dkwX0_early_3 : List UInt8 := [42, 182, 0, 157, 42, 180, 0, 21, 180, 0, 188, 21, 4, 27, 28, 182, 0, 164, 100, 184, 1, 52]
abbrev dktX0_early_3 : List UInt8 := dkwX0_early_3 ++ dktX0_early_4
def dkwX0_early_2 : List UInt8 := [42, 21, 4, 3, 182, 0, 210, 153, 0, 42, 3, 42, 180, 0, 21, 180, 0, 188, 7, 21, 4, 96, 46, 42]
abbrev dktX0_early_2 : List UInt8 := dkwX0_early_2 ++ dktX0_early_3
def dkwX0_early_1 : List UInt8 := [182, 0, 160, 61, 3, 62, 3, 54, 4, 21, 4, 42, 180, 0, 21, 180, 0, 59, 3, 46, 162, 0, 62, 29]
abbrev dktX0_early_1 : List UInt8 := dkwX0_early_1 ++ dktX0_early_2
def dkwX0_early_0 : List UInt8 := [42, 27, 182, 0, 198, 154, 0, 5, 2, 172, 42, 42, 182, 0, 157, 42, 180, 0, 21, 180, 0, 188, 27]
abbrev dktX0_early_0 : List UInt8 := dkwX0_early_0 ++ dktX0_early_1
theorem dksX0_early_0 : cX0_early.data.toList.drop 0 = dktX0_early_0 := by decide +kernel
theorem dksX0_early_1 : cX0_early.data.toList.drop 23 = dktX0_early_1 := dk_seg dksX0_early_0 23 rfl rfl
theorem dksX0_early_2 : cX0_early.data.toList.drop 47 = dktX0_early_2 := dk_seg dksX0_early_1 24 rfl rfl
theorem dksX0_early_3 : cX0_early.data.toList.drop 71 = dktX0_early_3 := dk_seg dksX0_early_2 24 rfl rfl
theorem dksX0_early_4 : cX0_early.data.toList.drop 93 = dktX0_early_4 := dk_seg dksX0_early_3 22 rfl rfl
theorem dX0_early_0 : decode cX0_early 0 = .ok (.aload_n 0, 1) := dk_42 (dk_at dksX0_early_0 0 rfl rfl)
theorem dX0_early_1 : decode cX0_early 1 = .ok (.iload_n 1, 1) := dk_27 (dk_at dksX0_early_0 1 rfl rfl)
theorem dX0_early_2 : decode cX0_early 2 = .ok (.invokevirtual 198, 3) := dk_182 0 198 (dk_at dksX0_early_0 2 rfl rfl)
theorem dX0_early_5 : decode cX0_early 5 = .ok (.ifCond .ne 5, 3) := dk_154 0 5 (dk_at dksX0_early_0 5 rfl rfl)
theorem dX0_early_8 : decode cX0_early 8 = .ok (.iconst (-1), 1) := dk_2 (dk_at dksX0_early_0 8 rfl rfl)
theorem dX0_early_9 : decode cX0_early 9 = .ok (.ireturn, 1) := dk_172 (dk_at dksX0_early_0 9 rfl rfl)
theorem dX0_early_10 : decode cX0_early 10 = .ok (.aload_n 0, 1) := dk_42 (dk_at dksX0_early_0 10 rfl rfl)
theorem dX0_early_11 : decode cX0_early 11 = .ok (.aload_n 0, 1) := dk_42 (dk_at dksX0_early_0 11 rfl rfl)
theorem dX0_early_12 : decode cX0_early 12 = .ok (.invokevirtual 157, 3) := dk_182 0 157 (dk_at dksX0_early_0 12 rfl rfl)
theorem dX0_early_15 : decode cX0_early 15 = .ok (.aload_n 0, 1) := dk_42 (dk_at dksX0_early_0 15 rfl rfl)
theorem dX0_early_16 : decode cX0_early 16 = .ok (.getfield 21, 3) := dk_180 0 21 (dk_at dksX0_early_0 16 rfl rfl)
theorem dX0_early_19 : decode cX0_early 19 = .ok (.getfield 188, 3) := dk_180 0 188 (dk_at dksX0_early_0 19 rfl rfl)
theorem dX0_early_22 : decode cX0_early 22 = .ok (.iload_n 1, 1) := dk_27 (dk_at dksX0_early_0 22 rfl rfl)
theorem dX0_early_23 : decode cX0_early 23 = .ok (.invokevirtual 160, 3) := dk_182 0 160 (dk_at dksX0_early_1 0 rfl rfl)
theorem dX0_early_26 : decode cX0_early 26 = .ok (.istore_n 2, 1) := dk_61 (dk_at dksX0_early_1 3 rfl rfl)
theorem dX0_early_27 : decode cX0_early 27 = .ok (.iconst 0, 1) := dk_3 (dk_at dksX0_early_1 4 rfl rfl)
theorem dX0_early_28 : decode cX0_early 28 = .ok (.istore_n 3, 1) := dk_62 (dk_at dksX0_early_1 5 rfl rfl)
theorem dX0_early_29 : decode cX0_early 29 = .ok (.iconst 0, 1) := dk_3 (dk_at dksX0_early_1 6 rfl rfl)
theorem dX0_early_30 : decode cX0_early 30 = .ok (.istore 4, 2) := dk_54 4 (dk_at dksX0_early_1 7 rfl rfl)
theorem dX0_early_32 : decode cX0_early 32 = .ok (.iload 4, 2) := dk_21 4 (dk_at dksX0_early_1 9 rfl rfl)
theorem dX0_early_34 : decode cX0_early 34 = .ok (.aload_n 0, 1) := dk_42 (dk_at dksX0_early_1 11 rfl rfl)
theorem dX0_early_35 : decode cX0_early 35 = .ok (.getfield 21, 3) := dk_180 0 21 (dk_at dksX0_early_1 12 rfl rfl)
theorem dX0_early_38 : decode cX0_early 38 = .ok (.getfield 59, 3) := dk_180 0 59 (dk_at dksX0_early_1 15 rfl rfl)
theorem dX0_early_41 : decode cX0_early 41 = .ok (.iconst 0, 1) := dk_3 (dk_at dksX0_early_1 18 rfl rfl)
theorem dX0_early_42 : decode cX0_early 42 = .ok (.iaload, 1) := dk_46 (dk_at dksX0_early_1 19 rfl rfl)
theorem dX0_early_43 : decode cX0_early 43 = .ok (.if_icmp .ge 62, 3) := dk_162 0 62 (dk_at dksX0_early_1 20 rfl rfl)
theorem dX0_early_46 : decode cX0_early 46 = .ok (.iload_n 3, 1) := dk_29 (dk_at dksX0_early_1 23 rfl rfl)
theorem dX0_early_47 : decode cX0_early 47 = .ok (.aload_n 0, 1) := dk_42 (dk_at dksX0_early_2 0 rfl rfl)
theorem dX0_early_48 : decode cX0_early 48 = .ok (.iload 4, 2) := dk_21 4 (dk_at dksX0_early_2 1 rfl rfl)
theorem dX0_early_50 : decode cX0_early 50 = .ok (.iconst 0, 1) := dk_3 (dk_at dksX0_early_2 3 rfl rfl)
theorem dX0_early_51 : decode cX0_early 51 = .ok (.invokevirtual 210, 3) := dk_182 0 210 (dk_at dksX0_early_2 4 rfl rfl)
theorem dX0_early_54 : decode cX0_early 54 = .ok (.ifCond .eq 42, 3) := dk_153 0 42 (dk_at dksX0_early_2 7 rfl rfl)
theorem dX0_early_57 : decode cX0_early 57 = .ok (.iconst 0, 1) := dk_3 (dk_at dksX0_early_2 10 rfl rfl)
theorem dX0_early_58 : decode cX0_early 58 = .ok (.aload_n 0, 1) := dk_42 (dk_at dksX0_early_2 11 rfl rfl)
theorem dX0_early_59 : decode cX0_early 59 = .ok (.getfield 21, 3) := dk_180 0 21 (dk_at dksX0_early_2 12 rfl rfl)
theorem dX0_early_62 : decode cX0_early 62 = .ok (.getfield 188, 3) := dk_180 0 188 (dk_at dksX0_early_2 15 rfl rfl)
theorem dX0_early_65 : decode cX0_early 65 = .ok (.iconst 4, 1) := dk_7 (dk_at dksX0_early_2 18 rfl rfl)
theorem dX0_early_66 : decode cX0_early 66 = .ok (.iload 4, 2) := dk_21 4 (dk_at dksX0_early_2 19 rfl rfl)
theorem dX0_early_68 : decode cX0_early 68 = .ok (.iadd, 1) := dk_96 (dk_at dksX0_early_2 21 rfl rfl)
theorem dX0_early_69 : decode cX0_early 69 = .ok (.iaload, 1) := dk_46 (dk_at dksX0_early_2 22 rfl rfl)
theorem dX0_early_70 : decode cX0_early 70 = .ok (.aload_n 0, 1) := dk_42 (dk_at dksX0_early_2 23 rfl rfl)
theorem dX0_early_71 : decode cX0_early 71 = .ok (.aload_n 0, 1) := dk_42 (dk_at dksX0_early_3 0 rfl rfl)
theorem dX0_early_72 : decode cX0_early 72 = .ok (.invokevirtual 157, 3) := dk_182 0 157 (dk_at dksX0_early_3 1 rfl rfl)
theorem dX0_early_75 : decode cX0_early 75 = .ok (.aload_n 0, 1) := dk_42 (dk_at dksX0_early_3 4 rfl rfl)
theorem dX0_early_76 : decode cX0_early 76 = .ok (.getfield 21, 3) := dk_180 0 21 (dk_at dksX0_early_3 5 rfl rfl)
theorem dX0_early_79 : decode cX0_early 79 = .ok (.getfield 188, 3) := dk_180 0 188 (dk_at dksX0_early_3 8 rfl rfl)
theorem dX0_early_82 : decode cX0_early 82 = .ok (.iload 4, 2) := dk_21 4 (dk_at dksX0_early_3 11 rfl rfl)
theorem dX0_early_84 : decode cX0_early 84 = .ok (.iload_n 1, 1) := dk_27 (dk_at dksX0_early_3 13 rfl rfl)
theorem dX0_early_85 : decode cX0_early 85 = .ok (.iload_n 2, 1) := dk_28 (dk_at dksX0_early_3 14 rfl rfl)
theorem dX0_early_86 : decode cX0_early 86 = .ok (.invokevirtual 164, 3) := dk_182 0 164 (dk_at dksX0_early_3 15 rfl rfl)
theorem dX0_early_89 : decode cX0_early 89 = .ok (.isub, 1) := dk_100 (dk_at dksX0_early_3 18 rfl rfl)
theorem dX0_early_90 : decode cX0_early 90 = .ok (.invokestatic 308, 3) := dk_184 1 52 (dk_at dksX0_early_3 19 rfl rfl)
theorem dX0_early_93 : decode cX0_early 93 = .ok (.goto 4, 3) := dk_167 0 4 (dk_at dksX0_early_4 0 rfl rfl)
theorem dX0_early_96 : decode cX0_early 96 = .ok (.iconst 0, 1) := dk_3 (dk_at dksX0_early_4 3 rfl rfl)
theorem dX0_early_97 : decode cX0_early 97 = .ok (.iadd, 1) := dk_96 (dk_at dksX0_early_4 4 rfl rfl)
theorem dX0_early_98 : decode cX0_early 98 = .ok (.istore_n 3, 1) := dk_62 (dk_at dksX0_early_4 5 rfl rfl)
theorem dX0_early_99 : decode cX0_early 99 = .ok (.iinc 4 1, 3) := dk_132 4 1 (dk_at dksX0_early_4 6 rfl rfl)
theorem dX0_early_102 : decode cX0_early 102 = .ok (.goto (-70), 3) := dk_167 255 186 (dk_at dksX0_early_4 9 rfl rfl)
theorem dX0_early_105 : decode cX0_early 105 = .ok (.iload_n 3, 1) := dk_29 (dk_at dksX0_early_4 12 rfl rfl)
theorem dX0_early_106 : decode cX0_early 106 = .ok (.ireturn, 1) := dk_172 (dk_at dksX0_early_4 13 rfl rfl)
abbrev cX0_weathers : ByteArray := prog_1_method_68_code
def yX0_weathers : MethodName := ⟨RX0, "weathers", "(I)I"⟩
def dkwX0_weathers_2 : List UInt8 := [180, 0, 43, 4, 46, 182, 0, 178, 27, 122, 4, 126, 96, 61, 132, 3, 1, 167, 255, 219, 28, 172]
abbrev dktX0_weathers_2 : List UInt8 := dkwX0_weathers_2 ++ []
def dkwX0_weathers_1 : List UInt8 := [3, 61, 3, 62, 29, 16, 10, 162, 0, 37, 42, 180, 0, 43, 5, 29, 79, 28, 42, 42, 180, 0, 43, 42]
abbrev dktX0_weathers_1 : List UInt8 := dkwX0_weathers_1 ++ dktX0_weathers_2
def dkwX0_weathers_0 : List UInt8 := [42, 27, 182, 0, 204, 154, 0, 5, 2, 172, 42, 180, 0, 21, 180, 0, 188, 42, 180, 0, 43, 184, 1, 23]
abbrev dktX0_weathers_0 : List UInt8 := dkwX0_weathers_0 ++ dktX0_weathers_1
theorem dksX0_weathers_0 : cX0_weathers.data.toList.drop 0 = dktX0_weathers_0 := by decide +kernel
theorem dksX0_weathers_1 : cX0_weathers.data.toList.drop 24 = dktX0_weathers_1 := dk_seg dksX0_weathers_0 24 rfl rfl
theorem dksX0_weathers_2 : cX0_weathers.data.toList.drop 48 = dktX0_weathers_2 := dk_seg dksX0_weathers_1 24 rfl rfl
theorem dX0_weathers_0 : decode cX0_weathers 0 = .ok (.aload_n 0, 1) := dk_42 (dk_at dksX0_weathers_0 0 rfl rfl)
theorem dX0_weathers_1 : decode cX0_weathers 1 = .ok (.iload_n 1, 1) := dk_27 (dk_at dksX0_weathers_0 1 rfl rfl)
theorem dX0_weathers_2 : decode cX0_weathers 2 = .ok (.invokevirtual 204, 3) := dk_182 0 204 (dk_at dksX0_weathers_0 2 rfl rfl)
theorem dX0_weathers_5 : decode cX0_weathers 5 = .ok (.ifCond .ne 5, 3) := dk_154 0 5 (dk_at dksX0_weathers_0 5 rfl rfl)
theorem dX0_weathers_8 : decode cX0_weathers 8 = .ok (.iconst (-1), 1) := dk_2 (dk_at dksX0_weathers_0 8 rfl rfl)
theorem dX0_weathers_9 : decode cX0_weathers 9 = .ok (.ireturn, 1) := dk_172 (dk_at dksX0_weathers_0 9 rfl rfl)
theorem dX0_weathers_10 : decode cX0_weathers 10 = .ok (.aload_n 0, 1) := dk_42 (dk_at dksX0_weathers_0 10 rfl rfl)
theorem dX0_weathers_11 : decode cX0_weathers 11 = .ok (.getfield 21, 3) := dk_180 0 21 (dk_at dksX0_weathers_0 11 rfl rfl)
theorem dX0_weathers_14 : decode cX0_weathers 14 = .ok (.getfield 188, 3) := dk_180 0 188 (dk_at dksX0_weathers_0 14 rfl rfl)
theorem dX0_weathers_17 : decode cX0_weathers 17 = .ok (.aload_n 0, 1) := dk_42 (dk_at dksX0_weathers_0 17 rfl rfl)
theorem dX0_weathers_18 : decode cX0_weathers 18 = .ok (.getfield 43, 3) := dk_180 0 43 (dk_at dksX0_weathers_0 18 rfl rfl)
theorem dX0_weathers_21 : decode cX0_weathers 21 = .ok (.invokestatic 279, 3) := dk_184 1 23 (dk_at dksX0_weathers_0 21 rfl rfl)
theorem dX0_weathers_24 : decode cX0_weathers 24 = .ok (.iconst 0, 1) := dk_3 (dk_at dksX0_weathers_1 0 rfl rfl)
theorem dX0_weathers_25 : decode cX0_weathers 25 = .ok (.istore_n 2, 1) := dk_61 (dk_at dksX0_weathers_1 1 rfl rfl)
theorem dX0_weathers_26 : decode cX0_weathers 26 = .ok (.iconst 0, 1) := dk_3 (dk_at dksX0_weathers_1 2 rfl rfl)
theorem dX0_weathers_27 : decode cX0_weathers 27 = .ok (.istore_n 3, 1) := dk_62 (dk_at dksX0_weathers_1 3 rfl rfl)
theorem dX0_weathers_28 : decode cX0_weathers 28 = .ok (.iload_n 3, 1) := dk_29 (dk_at dksX0_weathers_1 4 rfl rfl)
theorem dX0_weathers_29 : decode cX0_weathers 29 = .ok (.bipush 10, 2) := dk_16 10 (dk_at dksX0_weathers_1 5 rfl rfl)
theorem dX0_weathers_31 : decode cX0_weathers 31 = .ok (.if_icmp .ge 37, 3) := dk_162 0 37 (dk_at dksX0_weathers_1 7 rfl rfl)
theorem dX0_weathers_34 : decode cX0_weathers 34 = .ok (.aload_n 0, 1) := dk_42 (dk_at dksX0_weathers_1 10 rfl rfl)
theorem dX0_weathers_35 : decode cX0_weathers 35 = .ok (.getfield 43, 3) := dk_180 0 43 (dk_at dksX0_weathers_1 11 rfl rfl)
theorem dX0_weathers_38 : decode cX0_weathers 38 = .ok (.iconst 2, 1) := dk_5 (dk_at dksX0_weathers_1 14 rfl rfl)
theorem dX0_weathers_39 : decode cX0_weathers 39 = .ok (.iload_n 3, 1) := dk_29 (dk_at dksX0_weathers_1 15 rfl rfl)
theorem dX0_weathers_40 : decode cX0_weathers 40 = .ok (.iastore, 1) := dk_79 (dk_at dksX0_weathers_1 16 rfl rfl)
theorem dX0_weathers_41 : decode cX0_weathers 41 = .ok (.iload_n 2, 1) := dk_28 (dk_at dksX0_weathers_1 17 rfl rfl)
theorem dX0_weathers_42 : decode cX0_weathers 42 = .ok (.aload_n 0, 1) := dk_42 (dk_at dksX0_weathers_1 18 rfl rfl)
theorem dX0_weathers_43 : decode cX0_weathers 43 = .ok (.aload_n 0, 1) := dk_42 (dk_at dksX0_weathers_1 19 rfl rfl)
theorem dX0_weathers_44 : decode cX0_weathers 44 = .ok (.getfield 43, 3) := dk_180 0 43 (dk_at dksX0_weathers_1 20 rfl rfl)
theorem dX0_weathers_47 : decode cX0_weathers 47 = .ok (.aload_n 0, 1) := dk_42 (dk_at dksX0_weathers_1 23 rfl rfl)
theorem dX0_weathers_48 : decode cX0_weathers 48 = .ok (.getfield 43, 3) := dk_180 0 43 (dk_at dksX0_weathers_2 0 rfl rfl)
theorem dX0_weathers_51 : decode cX0_weathers 51 = .ok (.iconst 1, 1) := dk_4 (dk_at dksX0_weathers_2 3 rfl rfl)
theorem dX0_weathers_52 : decode cX0_weathers 52 = .ok (.iaload, 1) := dk_46 (dk_at dksX0_weathers_2 4 rfl rfl)
theorem dX0_weathers_53 : decode cX0_weathers 53 = .ok (.invokevirtual 178, 3) := dk_182 0 178 (dk_at dksX0_weathers_2 5 rfl rfl)
theorem dX0_weathers_56 : decode cX0_weathers 56 = .ok (.iload_n 1, 1) := dk_27 (dk_at dksX0_weathers_2 8 rfl rfl)
theorem dX0_weathers_57 : decode cX0_weathers 57 = .ok (.ishr, 1) := dk_122 (dk_at dksX0_weathers_2 9 rfl rfl)
theorem dX0_weathers_58 : decode cX0_weathers 58 = .ok (.iconst 1, 1) := dk_4 (dk_at dksX0_weathers_2 10 rfl rfl)
theorem dX0_weathers_59 : decode cX0_weathers 59 = .ok (.iand, 1) := dk_126 (dk_at dksX0_weathers_2 11 rfl rfl)
theorem dX0_weathers_60 : decode cX0_weathers 60 = .ok (.iadd, 1) := dk_96 (dk_at dksX0_weathers_2 12 rfl rfl)
theorem dX0_weathers_61 : decode cX0_weathers 61 = .ok (.istore_n 2, 1) := dk_61 (dk_at dksX0_weathers_2 13 rfl rfl)
theorem dX0_weathers_62 : decode cX0_weathers 62 = .ok (.iinc 3 1, 3) := dk_132 3 1 (dk_at dksX0_weathers_2 14 rfl rfl)
theorem dX0_weathers_65 : decode cX0_weathers 65 = .ok (.goto (-37), 3) := dk_167 255 219 (dk_at dksX0_weathers_2 17 rfl rfl)
theorem dX0_weathers_68 : decode cX0_weathers 68 = .ok (.iload_n 2, 1) := dk_28 (dk_at dksX0_weathers_2 20 rfl rfl)
theorem dX0_weathers_69 : decode cX0_weathers 69 = .ok (.ireturn, 1) := dk_172 (dk_at dksX0_weathers_2 21 rfl rfl)
abbrev cX0_needless : ByteArray := prog_1_method_70_code
def yX0_needless : MethodName := ⟨RX0, "needless", "()I"⟩
def dkwX0_needless_3 : List UInt8 := [3, 128, 61, 132, 3, 1, 167, 255, 207, 28, 172]
abbrev dktX0_needless_3 : List UInt8 := dkwX0_needless_3 ++ []
def dkwX0_needless_2 : List UInt8 := [153, 0, 24, 42, 29, 27, 4, 29, 120, 2, 130, 126, 182, 1, 54, 153, 0, 9, 4, 29, 120, 167, 0, 4]
abbrev dktX0_needless_2 : List UInt8 := dkwX0_needless_2 ++ dktX0_needless_3
def dkwX0_needless_1 : List UInt8 := [60, 3, 61, 3, 62, 29, 42, 180, 0, 21, 180, 0, 59, 3, 46, 162, 0, 42, 28, 27, 29, 184, 0, 149]
abbrev dktX0_needless_1 : List UInt8 := dkwX0_needless_1 ++ dktX0_needless_2
def dkwX0_needless_0 : List UInt8 := [42, 42, 182, 0, 157, 42, 180, 0, 21, 180, 0, 188, 42, 180, 0, 21, 180, 0, 188, 4, 46, 182, 0, 160]
abbrev dktX0_needless_0 : List UInt8 := dkwX0_needless_0 ++ dktX0_needless_1
theorem dksX0_needless_0 : cX0_needless.data.toList.drop 0 = dktX0_needless_0 := by decide +kernel
theorem dksX0_needless_1 : cX0_needless.data.toList.drop 24 = dktX0_needless_1 := dk_seg dksX0_needless_0 24 rfl rfl
theorem dksX0_needless_2 : cX0_needless.data.toList.drop 48 = dktX0_needless_2 := dk_seg dksX0_needless_1 24 rfl rfl
theorem dksX0_needless_3 : cX0_needless.data.toList.drop 72 = dktX0_needless_3 := dk_seg dksX0_needless_2 24 rfl rfl
theorem dX0_needless_0 : decode cX0_needless 0 = .ok (.aload_n 0, 1) := dk_42 (dk_at dksX0_needless_0 0 rfl rfl)
theorem dX0_needless_1 : decode cX0_needless 1 = .ok (.aload_n 0, 1) := dk_42 (dk_at dksX0_needless_0 1 rfl rfl)
theorem dX0_needless_2 : decode cX0_needless 2 = .ok (.invokevirtual 157, 3) := dk_182 0 157 (dk_at dksX0_needless_0 2 rfl rfl)
theorem dX0_needless_5 : decode cX0_needless 5 = .ok (.aload_n 0, 1) := dk_42 (dk_at dksX0_needless_0 5 rfl rfl)
theorem dX0_needless_6 : decode cX0_needless 6 = .ok (.getfield 21, 3) := dk_180 0 21 (dk_at dksX0_needless_0 6 rfl rfl)
theorem dX0_needless_9 : decode cX0_needless 9 = .ok (.getfield 188, 3) := dk_180 0 188 (dk_at dksX0_needless_0 9 rfl rfl)
theorem dX0_needless_12 : decode cX0_needless 12 = .ok (.aload_n 0, 1) := dk_42 (dk_at dksX0_needless_0 12 rfl rfl)
theorem dX0_needless_13 : decode cX0_needless 13 = .ok (.getfield 21, 3) := dk_180 0 21 (dk_at dksX0_needless_0 13 rfl rfl)
theorem dX0_needless_16 : decode cX0_needless 16 = .ok (.getfield 188, 3) := dk_180 0 188 (dk_at dksX0_needless_0 16 rfl rfl)
theorem dX0_needless_19 : decode cX0_needless 19 = .ok (.iconst 1, 1) := dk_4 (dk_at dksX0_needless_0 19 rfl rfl)
theorem dX0_needless_20 : decode cX0_needless 20 = .ok (.iaload, 1) := dk_46 (dk_at dksX0_needless_0 20 rfl rfl)
theorem dX0_needless_21 : decode cX0_needless 21 = .ok (.invokevirtual 160, 3) := dk_182 0 160 (dk_at dksX0_needless_0 21 rfl rfl)
theorem dX0_needless_24 : decode cX0_needless 24 = .ok (.istore_n 1, 1) := dk_60 (dk_at dksX0_needless_1 0 rfl rfl)
theorem dX0_needless_25 : decode cX0_needless 25 = .ok (.iconst 0, 1) := dk_3 (dk_at dksX0_needless_1 1 rfl rfl)
theorem dX0_needless_26 : decode cX0_needless 26 = .ok (.istore_n 2, 1) := dk_61 (dk_at dksX0_needless_1 2 rfl rfl)
theorem dX0_needless_27 : decode cX0_needless 27 = .ok (.iconst 0, 1) := dk_3 (dk_at dksX0_needless_1 3 rfl rfl)
theorem dX0_needless_28 : decode cX0_needless 28 = .ok (.istore_n 3, 1) := dk_62 (dk_at dksX0_needless_1 4 rfl rfl)
theorem dX0_needless_29 : decode cX0_needless 29 = .ok (.iload_n 3, 1) := dk_29 (dk_at dksX0_needless_1 5 rfl rfl)
theorem dX0_needless_30 : decode cX0_needless 30 = .ok (.aload_n 0, 1) := dk_42 (dk_at dksX0_needless_1 6 rfl rfl)
theorem dX0_needless_31 : decode cX0_needless 31 = .ok (.getfield 21, 3) := dk_180 0 21 (dk_at dksX0_needless_1 7 rfl rfl)
theorem dX0_needless_34 : decode cX0_needless 34 = .ok (.getfield 59, 3) := dk_180 0 59 (dk_at dksX0_needless_1 10 rfl rfl)
theorem dX0_needless_37 : decode cX0_needless 37 = .ok (.iconst 0, 1) := dk_3 (dk_at dksX0_needless_1 13 rfl rfl)
theorem dX0_needless_38 : decode cX0_needless 38 = .ok (.iaload, 1) := dk_46 (dk_at dksX0_needless_1 14 rfl rfl)
theorem dX0_needless_39 : decode cX0_needless 39 = .ok (.if_icmp .ge 42, 3) := dk_162 0 42 (dk_at dksX0_needless_1 15 rfl rfl)
theorem dX0_needless_42 : decode cX0_needless 42 = .ok (.iload_n 2, 1) := dk_28 (dk_at dksX0_needless_1 18 rfl rfl)
theorem dX0_needless_43 : decode cX0_needless 43 = .ok (.iload_n 1, 1) := dk_27 (dk_at dksX0_needless_1 19 rfl rfl)
theorem dX0_needless_44 : decode cX0_needless 44 = .ok (.iload_n 3, 1) := dk_29 (dk_at dksX0_needless_1 20 rfl rfl)
theorem dX0_needless_45 : decode cX0_needless 45 = .ok (.invokestatic 149, 3) := dk_184 0 149 (dk_at dksX0_needless_1 21 rfl rfl)
theorem dX0_needless_48 : decode cX0_needless 48 = .ok (.ifCond .eq 24, 3) := dk_153 0 24 (dk_at dksX0_needless_2 0 rfl rfl)
theorem dX0_needless_51 : decode cX0_needless 51 = .ok (.aload_n 0, 1) := dk_42 (dk_at dksX0_needless_2 3 rfl rfl)
theorem dX0_needless_52 : decode cX0_needless 52 = .ok (.iload_n 3, 1) := dk_29 (dk_at dksX0_needless_2 4 rfl rfl)
theorem dX0_needless_53 : decode cX0_needless 53 = .ok (.iload_n 1, 1) := dk_27 (dk_at dksX0_needless_2 5 rfl rfl)
theorem dX0_needless_54 : decode cX0_needless 54 = .ok (.iconst 1, 1) := dk_4 (dk_at dksX0_needless_2 6 rfl rfl)
theorem dX0_needless_55 : decode cX0_needless 55 = .ok (.iload_n 3, 1) := dk_29 (dk_at dksX0_needless_2 7 rfl rfl)
theorem dX0_needless_56 : decode cX0_needless 56 = .ok (.ishl, 1) := dk_120 (dk_at dksX0_needless_2 8 rfl rfl)
theorem dX0_needless_57 : decode cX0_needless 57 = .ok (.iconst (-1), 1) := dk_2 (dk_at dksX0_needless_2 9 rfl rfl)
theorem dX0_needless_58 : decode cX0_needless 58 = .ok (.ixor, 1) := dk_130 (dk_at dksX0_needless_2 10 rfl rfl)
theorem dX0_needless_59 : decode cX0_needless 59 = .ok (.iand, 1) := dk_126 (dk_at dksX0_needless_2 11 rfl rfl)
theorem dX0_needless_60 : decode cX0_needless 60 = .ok (.invokevirtual 310, 3) := dk_182 1 54 (dk_at dksX0_needless_2 12 rfl rfl)
theorem dX0_needless_63 : decode cX0_needless 63 = .ok (.ifCond .eq 9, 3) := dk_153 0 9 (dk_at dksX0_needless_2 15 rfl rfl)
theorem dX0_needless_66 : decode cX0_needless 66 = .ok (.iconst 1, 1) := dk_4 (dk_at dksX0_needless_2 18 rfl rfl)
theorem dX0_needless_67 : decode cX0_needless 67 = .ok (.iload_n 3, 1) := dk_29 (dk_at dksX0_needless_2 19 rfl rfl)
theorem dX0_needless_68 : decode cX0_needless 68 = .ok (.ishl, 1) := dk_120 (dk_at dksX0_needless_2 20 rfl rfl)
theorem dX0_needless_69 : decode cX0_needless 69 = .ok (.goto 4, 3) := dk_167 0 4 (dk_at dksX0_needless_2 21 rfl rfl)
theorem dX0_needless_72 : decode cX0_needless 72 = .ok (.iconst 0, 1) := dk_3 (dk_at dksX0_needless_3 0 rfl rfl)
theorem dX0_needless_73 : decode cX0_needless 73 = .ok (.ior, 1) := dk_128 (dk_at dksX0_needless_3 1 rfl rfl)
theorem dX0_needless_74 : decode cX0_needless 74 = .ok (.istore_n 2, 1) := dk_61 (dk_at dksX0_needless_3 2 rfl rfl)
theorem dX0_needless_75 : decode cX0_needless 75 = .ok (.iinc 3 1, 3) := dk_132 3 1 (dk_at dksX0_needless_3 3 rfl rfl)
theorem dX0_needless_78 : decode cX0_needless 78 = .ok (.goto (-49), 3) := dk_167 255 207 (dk_at dksX0_needless_3 6 rfl rfl)
theorem dX0_needless_81 : decode cX0_needless 81 = .ok (.iload_n 2, 1) := dk_28 (dk_at dksX0_needless_3 9 rfl rfl)
theorem dX0_needless_82 : decode cX0_needless 82 = .ok (.ireturn, 1) := dk_172 (dk_at dksX0_needless_3 10 rfl rfl)
abbrev cX0_isInTime : ByteArray := prog_1_method_69_code
def yX0_isInTime : MethodName := ⟨RX0, "isInTime", "(II)Z"⟩
def dkwX0_isInTime_1 : List UInt8 := [182, 0, 164, 42, 180, 0, 21, 180, 0, 188, 7, 27, 96, 46, 163, 0, 7, 4, 167, 0, 4, 3, 172]
abbrev dktX0_isInTime_1 : List UInt8 := dkwX0_isInTime_1 ++ []
def dkwX0_isInTime_0 : List UInt8 := [42, 42, 182, 0, 157, 42, 180, 0, 21, 180, 0, 188, 27, 42, 180, 0, 21, 180, 0, 188, 4, 46, 28]
abbrev dktX0_isInTime_0 : List UInt8 := dkwX0_isInTime_0 ++ dktX0_isInTime_1
theorem dksX0_isInTime_0 : cX0_isInTime.data.toList.drop 0 = dktX0_isInTime_0 := by decide +kernel
theorem dksX0_isInTime_1 : cX0_isInTime.data.toList.drop 23 = dktX0_isInTime_1 := dk_seg dksX0_isInTime_0 23 rfl rfl
theorem dX0_isInTime_0 : decode cX0_isInTime 0 = .ok (.aload_n 0, 1) := dk_42 (dk_at dksX0_isInTime_0 0 rfl rfl)
theorem dX0_isInTime_1 : decode cX0_isInTime 1 = .ok (.aload_n 0, 1) := dk_42 (dk_at dksX0_isInTime_0 1 rfl rfl)
theorem dX0_isInTime_2 : decode cX0_isInTime 2 = .ok (.invokevirtual 157, 3) := dk_182 0 157 (dk_at dksX0_isInTime_0 2 rfl rfl)
theorem dX0_isInTime_5 : decode cX0_isInTime 5 = .ok (.aload_n 0, 1) := dk_42 (dk_at dksX0_isInTime_0 5 rfl rfl)
theorem dX0_isInTime_6 : decode cX0_isInTime 6 = .ok (.getfield 21, 3) := dk_180 0 21 (dk_at dksX0_isInTime_0 6 rfl rfl)
theorem dX0_isInTime_9 : decode cX0_isInTime 9 = .ok (.getfield 188, 3) := dk_180 0 188 (dk_at dksX0_isInTime_0 9 rfl rfl)
theorem dX0_isInTime_12 : decode cX0_isInTime 12 = .ok (.iload_n 1, 1) := dk_27 (dk_at dksX0_isInTime_0 12 rfl rfl)
theorem dX0_isInTime_13 : decode cX0_isInTime 13 = .ok (.aload_n 0, 1) := dk_42 (dk_at dksX0_isInTime_0 13 rfl rfl)
theorem dX0_isInTime_14 : decode cX0_isInTime 14 = .ok (.getfield 21, 3) := dk_180 0 21 (dk_at dksX0_isInTime_0 14 rfl rfl)
theorem dX0_isInTime_17 : decode cX0_isInTime 17 = .ok (.getfield 188, 3) := dk_180 0 188 (dk_at dksX0_isInTime_0 17 rfl rfl)
theorem dX0_isInTime_20 : decode cX0_isInTime 20 = .ok (.iconst 1, 1) := dk_4 (dk_at dksX0_isInTime_0 20 rfl rfl)
theorem dX0_isInTime_21 : decode cX0_isInTime 21 = .ok (.iaload, 1) := dk_46 (dk_at dksX0_isInTime_0 21 rfl rfl)
theorem dX0_isInTime_22 : decode cX0_isInTime 22 = .ok (.iload_n 2, 1) := dk_28 (dk_at dksX0_isInTime_0 22 rfl rfl)
theorem dX0_isInTime_23 : decode cX0_isInTime 23 = .ok (.invokevirtual 164, 3) := dk_182 0 164 (dk_at dksX0_isInTime_1 0 rfl rfl)
theorem dX0_isInTime_26 : decode cX0_isInTime 26 = .ok (.aload_n 0, 1) := dk_42 (dk_at dksX0_isInTime_1 3 rfl rfl)
theorem dX0_isInTime_27 : decode cX0_isInTime 27 = .ok (.getfield 21, 3) := dk_180 0 21 (dk_at dksX0_isInTime_1 4 rfl rfl)
theorem dX0_isInTime_30 : decode cX0_isInTime 30 = .ok (.getfield 188, 3) := dk_180 0 188 (dk_at dksX0_isInTime_1 7 rfl rfl)
theorem dX0_isInTime_33 : decode cX0_isInTime 33 = .ok (.iconst 4, 1) := dk_7 (dk_at dksX0_isInTime_1 10 rfl rfl)
theorem dX0_isInTime_34 : decode cX0_isInTime 34 = .ok (.iload_n 1, 1) := dk_27 (dk_at dksX0_isInTime_1 11 rfl rfl)
theorem dX0_isInTime_35 : decode cX0_isInTime 35 = .ok (.iadd, 1) := dk_96 (dk_at dksX0_isInTime_1 12 rfl rfl)
theorem dX0_isInTime_36 : decode cX0_isInTime 36 = .ok (.iaload, 1) := dk_46 (dk_at dksX0_isInTime_1 13 rfl rfl)
theorem dX0_isInTime_37 : decode cX0_isInTime 37 = .ok (.if_icmp .gt 7, 3) := dk_163 0 7 (dk_at dksX0_isInTime_1 14 rfl rfl)
theorem dX0_isInTime_40 : decode cX0_isInTime 40 = .ok (.iconst 1, 1) := dk_4 (dk_at dksX0_isInTime_1 17 rfl rfl)
theorem dX0_isInTime_41 : decode cX0_isInTime 41 = .ok (.goto 4, 3) := dk_167 0 4 (dk_at dksX0_isInTime_1 18 rfl rfl)
theorem dX0_isInTime_44 : decode cX0_isInTime 44 = .ok (.iconst 0, 1) := dk_3 (dk_at dksX0_isInTime_1 21 rfl rfl)
theorem dX0_isInTime_45 : decode cX0_isInTime 45 = .ok (.ireturn, 1) := dk_172 (dk_at dksX0_isInTime_1 22 rfl rfl)
abbrev cX0_lateness : ByteArray := prog_1_method_71_code
def yX0_lateness : MethodName := ⟨RX0, "lateness", "(I)I"⟩
def dkwX0_lateness_6 : List UInt8 := [153, 0, 7, 6, 167, 0, 4, 7, 172]
abbrev dktX0_lateness_6 : List UInt8 := dkwX0_lateness_6 ++ []
def dkwX0_lateness_5 : List UInt8 := [2, 130, 126, 182, 1, 54, 153, 0, 7, 5, 167, 0, 20, 42, 27, 29, 21, 4, 126, 182, 1, 54]
abbrev dktX0_lateness_5 : List UInt8 := dkwX0_lateness_5 ++ dktX0_lateness_6
def dkwX0_lateness_4 : List UInt8 := [4, 46, 182, 0, 160, 62, 4, 27, 120, 54, 4, 29, 27, 184, 0, 149, 153, 0, 21, 42, 27, 29, 21, 4]
abbrev dktX0_lateness_4 : List UInt8 := dkwX0_lateness_4 ++ dktX0_lateness_5
def dkwX0_lateness_3 : List UInt8 := [153, 0, 5, 4, 172, 42, 42, 182, 0, 157, 42, 180, 0, 21, 180, 0, 188, 42, 180, 0, 21, 180, 0, 188]
abbrev dktX0_lateness_3 : List UInt8 := dkwX0_lateness_3 ++ dktX0_lateness_4
def dkwX0_lateness_2 : List UInt8 := [162, 0, 22, 28, 42, 180, 0, 46, 29, 46, 27, 184, 0, 149, 126, 61, 132, 3, 1, 167, 255, 232, 28]
abbrev dktX0_lateness_2 : List UInt8 := dkwX0_lateness_2 ++ dktX0_lateness_3
def dkwX0_lateness_1 : List UInt8 := [180, 0, 188, 4, 46, 46, 27, 184, 0, 149, 154, 0, 5, 3, 172, 4, 61, 3, 62, 29, 42, 182, 0, 66]
abbrev dktX0_lateness_1 : List UInt8 := dkwX0_lateness_1 ++ dktX0_lateness_2
def dkwX0_lateness_0 : List UInt8 := [42, 27, 182, 0, 204, 154, 0, 5, 2, 172, 42, 182, 1, 31, 42, 180, 0, 46, 42, 180, 0, 21]
abbrev dktX0_lateness_0 : List UInt8 := dkwX0_lateness_0 ++ dktX0_lateness_1
theorem dksX0_lateness_0 : cX0_lateness.data.toList.drop 0 = dktX0_lateness_0 := by decide +kernel
theorem dksX0_lateness_1 : cX0_lateness.data.toList.drop 22 = dktX0_lateness_1 := dk_seg dksX0_lateness_0 22 rfl rfl
theorem dksX0_lateness_2 : cX0_lateness.data.toList.drop 46 = dktX0_lateness_2 := dk_seg dksX0_lateness_1 24 rfl rfl
theorem dksX0_lateness_3 : cX0_lateness.data.toList.drop 69 = dktX0_lateness_3 := dk_seg dksX0_lateness_2 23 rfl rfl
theorem dksX0_lateness_4 : cX0_lateness.data.toList.drop 93 = dktX0_lateness_4 := dk_seg dksX0_lateness_3 24 rfl rfl
theorem dksX0_lateness_5 : cX0_lateness.data.toList.drop 117 = dktX0_lateness_5 := dk_seg dksX0_lateness_4 24 rfl rfl
theorem dksX0_lateness_6 : cX0_lateness.data.toList.drop 139 = dktX0_lateness_6 := dk_seg dksX0_lateness_5 22 rfl rfl
theorem dX0_lateness_0 : decode cX0_lateness 0 = .ok (.aload_n 0, 1) := dk_42 (dk_at dksX0_lateness_0 0 rfl rfl)
theorem dX0_lateness_1 : decode cX0_lateness 1 = .ok (.iload_n 1, 1) := dk_27 (dk_at dksX0_lateness_0 1 rfl rfl)
theorem dX0_lateness_2 : decode cX0_lateness 2 = .ok (.invokevirtual 204, 3) := dk_182 0 204 (dk_at dksX0_lateness_0 2 rfl rfl)
theorem dX0_lateness_5 : decode cX0_lateness 5 = .ok (.ifCond .ne 5, 3) := dk_154 0 5 (dk_at dksX0_lateness_0 5 rfl rfl)
theorem dX0_lateness_8 : decode cX0_lateness 8 = .ok (.iconst (-1), 1) := dk_2 (dk_at dksX0_lateness_0 8 rfl rfl)
theorem dX0_lateness_9 : decode cX0_lateness 9 = .ok (.ireturn, 1) := dk_172 (dk_at dksX0_lateness_0 9 rfl rfl)
theorem dX0_lateness_10 : decode cX0_lateness 10 = .ok (.aload_n 0, 1) := dk_42 (dk_at dksX0_lateness_0 10 rfl rfl)
theorem dX0_lateness_11 : decode cX0_lateness 11 = .ok (.invokevirtual 287, 3) := dk_182 1 31 (dk_at dksX0_lateness_0 11 rfl rfl)
theorem dX0_lateness_14 : decode cX0_lateness 14 = .ok (.aload_n 0, 1) := dk_42 (dk_at dksX0_lateness_0 14 rfl rfl)
theorem dX0_lateness_15 : decode cX0_lateness 15 = .ok (.getfield 46, 3) := dk_180 0 46 (dk_at dksX0_lateness_0 15 rfl rfl)
theorem dX0_lateness_18 : decode cX0_lateness 18 = .ok (.aload_n 0, 1) := dk_42 (dk_at dksX0_lateness_0 18 rfl rfl)
theorem dX0_lateness_19 : decode cX0_lateness 19 = .ok (.getfield 21, 3) := dk_180 0 21 (dk_at dksX0_lateness_0 19 rfl rfl)
theorem dX0_lateness_22 : decode cX0_lateness 22 = .ok (.getfield 188, 3) := dk_180 0 188 (dk_at dksX0_lateness_1 0 rfl rfl)
theorem dX0_lateness_25 : decode cX0_lateness 25 = .ok (.iconst 1, 1) := dk_4 (dk_at dksX0_lateness_1 3 rfl rfl)
theorem dX0_lateness_26 : decode cX0_lateness 26 = .ok (.iaload, 1) := dk_46 (dk_at dksX0_lateness_1 4 rfl rfl)
theorem dX0_lateness_27 : decode cX0_lateness 27 = .ok (.iaload, 1) := dk_46 (dk_at dksX0_lateness_1 5 rfl rfl)
theorem dX0_lateness_28 : decode cX0_lateness 28 = .ok (.iload_n 1, 1) := dk_27 (dk_at dksX0_lateness_1 6 rfl rfl)
theorem dX0_lateness_29 : decode cX0_lateness 29 = .ok (.invokestatic 149, 3) := dk_184 0 149 (dk_at dksX0_lateness_1 7 rfl rfl)
theorem dX0_lateness_32 : decode cX0_lateness 32 = .ok (.ifCond .ne 5, 3) := dk_154 0 5 (dk_at dksX0_lateness_1 10 rfl rfl)
theorem dX0_lateness_35 : decode cX0_lateness 35 = .ok (.iconst 0, 1) := dk_3 (dk_at dksX0_lateness_1 13 rfl rfl)
theorem dX0_lateness_36 : decode cX0_lateness 36 = .ok (.ireturn, 1) := dk_172 (dk_at dksX0_lateness_1 14 rfl rfl)
theorem dX0_lateness_37 : decode cX0_lateness 37 = .ok (.iconst 1, 1) := dk_4 (dk_at dksX0_lateness_1 15 rfl rfl)
theorem dX0_lateness_38 : decode cX0_lateness 38 = .ok (.istore_n 2, 1) := dk_61 (dk_at dksX0_lateness_1 16 rfl rfl)
theorem dX0_lateness_39 : decode cX0_lateness 39 = .ok (.iconst 0, 1) := dk_3 (dk_at dksX0_lateness_1 17 rfl rfl)
theorem dX0_lateness_40 : decode cX0_lateness 40 = .ok (.istore_n 3, 1) := dk_62 (dk_at dksX0_lateness_1 18 rfl rfl)
theorem dX0_lateness_41 : decode cX0_lateness 41 = .ok (.iload_n 3, 1) := dk_29 (dk_at dksX0_lateness_1 19 rfl rfl)
theorem dX0_lateness_42 : decode cX0_lateness 42 = .ok (.aload_n 0, 1) := dk_42 (dk_at dksX0_lateness_1 20 rfl rfl)
theorem dX0_lateness_43 : decode cX0_lateness 43 = .ok (.invokevirtual 66, 3) := dk_182 0 66 (dk_at dksX0_lateness_1 21 rfl rfl)
theorem dX0_lateness_46 : decode cX0_lateness 46 = .ok (.if_icmp .ge 22, 3) := dk_162 0 22 (dk_at dksX0_lateness_2 0 rfl rfl)
theorem dX0_lateness_49 : decode cX0_lateness 49 = .ok (.iload_n 2, 1) := dk_28 (dk_at dksX0_lateness_2 3 rfl rfl)
theorem dX0_lateness_50 : decode cX0_lateness 50 = .ok (.aload_n 0, 1) := dk_42 (dk_at dksX0_lateness_2 4 rfl rfl)
theorem dX0_lateness_51 : decode cX0_lateness 51 = .ok (.getfield 46, 3) := dk_180 0 46 (dk_at dksX0_lateness_2 5 rfl rfl)
theorem dX0_lateness_54 : decode cX0_lateness 54 = .ok (.iload_n 3, 1) := dk_29 (dk_at dksX0_lateness_2 8 rfl rfl)
theorem dX0_lateness_55 : decode cX0_lateness 55 = .ok (.iaload, 1) := dk_46 (dk_at dksX0_lateness_2 9 rfl rfl)
theorem dX0_lateness_56 : decode cX0_lateness 56 = .ok (.iload_n 1, 1) := dk_27 (dk_at dksX0_lateness_2 10 rfl rfl)
theorem dX0_lateness_57 : decode cX0_lateness 57 = .ok (.invokestatic 149, 3) := dk_184 0 149 (dk_at dksX0_lateness_2 11 rfl rfl)
theorem dX0_lateness_60 : decode cX0_lateness 60 = .ok (.iand, 1) := dk_126 (dk_at dksX0_lateness_2 14 rfl rfl)
theorem dX0_lateness_61 : decode cX0_lateness 61 = .ok (.istore_n 2, 1) := dk_61 (dk_at dksX0_lateness_2 15 rfl rfl)
theorem dX0_lateness_62 : decode cX0_lateness 62 = .ok (.iinc 3 1, 3) := dk_132 3 1 (dk_at dksX0_lateness_2 16 rfl rfl)
theorem dX0_lateness_65 : decode cX0_lateness 65 = .ok (.goto (-24), 3) := dk_167 255 232 (dk_at dksX0_lateness_2 19 rfl rfl)
theorem dX0_lateness_68 : decode cX0_lateness 68 = .ok (.iload_n 2, 1) := dk_28 (dk_at dksX0_lateness_2 22 rfl rfl)
theorem dX0_lateness_69 : decode cX0_lateness 69 = .ok (.ifCond .eq 5, 3) := dk_153 0 5 (dk_at dksX0_lateness_3 0 rfl rfl)
theorem dX0_lateness_72 : decode cX0_lateness 72 = .ok (.iconst 1, 1) := dk_4 (dk_at dksX0_lateness_3 3 rfl rfl)
theorem dX0_lateness_73 : decode cX0_lateness 73 = .ok (.ireturn, 1) := dk_172 (dk_at dksX0_lateness_3 4 rfl rfl)
theorem dX0_lateness_74 : decode cX0_lateness 74 = .ok (.aload_n 0, 1) := dk_42 (dk_at dksX0_lateness_3 5 rfl rfl)
theorem dX0_lateness_75 : decode cX0_lateness 75 = .ok (.aload_n 0, 1) := dk_42 (dk_at dksX0_lateness_3 6 rfl rfl)
theorem dX0_lateness_76 : decode cX0_lateness 76 = .ok (.invokevirtual 157, 3) := dk_182 0 157 (dk_at dksX0_lateness_3 7 rfl rfl)
theorem dX0_lateness_79 : decode cX0_lateness 79 = .ok (.aload_n 0, 1) := dk_42 (dk_at dksX0_lateness_3 10 rfl rfl)
theorem dX0_lateness_80 : decode cX0_lateness 80 = .ok (.getfield 21, 3) := dk_180 0 21 (dk_at dksX0_lateness_3 11 rfl rfl)
theorem dX0_lateness_83 : decode cX0_lateness 83 = .ok (.getfield 188, 3) := dk_180 0 188 (dk_at dksX0_lateness_3 14 rfl rfl)
theorem dX0_lateness_86 : decode cX0_lateness 86 = .ok (.aload_n 0, 1) := dk_42 (dk_at dksX0_lateness_3 17 rfl rfl)
theorem dX0_lateness_87 : decode cX0_lateness 87 = .ok (.getfield 21, 3) := dk_180 0 21 (dk_at dksX0_lateness_3 18 rfl rfl)
theorem dX0_lateness_90 : decode cX0_lateness 90 = .ok (.getfield 188, 3) := dk_180 0 188 (dk_at dksX0_lateness_3 21 rfl rfl)
theorem dX0_lateness_93 : decode cX0_lateness 93 = .ok (.iconst 1, 1) := dk_4 (dk_at dksX0_lateness_4 0 rfl rfl)
theorem dX0_lateness_94 : decode cX0_lateness 94 = .ok (.iaload, 1) := dk_46 (dk_at dksX0_lateness_4 1 rfl rfl)
theorem dX0_lateness_95 : decode cX0_lateness 95 = .ok (.invokevirtual 160, 3) := dk_182 0 160 (dk_at dksX0_lateness_4 2 rfl rfl)
theorem dX0_lateness_98 : decode cX0_lateness 98 = .ok (.istore_n 3, 1) := dk_62 (dk_at dksX0_lateness_4 5 rfl rfl)
theorem dX0_lateness_99 : decode cX0_lateness 99 = .ok (.iconst 1, 1) := dk_4 (dk_at dksX0_lateness_4 6 rfl rfl)
theorem dX0_lateness_100 : decode cX0_lateness 100 = .ok (.iload_n 1, 1) := dk_27 (dk_at dksX0_lateness_4 7 rfl rfl)
theorem dX0_lateness_101 : decode cX0_lateness 101 = .ok (.ishl, 1) := dk_120 (dk_at dksX0_lateness_4 8 rfl rfl)
theorem dX0_lateness_102 : decode cX0_lateness 102 = .ok (.istore 4, 2) := dk_54 4 (dk_at dksX0_lateness_4 9 rfl rfl)
theorem dX0_lateness_104 : decode cX0_lateness 104 = .ok (.iload_n 3, 1) := dk_29 (dk_at dksX0_lateness_4 11 rfl rfl)
theorem dX0_lateness_105 : decode cX0_lateness 105 = .ok (.iload_n 1, 1) := dk_27 (dk_at dksX0_lateness_4 12 rfl rfl)
theorem dX0_lateness_106 : decode cX0_lateness 106 = .ok (.invokestatic 149, 3) := dk_184 0 149 (dk_at dksX0_lateness_4 13 rfl rfl)
theorem dX0_lateness_109 : decode cX0_lateness 109 = .ok (.ifCond .eq 21, 3) := dk_153 0 21 (dk_at dksX0_lateness_4 16 rfl rfl)
theorem dX0_lateness_112 : decode cX0_lateness 112 = .ok (.aload_n 0, 1) := dk_42 (dk_at dksX0_lateness_4 19 rfl rfl)
theorem dX0_lateness_113 : decode cX0_lateness 113 = .ok (.iload_n 1, 1) := dk_27 (dk_at dksX0_lateness_4 20 rfl rfl)
theorem dX0_lateness_114 : decode cX0_lateness 114 = .ok (.iload_n 3, 1) := dk_29 (dk_at dksX0_lateness_4 21 rfl rfl)
theorem dX0_lateness_115 : decode cX0_lateness 115 = .ok (.iload 4, 2) := dk_21 4 (dk_at dksX0_lateness_4 22 rfl rfl)
theorem dX0_lateness_117 : decode cX0_lateness 117 = .ok (.iconst (-1), 1) := dk_2 (dk_at dksX0_lateness_5 0 rfl rfl)
theorem dX0_lateness_118 : decode cX0_lateness 118 = .ok (.ixor, 1) := dk_130 (dk_at dksX0_lateness_5 1 rfl rfl)
theorem dX0_lateness_119 : decode cX0_lateness 119 = .ok (.iand, 1) := dk_126 (dk_at dksX0_lateness_5 2 rfl rfl)
theorem dX0_lateness_120 : decode cX0_lateness 120 = .ok (.invokevirtual 310, 3) := dk_182 1 54 (dk_at dksX0_lateness_5 3 rfl rfl)
theorem dX0_lateness_123 : decode cX0_lateness 123 = .ok (.ifCond .eq 7, 3) := dk_153 0 7 (dk_at dksX0_lateness_5 6 rfl rfl)
theorem dX0_lateness_126 : decode cX0_lateness 126 = .ok (.iconst 2, 1) := dk_5 (dk_at dksX0_lateness_5 9 rfl rfl)
theorem dX0_lateness_127 : decode cX0_lateness 127 = .ok (.goto 20, 3) := dk_167 0 20 (dk_at dksX0_lateness_5 10 rfl rfl)
theorem dX0_lateness_130 : decode cX0_lateness 130 = .ok (.aload_n 0, 1) := dk_42 (dk_at dksX0_lateness_5 13 rfl rfl)
theorem dX0_lateness_131 : decode cX0_lateness 131 = .ok (.iload_n 1, 1) := dk_27 (dk_at dksX0_lateness_5 14 rfl rfl)
theorem dX0_lateness_132 : decode cX0_lateness 132 = .ok (.iload_n 3, 1) := dk_29 (dk_at dksX0_lateness_5 15 rfl rfl)
theorem dX0_lateness_133 : decode cX0_lateness 133 = .ok (.iload 4, 2) := dk_21 4 (dk_at dksX0_lateness_5 16 rfl rfl)
theorem dX0_lateness_135 : decode cX0_lateness 135 = .ok (.iand, 1) := dk_126 (dk_at dksX0_lateness_5 18 rfl rfl)
theorem dX0_lateness_136 : decode cX0_lateness 136 = .ok (.invokevirtual 310, 3) := dk_182 1 54 (dk_at dksX0_lateness_5 19 rfl rfl)
theorem dX0_lateness_139 : decode cX0_lateness 139 = .ok (.ifCond .eq 7, 3) := dk_153 0 7 (dk_at dksX0_lateness_6 0 rfl rfl)
theorem dX0_lateness_142 : decode cX0_lateness 142 = .ok (.iconst 3, 1) := dk_6 (dk_at dksX0_lateness_6 3 rfl rfl)
theorem dX0_lateness_143 : decode cX0_lateness 143 = .ok (.goto 4, 3) := dk_167 0 4 (dk_at dksX0_lateness_6 4 rfl rfl)
theorem dX0_lateness_146 : decode cX0_lateness 146 = .ok (.iconst 4, 1) := dk_7 (dk_at dksX0_lateness_6 7 rfl rfl)
theorem dX0_lateness_147 : decode cX0_lateness 147 = .ok (.ireturn, 1) := dk_172 (dk_at dksX0_lateness_6 8 rfl rfl)
abbrev cX0_race : ByteArray := prog_1_method_73_code
def yX0_race : MethodName := ⟨RX0, "race", "(IZ)I"⟩
def dkwX0_race_2 : List UInt8 := [160, 0, 7, 3, 167, 0, 4, 4, 172]
abbrev dktX0_race_2 : List UInt8 := dkwX0_race_2 ++ []
def dkwX0_race_1 : List UInt8 := [3, 27, 3, 182, 1, 57, 62, 28, 154, 0, 7, 29, 167, 0, 19, 42, 4, 27, 3, 182, 1, 57, 29]
abbrev dktX0_race_1 : List UInt8 := dkwX0_race_1 ++ dktX0_race_2
def dkwX0_race_0 : List UInt8 := [27, 4, 42, 180, 0, 21, 180, 0, 59, 3, 46, 184, 0, 62, 154, 0, 5, 2, 172, 42, 182, 1, 31, 42]
abbrev dktX0_race_0 : List UInt8 := dkwX0_race_0 ++ dktX0_race_1
theorem dksX0_race_0 : cX0_race.data.toList.drop 0 = dktX0_race_0 := by decide +kernel
theorem dksX0_race_1 : cX0_race.data.toList.drop 24 = dktX0_race_1 := dk_seg dksX0_race_0 24 rfl rfl
theorem dksX0_race_2 : cX0_race.data.toList.drop 47 = dktX0_race_2 := dk_seg dksX0_race_1 23 rfl rfl
theorem dX0_race_0 : decode cX0_race 0 = .ok (.iload_n 1, 1) := dk_27 (dk_at dksX0_race_0 0 rfl rfl)
theorem dX0_race_1 : decode cX0_race 1 = .ok (.iconst 1, 1) := dk_4 (dk_at dksX0_race_0 1 rfl rfl)
theorem dX0_race_2 : decode cX0_race 2 = .ok (.aload_n 0, 1) := dk_42 (dk_at dksX0_race_0 2 rfl rfl)
theorem dX0_race_3 : decode cX0_race 3 = .ok (.getfield 21, 3) := dk_180 0 21 (dk_at dksX0_race_0 3 rfl rfl)
theorem dX0_race_6 : decode cX0_race 6 = .ok (.getfield 59, 3) := dk_180 0 59 (dk_at dksX0_race_0 6 rfl rfl)
theorem dX0_race_9 : decode cX0_race 9 = .ok (.iconst 0, 1) := dk_3 (dk_at dksX0_race_0 9 rfl rfl)
theorem dX0_race_10 : decode cX0_race 10 = .ok (.iaload, 1) := dk_46 (dk_at dksX0_race_0 10 rfl rfl)
theorem dX0_race_11 : decode cX0_race 11 = .ok (.invokestatic 62, 3) := dk_184 0 62 (dk_at dksX0_race_0 11 rfl rfl)
theorem dX0_race_14 : decode cX0_race 14 = .ok (.ifCond .ne 5, 3) := dk_154 0 5 (dk_at dksX0_race_0 14 rfl rfl)
theorem dX0_race_17 : decode cX0_race 17 = .ok (.iconst (-1), 1) := dk_2 (dk_at dksX0_race_0 17 rfl rfl)
theorem dX0_race_18 : decode cX0_race 18 = .ok (.ireturn, 1) := dk_172 (dk_at dksX0_race_0 18 rfl rfl)
theorem dX0_race_19 : decode cX0_race 19 = .ok (.aload_n 0, 1) := dk_42 (dk_at dksX0_race_0 19 rfl rfl)
theorem dX0_race_20 : decode cX0_race 20 = .ok (.invokevirtual 287, 3) := dk_182 1 31 (dk_at dksX0_race_0 20 rfl rfl)
theorem dX0_race_23 : decode cX0_race 23 = .ok (.aload_n 0, 1) := dk_42 (dk_at dksX0_race_0 23 rfl rfl)
theorem dX0_race_24 : decode cX0_race 24 = .ok (.iconst 0, 1) := dk_3 (dk_at dksX0_race_1 0 rfl rfl)
theorem dX0_race_25 : decode cX0_race 25 = .ok (.iload_n 1, 1) := dk_27 (dk_at dksX0_race_1 1 rfl rfl)
theorem dX0_race_26 : decode cX0_race 26 = .ok (.iconst 0, 1) := dk_3 (dk_at dksX0_race_1 2 rfl rfl)
theorem dX0_race_27 : decode cX0_race 27 = .ok (.invokevirtual 313, 3) := dk_182 1 57 (dk_at dksX0_race_1 3 rfl rfl)
theorem dX0_race_30 : decode cX0_race 30 = .ok (.istore_n 3, 1) := dk_62 (dk_at dksX0_race_1 6 rfl rfl)
theorem dX0_race_31 : decode cX0_race 31 = .ok (.iload_n 2, 1) := dk_28 (dk_at dksX0_race_1 7 rfl rfl)
theorem dX0_race_32 : decode cX0_race 32 = .ok (.ifCond .ne 7, 3) := dk_154 0 7 (dk_at dksX0_race_1 8 rfl rfl)
theorem dX0_race_35 : decode cX0_race 35 = .ok (.iload_n 3, 1) := dk_29 (dk_at dksX0_race_1 11 rfl rfl)
theorem dX0_race_36 : decode cX0_race 36 = .ok (.goto 19, 3) := dk_167 0 19 (dk_at dksX0_race_1 12 rfl rfl)
theorem dX0_race_39 : decode cX0_race 39 = .ok (.aload_n 0, 1) := dk_42 (dk_at dksX0_race_1 15 rfl rfl)
theorem dX0_race_40 : decode cX0_race 40 = .ok (.iconst 1, 1) := dk_4 (dk_at dksX0_race_1 16 rfl rfl)
theorem dX0_race_41 : decode cX0_race 41 = .ok (.iload_n 1, 1) := dk_27 (dk_at dksX0_race_1 17 rfl rfl)
theorem dX0_race_42 : decode cX0_race 42 = .ok (.iconst 0, 1) := dk_3 (dk_at dksX0_race_1 18 rfl rfl)
theorem dX0_race_43 : decode cX0_race 43 = .ok (.invokevirtual 313, 3) := dk_182 1 57 (dk_at dksX0_race_1 19 rfl rfl)
theorem dX0_race_46 : decode cX0_race 46 = .ok (.iload_n 3, 1) := dk_29 (dk_at dksX0_race_1 22 rfl rfl)
theorem dX0_race_47 : decode cX0_race 47 = .ok (.if_icmp .ne 7, 3) := dk_160 0 7 (dk_at dksX0_race_2 0 rfl rfl)
theorem dX0_race_50 : decode cX0_race 50 = .ok (.iconst 0, 1) := dk_3 (dk_at dksX0_race_2 3 rfl rfl)
theorem dX0_race_51 : decode cX0_race 51 = .ok (.goto 4, 3) := dk_167 0 4 (dk_at dksX0_race_2 4 rfl rfl)
theorem dX0_race_54 : decode cX0_race 54 = .ok (.iconst 1, 1) := dk_4 (dk_at dksX0_race_2 7 rfl rfl)
theorem dX0_race_55 : decode cX0_race 55 = .ok (.ireturn, 1) := dk_172 (dk_at dksX0_race_2 8 rfl rfl)
abbrev cX0_raced : ByteArray := prog_1_method_72_code
def yX0_raced : MethodName := ⟨RX0, "raced", "(III)I"⟩
def dkwX0_raced_2 : List UInt8 := [21, 4, 21, 5, 184, 1, 52, 167, 0, 10, 21, 4, 21, 5, 184, 0, 182, 172]
abbrev dktX0_raced_2 : List UInt8 := dkwX0_raced_2 ++ []
def dkwX0_raced_1 : List UInt8 := [54, 4, 42, 27, 4, 96, 28, 29, 4, 27, 120, 128, 182, 1, 57, 54, 5, 27, 5, 112, 154, 0, 13]
abbrev dktX0_raced_1 : List UInt8 := dkwX0_raced_1 ++ dktX0_raced_2
def dkwX0_raced_0 : List UInt8 := [27, 28, 160, 0, 13, 42, 180, 0, 46, 29, 46, 184, 0, 140, 172, 42, 27, 4, 96, 28, 29, 182, 1, 57]
abbrev dktX0_raced_0 : List UInt8 := dkwX0_raced_0 ++ dktX0_raced_1
theorem dksX0_raced_0 : cX0_raced.data.toList.drop 0 = dktX0_raced_0 := by decide +kernel
theorem dksX0_raced_1 : cX0_raced.data.toList.drop 24 = dktX0_raced_1 := dk_seg dksX0_raced_0 24 rfl rfl
theorem dksX0_raced_2 : cX0_raced.data.toList.drop 47 = dktX0_raced_2 := dk_seg dksX0_raced_1 23 rfl rfl
theorem dX0_raced_0 : decode cX0_raced 0 = .ok (.iload_n 1, 1) := dk_27 (dk_at dksX0_raced_0 0 rfl rfl)
theorem dX0_raced_1 : decode cX0_raced 1 = .ok (.iload_n 2, 1) := dk_28 (dk_at dksX0_raced_0 1 rfl rfl)
theorem dX0_raced_2 : decode cX0_raced 2 = .ok (.if_icmp .ne 13, 3) := dk_160 0 13 (dk_at dksX0_raced_0 2 rfl rfl)
theorem dX0_raced_5 : decode cX0_raced 5 = .ok (.aload_n 0, 1) := dk_42 (dk_at dksX0_raced_0 5 rfl rfl)
theorem dX0_raced_6 : decode cX0_raced 6 = .ok (.getfield 46, 3) := dk_180 0 46 (dk_at dksX0_raced_0 6 rfl rfl)
theorem dX0_raced_9 : decode cX0_raced 9 = .ok (.iload_n 3, 1) := dk_29 (dk_at dksX0_raced_0 9 rfl rfl)
theorem dX0_raced_10 : decode cX0_raced 10 = .ok (.iaload, 1) := dk_46 (dk_at dksX0_raced_0 10 rfl rfl)
theorem dX0_raced_11 : decode cX0_raced 11 = .ok (.invokestatic 140, 3) := dk_184 0 140 (dk_at dksX0_raced_0 11 rfl rfl)
theorem dX0_raced_14 : decode cX0_raced 14 = .ok (.ireturn, 1) := dk_172 (dk_at dksX0_raced_0 14 rfl rfl)
theorem dX0_raced_15 : decode cX0_raced 15 = .ok (.aload_n 0, 1) := dk_42 (dk_at dksX0_raced_0 15 rfl rfl)
theorem dX0_raced_16 : decode cX0_raced 16 = .ok (.iload_n 1, 1) := dk_27 (dk_at dksX0_raced_0 16 rfl rfl)
theorem dX0_raced_17 : decode cX0_raced 17 = .ok (.iconst 1, 1) := dk_4 (dk_at dksX0_raced_0 17 rfl rfl)
theorem dX0_raced_18 : decode cX0_raced 18 = .ok (.iadd, 1) := dk_96 (dk_at dksX0_raced_0 18 rfl rfl)
theorem dX0_raced_19 : decode cX0_raced 19 = .ok (.iload_n 2, 1) := dk_28 (dk_at dksX0_raced_0 19 rfl rfl)
theorem dX0_raced_20 : decode cX0_raced 20 = .ok (.iload_n 3, 1) := dk_29 (dk_at dksX0_raced_0 20 rfl rfl)
theorem dX0_raced_21 : decode cX0_raced 21 = .ok (.invokevirtual 313, 3) := dk_182 1 57 (dk_at dksX0_raced_0 21 rfl rfl)
theorem dX0_raced_24 : decode cX0_raced 24 = .ok (.istore 4, 2) := dk_54 4 (dk_at dksX0_raced_1 0 rfl rfl)
theorem dX0_raced_26 : decode cX0_raced 26 = .ok (.aload_n 0, 1) := dk_42 (dk_at dksX0_raced_1 2 rfl rfl)
theorem dX0_raced_27 : decode cX0_raced 27 = .ok (.iload_n 1, 1) := dk_27 (dk_at dksX0_raced_1 3 rfl rfl)
theorem dX0_raced_28 : decode cX0_raced 28 = .ok (.iconst 1, 1) := dk_4 (dk_at dksX0_raced_1 4 rfl rfl)
theorem dX0_raced_29 : decode cX0_raced 29 = .ok (.iadd, 1) := dk_96 (dk_at dksX0_raced_1 5 rfl rfl)
theorem dX0_raced_30 : decode cX0_raced 30 = .ok (.iload_n 2, 1) := dk_28 (dk_at dksX0_raced_1 6 rfl rfl)
theorem dX0_raced_31 : decode cX0_raced 31 = .ok (.iload_n 3, 1) := dk_29 (dk_at dksX0_raced_1 7 rfl rfl)
theorem dX0_raced_32 : decode cX0_raced 32 = .ok (.iconst 1, 1) := dk_4 (dk_at dksX0_raced_1 8 rfl rfl)
theorem dX0_raced_33 : decode cX0_raced 33 = .ok (.iload_n 1, 1) := dk_27 (dk_at dksX0_raced_1 9 rfl rfl)
theorem dX0_raced_34 : decode cX0_raced 34 = .ok (.ishl, 1) := dk_120 (dk_at dksX0_raced_1 10 rfl rfl)
theorem dX0_raced_35 : decode cX0_raced 35 = .ok (.ior, 1) := dk_128 (dk_at dksX0_raced_1 11 rfl rfl)
theorem dX0_raced_36 : decode cX0_raced 36 = .ok (.invokevirtual 313, 3) := dk_182 1 57 (dk_at dksX0_raced_1 12 rfl rfl)
theorem dX0_raced_39 : decode cX0_raced 39 = .ok (.istore 5, 2) := dk_54 5 (dk_at dksX0_raced_1 15 rfl rfl)
theorem dX0_raced_41 : decode cX0_raced 41 = .ok (.iload_n 1, 1) := dk_27 (dk_at dksX0_raced_1 17 rfl rfl)
theorem dX0_raced_42 : decode cX0_raced 42 = .ok (.iconst 2, 1) := dk_5 (dk_at dksX0_raced_1 18 rfl rfl)
theorem dX0_raced_43 : decode cX0_raced 43 = .ok (.irem, 1) := dk_112 (dk_at dksX0_raced_1 19 rfl rfl)
theorem dX0_raced_44 : decode cX0_raced 44 = .ok (.ifCond .ne 13, 3) := dk_154 0 13 (dk_at dksX0_raced_1 20 rfl rfl)
theorem dX0_raced_47 : decode cX0_raced 47 = .ok (.iload 4, 2) := dk_21 4 (dk_at dksX0_raced_2 0 rfl rfl)
theorem dX0_raced_49 : decode cX0_raced 49 = .ok (.iload 5, 2) := dk_21 5 (dk_at dksX0_raced_2 2 rfl rfl)
theorem dX0_raced_51 : decode cX0_raced 51 = .ok (.invokestatic 308, 3) := dk_184 1 52 (dk_at dksX0_raced_2 4 rfl rfl)
theorem dX0_raced_54 : decode cX0_raced 54 = .ok (.goto 10, 3) := dk_167 0 10 (dk_at dksX0_raced_2 7 rfl rfl)
theorem dX0_raced_57 : decode cX0_raced 57 = .ok (.iload 4, 2) := dk_21 4 (dk_at dksX0_raced_2 10 rfl rfl)
theorem dX0_raced_59 : decode cX0_raced 59 = .ok (.iload 5, 2) := dk_21 5 (dk_at dksX0_raced_2 12 rfl rfl)
theorem dX0_raced_61 : decode cX0_raced 61 = .ok (.invokestatic 182, 3) := dk_184 0 182 (dk_at dksX0_raced_2 14 rfl rfl)
theorem dX0_raced_64 : decode cX0_raced 64 = .ok (.ireturn, 1) := dk_172 (dk_at dksX0_raced_2 17 rfl rfl)
abbrev cX0_heard : ByteArray := prog_1_method_74_code
def yX0_heard : MethodName := ⟨RX0, "heard", "(IZ)I"⟩
def dkwX0_heard_2 : List UInt8 := [7, 27, 28, 153, 0, 7, 4, 167, 0, 4, 3, 182, 1, 67, 167, 0, 5, 16, 254, 172]
abbrev dktX0_heard_2 : List UInt8 := dkwX0_heard_2 ++ []
def dkwX0_heard_1 : List UInt8 := [180, 0, 21, 180, 0, 59, 7, 46, 16, 8, 162, 0, 31, 42, 180, 0, 21, 42, 180, 0, 21, 180, 1, 64]
abbrev dktX0_heard_1 : List UInt8 := dkwX0_heard_1 ++ dktX0_heard_2
def dkwX0_heard_0 : List UInt8 := [27, 2, 160, 0, 12, 42, 180, 0, 21, 7, 182, 1, 61, 172, 42, 27, 182, 0, 204, 153, 0, 45, 42]
abbrev dktX0_heard_0 : List UInt8 := dkwX0_heard_0 ++ dktX0_heard_1
theorem dksX0_heard_0 : cX0_heard.data.toList.drop 0 = dktX0_heard_0 := by decide +kernel
theorem dksX0_heard_1 : cX0_heard.data.toList.drop 23 = dktX0_heard_1 := dk_seg dksX0_heard_0 23 rfl rfl
theorem dksX0_heard_2 : cX0_heard.data.toList.drop 47 = dktX0_heard_2 := dk_seg dksX0_heard_1 24 rfl rfl
theorem dX0_heard_0 : decode cX0_heard 0 = .ok (.iload_n 1, 1) := dk_27 (dk_at dksX0_heard_0 0 rfl rfl)
theorem dX0_heard_1 : decode cX0_heard 1 = .ok (.iconst (-1), 1) := dk_2 (dk_at dksX0_heard_0 1 rfl rfl)
theorem dX0_heard_2 : decode cX0_heard 2 = .ok (.if_icmp .ne 12, 3) := dk_160 0 12 (dk_at dksX0_heard_0 2 rfl rfl)
theorem dX0_heard_5 : decode cX0_heard 5 = .ok (.aload_n 0, 1) := dk_42 (dk_at dksX0_heard_0 5 rfl rfl)
theorem dX0_heard_6 : decode cX0_heard 6 = .ok (.getfield 21, 3) := dk_180 0 21 (dk_at dksX0_heard_0 6 rfl rfl)
theorem dX0_heard_9 : decode cX0_heard 9 = .ok (.iconst 4, 1) := dk_7 (dk_at dksX0_heard_0 9 rfl rfl)
theorem dX0_heard_10 : decode cX0_heard 10 = .ok (.invokevirtual 317, 3) := dk_182 1 61 (dk_at dksX0_heard_0 10 rfl rfl)
theorem dX0_heard_13 : decode cX0_heard 13 = .ok (.ireturn, 1) := dk_172 (dk_at dksX0_heard_0 13 rfl rfl)
theorem dX0_heard_14 : decode cX0_heard 14 = .ok (.aload_n 0, 1) := dk_42 (dk_at dksX0_heard_0 14 rfl rfl)
theorem dX0_heard_15 : decode cX0_heard 15 = .ok (.iload_n 1, 1) := dk_27 (dk_at dksX0_heard_0 15 rfl rfl)
theorem dX0_heard_16 : decode cX0_heard 16 = .ok (.invokevirtual 204, 3) := dk_182 0 204 (dk_at dksX0_heard_0 16 rfl rfl)
theorem dX0_heard_19 : decode cX0_heard 19 = .ok (.ifCond .eq 45, 3) := dk_153 0 45 (dk_at dksX0_heard_0 19 rfl rfl)
theorem dX0_heard_22 : decode cX0_heard 22 = .ok (.aload_n 0, 1) := dk_42 (dk_at dksX0_heard_0 22 rfl rfl)
theorem dX0_heard_23 : decode cX0_heard 23 = .ok (.getfield 21, 3) := dk_180 0 21 (dk_at dksX0_heard_1 0 rfl rfl)
theorem dX0_heard_26 : decode cX0_heard 26 = .ok (.getfield 59, 3) := dk_180 0 59 (dk_at dksX0_heard_1 3 rfl rfl)
theorem dX0_heard_29 : decode cX0_heard 29 = .ok (.iconst 4, 1) := dk_7 (dk_at dksX0_heard_1 6 rfl rfl)
theorem dX0_heard_30 : decode cX0_heard 30 = .ok (.iaload, 1) := dk_46 (dk_at dksX0_heard_1 7 rfl rfl)
theorem dX0_heard_31 : decode cX0_heard 31 = .ok (.bipush 8, 2) := dk_16 8 (dk_at dksX0_heard_1 8 rfl rfl)
theorem dX0_heard_33 : decode cX0_heard 33 = .ok (.if_icmp .ge 31, 3) := dk_162 0 31 (dk_at dksX0_heard_1 10 rfl rfl)
theorem dX0_heard_36 : decode cX0_heard 36 = .ok (.aload_n 0, 1) := dk_42 (dk_at dksX0_heard_1 13 rfl rfl)
theorem dX0_heard_37 : decode cX0_heard 37 = .ok (.getfield 21, 3) := dk_180 0 21 (dk_at dksX0_heard_1 14 rfl rfl)
theorem dX0_heard_40 : decode cX0_heard 40 = .ok (.aload_n 0, 1) := dk_42 (dk_at dksX0_heard_1 17 rfl rfl)
theorem dX0_heard_41 : decode cX0_heard 41 = .ok (.getfield 21, 3) := dk_180 0 21 (dk_at dksX0_heard_1 18 rfl rfl)
theorem dX0_heard_44 : decode cX0_heard 44 = .ok (.getfield 320, 3) := dk_180 1 64 (dk_at dksX0_heard_1 21 rfl rfl)
theorem dX0_heard_47 : decode cX0_heard 47 = .ok (.iconst 4, 1) := dk_7 (dk_at dksX0_heard_2 0 rfl rfl)
theorem dX0_heard_48 : decode cX0_heard 48 = .ok (.iload_n 1, 1) := dk_27 (dk_at dksX0_heard_2 1 rfl rfl)
theorem dX0_heard_49 : decode cX0_heard 49 = .ok (.iload_n 2, 1) := dk_28 (dk_at dksX0_heard_2 2 rfl rfl)
theorem dX0_heard_50 : decode cX0_heard 50 = .ok (.ifCond .eq 7, 3) := dk_153 0 7 (dk_at dksX0_heard_2 3 rfl rfl)
theorem dX0_heard_53 : decode cX0_heard 53 = .ok (.iconst 1, 1) := dk_4 (dk_at dksX0_heard_2 6 rfl rfl)
theorem dX0_heard_54 : decode cX0_heard 54 = .ok (.goto 4, 3) := dk_167 0 4 (dk_at dksX0_heard_2 7 rfl rfl)
theorem dX0_heard_57 : decode cX0_heard 57 = .ok (.iconst 0, 1) := dk_3 (dk_at dksX0_heard_2 10 rfl rfl)
theorem dX0_heard_58 : decode cX0_heard 58 = .ok (.invokevirtual 323, 3) := dk_182 1 67 (dk_at dksX0_heard_2 11 rfl rfl)
theorem dX0_heard_61 : decode cX0_heard 61 = .ok (.goto 5, 3) := dk_167 0 5 (dk_at dksX0_heard_2 14 rfl rfl)
theorem dX0_heard_64 : decode cX0_heard 64 = .ok (.bipush (-2), 2) := dk_16 254 (dk_at dksX0_heard_2 17 rfl rfl)
theorem dX0_heard_66 : decode cX0_heard 66 = .ok (.ireturn, 1) := dk_172 (dk_at dksX0_heard_2 19 rfl rfl)
abbrev cX0_believes : ByteArray := prog_1_method_78_code
def yX0_believes : MethodName := ⟨RX0, "believes", "(IZ)I"⟩
def dkwX0_believes_3 : List UInt8 := [180, 1, 34, 21, 4, 108, 167, 0, 7, 29, 21, 4, 108, 172]
abbrev dktX0_believes_3 : List UInt8 := dkwX0_believes_3 ++ []
def dkwX0_believes_2 : List UInt8 := [126, 96, 62, 132, 4, 1, 167, 255, 230, 42, 180, 1, 34, 29, 184, 1, 74, 54, 4, 28, 153, 0, 13, 42]
abbrev dktX0_believes_2 : List UInt8 := dkwX0_believes_2 ++ dktX0_believes_3
def dkwX0_believes_1 : List UInt8 := [62, 3, 54, 4, 21, 4, 42, 180, 1, 34, 162, 0, 23, 29, 42, 180, 0, 49, 21, 4, 46, 27, 122, 4]
abbrev dktX0_believes_1 : List UInt8 := dkwX0_believes_1 ++ dktX0_believes_2
def dkwX0_believes_0 : List UInt8 := [42, 27, 182, 0, 204, 154, 0, 5, 2, 172, 42, 182, 1, 77, 42, 180, 1, 34, 154, 0, 5, 2, 172, 3]
abbrev dktX0_believes_0 : List UInt8 := dkwX0_believes_0 ++ dktX0_believes_1
theorem dksX0_believes_0 : cX0_believes.data.toList.drop 0 = dktX0_believes_0 := by decide +kernel
theorem dksX0_believes_1 : cX0_believes.data.toList.drop 24 = dktX0_believes_1 := dk_seg dksX0_believes_0 24 rfl rfl
theorem dksX0_believes_2 : cX0_believes.data.toList.drop 48 = dktX0_believes_2 := dk_seg dksX0_believes_1 24 rfl rfl
theorem dksX0_believes_3 : cX0_believes.data.toList.drop 72 = dktX0_believes_3 := dk_seg dksX0_believes_2 24 rfl rfl
theorem dX0_believes_0 : decode cX0_believes 0 = .ok (.aload_n 0, 1) := dk_42 (dk_at dksX0_believes_0 0 rfl rfl)
theorem dX0_believes_1 : decode cX0_believes 1 = .ok (.iload_n 1, 1) := dk_27 (dk_at dksX0_believes_0 1 rfl rfl)
theorem dX0_believes_2 : decode cX0_believes 2 = .ok (.invokevirtual 204, 3) := dk_182 0 204 (dk_at dksX0_believes_0 2 rfl rfl)
theorem dX0_believes_5 : decode cX0_believes 5 = .ok (.ifCond .ne 5, 3) := dk_154 0 5 (dk_at dksX0_believes_0 5 rfl rfl)
theorem dX0_believes_8 : decode cX0_believes 8 = .ok (.iconst (-1), 1) := dk_2 (dk_at dksX0_believes_0 8 rfl rfl)
theorem dX0_believes_9 : decode cX0_believes 9 = .ok (.ireturn, 1) := dk_172 (dk_at dksX0_believes_0 9 rfl rfl)
theorem dX0_believes_10 : decode cX0_believes 10 = .ok (.aload_n 0, 1) := dk_42 (dk_at dksX0_believes_0 10 rfl rfl)
theorem dX0_believes_11 : decode cX0_believes 11 = .ok (.invokevirtual 333, 3) := dk_182 1 77 (dk_at dksX0_believes_0 11 rfl rfl)
theorem dX0_believes_14 : decode cX0_believes 14 = .ok (.aload_n 0, 1) := dk_42 (dk_at dksX0_believes_0 14 rfl rfl)
theorem dX0_believes_15 : decode cX0_believes 15 = .ok (.getfield 290, 3) := dk_180 1 34 (dk_at dksX0_believes_0 15 rfl rfl)
theorem dX0_believes_18 : decode cX0_believes 18 = .ok (.ifCond .ne 5, 3) := dk_154 0 5 (dk_at dksX0_believes_0 18 rfl rfl)
theorem dX0_believes_21 : decode cX0_believes 21 = .ok (.iconst (-1), 1) := dk_2 (dk_at dksX0_believes_0 21 rfl rfl)
theorem dX0_believes_22 : decode cX0_believes 22 = .ok (.ireturn, 1) := dk_172 (dk_at dksX0_believes_0 22 rfl rfl)
theorem dX0_believes_23 : decode cX0_believes 23 = .ok (.iconst 0, 1) := dk_3 (dk_at dksX0_believes_0 23 rfl rfl)
theorem dX0_believes_24 : decode cX0_believes 24 = .ok (.istore_n 3, 1) := dk_62 (dk_at dksX0_believes_1 0 rfl rfl)
theorem dX0_believes_25 : decode cX0_believes 25 = .ok (.iconst 0, 1) := dk_3 (dk_at dksX0_believes_1 1 rfl rfl)
theorem dX0_believes_26 : decode cX0_believes 26 = .ok (.istore 4, 2) := dk_54 4 (dk_at dksX0_believes_1 2 rfl rfl)
theorem dX0_believes_28 : decode cX0_believes 28 = .ok (.iload 4, 2) := dk_21 4 (dk_at dksX0_believes_1 4 rfl rfl)
theorem dX0_believes_30 : decode cX0_believes 30 = .ok (.aload_n 0, 1) := dk_42 (dk_at dksX0_believes_1 6 rfl rfl)
theorem dX0_believes_31 : decode cX0_believes 31 = .ok (.getfield 290, 3) := dk_180 1 34 (dk_at dksX0_believes_1 7 rfl rfl)
theorem dX0_believes_34 : decode cX0_believes 34 = .ok (.if_icmp .ge 23, 3) := dk_162 0 23 (dk_at dksX0_believes_1 10 rfl rfl)
theorem dX0_believes_37 : decode cX0_believes 37 = .ok (.iload_n 3, 1) := dk_29 (dk_at dksX0_believes_1 13 rfl rfl)
theorem dX0_believes_38 : decode cX0_believes 38 = .ok (.aload_n 0, 1) := dk_42 (dk_at dksX0_believes_1 14 rfl rfl)
theorem dX0_believes_39 : decode cX0_believes 39 = .ok (.getfield 49, 3) := dk_180 0 49 (dk_at dksX0_believes_1 15 rfl rfl)
theorem dX0_believes_42 : decode cX0_believes 42 = .ok (.iload 4, 2) := dk_21 4 (dk_at dksX0_believes_1 18 rfl rfl)
theorem dX0_believes_44 : decode cX0_believes 44 = .ok (.iaload, 1) := dk_46 (dk_at dksX0_believes_1 20 rfl rfl)
theorem dX0_believes_45 : decode cX0_believes 45 = .ok (.iload_n 1, 1) := dk_27 (dk_at dksX0_believes_1 21 rfl rfl)
theorem dX0_believes_46 : decode cX0_believes 46 = .ok (.ishr, 1) := dk_122 (dk_at dksX0_believes_1 22 rfl rfl)
theorem dX0_believes_47 : decode cX0_believes 47 = .ok (.iconst 1, 1) := dk_4 (dk_at dksX0_believes_1 23 rfl rfl)
theorem dX0_believes_48 : decode cX0_believes 48 = .ok (.iand, 1) := dk_126 (dk_at dksX0_believes_2 0 rfl rfl)
theorem dX0_believes_49 : decode cX0_believes 49 = .ok (.iadd, 1) := dk_96 (dk_at dksX0_believes_2 1 rfl rfl)
theorem dX0_believes_50 : decode cX0_believes 50 = .ok (.istore_n 3, 1) := dk_62 (dk_at dksX0_believes_2 2 rfl rfl)
theorem dX0_believes_51 : decode cX0_believes 51 = .ok (.iinc 4 1, 3) := dk_132 4 1 (dk_at dksX0_believes_2 3 rfl rfl)
theorem dX0_believes_54 : decode cX0_believes 54 = .ok (.goto (-26), 3) := dk_167 255 230 (dk_at dksX0_believes_2 6 rfl rfl)
theorem dX0_believes_57 : decode cX0_believes 57 = .ok (.aload_n 0, 1) := dk_42 (dk_at dksX0_believes_2 9 rfl rfl)
theorem dX0_believes_58 : decode cX0_believes 58 = .ok (.getfield 290, 3) := dk_180 1 34 (dk_at dksX0_believes_2 10 rfl rfl)
theorem dX0_believes_61 : decode cX0_believes 61 = .ok (.iload_n 3, 1) := dk_29 (dk_at dksX0_believes_2 13 rfl rfl)
theorem dX0_believes_62 : decode cX0_believes 62 = .ok (.invokestatic 330, 3) := dk_184 1 74 (dk_at dksX0_believes_2 14 rfl rfl)
theorem dX0_believes_65 : decode cX0_believes 65 = .ok (.istore 4, 2) := dk_54 4 (dk_at dksX0_believes_2 17 rfl rfl)
theorem dX0_believes_67 : decode cX0_believes 67 = .ok (.iload_n 2, 1) := dk_28 (dk_at dksX0_believes_2 19 rfl rfl)
theorem dX0_believes_68 : decode cX0_believes 68 = .ok (.ifCond .eq 13, 3) := dk_153 0 13 (dk_at dksX0_believes_2 20 rfl rfl)
theorem dX0_believes_71 : decode cX0_believes 71 = .ok (.aload_n 0, 1) := dk_42 (dk_at dksX0_believes_2 23 rfl rfl)
theorem dX0_believes_72 : decode cX0_believes 72 = .ok (.getfield 290, 3) := dk_180 1 34 (dk_at dksX0_believes_3 0 rfl rfl)
theorem dX0_believes_75 : decode cX0_believes 75 = .ok (.iload 4, 2) := dk_21 4 (dk_at dksX0_believes_3 3 rfl rfl)
theorem dX0_believes_77 : decode cX0_believes 77 = .ok (.idiv, 1) := dk_108 (dk_at dksX0_believes_3 5 rfl rfl)
theorem dX0_believes_78 : decode cX0_believes 78 = .ok (.goto 7, 3) := dk_167 0 7 (dk_at dksX0_believes_3 6 rfl rfl)
theorem dX0_believes_81 : decode cX0_believes 81 = .ok (.iload_n 3, 1) := dk_29 (dk_at dksX0_believes_3 9 rfl rfl)
theorem dX0_believes_82 : decode cX0_believes 82 = .ok (.iload 4, 2) := dk_21 4 (dk_at dksX0_believes_3 10 rfl rfl)
theorem dX0_believes_84 : decode cX0_believes 84 = .ok (.idiv, 1) := dk_108 (dk_at dksX0_believes_3 12 rfl rfl)
theorem dX0_believes_85 : decode cX0_believes 85 = .ok (.ireturn, 1) := dk_172 (dk_at dksX0_believes_3 13 rfl rfl)
abbrev cX0_laysHeard : ByteArray := prog_1_method_76_code
def yX0_laysHeard : MethodName := ⟨RX0, "laysHeard", "()V"⟩
def dkwX0_laysHeard_2 : List UInt8 := [180, 0, 49, 28, 46, 79, 42, 89, 180, 1, 34, 4, 96, 181, 1, 34, 132, 2, 1, 167, 255, 207, 177]
abbrev dktX0_laysHeard_2 : List UInt8 := dkwX0_laysHeard_2 ++ []
def dkwX0_laysHeard_1 : List UInt8 := [180, 0, 49, 28, 46, 182, 1, 71, 154, 0, 6, 167, 0, 28, 42, 180, 0, 49, 42, 180, 1, 34, 42]
abbrev dktX0_laysHeard_1 : List UInt8 := dkwX0_laysHeard_1 ++ dktX0_laysHeard_2
def dkwX0_laysHeard_0 : List UInt8 := [42, 182, 1, 37, 42, 180, 1, 34, 60, 42, 3, 181, 1, 34, 3, 61, 28, 27, 162, 0, 50, 42, 42]
abbrev dktX0_laysHeard_0 : List UInt8 := dkwX0_laysHeard_0 ++ dktX0_laysHeard_1
theorem dksX0_laysHeard_0 : cX0_laysHeard.data.toList.drop 0 = dktX0_laysHeard_0 := by decide +kernel
theorem dksX0_laysHeard_1 : cX0_laysHeard.data.toList.drop 23 = dktX0_laysHeard_1 := dk_seg dksX0_laysHeard_0 23 rfl rfl
theorem dksX0_laysHeard_2 : cX0_laysHeard.data.toList.drop 46 = dktX0_laysHeard_2 := dk_seg dksX0_laysHeard_1 23 rfl rfl
theorem dX0_laysHeard_0 : decode cX0_laysHeard 0 = .ok (.aload_n 0, 1) := dk_42 (dk_at dksX0_laysHeard_0 0 rfl rfl)
theorem dX0_laysHeard_1 : decode cX0_laysHeard 1 = .ok (.invokevirtual 293, 3) := dk_182 1 37 (dk_at dksX0_laysHeard_0 1 rfl rfl)
theorem dX0_laysHeard_4 : decode cX0_laysHeard 4 = .ok (.aload_n 0, 1) := dk_42 (dk_at dksX0_laysHeard_0 4 rfl rfl)
theorem dX0_laysHeard_5 : decode cX0_laysHeard 5 = .ok (.getfield 290, 3) := dk_180 1 34 (dk_at dksX0_laysHeard_0 5 rfl rfl)
theorem dX0_laysHeard_8 : decode cX0_laysHeard 8 = .ok (.istore_n 1, 1) := dk_60 (dk_at dksX0_laysHeard_0 8 rfl rfl)
theorem dX0_laysHeard_9 : decode cX0_laysHeard 9 = .ok (.aload_n 0, 1) := dk_42 (dk_at dksX0_laysHeard_0 9 rfl rfl)
theorem dX0_laysHeard_10 : decode cX0_laysHeard 10 = .ok (.iconst 0, 1) := dk_3 (dk_at dksX0_laysHeard_0 10 rfl rfl)
theorem dX0_laysHeard_11 : decode cX0_laysHeard 11 = .ok (.putfield 290, 3) := dk_181 1 34 (dk_at dksX0_laysHeard_0 11 rfl rfl)
theorem dX0_laysHeard_14 : decode cX0_laysHeard 14 = .ok (.iconst 0, 1) := dk_3 (dk_at dksX0_laysHeard_0 14 rfl rfl)
theorem dX0_laysHeard_15 : decode cX0_laysHeard 15 = .ok (.istore_n 2, 1) := dk_61 (dk_at dksX0_laysHeard_0 15 rfl rfl)
theorem dX0_laysHeard_16 : decode cX0_laysHeard 16 = .ok (.iload_n 2, 1) := dk_28 (dk_at dksX0_laysHeard_0 16 rfl rfl)
theorem dX0_laysHeard_17 : decode cX0_laysHeard 17 = .ok (.iload_n 1, 1) := dk_27 (dk_at dksX0_laysHeard_0 17 rfl rfl)
theorem dX0_laysHeard_18 : decode cX0_laysHeard 18 = .ok (.if_icmp .ge 50, 3) := dk_162 0 50 (dk_at dksX0_laysHeard_0 18 rfl rfl)
theorem dX0_laysHeard_21 : decode cX0_laysHeard 21 = .ok (.aload_n 0, 1) := dk_42 (dk_at dksX0_laysHeard_0 21 rfl rfl)
theorem dX0_laysHeard_22 : decode cX0_laysHeard 22 = .ok (.aload_n 0, 1) := dk_42 (dk_at dksX0_laysHeard_0 22 rfl rfl)
theorem dX0_laysHeard_23 : decode cX0_laysHeard 23 = .ok (.getfield 49, 3) := dk_180 0 49 (dk_at dksX0_laysHeard_1 0 rfl rfl)
theorem dX0_laysHeard_26 : decode cX0_laysHeard 26 = .ok (.iload_n 2, 1) := dk_28 (dk_at dksX0_laysHeard_1 3 rfl rfl)
theorem dX0_laysHeard_27 : decode cX0_laysHeard 27 = .ok (.iaload, 1) := dk_46 (dk_at dksX0_laysHeard_1 4 rfl rfl)
theorem dX0_laysHeard_28 : decode cX0_laysHeard 28 = .ok (.invokevirtual 327, 3) := dk_182 1 71 (dk_at dksX0_laysHeard_1 5 rfl rfl)
theorem dX0_laysHeard_31 : decode cX0_laysHeard 31 = .ok (.ifCond .ne 6, 3) := dk_154 0 6 (dk_at dksX0_laysHeard_1 8 rfl rfl)
theorem dX0_laysHeard_34 : decode cX0_laysHeard 34 = .ok (.goto 28, 3) := dk_167 0 28 (dk_at dksX0_laysHeard_1 11 rfl rfl)
theorem dX0_laysHeard_37 : decode cX0_laysHeard 37 = .ok (.aload_n 0, 1) := dk_42 (dk_at dksX0_laysHeard_1 14 rfl rfl)
theorem dX0_laysHeard_38 : decode cX0_laysHeard 38 = .ok (.getfield 49, 3) := dk_180 0 49 (dk_at dksX0_laysHeard_1 15 rfl rfl)
theorem dX0_laysHeard_41 : decode cX0_laysHeard 41 = .ok (.aload_n 0, 1) := dk_42 (dk_at dksX0_laysHeard_1 18 rfl rfl)
theorem dX0_laysHeard_42 : decode cX0_laysHeard 42 = .ok (.getfield 290, 3) := dk_180 1 34 (dk_at dksX0_laysHeard_1 19 rfl rfl)
theorem dX0_laysHeard_45 : decode cX0_laysHeard 45 = .ok (.aload_n 0, 1) := dk_42 (dk_at dksX0_laysHeard_1 22 rfl rfl)
theorem dX0_laysHeard_46 : decode cX0_laysHeard 46 = .ok (.getfield 49, 3) := dk_180 0 49 (dk_at dksX0_laysHeard_2 0 rfl rfl)
theorem dX0_laysHeard_49 : decode cX0_laysHeard 49 = .ok (.iload_n 2, 1) := dk_28 (dk_at dksX0_laysHeard_2 3 rfl rfl)
theorem dX0_laysHeard_50 : decode cX0_laysHeard 50 = .ok (.iaload, 1) := dk_46 (dk_at dksX0_laysHeard_2 4 rfl rfl)
theorem dX0_laysHeard_51 : decode cX0_laysHeard 51 = .ok (.iastore, 1) := dk_79 (dk_at dksX0_laysHeard_2 5 rfl rfl)
theorem dX0_laysHeard_52 : decode cX0_laysHeard 52 = .ok (.aload_n 0, 1) := dk_42 (dk_at dksX0_laysHeard_2 6 rfl rfl)
theorem dX0_laysHeard_53 : decode cX0_laysHeard 53 = .ok (.dup, 1) := dk_89 (dk_at dksX0_laysHeard_2 7 rfl rfl)
theorem dX0_laysHeard_54 : decode cX0_laysHeard 54 = .ok (.getfield 290, 3) := dk_180 1 34 (dk_at dksX0_laysHeard_2 8 rfl rfl)
theorem dX0_laysHeard_57 : decode cX0_laysHeard 57 = .ok (.iconst 1, 1) := dk_4 (dk_at dksX0_laysHeard_2 11 rfl rfl)
theorem dX0_laysHeard_58 : decode cX0_laysHeard 58 = .ok (.iadd, 1) := dk_96 (dk_at dksX0_laysHeard_2 12 rfl rfl)
theorem dX0_laysHeard_59 : decode cX0_laysHeard 59 = .ok (.putfield 290, 3) := dk_181 1 34 (dk_at dksX0_laysHeard_2 13 rfl rfl)
theorem dX0_laysHeard_62 : decode cX0_laysHeard 62 = .ok (.iinc 2 1, 3) := dk_132 2 1 (dk_at dksX0_laysHeard_2 16 rfl rfl)
theorem dX0_laysHeard_65 : decode cX0_laysHeard 65 = .ok (.goto (-49), 3) := dk_167 255 207 (dk_at dksX0_laysHeard_2 19 rfl rfl)
theorem dX0_laysHeard_68 : decode cX0_laysHeard 68 = .ok (.return_, 1) := dk_177 (dk_at dksX0_laysHeard_2 22 rfl rfl)
abbrev cX0_isHeard : ByteArray := prog_1_method_75_code
def yX0_isHeard : MethodName := ⟨RX0, "isHeard", "(I)Z"⟩
def dkwX0_isHeard_2 : List UInt8 := [132, 2, 1, 167, 255, 209, 4, 172]
abbrev dktX0_isHeard_2 : List UInt8 := dkwX0_isHeard_2 ++ []
def dkwX0_isHeard_1 : List UInt8 := [50, 3, 46, 122, 4, 126, 42, 180, 0, 21, 180, 1, 64, 28, 50, 4, 46, 159, 0, 5, 3, 172]
abbrev dktX0_isHeard_1 : List UInt8 := dkwX0_isHeard_1 ++ dktX0_isHeard_2
def dkwX0_isHeard_0 : List UInt8 := [3, 61, 28, 42, 180, 0, 21, 180, 0, 59, 7, 46, 162, 0, 40, 27, 42, 180, 0, 21, 180, 1, 64, 28]
abbrev dktX0_isHeard_0 : List UInt8 := dkwX0_isHeard_0 ++ dktX0_isHeard_1
theorem dksX0_isHeard_0 : cX0_isHeard.data.toList.drop 0 = dktX0_isHeard_0 := by decide +kernel
theorem dksX0_isHeard_1 : cX0_isHeard.data.toList.drop 24 = dktX0_isHeard_1 := dk_seg dksX0_isHeard_0 24 rfl rfl
theorem dksX0_isHeard_2 : cX0_isHeard.data.toList.drop 46 = dktX0_isHeard_2 := dk_seg dksX0_isHeard_1 22 rfl rfl
theorem dX0_isHeard_0 : decode cX0_isHeard 0 = .ok (.iconst 0, 1) := dk_3 (dk_at dksX0_isHeard_0 0 rfl rfl)
theorem dX0_isHeard_1 : decode cX0_isHeard 1 = .ok (.istore_n 2, 1) := dk_61 (dk_at dksX0_isHeard_0 1 rfl rfl)
theorem dX0_isHeard_2 : decode cX0_isHeard 2 = .ok (.iload_n 2, 1) := dk_28 (dk_at dksX0_isHeard_0 2 rfl rfl)
theorem dX0_isHeard_3 : decode cX0_isHeard 3 = .ok (.aload_n 0, 1) := dk_42 (dk_at dksX0_isHeard_0 3 rfl rfl)
theorem dX0_isHeard_4 : decode cX0_isHeard 4 = .ok (.getfield 21, 3) := dk_180 0 21 (dk_at dksX0_isHeard_0 4 rfl rfl)
theorem dX0_isHeard_7 : decode cX0_isHeard 7 = .ok (.getfield 59, 3) := dk_180 0 59 (dk_at dksX0_isHeard_0 7 rfl rfl)
theorem dX0_isHeard_10 : decode cX0_isHeard 10 = .ok (.iconst 4, 1) := dk_7 (dk_at dksX0_isHeard_0 10 rfl rfl)
theorem dX0_isHeard_11 : decode cX0_isHeard 11 = .ok (.iaload, 1) := dk_46 (dk_at dksX0_isHeard_0 11 rfl rfl)
theorem dX0_isHeard_12 : decode cX0_isHeard 12 = .ok (.if_icmp .ge 40, 3) := dk_162 0 40 (dk_at dksX0_isHeard_0 12 rfl rfl)
theorem dX0_isHeard_15 : decode cX0_isHeard 15 = .ok (.iload_n 1, 1) := dk_27 (dk_at dksX0_isHeard_0 15 rfl rfl)
theorem dX0_isHeard_16 : decode cX0_isHeard 16 = .ok (.aload_n 0, 1) := dk_42 (dk_at dksX0_isHeard_0 16 rfl rfl)
theorem dX0_isHeard_17 : decode cX0_isHeard 17 = .ok (.getfield 21, 3) := dk_180 0 21 (dk_at dksX0_isHeard_0 17 rfl rfl)
theorem dX0_isHeard_20 : decode cX0_isHeard 20 = .ok (.getfield 320, 3) := dk_180 1 64 (dk_at dksX0_isHeard_0 20 rfl rfl)
theorem dX0_isHeard_23 : decode cX0_isHeard 23 = .ok (.iload_n 2, 1) := dk_28 (dk_at dksX0_isHeard_0 23 rfl rfl)
theorem dX0_isHeard_24 : decode cX0_isHeard 24 = .ok (.aaload, 1) := dk_50 (dk_at dksX0_isHeard_1 0 rfl rfl)
theorem dX0_isHeard_25 : decode cX0_isHeard 25 = .ok (.iconst 0, 1) := dk_3 (dk_at dksX0_isHeard_1 1 rfl rfl)
theorem dX0_isHeard_26 : decode cX0_isHeard 26 = .ok (.iaload, 1) := dk_46 (dk_at dksX0_isHeard_1 2 rfl rfl)
theorem dX0_isHeard_27 : decode cX0_isHeard 27 = .ok (.ishr, 1) := dk_122 (dk_at dksX0_isHeard_1 3 rfl rfl)
theorem dX0_isHeard_28 : decode cX0_isHeard 28 = .ok (.iconst 1, 1) := dk_4 (dk_at dksX0_isHeard_1 4 rfl rfl)
theorem dX0_isHeard_29 : decode cX0_isHeard 29 = .ok (.iand, 1) := dk_126 (dk_at dksX0_isHeard_1 5 rfl rfl)
theorem dX0_isHeard_30 : decode cX0_isHeard 30 = .ok (.aload_n 0, 1) := dk_42 (dk_at dksX0_isHeard_1 6 rfl rfl)
theorem dX0_isHeard_31 : decode cX0_isHeard 31 = .ok (.getfield 21, 3) := dk_180 0 21 (dk_at dksX0_isHeard_1 7 rfl rfl)
theorem dX0_isHeard_34 : decode cX0_isHeard 34 = .ok (.getfield 320, 3) := dk_180 1 64 (dk_at dksX0_isHeard_1 10 rfl rfl)
theorem dX0_isHeard_37 : decode cX0_isHeard 37 = .ok (.iload_n 2, 1) := dk_28 (dk_at dksX0_isHeard_1 13 rfl rfl)
theorem dX0_isHeard_38 : decode cX0_isHeard 38 = .ok (.aaload, 1) := dk_50 (dk_at dksX0_isHeard_1 14 rfl rfl)
theorem dX0_isHeard_39 : decode cX0_isHeard 39 = .ok (.iconst 1, 1) := dk_4 (dk_at dksX0_isHeard_1 15 rfl rfl)
theorem dX0_isHeard_40 : decode cX0_isHeard 40 = .ok (.iaload, 1) := dk_46 (dk_at dksX0_isHeard_1 16 rfl rfl)
theorem dX0_isHeard_41 : decode cX0_isHeard 41 = .ok (.if_icmp .eq 5, 3) := dk_159 0 5 (dk_at dksX0_isHeard_1 17 rfl rfl)
theorem dX0_isHeard_44 : decode cX0_isHeard 44 = .ok (.iconst 0, 1) := dk_3 (dk_at dksX0_isHeard_1 20 rfl rfl)
theorem dX0_isHeard_45 : decode cX0_isHeard 45 = .ok (.ireturn, 1) := dk_172 (dk_at dksX0_isHeard_1 21 rfl rfl)
theorem dX0_isHeard_46 : decode cX0_isHeard 46 = .ok (.iinc 2 1, 3) := dk_132 2 1 (dk_at dksX0_isHeard_2 0 rfl rfl)
theorem dX0_isHeard_49 : decode cX0_isHeard 49 = .ok (.goto (-47), 3) := dk_167 255 209 (dk_at dksX0_isHeard_2 3 rfl rfl)
theorem dX0_isHeard_52 : decode cX0_isHeard 52 = .ok (.iconst 1, 1) := dk_4 (dk_at dksX0_isHeard_2 6 rfl rfl)
theorem dX0_isHeard_53 : decode cX0_isHeard 53 = .ok (.ireturn, 1) := dk_172 (dk_at dksX0_isHeard_2 7 rfl rfl)
abbrev cX0_common : ByteArray := prog_1_method_77_code
def yX0_common : MethodName := ⟨RX0, "common", "(II)I"⟩
def dkwX0_common_0 : List UInt8 := [27, 154, 0, 7, 26, 167, 0, 10, 27, 26, 27, 112, 184, 1, 74, 172]
abbrev dktX0_common_0 : List UInt8 := dkwX0_common_0 ++ []
theorem dksX0_common_0 : cX0_common.data.toList.drop 0 = dktX0_common_0 := by decide +kernel
theorem dX0_common_0 : decode cX0_common 0 = .ok (.iload_n 1, 1) := dk_27 (dk_at dksX0_common_0 0 rfl rfl)
theorem dX0_common_1 : decode cX0_common 1 = .ok (.ifCond .ne 7, 3) := dk_154 0 7 (dk_at dksX0_common_0 1 rfl rfl)
theorem dX0_common_4 : decode cX0_common 4 = .ok (.iload_n 0, 1) := dk_26 (dk_at dksX0_common_0 4 rfl rfl)
theorem dX0_common_5 : decode cX0_common 5 = .ok (.goto 10, 3) := dk_167 0 10 (dk_at dksX0_common_0 5 rfl rfl)
theorem dX0_common_8 : decode cX0_common 8 = .ok (.iload_n 1, 1) := dk_27 (dk_at dksX0_common_0 8 rfl rfl)
theorem dX0_common_9 : decode cX0_common 9 = .ok (.iload_n 0, 1) := dk_26 (dk_at dksX0_common_0 9 rfl rfl)
theorem dX0_common_10 : decode cX0_common 10 = .ok (.iload_n 1, 1) := dk_27 (dk_at dksX0_common_0 10 rfl rfl)
theorem dX0_common_11 : decode cX0_common 11 = .ok (.irem, 1) := dk_112 (dk_at dksX0_common_0 11 rfl rfl)
theorem dX0_common_12 : decode cX0_common 12 = .ok (.invokestatic 330, 3) := dk_184 1 74 (dk_at dksX0_common_0 12 rfl rfl)
theorem dX0_common_15 : decode cX0_common 15 = .ok (.ireturn, 1) := dk_172 (dk_at dksX0_common_0 15 rfl rfl)
abbrev cX0_sure : ByteArray := prog_1_method_79_code
def yX0_sure : MethodName := ⟨RX0, "sure", "(Z)I"⟩
def dkwX0_sure_2 : List UInt8 := [29, 46, 2, 130, 126, 61, 132, 3, 1, 167, 255, 221, 28, 172]
abbrev dktX0_sure_2 : List UInt8 := dkwX0_sure_2 ++ []
def dkwX0_sure_1 : List UInt8 := [180, 1, 34, 162, 0, 33, 28, 27, 153, 0, 12, 42, 180, 0, 49, 29, 46, 167, 0, 11, 42, 180, 0, 49]
abbrev dktX0_sure_1 : List UInt8 := dkwX0_sure_1 ++ dktX0_sure_2
def dkwX0_sure_0 : List UInt8 := [42, 182, 1, 77, 42, 180, 1, 34, 154, 0, 5, 2, 172, 42, 182, 0, 66, 4, 100, 61, 3, 62, 29, 42]
abbrev dktX0_sure_0 : List UInt8 := dkwX0_sure_0 ++ dktX0_sure_1
theorem dksX0_sure_0 : cX0_sure.data.toList.drop 0 = dktX0_sure_0 := by decide +kernel
theorem dksX0_sure_1 : cX0_sure.data.toList.drop 24 = dktX0_sure_1 := dk_seg dksX0_sure_0 24 rfl rfl
theorem dksX0_sure_2 : cX0_sure.data.toList.drop 48 = dktX0_sure_2 := dk_seg dksX0_sure_1 24 rfl rfl
theorem dX0_sure_0 : decode cX0_sure 0 = .ok (.aload_n 0, 1) := dk_42 (dk_at dksX0_sure_0 0 rfl rfl)
theorem dX0_sure_1 : decode cX0_sure 1 = .ok (.invokevirtual 333, 3) := dk_182 1 77 (dk_at dksX0_sure_0 1 rfl rfl)
theorem dX0_sure_4 : decode cX0_sure 4 = .ok (.aload_n 0, 1) := dk_42 (dk_at dksX0_sure_0 4 rfl rfl)
theorem dX0_sure_5 : decode cX0_sure 5 = .ok (.getfield 290, 3) := dk_180 1 34 (dk_at dksX0_sure_0 5 rfl rfl)
theorem dX0_sure_8 : decode cX0_sure 8 = .ok (.ifCond .ne 5, 3) := dk_154 0 5 (dk_at dksX0_sure_0 8 rfl rfl)
theorem dX0_sure_11 : decode cX0_sure 11 = .ok (.iconst (-1), 1) := dk_2 (dk_at dksX0_sure_0 11 rfl rfl)
theorem dX0_sure_12 : decode cX0_sure 12 = .ok (.ireturn, 1) := dk_172 (dk_at dksX0_sure_0 12 rfl rfl)
theorem dX0_sure_13 : decode cX0_sure 13 = .ok (.aload_n 0, 1) := dk_42 (dk_at dksX0_sure_0 13 rfl rfl)
theorem dX0_sure_14 : decode cX0_sure 14 = .ok (.invokevirtual 66, 3) := dk_182 0 66 (dk_at dksX0_sure_0 14 rfl rfl)
theorem dX0_sure_17 : decode cX0_sure 17 = .ok (.iconst 1, 1) := dk_4 (dk_at dksX0_sure_0 17 rfl rfl)
theorem dX0_sure_18 : decode cX0_sure 18 = .ok (.isub, 1) := dk_100 (dk_at dksX0_sure_0 18 rfl rfl)
theorem dX0_sure_19 : decode cX0_sure 19 = .ok (.istore_n 2, 1) := dk_61 (dk_at dksX0_sure_0 19 rfl rfl)
theorem dX0_sure_20 : decode cX0_sure 20 = .ok (.iconst 0, 1) := dk_3 (dk_at dksX0_sure_0 20 rfl rfl)
theorem dX0_sure_21 : decode cX0_sure 21 = .ok (.istore_n 3, 1) := dk_62 (dk_at dksX0_sure_0 21 rfl rfl)
theorem dX0_sure_22 : decode cX0_sure 22 = .ok (.iload_n 3, 1) := dk_29 (dk_at dksX0_sure_0 22 rfl rfl)
theorem dX0_sure_23 : decode cX0_sure 23 = .ok (.aload_n 0, 1) := dk_42 (dk_at dksX0_sure_0 23 rfl rfl)
theorem dX0_sure_24 : decode cX0_sure 24 = .ok (.getfield 290, 3) := dk_180 1 34 (dk_at dksX0_sure_1 0 rfl rfl)
theorem dX0_sure_27 : decode cX0_sure 27 = .ok (.if_icmp .ge 33, 3) := dk_162 0 33 (dk_at dksX0_sure_1 3 rfl rfl)
theorem dX0_sure_30 : decode cX0_sure 30 = .ok (.iload_n 2, 1) := dk_28 (dk_at dksX0_sure_1 6 rfl rfl)
theorem dX0_sure_31 : decode cX0_sure 31 = .ok (.iload_n 1, 1) := dk_27 (dk_at dksX0_sure_1 7 rfl rfl)
theorem dX0_sure_32 : decode cX0_sure 32 = .ok (.ifCond .eq 12, 3) := dk_153 0 12 (dk_at dksX0_sure_1 8 rfl rfl)
theorem dX0_sure_35 : decode cX0_sure 35 = .ok (.aload_n 0, 1) := dk_42 (dk_at dksX0_sure_1 11 rfl rfl)
theorem dX0_sure_36 : decode cX0_sure 36 = .ok (.getfield 49, 3) := dk_180 0 49 (dk_at dksX0_sure_1 12 rfl rfl)
theorem dX0_sure_39 : decode cX0_sure 39 = .ok (.iload_n 3, 1) := dk_29 (dk_at dksX0_sure_1 15 rfl rfl)
theorem dX0_sure_40 : decode cX0_sure 40 = .ok (.iaload, 1) := dk_46 (dk_at dksX0_sure_1 16 rfl rfl)
theorem dX0_sure_41 : decode cX0_sure 41 = .ok (.goto 11, 3) := dk_167 0 11 (dk_at dksX0_sure_1 17 rfl rfl)
theorem dX0_sure_44 : decode cX0_sure 44 = .ok (.aload_n 0, 1) := dk_42 (dk_at dksX0_sure_1 20 rfl rfl)
theorem dX0_sure_45 : decode cX0_sure 45 = .ok (.getfield 49, 3) := dk_180 0 49 (dk_at dksX0_sure_1 21 rfl rfl)
theorem dX0_sure_48 : decode cX0_sure 48 = .ok (.iload_n 3, 1) := dk_29 (dk_at dksX0_sure_2 0 rfl rfl)
theorem dX0_sure_49 : decode cX0_sure 49 = .ok (.iaload, 1) := dk_46 (dk_at dksX0_sure_2 1 rfl rfl)
theorem dX0_sure_50 : decode cX0_sure 50 = .ok (.iconst (-1), 1) := dk_2 (dk_at dksX0_sure_2 2 rfl rfl)
theorem dX0_sure_51 : decode cX0_sure 51 = .ok (.ixor, 1) := dk_130 (dk_at dksX0_sure_2 3 rfl rfl)
theorem dX0_sure_52 : decode cX0_sure 52 = .ok (.iand, 1) := dk_126 (dk_at dksX0_sure_2 4 rfl rfl)
theorem dX0_sure_53 : decode cX0_sure 53 = .ok (.istore_n 2, 1) := dk_61 (dk_at dksX0_sure_2 5 rfl rfl)
theorem dX0_sure_54 : decode cX0_sure 54 = .ok (.iinc 3 1, 3) := dk_132 3 1 (dk_at dksX0_sure_2 6 rfl rfl)
theorem dX0_sure_57 : decode cX0_sure 57 = .ok (.goto (-35), 3) := dk_167 255 221 (dk_at dksX0_sure_2 9 rfl rfl)
theorem dX0_sure_60 : decode cX0_sure 60 = .ok (.iload_n 2, 1) := dk_28 (dk_at dksX0_sure_2 12 rfl rfl)
theorem dX0_sure_61 : decode cX0_sure 61 = .ok (.ireturn, 1) := dk_172 (dk_at dksX0_sure_2 13 rfl rfl)
abbrev cX0_tells : ByteArray := prog_1_method_83_code
def yX0_tells : MethodName := ⟨RX0, "tells", "(I)I"⟩
def dkwX0_tells_4 : List UInt8 := [2, 172]
abbrev dktX0_tells_4 : List UInt8 := dkwX0_tells_4 ++ []
def dkwX0_tells_3 : List UInt8 := [182, 1, 83, 159, 0, 9, 132, 3, 1, 167, 255, 231, 42, 180, 1, 34, 4, 164, 0, 7, 29, 167, 0, 4]
abbrev dktX0_tells_3 : List UInt8 := dkwX0_tells_3 ++ dktX0_tells_4
def dkwX0_tells_2 : List UInt8 := [42, 28, 182, 1, 83, 172, 3, 62, 42, 180, 1, 34, 4, 164, 0, 23, 42, 28, 29, 182, 1, 86, 42, 28]
abbrev dktX0_tells_2 : List UInt8 := dkwX0_tells_2 ++ dktX0_tells_3
def dkwX0_tells_1 : List UInt8 := [2, 172, 42, 180, 0, 52, 3, 184, 1, 89, 4, 42, 180, 1, 34, 120, 4, 100, 61, 27, 4, 160, 0, 9]
abbrev dktX0_tells_1 : List UInt8 := dkwX0_tells_1 ++ dktX0_tells_2
def dkwX0_tells_0 : List UInt8 := [27, 3, 4, 184, 0, 62, 154, 0, 5, 2, 172, 42, 182, 1, 77, 42, 180, 1, 34, 16, 12, 164, 0, 5]
abbrev dktX0_tells_0 : List UInt8 := dkwX0_tells_0 ++ dktX0_tells_1
theorem dksX0_tells_0 : cX0_tells.data.toList.drop 0 = dktX0_tells_0 := by decide +kernel
theorem dksX0_tells_1 : cX0_tells.data.toList.drop 24 = dktX0_tells_1 := dk_seg dksX0_tells_0 24 rfl rfl
theorem dksX0_tells_2 : cX0_tells.data.toList.drop 48 = dktX0_tells_2 := dk_seg dksX0_tells_1 24 rfl rfl
theorem dksX0_tells_3 : cX0_tells.data.toList.drop 72 = dktX0_tells_3 := dk_seg dksX0_tells_2 24 rfl rfl
theorem dksX0_tells_4 : cX0_tells.data.toList.drop 96 = dktX0_tells_4 := dk_seg dksX0_tells_3 24 rfl rfl
theorem dX0_tells_0 : decode cX0_tells 0 = .ok (.iload_n 1, 1) := dk_27 (dk_at dksX0_tells_0 0 rfl rfl)
theorem dX0_tells_1 : decode cX0_tells 1 = .ok (.iconst 0, 1) := dk_3 (dk_at dksX0_tells_0 1 rfl rfl)
theorem dX0_tells_2 : decode cX0_tells 2 = .ok (.iconst 1, 1) := dk_4 (dk_at dksX0_tells_0 2 rfl rfl)
theorem dX0_tells_3 : decode cX0_tells 3 = .ok (.invokestatic 62, 3) := dk_184 0 62 (dk_at dksX0_tells_0 3 rfl rfl)
theorem dX0_tells_6 : decode cX0_tells 6 = .ok (.ifCond .ne 5, 3) := dk_154 0 5 (dk_at dksX0_tells_0 6 rfl rfl)
theorem dX0_tells_9 : decode cX0_tells 9 = .ok (.iconst (-1), 1) := dk_2 (dk_at dksX0_tells_0 9 rfl rfl)
theorem dX0_tells_10 : decode cX0_tells 10 = .ok (.ireturn, 1) := dk_172 (dk_at dksX0_tells_0 10 rfl rfl)
theorem dX0_tells_11 : decode cX0_tells 11 = .ok (.aload_n 0, 1) := dk_42 (dk_at dksX0_tells_0 11 rfl rfl)
theorem dX0_tells_12 : decode cX0_tells 12 = .ok (.invokevirtual 333, 3) := dk_182 1 77 (dk_at dksX0_tells_0 12 rfl rfl)
theorem dX0_tells_15 : decode cX0_tells 15 = .ok (.aload_n 0, 1) := dk_42 (dk_at dksX0_tells_0 15 rfl rfl)
theorem dX0_tells_16 : decode cX0_tells 16 = .ok (.getfield 290, 3) := dk_180 1 34 (dk_at dksX0_tells_0 16 rfl rfl)
theorem dX0_tells_19 : decode cX0_tells 19 = .ok (.bipush 12, 2) := dk_16 12 (dk_at dksX0_tells_0 19 rfl rfl)
theorem dX0_tells_21 : decode cX0_tells 21 = .ok (.if_icmp .le 5, 3) := dk_164 0 5 (dk_at dksX0_tells_0 21 rfl rfl)
theorem dX0_tells_24 : decode cX0_tells 24 = .ok (.iconst (-1), 1) := dk_2 (dk_at dksX0_tells_1 0 rfl rfl)
theorem dX0_tells_25 : decode cX0_tells 25 = .ok (.ireturn, 1) := dk_172 (dk_at dksX0_tells_1 1 rfl rfl)
theorem dX0_tells_26 : decode cX0_tells 26 = .ok (.aload_n 0, 1) := dk_42 (dk_at dksX0_tells_1 2 rfl rfl)
theorem dX0_tells_27 : decode cX0_tells 27 = .ok (.getfield 52, 3) := dk_180 0 52 (dk_at dksX0_tells_1 3 rfl rfl)
theorem dX0_tells_30 : decode cX0_tells 30 = .ok (.iconst 0, 1) := dk_3 (dk_at dksX0_tells_1 6 rfl rfl)
theorem dX0_tells_31 : decode cX0_tells 31 = .ok (.invokestatic 345, 3) := dk_184 1 89 (dk_at dksX0_tells_1 7 rfl rfl)
theorem dX0_tells_34 : decode cX0_tells 34 = .ok (.iconst 1, 1) := dk_4 (dk_at dksX0_tells_1 10 rfl rfl)
theorem dX0_tells_35 : decode cX0_tells 35 = .ok (.aload_n 0, 1) := dk_42 (dk_at dksX0_tells_1 11 rfl rfl)
theorem dX0_tells_36 : decode cX0_tells 36 = .ok (.getfield 290, 3) := dk_180 1 34 (dk_at dksX0_tells_1 12 rfl rfl)
theorem dX0_tells_39 : decode cX0_tells 39 = .ok (.ishl, 1) := dk_120 (dk_at dksX0_tells_1 15 rfl rfl)
theorem dX0_tells_40 : decode cX0_tells 40 = .ok (.iconst 1, 1) := dk_4 (dk_at dksX0_tells_1 16 rfl rfl)
theorem dX0_tells_41 : decode cX0_tells 41 = .ok (.isub, 1) := dk_100 (dk_at dksX0_tells_1 17 rfl rfl)
theorem dX0_tells_42 : decode cX0_tells 42 = .ok (.istore_n 2, 1) := dk_61 (dk_at dksX0_tells_1 18 rfl rfl)
theorem dX0_tells_43 : decode cX0_tells 43 = .ok (.iload_n 1, 1) := dk_27 (dk_at dksX0_tells_1 19 rfl rfl)
theorem dX0_tells_44 : decode cX0_tells 44 = .ok (.iconst 1, 1) := dk_4 (dk_at dksX0_tells_1 20 rfl rfl)
theorem dX0_tells_45 : decode cX0_tells 45 = .ok (.if_icmp .ne 9, 3) := dk_160 0 9 (dk_at dksX0_tells_1 21 rfl rfl)
theorem dX0_tells_48 : decode cX0_tells 48 = .ok (.aload_n 0, 1) := dk_42 (dk_at dksX0_tells_2 0 rfl rfl)
theorem dX0_tells_49 : decode cX0_tells 49 = .ok (.iload_n 2, 1) := dk_28 (dk_at dksX0_tells_2 1 rfl rfl)
theorem dX0_tells_50 : decode cX0_tells 50 = .ok (.invokevirtual 339, 3) := dk_182 1 83 (dk_at dksX0_tells_2 2 rfl rfl)
theorem dX0_tells_53 : decode cX0_tells 53 = .ok (.ireturn, 1) := dk_172 (dk_at dksX0_tells_2 5 rfl rfl)
theorem dX0_tells_54 : decode cX0_tells 54 = .ok (.iconst 0, 1) := dk_3 (dk_at dksX0_tells_2 6 rfl rfl)
theorem dX0_tells_55 : decode cX0_tells 55 = .ok (.istore_n 3, 1) := dk_62 (dk_at dksX0_tells_2 7 rfl rfl)
theorem dX0_tells_56 : decode cX0_tells 56 = .ok (.aload_n 0, 1) := dk_42 (dk_at dksX0_tells_2 8 rfl rfl)
theorem dX0_tells_57 : decode cX0_tells 57 = .ok (.getfield 290, 3) := dk_180 1 34 (dk_at dksX0_tells_2 9 rfl rfl)
theorem dX0_tells_60 : decode cX0_tells 60 = .ok (.iconst 1, 1) := dk_4 (dk_at dksX0_tells_2 12 rfl rfl)
theorem dX0_tells_61 : decode cX0_tells 61 = .ok (.if_icmp .le 23, 3) := dk_164 0 23 (dk_at dksX0_tells_2 13 rfl rfl)
theorem dX0_tells_64 : decode cX0_tells 64 = .ok (.aload_n 0, 1) := dk_42 (dk_at dksX0_tells_2 16 rfl rfl)
theorem dX0_tells_65 : decode cX0_tells 65 = .ok (.iload_n 2, 1) := dk_28 (dk_at dksX0_tells_2 17 rfl rfl)
theorem dX0_tells_66 : decode cX0_tells 66 = .ok (.iload_n 3, 1) := dk_29 (dk_at dksX0_tells_2 18 rfl rfl)
theorem dX0_tells_67 : decode cX0_tells 67 = .ok (.invokevirtual 342, 3) := dk_182 1 86 (dk_at dksX0_tells_2 19 rfl rfl)
theorem dX0_tells_70 : decode cX0_tells 70 = .ok (.aload_n 0, 1) := dk_42 (dk_at dksX0_tells_2 22 rfl rfl)
theorem dX0_tells_71 : decode cX0_tells 71 = .ok (.iload_n 2, 1) := dk_28 (dk_at dksX0_tells_2 23 rfl rfl)
theorem dX0_tells_72 : decode cX0_tells 72 = .ok (.invokevirtual 339, 3) := dk_182 1 83 (dk_at dksX0_tells_3 0 rfl rfl)
theorem dX0_tells_75 : decode cX0_tells 75 = .ok (.if_icmp .eq 9, 3) := dk_159 0 9 (dk_at dksX0_tells_3 3 rfl rfl)
theorem dX0_tells_78 : decode cX0_tells 78 = .ok (.iinc 3 1, 3) := dk_132 3 1 (dk_at dksX0_tells_3 6 rfl rfl)
theorem dX0_tells_81 : decode cX0_tells 81 = .ok (.goto (-25), 3) := dk_167 255 231 (dk_at dksX0_tells_3 9 rfl rfl)
theorem dX0_tells_84 : decode cX0_tells 84 = .ok (.aload_n 0, 1) := dk_42 (dk_at dksX0_tells_3 12 rfl rfl)
theorem dX0_tells_85 : decode cX0_tells 85 = .ok (.getfield 290, 3) := dk_180 1 34 (dk_at dksX0_tells_3 13 rfl rfl)
theorem dX0_tells_88 : decode cX0_tells 88 = .ok (.iconst 1, 1) := dk_4 (dk_at dksX0_tells_3 16 rfl rfl)
theorem dX0_tells_89 : decode cX0_tells 89 = .ok (.if_icmp .le 7, 3) := dk_164 0 7 (dk_at dksX0_tells_3 17 rfl rfl)
theorem dX0_tells_92 : decode cX0_tells 92 = .ok (.iload_n 3, 1) := dk_29 (dk_at dksX0_tells_3 20 rfl rfl)
theorem dX0_tells_93 : decode cX0_tells 93 = .ok (.goto 4, 3) := dk_167 0 4 (dk_at dksX0_tells_3 21 rfl rfl)
theorem dX0_tells_96 : decode cX0_tells 96 = .ok (.iconst (-1), 1) := dk_2 (dk_at dksX0_tells_4 0 rfl rfl)
theorem dX0_tells_97 : decode cX0_tells 97 = .ok (.ireturn, 1) := dk_172 (dk_at dksX0_tells_4 1 rfl rfl)
abbrev cX0_askedOf : ByteArray := prog_1_method_82_code
def yX0_askedOf : MethodName := ⟨RX0, "askedOf", "(I)I"⟩
def dkwX0_askedOf_3 : List UInt8 := [84, 28, 172]
abbrev dktX0_askedOf_3 : List UInt8 := dkwX0_askedOf_3 ++ []
def dkwX0_askedOf_2 : List UInt8 := [27, 29, 182, 1, 86, 184, 0, 182, 61, 132, 3, 1, 167, 255, 229, 42, 180, 0, 52, 27, 28, 4, 96, 145]
abbrev dktX0_askedOf_2 : List UInt8 := dkwX0_askedOf_2 ++ dktX0_askedOf_3
def dkwX0_askedOf_1 : List UInt8 := [51, 4, 100, 172, 16, 8, 61, 3, 62, 29, 42, 180, 0, 21, 180, 0, 59, 3, 46, 162, 0, 20, 28, 42]
abbrev dktX0_askedOf_1 : List UInt8 := dkwX0_askedOf_1 ++ dktX0_askedOf_2
def dkwX0_askedOf_0 : List UInt8 := [27, 27, 4, 100, 126, 154, 0, 5, 3, 172, 42, 180, 0, 52, 27, 51, 153, 0, 12, 42, 180, 0, 52, 27]
abbrev dktX0_askedOf_0 : List UInt8 := dkwX0_askedOf_0 ++ dktX0_askedOf_1
theorem dksX0_askedOf_0 : cX0_askedOf.data.toList.drop 0 = dktX0_askedOf_0 := by decide +kernel
theorem dksX0_askedOf_1 : cX0_askedOf.data.toList.drop 24 = dktX0_askedOf_1 := dk_seg dksX0_askedOf_0 24 rfl rfl
theorem dksX0_askedOf_2 : cX0_askedOf.data.toList.drop 48 = dktX0_askedOf_2 := dk_seg dksX0_askedOf_1 24 rfl rfl
theorem dksX0_askedOf_3 : cX0_askedOf.data.toList.drop 72 = dktX0_askedOf_3 := dk_seg dksX0_askedOf_2 24 rfl rfl
theorem dX0_askedOf_0 : decode cX0_askedOf 0 = .ok (.iload_n 1, 1) := dk_27 (dk_at dksX0_askedOf_0 0 rfl rfl)
theorem dX0_askedOf_1 : decode cX0_askedOf 1 = .ok (.iload_n 1, 1) := dk_27 (dk_at dksX0_askedOf_0 1 rfl rfl)
theorem dX0_askedOf_2 : decode cX0_askedOf 2 = .ok (.iconst 1, 1) := dk_4 (dk_at dksX0_askedOf_0 2 rfl rfl)
theorem dX0_askedOf_3 : decode cX0_askedOf 3 = .ok (.isub, 1) := dk_100 (dk_at dksX0_askedOf_0 3 rfl rfl)
theorem dX0_askedOf_4 : decode cX0_askedOf 4 = .ok (.iand, 1) := dk_126 (dk_at dksX0_askedOf_0 4 rfl rfl)
theorem dX0_askedOf_5 : decode cX0_askedOf 5 = .ok (.ifCond .ne 5, 3) := dk_154 0 5 (dk_at dksX0_askedOf_0 5 rfl rfl)
theorem dX0_askedOf_8 : decode cX0_askedOf 8 = .ok (.iconst 0, 1) := dk_3 (dk_at dksX0_askedOf_0 8 rfl rfl)
theorem dX0_askedOf_9 : decode cX0_askedOf 9 = .ok (.ireturn, 1) := dk_172 (dk_at dksX0_askedOf_0 9 rfl rfl)
theorem dX0_askedOf_10 : decode cX0_askedOf 10 = .ok (.aload_n 0, 1) := dk_42 (dk_at dksX0_askedOf_0 10 rfl rfl)
theorem dX0_askedOf_11 : decode cX0_askedOf 11 = .ok (.getfield 52, 3) := dk_180 0 52 (dk_at dksX0_askedOf_0 11 rfl rfl)
theorem dX0_askedOf_14 : decode cX0_askedOf 14 = .ok (.iload_n 1, 1) := dk_27 (dk_at dksX0_askedOf_0 14 rfl rfl)
theorem dX0_askedOf_15 : decode cX0_askedOf 15 = .ok (.baload, 1) := dk_51 (dk_at dksX0_askedOf_0 15 rfl rfl)
theorem dX0_askedOf_16 : decode cX0_askedOf 16 = .ok (.ifCond .eq 12, 3) := dk_153 0 12 (dk_at dksX0_askedOf_0 16 rfl rfl)
theorem dX0_askedOf_19 : decode cX0_askedOf 19 = .ok (.aload_n 0, 1) := dk_42 (dk_at dksX0_askedOf_0 19 rfl rfl)
theorem dX0_askedOf_20 : decode cX0_askedOf 20 = .ok (.getfield 52, 3) := dk_180 0 52 (dk_at dksX0_askedOf_0 20 rfl rfl)
theorem dX0_askedOf_23 : decode cX0_askedOf 23 = .ok (.iload_n 1, 1) := dk_27 (dk_at dksX0_askedOf_0 23 rfl rfl)
theorem dX0_askedOf_24 : decode cX0_askedOf 24 = .ok (.baload, 1) := dk_51 (dk_at dksX0_askedOf_1 0 rfl rfl)
theorem dX0_askedOf_25 : decode cX0_askedOf 25 = .ok (.iconst 1, 1) := dk_4 (dk_at dksX0_askedOf_1 1 rfl rfl)
theorem dX0_askedOf_26 : decode cX0_askedOf 26 = .ok (.isub, 1) := dk_100 (dk_at dksX0_askedOf_1 2 rfl rfl)
theorem dX0_askedOf_27 : decode cX0_askedOf 27 = .ok (.ireturn, 1) := dk_172 (dk_at dksX0_askedOf_1 3 rfl rfl)
theorem dX0_askedOf_28 : decode cX0_askedOf 28 = .ok (.bipush 8, 2) := dk_16 8 (dk_at dksX0_askedOf_1 4 rfl rfl)
theorem dX0_askedOf_30 : decode cX0_askedOf 30 = .ok (.istore_n 2, 1) := dk_61 (dk_at dksX0_askedOf_1 6 rfl rfl)
theorem dX0_askedOf_31 : decode cX0_askedOf 31 = .ok (.iconst 0, 1) := dk_3 (dk_at dksX0_askedOf_1 7 rfl rfl)
theorem dX0_askedOf_32 : decode cX0_askedOf 32 = .ok (.istore_n 3, 1) := dk_62 (dk_at dksX0_askedOf_1 8 rfl rfl)
theorem dX0_askedOf_33 : decode cX0_askedOf 33 = .ok (.iload_n 3, 1) := dk_29 (dk_at dksX0_askedOf_1 9 rfl rfl)
theorem dX0_askedOf_34 : decode cX0_askedOf 34 = .ok (.aload_n 0, 1) := dk_42 (dk_at dksX0_askedOf_1 10 rfl rfl)
theorem dX0_askedOf_35 : decode cX0_askedOf 35 = .ok (.getfield 21, 3) := dk_180 0 21 (dk_at dksX0_askedOf_1 11 rfl rfl)
theorem dX0_askedOf_38 : decode cX0_askedOf 38 = .ok (.getfield 59, 3) := dk_180 0 59 (dk_at dksX0_askedOf_1 14 rfl rfl)
theorem dX0_askedOf_41 : decode cX0_askedOf 41 = .ok (.iconst 0, 1) := dk_3 (dk_at dksX0_askedOf_1 17 rfl rfl)
theorem dX0_askedOf_42 : decode cX0_askedOf 42 = .ok (.iaload, 1) := dk_46 (dk_at dksX0_askedOf_1 18 rfl rfl)
theorem dX0_askedOf_43 : decode cX0_askedOf 43 = .ok (.if_icmp .ge 20, 3) := dk_162 0 20 (dk_at dksX0_askedOf_1 19 rfl rfl)
theorem dX0_askedOf_46 : decode cX0_askedOf 46 = .ok (.iload_n 2, 1) := dk_28 (dk_at dksX0_askedOf_1 22 rfl rfl)
theorem dX0_askedOf_47 : decode cX0_askedOf 47 = .ok (.aload_n 0, 1) := dk_42 (dk_at dksX0_askedOf_1 23 rfl rfl)
theorem dX0_askedOf_48 : decode cX0_askedOf 48 = .ok (.iload_n 1, 1) := dk_27 (dk_at dksX0_askedOf_2 0 rfl rfl)
theorem dX0_askedOf_49 : decode cX0_askedOf 49 = .ok (.iload_n 3, 1) := dk_29 (dk_at dksX0_askedOf_2 1 rfl rfl)
theorem dX0_askedOf_50 : decode cX0_askedOf 50 = .ok (.invokevirtual 342, 3) := dk_182 1 86 (dk_at dksX0_askedOf_2 2 rfl rfl)
theorem dX0_askedOf_53 : decode cX0_askedOf 53 = .ok (.invokestatic 182, 3) := dk_184 0 182 (dk_at dksX0_askedOf_2 5 rfl rfl)
theorem dX0_askedOf_56 : decode cX0_askedOf 56 = .ok (.istore_n 2, 1) := dk_61 (dk_at dksX0_askedOf_2 8 rfl rfl)
theorem dX0_askedOf_57 : decode cX0_askedOf 57 = .ok (.iinc 3 1, 3) := dk_132 3 1 (dk_at dksX0_askedOf_2 9 rfl rfl)
theorem dX0_askedOf_60 : decode cX0_askedOf 60 = .ok (.goto (-27), 3) := dk_167 255 229 (dk_at dksX0_askedOf_2 12 rfl rfl)
theorem dX0_askedOf_63 : decode cX0_askedOf 63 = .ok (.aload_n 0, 1) := dk_42 (dk_at dksX0_askedOf_2 15 rfl rfl)
theorem dX0_askedOf_64 : decode cX0_askedOf 64 = .ok (.getfield 52, 3) := dk_180 0 52 (dk_at dksX0_askedOf_2 16 rfl rfl)
theorem dX0_askedOf_67 : decode cX0_askedOf 67 = .ok (.iload_n 1, 1) := dk_27 (dk_at dksX0_askedOf_2 19 rfl rfl)
theorem dX0_askedOf_68 : decode cX0_askedOf 68 = .ok (.iload_n 2, 1) := dk_28 (dk_at dksX0_askedOf_2 20 rfl rfl)
theorem dX0_askedOf_69 : decode cX0_askedOf 69 = .ok (.iconst 1, 1) := dk_4 (dk_at dksX0_askedOf_2 21 rfl rfl)
theorem dX0_askedOf_70 : decode cX0_askedOf 70 = .ok (.iadd, 1) := dk_96 (dk_at dksX0_askedOf_2 22 rfl rfl)
theorem dX0_askedOf_71 : decode cX0_askedOf 71 = .ok (.i2b, 1) := dk_145 (dk_at dksX0_askedOf_2 23 rfl rfl)
theorem dX0_askedOf_72 : decode cX0_askedOf 72 = .ok (.bastore, 1) := dk_84 (dk_at dksX0_askedOf_3 0 rfl rfl)
theorem dX0_askedOf_73 : decode cX0_askedOf 73 = .ok (.iload_n 2, 1) := dk_28 (dk_at dksX0_askedOf_3 1 rfl rfl)
theorem dX0_askedOf_74 : decode cX0_askedOf 74 = .ok (.ireturn, 1) := dk_172 (dk_at dksX0_askedOf_3 2 rfl rfl)
abbrev cX0_askedBy : ByteArray := prog_1_method_81_code
def yX0_askedBy : MethodName := ⟨RX0, "askedBy", "(II)I"⟩
def dkwX0_askedBy_1 : List UInt8 := [182, 1, 83, 42, 27, 29, 2, 130, 126, 182, 1, 83, 184, 1, 52, 96, 172]
abbrev dktX0_askedBy_1 : List UInt8 := dkwX0_askedBy_1 ++ []
def dkwX0_askedBy_0 : List UInt8 := [42, 27, 28, 182, 1, 80, 62, 29, 153, 0, 8, 29, 27, 160, 0, 8, 16, 8, 167, 0, 22, 4, 42, 29]
abbrev dktX0_askedBy_0 : List UInt8 := dkwX0_askedBy_0 ++ dktX0_askedBy_1
theorem dksX0_askedBy_0 : cX0_askedBy.data.toList.drop 0 = dktX0_askedBy_0 := by decide +kernel
theorem dksX0_askedBy_1 : cX0_askedBy.data.toList.drop 24 = dktX0_askedBy_1 := dk_seg dksX0_askedBy_0 24 rfl rfl
theorem dX0_askedBy_0 : decode cX0_askedBy 0 = .ok (.aload_n 0, 1) := dk_42 (dk_at dksX0_askedBy_0 0 rfl rfl)
theorem dX0_askedBy_1 : decode cX0_askedBy 1 = .ok (.iload_n 1, 1) := dk_27 (dk_at dksX0_askedBy_0 1 rfl rfl)
theorem dX0_askedBy_2 : decode cX0_askedBy 2 = .ok (.iload_n 2, 1) := dk_28 (dk_at dksX0_askedBy_0 2 rfl rfl)
theorem dX0_askedBy_3 : decode cX0_askedBy 3 = .ok (.invokevirtual 336, 3) := dk_182 1 80 (dk_at dksX0_askedBy_0 3 rfl rfl)
theorem dX0_askedBy_6 : decode cX0_askedBy 6 = .ok (.istore_n 3, 1) := dk_62 (dk_at dksX0_askedBy_0 6 rfl rfl)
theorem dX0_askedBy_7 : decode cX0_askedBy 7 = .ok (.iload_n 3, 1) := dk_29 (dk_at dksX0_askedBy_0 7 rfl rfl)
theorem dX0_askedBy_8 : decode cX0_askedBy 8 = .ok (.ifCond .eq 8, 3) := dk_153 0 8 (dk_at dksX0_askedBy_0 8 rfl rfl)
theorem dX0_askedBy_11 : decode cX0_askedBy 11 = .ok (.iload_n 3, 1) := dk_29 (dk_at dksX0_askedBy_0 11 rfl rfl)
theorem dX0_askedBy_12 : decode cX0_askedBy 12 = .ok (.iload_n 1, 1) := dk_27 (dk_at dksX0_askedBy_0 12 rfl rfl)
theorem dX0_askedBy_13 : decode cX0_askedBy 13 = .ok (.if_icmp .ne 8, 3) := dk_160 0 8 (dk_at dksX0_askedBy_0 13 rfl rfl)
theorem dX0_askedBy_16 : decode cX0_askedBy 16 = .ok (.bipush 8, 2) := dk_16 8 (dk_at dksX0_askedBy_0 16 rfl rfl)
theorem dX0_askedBy_18 : decode cX0_askedBy 18 = .ok (.goto 22, 3) := dk_167 0 22 (dk_at dksX0_askedBy_0 18 rfl rfl)
theorem dX0_askedBy_21 : decode cX0_askedBy 21 = .ok (.iconst 1, 1) := dk_4 (dk_at dksX0_askedBy_0 21 rfl rfl)
theorem dX0_askedBy_22 : decode cX0_askedBy 22 = .ok (.aload_n 0, 1) := dk_42 (dk_at dksX0_askedBy_0 22 rfl rfl)
theorem dX0_askedBy_23 : decode cX0_askedBy 23 = .ok (.iload_n 3, 1) := dk_29 (dk_at dksX0_askedBy_0 23 rfl rfl)
theorem dX0_askedBy_24 : decode cX0_askedBy 24 = .ok (.invokevirtual 339, 3) := dk_182 1 83 (dk_at dksX0_askedBy_1 0 rfl rfl)
theorem dX0_askedBy_27 : decode cX0_askedBy 27 = .ok (.aload_n 0, 1) := dk_42 (dk_at dksX0_askedBy_1 3 rfl rfl)
theorem dX0_askedBy_28 : decode cX0_askedBy 28 = .ok (.iload_n 1, 1) := dk_27 (dk_at dksX0_askedBy_1 4 rfl rfl)
theorem dX0_askedBy_29 : decode cX0_askedBy 29 = .ok (.iload_n 3, 1) := dk_29 (dk_at dksX0_askedBy_1 5 rfl rfl)
theorem dX0_askedBy_30 : decode cX0_askedBy 30 = .ok (.iconst (-1), 1) := dk_2 (dk_at dksX0_askedBy_1 6 rfl rfl)
theorem dX0_askedBy_31 : decode cX0_askedBy 31 = .ok (.ixor, 1) := dk_130 (dk_at dksX0_askedBy_1 7 rfl rfl)
theorem dX0_askedBy_32 : decode cX0_askedBy 32 = .ok (.iand, 1) := dk_126 (dk_at dksX0_askedBy_1 8 rfl rfl)
theorem dX0_askedBy_33 : decode cX0_askedBy 33 = .ok (.invokevirtual 339, 3) := dk_182 1 83 (dk_at dksX0_askedBy_1 9 rfl rfl)
theorem dX0_askedBy_36 : decode cX0_askedBy 36 = .ok (.invokestatic 308, 3) := dk_184 1 52 (dk_at dksX0_askedBy_1 12 rfl rfl)
theorem dX0_askedBy_39 : decode cX0_askedBy 39 = .ok (.iadd, 1) := dk_96 (dk_at dksX0_askedBy_1 15 rfl rfl)
theorem dX0_askedBy_40 : decode cX0_askedBy 40 = .ok (.ireturn, 1) := dk_172 (dk_at dksX0_askedBy_1 16 rfl rfl)
abbrev cX0_lateOn : ByteArray := prog_1_method_80_code
def yX0_lateOn : MethodName := ⟨RX0, "lateOn", "(II)I"⟩
def dkwX0_lateOn_2 : List UInt8 := [132, 4, 1, 167, 255, 210, 29, 172]
abbrev dktX0_lateOn_2 : List UInt8 := dkwX0_lateOn_2 ++ []
def dkwX0_lateOn_1 : List UInt8 := [42, 180, 0, 49, 21, 4, 46, 28, 184, 0, 149, 153, 0, 10, 4, 21, 4, 120, 167, 0, 4, 3, 128, 62]
abbrev dktX0_lateOn_1 : List UInt8 := dkwX0_lateOn_1 ++ dktX0_lateOn_2
def dkwX0_lateOn_0 : List UInt8 := [3, 62, 3, 54, 4, 21, 4, 42, 180, 1, 34, 162, 0, 43, 29, 27, 21, 4, 184, 0, 149, 153, 0, 24]
abbrev dktX0_lateOn_0 : List UInt8 := dkwX0_lateOn_0 ++ dktX0_lateOn_1
theorem dksX0_lateOn_0 : cX0_lateOn.data.toList.drop 0 = dktX0_lateOn_0 := by decide +kernel
theorem dksX0_lateOn_1 : cX0_lateOn.data.toList.drop 24 = dktX0_lateOn_1 := dk_seg dksX0_lateOn_0 24 rfl rfl
theorem dksX0_lateOn_2 : cX0_lateOn.data.toList.drop 48 = dktX0_lateOn_2 := dk_seg dksX0_lateOn_1 24 rfl rfl
theorem dX0_lateOn_0 : decode cX0_lateOn 0 = .ok (.iconst 0, 1) := dk_3 (dk_at dksX0_lateOn_0 0 rfl rfl)
theorem dX0_lateOn_1 : decode cX0_lateOn 1 = .ok (.istore_n 3, 1) := dk_62 (dk_at dksX0_lateOn_0 1 rfl rfl)
theorem dX0_lateOn_2 : decode cX0_lateOn 2 = .ok (.iconst 0, 1) := dk_3 (dk_at dksX0_lateOn_0 2 rfl rfl)
theorem dX0_lateOn_3 : decode cX0_lateOn 3 = .ok (.istore 4, 2) := dk_54 4 (dk_at dksX0_lateOn_0 3 rfl rfl)
theorem dX0_lateOn_5 : decode cX0_lateOn 5 = .ok (.iload 4, 2) := dk_21 4 (dk_at dksX0_lateOn_0 5 rfl rfl)
theorem dX0_lateOn_7 : decode cX0_lateOn 7 = .ok (.aload_n 0, 1) := dk_42 (dk_at dksX0_lateOn_0 7 rfl rfl)
theorem dX0_lateOn_8 : decode cX0_lateOn 8 = .ok (.getfield 290, 3) := dk_180 1 34 (dk_at dksX0_lateOn_0 8 rfl rfl)
theorem dX0_lateOn_11 : decode cX0_lateOn 11 = .ok (.if_icmp .ge 43, 3) := dk_162 0 43 (dk_at dksX0_lateOn_0 11 rfl rfl)
theorem dX0_lateOn_14 : decode cX0_lateOn 14 = .ok (.iload_n 3, 1) := dk_29 (dk_at dksX0_lateOn_0 14 rfl rfl)
theorem dX0_lateOn_15 : decode cX0_lateOn 15 = .ok (.iload_n 1, 1) := dk_27 (dk_at dksX0_lateOn_0 15 rfl rfl)
theorem dX0_lateOn_16 : decode cX0_lateOn 16 = .ok (.iload 4, 2) := dk_21 4 (dk_at dksX0_lateOn_0 16 rfl rfl)
theorem dX0_lateOn_18 : decode cX0_lateOn 18 = .ok (.invokestatic 149, 3) := dk_184 0 149 (dk_at dksX0_lateOn_0 18 rfl rfl)
theorem dX0_lateOn_21 : decode cX0_lateOn 21 = .ok (.ifCond .eq 24, 3) := dk_153 0 24 (dk_at dksX0_lateOn_0 21 rfl rfl)
theorem dX0_lateOn_24 : decode cX0_lateOn 24 = .ok (.aload_n 0, 1) := dk_42 (dk_at dksX0_lateOn_1 0 rfl rfl)
theorem dX0_lateOn_25 : decode cX0_lateOn 25 = .ok (.getfield 49, 3) := dk_180 0 49 (dk_at dksX0_lateOn_1 1 rfl rfl)
theorem dX0_lateOn_28 : decode cX0_lateOn 28 = .ok (.iload 4, 2) := dk_21 4 (dk_at dksX0_lateOn_1 4 rfl rfl)
theorem dX0_lateOn_30 : decode cX0_lateOn 30 = .ok (.iaload, 1) := dk_46 (dk_at dksX0_lateOn_1 6 rfl rfl)
theorem dX0_lateOn_31 : decode cX0_lateOn 31 = .ok (.iload_n 2, 1) := dk_28 (dk_at dksX0_lateOn_1 7 rfl rfl)
theorem dX0_lateOn_32 : decode cX0_lateOn 32 = .ok (.invokestatic 149, 3) := dk_184 0 149 (dk_at dksX0_lateOn_1 8 rfl rfl)
theorem dX0_lateOn_35 : decode cX0_lateOn 35 = .ok (.ifCond .eq 10, 3) := dk_153 0 10 (dk_at dksX0_lateOn_1 11 rfl rfl)
theorem dX0_lateOn_38 : decode cX0_lateOn 38 = .ok (.iconst 1, 1) := dk_4 (dk_at dksX0_lateOn_1 14 rfl rfl)
theorem dX0_lateOn_39 : decode cX0_lateOn 39 = .ok (.iload 4, 2) := dk_21 4 (dk_at dksX0_lateOn_1 15 rfl rfl)
theorem dX0_lateOn_41 : decode cX0_lateOn 41 = .ok (.ishl, 1) := dk_120 (dk_at dksX0_lateOn_1 17 rfl rfl)
theorem dX0_lateOn_42 : decode cX0_lateOn 42 = .ok (.goto 4, 3) := dk_167 0 4 (dk_at dksX0_lateOn_1 18 rfl rfl)
theorem dX0_lateOn_45 : decode cX0_lateOn 45 = .ok (.iconst 0, 1) := dk_3 (dk_at dksX0_lateOn_1 21 rfl rfl)
theorem dX0_lateOn_46 : decode cX0_lateOn 46 = .ok (.ior, 1) := dk_128 (dk_at dksX0_lateOn_1 22 rfl rfl)
theorem dX0_lateOn_47 : decode cX0_lateOn 47 = .ok (.istore_n 3, 1) := dk_62 (dk_at dksX0_lateOn_1 23 rfl rfl)
theorem dX0_lateOn_48 : decode cX0_lateOn 48 = .ok (.iinc 4 1, 3) := dk_132 4 1 (dk_at dksX0_lateOn_2 0 rfl rfl)
theorem dX0_lateOn_51 : decode cX0_lateOn 51 = .ok (.goto (-46), 3) := dk_167 255 210 (dk_at dksX0_lateOn_2 3 rfl rfl)
theorem dX0_lateOn_54 : decode cX0_lateOn 54 = .ok (.iload_n 3, 1) := dk_29 (dk_at dksX0_lateOn_2 6 rfl rfl)
theorem dX0_lateOn_55 : decode cX0_lateOn 55 = .ok (.ireturn, 1) := dk_172 (dk_at dksX0_lateOn_2 7 rfl rfl)
abbrev cX0_asleep : ByteArray := prog_1_method_86_code
def yX0_asleep : MethodName := ⟨RX0, "asleep", "(Z)I"⟩
def dkwX0_asleep_3 : List UInt8 := [184, 0, 140, 167, 0, 4, 29, 172]
abbrev dktX0_asleep_3 : List UInt8 := dkwX0_asleep_3 ++ []
def dkwX0_asleep_2 : List UInt8 := [21, 4, 182, 1, 98, 153, 0, 6, 21, 4, 62, 132, 4, 255, 167, 255, 216, 27, 153, 0, 10, 29]
abbrev dktX0_asleep_2 : List UInt8 := dkwX0_asleep_2 ++ dktX0_asleep_3
def dkwX0_asleep_1 : List UInt8 := [155, 0, 41, 21, 4, 28, 126, 28, 160, 0, 27, 21, 4, 184, 0, 140, 29, 184, 0, 140, 163, 0, 15, 42]
abbrev dktX0_asleep_1 : List UInt8 := dkwX0_asleep_1 ++ dktX0_asleep_2
def dkwX0_asleep_0 : List UInt8 := [42, 182, 1, 95, 61, 42, 182, 0, 66, 4, 100, 62, 42, 182, 0, 66, 4, 100, 54, 4, 21, 4]
abbrev dktX0_asleep_0 : List UInt8 := dkwX0_asleep_0 ++ dktX0_asleep_1
theorem dksX0_asleep_0 : cX0_asleep.data.toList.drop 0 = dktX0_asleep_0 := by decide +kernel
theorem dksX0_asleep_1 : cX0_asleep.data.toList.drop 22 = dktX0_asleep_1 := dk_seg dksX0_asleep_0 22 rfl rfl
theorem dksX0_asleep_2 : cX0_asleep.data.toList.drop 46 = dktX0_asleep_2 := dk_seg dksX0_asleep_1 24 rfl rfl
theorem dksX0_asleep_3 : cX0_asleep.data.toList.drop 68 = dktX0_asleep_3 := dk_seg dksX0_asleep_2 22 rfl rfl
theorem dX0_asleep_0 : decode cX0_asleep 0 = .ok (.aload_n 0, 1) := dk_42 (dk_at dksX0_asleep_0 0 rfl rfl)
theorem dX0_asleep_1 : decode cX0_asleep 1 = .ok (.invokevirtual 351, 3) := dk_182 1 95 (dk_at dksX0_asleep_0 1 rfl rfl)
theorem dX0_asleep_4 : decode cX0_asleep 4 = .ok (.istore_n 2, 1) := dk_61 (dk_at dksX0_asleep_0 4 rfl rfl)
theorem dX0_asleep_5 : decode cX0_asleep 5 = .ok (.aload_n 0, 1) := dk_42 (dk_at dksX0_asleep_0 5 rfl rfl)
theorem dX0_asleep_6 : decode cX0_asleep 6 = .ok (.invokevirtual 66, 3) := dk_182 0 66 (dk_at dksX0_asleep_0 6 rfl rfl)
theorem dX0_asleep_9 : decode cX0_asleep 9 = .ok (.iconst 1, 1) := dk_4 (dk_at dksX0_asleep_0 9 rfl rfl)
theorem dX0_asleep_10 : decode cX0_asleep 10 = .ok (.isub, 1) := dk_100 (dk_at dksX0_asleep_0 10 rfl rfl)
theorem dX0_asleep_11 : decode cX0_asleep 11 = .ok (.istore_n 3, 1) := dk_62 (dk_at dksX0_asleep_0 11 rfl rfl)
theorem dX0_asleep_12 : decode cX0_asleep 12 = .ok (.aload_n 0, 1) := dk_42 (dk_at dksX0_asleep_0 12 rfl rfl)
theorem dX0_asleep_13 : decode cX0_asleep 13 = .ok (.invokevirtual 66, 3) := dk_182 0 66 (dk_at dksX0_asleep_0 13 rfl rfl)
theorem dX0_asleep_16 : decode cX0_asleep 16 = .ok (.iconst 1, 1) := dk_4 (dk_at dksX0_asleep_0 16 rfl rfl)
theorem dX0_asleep_17 : decode cX0_asleep 17 = .ok (.isub, 1) := dk_100 (dk_at dksX0_asleep_0 17 rfl rfl)
theorem dX0_asleep_18 : decode cX0_asleep 18 = .ok (.istore 4, 2) := dk_54 4 (dk_at dksX0_asleep_0 18 rfl rfl)
theorem dX0_asleep_20 : decode cX0_asleep 20 = .ok (.iload 4, 2) := dk_21 4 (dk_at dksX0_asleep_0 20 rfl rfl)
theorem dX0_asleep_22 : decode cX0_asleep 22 = .ok (.ifCond .lt 41, 3) := dk_155 0 41 (dk_at dksX0_asleep_1 0 rfl rfl)
theorem dX0_asleep_25 : decode cX0_asleep 25 = .ok (.iload 4, 2) := dk_21 4 (dk_at dksX0_asleep_1 3 rfl rfl)
theorem dX0_asleep_27 : decode cX0_asleep 27 = .ok (.iload_n 2, 1) := dk_28 (dk_at dksX0_asleep_1 5 rfl rfl)
theorem dX0_asleep_28 : decode cX0_asleep 28 = .ok (.iand, 1) := dk_126 (dk_at dksX0_asleep_1 6 rfl rfl)
theorem dX0_asleep_29 : decode cX0_asleep 29 = .ok (.iload_n 2, 1) := dk_28 (dk_at dksX0_asleep_1 7 rfl rfl)
theorem dX0_asleep_30 : decode cX0_asleep 30 = .ok (.if_icmp .ne 27, 3) := dk_160 0 27 (dk_at dksX0_asleep_1 8 rfl rfl)
theorem dX0_asleep_33 : decode cX0_asleep 33 = .ok (.iload 4, 2) := dk_21 4 (dk_at dksX0_asleep_1 11 rfl rfl)
theorem dX0_asleep_35 : decode cX0_asleep 35 = .ok (.invokestatic 140, 3) := dk_184 0 140 (dk_at dksX0_asleep_1 13 rfl rfl)
theorem dX0_asleep_38 : decode cX0_asleep 38 = .ok (.iload_n 3, 1) := dk_29 (dk_at dksX0_asleep_1 16 rfl rfl)
theorem dX0_asleep_39 : decode cX0_asleep 39 = .ok (.invokestatic 140, 3) := dk_184 0 140 (dk_at dksX0_asleep_1 17 rfl rfl)
theorem dX0_asleep_42 : decode cX0_asleep 42 = .ok (.if_icmp .gt 15, 3) := dk_163 0 15 (dk_at dksX0_asleep_1 20 rfl rfl)
theorem dX0_asleep_45 : decode cX0_asleep 45 = .ok (.aload_n 0, 1) := dk_42 (dk_at dksX0_asleep_1 23 rfl rfl)
theorem dX0_asleep_46 : decode cX0_asleep 46 = .ok (.iload 4, 2) := dk_21 4 (dk_at dksX0_asleep_2 0 rfl rfl)
theorem dX0_asleep_48 : decode cX0_asleep 48 = .ok (.invokevirtual 354, 3) := dk_182 1 98 (dk_at dksX0_asleep_2 2 rfl rfl)
theorem dX0_asleep_51 : decode cX0_asleep 51 = .ok (.ifCond .eq 6, 3) := dk_153 0 6 (dk_at dksX0_asleep_2 5 rfl rfl)
theorem dX0_asleep_54 : decode cX0_asleep 54 = .ok (.iload 4, 2) := dk_21 4 (dk_at dksX0_asleep_2 8 rfl rfl)
theorem dX0_asleep_56 : decode cX0_asleep 56 = .ok (.istore_n 3, 1) := dk_62 (dk_at dksX0_asleep_2 10 rfl rfl)
theorem dX0_asleep_57 : decode cX0_asleep 57 = .ok (.iinc 4 (-1), 3) := dk_132 4 255 (dk_at dksX0_asleep_2 11 rfl rfl)
theorem dX0_asleep_60 : decode cX0_asleep 60 = .ok (.goto (-40), 3) := dk_167 255 216 (dk_at dksX0_asleep_2 14 rfl rfl)
theorem dX0_asleep_63 : decode cX0_asleep 63 = .ok (.iload_n 1, 1) := dk_27 (dk_at dksX0_asleep_2 17 rfl rfl)
theorem dX0_asleep_64 : decode cX0_asleep 64 = .ok (.ifCond .eq 10, 3) := dk_153 0 10 (dk_at dksX0_asleep_2 18 rfl rfl)
theorem dX0_asleep_67 : decode cX0_asleep 67 = .ok (.iload_n 3, 1) := dk_29 (dk_at dksX0_asleep_2 21 rfl rfl)
theorem dX0_asleep_68 : decode cX0_asleep 68 = .ok (.invokestatic 140, 3) := dk_184 0 140 (dk_at dksX0_asleep_3 0 rfl rfl)
theorem dX0_asleep_71 : decode cX0_asleep 71 = .ok (.goto 4, 3) := dk_167 0 4 (dk_at dksX0_asleep_3 3 rfl rfl)
theorem dX0_asleep_74 : decode cX0_asleep 74 = .ok (.iload_n 3, 1) := dk_29 (dk_at dksX0_asleep_3 6 rfl rfl)
theorem dX0_asleep_75 : decode cX0_asleep 75 = .ok (.ireturn, 1) := dk_172 (dk_at dksX0_asleep_3 7 rfl rfl)
abbrev cX0_bedNow : ByteArray := prog_1_method_84_code
def yX0_bedNow : MethodName := ⟨RX0, "bedNow", "()I"⟩
def dkwX0_bedNow_1 : List UInt8 := [180, 0, 188, 16, 12, 28, 96, 46, 28, 120, 128, 60, 132, 2, 1, 167, 255, 223, 27, 172]
abbrev dktX0_bedNow_1 : List UInt8 := dkwX0_bedNow_1 ++ []
def dkwX0_bedNow_0 : List UInt8 := [3, 60, 3, 61, 28, 42, 180, 0, 21, 180, 0, 59, 3, 46, 162, 0, 26, 27, 42, 180, 0, 21]
abbrev dktX0_bedNow_0 : List UInt8 := dkwX0_bedNow_0 ++ dktX0_bedNow_1
theorem dksX0_bedNow_0 : cX0_bedNow.data.toList.drop 0 = dktX0_bedNow_0 := by decide +kernel
theorem dksX0_bedNow_1 : cX0_bedNow.data.toList.drop 22 = dktX0_bedNow_1 := dk_seg dksX0_bedNow_0 22 rfl rfl
theorem dX0_bedNow_0 : decode cX0_bedNow 0 = .ok (.iconst 0, 1) := dk_3 (dk_at dksX0_bedNow_0 0 rfl rfl)
theorem dX0_bedNow_1 : decode cX0_bedNow 1 = .ok (.istore_n 1, 1) := dk_60 (dk_at dksX0_bedNow_0 1 rfl rfl)
theorem dX0_bedNow_2 : decode cX0_bedNow 2 = .ok (.iconst 0, 1) := dk_3 (dk_at dksX0_bedNow_0 2 rfl rfl)
theorem dX0_bedNow_3 : decode cX0_bedNow 3 = .ok (.istore_n 2, 1) := dk_61 (dk_at dksX0_bedNow_0 3 rfl rfl)
theorem dX0_bedNow_4 : decode cX0_bedNow 4 = .ok (.iload_n 2, 1) := dk_28 (dk_at dksX0_bedNow_0 4 rfl rfl)
theorem dX0_bedNow_5 : decode cX0_bedNow 5 = .ok (.aload_n 0, 1) := dk_42 (dk_at dksX0_bedNow_0 5 rfl rfl)
theorem dX0_bedNow_6 : decode cX0_bedNow 6 = .ok (.getfield 21, 3) := dk_180 0 21 (dk_at dksX0_bedNow_0 6 rfl rfl)
theorem dX0_bedNow_9 : decode cX0_bedNow 9 = .ok (.getfield 59, 3) := dk_180 0 59 (dk_at dksX0_bedNow_0 9 rfl rfl)
theorem dX0_bedNow_12 : decode cX0_bedNow 12 = .ok (.iconst 0, 1) := dk_3 (dk_at dksX0_bedNow_0 12 rfl rfl)
theorem dX0_bedNow_13 : decode cX0_bedNow 13 = .ok (.iaload, 1) := dk_46 (dk_at dksX0_bedNow_0 13 rfl rfl)
theorem dX0_bedNow_14 : decode cX0_bedNow 14 = .ok (.if_icmp .ge 26, 3) := dk_162 0 26 (dk_at dksX0_bedNow_0 14 rfl rfl)
theorem dX0_bedNow_17 : decode cX0_bedNow 17 = .ok (.iload_n 1, 1) := dk_27 (dk_at dksX0_bedNow_0 17 rfl rfl)
theorem dX0_bedNow_18 : decode cX0_bedNow 18 = .ok (.aload_n 0, 1) := dk_42 (dk_at dksX0_bedNow_0 18 rfl rfl)
theorem dX0_bedNow_19 : decode cX0_bedNow 19 = .ok (.getfield 21, 3) := dk_180 0 21 (dk_at dksX0_bedNow_0 19 rfl rfl)
theorem dX0_bedNow_22 : decode cX0_bedNow 22 = .ok (.getfield 188, 3) := dk_180 0 188 (dk_at dksX0_bedNow_1 0 rfl rfl)
theorem dX0_bedNow_25 : decode cX0_bedNow 25 = .ok (.bipush 12, 2) := dk_16 12 (dk_at dksX0_bedNow_1 3 rfl rfl)
theorem dX0_bedNow_27 : decode cX0_bedNow 27 = .ok (.iload_n 2, 1) := dk_28 (dk_at dksX0_bedNow_1 5 rfl rfl)
theorem dX0_bedNow_28 : decode cX0_bedNow 28 = .ok (.iadd, 1) := dk_96 (dk_at dksX0_bedNow_1 6 rfl rfl)
theorem dX0_bedNow_29 : decode cX0_bedNow 29 = .ok (.iaload, 1) := dk_46 (dk_at dksX0_bedNow_1 7 rfl rfl)
theorem dX0_bedNow_30 : decode cX0_bedNow 30 = .ok (.iload_n 2, 1) := dk_28 (dk_at dksX0_bedNow_1 8 rfl rfl)
theorem dX0_bedNow_31 : decode cX0_bedNow 31 = .ok (.ishl, 1) := dk_120 (dk_at dksX0_bedNow_1 9 rfl rfl)
theorem dX0_bedNow_32 : decode cX0_bedNow 32 = .ok (.ior, 1) := dk_128 (dk_at dksX0_bedNow_1 10 rfl rfl)
theorem dX0_bedNow_33 : decode cX0_bedNow 33 = .ok (.istore_n 1, 1) := dk_60 (dk_at dksX0_bedNow_1 11 rfl rfl)
theorem dX0_bedNow_34 : decode cX0_bedNow 34 = .ok (.iinc 2 1, 3) := dk_132 2 1 (dk_at dksX0_bedNow_1 12 rfl rfl)
theorem dX0_bedNow_37 : decode cX0_bedNow 37 = .ok (.goto (-33), 3) := dk_167 255 223 (dk_at dksX0_bedNow_1 15 rfl rfl)
theorem dX0_bedNow_40 : decode cX0_bedNow 40 = .ok (.iload_n 1, 1) := dk_27 (dk_at dksX0_bedNow_1 18 rfl rfl)
theorem dX0_bedNow_41 : decode cX0_bedNow 41 = .ok (.ireturn, 1) := dk_172 (dk_at dksX0_bedNow_1 19 rfl rfl)
abbrev cX0_isQuiet : ByteArray := prog_1_method_85_code
def yX0_isQuiet : MethodName := ⟨RX0, "isQuiet", "(I)Z"⟩
def dkwX0_isQuiet_2 : List UInt8 := [167, 255, 226, 42, 42, 180, 0, 43, 3, 182, 0, 178, 154, 0, 7, 4, 167, 0, 4, 3, 172]
abbrev dktX0_isQuiet_2 : List UInt8 := dkwX0_isQuiet_2 ++ []
def dkwX0_isQuiet_1 : List UInt8 := [3, 46, 162, 0, 23, 42, 180, 0, 43, 16, 12, 28, 96, 27, 28, 122, 4, 126, 79, 132, 2, 1]
abbrev dktX0_isQuiet_1 : List UInt8 := dkwX0_isQuiet_1 ++ dktX0_isQuiet_2
def dkwX0_isQuiet_0 : List UInt8 := [42, 180, 0, 21, 180, 0, 188, 42, 180, 0, 43, 184, 1, 23, 3, 61, 28, 42, 180, 0, 21, 180, 0, 59]
abbrev dktX0_isQuiet_0 : List UInt8 := dkwX0_isQuiet_0 ++ dktX0_isQuiet_1
theorem dksX0_isQuiet_0 : cX0_isQuiet.data.toList.drop 0 = dktX0_isQuiet_0 := by decide +kernel
theorem dksX0_isQuiet_1 : cX0_isQuiet.data.toList.drop 24 = dktX0_isQuiet_1 := dk_seg dksX0_isQuiet_0 24 rfl rfl
theorem dksX0_isQuiet_2 : cX0_isQuiet.data.toList.drop 46 = dktX0_isQuiet_2 := dk_seg dksX0_isQuiet_1 22 rfl rfl
theorem dX0_isQuiet_0 : decode cX0_isQuiet 0 = .ok (.aload_n 0, 1) := dk_42 (dk_at dksX0_isQuiet_0 0 rfl rfl)
theorem dX0_isQuiet_1 : decode cX0_isQuiet 1 = .ok (.getfield 21, 3) := dk_180 0 21 (dk_at dksX0_isQuiet_0 1 rfl rfl)
theorem dX0_isQuiet_4 : decode cX0_isQuiet 4 = .ok (.getfield 188, 3) := dk_180 0 188 (dk_at dksX0_isQuiet_0 4 rfl rfl)
theorem dX0_isQuiet_7 : decode cX0_isQuiet 7 = .ok (.aload_n 0, 1) := dk_42 (dk_at dksX0_isQuiet_0 7 rfl rfl)
theorem dX0_isQuiet_8 : decode cX0_isQuiet 8 = .ok (.getfield 43, 3) := dk_180 0 43 (dk_at dksX0_isQuiet_0 8 rfl rfl)
theorem dX0_isQuiet_11 : decode cX0_isQuiet 11 = .ok (.invokestatic 279, 3) := dk_184 1 23 (dk_at dksX0_isQuiet_0 11 rfl rfl)
theorem dX0_isQuiet_14 : decode cX0_isQuiet 14 = .ok (.iconst 0, 1) := dk_3 (dk_at dksX0_isQuiet_0 14 rfl rfl)
theorem dX0_isQuiet_15 : decode cX0_isQuiet 15 = .ok (.istore_n 2, 1) := dk_61 (dk_at dksX0_isQuiet_0 15 rfl rfl)
theorem dX0_isQuiet_16 : decode cX0_isQuiet 16 = .ok (.iload_n 2, 1) := dk_28 (dk_at dksX0_isQuiet_0 16 rfl rfl)
theorem dX0_isQuiet_17 : decode cX0_isQuiet 17 = .ok (.aload_n 0, 1) := dk_42 (dk_at dksX0_isQuiet_0 17 rfl rfl)
theorem dX0_isQuiet_18 : decode cX0_isQuiet 18 = .ok (.getfield 21, 3) := dk_180 0 21 (dk_at dksX0_isQuiet_0 18 rfl rfl)
theorem dX0_isQuiet_21 : decode cX0_isQuiet 21 = .ok (.getfield 59, 3) := dk_180 0 59 (dk_at dksX0_isQuiet_0 21 rfl rfl)
theorem dX0_isQuiet_24 : decode cX0_isQuiet 24 = .ok (.iconst 0, 1) := dk_3 (dk_at dksX0_isQuiet_1 0 rfl rfl)
theorem dX0_isQuiet_25 : decode cX0_isQuiet 25 = .ok (.iaload, 1) := dk_46 (dk_at dksX0_isQuiet_1 1 rfl rfl)
theorem dX0_isQuiet_26 : decode cX0_isQuiet 26 = .ok (.if_icmp .ge 23, 3) := dk_162 0 23 (dk_at dksX0_isQuiet_1 2 rfl rfl)
theorem dX0_isQuiet_29 : decode cX0_isQuiet 29 = .ok (.aload_n 0, 1) := dk_42 (dk_at dksX0_isQuiet_1 5 rfl rfl)
theorem dX0_isQuiet_30 : decode cX0_isQuiet 30 = .ok (.getfield 43, 3) := dk_180 0 43 (dk_at dksX0_isQuiet_1 6 rfl rfl)
theorem dX0_isQuiet_33 : decode cX0_isQuiet 33 = .ok (.bipush 12, 2) := dk_16 12 (dk_at dksX0_isQuiet_1 9 rfl rfl)
theorem dX0_isQuiet_35 : decode cX0_isQuiet 35 = .ok (.iload_n 2, 1) := dk_28 (dk_at dksX0_isQuiet_1 11 rfl rfl)
theorem dX0_isQuiet_36 : decode cX0_isQuiet 36 = .ok (.iadd, 1) := dk_96 (dk_at dksX0_isQuiet_1 12 rfl rfl)
theorem dX0_isQuiet_37 : decode cX0_isQuiet 37 = .ok (.iload_n 1, 1) := dk_27 (dk_at dksX0_isQuiet_1 13 rfl rfl)
theorem dX0_isQuiet_38 : decode cX0_isQuiet 38 = .ok (.iload_n 2, 1) := dk_28 (dk_at dksX0_isQuiet_1 14 rfl rfl)
theorem dX0_isQuiet_39 : decode cX0_isQuiet 39 = .ok (.ishr, 1) := dk_122 (dk_at dksX0_isQuiet_1 15 rfl rfl)
theorem dX0_isQuiet_40 : decode cX0_isQuiet 40 = .ok (.iconst 1, 1) := dk_4 (dk_at dksX0_isQuiet_1 16 rfl rfl)
theorem dX0_isQuiet_41 : decode cX0_isQuiet 41 = .ok (.iand, 1) := dk_126 (dk_at dksX0_isQuiet_1 17 rfl rfl)
theorem dX0_isQuiet_42 : decode cX0_isQuiet 42 = .ok (.iastore, 1) := dk_79 (dk_at dksX0_isQuiet_1 18 rfl rfl)
theorem dX0_isQuiet_43 : decode cX0_isQuiet 43 = .ok (.iinc 2 1, 3) := dk_132 2 1 (dk_at dksX0_isQuiet_1 19 rfl rfl)
theorem dX0_isQuiet_46 : decode cX0_isQuiet 46 = .ok (.goto (-30), 3) := dk_167 255 226 (dk_at dksX0_isQuiet_2 0 rfl rfl)
theorem dX0_isQuiet_49 : decode cX0_isQuiet 49 = .ok (.aload_n 0, 1) := dk_42 (dk_at dksX0_isQuiet_2 3 rfl rfl)
theorem dX0_isQuiet_50 : decode cX0_isQuiet 50 = .ok (.aload_n 0, 1) := dk_42 (dk_at dksX0_isQuiet_2 4 rfl rfl)
theorem dX0_isQuiet_51 : decode cX0_isQuiet 51 = .ok (.getfield 43, 3) := dk_180 0 43 (dk_at dksX0_isQuiet_2 5 rfl rfl)
theorem dX0_isQuiet_54 : decode cX0_isQuiet 54 = .ok (.iconst 0, 1) := dk_3 (dk_at dksX0_isQuiet_2 8 rfl rfl)
theorem dX0_isQuiet_55 : decode cX0_isQuiet 55 = .ok (.invokevirtual 178, 3) := dk_182 0 178 (dk_at dksX0_isQuiet_2 9 rfl rfl)
theorem dX0_isQuiet_58 : decode cX0_isQuiet 58 = .ok (.ifCond .ne 7, 3) := dk_154 0 7 (dk_at dksX0_isQuiet_2 12 rfl rfl)
theorem dX0_isQuiet_61 : decode cX0_isQuiet 61 = .ok (.iconst 1, 1) := dk_4 (dk_at dksX0_isQuiet_2 15 rfl rfl)
theorem dX0_isQuiet_62 : decode cX0_isQuiet 62 = .ok (.goto 4, 3) := dk_167 0 4 (dk_at dksX0_isQuiet_2 16 rfl rfl)
theorem dX0_isQuiet_65 : decode cX0_isQuiet 65 = .ok (.iconst 0, 1) := dk_3 (dk_at dksX0_isQuiet_2 19 rfl rfl)
theorem dX0_isQuiet_66 : decode cX0_isQuiet 66 = .ok (.ireturn, 1) := dk_172 (dk_at dksX0_isQuiet_2 20 rfl rfl)
abbrev cX0_slack : ByteArray := prog_1_method_87_code
def yX0_slack : MethodName := ⟨RX0, "slack", "(I)I"⟩
def dkwX0_slack_1 : List UInt8 := [27, 182, 1, 27, 100, 167, 0, 6, 17, 252, 24, 172]
abbrev dktX0_slack_1 : List UInt8 := dkwX0_slack_1 ++ []
def dkwX0_slack_0 : List UInt8 := [42, 27, 182, 0, 204, 153, 0, 27, 42, 180, 0, 21, 180, 0, 188, 7, 27, 96, 46, 42, 42, 182, 0, 157]
abbrev dktX0_slack_0 : List UInt8 := dkwX0_slack_0 ++ dktX0_slack_1
theorem dksX0_slack_0 : cX0_slack.data.toList.drop 0 = dktX0_slack_0 := by decide +kernel
theorem dksX0_slack_1 : cX0_slack.data.toList.drop 24 = dktX0_slack_1 := dk_seg dksX0_slack_0 24 rfl rfl
theorem dX0_slack_0 : decode cX0_slack 0 = .ok (.aload_n 0, 1) := dk_42 (dk_at dksX0_slack_0 0 rfl rfl)
theorem dX0_slack_1 : decode cX0_slack 1 = .ok (.iload_n 1, 1) := dk_27 (dk_at dksX0_slack_0 1 rfl rfl)
theorem dX0_slack_2 : decode cX0_slack 2 = .ok (.invokevirtual 204, 3) := dk_182 0 204 (dk_at dksX0_slack_0 2 rfl rfl)
theorem dX0_slack_5 : decode cX0_slack 5 = .ok (.ifCond .eq 27, 3) := dk_153 0 27 (dk_at dksX0_slack_0 5 rfl rfl)
theorem dX0_slack_8 : decode cX0_slack 8 = .ok (.aload_n 0, 1) := dk_42 (dk_at dksX0_slack_0 8 rfl rfl)
theorem dX0_slack_9 : decode cX0_slack 9 = .ok (.getfield 21, 3) := dk_180 0 21 (dk_at dksX0_slack_0 9 rfl rfl)
theorem dX0_slack_12 : decode cX0_slack 12 = .ok (.getfield 188, 3) := dk_180 0 188 (dk_at dksX0_slack_0 12 rfl rfl)
theorem dX0_slack_15 : decode cX0_slack 15 = .ok (.iconst 4, 1) := dk_7 (dk_at dksX0_slack_0 15 rfl rfl)
theorem dX0_slack_16 : decode cX0_slack 16 = .ok (.iload_n 1, 1) := dk_27 (dk_at dksX0_slack_0 16 rfl rfl)
theorem dX0_slack_17 : decode cX0_slack 17 = .ok (.iadd, 1) := dk_96 (dk_at dksX0_slack_0 17 rfl rfl)
theorem dX0_slack_18 : decode cX0_slack 18 = .ok (.iaload, 1) := dk_46 (dk_at dksX0_slack_0 18 rfl rfl)
theorem dX0_slack_19 : decode cX0_slack 19 = .ok (.aload_n 0, 1) := dk_42 (dk_at dksX0_slack_0 19 rfl rfl)
theorem dX0_slack_20 : decode cX0_slack 20 = .ok (.aload_n 0, 1) := dk_42 (dk_at dksX0_slack_0 20 rfl rfl)
theorem dX0_slack_21 : decode cX0_slack 21 = .ok (.invokevirtual 157, 3) := dk_182 0 157 (dk_at dksX0_slack_0 21 rfl rfl)
theorem dX0_slack_24 : decode cX0_slack 24 = .ok (.iload_n 1, 1) := dk_27 (dk_at dksX0_slack_1 0 rfl rfl)
theorem dX0_slack_25 : decode cX0_slack 25 = .ok (.invokevirtual 283, 3) := dk_182 1 27 (dk_at dksX0_slack_1 1 rfl rfl)
theorem dX0_slack_28 : decode cX0_slack 28 = .ok (.isub, 1) := dk_100 (dk_at dksX0_slack_1 4 rfl rfl)
theorem dX0_slack_29 : decode cX0_slack 29 = .ok (.goto 6, 3) := dk_167 0 6 (dk_at dksX0_slack_1 5 rfl rfl)
theorem dX0_slack_32 : decode cX0_slack 32 = .ok (.sipush (-1000), 3) := dk_17 252 24 (dk_at dksX0_slack_1 8 rfl rfl)
theorem dX0_slack_35 : decode cX0_slack 35 = .ok (.ireturn, 1) := dk_172 (dk_at dksX0_slack_1 11 rfl rfl)
abbrev cX0_least : ByteArray := prog_1_method_88_code
def yX0_least : MethodName := ⟨RX0, "least", "(I)I"⟩
def dkwX0_least_1 : List UInt8 := [167, 0, 4, 2, 172]
abbrev dktX0_least_1 : List UInt8 := dkwX0_least_1 ++ []
def dkwX0_least_0 : List UInt8 := [42, 27, 182, 0, 204, 153, 0, 20, 16, 99, 42, 42, 182, 0, 157, 27, 182, 1, 27, 184, 0, 182]
abbrev dktX0_least_0 : List UInt8 := dkwX0_least_0 ++ dktX0_least_1
theorem dksX0_least_0 : cX0_least.data.toList.drop 0 = dktX0_least_0 := by decide +kernel
theorem dksX0_least_1 : cX0_least.data.toList.drop 22 = dktX0_least_1 := dk_seg dksX0_least_0 22 rfl rfl
theorem dX0_least_0 : decode cX0_least 0 = .ok (.aload_n 0, 1) := dk_42 (dk_at dksX0_least_0 0 rfl rfl)
theorem dX0_least_1 : decode cX0_least 1 = .ok (.iload_n 1, 1) := dk_27 (dk_at dksX0_least_0 1 rfl rfl)
theorem dX0_least_2 : decode cX0_least 2 = .ok (.invokevirtual 204, 3) := dk_182 0 204 (dk_at dksX0_least_0 2 rfl rfl)
theorem dX0_least_5 : decode cX0_least 5 = .ok (.ifCond .eq 20, 3) := dk_153 0 20 (dk_at dksX0_least_0 5 rfl rfl)
theorem dX0_least_8 : decode cX0_least 8 = .ok (.bipush 99, 2) := dk_16 99 (dk_at dksX0_least_0 8 rfl rfl)
theorem dX0_least_10 : decode cX0_least 10 = .ok (.aload_n 0, 1) := dk_42 (dk_at dksX0_least_0 10 rfl rfl)
theorem dX0_least_11 : decode cX0_least 11 = .ok (.aload_n 0, 1) := dk_42 (dk_at dksX0_least_0 11 rfl rfl)
theorem dX0_least_12 : decode cX0_least 12 = .ok (.invokevirtual 157, 3) := dk_182 0 157 (dk_at dksX0_least_0 12 rfl rfl)
theorem dX0_least_15 : decode cX0_least 15 = .ok (.iload_n 1, 1) := dk_27 (dk_at dksX0_least_0 15 rfl rfl)
theorem dX0_least_16 : decode cX0_least 16 = .ok (.invokevirtual 283, 3) := dk_182 1 27 (dk_at dksX0_least_0 16 rfl rfl)
theorem dX0_least_19 : decode cX0_least 19 = .ok (.invokestatic 182, 3) := dk_184 0 182 (dk_at dksX0_least_0 19 rfl rfl)
theorem dX0_least_22 : decode cX0_least 22 = .ok (.goto 4, 3) := dk_167 0 4 (dk_at dksX0_least_1 0 rfl rfl)
theorem dX0_least_25 : decode cX0_least 25 = .ok (.iconst (-1), 1) := dk_2 (dk_at dksX0_least_1 3 rfl rfl)
theorem dX0_least_26 : decode cX0_least 26 = .ok (.ireturn, 1) := dk_172 (dk_at dksX0_least_1 4 rfl rfl)
abbrev cX0_moves : ByteArray := prog_1_method_89_code
def yX0_moves : MethodName := ⟨RX0, "moves", "(II)I"⟩
def dkwX0_moves_2 : List UInt8 := [42, 42, 180, 0, 21, 180, 0, 188, 29, 4, 27, 120, 128, 182, 0, 178, 130, 28, 122, 4, 126, 172]
abbrev dktX0_moves_2 : List UInt8 := dkwX0_moves_2 ++ []
def dkwX0_moves_1 : List UInt8 := [180, 0, 188, 4, 46, 4, 27, 120, 2, 130, 126, 62, 42, 42, 180, 0, 21, 180, 0, 188, 29, 182, 0, 178]
abbrev dktX0_moves_1 : List UInt8 := dkwX0_moves_1 ++ dktX0_moves_2
def dkwX0_moves_0 : List UInt8 := [42, 27, 182, 0, 204, 153, 0, 11, 42, 28, 182, 0, 204, 154, 0, 5, 2, 172, 42, 180, 0, 21]
abbrev dktX0_moves_0 : List UInt8 := dkwX0_moves_0 ++ dktX0_moves_1
theorem dksX0_moves_0 : cX0_moves.data.toList.drop 0 = dktX0_moves_0 := by decide +kernel
theorem dksX0_moves_1 : cX0_moves.data.toList.drop 22 = dktX0_moves_1 := dk_seg dksX0_moves_0 22 rfl rfl
theorem dksX0_moves_2 : cX0_moves.data.toList.drop 46 = dktX0_moves_2 := dk_seg dksX0_moves_1 24 rfl rfl
theorem dX0_moves_0 : decode cX0_moves 0 = .ok (.aload_n 0, 1) := dk_42 (dk_at dksX0_moves_0 0 rfl rfl)
theorem dX0_moves_1 : decode cX0_moves 1 = .ok (.iload_n 1, 1) := dk_27 (dk_at dksX0_moves_0 1 rfl rfl)
theorem dX0_moves_2 : decode cX0_moves 2 = .ok (.invokevirtual 204, 3) := dk_182 0 204 (dk_at dksX0_moves_0 2 rfl rfl)
theorem dX0_moves_5 : decode cX0_moves 5 = .ok (.ifCond .eq 11, 3) := dk_153 0 11 (dk_at dksX0_moves_0 5 rfl rfl)
theorem dX0_moves_8 : decode cX0_moves 8 = .ok (.aload_n 0, 1) := dk_42 (dk_at dksX0_moves_0 8 rfl rfl)
theorem dX0_moves_9 : decode cX0_moves 9 = .ok (.iload_n 2, 1) := dk_28 (dk_at dksX0_moves_0 9 rfl rfl)
theorem dX0_moves_10 : decode cX0_moves 10 = .ok (.invokevirtual 204, 3) := dk_182 0 204 (dk_at dksX0_moves_0 10 rfl rfl)
theorem dX0_moves_13 : decode cX0_moves 13 = .ok (.ifCond .ne 5, 3) := dk_154 0 5 (dk_at dksX0_moves_0 13 rfl rfl)
theorem dX0_moves_16 : decode cX0_moves 16 = .ok (.iconst (-1), 1) := dk_2 (dk_at dksX0_moves_0 16 rfl rfl)
theorem dX0_moves_17 : decode cX0_moves 17 = .ok (.ireturn, 1) := dk_172 (dk_at dksX0_moves_0 17 rfl rfl)
theorem dX0_moves_18 : decode cX0_moves 18 = .ok (.aload_n 0, 1) := dk_42 (dk_at dksX0_moves_0 18 rfl rfl)
theorem dX0_moves_19 : decode cX0_moves 19 = .ok (.getfield 21, 3) := dk_180 0 21 (dk_at dksX0_moves_0 19 rfl rfl)
theorem dX0_moves_22 : decode cX0_moves 22 = .ok (.getfield 188, 3) := dk_180 0 188 (dk_at dksX0_moves_1 0 rfl rfl)
theorem dX0_moves_25 : decode cX0_moves 25 = .ok (.iconst 1, 1) := dk_4 (dk_at dksX0_moves_1 3 rfl rfl)
theorem dX0_moves_26 : decode cX0_moves 26 = .ok (.iaload, 1) := dk_46 (dk_at dksX0_moves_1 4 rfl rfl)
theorem dX0_moves_27 : decode cX0_moves 27 = .ok (.iconst 1, 1) := dk_4 (dk_at dksX0_moves_1 5 rfl rfl)
theorem dX0_moves_28 : decode cX0_moves 28 = .ok (.iload_n 1, 1) := dk_27 (dk_at dksX0_moves_1 6 rfl rfl)
theorem dX0_moves_29 : decode cX0_moves 29 = .ok (.ishl, 1) := dk_120 (dk_at dksX0_moves_1 7 rfl rfl)
theorem dX0_moves_30 : decode cX0_moves 30 = .ok (.iconst (-1), 1) := dk_2 (dk_at dksX0_moves_1 8 rfl rfl)
theorem dX0_moves_31 : decode cX0_moves 31 = .ok (.ixor, 1) := dk_130 (dk_at dksX0_moves_1 9 rfl rfl)
theorem dX0_moves_32 : decode cX0_moves 32 = .ok (.iand, 1) := dk_126 (dk_at dksX0_moves_1 10 rfl rfl)
theorem dX0_moves_33 : decode cX0_moves 33 = .ok (.istore_n 3, 1) := dk_62 (dk_at dksX0_moves_1 11 rfl rfl)
theorem dX0_moves_34 : decode cX0_moves 34 = .ok (.aload_n 0, 1) := dk_42 (dk_at dksX0_moves_1 12 rfl rfl)
theorem dX0_moves_35 : decode cX0_moves 35 = .ok (.aload_n 0, 1) := dk_42 (dk_at dksX0_moves_1 13 rfl rfl)
theorem dX0_moves_36 : decode cX0_moves 36 = .ok (.getfield 21, 3) := dk_180 0 21 (dk_at dksX0_moves_1 14 rfl rfl)
theorem dX0_moves_39 : decode cX0_moves 39 = .ok (.getfield 188, 3) := dk_180 0 188 (dk_at dksX0_moves_1 17 rfl rfl)
theorem dX0_moves_42 : decode cX0_moves 42 = .ok (.iload_n 3, 1) := dk_29 (dk_at dksX0_moves_1 20 rfl rfl)
theorem dX0_moves_43 : decode cX0_moves 43 = .ok (.invokevirtual 178, 3) := dk_182 0 178 (dk_at dksX0_moves_1 21 rfl rfl)
theorem dX0_moves_46 : decode cX0_moves 46 = .ok (.aload_n 0, 1) := dk_42 (dk_at dksX0_moves_2 0 rfl rfl)
theorem dX0_moves_47 : decode cX0_moves 47 = .ok (.aload_n 0, 1) := dk_42 (dk_at dksX0_moves_2 1 rfl rfl)
theorem dX0_moves_48 : decode cX0_moves 48 = .ok (.getfield 21, 3) := dk_180 0 21 (dk_at dksX0_moves_2 2 rfl rfl)
theorem dX0_moves_51 : decode cX0_moves 51 = .ok (.getfield 188, 3) := dk_180 0 188 (dk_at dksX0_moves_2 5 rfl rfl)
theorem dX0_moves_54 : decode cX0_moves 54 = .ok (.iload_n 3, 1) := dk_29 (dk_at dksX0_moves_2 8 rfl rfl)
theorem dX0_moves_55 : decode cX0_moves 55 = .ok (.iconst 1, 1) := dk_4 (dk_at dksX0_moves_2 9 rfl rfl)
theorem dX0_moves_56 : decode cX0_moves 56 = .ok (.iload_n 1, 1) := dk_27 (dk_at dksX0_moves_2 10 rfl rfl)
theorem dX0_moves_57 : decode cX0_moves 57 = .ok (.ishl, 1) := dk_120 (dk_at dksX0_moves_2 11 rfl rfl)
theorem dX0_moves_58 : decode cX0_moves 58 = .ok (.ior, 1) := dk_128 (dk_at dksX0_moves_2 12 rfl rfl)
theorem dX0_moves_59 : decode cX0_moves 59 = .ok (.invokevirtual 178, 3) := dk_182 0 178 (dk_at dksX0_moves_2 13 rfl rfl)
theorem dX0_moves_62 : decode cX0_moves 62 = .ok (.ixor, 1) := dk_130 (dk_at dksX0_moves_2 16 rfl rfl)
theorem dX0_moves_63 : decode cX0_moves 63 = .ok (.iload_n 2, 1) := dk_28 (dk_at dksX0_moves_2 17 rfl rfl)
theorem dX0_moves_64 : decode cX0_moves 64 = .ok (.ishr, 1) := dk_122 (dk_at dksX0_moves_2 18 rfl rfl)
theorem dX0_moves_65 : decode cX0_moves 65 = .ok (.iconst 1, 1) := dk_4 (dk_at dksX0_moves_2 19 rfl rfl)
theorem dX0_moves_66 : decode cX0_moves 66 = .ok (.iand, 1) := dk_126 (dk_at dksX0_moves_2 20 rfl rfl)
theorem dX0_moves_67 : decode cX0_moves 67 = .ok (.ireturn, 1) := dk_172 (dk_at dksX0_moves_2 21 rfl rfl)
abbrev cX0_said : ByteArray := prog_1_method_90_code
def yX0_said : MethodName := ⟨RX0, "said", "(II)I"⟩
def dkwX0_said_2 : List UInt8 := [180, 0, 21, 42, 180, 0, 21, 180, 1, 101, 8, 27, 28, 182, 1, 67, 167, 0, 5, 16, 254, 172]
abbrev dktX0_said_2 : List UInt8 := dkwX0_said_2 ++ []
def dkwX0_said_1 : List UInt8 := [17, 3, 231, 184, 0, 62, 153, 0, 37, 42, 180, 0, 21, 180, 0, 59, 8, 46, 16, 8, 162, 0, 23, 42]
abbrev dktX0_said_1 : List UInt8 := dkwX0_said_1 ++ dktX0_said_2
def dkwX0_said_0 : List UInt8 := [27, 2, 160, 0, 12, 42, 180, 0, 21, 8, 182, 1, 61, 172, 42, 27, 182, 0, 204, 153, 0, 48, 28, 3]
abbrev dktX0_said_0 : List UInt8 := dkwX0_said_0 ++ dktX0_said_1
theorem dksX0_said_0 : cX0_said.data.toList.drop 0 = dktX0_said_0 := by decide +kernel
theorem dksX0_said_1 : cX0_said.data.toList.drop 24 = dktX0_said_1 := dk_seg dksX0_said_0 24 rfl rfl
theorem dksX0_said_2 : cX0_said.data.toList.drop 48 = dktX0_said_2 := dk_seg dksX0_said_1 24 rfl rfl
theorem dX0_said_0 : decode cX0_said 0 = .ok (.iload_n 1, 1) := dk_27 (dk_at dksX0_said_0 0 rfl rfl)
theorem dX0_said_1 : decode cX0_said 1 = .ok (.iconst (-1), 1) := dk_2 (dk_at dksX0_said_0 1 rfl rfl)
theorem dX0_said_2 : decode cX0_said 2 = .ok (.if_icmp .ne 12, 3) := dk_160 0 12 (dk_at dksX0_said_0 2 rfl rfl)
theorem dX0_said_5 : decode cX0_said 5 = .ok (.aload_n 0, 1) := dk_42 (dk_at dksX0_said_0 5 rfl rfl)
theorem dX0_said_6 : decode cX0_said 6 = .ok (.getfield 21, 3) := dk_180 0 21 (dk_at dksX0_said_0 6 rfl rfl)
theorem dX0_said_9 : decode cX0_said 9 = .ok (.iconst 5, 1) := dk_8 (dk_at dksX0_said_0 9 rfl rfl)
theorem dX0_said_10 : decode cX0_said 10 = .ok (.invokevirtual 317, 3) := dk_182 1 61 (dk_at dksX0_said_0 10 rfl rfl)
theorem dX0_said_13 : decode cX0_said 13 = .ok (.ireturn, 1) := dk_172 (dk_at dksX0_said_0 13 rfl rfl)
theorem dX0_said_14 : decode cX0_said 14 = .ok (.aload_n 0, 1) := dk_42 (dk_at dksX0_said_0 14 rfl rfl)
theorem dX0_said_15 : decode cX0_said 15 = .ok (.iload_n 1, 1) := dk_27 (dk_at dksX0_said_0 15 rfl rfl)
theorem dX0_said_16 : decode cX0_said 16 = .ok (.invokevirtual 204, 3) := dk_182 0 204 (dk_at dksX0_said_0 16 rfl rfl)
theorem dX0_said_19 : decode cX0_said 19 = .ok (.ifCond .eq 48, 3) := dk_153 0 48 (dk_at dksX0_said_0 19 rfl rfl)
theorem dX0_said_22 : decode cX0_said 22 = .ok (.iload_n 2, 1) := dk_28 (dk_at dksX0_said_0 22 rfl rfl)
theorem dX0_said_23 : decode cX0_said 23 = .ok (.iconst 0, 1) := dk_3 (dk_at dksX0_said_0 23 rfl rfl)
theorem dX0_said_24 : decode cX0_said 24 = .ok (.sipush 999, 3) := dk_17 3 231 (dk_at dksX0_said_1 0 rfl rfl)
theorem dX0_said_27 : decode cX0_said 27 = .ok (.invokestatic 62, 3) := dk_184 0 62 (dk_at dksX0_said_1 3 rfl rfl)
theorem dX0_said_30 : decode cX0_said 30 = .ok (.ifCond .eq 37, 3) := dk_153 0 37 (dk_at dksX0_said_1 6 rfl rfl)
theorem dX0_said_33 : decode cX0_said 33 = .ok (.aload_n 0, 1) := dk_42 (dk_at dksX0_said_1 9 rfl rfl)
theorem dX0_said_34 : decode cX0_said 34 = .ok (.getfield 21, 3) := dk_180 0 21 (dk_at dksX0_said_1 10 rfl rfl)
theorem dX0_said_37 : decode cX0_said 37 = .ok (.getfield 59, 3) := dk_180 0 59 (dk_at dksX0_said_1 13 rfl rfl)
theorem dX0_said_40 : decode cX0_said 40 = .ok (.iconst 5, 1) := dk_8 (dk_at dksX0_said_1 16 rfl rfl)
theorem dX0_said_41 : decode cX0_said 41 = .ok (.iaload, 1) := dk_46 (dk_at dksX0_said_1 17 rfl rfl)
theorem dX0_said_42 : decode cX0_said 42 = .ok (.bipush 8, 2) := dk_16 8 (dk_at dksX0_said_1 18 rfl rfl)
theorem dX0_said_44 : decode cX0_said 44 = .ok (.if_icmp .ge 23, 3) := dk_162 0 23 (dk_at dksX0_said_1 20 rfl rfl)
theorem dX0_said_47 : decode cX0_said 47 = .ok (.aload_n 0, 1) := dk_42 (dk_at dksX0_said_1 23 rfl rfl)
theorem dX0_said_48 : decode cX0_said 48 = .ok (.getfield 21, 3) := dk_180 0 21 (dk_at dksX0_said_2 0 rfl rfl)
theorem dX0_said_51 : decode cX0_said 51 = .ok (.aload_n 0, 1) := dk_42 (dk_at dksX0_said_2 3 rfl rfl)
theorem dX0_said_52 : decode cX0_said 52 = .ok (.getfield 21, 3) := dk_180 0 21 (dk_at dksX0_said_2 4 rfl rfl)
theorem dX0_said_55 : decode cX0_said 55 = .ok (.getfield 357, 3) := dk_180 1 101 (dk_at dksX0_said_2 7 rfl rfl)
theorem dX0_said_58 : decode cX0_said 58 = .ok (.iconst 5, 1) := dk_8 (dk_at dksX0_said_2 10 rfl rfl)
theorem dX0_said_59 : decode cX0_said 59 = .ok (.iload_n 1, 1) := dk_27 (dk_at dksX0_said_2 11 rfl rfl)
theorem dX0_said_60 : decode cX0_said 60 = .ok (.iload_n 2, 1) := dk_28 (dk_at dksX0_said_2 12 rfl rfl)
theorem dX0_said_61 : decode cX0_said 61 = .ok (.invokevirtual 323, 3) := dk_182 1 67 (dk_at dksX0_said_2 13 rfl rfl)
theorem dX0_said_64 : decode cX0_said 64 = .ok (.goto 5, 3) := dk_167 0 5 (dk_at dksX0_said_2 16 rfl rfl)
theorem dX0_said_67 : decode cX0_said 67 = .ok (.bipush (-2), 2) := dk_16 254 (dk_at dksX0_said_2 19 rfl rfl)
theorem dX0_said_69 : decode cX0_said 69 = .ok (.ireturn, 1) := dk_172 (dk_at dksX0_said_2 21 rfl rfl)
abbrev cX0_whose : ByteArray := prog_1_method_92_code
def yX0_whose : MethodName := ⟨RX0, "whose", "()I"⟩
def dkwX0_whose_2 : List UInt8 := [167, 255, 214, 27, 172]
abbrev dktX0_whose_2 : List UInt8 := dkwX0_whose_2 ++ []
def dkwX0_whose_1 : List UInt8 := [180, 0, 93, 28, 50, 182, 1, 104, 153, 0, 9, 4, 28, 120, 167, 0, 4, 3, 128, 60, 132, 2, 1]
abbrev dktX0_whose_1 : List UInt8 := dkwX0_whose_1 ++ dktX0_whose_2
def dkwX0_whose_0 : List UInt8 := [3, 60, 3, 61, 28, 42, 180, 0, 21, 180, 0, 59, 4, 46, 162, 0, 35, 27, 42, 42, 180, 0, 21]
abbrev dktX0_whose_0 : List UInt8 := dkwX0_whose_0 ++ dktX0_whose_1
theorem dksX0_whose_0 : cX0_whose.data.toList.drop 0 = dktX0_whose_0 := by decide +kernel
theorem dksX0_whose_1 : cX0_whose.data.toList.drop 23 = dktX0_whose_1 := dk_seg dksX0_whose_0 23 rfl rfl
theorem dksX0_whose_2 : cX0_whose.data.toList.drop 46 = dktX0_whose_2 := dk_seg dksX0_whose_1 23 rfl rfl
theorem dX0_whose_0 : decode cX0_whose 0 = .ok (.iconst 0, 1) := dk_3 (dk_at dksX0_whose_0 0 rfl rfl)
theorem dX0_whose_1 : decode cX0_whose 1 = .ok (.istore_n 1, 1) := dk_60 (dk_at dksX0_whose_0 1 rfl rfl)
theorem dX0_whose_2 : decode cX0_whose 2 = .ok (.iconst 0, 1) := dk_3 (dk_at dksX0_whose_0 2 rfl rfl)
theorem dX0_whose_3 : decode cX0_whose 3 = .ok (.istore_n 2, 1) := dk_61 (dk_at dksX0_whose_0 3 rfl rfl)
theorem dX0_whose_4 : decode cX0_whose 4 = .ok (.iload_n 2, 1) := dk_28 (dk_at dksX0_whose_0 4 rfl rfl)
theorem dX0_whose_5 : decode cX0_whose 5 = .ok (.aload_n 0, 1) := dk_42 (dk_at dksX0_whose_0 5 rfl rfl)
theorem dX0_whose_6 : decode cX0_whose 6 = .ok (.getfield 21, 3) := dk_180 0 21 (dk_at dksX0_whose_0 6 rfl rfl)
theorem dX0_whose_9 : decode cX0_whose 9 = .ok (.getfield 59, 3) := dk_180 0 59 (dk_at dksX0_whose_0 9 rfl rfl)
theorem dX0_whose_12 : decode cX0_whose 12 = .ok (.iconst 1, 1) := dk_4 (dk_at dksX0_whose_0 12 rfl rfl)
theorem dX0_whose_13 : decode cX0_whose 13 = .ok (.iaload, 1) := dk_46 (dk_at dksX0_whose_0 13 rfl rfl)
theorem dX0_whose_14 : decode cX0_whose 14 = .ok (.if_icmp .ge 35, 3) := dk_162 0 35 (dk_at dksX0_whose_0 14 rfl rfl)
theorem dX0_whose_17 : decode cX0_whose 17 = .ok (.iload_n 1, 1) := dk_27 (dk_at dksX0_whose_0 17 rfl rfl)
theorem dX0_whose_18 : decode cX0_whose 18 = .ok (.aload_n 0, 1) := dk_42 (dk_at dksX0_whose_0 18 rfl rfl)
theorem dX0_whose_19 : decode cX0_whose 19 = .ok (.aload_n 0, 1) := dk_42 (dk_at dksX0_whose_0 19 rfl rfl)
theorem dX0_whose_20 : decode cX0_whose 20 = .ok (.getfield 21, 3) := dk_180 0 21 (dk_at dksX0_whose_0 20 rfl rfl)
theorem dX0_whose_23 : decode cX0_whose 23 = .ok (.getfield 93, 3) := dk_180 0 93 (dk_at dksX0_whose_1 0 rfl rfl)
theorem dX0_whose_26 : decode cX0_whose 26 = .ok (.iload_n 2, 1) := dk_28 (dk_at dksX0_whose_1 3 rfl rfl)
theorem dX0_whose_27 : decode cX0_whose 27 = .ok (.aaload, 1) := dk_50 (dk_at dksX0_whose_1 4 rfl rfl)
theorem dX0_whose_28 : decode cX0_whose 28 = .ok (.invokevirtual 360, 3) := dk_182 1 104 (dk_at dksX0_whose_1 5 rfl rfl)
theorem dX0_whose_31 : decode cX0_whose 31 = .ok (.ifCond .eq 9, 3) := dk_153 0 9 (dk_at dksX0_whose_1 8 rfl rfl)
theorem dX0_whose_34 : decode cX0_whose 34 = .ok (.iconst 1, 1) := dk_4 (dk_at dksX0_whose_1 11 rfl rfl)
theorem dX0_whose_35 : decode cX0_whose 35 = .ok (.iload_n 2, 1) := dk_28 (dk_at dksX0_whose_1 12 rfl rfl)
theorem dX0_whose_36 : decode cX0_whose 36 = .ok (.ishl, 1) := dk_120 (dk_at dksX0_whose_1 13 rfl rfl)
theorem dX0_whose_37 : decode cX0_whose 37 = .ok (.goto 4, 3) := dk_167 0 4 (dk_at dksX0_whose_1 14 rfl rfl)
theorem dX0_whose_40 : decode cX0_whose 40 = .ok (.iconst 0, 1) := dk_3 (dk_at dksX0_whose_1 17 rfl rfl)
theorem dX0_whose_41 : decode cX0_whose 41 = .ok (.ior, 1) := dk_128 (dk_at dksX0_whose_1 18 rfl rfl)
theorem dX0_whose_42 : decode cX0_whose 42 = .ok (.istore_n 1, 1) := dk_60 (dk_at dksX0_whose_1 19 rfl rfl)
theorem dX0_whose_43 : decode cX0_whose 43 = .ok (.iinc 2 1, 3) := dk_132 2 1 (dk_at dksX0_whose_1 20 rfl rfl)
theorem dX0_whose_46 : decode cX0_whose 46 = .ok (.goto (-42), 3) := dk_167 255 214 (dk_at dksX0_whose_2 0 rfl rfl)
theorem dX0_whose_49 : decode cX0_whose 49 = .ok (.iload_n 1, 1) := dk_27 (dk_at dksX0_whose_2 3 rfl rfl)
theorem dX0_whose_50 : decode cX0_whose 50 = .ok (.ireturn, 1) := dk_172 (dk_at dksX0_whose_2 4 rfl rfl)
abbrev cX0_isLaw : ByteArray := prog_1_method_91_code
def yX0_isLaw : MethodName := ⟨RX0, "isLaw", "(LTollsForLate$Text;)Z"⟩
def dkwX0_isLaw_2 : List UInt8 := [132, 2, 1, 167, 255, 208, 4, 172]
abbrev dktX0_isLaw_2 : List UInt8 := dkwX0_isLaw_2 ++ []
def dkwX0_isLaw_1 : List UInt8 := [28, 50, 3, 46, 182, 1, 27, 42, 180, 0, 21, 180, 1, 101, 28, 50, 4, 46, 159, 0, 5, 3, 172]
abbrev dktX0_isLaw_1 : List UInt8 := dkwX0_isLaw_1 ++ dktX0_isLaw_2
def dkwX0_isLaw_0 : List UInt8 := [3, 61, 28, 42, 180, 0, 21, 180, 0, 59, 8, 46, 162, 0, 41, 42, 43, 42, 180, 0, 21, 180, 1, 101]
abbrev dktX0_isLaw_0 : List UInt8 := dkwX0_isLaw_0 ++ dktX0_isLaw_1
theorem dksX0_isLaw_0 : cX0_isLaw.data.toList.drop 0 = dktX0_isLaw_0 := by decide +kernel
theorem dksX0_isLaw_1 : cX0_isLaw.data.toList.drop 24 = dktX0_isLaw_1 := dk_seg dksX0_isLaw_0 24 rfl rfl
theorem dksX0_isLaw_2 : cX0_isLaw.data.toList.drop 47 = dktX0_isLaw_2 := dk_seg dksX0_isLaw_1 23 rfl rfl
theorem dX0_isLaw_0 : decode cX0_isLaw 0 = .ok (.iconst 0, 1) := dk_3 (dk_at dksX0_isLaw_0 0 rfl rfl)
theorem dX0_isLaw_1 : decode cX0_isLaw 1 = .ok (.istore_n 2, 1) := dk_61 (dk_at dksX0_isLaw_0 1 rfl rfl)
theorem dX0_isLaw_2 : decode cX0_isLaw 2 = .ok (.iload_n 2, 1) := dk_28 (dk_at dksX0_isLaw_0 2 rfl rfl)
theorem dX0_isLaw_3 : decode cX0_isLaw 3 = .ok (.aload_n 0, 1) := dk_42 (dk_at dksX0_isLaw_0 3 rfl rfl)
theorem dX0_isLaw_4 : decode cX0_isLaw 4 = .ok (.getfield 21, 3) := dk_180 0 21 (dk_at dksX0_isLaw_0 4 rfl rfl)
theorem dX0_isLaw_7 : decode cX0_isLaw 7 = .ok (.getfield 59, 3) := dk_180 0 59 (dk_at dksX0_isLaw_0 7 rfl rfl)
theorem dX0_isLaw_10 : decode cX0_isLaw 10 = .ok (.iconst 5, 1) := dk_8 (dk_at dksX0_isLaw_0 10 rfl rfl)
theorem dX0_isLaw_11 : decode cX0_isLaw 11 = .ok (.iaload, 1) := dk_46 (dk_at dksX0_isLaw_0 11 rfl rfl)
theorem dX0_isLaw_12 : decode cX0_isLaw 12 = .ok (.if_icmp .ge 41, 3) := dk_162 0 41 (dk_at dksX0_isLaw_0 12 rfl rfl)
theorem dX0_isLaw_15 : decode cX0_isLaw 15 = .ok (.aload_n 0, 1) := dk_42 (dk_at dksX0_isLaw_0 15 rfl rfl)
theorem dX0_isLaw_16 : decode cX0_isLaw 16 = .ok (.aload_n 1, 1) := dk_43 (dk_at dksX0_isLaw_0 16 rfl rfl)
theorem dX0_isLaw_17 : decode cX0_isLaw 17 = .ok (.aload_n 0, 1) := dk_42 (dk_at dksX0_isLaw_0 17 rfl rfl)
theorem dX0_isLaw_18 : decode cX0_isLaw 18 = .ok (.getfield 21, 3) := dk_180 0 21 (dk_at dksX0_isLaw_0 18 rfl rfl)
theorem dX0_isLaw_21 : decode cX0_isLaw 21 = .ok (.getfield 357, 3) := dk_180 1 101 (dk_at dksX0_isLaw_0 21 rfl rfl)
theorem dX0_isLaw_24 : decode cX0_isLaw 24 = .ok (.iload_n 2, 1) := dk_28 (dk_at dksX0_isLaw_1 0 rfl rfl)
theorem dX0_isLaw_25 : decode cX0_isLaw 25 = .ok (.aaload, 1) := dk_50 (dk_at dksX0_isLaw_1 1 rfl rfl)
theorem dX0_isLaw_26 : decode cX0_isLaw 26 = .ok (.iconst 0, 1) := dk_3 (dk_at dksX0_isLaw_1 2 rfl rfl)
theorem dX0_isLaw_27 : decode cX0_isLaw 27 = .ok (.iaload, 1) := dk_46 (dk_at dksX0_isLaw_1 3 rfl rfl)
theorem dX0_isLaw_28 : decode cX0_isLaw 28 = .ok (.invokevirtual 283, 3) := dk_182 1 27 (dk_at dksX0_isLaw_1 4 rfl rfl)
theorem dX0_isLaw_31 : decode cX0_isLaw 31 = .ok (.aload_n 0, 1) := dk_42 (dk_at dksX0_isLaw_1 7 rfl rfl)
theorem dX0_isLaw_32 : decode cX0_isLaw 32 = .ok (.getfield 21, 3) := dk_180 0 21 (dk_at dksX0_isLaw_1 8 rfl rfl)
theorem dX0_isLaw_35 : decode cX0_isLaw 35 = .ok (.getfield 357, 3) := dk_180 1 101 (dk_at dksX0_isLaw_1 11 rfl rfl)
theorem dX0_isLaw_38 : decode cX0_isLaw 38 = .ok (.iload_n 2, 1) := dk_28 (dk_at dksX0_isLaw_1 14 rfl rfl)
theorem dX0_isLaw_39 : decode cX0_isLaw 39 = .ok (.aaload, 1) := dk_50 (dk_at dksX0_isLaw_1 15 rfl rfl)
theorem dX0_isLaw_40 : decode cX0_isLaw 40 = .ok (.iconst 1, 1) := dk_4 (dk_at dksX0_isLaw_1 16 rfl rfl)
theorem dX0_isLaw_41 : decode cX0_isLaw 41 = .ok (.iaload, 1) := dk_46 (dk_at dksX0_isLaw_1 17 rfl rfl)
theorem dX0_isLaw_42 : decode cX0_isLaw 42 = .ok (.if_icmp .eq 5, 3) := dk_159 0 5 (dk_at dksX0_isLaw_1 18 rfl rfl)
theorem dX0_isLaw_45 : decode cX0_isLaw 45 = .ok (.iconst 0, 1) := dk_3 (dk_at dksX0_isLaw_1 21 rfl rfl)
theorem dX0_isLaw_46 : decode cX0_isLaw 46 = .ok (.ireturn, 1) := dk_172 (dk_at dksX0_isLaw_1 22 rfl rfl)
theorem dX0_isLaw_47 : decode cX0_isLaw 47 = .ok (.iinc 2 1, 3) := dk_132 2 1 (dk_at dksX0_isLaw_2 0 rfl rfl)
theorem dX0_isLaw_50 : decode cX0_isLaw 50 = .ok (.goto (-48), 3) := dk_167 255 208 (dk_at dksX0_isLaw_2 3 rfl rfl)
theorem dX0_isLaw_53 : decode cX0_isLaw 53 = .ok (.iconst 1, 1) := dk_4 (dk_at dksX0_isLaw_2 6 rfl rfl)
theorem dX0_isLaw_54 : decode cX0_isLaw 54 = .ok (.ireturn, 1) := dk_172 (dk_at dksX0_isLaw_2 7 rfl rfl)
abbrev cX0_latest : ByteArray := prog_1_method_93_code
def yX0_latest : MethodName := ⟨RX0, "latest", "()I"⟩
def dkwX0_latest_2 : List UInt8 := [96, 46, 164, 0, 5, 28, 60, 132, 2, 1, 167, 255, 202, 27, 172]
abbrev dktX0_latest_2 : List UInt8 := dkwX0_latest_2 ++ []
def dkwX0_latest_1 : List UInt8 := [16, 20, 28, 96, 46, 27, 2, 160, 0, 7, 3, 167, 0, 15, 42, 180, 0, 21, 180, 0, 188, 16, 20, 27]
abbrev dktX0_latest_1 : List UInt8 := dkwX0_latest_1 ++ dktX0_latest_2
def dkwX0_latest_0 : List UInt8 := [2, 60, 3, 61, 28, 42, 180, 0, 21, 180, 0, 59, 3, 46, 162, 0, 47, 42, 180, 0, 21, 180, 0, 188]
abbrev dktX0_latest_0 : List UInt8 := dkwX0_latest_0 ++ dktX0_latest_1
theorem dksX0_latest_0 : cX0_latest.data.toList.drop 0 = dktX0_latest_0 := by decide +kernel
theorem dksX0_latest_1 : cX0_latest.data.toList.drop 24 = dktX0_latest_1 := dk_seg dksX0_latest_0 24 rfl rfl
theorem dksX0_latest_2 : cX0_latest.data.toList.drop 48 = dktX0_latest_2 := dk_seg dksX0_latest_1 24 rfl rfl
theorem dX0_latest_0 : decode cX0_latest 0 = .ok (.iconst (-1), 1) := dk_2 (dk_at dksX0_latest_0 0 rfl rfl)
theorem dX0_latest_1 : decode cX0_latest 1 = .ok (.istore_n 1, 1) := dk_60 (dk_at dksX0_latest_0 1 rfl rfl)
theorem dX0_latest_2 : decode cX0_latest 2 = .ok (.iconst 0, 1) := dk_3 (dk_at dksX0_latest_0 2 rfl rfl)
theorem dX0_latest_3 : decode cX0_latest 3 = .ok (.istore_n 2, 1) := dk_61 (dk_at dksX0_latest_0 3 rfl rfl)
theorem dX0_latest_4 : decode cX0_latest 4 = .ok (.iload_n 2, 1) := dk_28 (dk_at dksX0_latest_0 4 rfl rfl)
theorem dX0_latest_5 : decode cX0_latest 5 = .ok (.aload_n 0, 1) := dk_42 (dk_at dksX0_latest_0 5 rfl rfl)
theorem dX0_latest_6 : decode cX0_latest 6 = .ok (.getfield 21, 3) := dk_180 0 21 (dk_at dksX0_latest_0 6 rfl rfl)
theorem dX0_latest_9 : decode cX0_latest 9 = .ok (.getfield 59, 3) := dk_180 0 59 (dk_at dksX0_latest_0 9 rfl rfl)
theorem dX0_latest_12 : decode cX0_latest 12 = .ok (.iconst 0, 1) := dk_3 (dk_at dksX0_latest_0 12 rfl rfl)
theorem dX0_latest_13 : decode cX0_latest 13 = .ok (.iaload, 1) := dk_46 (dk_at dksX0_latest_0 13 rfl rfl)
theorem dX0_latest_14 : decode cX0_latest 14 = .ok (.if_icmp .ge 47, 3) := dk_162 0 47 (dk_at dksX0_latest_0 14 rfl rfl)
theorem dX0_latest_17 : decode cX0_latest 17 = .ok (.aload_n 0, 1) := dk_42 (dk_at dksX0_latest_0 17 rfl rfl)
theorem dX0_latest_18 : decode cX0_latest 18 = .ok (.getfield 21, 3) := dk_180 0 21 (dk_at dksX0_latest_0 18 rfl rfl)
theorem dX0_latest_21 : decode cX0_latest 21 = .ok (.getfield 188, 3) := dk_180 0 188 (dk_at dksX0_latest_0 21 rfl rfl)
theorem dX0_latest_24 : decode cX0_latest 24 = .ok (.bipush 20, 2) := dk_16 20 (dk_at dksX0_latest_1 0 rfl rfl)
theorem dX0_latest_26 : decode cX0_latest 26 = .ok (.iload_n 2, 1) := dk_28 (dk_at dksX0_latest_1 2 rfl rfl)
theorem dX0_latest_27 : decode cX0_latest 27 = .ok (.iadd, 1) := dk_96 (dk_at dksX0_latest_1 3 rfl rfl)
theorem dX0_latest_28 : decode cX0_latest 28 = .ok (.iaload, 1) := dk_46 (dk_at dksX0_latest_1 4 rfl rfl)
theorem dX0_latest_29 : decode cX0_latest 29 = .ok (.iload_n 1, 1) := dk_27 (dk_at dksX0_latest_1 5 rfl rfl)
theorem dX0_latest_30 : decode cX0_latest 30 = .ok (.iconst (-1), 1) := dk_2 (dk_at dksX0_latest_1 6 rfl rfl)
theorem dX0_latest_31 : decode cX0_latest 31 = .ok (.if_icmp .ne 7, 3) := dk_160 0 7 (dk_at dksX0_latest_1 7 rfl rfl)
theorem dX0_latest_34 : decode cX0_latest 34 = .ok (.iconst 0, 1) := dk_3 (dk_at dksX0_latest_1 10 rfl rfl)
theorem dX0_latest_35 : decode cX0_latest 35 = .ok (.goto 15, 3) := dk_167 0 15 (dk_at dksX0_latest_1 11 rfl rfl)
theorem dX0_latest_38 : decode cX0_latest 38 = .ok (.aload_n 0, 1) := dk_42 (dk_at dksX0_latest_1 14 rfl rfl)
theorem dX0_latest_39 : decode cX0_latest 39 = .ok (.getfield 21, 3) := dk_180 0 21 (dk_at dksX0_latest_1 15 rfl rfl)
theorem dX0_latest_42 : decode cX0_latest 42 = .ok (.getfield 188, 3) := dk_180 0 188 (dk_at dksX0_latest_1 18 rfl rfl)
theorem dX0_latest_45 : decode cX0_latest 45 = .ok (.bipush 20, 2) := dk_16 20 (dk_at dksX0_latest_1 21 rfl rfl)
theorem dX0_latest_47 : decode cX0_latest 47 = .ok (.iload_n 1, 1) := dk_27 (dk_at dksX0_latest_1 23 rfl rfl)
theorem dX0_latest_48 : decode cX0_latest 48 = .ok (.iadd, 1) := dk_96 (dk_at dksX0_latest_2 0 rfl rfl)
theorem dX0_latest_49 : decode cX0_latest 49 = .ok (.iaload, 1) := dk_46 (dk_at dksX0_latest_2 1 rfl rfl)
theorem dX0_latest_50 : decode cX0_latest 50 = .ok (.if_icmp .le 5, 3) := dk_164 0 5 (dk_at dksX0_latest_2 2 rfl rfl)
theorem dX0_latest_53 : decode cX0_latest 53 = .ok (.iload_n 2, 1) := dk_28 (dk_at dksX0_latest_2 5 rfl rfl)
theorem dX0_latest_54 : decode cX0_latest 54 = .ok (.istore_n 1, 1) := dk_60 (dk_at dksX0_latest_2 6 rfl rfl)
theorem dX0_latest_55 : decode cX0_latest 55 = .ok (.iinc 2 1, 3) := dk_132 2 1 (dk_at dksX0_latest_2 7 rfl rfl)
theorem dX0_latest_58 : decode cX0_latest 58 = .ok (.goto (-54), 3) := dk_167 255 202 (dk_at dksX0_latest_2 10 rfl rfl)
theorem dX0_latest_61 : decode cX0_latest 61 = .ok (.iload_n 1, 1) := dk_27 (dk_at dksX0_latest_2 13 rfl rfl)
theorem dX0_latest_62 : decode cX0_latest 62 = .ok (.ireturn, 1) := dk_172 (dk_at dksX0_latest_2 14 rfl rfl)
abbrev cX0_crowded : ByteArray := prog_1_method_94_code
def yX0_crowded : MethodName := ⟨RX0, "crowded", "()I"⟩
def dkwX0_crowded_2 : List UInt8 := [164, 0, 5, 29, 61, 132, 3, 1, 167, 255, 231, 28, 172]
abbrev dktX0_crowded_2 : List UInt8 := dkwX0_crowded_2 ++ []
def dkwX0_crowded_1 : List UInt8 := [60, 3, 61, 4, 62, 29, 7, 162, 0, 26, 42, 27, 29, 182, 0, 153, 42, 27, 28, 182, 0, 153]
abbrev dktX0_crowded_1 : List UInt8 := dkwX0_crowded_1 ++ dktX0_crowded_2
def dkwX0_crowded_0 : List UInt8 := [42, 42, 182, 0, 157, 42, 180, 0, 21, 180, 0, 188, 42, 180, 0, 21, 180, 0, 188, 4, 46, 182, 0, 160]
abbrev dktX0_crowded_0 : List UInt8 := dkwX0_crowded_0 ++ dktX0_crowded_1
theorem dksX0_crowded_0 : cX0_crowded.data.toList.drop 0 = dktX0_crowded_0 := by decide +kernel
theorem dksX0_crowded_1 : cX0_crowded.data.toList.drop 24 = dktX0_crowded_1 := dk_seg dksX0_crowded_0 24 rfl rfl
theorem dksX0_crowded_2 : cX0_crowded.data.toList.drop 46 = dktX0_crowded_2 := dk_seg dksX0_crowded_1 22 rfl rfl
theorem dX0_crowded_0 : decode cX0_crowded 0 = .ok (.aload_n 0, 1) := dk_42 (dk_at dksX0_crowded_0 0 rfl rfl)
theorem dX0_crowded_1 : decode cX0_crowded 1 = .ok (.aload_n 0, 1) := dk_42 (dk_at dksX0_crowded_0 1 rfl rfl)
theorem dX0_crowded_2 : decode cX0_crowded 2 = .ok (.invokevirtual 157, 3) := dk_182 0 157 (dk_at dksX0_crowded_0 2 rfl rfl)
theorem dX0_crowded_5 : decode cX0_crowded 5 = .ok (.aload_n 0, 1) := dk_42 (dk_at dksX0_crowded_0 5 rfl rfl)
theorem dX0_crowded_6 : decode cX0_crowded 6 = .ok (.getfield 21, 3) := dk_180 0 21 (dk_at dksX0_crowded_0 6 rfl rfl)
theorem dX0_crowded_9 : decode cX0_crowded 9 = .ok (.getfield 188, 3) := dk_180 0 188 (dk_at dksX0_crowded_0 9 rfl rfl)
theorem dX0_crowded_12 : decode cX0_crowded 12 = .ok (.aload_n 0, 1) := dk_42 (dk_at dksX0_crowded_0 12 rfl rfl)
theorem dX0_crowded_13 : decode cX0_crowded 13 = .ok (.getfield 21, 3) := dk_180 0 21 (dk_at dksX0_crowded_0 13 rfl rfl)
theorem dX0_crowded_16 : decode cX0_crowded 16 = .ok (.getfield 188, 3) := dk_180 0 188 (dk_at dksX0_crowded_0 16 rfl rfl)
theorem dX0_crowded_19 : decode cX0_crowded 19 = .ok (.iconst 1, 1) := dk_4 (dk_at dksX0_crowded_0 19 rfl rfl)
theorem dX0_crowded_20 : decode cX0_crowded 20 = .ok (.iaload, 1) := dk_46 (dk_at dksX0_crowded_0 20 rfl rfl)
theorem dX0_crowded_21 : decode cX0_crowded 21 = .ok (.invokevirtual 160, 3) := dk_182 0 160 (dk_at dksX0_crowded_0 21 rfl rfl)
theorem dX0_crowded_24 : decode cX0_crowded 24 = .ok (.istore_n 1, 1) := dk_60 (dk_at dksX0_crowded_1 0 rfl rfl)
theorem dX0_crowded_25 : decode cX0_crowded 25 = .ok (.iconst 0, 1) := dk_3 (dk_at dksX0_crowded_1 1 rfl rfl)
theorem dX0_crowded_26 : decode cX0_crowded 26 = .ok (.istore_n 2, 1) := dk_61 (dk_at dksX0_crowded_1 2 rfl rfl)
theorem dX0_crowded_27 : decode cX0_crowded 27 = .ok (.iconst 1, 1) := dk_4 (dk_at dksX0_crowded_1 3 rfl rfl)
theorem dX0_crowded_28 : decode cX0_crowded 28 = .ok (.istore_n 3, 1) := dk_62 (dk_at dksX0_crowded_1 4 rfl rfl)
theorem dX0_crowded_29 : decode cX0_crowded 29 = .ok (.iload_n 3, 1) := dk_29 (dk_at dksX0_crowded_1 5 rfl rfl)
theorem dX0_crowded_30 : decode cX0_crowded 30 = .ok (.iconst 4, 1) := dk_7 (dk_at dksX0_crowded_1 6 rfl rfl)
theorem dX0_crowded_31 : decode cX0_crowded 31 = .ok (.if_icmp .ge 26, 3) := dk_162 0 26 (dk_at dksX0_crowded_1 7 rfl rfl)
theorem dX0_crowded_34 : decode cX0_crowded 34 = .ok (.aload_n 0, 1) := dk_42 (dk_at dksX0_crowded_1 10 rfl rfl)
theorem dX0_crowded_35 : decode cX0_crowded 35 = .ok (.iload_n 1, 1) := dk_27 (dk_at dksX0_crowded_1 11 rfl rfl)
theorem dX0_crowded_36 : decode cX0_crowded 36 = .ok (.iload_n 3, 1) := dk_29 (dk_at dksX0_crowded_1 12 rfl rfl)
theorem dX0_crowded_37 : decode cX0_crowded 37 = .ok (.invokevirtual 153, 3) := dk_182 0 153 (dk_at dksX0_crowded_1 13 rfl rfl)
theorem dX0_crowded_40 : decode cX0_crowded 40 = .ok (.aload_n 0, 1) := dk_42 (dk_at dksX0_crowded_1 16 rfl rfl)
theorem dX0_crowded_41 : decode cX0_crowded 41 = .ok (.iload_n 1, 1) := dk_27 (dk_at dksX0_crowded_1 17 rfl rfl)
theorem dX0_crowded_42 : decode cX0_crowded 42 = .ok (.iload_n 2, 1) := dk_28 (dk_at dksX0_crowded_1 18 rfl rfl)
theorem dX0_crowded_43 : decode cX0_crowded 43 = .ok (.invokevirtual 153, 3) := dk_182 0 153 (dk_at dksX0_crowded_1 19 rfl rfl)
theorem dX0_crowded_46 : decode cX0_crowded 46 = .ok (.if_icmp .le 5, 3) := dk_164 0 5 (dk_at dksX0_crowded_2 0 rfl rfl)
theorem dX0_crowded_49 : decode cX0_crowded 49 = .ok (.iload_n 3, 1) := dk_29 (dk_at dksX0_crowded_2 3 rfl rfl)
theorem dX0_crowded_50 : decode cX0_crowded 50 = .ok (.istore_n 2, 1) := dk_61 (dk_at dksX0_crowded_2 4 rfl rfl)
theorem dX0_crowded_51 : decode cX0_crowded 51 = .ok (.iinc 3 1, 3) := dk_132 3 1 (dk_at dksX0_crowded_2 5 rfl rfl)
theorem dX0_crowded_54 : decode cX0_crowded 54 = .ok (.goto (-25), 3) := dk_167 255 231 (dk_at dksX0_crowded_2 8 rfl rfl)
theorem dX0_crowded_57 : decode cX0_crowded 57 = .ok (.iload_n 2, 1) := dk_28 (dk_at dksX0_crowded_2 11 rfl rfl)
theorem dX0_crowded_58 : decode cX0_crowded 58 = .ok (.ireturn, 1) := dk_172 (dk_at dksX0_crowded_2 12 rfl rfl)
abbrev cX0_deaf : ByteArray := prog_1_method_95_code
def yX0_deaf : MethodName := ⟨RX0, "deaf", "()I"⟩
def dkwX0_deaf_2 : List UInt8 := [132, 2, 1, 167, 255, 211, 27, 172]
abbrev dktX0_deaf_2 : List UInt8 := dkwX0_deaf_2 ++ []
def dkwX0_deaf_1 : List UInt8 := [180, 0, 83, 28, 46, 42, 182, 0, 66, 4, 100, 126, 154, 0, 9, 4, 28, 120, 167, 0, 4, 3, 128, 60]
abbrev dktX0_deaf_1 : List UInt8 := dkwX0_deaf_1 ++ dktX0_deaf_2
def dkwX0_deaf_0 : List UInt8 := [3, 60, 3, 61, 28, 42, 180, 0, 21, 180, 0, 59, 3, 46, 162, 0, 38, 27, 42, 180, 0, 21]
abbrev dktX0_deaf_0 : List UInt8 := dkwX0_deaf_0 ++ dktX0_deaf_1
theorem dksX0_deaf_0 : cX0_deaf.data.toList.drop 0 = dktX0_deaf_0 := by decide +kernel
theorem dksX0_deaf_1 : cX0_deaf.data.toList.drop 22 = dktX0_deaf_1 := dk_seg dksX0_deaf_0 22 rfl rfl
theorem dksX0_deaf_2 : cX0_deaf.data.toList.drop 46 = dktX0_deaf_2 := dk_seg dksX0_deaf_1 24 rfl rfl
theorem dX0_deaf_0 : decode cX0_deaf 0 = .ok (.iconst 0, 1) := dk_3 (dk_at dksX0_deaf_0 0 rfl rfl)
theorem dX0_deaf_1 : decode cX0_deaf 1 = .ok (.istore_n 1, 1) := dk_60 (dk_at dksX0_deaf_0 1 rfl rfl)
theorem dX0_deaf_2 : decode cX0_deaf 2 = .ok (.iconst 0, 1) := dk_3 (dk_at dksX0_deaf_0 2 rfl rfl)
theorem dX0_deaf_3 : decode cX0_deaf 3 = .ok (.istore_n 2, 1) := dk_61 (dk_at dksX0_deaf_0 3 rfl rfl)
theorem dX0_deaf_4 : decode cX0_deaf 4 = .ok (.iload_n 2, 1) := dk_28 (dk_at dksX0_deaf_0 4 rfl rfl)
theorem dX0_deaf_5 : decode cX0_deaf 5 = .ok (.aload_n 0, 1) := dk_42 (dk_at dksX0_deaf_0 5 rfl rfl)
theorem dX0_deaf_6 : decode cX0_deaf 6 = .ok (.getfield 21, 3) := dk_180 0 21 (dk_at dksX0_deaf_0 6 rfl rfl)
theorem dX0_deaf_9 : decode cX0_deaf 9 = .ok (.getfield 59, 3) := dk_180 0 59 (dk_at dksX0_deaf_0 9 rfl rfl)
theorem dX0_deaf_12 : decode cX0_deaf 12 = .ok (.iconst 0, 1) := dk_3 (dk_at dksX0_deaf_0 12 rfl rfl)
theorem dX0_deaf_13 : decode cX0_deaf 13 = .ok (.iaload, 1) := dk_46 (dk_at dksX0_deaf_0 13 rfl rfl)
theorem dX0_deaf_14 : decode cX0_deaf 14 = .ok (.if_icmp .ge 38, 3) := dk_162 0 38 (dk_at dksX0_deaf_0 14 rfl rfl)
theorem dX0_deaf_17 : decode cX0_deaf 17 = .ok (.iload_n 1, 1) := dk_27 (dk_at dksX0_deaf_0 17 rfl rfl)
theorem dX0_deaf_18 : decode cX0_deaf 18 = .ok (.aload_n 0, 1) := dk_42 (dk_at dksX0_deaf_0 18 rfl rfl)
theorem dX0_deaf_19 : decode cX0_deaf 19 = .ok (.getfield 21, 3) := dk_180 0 21 (dk_at dksX0_deaf_0 19 rfl rfl)
theorem dX0_deaf_22 : decode cX0_deaf 22 = .ok (.getfield 83, 3) := dk_180 0 83 (dk_at dksX0_deaf_1 0 rfl rfl)
theorem dX0_deaf_25 : decode cX0_deaf 25 = .ok (.iload_n 2, 1) := dk_28 (dk_at dksX0_deaf_1 3 rfl rfl)
theorem dX0_deaf_26 : decode cX0_deaf 26 = .ok (.iaload, 1) := dk_46 (dk_at dksX0_deaf_1 4 rfl rfl)
theorem dX0_deaf_27 : decode cX0_deaf 27 = .ok (.aload_n 0, 1) := dk_42 (dk_at dksX0_deaf_1 5 rfl rfl)
theorem dX0_deaf_28 : decode cX0_deaf 28 = .ok (.invokevirtual 66, 3) := dk_182 0 66 (dk_at dksX0_deaf_1 6 rfl rfl)
theorem dX0_deaf_31 : decode cX0_deaf 31 = .ok (.iconst 1, 1) := dk_4 (dk_at dksX0_deaf_1 9 rfl rfl)
theorem dX0_deaf_32 : decode cX0_deaf 32 = .ok (.isub, 1) := dk_100 (dk_at dksX0_deaf_1 10 rfl rfl)
theorem dX0_deaf_33 : decode cX0_deaf 33 = .ok (.iand, 1) := dk_126 (dk_at dksX0_deaf_1 11 rfl rfl)
theorem dX0_deaf_34 : decode cX0_deaf 34 = .ok (.ifCond .ne 9, 3) := dk_154 0 9 (dk_at dksX0_deaf_1 12 rfl rfl)
theorem dX0_deaf_37 : decode cX0_deaf 37 = .ok (.iconst 1, 1) := dk_4 (dk_at dksX0_deaf_1 15 rfl rfl)
theorem dX0_deaf_38 : decode cX0_deaf 38 = .ok (.iload_n 2, 1) := dk_28 (dk_at dksX0_deaf_1 16 rfl rfl)
theorem dX0_deaf_39 : decode cX0_deaf 39 = .ok (.ishl, 1) := dk_120 (dk_at dksX0_deaf_1 17 rfl rfl)
theorem dX0_deaf_40 : decode cX0_deaf 40 = .ok (.goto 4, 3) := dk_167 0 4 (dk_at dksX0_deaf_1 18 rfl rfl)
theorem dX0_deaf_43 : decode cX0_deaf 43 = .ok (.iconst 0, 1) := dk_3 (dk_at dksX0_deaf_1 21 rfl rfl)
theorem dX0_deaf_44 : decode cX0_deaf 44 = .ok (.ior, 1) := dk_128 (dk_at dksX0_deaf_1 22 rfl rfl)
theorem dX0_deaf_45 : decode cX0_deaf 45 = .ok (.istore_n 1, 1) := dk_60 (dk_at dksX0_deaf_1 23 rfl rfl)
theorem dX0_deaf_46 : decode cX0_deaf 46 = .ok (.iinc 2 1, 3) := dk_132 2 1 (dk_at dksX0_deaf_2 0 rfl rfl)
theorem dX0_deaf_49 : decode cX0_deaf 49 = .ok (.goto (-45), 3) := dk_167 255 211 (dk_at dksX0_deaf_2 3 rfl rfl)
theorem dX0_deaf_52 : decode cX0_deaf 52 = .ok (.iload_n 1, 1) := dk_27 (dk_at dksX0_deaf_2 6 rfl rfl)
theorem dX0_deaf_53 : decode cX0_deaf 53 = .ok (.ireturn, 1) := dk_172 (dk_at dksX0_deaf_2 7 rfl rfl)
abbrev cX0_ledger : ByteArray := prog_1_method_96_code
def yX0_ledger : MethodName := ⟨RX0, "ledger", "(I)I"⟩
def dkwX0_ledger_3 : List UInt8 := [4, 126, 96, 61, 132, 3, 1, 167, 255, 199, 28, 172]
abbrev dktX0_ledger_3 : List UInt8 := dkwX0_ledger_3 ++ []
def dkwX0_ledger_2 : List UInt8 := [96, 5, 96, 46, 54, 4, 28, 27, 2, 160, 0, 11, 21, 4, 184, 0, 140, 167, 0, 9, 21, 4, 27, 122]
abbrev dktX0_ledger_2 : List UInt8 := dkwX0_ledger_2 ++ dktX0_ledger_3
def dkwX0_ledger_1 : List UInt8 := [180, 0, 21, 180, 0, 188, 16, 28, 46, 162, 0, 49, 42, 180, 0, 21, 180, 0, 188, 16, 29, 7, 29, 104]
abbrev dktX0_ledger_1 : List UInt8 := dkwX0_ledger_1 ++ dktX0_ledger_2
def dkwX0_ledger_0 : List UInt8 := [27, 2, 159, 0, 14, 42, 27, 182, 0, 204, 154, 0, 6, 16, 254, 172, 3, 61, 3, 62, 29, 42]
abbrev dktX0_ledger_0 : List UInt8 := dkwX0_ledger_0 ++ dktX0_ledger_1
theorem dksX0_ledger_0 : cX0_ledger.data.toList.drop 0 = dktX0_ledger_0 := by decide +kernel
theorem dksX0_ledger_1 : cX0_ledger.data.toList.drop 22 = dktX0_ledger_1 := dk_seg dksX0_ledger_0 22 rfl rfl
theorem dksX0_ledger_2 : cX0_ledger.data.toList.drop 46 = dktX0_ledger_2 := dk_seg dksX0_ledger_1 24 rfl rfl
theorem dksX0_ledger_3 : cX0_ledger.data.toList.drop 70 = dktX0_ledger_3 := dk_seg dksX0_ledger_2 24 rfl rfl
theorem dX0_ledger_0 : decode cX0_ledger 0 = .ok (.iload_n 1, 1) := dk_27 (dk_at dksX0_ledger_0 0 rfl rfl)
theorem dX0_ledger_1 : decode cX0_ledger 1 = .ok (.iconst (-1), 1) := dk_2 (dk_at dksX0_ledger_0 1 rfl rfl)
theorem dX0_ledger_2 : decode cX0_ledger 2 = .ok (.if_icmp .eq 14, 3) := dk_159 0 14 (dk_at dksX0_ledger_0 2 rfl rfl)
theorem dX0_ledger_5 : decode cX0_ledger 5 = .ok (.aload_n 0, 1) := dk_42 (dk_at dksX0_ledger_0 5 rfl rfl)
theorem dX0_ledger_6 : decode cX0_ledger 6 = .ok (.iload_n 1, 1) := dk_27 (dk_at dksX0_ledger_0 6 rfl rfl)
theorem dX0_ledger_7 : decode cX0_ledger 7 = .ok (.invokevirtual 204, 3) := dk_182 0 204 (dk_at dksX0_ledger_0 7 rfl rfl)
theorem dX0_ledger_10 : decode cX0_ledger 10 = .ok (.ifCond .ne 6, 3) := dk_154 0 6 (dk_at dksX0_ledger_0 10 rfl rfl)
theorem dX0_ledger_13 : decode cX0_ledger 13 = .ok (.bipush (-2), 2) := dk_16 254 (dk_at dksX0_ledger_0 13 rfl rfl)
theorem dX0_ledger_15 : decode cX0_ledger 15 = .ok (.ireturn, 1) := dk_172 (dk_at dksX0_ledger_0 15 rfl rfl)
theorem dX0_ledger_16 : decode cX0_ledger 16 = .ok (.iconst 0, 1) := dk_3 (dk_at dksX0_ledger_0 16 rfl rfl)
theorem dX0_ledger_17 : decode cX0_ledger 17 = .ok (.istore_n 2, 1) := dk_61 (dk_at dksX0_ledger_0 17 rfl rfl)
theorem dX0_ledger_18 : decode cX0_ledger 18 = .ok (.iconst 0, 1) := dk_3 (dk_at dksX0_ledger_0 18 rfl rfl)
theorem dX0_ledger_19 : decode cX0_ledger 19 = .ok (.istore_n 3, 1) := dk_62 (dk_at dksX0_ledger_0 19 rfl rfl)
theorem dX0_ledger_20 : decode cX0_ledger 20 = .ok (.iload_n 3, 1) := dk_29 (dk_at dksX0_ledger_0 20 rfl rfl)
theorem dX0_ledger_21 : decode cX0_ledger 21 = .ok (.aload_n 0, 1) := dk_42 (dk_at dksX0_ledger_0 21 rfl rfl)
theorem dX0_ledger_22 : decode cX0_ledger 22 = .ok (.getfield 21, 3) := dk_180 0 21 (dk_at dksX0_ledger_1 0 rfl rfl)
theorem dX0_ledger_25 : decode cX0_ledger 25 = .ok (.getfield 188, 3) := dk_180 0 188 (dk_at dksX0_ledger_1 3 rfl rfl)
theorem dX0_ledger_28 : decode cX0_ledger 28 = .ok (.bipush 28, 2) := dk_16 28 (dk_at dksX0_ledger_1 6 rfl rfl)
theorem dX0_ledger_30 : decode cX0_ledger 30 = .ok (.iaload, 1) := dk_46 (dk_at dksX0_ledger_1 8 rfl rfl)
theorem dX0_ledger_31 : decode cX0_ledger 31 = .ok (.if_icmp .ge 49, 3) := dk_162 0 49 (dk_at dksX0_ledger_1 9 rfl rfl)
theorem dX0_ledger_34 : decode cX0_ledger 34 = .ok (.aload_n 0, 1) := dk_42 (dk_at dksX0_ledger_1 12 rfl rfl)
theorem dX0_ledger_35 : decode cX0_ledger 35 = .ok (.getfield 21, 3) := dk_180 0 21 (dk_at dksX0_ledger_1 13 rfl rfl)
theorem dX0_ledger_38 : decode cX0_ledger 38 = .ok (.getfield 188, 3) := dk_180 0 188 (dk_at dksX0_ledger_1 16 rfl rfl)
theorem dX0_ledger_41 : decode cX0_ledger 41 = .ok (.bipush 29, 2) := dk_16 29 (dk_at dksX0_ledger_1 19 rfl rfl)
theorem dX0_ledger_43 : decode cX0_ledger 43 = .ok (.iconst 4, 1) := dk_7 (dk_at dksX0_ledger_1 21 rfl rfl)
theorem dX0_ledger_44 : decode cX0_ledger 44 = .ok (.iload_n 3, 1) := dk_29 (dk_at dksX0_ledger_1 22 rfl rfl)
theorem dX0_ledger_45 : decode cX0_ledger 45 = .ok (.imul, 1) := dk_104 (dk_at dksX0_ledger_1 23 rfl rfl)
theorem dX0_ledger_46 : decode cX0_ledger 46 = .ok (.iadd, 1) := dk_96 (dk_at dksX0_ledger_2 0 rfl rfl)
theorem dX0_ledger_47 : decode cX0_ledger 47 = .ok (.iconst 2, 1) := dk_5 (dk_at dksX0_ledger_2 1 rfl rfl)
theorem dX0_ledger_48 : decode cX0_ledger 48 = .ok (.iadd, 1) := dk_96 (dk_at dksX0_ledger_2 2 rfl rfl)
theorem dX0_ledger_49 : decode cX0_ledger 49 = .ok (.iaload, 1) := dk_46 (dk_at dksX0_ledger_2 3 rfl rfl)
theorem dX0_ledger_50 : decode cX0_ledger 50 = .ok (.istore 4, 2) := dk_54 4 (dk_at dksX0_ledger_2 4 rfl rfl)
theorem dX0_ledger_52 : decode cX0_ledger 52 = .ok (.iload_n 2, 1) := dk_28 (dk_at dksX0_ledger_2 6 rfl rfl)
theorem dX0_ledger_53 : decode cX0_ledger 53 = .ok (.iload_n 1, 1) := dk_27 (dk_at dksX0_ledger_2 7 rfl rfl)
theorem dX0_ledger_54 : decode cX0_ledger 54 = .ok (.iconst (-1), 1) := dk_2 (dk_at dksX0_ledger_2 8 rfl rfl)
theorem dX0_ledger_55 : decode cX0_ledger 55 = .ok (.if_icmp .ne 11, 3) := dk_160 0 11 (dk_at dksX0_ledger_2 9 rfl rfl)
theorem dX0_ledger_58 : decode cX0_ledger 58 = .ok (.iload 4, 2) := dk_21 4 (dk_at dksX0_ledger_2 12 rfl rfl)
theorem dX0_ledger_60 : decode cX0_ledger 60 = .ok (.invokestatic 140, 3) := dk_184 0 140 (dk_at dksX0_ledger_2 14 rfl rfl)
theorem dX0_ledger_63 : decode cX0_ledger 63 = .ok (.goto 9, 3) := dk_167 0 9 (dk_at dksX0_ledger_2 17 rfl rfl)
theorem dX0_ledger_66 : decode cX0_ledger 66 = .ok (.iload 4, 2) := dk_21 4 (dk_at dksX0_ledger_2 20 rfl rfl)
theorem dX0_ledger_68 : decode cX0_ledger 68 = .ok (.iload_n 1, 1) := dk_27 (dk_at dksX0_ledger_2 22 rfl rfl)
theorem dX0_ledger_69 : decode cX0_ledger 69 = .ok (.ishr, 1) := dk_122 (dk_at dksX0_ledger_2 23 rfl rfl)
theorem dX0_ledger_70 : decode cX0_ledger 70 = .ok (.iconst 1, 1) := dk_4 (dk_at dksX0_ledger_3 0 rfl rfl)
theorem dX0_ledger_71 : decode cX0_ledger 71 = .ok (.iand, 1) := dk_126 (dk_at dksX0_ledger_3 1 rfl rfl)
theorem dX0_ledger_72 : decode cX0_ledger 72 = .ok (.iadd, 1) := dk_96 (dk_at dksX0_ledger_3 2 rfl rfl)
theorem dX0_ledger_73 : decode cX0_ledger 73 = .ok (.istore_n 2, 1) := dk_61 (dk_at dksX0_ledger_3 3 rfl rfl)
theorem dX0_ledger_74 : decode cX0_ledger 74 = .ok (.iinc 3 1, 3) := dk_132 3 1 (dk_at dksX0_ledger_3 4 rfl rfl)
theorem dX0_ledger_77 : decode cX0_ledger 77 = .ok (.goto (-57), 3) := dk_167 255 199 (dk_at dksX0_ledger_3 7 rfl rfl)
theorem dX0_ledger_80 : decode cX0_ledger 80 = .ok (.iload_n 2, 1) := dk_28 (dk_at dksX0_ledger_3 10 rfl rfl)
theorem dX0_ledger_81 : decode cX0_ledger 81 = .ok (.ireturn, 1) := dk_172 (dk_at dksX0_ledger_3 11 rfl rfl)
abbrev cX0_image : ByteArray := prog_1_method_97_code
def yX0_image : MethodName := ⟨RX0, "image", "()I"⟩
def dkwX0_image_0 : List UInt8 := [42, 180, 0, 25, 42, 180, 0, 21, 182, 0, 55, 42, 180, 0, 21, 180, 0, 188, 3, 46, 172]
abbrev dktX0_image_0 : List UInt8 := dkwX0_image_0 ++ []
theorem dksX0_image_0 : cX0_image.data.toList.drop 0 = dktX0_image_0 := by decide +kernel
theorem dX0_image_0 : decode cX0_image 0 = .ok (.aload_n 0, 1) := dk_42 (dk_at dksX0_image_0 0 rfl rfl)
theorem dX0_image_1 : decode cX0_image 1 = .ok (.getfield 25, 3) := dk_180 0 25 (dk_at dksX0_image_0 1 rfl rfl)
theorem dX0_image_4 : decode cX0_image 4 = .ok (.aload_n 0, 1) := dk_42 (dk_at dksX0_image_0 4 rfl rfl)
theorem dX0_image_5 : decode cX0_image 5 = .ok (.getfield 21, 3) := dk_180 0 21 (dk_at dksX0_image_0 5 rfl rfl)
theorem dX0_image_8 : decode cX0_image 8 = .ok (.invokevirtual 55, 3) := dk_182 0 55 (dk_at dksX0_image_0 8 rfl rfl)
theorem dX0_image_11 : decode cX0_image 11 = .ok (.aload_n 0, 1) := dk_42 (dk_at dksX0_image_0 11 rfl rfl)
theorem dX0_image_12 : decode cX0_image 12 = .ok (.getfield 21, 3) := dk_180 0 21 (dk_at dksX0_image_0 12 rfl rfl)
theorem dX0_image_15 : decode cX0_image 15 = .ok (.getfield 188, 3) := dk_180 0 188 (dk_at dksX0_image_0 15 rfl rfl)
theorem dX0_image_18 : decode cX0_image 18 = .ok (.iconst 0, 1) := dk_3 (dk_at dksX0_image_0 18 rfl rfl)
theorem dX0_image_19 : decode cX0_image 19 = .ok (.iaload, 1) := dk_46 (dk_at dksX0_image_0 19 rfl rfl)
theorem dX0_image_20 : decode cX0_image 20 = .ok (.ireturn, 1) := dk_172 (dk_at dksX0_image_0 20 rfl rfl)
abbrev cX0_back : ByteArray := prog_1_method_98_code
def yX0_back : MethodName := ⟨RX0, "back", "()I"⟩
def dkwX0_back_0 : List UInt8 := [42, 180, 0, 21, 42, 180, 0, 25, 182, 0, 55, 42, 180, 0, 21, 180, 0, 188, 3, 46, 172]
abbrev dktX0_back_0 : List UInt8 := dkwX0_back_0 ++ []
theorem dksX0_back_0 : cX0_back.data.toList.drop 0 = dktX0_back_0 := by decide +kernel
theorem dX0_back_0 : decode cX0_back 0 = .ok (.aload_n 0, 1) := dk_42 (dk_at dksX0_back_0 0 rfl rfl)
theorem dX0_back_1 : decode cX0_back 1 = .ok (.getfield 21, 3) := dk_180 0 21 (dk_at dksX0_back_0 1 rfl rfl)
theorem dX0_back_4 : decode cX0_back 4 = .ok (.aload_n 0, 1) := dk_42 (dk_at dksX0_back_0 4 rfl rfl)
theorem dX0_back_5 : decode cX0_back 5 = .ok (.getfield 25, 3) := dk_180 0 25 (dk_at dksX0_back_0 5 rfl rfl)
theorem dX0_back_8 : decode cX0_back 8 = .ok (.invokevirtual 55, 3) := dk_182 0 55 (dk_at dksX0_back_0 8 rfl rfl)
theorem dX0_back_11 : decode cX0_back 11 = .ok (.aload_n 0, 1) := dk_42 (dk_at dksX0_back_0 11 rfl rfl)
theorem dX0_back_12 : decode cX0_back 12 = .ok (.getfield 21, 3) := dk_180 0 21 (dk_at dksX0_back_0 12 rfl rfl)
theorem dX0_back_15 : decode cX0_back 15 = .ok (.getfield 188, 3) := dk_180 0 188 (dk_at dksX0_back_0 15 rfl rfl)
theorem dX0_back_18 : decode cX0_back 18 = .ok (.iconst 0, 1) := dk_3 (dk_at dksX0_back_0 18 rfl rfl)
theorem dX0_back_19 : decode cX0_back 19 = .ok (.iaload, 1) := dk_46 (dk_at dksX0_back_0 19 rfl rfl)
theorem dX0_back_20 : decode cX0_back 20 = .ok (.ireturn, 1) := dk_172 (dk_at dksX0_back_0 20 rfl rfl)
abbrev cX0_about : ByteArray := prog_1_method_99_code
def yX0_about : MethodName := ⟨RX0, "about", "(I)I"⟩
def dkwX0_about_4 : List UInt8 := [46, 172, 42, 180, 0, 21, 180, 0, 59, 8, 46, 172, 42, 180, 0, 86, 172, 16, 254, 172]
abbrev dktX0_about_4 : List UInt8 := dkwX0_about_4 ++ []
def dkwX0_about_3 : List UInt8 := [180, 0, 59, 5, 46, 172, 42, 180, 0, 21, 180, 0, 59, 6, 46, 172, 42, 180, 0, 21, 180, 0, 59, 7]
abbrev dktX0_about_3 : List UInt8 := dkwX0_about_3 ++ dktX0_about_4
def dkwX0_about_2 : List UInt8 := [42, 180, 0, 21, 180, 0, 59, 3, 46, 172, 42, 180, 0, 21, 180, 0, 59, 4, 46, 172, 42, 180, 0, 21]
abbrev dktX0_about_2 : List UInt8 := dkwX0_about_2 ++ dktX0_about_3
def dkwX0_about_1 : List UInt8 := [170, 0, 0, 0, 0, 0, 108, 0, 0, 0, 0, 0, 0, 0, 6, 0, 0, 0, 43, 0, 0, 0, 53, 0, 0, 0, 63, 0, 0, 0, 73, 0, 0, 0, 83, 0, 0, 0, 93, 0, 0, 0, 103]
abbrev dktX0_about_1 : List UInt8 := dkwX0_about_1 ++ dktX0_about_2
def dkwX0_about_0 : List UInt8 := [27]
abbrev dktX0_about_0 : List UInt8 := dkwX0_about_0 ++ dktX0_about_1
theorem dksX0_about_0 : cX0_about.data.toList.drop 0 = dktX0_about_0 := by decide +kernel
theorem dksX0_about_1 : cX0_about.data.toList.drop 1 = dktX0_about_1 := dk_seg dksX0_about_0 1 rfl rfl
theorem dksX0_about_2 : cX0_about.data.toList.drop 44 = dktX0_about_2 := dk_seg dksX0_about_1 43 rfl rfl
theorem dksX0_about_3 : cX0_about.data.toList.drop 68 = dktX0_about_3 := dk_seg dksX0_about_2 24 rfl rfl
theorem dksX0_about_4 : cX0_about.data.toList.drop 92 = dktX0_about_4 := dk_seg dksX0_about_3 24 rfl rfl
theorem dX0_about_0 : decode cX0_about 0 = .ok (.iload_n 1, 1) := dk_27 (dk_at dksX0_about_0 0 rfl rfl)
theorem dX0_about_1 : decode cX0_about 1 = .ok (.tableswitch 108 0 6 #[43, 53, 63, 73, 83, 93, 103], 43) := by decide +kernel
theorem dX0_about_44 : decode cX0_about 44 = .ok (.aload_n 0, 1) := dk_42 (dk_at dksX0_about_2 0 rfl rfl)
theorem dX0_about_45 : decode cX0_about 45 = .ok (.getfield 21, 3) := dk_180 0 21 (dk_at dksX0_about_2 1 rfl rfl)
theorem dX0_about_48 : decode cX0_about 48 = .ok (.getfield 59, 3) := dk_180 0 59 (dk_at dksX0_about_2 4 rfl rfl)
theorem dX0_about_51 : decode cX0_about 51 = .ok (.iconst 0, 1) := dk_3 (dk_at dksX0_about_2 7 rfl rfl)
theorem dX0_about_52 : decode cX0_about 52 = .ok (.iaload, 1) := dk_46 (dk_at dksX0_about_2 8 rfl rfl)
theorem dX0_about_53 : decode cX0_about 53 = .ok (.ireturn, 1) := dk_172 (dk_at dksX0_about_2 9 rfl rfl)
theorem dX0_about_54 : decode cX0_about 54 = .ok (.aload_n 0, 1) := dk_42 (dk_at dksX0_about_2 10 rfl rfl)
theorem dX0_about_55 : decode cX0_about 55 = .ok (.getfield 21, 3) := dk_180 0 21 (dk_at dksX0_about_2 11 rfl rfl)
theorem dX0_about_58 : decode cX0_about 58 = .ok (.getfield 59, 3) := dk_180 0 59 (dk_at dksX0_about_2 14 rfl rfl)
theorem dX0_about_61 : decode cX0_about 61 = .ok (.iconst 1, 1) := dk_4 (dk_at dksX0_about_2 17 rfl rfl)
theorem dX0_about_62 : decode cX0_about 62 = .ok (.iaload, 1) := dk_46 (dk_at dksX0_about_2 18 rfl rfl)
theorem dX0_about_63 : decode cX0_about 63 = .ok (.ireturn, 1) := dk_172 (dk_at dksX0_about_2 19 rfl rfl)
theorem dX0_about_64 : decode cX0_about 64 = .ok (.aload_n 0, 1) := dk_42 (dk_at dksX0_about_2 20 rfl rfl)
theorem dX0_about_65 : decode cX0_about 65 = .ok (.getfield 21, 3) := dk_180 0 21 (dk_at dksX0_about_2 21 rfl rfl)
theorem dX0_about_68 : decode cX0_about 68 = .ok (.getfield 59, 3) := dk_180 0 59 (dk_at dksX0_about_3 0 rfl rfl)
theorem dX0_about_71 : decode cX0_about 71 = .ok (.iconst 2, 1) := dk_5 (dk_at dksX0_about_3 3 rfl rfl)
theorem dX0_about_72 : decode cX0_about 72 = .ok (.iaload, 1) := dk_46 (dk_at dksX0_about_3 4 rfl rfl)
theorem dX0_about_73 : decode cX0_about 73 = .ok (.ireturn, 1) := dk_172 (dk_at dksX0_about_3 5 rfl rfl)
theorem dX0_about_74 : decode cX0_about 74 = .ok (.aload_n 0, 1) := dk_42 (dk_at dksX0_about_3 6 rfl rfl)
theorem dX0_about_75 : decode cX0_about 75 = .ok (.getfield 21, 3) := dk_180 0 21 (dk_at dksX0_about_3 7 rfl rfl)
theorem dX0_about_78 : decode cX0_about 78 = .ok (.getfield 59, 3) := dk_180 0 59 (dk_at dksX0_about_3 10 rfl rfl)
theorem dX0_about_81 : decode cX0_about 81 = .ok (.iconst 3, 1) := dk_6 (dk_at dksX0_about_3 13 rfl rfl)
theorem dX0_about_82 : decode cX0_about 82 = .ok (.iaload, 1) := dk_46 (dk_at dksX0_about_3 14 rfl rfl)
theorem dX0_about_83 : decode cX0_about 83 = .ok (.ireturn, 1) := dk_172 (dk_at dksX0_about_3 15 rfl rfl)
theorem dX0_about_84 : decode cX0_about 84 = .ok (.aload_n 0, 1) := dk_42 (dk_at dksX0_about_3 16 rfl rfl)
theorem dX0_about_85 : decode cX0_about 85 = .ok (.getfield 21, 3) := dk_180 0 21 (dk_at dksX0_about_3 17 rfl rfl)
theorem dX0_about_88 : decode cX0_about 88 = .ok (.getfield 59, 3) := dk_180 0 59 (dk_at dksX0_about_3 20 rfl rfl)
theorem dX0_about_91 : decode cX0_about 91 = .ok (.iconst 4, 1) := dk_7 (dk_at dksX0_about_3 23 rfl rfl)
theorem dX0_about_92 : decode cX0_about 92 = .ok (.iaload, 1) := dk_46 (dk_at dksX0_about_4 0 rfl rfl)
theorem dX0_about_93 : decode cX0_about 93 = .ok (.ireturn, 1) := dk_172 (dk_at dksX0_about_4 1 rfl rfl)
theorem dX0_about_94 : decode cX0_about 94 = .ok (.aload_n 0, 1) := dk_42 (dk_at dksX0_about_4 2 rfl rfl)
theorem dX0_about_95 : decode cX0_about 95 = .ok (.getfield 21, 3) := dk_180 0 21 (dk_at dksX0_about_4 3 rfl rfl)
theorem dX0_about_98 : decode cX0_about 98 = .ok (.getfield 59, 3) := dk_180 0 59 (dk_at dksX0_about_4 6 rfl rfl)
theorem dX0_about_101 : decode cX0_about 101 = .ok (.iconst 5, 1) := dk_8 (dk_at dksX0_about_4 9 rfl rfl)
theorem dX0_about_102 : decode cX0_about 102 = .ok (.iaload, 1) := dk_46 (dk_at dksX0_about_4 10 rfl rfl)
theorem dX0_about_103 : decode cX0_about 103 = .ok (.ireturn, 1) := dk_172 (dk_at dksX0_about_4 11 rfl rfl)
theorem dX0_about_104 : decode cX0_about 104 = .ok (.aload_n 0, 1) := dk_42 (dk_at dksX0_about_4 12 rfl rfl)
theorem dX0_about_105 : decode cX0_about 105 = .ok (.getfield 86, 3) := dk_180 0 86 (dk_at dksX0_about_4 13 rfl rfl)
theorem dX0_about_108 : decode cX0_about 108 = .ok (.ireturn, 1) := dk_172 (dk_at dksX0_about_4 16 rfl rfl)
theorem dX0_about_109 : decode cX0_about 109 = .ok (.bipush (-2), 2) := dk_16 254 (dk_at dksX0_about_4 17 rfl rfl)
theorem dX0_about_111 : decode cX0_about 111 = .ok (.ireturn, 1) := dk_172 (dk_at dksX0_about_4 19 rfl rfl)
theorem q121 : (Jvm.Cond.initialized "TollsForLate") ∈ lw_all := lw_g (lw_at lw_m1 1 rfl) rfl
theorem q158 : (Jvm.Cond.instantiable "TollsForLate" (12 : Nat)) ∈ lw_all := lw_g (lw_at lw_m1 38 rfl) rfl
theorem q160 : (Jvm.Cond.instanceMethod ({ cls := "TollsForLate", name := "<init>", desc := "()V" } : Jvm.MethodName)) ∈ lw_all := lw_g (lw_at lw_m1 40 rfl) rfl
theorem q161 : (Jvm.Cond.code ({ cls := "TollsForLate", name := "<init>", desc := "()V" } : Jvm.MethodName) prog_1_method_4_code (1 : Nat) (Option.none : Option Jvm.ClassFile.FieldType)) ∈ lw_all := lw_g (lw_at lw_m1 41 rfl) rfl
theorem q162 : (Jvm.Cond.methodLink "TollsForLate" (12 : Nat) ({ cls := "java/lang/Object", name := "<init>", desc := "()V" } : Jvm.MethodName)) ∈ lw_all := lw_g (lw_at lw_m1 42 rfl) rfl
theorem q165 : (Jvm.Cond.classLink "TollsForLate" (18 : Nat) "TollsForLate$State") ∈ lw_all := lw_g (lw_at lw_m1 45 rfl) rfl
theorem q167 : (Jvm.Cond.methodLink "TollsForLate" (20 : Nat) ({ cls := "TollsForLate$State", name := "<init>", desc := "()V" } : Jvm.MethodName)) ∈ lw_all := lw_g (lw_at lw_m1 47 rfl) rfl
theorem q179 : (Jvm.Cond.fieldLinkNest "TollsForLate" (59 : Nat) "TollsForLate$State" "n" "[I" "TollsForLate") ∈ lw_tbl := lw_at lw_m1 59 rfl
theorem q181 : (Jvm.Cond.fieldLinkNest "TollsForLate" (188 : Nat) "TollsForLate$State" "row" "[I" "TollsForLate") ∈ lw_tbl := lw_at lw_m1 61 rfl
theorem q183 : (Jvm.Cond.fieldLinkNest "TollsForLate" (70 : Nat) "TollsForLate$State" "road" "[I" "TollsForLate") ∈ lw_tbl := lw_at lw_m1 63 rfl
theorem q185 : (Jvm.Cond.fieldLinkNest "TollsForLate" (73 : Nat) "TollsForLate$State" "walk" "[I" "TollsForLate") ∈ lw_tbl := lw_at lw_m1 65 rfl
theorem q187 : (Jvm.Cond.fieldLinkNest "TollsForLate" (76 : Nat) "TollsForLate$State" "run" "[I" "TollsForLate") ∈ lw_tbl := lw_at lw_m1 67 rfl
theorem q189 : (Jvm.Cond.fieldLinkNest "TollsForLate" (83 : Nat) "TollsForLate$State" "hears" "[I" "TollsForLate") ∈ lw_tbl := lw_at lw_m1 69 rfl
theorem q191 : (Jvm.Cond.fieldLinkNest "TollsForLate" (320 : Nat) "TollsForLate$State" "heard" "[[I" "TollsForLate") ∈ lw_tbl := lw_at lw_m1 71 rfl
theorem q193 : (Jvm.Cond.fieldLinkNest "TollsForLate" (357 : Nat) "TollsForLate$State" "said" "[[I" "TollsForLate") ∈ lw_tbl := lw_at lw_m1 73 rfl
theorem q195 : (Jvm.Cond.fieldLinkNest "TollsForLate" (275 : Nat) "TollsForLate$State" "step" "[[I" "TollsForLate") ∈ lw_tbl := lw_at lw_m1 75 rfl
theorem q197 : (Jvm.Cond.fieldLinkNest "TollsForLate" (93 : Nat) "TollsForLate$State" "text" "[LTollsForLate$Text;" "TollsForLate") ∈ lw_tbl := lw_at lw_m1 77 rfl
theorem q220 : (Jvm.Cond.methodLink "TollsForLate" (55 : Nat) ({ cls := "TollsForLate$State", name := "be", desc := "(LTollsForLate$State;)V" } : Jvm.MethodName)) ∈ lw_all := lw_g (lw_at lw_m1 100 rfl) rfl
theorem q233 : (Jvm.Cond.fieldLink "TollsForLate" (21 : Nat) "TollsForLate" "now" "LTollsForLate$State;") ∈ lw_all := lw_g (lw_at lw_m1 113 rfl) rfl
theorem q234 : (Jvm.Cond.fieldLink "TollsForLate" (25 : Nat) "TollsForLate" "image" "LTollsForLate$State;") ∈ lw_all := lw_g (lw_at lw_m1 114 rfl) rfl
theorem q235 : (Jvm.Cond.fieldLink "TollsForLate" (28 : Nat) "TollsForLate" "tape" "[B") ∈ lw_all := lw_g (lw_at lw_m1 115 rfl) rfl
theorem q236 : (Jvm.Cond.fieldLink "TollsForLate" (86 : Nat) "TollsForLate" "taped" "I") ∈ lw_all := lw_g (lw_at lw_m1 116 rfl) rfl
theorem q237 : (Jvm.Cond.fieldLink "TollsForLate" (32 : Nat) "TollsForLate" "fault" "I") ∈ lw_all := lw_g (lw_at lw_m1 117 rfl) rfl
theorem q238 : (Jvm.Cond.fieldLink "TollsForLate" (36 : Nat) "TollsForLate" "faultAt" "I") ∈ lw_all := lw_g (lw_at lw_m1 118 rfl) rfl
theorem q239 : (Jvm.Cond.fieldLink "TollsForLate" (39 : Nat) "TollsForLate" "names" "[I") ∈ lw_all := lw_g (lw_at lw_m1 119 rfl) rfl
theorem q240 : (Jvm.Cond.fieldLink "TollsForLate" (43 : Nat) "TollsForLate" "tried" "[I") ∈ lw_all := lw_g (lw_at lw_m1 120 rfl) rfl
theorem q241 : (Jvm.Cond.fieldLink "TollsForLate" (46 : Nat) "TollsForLate" "leads" "[I") ∈ lw_all := lw_g (lw_at lw_m1 121 rfl) rfl
theorem q242 : (Jvm.Cond.fieldLink "TollsForLate" (49 : Nat) "TollsForLate" "days" "[I") ∈ lw_all := lw_g (lw_at lw_m1 122 rfl) rfl
theorem q243 : (Jvm.Cond.fieldLink "TollsForLate" (290 : Nat) "TollsForLate" "many" "I") ∈ lw_all := lw_g (lw_at lw_m1 123 rfl) rfl
theorem q244 : (Jvm.Cond.fieldLink "TollsForLate" (52 : Nat) "TollsForLate" "asked" "[B") ∈ lw_all := lw_g (lw_at lw_m1 124 rfl) rfl
theorem q245 : (Jvm.Cond.laysFinal "TollsForLate" "TollsForLate" "now" "LTollsForLate$State;") ∈ lw_all := lw_g (lw_at lw_m1 125 rfl) rfl
theorem q246 : (Jvm.Cond.soleField "TollsForLate" "now") ∈ lw_all := lw_g (lw_at lw_m1 126 rfl) rfl
theorem q247 : (Jvm.Cond.laysFinal "TollsForLate" "TollsForLate" "image" "LTollsForLate$State;") ∈ lw_all := lw_g (lw_at lw_m1 127 rfl) rfl
theorem q248 : (Jvm.Cond.soleField "TollsForLate" "image") ∈ lw_all := lw_g (lw_at lw_m1 128 rfl) rfl
theorem q249 : (Jvm.Cond.laysFinal "TollsForLate" "TollsForLate" "tape" "[B") ∈ lw_all := lw_g (lw_at lw_m1 129 rfl) rfl
theorem q250 : (Jvm.Cond.soleField "TollsForLate" "tape") ∈ lw_all := lw_g (lw_at lw_m1 130 rfl) rfl
theorem q251 : (Jvm.Cond.lays "TollsForLate" "TollsForLate" "taped" "I") ∈ lw_all := lw_g (lw_at lw_m1 131 rfl) rfl
theorem q252 : (Jvm.Cond.soleField "TollsForLate" "taped") ∈ lw_all := lw_g (lw_at lw_m1 132 rfl) rfl
theorem q253 : (Jvm.Cond.lays "TollsForLate" "TollsForLate" "fault" "I") ∈ lw_all := lw_g (lw_at lw_m1 133 rfl) rfl
theorem q254 : (Jvm.Cond.soleField "TollsForLate" "fault") ∈ lw_all := lw_g (lw_at lw_m1 134 rfl) rfl
theorem q255 : (Jvm.Cond.lays "TollsForLate" "TollsForLate" "faultAt" "I") ∈ lw_all := lw_g (lw_at lw_m1 135 rfl) rfl
theorem q256 : (Jvm.Cond.soleField "TollsForLate" "faultAt") ∈ lw_all := lw_g (lw_at lw_m1 136 rfl) rfl
theorem q257 : (Jvm.Cond.laysFinal "TollsForLate" "TollsForLate" "names" "[I") ∈ lw_all := lw_g (lw_at lw_m1 137 rfl) rfl
theorem q258 : (Jvm.Cond.soleField "TollsForLate" "names") ∈ lw_all := lw_g (lw_at lw_m1 138 rfl) rfl
theorem q259 : (Jvm.Cond.laysFinal "TollsForLate" "TollsForLate" "tried" "[I") ∈ lw_all := lw_g (lw_at lw_m1 139 rfl) rfl
theorem q260 : (Jvm.Cond.soleField "TollsForLate" "tried") ∈ lw_all := lw_g (lw_at lw_m1 140 rfl) rfl
theorem q261 : (Jvm.Cond.laysFinal "TollsForLate" "TollsForLate" "leads" "[I") ∈ lw_all := lw_g (lw_at lw_m1 141 rfl) rfl
theorem q262 : (Jvm.Cond.soleField "TollsForLate" "leads") ∈ lw_all := lw_g (lw_at lw_m1 142 rfl) rfl
theorem q263 : (Jvm.Cond.laysFinal "TollsForLate" "TollsForLate" "days" "[I") ∈ lw_all := lw_g (lw_at lw_m1 143 rfl) rfl
theorem q264 : (Jvm.Cond.soleField "TollsForLate" "days") ∈ lw_all := lw_g (lw_at lw_m1 144 rfl) rfl
theorem q265 : (Jvm.Cond.lays "TollsForLate" "TollsForLate" "many" "I") ∈ lw_all := lw_g (lw_at lw_m1 145 rfl) rfl
theorem q266 : (Jvm.Cond.soleField "TollsForLate" "many") ∈ lw_all := lw_g (lw_at lw_m1 146 rfl) rfl
theorem q267 : (Jvm.Cond.laysFinal "TollsForLate" "TollsForLate" "asked" "[B") ∈ lw_all := lw_g (lw_at lw_m1 147 rfl) rfl
theorem q268 : (Jvm.Cond.soleField "TollsForLate" "asked") ∈ lw_all := lw_g (lw_at lw_m1 148 rfl) rfl
theorem q269 : (Jvm.Cond.superclass "TollsForLate" "java/lang/Object") ∈ lw_all := lw_g (lw_at lw_m1 149 rfl) rfl
theorem q272 : (Jvm.Cond.instanceMethod ({ cls := "TollsForLate", name := "person", desc := "(IIII)I" } : Jvm.MethodName)) ∈ lw_all := lw_g (lw_at lw_m1 152 rfl) rfl
theorem q273 : (Jvm.Cond.selects "TollsForLate" ({ cls := "TollsForLate", name := "person", desc := "(IIII)I" } : Jvm.MethodName) ({ cls := "TollsForLate", name := "person", desc := "(IIII)I" } : Jvm.MethodName)) ∈ lw_all := lw_g (lw_at lw_m1 153 rfl) rfl
theorem q274 : (Jvm.Cond.code ({ cls := "TollsForLate", name := "person", desc := "(IIII)I" } : Jvm.MethodName) prog_1_method_8_code (6 : Nat) (Option.some Jvm.ClassFile.FieldType.int)) ∈ lw_all := lw_g (lw_at lw_m1 154 rfl) rfl
theorem q275 : (Jvm.Cond.methodLink "TollsForLate" (62 : Nat) ({ cls := "TollsForLate", name := "in", desc := "(III)Z" } : Jvm.MethodName)) ∈ lw_all := lw_g (lw_at lw_m1 155 rfl) rfl
theorem q276 : (Jvm.Cond.static ({ cls := "TollsForLate", name := "in", desc := "(III)Z" } : Jvm.MethodName)) ∈ lw_all := lw_g (lw_at lw_m1 156 rfl) rfl
theorem q277 : (Jvm.Cond.code ({ cls := "TollsForLate", name := "in", desc := "(III)Z" } : Jvm.MethodName) prog_1_method_1_code (3 : Nat) (Option.some Jvm.ClassFile.FieldType.boolean)) ∈ lw_all := lw_g (lw_at lw_m1 157 rfl) rfl
theorem q278 : (Jvm.Cond.methodLink "TollsForLate" (79 : Nat) ({ cls := "TollsForLate$State", name := "tells", desc := "(II)V" } : Jvm.MethodName)) ∈ lw_all := lw_g (lw_at lw_m1 158 rfl) rfl
theorem q283 : (Jvm.Cond.instanceMethod ({ cls := "TollsForLate", name := "hears", desc := "(IIZ)Z" } : Jvm.MethodName)) ∈ lw_all := lw_g (lw_at lw_m1 163 rfl) rfl
theorem q284 : (Jvm.Cond.selects "TollsForLate" ({ cls := "TollsForLate", name := "hears", desc := "(IIZ)Z" } : Jvm.MethodName) ({ cls := "TollsForLate", name := "hears", desc := "(IIZ)Z" } : Jvm.MethodName)) ∈ lw_all := lw_g (lw_at lw_m1 164 rfl) rfl
theorem q285 : (Jvm.Cond.code ({ cls := "TollsForLate", name := "hears", desc := "(IIZ)Z" } : Jvm.MethodName) prog_1_method_9_code (4 : Nat) (Option.some Jvm.ClassFile.FieldType.boolean)) ∈ lw_all := lw_g (lw_at lw_m1 165 rfl) rfl
theorem q287 : (Jvm.Cond.instanceMethod ({ cls := "TollsForLate", name := "feed", desc := "(IIIII)I" } : Jvm.MethodName)) ∈ lw_all := lw_g (lw_at lw_m1 167 rfl) rfl
theorem q288 : (Jvm.Cond.selects "TollsForLate" ({ cls := "TollsForLate", name := "feed", desc := "(IIIII)I" } : Jvm.MethodName) ({ cls := "TollsForLate", name := "feed", desc := "(IIIII)I" } : Jvm.MethodName)) ∈ lw_all := lw_g (lw_at lw_m1 168 rfl) rfl
theorem q289 : (Jvm.Cond.code ({ cls := "TollsForLate", name := "feed", desc := "(IIIII)I" } : Jvm.MethodName) prog_1_method_11_code (6 : Nat) (Option.some Jvm.ClassFile.FieldType.int)) ∈ lw_all := lw_g (lw_at lw_m1 169 rfl) rfl
theorem q290 : (Jvm.Cond.methodLink "TollsForLate" (89 : Nat) ({ cls := "TollsForLate", name := "put", desc := "(I)V" } : Jvm.MethodName)) ∈ lw_all := lw_g (lw_at lw_m1 170 rfl) rfl
theorem q291 : (Jvm.Cond.privateMethod ({ cls := "TollsForLate", name := "put", desc := "(I)V" } : Jvm.MethodName)) ∈ lw_tbl := lw_at lw_m1 171 rfl
theorem q292 : (Jvm.Cond.instanceMethod ({ cls := "TollsForLate", name := "put", desc := "(I)V" } : Jvm.MethodName)) ∈ lw_all := lw_g (lw_at lw_m1 172 rfl) rfl
theorem q293 : (Jvm.Cond.code ({ cls := "TollsForLate", name := "put", desc := "(I)V" } : Jvm.MethodName) prog_1_method_10_code (3 : Nat) (Option.none : Option Jvm.ClassFile.FieldType)) ∈ lw_all := lw_g (lw_at lw_m1 173 rfl) rfl
theorem q295 : (Jvm.Cond.instanceMethod ({ cls := "TollsForLate", name := "end", desc := "(I)I" } : Jvm.MethodName)) ∈ lw_all := lw_g (lw_at lw_m1 175 rfl) rfl
theorem q296 : (Jvm.Cond.selects "TollsForLate" ({ cls := "TollsForLate", name := "end", desc := "(I)I" } : Jvm.MethodName) ({ cls := "TollsForLate", name := "end", desc := "(I)I" } : Jvm.MethodName)) ∈ lw_all := lw_g (lw_at lw_m1 176 rfl) rfl
theorem q297 : (Jvm.Cond.code ({ cls := "TollsForLate", name := "end", desc := "(I)I" } : Jvm.MethodName) prog_1_method_12_code (2 : Nat) (Option.some Jvm.ClassFile.FieldType.int)) ∈ lw_all := lw_g (lw_at lw_m1 177 rfl) rfl
theorem q299 : (Jvm.Cond.instanceMethod ({ cls := "TollsForLate", name := "text", desc := "()I" } : Jvm.MethodName)) ∈ lw_all := lw_g (lw_at lw_m1 179 rfl) rfl
theorem q300 : (Jvm.Cond.selects "TollsForLate" ({ cls := "TollsForLate", name := "text", desc := "()I" } : Jvm.MethodName) ({ cls := "TollsForLate", name := "text", desc := "()I" } : Jvm.MethodName)) ∈ lw_all := lw_g (lw_at lw_m1 180 rfl) rfl
theorem q301 : (Jvm.Cond.codeWith ({ cls := "TollsForLate", name := "text", desc := "()I" } : Jvm.MethodName) prog_1_method_13_code (5 : Nat) (Option.some Jvm.ClassFile.FieldType.int) [((30 : Nat), (62 : Nat), (70 : Nat), (106 : Nat)), ((30 : Nat), (62 : Nat), (96 : Nat), (0 : Nat)), ((70 : Nat), (89 : Nat), (96 : Nat), (0 : Nat)), ((96 : Nat), (98 : Nat), (96 : Nat), (0 : Nat))]) ∈ lw_all := lw_g (lw_at lw_m1 181 rfl) rfl
theorem q302 : (Jvm.Cond.classLink "TollsForLate" (106 : Nat) "TollsForLate$Wrong") ∈ lw_all := lw_g (lw_at lw_m1 182 rfl) rfl
theorem q303 : (Jvm.Cond.classLink "TollsForLate" (97 : Nat) "TollsForLate$Tokens") ∈ lw_all := lw_g (lw_at lw_m1 183 rfl) rfl
theorem q305 : (Jvm.Cond.methodLink "TollsForLate" (99 : Nat) ({ cls := "TollsForLate$Tokens", name := "<init>", desc := "([BI)V" } : Jvm.MethodName)) ∈ lw_all := lw_g (lw_at lw_m1 185 rfl) rfl
theorem q334 : (Jvm.Cond.methodLink "TollsForLate" (102 : Nat) ({ cls := "TollsForLate$Tokens", name := "read", desc := "()LTollsForLate$Text;" } : Jvm.MethodName)) ∈ lw_all := lw_g (lw_at lw_m1 214 rfl) rfl
theorem q374 : (Jvm.Cond.fieldLinkNest "TollsForLate" (120 : Nat) "TollsForLate$Text" "law" "[LTollsForLate$Sum;" "TollsForLate") ∈ lw_tbl := lw_at lw_m2 14 rfl
theorem q378 : (Jvm.Cond.fieldLinkNest "TollsForLate" (252 : Nat) "TollsForLate$Text" "doings" "Ljava/util/ArrayList;" "TollsForLate") ∈ lw_tbl := lw_at lw_m2 18 rfl
theorem q504 : (Jvm.Cond.fieldLinkNest "TollsForLate" (108 : Nat) "TollsForLate$Wrong" "fault" "I" "TollsForLate") ∈ lw_tbl := lw_at lw_m2 144 rfl
theorem q506 : (Jvm.Cond.fieldLinkNest "TollsForLate" (109 : Nat) "TollsForLate$Wrong" "place" "I" "TollsForLate") ∈ lw_tbl := lw_at lw_m2 146 rfl
theorem q634 : (Jvm.Cond.selects "TollsForLate" ({ cls := "java/lang/Object", name := "getClass", desc := "()Ljava/lang/Class;" } : Jvm.MethodName) ({ cls := "java/lang/Object", name := "getClass", desc := "()Ljava/lang/Class;" } : Jvm.MethodName)) ∈ lw_all := lw_g (lw_at lw_m3 34 rfl) rfl
theorem q864 : (Jvm.Cond.instanceMethod ({ cls := "TollsForLate", name := "fault", desc := "(I)I" } : Jvm.MethodName)) ∈ lw_all := lw_g (lw_at lw_m4 24 rfl) rfl
theorem q865 : (Jvm.Cond.selects "TollsForLate" ({ cls := "TollsForLate", name := "fault", desc := "(I)I" } : Jvm.MethodName) ({ cls := "TollsForLate", name := "fault", desc := "(I)I" } : Jvm.MethodName)) ∈ lw_all := lw_g (lw_at lw_m4 25 rfl) rfl
theorem q866 : (Jvm.Cond.code ({ cls := "TollsForLate", name := "fault", desc := "(I)I" } : Jvm.MethodName) prog_1_method_14_code (2 : Nat) (Option.some Jvm.ClassFile.FieldType.int)) ∈ lw_all := lw_g (lw_at lw_m4 26 rfl) rfl
theorem q868 : (Jvm.Cond.instanceMethod ({ cls := "TollsForLate", name := "by", desc := "(I)Z" } : Jvm.MethodName)) ∈ lw_all := lw_g (lw_at lw_m4 28 rfl) rfl
theorem q869 : (Jvm.Cond.selects "TollsForLate" ({ cls := "TollsForLate", name := "by", desc := "(I)Z" } : Jvm.MethodName) ({ cls := "TollsForLate", name := "by", desc := "(I)Z" } : Jvm.MethodName)) ∈ lw_all := lw_g (lw_at lw_m4 29 rfl) rfl
theorem q870 : (Jvm.Cond.code ({ cls := "TollsForLate", name := "by", desc := "(I)Z" } : Jvm.MethodName) prog_1_method_16_code (2 : Nat) (Option.some Jvm.ClassFile.FieldType.boolean)) ∈ lw_all := lw_g (lw_at lw_m4 30 rfl) rfl
theorem q871 : (Jvm.Cond.methodLink "TollsForLate" (112 : Nat) ({ cls := "TollsForLate", name := "isText", desc := "(I)Z" } : Jvm.MethodName)) ∈ lw_all := lw_g (lw_at lw_m4 31 rfl) rfl
theorem q872 : (Jvm.Cond.privateMethod ({ cls := "TollsForLate", name := "isText", desc := "(I)Z" } : Jvm.MethodName)) ∈ lw_tbl := lw_at lw_m4 32 rfl
theorem q873 : (Jvm.Cond.instanceMethod ({ cls := "TollsForLate", name := "isText", desc := "(I)Z" } : Jvm.MethodName)) ∈ lw_all := lw_g (lw_at lw_m4 33 rfl) rfl
theorem q874 : (Jvm.Cond.code ({ cls := "TollsForLate", name := "isText", desc := "(I)Z" } : Jvm.MethodName) prog_1_method_15_code (2 : Nat) (Option.some Jvm.ClassFile.FieldType.boolean)) ∈ lw_all := lw_g (lw_at lw_m4 34 rfl) rfl
theorem q876 : (Jvm.Cond.instanceMethod ({ cls := "TollsForLate", name := "day", desc := "(I)I" } : Jvm.MethodName)) ∈ lw_all := lw_g (lw_at lw_m4 36 rfl) rfl
theorem q877 : (Jvm.Cond.selects "TollsForLate" ({ cls := "TollsForLate", name := "day", desc := "(I)I" } : Jvm.MethodName) ({ cls := "TollsForLate", name := "day", desc := "(I)I" } : Jvm.MethodName)) ∈ lw_all := lw_g (lw_at lw_m4 37 rfl) rfl
theorem q878 : (Jvm.Cond.code ({ cls := "TollsForLate", name := "day", desc := "(I)I" } : Jvm.MethodName) prog_1_method_27_code (4 : Nat) (Option.some Jvm.ClassFile.FieldType.int)) ∈ lw_all := lw_g (lw_at lw_m4 38 rfl) rfl
theorem q879 : (Jvm.Cond.methodLink "TollsForLate" (191 : Nat) ({ cls := "TollsForLate$State", name := "keeps", desc := "()V" } : Jvm.MethodName)) ∈ lw_all := lw_g (lw_at lw_m4 39 rfl) rfl
theorem q883 : (Jvm.Cond.methodLink "TollsForLate" (194 : Nat) ({ cls := "TollsForLate", name := "passes", desc := "([I)I" } : Jvm.MethodName)) ∈ lw_all := lw_g (lw_at lw_m4 43 rfl) rfl
theorem q884 : (Jvm.Cond.privateMethod ({ cls := "TollsForLate", name := "passes", desc := "([I)I" } : Jvm.MethodName)) ∈ lw_tbl := lw_at lw_m4 44 rfl
theorem q885 : (Jvm.Cond.instanceMethod ({ cls := "TollsForLate", name := "passes", desc := "([I)I" } : Jvm.MethodName)) ∈ lw_all := lw_g (lw_at lw_m4 45 rfl) rfl
theorem q886 : (Jvm.Cond.code ({ cls := "TollsForLate", name := "passes", desc := "([I)I" } : Jvm.MethodName) prog_1_method_26_code (4 : Nat) (Option.some Jvm.ClassFile.FieldType.int)) ∈ lw_all := lw_g (lw_at lw_m4 46 rfl) rfl
theorem q887 : (Jvm.Cond.methodLink "TollsForLate" (174 : Nat) ({ cls := "TollsForLate", name := "draws", desc := "([I)V" } : Jvm.MethodName)) ∈ lw_all := lw_g (lw_at lw_m4 47 rfl) rfl
theorem q888 : (Jvm.Cond.static ({ cls := "TollsForLate", name := "draws", desc := "([I)V" } : Jvm.MethodName)) ∈ lw_all := lw_g (lw_at lw_m4 48 rfl) rfl
theorem q889 : (Jvm.Cond.code ({ cls := "TollsForLate", name := "draws", desc := "([I)V" } : Jvm.MethodName) prog_1_method_25_code (1 : Nat) (Option.none : Option Jvm.ClassFile.FieldType)) ∈ lw_all := lw_g (lw_at lw_m4 49 rfl) rfl
theorem q890 : (Jvm.Cond.methodLink "TollsForLate" (178 : Nat) ({ cls := "TollsForLate", name := "lateBy", desc := "([II)I" } : Jvm.MethodName)) ∈ lw_all := lw_g (lw_at lw_m4 50 rfl) rfl
theorem q891 : (Jvm.Cond.privateMethod ({ cls := "TollsForLate", name := "lateBy", desc := "([II)I" } : Jvm.MethodName)) ∈ lw_tbl := lw_at lw_m4 51 rfl
theorem q892 : (Jvm.Cond.instanceMethod ({ cls := "TollsForLate", name := "lateBy", desc := "([II)I" } : Jvm.MethodName)) ∈ lw_all := lw_g (lw_at lw_m4 52 rfl) rfl
theorem q893 : (Jvm.Cond.code ({ cls := "TollsForLate", name := "lateBy", desc := "([II)I" } : Jvm.MethodName) prog_1_method_23_code (6 : Nat) (Option.some Jvm.ClassFile.FieldType.int)) ∈ lw_all := lw_g (lw_at lw_m4 53 rfl) rfl
theorem q894 : (Jvm.Cond.methodLink "TollsForLate" (157 : Nat) ({ cls := "TollsForLate", name := "rules", desc := "()LTollsForLate$Text;" } : Jvm.MethodName)) ∈ lw_all := lw_g (lw_at lw_m4 54 rfl) rfl
theorem q895 : (Jvm.Cond.privateMethod ({ cls := "TollsForLate", name := "rules", desc := "()LTollsForLate$Text;" } : Jvm.MethodName)) ∈ lw_tbl := lw_at lw_m4 55 rfl
theorem q896 : (Jvm.Cond.instanceMethod ({ cls := "TollsForLate", name := "rules", desc := "()LTollsForLate$Text;" } : Jvm.MethodName)) ∈ lw_all := lw_g (lw_at lw_m4 56 rfl) rfl
theorem q897 : (Jvm.Cond.code ({ cls := "TollsForLate", name := "rules", desc := "()LTollsForLate$Text;" } : Jvm.MethodName) prog_1_method_17_code (1 : Nat) (Option.some (Jvm.ClassFile.FieldType.object "TollsForLate$Text"))) ∈ lw_all := lw_g (lw_at lw_m4 57 rfl) rfl
theorem q898 : (Jvm.Cond.fieldLink "TollsForLate" (116 : Nat) "TollsForLate" "NOTHING" "LTollsForLate$Text;") ∈ lw_all := lw_g (lw_at lw_m4 58 rfl) rfl
theorem q899 : (Jvm.Cond.laysStatic "TollsForLate" "NOTHING" "LTollsForLate$Text;") ∈ lw_tbl := lw_at lw_m4 59 rfl
theorem q900 : (Jvm.Cond.methodLink "TollsForLate" (160 : Nat) ({ cls := "TollsForLate", name := "runBy", desc := "(LTollsForLate$Text;[II)I" } : Jvm.MethodName)) ∈ lw_all := lw_g (lw_at lw_m4 60 rfl) rfl
theorem q901 : (Jvm.Cond.privateMethod ({ cls := "TollsForLate", name := "runBy", desc := "(LTollsForLate$Text;[II)I" } : Jvm.MethodName)) ∈ lw_tbl := lw_at lw_m4 61 rfl
theorem q902 : (Jvm.Cond.instanceMethod ({ cls := "TollsForLate", name := "runBy", desc := "(LTollsForLate$Text;[II)I" } : Jvm.MethodName)) ∈ lw_all := lw_g (lw_at lw_m4 62 rfl) rfl
theorem q903 : (Jvm.Cond.code ({ cls := "TollsForLate", name := "runBy", desc := "(LTollsForLate$Text;[II)I" } : Jvm.MethodName) prog_1_method_20_code (7 : Nat) (Option.some Jvm.ClassFile.FieldType.int)) ∈ lw_all := lw_g (lw_at lw_m4 63 rfl) rfl
theorem q904 : (Jvm.Cond.methodLink "TollsForLate" (136 : Nat) ({ cls := "TollsForLate", name := "namesOf", desc := "([III)V" } : Jvm.MethodName)) ∈ lw_all := lw_g (lw_at lw_m4 64 rfl) rfl
theorem q905 : (Jvm.Cond.privateMethod ({ cls := "TollsForLate", name := "namesOf", desc := "([III)V" } : Jvm.MethodName)) ∈ lw_tbl := lw_at lw_m4 65 rfl
theorem q906 : (Jvm.Cond.instanceMethod ({ cls := "TollsForLate", name := "namesOf", desc := "([III)V" } : Jvm.MethodName)) ∈ lw_all := lw_g (lw_at lw_m4 66 rfl) rfl
theorem q907 : (Jvm.Cond.code ({ cls := "TollsForLate", name := "namesOf", desc := "([III)V" } : Jvm.MethodName) prog_1_method_18_code (5 : Nat) (Option.none : Option Jvm.ClassFile.FieldType)) ∈ lw_all := lw_g (lw_at lw_m4 67 rfl) rfl
theorem q908 : (Jvm.Cond.methodLink "TollsForLate" (140 : Nat) ({ cls := "java/lang/Integer", name := "bitCount", desc := "(I)I" } : Jvm.MethodName)) ∈ lw_all := lw_g (lw_at lw_m4 68 rfl) rfl
theorem q914 : (Jvm.Cond.methodLink "TollsForLate" (146 : Nat) ({ cls := "TollsForLate", name := "law", desc := "(LTollsForLate$Text;III)I" } : Jvm.MethodName)) ∈ lw_all := lw_g (lw_at lw_m4 74 rfl) rfl
theorem q915 : (Jvm.Cond.privateMethod ({ cls := "TollsForLate", name := "law", desc := "(LTollsForLate$Text;III)I" } : Jvm.MethodName)) ∈ lw_tbl := lw_at lw_m4 75 rfl
theorem q916 : (Jvm.Cond.instanceMethod ({ cls := "TollsForLate", name := "law", desc := "(LTollsForLate$Text;III)I" } : Jvm.MethodName)) ∈ lw_all := lw_g (lw_at lw_m4 76 rfl) rfl
theorem q917 : (Jvm.Cond.code ({ cls := "TollsForLate", name := "law", desc := "(LTollsForLate$Text;III)I" } : Jvm.MethodName) prog_1_method_19_code (5 : Nat) (Option.some Jvm.ClassFile.FieldType.int)) ∈ lw_all := lw_g (lw_at lw_m4 77 rfl) rfl
theorem q918 : (Jvm.Cond.interfaceEntry "TollsForLate" (126 : Nat)) ∈ lw_tbl := lw_at lw_m4 78 rfl
theorem q919 : (Jvm.Cond.methodLink "TollsForLate" (126 : Nat) ({ cls := "TollsForLate$Sum", name := "of", desc := "([I)J" } : Jvm.MethodName)) ∈ lw_all := lw_g (lw_at lw_m4 79 rfl) rfl
theorem q1030 : (Jvm.Cond.methodLink "TollsForLate" (132 : Nat) ({ cls := "TollsForLate", name := "held", desc := "(JII)I" } : Jvm.MethodName)) ∈ lw_all := lw_g (lw_at lw_m4 190 rfl) rfl
theorem q1031 : (Jvm.Cond.static ({ cls := "TollsForLate", name := "held", desc := "(JII)I" } : Jvm.MethodName)) ∈ lw_all := lw_g (lw_at lw_m4 191 rfl) rfl
theorem q1032 : (Jvm.Cond.code ({ cls := "TollsForLate", name := "held", desc := "(JII)I" } : Jvm.MethodName) prog_1_method_3_code (4 : Nat) (Option.some Jvm.ClassFile.FieldType.int)) ∈ lw_all := lw_g (lw_at lw_m4 192 rfl) rfl
theorem q1033 : (Jvm.Cond.methodLink "TollsForLate" (3 : Nat) ({ cls := "java/lang/Math", name := "min", desc := "(JJ)J" } : Jvm.MethodName)) ∈ lw_all := lw_g (lw_at lw_m4 193 rfl) rfl
theorem q1034 : (Jvm.Cond.methodLink "TollsForLate" (9 : Nat) ({ cls := "java/lang/Math", name := "max", desc := "(JJ)J" } : Jvm.MethodName)) ∈ lw_all := lw_g (lw_at lw_m4 194 rfl) rfl
theorem q1035 : (Jvm.Cond.methodLink "TollsForLate" (164 : Nat) ({ cls := "TollsForLate", name := "takesBy", desc := "(LTollsForLate$Text;[IIII)I" } : Jvm.MethodName)) ∈ lw_all := lw_g (lw_at lw_m4 195 rfl) rfl
theorem q1036 : (Jvm.Cond.privateMethod ({ cls := "TollsForLate", name := "takesBy", desc := "(LTollsForLate$Text;[IIII)I" } : Jvm.MethodName)) ∈ lw_tbl := lw_at lw_m4 196 rfl
theorem q1037 : (Jvm.Cond.instanceMethod ({ cls := "TollsForLate", name := "takesBy", desc := "(LTollsForLate$Text;[IIII)I" } : Jvm.MethodName)) ∈ lw_all := lw_g (lw_at lw_m4 197 rfl) rfl
theorem q1038 : (Jvm.Cond.code ({ cls := "TollsForLate", name := "takesBy", desc := "(LTollsForLate$Text;[IIII)I" } : Jvm.MethodName) prog_1_method_22_code (6 : Nat) (Option.some Jvm.ClassFile.FieldType.int)) ∈ lw_all := lw_g (lw_at lw_m4 198 rfl) rfl
theorem q1039 : (Jvm.Cond.methodLink "TollsForLate" (153 : Nat) ({ cls := "TollsForLate", name := "onRoad", desc := "(II)I" } : Jvm.MethodName)) ∈ lw_all := lw_g (lw_at lw_m4 199 rfl) rfl
theorem q1040 : (Jvm.Cond.privateMethod ({ cls := "TollsForLate", name := "onRoad", desc := "(II)I" } : Jvm.MethodName)) ∈ lw_tbl := lw_at lw_m4 200 rfl
theorem q1041 : (Jvm.Cond.instanceMethod ({ cls := "TollsForLate", name := "onRoad", desc := "(II)I" } : Jvm.MethodName)) ∈ lw_all := lw_g (lw_at lw_m4 201 rfl) rfl
theorem q1042 : (Jvm.Cond.code ({ cls := "TollsForLate", name := "onRoad", desc := "(II)I" } : Jvm.MethodName) prog_1_method_21_code (5 : Nat) (Option.some Jvm.ClassFile.FieldType.int)) ∈ lw_all := lw_g (lw_at lw_m4 202 rfl) rfl
theorem q1043 : (Jvm.Cond.methodLink "TollsForLate" (149 : Nat) ({ cls := "TollsForLate", name := "has", desc := "(II)Z" } : Jvm.MethodName)) ∈ lw_all := lw_g (lw_at lw_m4 203 rfl) rfl
theorem q1044 : (Jvm.Cond.static ({ cls := "TollsForLate", name := "has", desc := "(II)Z" } : Jvm.MethodName)) ∈ lw_all := lw_g (lw_at lw_m4 204 rfl) rfl
theorem q1045 : (Jvm.Cond.code ({ cls := "TollsForLate", name := "has", desc := "(II)Z" } : Jvm.MethodName) prog_1_method_2_code (2 : Nat) (Option.some Jvm.ClassFile.FieldType.boolean)) ∈ lw_all := lw_g (lw_at lw_m4 205 rfl) rfl
theorem q1046 : (Jvm.Cond.methodLink "TollsForLate" (182 : Nat) ({ cls := "java/lang/Math", name := "min", desc := "(II)I" } : Jvm.MethodName)) ∈ lw_all := lw_g (lw_at lw_m4 206 rfl) rfl
theorem q1047 : (Jvm.Cond.methodLink "TollsForLate" (184 : Nat) ({ cls := "TollsForLate", name := "writes", desc := "([II)V" } : Jvm.MethodName)) ∈ lw_all := lw_g (lw_at lw_m4 207 rfl) rfl
theorem q1048 : (Jvm.Cond.static ({ cls := "TollsForLate", name := "writes", desc := "([II)V" } : Jvm.MethodName)) ∈ lw_all := lw_g (lw_at lw_m4 208 rfl) rfl
theorem q1049 : (Jvm.Cond.code ({ cls := "TollsForLate", name := "writes", desc := "([II)V" } : Jvm.MethodName) prog_1_method_24_code (3 : Nat) (Option.none : Option Jvm.ClassFile.FieldType)) ∈ lw_all := lw_g (lw_at lw_m4 209 rfl) rfl
theorem q1050 : (Jvm.Cond.methodLink "TollsForLate" (168 : Nat) ({ cls := "java/lang/System", name := "arraycopy", desc := "(Ljava/lang/Object;ILjava/lang/Object;II)V" } : Jvm.MethodName)) ∈ lw_all := lw_g (lw_at lw_m4 210 rfl) rfl
theorem q1052 : (Jvm.Cond.instanceMethod ({ cls := "TollsForLate", name := "ring", desc := "(I)Z" } : Jvm.MethodName)) ∈ lw_all := lw_g (lw_at lw_m4 212 rfl) rfl
theorem q1053 : (Jvm.Cond.selects "TollsForLate" ({ cls := "TollsForLate", name := "ring", desc := "(I)Z" } : Jvm.MethodName) ({ cls := "TollsForLate", name := "ring", desc := "(I)Z" } : Jvm.MethodName)) ∈ lw_all := lw_g (lw_at lw_m4 213 rfl) rfl
theorem q1054 : (Jvm.Cond.code ({ cls := "TollsForLate", name := "ring", desc := "(I)Z" } : Jvm.MethodName) prog_1_method_29_code (2 : Nat) (Option.some Jvm.ClassFile.FieldType.boolean)) ∈ lw_all := lw_g (lw_at lw_m4 214 rfl) rfl
theorem q1055 : (Jvm.Cond.methodLink "TollsForLate" (198 : Nat) ({ cls := "TollsForLate", name := "areRings", desc := "(I)Z" } : Jvm.MethodName)) ∈ lw_all := lw_g (lw_at lw_m4 215 rfl) rfl
theorem q1056 : (Jvm.Cond.privateMethod ({ cls := "TollsForLate", name := "areRings", desc := "(I)Z" } : Jvm.MethodName)) ∈ lw_tbl := lw_at lw_m4 216 rfl
theorem q1057 : (Jvm.Cond.instanceMethod ({ cls := "TollsForLate", name := "areRings", desc := "(I)Z" } : Jvm.MethodName)) ∈ lw_all := lw_g (lw_at lw_m4 217 rfl) rfl
theorem q1058 : (Jvm.Cond.code ({ cls := "TollsForLate", name := "areRings", desc := "(I)Z" } : Jvm.MethodName) prog_1_method_7_code (2 : Nat) (Option.some Jvm.ClassFile.FieldType.boolean)) ∈ lw_all := lw_g (lw_at lw_m4 218 rfl) rfl
theorem q1059 : (Jvm.Cond.methodLink "TollsForLate" (66 : Nat) ({ cls := "TollsForLate", name := "sets", desc := "()I" } : Jvm.MethodName)) ∈ lw_all := lw_g (lw_at lw_m4 219 rfl) rfl
theorem q1060 : (Jvm.Cond.privateMethod ({ cls := "TollsForLate", name := "sets", desc := "()I" } : Jvm.MethodName)) ∈ lw_tbl := lw_at lw_m4 220 rfl
theorem q1061 : (Jvm.Cond.instanceMethod ({ cls := "TollsForLate", name := "sets", desc := "()I" } : Jvm.MethodName)) ∈ lw_all := lw_g (lw_at lw_m4 221 rfl) rfl
theorem q1062 : (Jvm.Cond.code ({ cls := "TollsForLate", name := "sets", desc := "()I" } : Jvm.MethodName) prog_1_method_6_code (1 : Nat) (Option.some Jvm.ClassFile.FieldType.int)) ∈ lw_all := lw_g (lw_at lw_m4 222 rfl) rfl
theorem q1063 : (Jvm.Cond.methodLink "TollsForLate" (201 : Nat) ({ cls := "TollsForLate", name := "puts", desc := "(II)Z" } : Jvm.MethodName)) ∈ lw_all := lw_g (lw_at lw_m4 223 rfl) rfl
theorem q1064 : (Jvm.Cond.privateMethod ({ cls := "TollsForLate", name := "puts", desc := "(II)Z" } : Jvm.MethodName)) ∈ lw_tbl := lw_at lw_m4 224 rfl
theorem q1065 : (Jvm.Cond.instanceMethod ({ cls := "TollsForLate", name := "puts", desc := "(II)Z" } : Jvm.MethodName)) ∈ lw_all := lw_g (lw_at lw_m4 225 rfl) rfl
theorem q1066 : (Jvm.Cond.code ({ cls := "TollsForLate", name := "puts", desc := "(II)Z" } : Jvm.MethodName) prog_1_method_28_code (3 : Nat) (Option.some Jvm.ClassFile.FieldType.boolean)) ∈ lw_all := lw_g (lw_at lw_m4 226 rfl) rfl
theorem q1068 : (Jvm.Cond.instanceMethod ({ cls := "TollsForLate", name := "due", desc := "(II)Z" } : Jvm.MethodName)) ∈ lw_all := lw_g (lw_at lw_m4 228 rfl) rfl
theorem q1069 : (Jvm.Cond.selects "TollsForLate" ({ cls := "TollsForLate", name := "due", desc := "(II)Z" } : Jvm.MethodName) ({ cls := "TollsForLate", name := "due", desc := "(II)Z" } : Jvm.MethodName)) ∈ lw_all := lw_g (lw_at lw_m4 229 rfl) rfl
theorem q1070 : (Jvm.Cond.code ({ cls := "TollsForLate", name := "due", desc := "(II)Z" } : Jvm.MethodName) prog_1_method_31_code (3 : Nat) (Option.some Jvm.ClassFile.FieldType.boolean)) ∈ lw_all := lw_g (lw_at lw_m4 230 rfl) rfl
theorem q1071 : (Jvm.Cond.methodLink "TollsForLate" (207 : Nat) ({ cls := "TollsForLate", name := "canPutOff", desc := "(II)Z" } : Jvm.MethodName)) ∈ lw_all := lw_g (lw_at lw_m4 231 rfl) rfl
theorem q1072 : (Jvm.Cond.privateMethod ({ cls := "TollsForLate", name := "canPutOff", desc := "(II)Z" } : Jvm.MethodName)) ∈ lw_tbl := lw_at lw_m4 232 rfl
theorem q1073 : (Jvm.Cond.instanceMethod ({ cls := "TollsForLate", name := "canPutOff", desc := "(II)Z" } : Jvm.MethodName)) ∈ lw_all := lw_g (lw_at lw_m4 233 rfl) rfl
theorem q1074 : (Jvm.Cond.code ({ cls := "TollsForLate", name := "canPutOff", desc := "(II)Z" } : Jvm.MethodName) prog_1_method_30_code (3 : Nat) (Option.some Jvm.ClassFile.FieldType.boolean)) ∈ lw_all := lw_g (lw_at lw_m4 234 rfl) rfl
theorem q1075 : (Jvm.Cond.methodLink "TollsForLate" (204 : Nat) ({ cls := "TollsForLate", name := "isPerson", desc := "(I)Z" } : Jvm.MethodName)) ∈ lw_all := lw_g (lw_at lw_m4 235 rfl) rfl
theorem q1076 : (Jvm.Cond.privateMethod ({ cls := "TollsForLate", name := "isPerson", desc := "(I)Z" } : Jvm.MethodName)) ∈ lw_tbl := lw_at lw_m4 236 rfl
theorem q1077 : (Jvm.Cond.instanceMethod ({ cls := "TollsForLate", name := "isPerson", desc := "(I)Z" } : Jvm.MethodName)) ∈ lw_all := lw_g (lw_at lw_m4 237 rfl) rfl
theorem q1078 : (Jvm.Cond.code ({ cls := "TollsForLate", name := "isPerson", desc := "(I)Z" } : Jvm.MethodName) prog_1_method_5_code (2 : Nat) (Option.some Jvm.ClassFile.FieldType.boolean)) ∈ lw_all := lw_g (lw_at lw_m4 238 rfl) rfl
theorem q1080 : (Jvm.Cond.instanceMethod ({ cls := "TollsForLate", name := "bed", desc := "(I)Z" } : Jvm.MethodName)) ∈ lw_all := lw_g (lw_at lw_m5 0 rfl) rfl
theorem q1081 : (Jvm.Cond.selects "TollsForLate" ({ cls := "TollsForLate", name := "bed", desc := "(I)Z" } : Jvm.MethodName) ({ cls := "TollsForLate", name := "bed", desc := "(I)Z" } : Jvm.MethodName)) ∈ lw_all := lw_g (lw_at lw_m5 1 rfl) rfl
theorem q1082 : (Jvm.Cond.code ({ cls := "TollsForLate", name := "bed", desc := "(I)Z" } : Jvm.MethodName) prog_1_method_33_code (2 : Nat) (Option.some Jvm.ClassFile.FieldType.boolean)) ∈ lw_all := lw_g (lw_at lw_m5 2 rfl) rfl
theorem q1083 : (Jvm.Cond.methodLink "TollsForLate" (210 : Nat) ({ cls := "TollsForLate", name := "isIn", desc := "(II)Z" } : Jvm.MethodName)) ∈ lw_all := lw_g (lw_at lw_m5 3 rfl) rfl
theorem q1084 : (Jvm.Cond.privateMethod ({ cls := "TollsForLate", name := "isIn", desc := "(II)Z" } : Jvm.MethodName)) ∈ lw_tbl := lw_at lw_m5 4 rfl
theorem q1085 : (Jvm.Cond.instanceMethod ({ cls := "TollsForLate", name := "isIn", desc := "(II)Z" } : Jvm.MethodName)) ∈ lw_all := lw_g (lw_at lw_m5 5 rfl) rfl
theorem q1086 : (Jvm.Cond.code ({ cls := "TollsForLate", name := "isIn", desc := "(II)Z" } : Jvm.MethodName) prog_1_method_32_code (3 : Nat) (Option.some Jvm.ClassFile.FieldType.boolean)) ∈ lw_all := lw_g (lw_at lw_m5 6 rfl) rfl
theorem q1088 : (Jvm.Cond.instanceMethod ({ cls := "TollsForLate", name := "up", desc := "(I)Z" } : Jvm.MethodName)) ∈ lw_all := lw_g (lw_at lw_m5 8 rfl) rfl
theorem q1089 : (Jvm.Cond.selects "TollsForLate" ({ cls := "TollsForLate", name := "up", desc := "(I)Z" } : Jvm.MethodName) ({ cls := "TollsForLate", name := "up", desc := "(I)Z" } : Jvm.MethodName)) ∈ lw_all := lw_g (lw_at lw_m5 9 rfl) rfl
theorem q1090 : (Jvm.Cond.code ({ cls := "TollsForLate", name := "up", desc := "(I)Z" } : Jvm.MethodName) prog_1_method_34_code (2 : Nat) (Option.some Jvm.ClassFile.FieldType.boolean)) ∈ lw_all := lw_g (lw_at lw_m5 10 rfl) rfl
theorem q1092 : (Jvm.Cond.instanceMethod ({ cls := "TollsForLate", name := "played", desc := "(I)I" } : Jvm.MethodName)) ∈ lw_all := lw_g (lw_at lw_m5 12 rfl) rfl
theorem q1093 : (Jvm.Cond.selects "TollsForLate" ({ cls := "TollsForLate", name := "played", desc := "(I)I" } : Jvm.MethodName) ({ cls := "TollsForLate", name := "played", desc := "(I)I" } : Jvm.MethodName)) ∈ lw_all := lw_g (lw_at lw_m5 13 rfl) rfl
theorem q1094 : (Jvm.Cond.code ({ cls := "TollsForLate", name := "played", desc := "(I)I" } : Jvm.MethodName) prog_1_method_37_code (4 : Nat) (Option.some Jvm.ClassFile.FieldType.int)) ∈ lw_all := lw_g (lw_at lw_m5 14 rfl) rfl
theorem q1095 : (Jvm.Cond.methodLink "TollsForLate" (256 : Nat) ({ cls := "java/util/ArrayList", name := "size", desc := "()I" } : Jvm.MethodName)) ∈ lw_all := lw_g (lw_at lw_m5 15 rfl) rfl
theorem q1096 : (Jvm.Cond.methodLink "TollsForLate" (261 : Nat) ({ cls := "java/util/ArrayList", name := "get", desc := "(I)Ljava/lang/Object;" } : Jvm.MethodName)) ∈ lw_all := lw_g (lw_at lw_m5 16 rfl) rfl
theorem q1097 : (Jvm.Cond.classLink "TollsForLate" (217 : Nat) "TollsForLate$Doing") ∈ lw_all := lw_g (lw_at lw_m5 17 rfl) rfl
theorem q1098 : (Jvm.Cond.methodLink "TollsForLate" (265 : Nat) ({ cls := "TollsForLate", name := "does", desc := "(LTollsForLate$Doing;)Z" } : Jvm.MethodName)) ∈ lw_all := lw_g (lw_at lw_m5 18 rfl) rfl
theorem q1099 : (Jvm.Cond.privateMethod ({ cls := "TollsForLate", name := "does", desc := "(LTollsForLate$Doing;)Z" } : Jvm.MethodName)) ∈ lw_tbl := lw_at lw_m5 19 rfl
theorem q1100 : (Jvm.Cond.instanceMethod ({ cls := "TollsForLate", name := "does", desc := "(LTollsForLate$Doing;)Z" } : Jvm.MethodName)) ∈ lw_all := lw_g (lw_at lw_m5 20 rfl) rfl
theorem q1101 : (Jvm.Cond.code ({ cls := "TollsForLate", name := "does", desc := "(LTollsForLate$Doing;)Z" } : Jvm.MethodName) prog_1_method_36_code (2 : Nat) (Option.some Jvm.ClassFile.FieldType.boolean)) ∈ lw_all := lw_g (lw_at lw_m5 21 rfl) rfl
theorem q1102 : (Jvm.Cond.methodLink "TollsForLate" (216 : Nat) ({ cls := "TollsForLate$Doing", name := "sort", desc := "()I" } : Jvm.MethodName)) ∈ lw_all := lw_g (lw_at lw_m5 22 rfl) rfl
theorem q1106 : (Jvm.Cond.methodLink "TollsForLate" (221 : Nat) ({ cls := "TollsForLate$Doing", name := "a", desc := "()I" } : Jvm.MethodName)) ∈ lw_all := lw_g (lw_at lw_m5 26 rfl) rfl
theorem q1110 : (Jvm.Cond.methodLink "TollsForLate" (224 : Nat) ({ cls := "TollsForLate$Doing", name := "b", desc := "()I" } : Jvm.MethodName)) ∈ lw_all := lw_g (lw_at lw_m5 30 rfl) rfl
theorem q1114 : (Jvm.Cond.methodLink "TollsForLate" (227 : Nat) ({ cls := "TollsForLate$Doing", name := "c", desc := "()I" } : Jvm.MethodName)) ∈ lw_all := lw_g (lw_at lw_m5 34 rfl) rfl
theorem q1118 : (Jvm.Cond.methodLink "TollsForLate" (230 : Nat) ({ cls := "TollsForLate$Doing", name := "d", desc := "()I" } : Jvm.MethodName)) ∈ lw_all := lw_g (lw_at lw_m5 38 rfl) rfl
theorem q1122 : (Jvm.Cond.methodLink "TollsForLate" (233 : Nat) ({ cls := "TollsForLate", name := "person", desc := "(IIII)I" } : Jvm.MethodName)) ∈ lw_all := lw_g (lw_at lw_m5 42 rfl) rfl
theorem q1123 : (Jvm.Cond.methodLink "TollsForLate" (237 : Nat) ({ cls := "TollsForLate", name := "ring", desc := "(I)Z" } : Jvm.MethodName)) ∈ lw_all := lw_g (lw_at lw_m5 43 rfl) rfl
theorem q1124 : (Jvm.Cond.methodLink "TollsForLate" (240 : Nat) ({ cls := "TollsForLate", name := "due", desc := "(II)Z" } : Jvm.MethodName)) ∈ lw_all := lw_g (lw_at lw_m5 44 rfl) rfl
theorem q1125 : (Jvm.Cond.methodLink "TollsForLate" (243 : Nat) ({ cls := "TollsForLate", name := "bed", desc := "(I)Z" } : Jvm.MethodName)) ∈ lw_all := lw_g (lw_at lw_m5 45 rfl) rfl
theorem q1126 : (Jvm.Cond.methodLink "TollsForLate" (246 : Nat) ({ cls := "TollsForLate", name := "up", desc := "(I)Z" } : Jvm.MethodName)) ∈ lw_all := lw_g (lw_at lw_m5 46 rfl) rfl
theorem q1127 : (Jvm.Cond.methodLink "TollsForLate" (249 : Nat) ({ cls := "TollsForLate", name := "passesAll", desc := "(I)Z" } : Jvm.MethodName)) ∈ lw_all := lw_g (lw_at lw_m5 47 rfl) rfl
theorem q1128 : (Jvm.Cond.privateMethod ({ cls := "TollsForLate", name := "passesAll", desc := "(I)Z" } : Jvm.MethodName)) ∈ lw_tbl := lw_at lw_m5 48 rfl
theorem q1129 : (Jvm.Cond.instanceMethod ({ cls := "TollsForLate", name := "passesAll", desc := "(I)Z" } : Jvm.MethodName)) ∈ lw_all := lw_g (lw_at lw_m5 49 rfl) rfl
theorem q1130 : (Jvm.Cond.code ({ cls := "TollsForLate", name := "passesAll", desc := "(I)Z" } : Jvm.MethodName) prog_1_method_35_code (3 : Nat) (Option.some Jvm.ClassFile.FieldType.boolean)) ∈ lw_all := lw_g (lw_at lw_m5 50 rfl) rfl
theorem q1131 : (Jvm.Cond.methodLink "TollsForLate" (213 : Nat) ({ cls := "TollsForLate", name := "day", desc := "(I)I" } : Jvm.MethodName)) ∈ lw_all := lw_g (lw_at lw_m5 51 rfl) rfl
theorem q1132 : (Jvm.Cond.methodLink "TollsForLate" (269 : Nat) ({ cls := "TollsForLate$Doing", name := "number", desc := "()I" } : Jvm.MethodName)) ∈ lw_all := lw_g (lw_at lw_m5 52 rfl) rfl
theorem q1137 : (Jvm.Cond.instanceMethod ({ cls := "TollsForLate", name := "years", desc := "(II)I" } : Jvm.MethodName)) ∈ lw_all := lw_g (lw_at lw_m5 57 rfl) rfl
theorem q1138 : (Jvm.Cond.selects "TollsForLate" ({ cls := "TollsForLate", name := "years", desc := "(II)I" } : Jvm.MethodName) ({ cls := "TollsForLate", name := "years", desc := "(II)I" } : Jvm.MethodName)) ∈ lw_all := lw_g (lw_at lw_m5 58 rfl) rfl
theorem q1139 : (Jvm.Cond.code ({ cls := "TollsForLate", name := "years", desc := "(II)I" } : Jvm.MethodName) prog_1_method_39_code (6 : Nat) (Option.some Jvm.ClassFile.FieldType.int)) ∈ lw_all := lw_g (lw_at lw_m5 59 rfl) rfl
theorem q1140 : (Jvm.Cond.methodLink "TollsForLate" (272 : Nat) ({ cls := "TollsForLate", name := "befalls", desc := "(II)V" } : Jvm.MethodName)) ∈ lw_all := lw_g (lw_at lw_m5 60 rfl) rfl
theorem q1141 : (Jvm.Cond.privateMethod ({ cls := "TollsForLate", name := "befalls", desc := "(II)V" } : Jvm.MethodName)) ∈ lw_tbl := lw_at lw_m5 61 rfl
theorem q1142 : (Jvm.Cond.instanceMethod ({ cls := "TollsForLate", name := "befalls", desc := "(II)V" } : Jvm.MethodName)) ∈ lw_all := lw_g (lw_at lw_m5 62 rfl) rfl
theorem q1143 : (Jvm.Cond.code ({ cls := "TollsForLate", name := "befalls", desc := "(II)V" } : Jvm.MethodName) prog_1_method_38_code (4 : Nat) (Option.none : Option Jvm.ClassFile.FieldType)) ∈ lw_all := lw_g (lw_at lw_m5 63 rfl) rfl
theorem q1145 : (Jvm.Cond.instanceMethod ({ cls := "TollsForLate", name := "undo", desc := "()I" } : Jvm.MethodName)) ∈ lw_all := lw_g (lw_at lw_m5 65 rfl) rfl
theorem q1146 : (Jvm.Cond.selects "TollsForLate" ({ cls := "TollsForLate", name := "undo", desc := "()I" } : Jvm.MethodName) ({ cls := "TollsForLate", name := "undo", desc := "()I" } : Jvm.MethodName)) ∈ lw_all := lw_g (lw_at lw_m5 66 rfl) rfl
theorem q1147 : (Jvm.Cond.code ({ cls := "TollsForLate", name := "undo", desc := "()I" } : Jvm.MethodName) prog_1_method_40_code (1 : Nat) (Option.some Jvm.ClassFile.FieldType.int)) ∈ lw_all := lw_g (lw_at lw_m5 67 rfl) rfl
theorem q1148 : (Jvm.Cond.methodLinkNest "TollsForLate" (279 : Nat) ({ cls := "TollsForLate$State", name := "copy", desc := "([I[I)V" } : Jvm.MethodName) "TollsForLate") ∈ lw_tbl := lw_at lw_m5 68 rfl
theorem q1150 : (Jvm.Cond.instanceMethod ({ cls := "TollsForLate", name := "of", desc := "(II)I" } : Jvm.MethodName)) ∈ lw_all := lw_g (lw_at lw_m5 70 rfl) rfl
theorem q1151 : (Jvm.Cond.selects "TollsForLate" ({ cls := "TollsForLate", name := "of", desc := "(II)I" } : Jvm.MethodName) ({ cls := "TollsForLate", name := "of", desc := "(II)I" } : Jvm.MethodName)) ∈ lw_all := lw_g (lw_at lw_m5 71 rfl) rfl
theorem q1152 : (Jvm.Cond.code ({ cls := "TollsForLate", name := "of", desc := "(II)I" } : Jvm.MethodName) prog_1_method_42_code (3 : Nat) (Option.some Jvm.ClassFile.FieldType.int)) ∈ lw_all := lw_g (lw_at lw_m5 72 rfl) rfl
theorem q1153 : (Jvm.Cond.methodLink "TollsForLate" (283 : Nat) ({ cls := "TollsForLate", name := "takesNow", desc := "(LTollsForLate$Text;I)I" } : Jvm.MethodName)) ∈ lw_all := lw_g (lw_at lw_m5 73 rfl) rfl
theorem q1154 : (Jvm.Cond.privateMethod ({ cls := "TollsForLate", name := "takesNow", desc := "(LTollsForLate$Text;I)I" } : Jvm.MethodName)) ∈ lw_tbl := lw_at lw_m5 74 rfl
theorem q1155 : (Jvm.Cond.instanceMethod ({ cls := "TollsForLate", name := "takesNow", desc := "(LTollsForLate$Text;I)I" } : Jvm.MethodName)) ∈ lw_all := lw_g (lw_at lw_m5 75 rfl) rfl
theorem q1156 : (Jvm.Cond.code ({ cls := "TollsForLate", name := "takesNow", desc := "(LTollsForLate$Text;I)I" } : Jvm.MethodName) prog_1_method_41_code (3 : Nat) (Option.some Jvm.ClassFile.FieldType.int)) ∈ lw_all := lw_g (lw_at lw_m5 76 rfl) rfl
theorem q1158 : (Jvm.Cond.instanceMethod ({ cls := "TollsForLate", name := "is", desc := "(I)I" } : Jvm.MethodName)) ∈ lw_all := lw_g (lw_at lw_m5 78 rfl) rfl
theorem q1159 : (Jvm.Cond.selects "TollsForLate" ({ cls := "TollsForLate", name := "is", desc := "(I)I" } : Jvm.MethodName) ({ cls := "TollsForLate", name := "is", desc := "(I)I" } : Jvm.MethodName)) ∈ lw_all := lw_g (lw_at lw_m5 79 rfl) rfl
theorem q1160 : (Jvm.Cond.code ({ cls := "TollsForLate", name := "is", desc := "(I)I" } : Jvm.MethodName) prog_1_method_43_code (2 : Nat) (Option.some Jvm.ClassFile.FieldType.int)) ∈ lw_all := lw_g (lw_at lw_m5 80 rfl) rfl
theorem q1162 : (Jvm.Cond.instanceMethod ({ cls := "TollsForLate", name := "book", desc := "(II)I" } : Jvm.MethodName)) ∈ lw_all := lw_g (lw_at lw_m5 82 rfl) rfl
theorem q1163 : (Jvm.Cond.selects "TollsForLate" ({ cls := "TollsForLate", name := "book", desc := "(II)I" } : Jvm.MethodName) ({ cls := "TollsForLate", name := "book", desc := "(II)I" } : Jvm.MethodName)) ∈ lw_all := lw_g (lw_at lw_m5 83 rfl) rfl
theorem q1164 : (Jvm.Cond.code ({ cls := "TollsForLate", name := "book", desc := "(II)I" } : Jvm.MethodName) prog_1_method_44_code (3 : Nat) (Option.some Jvm.ClassFile.FieldType.int)) ∈ lw_all := lw_g (lw_at lw_m5 84 rfl) rfl
theorem q1166 : (Jvm.Cond.instanceMethod ({ cls := "TollsForLate", name := "foretold", desc := "(II)I" } : Jvm.MethodName)) ∈ lw_all := lw_g (lw_at lw_m5 86 rfl) rfl
theorem q1167 : (Jvm.Cond.selects "TollsForLate" ({ cls := "TollsForLate", name := "foretold", desc := "(II)I" } : Jvm.MethodName) ({ cls := "TollsForLate", name := "foretold", desc := "(II)I" } : Jvm.MethodName)) ∈ lw_all := lw_g (lw_at lw_m5 87 rfl) rfl
theorem q1168 : (Jvm.Cond.code ({ cls := "TollsForLate", name := "foretold", desc := "(II)I" } : Jvm.MethodName) prog_1_method_45_code (5 : Nat) (Option.some Jvm.ClassFile.FieldType.int)) ∈ lw_all := lw_g (lw_at lw_m5 88 rfl) rfl
theorem q1170 : (Jvm.Cond.instanceMethod ({ cls := "TollsForLate", name := "late", desc := "(I)I" } : Jvm.MethodName)) ∈ lw_all := lw_g (lw_at lw_m5 90 rfl) rfl
theorem q1171 : (Jvm.Cond.selects "TollsForLate" ({ cls := "TollsForLate", name := "late", desc := "(I)I" } : Jvm.MethodName) ({ cls := "TollsForLate", name := "late", desc := "(I)I" } : Jvm.MethodName)) ∈ lw_all := lw_g (lw_at lw_m5 91 rfl) rfl
theorem q1172 : (Jvm.Cond.code ({ cls := "TollsForLate", name := "late", desc := "(I)I" } : Jvm.MethodName) prog_1_method_46_code (2 : Nat) (Option.some Jvm.ClassFile.FieldType.int)) ∈ lw_all := lw_g (lw_at lw_m5 92 rfl) rfl
theorem q1174 : (Jvm.Cond.instanceMethod ({ cls := "TollsForLate", name := "runners", desc := "(I)I" } : Jvm.MethodName)) ∈ lw_all := lw_g (lw_at lw_m5 94 rfl) rfl
theorem q1175 : (Jvm.Cond.selects "TollsForLate" ({ cls := "TollsForLate", name := "runners", desc := "(I)I" } : Jvm.MethodName) ({ cls := "TollsForLate", name := "runners", desc := "(I)I" } : Jvm.MethodName)) ∈ lw_all := lw_g (lw_at lw_m5 95 rfl) rfl
theorem q1176 : (Jvm.Cond.code ({ cls := "TollsForLate", name := "runners", desc := "(I)I" } : Jvm.MethodName) prog_1_method_47_code (2 : Nat) (Option.some Jvm.ClassFile.FieldType.int)) ∈ lw_all := lw_g (lw_at lw_m5 96 rfl) rfl
theorem q1178 : (Jvm.Cond.instanceMethod ({ cls := "TollsForLate", name := "settled", desc := "(I)I" } : Jvm.MethodName)) ∈ lw_all := lw_g (lw_at lw_m5 98 rfl) rfl
theorem q1179 : (Jvm.Cond.selects "TollsForLate" ({ cls := "TollsForLate", name := "settled", desc := "(I)I" } : Jvm.MethodName) ({ cls := "TollsForLate", name := "settled", desc := "(I)I" } : Jvm.MethodName)) ∈ lw_all := lw_g (lw_at lw_m5 99 rfl) rfl
theorem q1180 : (Jvm.Cond.code ({ cls := "TollsForLate", name := "settled", desc := "(I)I" } : Jvm.MethodName) prog_1_method_50_code (2 : Nat) (Option.some Jvm.ClassFile.FieldType.int)) ∈ lw_all := lw_g (lw_at lw_m5 100 rfl) rfl
theorem q1181 : (Jvm.Cond.methodLink "TollsForLate" (293 : Nat) ({ cls := "TollsForLate", name := "laysSettled", desc := "()V" } : Jvm.MethodName)) ∈ lw_all := lw_g (lw_at lw_m5 101 rfl) rfl
theorem q1182 : (Jvm.Cond.privateMethod ({ cls := "TollsForLate", name := "laysSettled", desc := "()V" } : Jvm.MethodName)) ∈ lw_tbl := lw_at lw_m5 102 rfl
theorem q1183 : (Jvm.Cond.instanceMethod ({ cls := "TollsForLate", name := "laysSettled", desc := "()V" } : Jvm.MethodName)) ∈ lw_all := lw_g (lw_at lw_m5 103 rfl) rfl
theorem q1184 : (Jvm.Cond.code ({ cls := "TollsForLate", name := "laysSettled", desc := "()V" } : Jvm.MethodName) prog_1_method_49_code (2 : Nat) (Option.none : Option Jvm.ClassFile.FieldType)) ∈ lw_all := lw_g (lw_at lw_m5 104 rfl) rfl
theorem q1185 : (Jvm.Cond.methodLink "TollsForLate" (287 : Nat) ({ cls := "TollsForLate", name := "laysLeads", desc := "()V" } : Jvm.MethodName)) ∈ lw_all := lw_g (lw_at lw_m5 105 rfl) rfl
theorem q1186 : (Jvm.Cond.privateMethod ({ cls := "TollsForLate", name := "laysLeads", desc := "()V" } : Jvm.MethodName)) ∈ lw_tbl := lw_at lw_m5 106 rfl
theorem q1187 : (Jvm.Cond.instanceMethod ({ cls := "TollsForLate", name := "laysLeads", desc := "()V" } : Jvm.MethodName)) ∈ lw_all := lw_g (lw_at lw_m5 107 rfl) rfl
theorem q1188 : (Jvm.Cond.code ({ cls := "TollsForLate", name := "laysLeads", desc := "()V" } : Jvm.MethodName) prog_1_method_48_code (2 : Nat) (Option.none : Option Jvm.ClassFile.FieldType)) ∈ lw_all := lw_g (lw_at lw_m5 108 rfl) rfl
theorem q1190 : (Jvm.Cond.instanceMethod ({ cls := "TollsForLate", name := "fewest", desc := "(Z)I" } : Jvm.MethodName)) ∈ lw_all := lw_g (lw_at lw_m5 110 rfl) rfl
theorem q1191 : (Jvm.Cond.selects "TollsForLate" ({ cls := "TollsForLate", name := "fewest", desc := "(Z)I" } : Jvm.MethodName) ({ cls := "TollsForLate", name := "fewest", desc := "(Z)I" } : Jvm.MethodName)) ∈ lw_all := lw_g (lw_at lw_m5 111 rfl) rfl
theorem q1192 : (Jvm.Cond.code ({ cls := "TollsForLate", name := "fewest", desc := "(Z)I" } : Jvm.MethodName) prog_1_method_51_code (5 : Nat) (Option.some Jvm.ClassFile.FieldType.int)) ∈ lw_all := lw_g (lw_at lw_m5 112 rfl) rfl
theorem q1194 : (Jvm.Cond.instanceMethod ({ cls := "TollsForLate", name := "round", desc := "(I)I" } : Jvm.MethodName)) ∈ lw_all := lw_g (lw_at lw_m5 114 rfl) rfl
theorem q1195 : (Jvm.Cond.selects "TollsForLate" ({ cls := "TollsForLate", name := "round", desc := "(I)I" } : Jvm.MethodName) ({ cls := "TollsForLate", name := "round", desc := "(I)I" } : Jvm.MethodName)) ∈ lw_all := lw_g (lw_at lw_m5 115 rfl) rfl
theorem q1196 : (Jvm.Cond.code ({ cls := "TollsForLate", name := "round", desc := "(I)I" } : Jvm.MethodName) prog_1_method_54_code (2 : Nat) (Option.some Jvm.ClassFile.FieldType.int)) ∈ lw_all := lw_g (lw_at lw_m5 116 rfl) rfl
theorem q1197 : (Jvm.Cond.methodLink "TollsForLate" (299 : Nat) ({ cls := "TollsForLate", name := "roundOf", desc := "(I)I" } : Jvm.MethodName)) ∈ lw_all := lw_g (lw_at lw_m5 117 rfl) rfl
theorem q1198 : (Jvm.Cond.privateMethod ({ cls := "TollsForLate", name := "roundOf", desc := "(I)I" } : Jvm.MethodName)) ∈ lw_tbl := lw_at lw_m5 118 rfl
theorem q1199 : (Jvm.Cond.instanceMethod ({ cls := "TollsForLate", name := "roundOf", desc := "(I)I" } : Jvm.MethodName)) ∈ lw_all := lw_g (lw_at lw_m5 119 rfl) rfl
theorem q1200 : (Jvm.Cond.code ({ cls := "TollsForLate", name := "roundOf", desc := "(I)I" } : Jvm.MethodName) prog_1_method_53_code (4 : Nat) (Option.some Jvm.ClassFile.FieldType.int)) ∈ lw_all := lw_g (lw_at lw_m5 120 rfl) rfl
theorem q1201 : (Jvm.Cond.methodLink "TollsForLate" (296 : Nat) ({ cls := "TollsForLate", name := "leadsTo", desc := "(II)I" } : Jvm.MethodName)) ∈ lw_all := lw_g (lw_at lw_m5 121 rfl) rfl
theorem q1202 : (Jvm.Cond.privateMethod ({ cls := "TollsForLate", name := "leadsTo", desc := "(II)I" } : Jvm.MethodName)) ∈ lw_tbl := lw_at lw_m5 122 rfl
theorem q1203 : (Jvm.Cond.instanceMethod ({ cls := "TollsForLate", name := "leadsTo", desc := "(II)I" } : Jvm.MethodName)) ∈ lw_all := lw_g (lw_at lw_m5 123 rfl) rfl
theorem q1204 : (Jvm.Cond.code ({ cls := "TollsForLate", name := "leadsTo", desc := "(II)I" } : Jvm.MethodName) prog_1_method_52_code (5 : Nat) (Option.some Jvm.ClassFile.FieldType.int)) ∈ lw_all := lw_g (lw_at lw_m5 124 rfl) rfl
theorem q1206 : (Jvm.Cond.instanceMethod ({ cls := "TollsForLate", name := "tail", desc := "(I)I" } : Jvm.MethodName)) ∈ lw_all := lw_g (lw_at lw_m5 126 rfl) rfl
theorem q1207 : (Jvm.Cond.selects "TollsForLate" ({ cls := "TollsForLate", name := "tail", desc := "(I)I" } : Jvm.MethodName) ({ cls := "TollsForLate", name := "tail", desc := "(I)I" } : Jvm.MethodName)) ∈ lw_all := lw_g (lw_at lw_m5 127 rfl) rfl
theorem q1208 : (Jvm.Cond.code ({ cls := "TollsForLate", name := "tail", desc := "(I)I" } : Jvm.MethodName) prog_1_method_55_code (4 : Nat) (Option.some Jvm.ClassFile.FieldType.int)) ∈ lw_all := lw_g (lw_at lw_m5 128 rfl) rfl
theorem q1210 : (Jvm.Cond.instanceMethod ({ cls := "TollsForLate", name := "rounds", desc := "()I" } : Jvm.MethodName)) ∈ lw_all := lw_g (lw_at lw_m5 130 rfl) rfl
theorem q1211 : (Jvm.Cond.selects "TollsForLate" ({ cls := "TollsForLate", name := "rounds", desc := "()I" } : Jvm.MethodName) ({ cls := "TollsForLate", name := "rounds", desc := "()I" } : Jvm.MethodName)) ∈ lw_all := lw_g (lw_at lw_m5 131 rfl) rfl
theorem q1212 : (Jvm.Cond.code ({ cls := "TollsForLate", name := "rounds", desc := "()I" } : Jvm.MethodName) prog_1_method_57_code (3 : Nat) (Option.some Jvm.ClassFile.FieldType.int)) ∈ lw_all := lw_g (lw_at lw_m5 132 rfl) rfl
theorem q1213 : (Jvm.Cond.methodLink "TollsForLate" (302 : Nat) ({ cls := "TollsForLate", name := "leastOf", desc := "(I)I" } : Jvm.MethodName)) ∈ lw_all := lw_g (lw_at lw_m5 133 rfl) rfl
theorem q1214 : (Jvm.Cond.privateMethod ({ cls := "TollsForLate", name := "leastOf", desc := "(I)I" } : Jvm.MethodName)) ∈ lw_tbl := lw_at lw_m5 134 rfl
theorem q1215 : (Jvm.Cond.instanceMethod ({ cls := "TollsForLate", name := "leastOf", desc := "(I)I" } : Jvm.MethodName)) ∈ lw_all := lw_g (lw_at lw_m5 135 rfl) rfl
theorem q1216 : (Jvm.Cond.code ({ cls := "TollsForLate", name := "leastOf", desc := "(I)I" } : Jvm.MethodName) prog_1_method_56_code (5 : Nat) (Option.some Jvm.ClassFile.FieldType.int)) ∈ lw_all := lw_g (lw_at lw_m5 136 rfl) rfl
theorem q1218 : (Jvm.Cond.instanceMethod ({ cls := "TollsForLate", name := "basin", desc := "(I)I" } : Jvm.MethodName)) ∈ lw_all := lw_g (lw_at lw_m5 138 rfl) rfl
theorem q1219 : (Jvm.Cond.selects "TollsForLate" ({ cls := "TollsForLate", name := "basin", desc := "(I)I" } : Jvm.MethodName) ({ cls := "TollsForLate", name := "basin", desc := "(I)I" } : Jvm.MethodName)) ∈ lw_all := lw_g (lw_at lw_m5 139 rfl) rfl
theorem q1220 : (Jvm.Cond.code ({ cls := "TollsForLate", name := "basin", desc := "(I)I" } : Jvm.MethodName) prog_1_method_58_code (6 : Nat) (Option.some Jvm.ClassFile.FieldType.int)) ∈ lw_all := lw_g (lw_at lw_m5 140 rfl) rfl
theorem q1222 : (Jvm.Cond.instanceMethod ({ cls := "TollsForLate", name := "never", desc := "()I" } : Jvm.MethodName)) ∈ lw_all := lw_g (lw_at lw_m5 142 rfl) rfl
theorem q1223 : (Jvm.Cond.selects "TollsForLate" ({ cls := "TollsForLate", name := "never", desc := "()I" } : Jvm.MethodName) ({ cls := "TollsForLate", name := "never", desc := "()I" } : Jvm.MethodName)) ∈ lw_all := lw_g (lw_at lw_m5 143 rfl) rfl
theorem q1224 : (Jvm.Cond.code ({ cls := "TollsForLate", name := "never", desc := "()I" } : Jvm.MethodName) prog_1_method_59_code (4 : Nat) (Option.some Jvm.ClassFile.FieldType.int)) ∈ lw_all := lw_g (lw_at lw_m5 144 rfl) rfl
theorem q1227 : (Jvm.Cond.instanceMethod ({ cls := "TollsForLate", name := "after", desc := "(II)I" } : Jvm.MethodName)) ∈ lw_all := lw_g (lw_at lw_m5 147 rfl) rfl
theorem q1228 : (Jvm.Cond.selects "TollsForLate" ({ cls := "TollsForLate", name := "after", desc := "(II)I" } : Jvm.MethodName) ({ cls := "TollsForLate", name := "after", desc := "(II)I" } : Jvm.MethodName)) ∈ lw_all := lw_g (lw_at lw_m5 148 rfl) rfl
theorem q1229 : (Jvm.Cond.code ({ cls := "TollsForLate", name := "after", desc := "(II)I" } : Jvm.MethodName) prog_1_method_60_code (3 : Nat) (Option.some Jvm.ClassFile.FieldType.int)) ∈ lw_all := lw_g (lw_at lw_m5 149 rfl) rfl
theorem q1231 : (Jvm.Cond.instanceMethod ({ cls := "TollsForLate", name := "times", desc := "(II)I" } : Jvm.MethodName)) ∈ lw_all := lw_g (lw_at lw_m5 151 rfl) rfl
theorem q1232 : (Jvm.Cond.selects "TollsForLate" ({ cls := "TollsForLate", name := "times", desc := "(II)I" } : Jvm.MethodName) ({ cls := "TollsForLate", name := "times", desc := "(II)I" } : Jvm.MethodName)) ∈ lw_all := lw_g (lw_at lw_m5 152 rfl) rfl
theorem q1233 : (Jvm.Cond.code ({ cls := "TollsForLate", name := "times", desc := "(II)I" } : Jvm.MethodName) prog_1_method_61_code (5 : Nat) (Option.some Jvm.ClassFile.FieldType.int)) ∈ lw_all := lw_g (lw_at lw_m5 153 rfl) rfl
theorem q1235 : (Jvm.Cond.instanceMethod ({ cls := "TollsForLate", name := "apart", desc := "(II)I" } : Jvm.MethodName)) ∈ lw_all := lw_g (lw_at lw_m5 155 rfl) rfl
theorem q1236 : (Jvm.Cond.selects "TollsForLate" ({ cls := "TollsForLate", name := "apart", desc := "(II)I" } : Jvm.MethodName) ({ cls := "TollsForLate", name := "apart", desc := "(II)I" } : Jvm.MethodName)) ∈ lw_all := lw_g (lw_at lw_m5 156 rfl) rfl
theorem q1237 : (Jvm.Cond.code ({ cls := "TollsForLate", name := "apart", desc := "(II)I" } : Jvm.MethodName) prog_1_method_62_code (6 : Nat) (Option.some Jvm.ClassFile.FieldType.int)) ∈ lw_all := lw_g (lw_at lw_m5 157 rfl) rfl
theorem q1239 : (Jvm.Cond.instanceMethod ({ cls := "TollsForLate", name := "always", desc := "()I" } : Jvm.MethodName)) ∈ lw_all := lw_g (lw_at lw_m5 159 rfl) rfl
theorem q1240 : (Jvm.Cond.selects "TollsForLate" ({ cls := "TollsForLate", name := "always", desc := "()I" } : Jvm.MethodName) ({ cls := "TollsForLate", name := "always", desc := "()I" } : Jvm.MethodName)) ∈ lw_all := lw_g (lw_at lw_m5 160 rfl) rfl
theorem q1241 : (Jvm.Cond.code ({ cls := "TollsForLate", name := "always", desc := "()I" } : Jvm.MethodName) prog_1_method_64_code (5 : Nat) (Option.some Jvm.ClassFile.FieldType.int)) ∈ lw_all := lw_g (lw_at lw_m5 161 rfl) rfl
theorem q1242 : (Jvm.Cond.methodLink "TollsForLate" (305 : Nat) ({ cls := "TollsForLate", name := "isSettledBy", desc := "(II)Z" } : Jvm.MethodName)) ∈ lw_all := lw_g (lw_at lw_m5 162 rfl) rfl
theorem q1243 : (Jvm.Cond.privateMethod ({ cls := "TollsForLate", name := "isSettledBy", desc := "(II)Z" } : Jvm.MethodName)) ∈ lw_tbl := lw_at lw_m5 163 rfl
theorem q1244 : (Jvm.Cond.instanceMethod ({ cls := "TollsForLate", name := "isSettledBy", desc := "(II)Z" } : Jvm.MethodName)) ∈ lw_all := lw_g (lw_at lw_m5 164 rfl) rfl
theorem q1245 : (Jvm.Cond.code ({ cls := "TollsForLate", name := "isSettledBy", desc := "(II)Z" } : Jvm.MethodName) prog_1_method_63_code (3 : Nat) (Option.some Jvm.ClassFile.FieldType.boolean)) ∈ lw_all := lw_g (lw_at lw_m5 165 rfl) rfl
theorem q1247 : (Jvm.Cond.instanceMethod ({ cls := "TollsForLate", name := "calm", desc := "(Z)I" } : Jvm.MethodName)) ∈ lw_all := lw_g (lw_at lw_m5 167 rfl) rfl
theorem q1248 : (Jvm.Cond.selects "TollsForLate" ({ cls := "TollsForLate", name := "calm", desc := "(Z)I" } : Jvm.MethodName) ({ cls := "TollsForLate", name := "calm", desc := "(Z)I" } : Jvm.MethodName)) ∈ lw_all := lw_g (lw_at lw_m5 168 rfl) rfl
theorem q1249 : (Jvm.Cond.code ({ cls := "TollsForLate", name := "calm", desc := "(Z)I" } : Jvm.MethodName) prog_1_method_65_code (5 : Nat) (Option.some Jvm.ClassFile.FieldType.int)) ∈ lw_all := lw_g (lw_at lw_m5 169 rfl) rfl
theorem q1251 : (Jvm.Cond.instanceMethod ({ cls := "TollsForLate", name := "helped", desc := "(IZ)I" } : Jvm.MethodName)) ∈ lw_all := lw_g (lw_at lw_m5 171 rfl) rfl
theorem q1252 : (Jvm.Cond.selects "TollsForLate" ({ cls := "TollsForLate", name := "helped", desc := "(IZ)I" } : Jvm.MethodName) ({ cls := "TollsForLate", name := "helped", desc := "(IZ)I" } : Jvm.MethodName)) ∈ lw_all := lw_g (lw_at lw_m5 172 rfl) rfl
theorem q1253 : (Jvm.Cond.code ({ cls := "TollsForLate", name := "helped", desc := "(IZ)I" } : Jvm.MethodName) prog_1_method_66_code (5 : Nat) (Option.some Jvm.ClassFile.FieldType.int)) ∈ lw_all := lw_g (lw_at lw_m5 173 rfl) rfl
theorem q1255 : (Jvm.Cond.instanceMethod ({ cls := "TollsForLate", name := "early", desc := "(I)I" } : Jvm.MethodName)) ∈ lw_all := lw_g (lw_at lw_m5 175 rfl) rfl
theorem q1256 : (Jvm.Cond.selects "TollsForLate" ({ cls := "TollsForLate", name := "early", desc := "(I)I" } : Jvm.MethodName) ({ cls := "TollsForLate", name := "early", desc := "(I)I" } : Jvm.MethodName)) ∈ lw_all := lw_g (lw_at lw_m5 176 rfl) rfl
theorem q1257 : (Jvm.Cond.code ({ cls := "TollsForLate", name := "early", desc := "(I)I" } : Jvm.MethodName) prog_1_method_67_code (5 : Nat) (Option.some Jvm.ClassFile.FieldType.int)) ∈ lw_all := lw_g (lw_at lw_m5 177 rfl) rfl
theorem q1258 : (Jvm.Cond.methodLink "TollsForLate" (308 : Nat) ({ cls := "java/lang/Math", name := "max", desc := "(II)I" } : Jvm.MethodName)) ∈ lw_all := lw_g (lw_at lw_m5 178 rfl) rfl
theorem q1260 : (Jvm.Cond.instanceMethod ({ cls := "TollsForLate", name := "weathers", desc := "(I)I" } : Jvm.MethodName)) ∈ lw_all := lw_g (lw_at lw_m5 180 rfl) rfl
theorem q1261 : (Jvm.Cond.selects "TollsForLate" ({ cls := "TollsForLate", name := "weathers", desc := "(I)I" } : Jvm.MethodName) ({ cls := "TollsForLate", name := "weathers", desc := "(I)I" } : Jvm.MethodName)) ∈ lw_all := lw_g (lw_at lw_m5 181 rfl) rfl
theorem q1262 : (Jvm.Cond.code ({ cls := "TollsForLate", name := "weathers", desc := "(I)I" } : Jvm.MethodName) prog_1_method_68_code (4 : Nat) (Option.some Jvm.ClassFile.FieldType.int)) ∈ lw_all := lw_g (lw_at lw_m5 182 rfl) rfl
theorem q1264 : (Jvm.Cond.instanceMethod ({ cls := "TollsForLate", name := "needless", desc := "()I" } : Jvm.MethodName)) ∈ lw_all := lw_g (lw_at lw_m5 184 rfl) rfl
theorem q1265 : (Jvm.Cond.selects "TollsForLate" ({ cls := "TollsForLate", name := "needless", desc := "()I" } : Jvm.MethodName) ({ cls := "TollsForLate", name := "needless", desc := "()I" } : Jvm.MethodName)) ∈ lw_all := lw_g (lw_at lw_m5 185 rfl) rfl
theorem q1266 : (Jvm.Cond.code ({ cls := "TollsForLate", name := "needless", desc := "()I" } : Jvm.MethodName) prog_1_method_70_code (4 : Nat) (Option.some Jvm.ClassFile.FieldType.int)) ∈ lw_all := lw_g (lw_at lw_m5 186 rfl) rfl
theorem q1267 : (Jvm.Cond.methodLink "TollsForLate" (310 : Nat) ({ cls := "TollsForLate", name := "isInTime", desc := "(II)Z" } : Jvm.MethodName)) ∈ lw_all := lw_g (lw_at lw_m5 187 rfl) rfl
theorem q1268 : (Jvm.Cond.privateMethod ({ cls := "TollsForLate", name := "isInTime", desc := "(II)Z" } : Jvm.MethodName)) ∈ lw_tbl := lw_at lw_m5 188 rfl
theorem q1269 : (Jvm.Cond.instanceMethod ({ cls := "TollsForLate", name := "isInTime", desc := "(II)Z" } : Jvm.MethodName)) ∈ lw_all := lw_g (lw_at lw_m5 189 rfl) rfl
theorem q1270 : (Jvm.Cond.code ({ cls := "TollsForLate", name := "isInTime", desc := "(II)Z" } : Jvm.MethodName) prog_1_method_69_code (3 : Nat) (Option.some Jvm.ClassFile.FieldType.boolean)) ∈ lw_all := lw_g (lw_at lw_m5 190 rfl) rfl
theorem q1272 : (Jvm.Cond.instanceMethod ({ cls := "TollsForLate", name := "lateness", desc := "(I)I" } : Jvm.MethodName)) ∈ lw_all := lw_g (lw_at lw_m5 192 rfl) rfl
theorem q1273 : (Jvm.Cond.selects "TollsForLate" ({ cls := "TollsForLate", name := "lateness", desc := "(I)I" } : Jvm.MethodName) ({ cls := "TollsForLate", name := "lateness", desc := "(I)I" } : Jvm.MethodName)) ∈ lw_all := lw_g (lw_at lw_m5 193 rfl) rfl
theorem q1274 : (Jvm.Cond.code ({ cls := "TollsForLate", name := "lateness", desc := "(I)I" } : Jvm.MethodName) prog_1_method_71_code (5 : Nat) (Option.some Jvm.ClassFile.FieldType.int)) ∈ lw_all := lw_g (lw_at lw_m5 194 rfl) rfl
theorem q1276 : (Jvm.Cond.instanceMethod ({ cls := "TollsForLate", name := "race", desc := "(IZ)I" } : Jvm.MethodName)) ∈ lw_all := lw_g (lw_at lw_m5 196 rfl) rfl
theorem q1277 : (Jvm.Cond.selects "TollsForLate" ({ cls := "TollsForLate", name := "race", desc := "(IZ)I" } : Jvm.MethodName) ({ cls := "TollsForLate", name := "race", desc := "(IZ)I" } : Jvm.MethodName)) ∈ lw_all := lw_g (lw_at lw_m5 197 rfl) rfl
theorem q1278 : (Jvm.Cond.code ({ cls := "TollsForLate", name := "race", desc := "(IZ)I" } : Jvm.MethodName) prog_1_method_73_code (4 : Nat) (Option.some Jvm.ClassFile.FieldType.int)) ∈ lw_all := lw_g (lw_at lw_m5 198 rfl) rfl
theorem q1279 : (Jvm.Cond.methodLink "TollsForLate" (313 : Nat) ({ cls := "TollsForLate", name := "raced", desc := "(III)I" } : Jvm.MethodName)) ∈ lw_all := lw_g (lw_at lw_m5 199 rfl) rfl
theorem q1280 : (Jvm.Cond.privateMethod ({ cls := "TollsForLate", name := "raced", desc := "(III)I" } : Jvm.MethodName)) ∈ lw_tbl := lw_at lw_m5 200 rfl
theorem q1281 : (Jvm.Cond.instanceMethod ({ cls := "TollsForLate", name := "raced", desc := "(III)I" } : Jvm.MethodName)) ∈ lw_all := lw_g (lw_at lw_m5 201 rfl) rfl
theorem q1282 : (Jvm.Cond.code ({ cls := "TollsForLate", name := "raced", desc := "(III)I" } : Jvm.MethodName) prog_1_method_72_code (6 : Nat) (Option.some Jvm.ClassFile.FieldType.int)) ∈ lw_all := lw_g (lw_at lw_m5 202 rfl) rfl
theorem q1284 : (Jvm.Cond.instanceMethod ({ cls := "TollsForLate", name := "heard", desc := "(IZ)I" } : Jvm.MethodName)) ∈ lw_all := lw_g (lw_at lw_m5 204 rfl) rfl
theorem q1285 : (Jvm.Cond.selects "TollsForLate" ({ cls := "TollsForLate", name := "heard", desc := "(IZ)I" } : Jvm.MethodName) ({ cls := "TollsForLate", name := "heard", desc := "(IZ)I" } : Jvm.MethodName)) ∈ lw_all := lw_g (lw_at lw_m5 205 rfl) rfl
theorem q1286 : (Jvm.Cond.code ({ cls := "TollsForLate", name := "heard", desc := "(IZ)I" } : Jvm.MethodName) prog_1_method_74_code (3 : Nat) (Option.some Jvm.ClassFile.FieldType.int)) ∈ lw_all := lw_g (lw_at lw_m5 206 rfl) rfl
theorem q1287 : (Jvm.Cond.methodLink "TollsForLate" (317 : Nat) ({ cls := "TollsForLate$State", name := "clears", desc := "(I)I" } : Jvm.MethodName)) ∈ lw_all := lw_g (lw_at lw_m5 207 rfl) rfl
theorem q1291 : (Jvm.Cond.methodLink "TollsForLate" (323 : Nat) ({ cls := "TollsForLate$State", name := "adds", desc := "([[IIII)I" } : Jvm.MethodName)) ∈ lw_all := lw_g (lw_at lw_m5 211 rfl) rfl
theorem q1296 : (Jvm.Cond.instanceMethod ({ cls := "TollsForLate", name := "believes", desc := "(IZ)I" } : Jvm.MethodName)) ∈ lw_all := lw_g (lw_at lw_m5 216 rfl) rfl
theorem q1297 : (Jvm.Cond.selects "TollsForLate" ({ cls := "TollsForLate", name := "believes", desc := "(IZ)I" } : Jvm.MethodName) ({ cls := "TollsForLate", name := "believes", desc := "(IZ)I" } : Jvm.MethodName)) ∈ lw_all := lw_g (lw_at lw_m5 217 rfl) rfl
theorem q1298 : (Jvm.Cond.code ({ cls := "TollsForLate", name := "believes", desc := "(IZ)I" } : Jvm.MethodName) prog_1_method_78_code (5 : Nat) (Option.some Jvm.ClassFile.FieldType.int)) ∈ lw_all := lw_g (lw_at lw_m5 218 rfl) rfl
theorem q1299 : (Jvm.Cond.methodLink "TollsForLate" (333 : Nat) ({ cls := "TollsForLate", name := "laysHeard", desc := "()V" } : Jvm.MethodName)) ∈ lw_all := lw_g (lw_at lw_m5 219 rfl) rfl
theorem q1300 : (Jvm.Cond.privateMethod ({ cls := "TollsForLate", name := "laysHeard", desc := "()V" } : Jvm.MethodName)) ∈ lw_tbl := lw_at lw_m5 220 rfl
theorem q1301 : (Jvm.Cond.instanceMethod ({ cls := "TollsForLate", name := "laysHeard", desc := "()V" } : Jvm.MethodName)) ∈ lw_all := lw_g (lw_at lw_m5 221 rfl) rfl
theorem q1302 : (Jvm.Cond.code ({ cls := "TollsForLate", name := "laysHeard", desc := "()V" } : Jvm.MethodName) prog_1_method_76_code (3 : Nat) (Option.none : Option Jvm.ClassFile.FieldType)) ∈ lw_all := lw_g (lw_at lw_m5 222 rfl) rfl
theorem q1303 : (Jvm.Cond.methodLink "TollsForLate" (327 : Nat) ({ cls := "TollsForLate", name := "isHeard", desc := "(I)Z" } : Jvm.MethodName)) ∈ lw_all := lw_g (lw_at lw_m5 223 rfl) rfl
theorem q1304 : (Jvm.Cond.privateMethod ({ cls := "TollsForLate", name := "isHeard", desc := "(I)Z" } : Jvm.MethodName)) ∈ lw_tbl := lw_at lw_m5 224 rfl
theorem q1305 : (Jvm.Cond.instanceMethod ({ cls := "TollsForLate", name := "isHeard", desc := "(I)Z" } : Jvm.MethodName)) ∈ lw_all := lw_g (lw_at lw_m5 225 rfl) rfl
theorem q1306 : (Jvm.Cond.code ({ cls := "TollsForLate", name := "isHeard", desc := "(I)Z" } : Jvm.MethodName) prog_1_method_75_code (3 : Nat) (Option.some Jvm.ClassFile.FieldType.boolean)) ∈ lw_all := lw_g (lw_at lw_m5 226 rfl) rfl
theorem q1307 : (Jvm.Cond.methodLink "TollsForLate" (330 : Nat) ({ cls := "TollsForLate", name := "common", desc := "(II)I" } : Jvm.MethodName)) ∈ lw_all := lw_g (lw_at lw_m5 227 rfl) rfl
theorem q1308 : (Jvm.Cond.static ({ cls := "TollsForLate", name := "common", desc := "(II)I" } : Jvm.MethodName)) ∈ lw_all := lw_g (lw_at lw_m5 228 rfl) rfl
theorem q1309 : (Jvm.Cond.code ({ cls := "TollsForLate", name := "common", desc := "(II)I" } : Jvm.MethodName) prog_1_method_77_code (2 : Nat) (Option.some Jvm.ClassFile.FieldType.int)) ∈ lw_all := lw_g (lw_at lw_m5 229 rfl) rfl
theorem q1311 : (Jvm.Cond.instanceMethod ({ cls := "TollsForLate", name := "sure", desc := "(Z)I" } : Jvm.MethodName)) ∈ lw_all := lw_g (lw_at lw_m5 231 rfl) rfl
theorem q1312 : (Jvm.Cond.selects "TollsForLate" ({ cls := "TollsForLate", name := "sure", desc := "(Z)I" } : Jvm.MethodName) ({ cls := "TollsForLate", name := "sure", desc := "(Z)I" } : Jvm.MethodName)) ∈ lw_all := lw_g (lw_at lw_m5 232 rfl) rfl
theorem q1313 : (Jvm.Cond.code ({ cls := "TollsForLate", name := "sure", desc := "(Z)I" } : Jvm.MethodName) prog_1_method_79_code (4 : Nat) (Option.some Jvm.ClassFile.FieldType.int)) ∈ lw_all := lw_g (lw_at lw_m5 233 rfl) rfl
theorem q1315 : (Jvm.Cond.instanceMethod ({ cls := "TollsForLate", name := "tells", desc := "(I)I" } : Jvm.MethodName)) ∈ lw_all := lw_g (lw_at lw_m5 235 rfl) rfl
theorem q1316 : (Jvm.Cond.selects "TollsForLate" ({ cls := "TollsForLate", name := "tells", desc := "(I)I" } : Jvm.MethodName) ({ cls := "TollsForLate", name := "tells", desc := "(I)I" } : Jvm.MethodName)) ∈ lw_all := lw_g (lw_at lw_m5 236 rfl) rfl
theorem q1317 : (Jvm.Cond.code ({ cls := "TollsForLate", name := "tells", desc := "(I)I" } : Jvm.MethodName) prog_1_method_83_code (4 : Nat) (Option.some Jvm.ClassFile.FieldType.int)) ∈ lw_all := lw_g (lw_at lw_m5 237 rfl) rfl
theorem q1318 : (Jvm.Cond.methodLink "TollsForLate" (345 : Nat) ({ cls := "java/util/Arrays", name := "fill", desc := "([BB)V" } : Jvm.MethodName)) ∈ lw_all := lw_g (lw_at lw_m5 238 rfl) rfl
theorem q1321 : (Jvm.Cond.methodLink "TollsForLate" (339 : Nat) ({ cls := "TollsForLate", name := "askedOf", desc := "(I)I" } : Jvm.MethodName)) ∈ lw_all := lw_g (lw_at lw_m6 1 rfl) rfl
theorem q1322 : (Jvm.Cond.privateMethod ({ cls := "TollsForLate", name := "askedOf", desc := "(I)I" } : Jvm.MethodName)) ∈ lw_tbl := lw_at lw_m6 2 rfl
theorem q1323 : (Jvm.Cond.instanceMethod ({ cls := "TollsForLate", name := "askedOf", desc := "(I)I" } : Jvm.MethodName)) ∈ lw_all := lw_g (lw_at lw_m6 3 rfl) rfl
theorem q1324 : (Jvm.Cond.code ({ cls := "TollsForLate", name := "askedOf", desc := "(I)I" } : Jvm.MethodName) prog_1_method_82_code (4 : Nat) (Option.some Jvm.ClassFile.FieldType.int)) ∈ lw_all := lw_g (lw_at lw_m6 4 rfl) rfl
theorem q1325 : (Jvm.Cond.methodLink "TollsForLate" (342 : Nat) ({ cls := "TollsForLate", name := "askedBy", desc := "(II)I" } : Jvm.MethodName)) ∈ lw_all := lw_g (lw_at lw_m6 5 rfl) rfl
theorem q1326 : (Jvm.Cond.privateMethod ({ cls := "TollsForLate", name := "askedBy", desc := "(II)I" } : Jvm.MethodName)) ∈ lw_tbl := lw_at lw_m6 6 rfl
theorem q1327 : (Jvm.Cond.instanceMethod ({ cls := "TollsForLate", name := "askedBy", desc := "(II)I" } : Jvm.MethodName)) ∈ lw_all := lw_g (lw_at lw_m6 7 rfl) rfl
theorem q1328 : (Jvm.Cond.code ({ cls := "TollsForLate", name := "askedBy", desc := "(II)I" } : Jvm.MethodName) prog_1_method_81_code (4 : Nat) (Option.some Jvm.ClassFile.FieldType.int)) ∈ lw_all := lw_g (lw_at lw_m6 8 rfl) rfl
theorem q1329 : (Jvm.Cond.methodLink "TollsForLate" (336 : Nat) ({ cls := "TollsForLate", name := "lateOn", desc := "(II)I" } : Jvm.MethodName)) ∈ lw_all := lw_g (lw_at lw_m6 9 rfl) rfl
theorem q1330 : (Jvm.Cond.privateMethod ({ cls := "TollsForLate", name := "lateOn", desc := "(II)I" } : Jvm.MethodName)) ∈ lw_tbl := lw_at lw_m6 10 rfl
theorem q1331 : (Jvm.Cond.instanceMethod ({ cls := "TollsForLate", name := "lateOn", desc := "(II)I" } : Jvm.MethodName)) ∈ lw_all := lw_g (lw_at lw_m6 11 rfl) rfl
theorem q1332 : (Jvm.Cond.code ({ cls := "TollsForLate", name := "lateOn", desc := "(II)I" } : Jvm.MethodName) prog_1_method_80_code (5 : Nat) (Option.some Jvm.ClassFile.FieldType.int)) ∈ lw_all := lw_g (lw_at lw_m6 12 rfl) rfl
theorem q1334 : (Jvm.Cond.instanceMethod ({ cls := "TollsForLate", name := "asleep", desc := "(Z)I" } : Jvm.MethodName)) ∈ lw_all := lw_g (lw_at lw_m6 14 rfl) rfl
theorem q1335 : (Jvm.Cond.selects "TollsForLate" ({ cls := "TollsForLate", name := "asleep", desc := "(Z)I" } : Jvm.MethodName) ({ cls := "TollsForLate", name := "asleep", desc := "(Z)I" } : Jvm.MethodName)) ∈ lw_all := lw_g (lw_at lw_m6 15 rfl) rfl
theorem q1336 : (Jvm.Cond.code ({ cls := "TollsForLate", name := "asleep", desc := "(Z)I" } : Jvm.MethodName) prog_1_method_86_code (5 : Nat) (Option.some Jvm.ClassFile.FieldType.int)) ∈ lw_all := lw_g (lw_at lw_m6 16 rfl) rfl
theorem q1337 : (Jvm.Cond.methodLink "TollsForLate" (351 : Nat) ({ cls := "TollsForLate", name := "bedNow", desc := "()I" } : Jvm.MethodName)) ∈ lw_all := lw_g (lw_at lw_m6 17 rfl) rfl
theorem q1338 : (Jvm.Cond.privateMethod ({ cls := "TollsForLate", name := "bedNow", desc := "()I" } : Jvm.MethodName)) ∈ lw_tbl := lw_at lw_m6 18 rfl
theorem q1339 : (Jvm.Cond.instanceMethod ({ cls := "TollsForLate", name := "bedNow", desc := "()I" } : Jvm.MethodName)) ∈ lw_all := lw_g (lw_at lw_m6 19 rfl) rfl
theorem q1340 : (Jvm.Cond.code ({ cls := "TollsForLate", name := "bedNow", desc := "()I" } : Jvm.MethodName) prog_1_method_84_code (3 : Nat) (Option.some Jvm.ClassFile.FieldType.int)) ∈ lw_all := lw_g (lw_at lw_m6 20 rfl) rfl
theorem q1341 : (Jvm.Cond.methodLink "TollsForLate" (354 : Nat) ({ cls := "TollsForLate", name := "isQuiet", desc := "(I)Z" } : Jvm.MethodName)) ∈ lw_all := lw_g (lw_at lw_m6 21 rfl) rfl
theorem q1342 : (Jvm.Cond.privateMethod ({ cls := "TollsForLate", name := "isQuiet", desc := "(I)Z" } : Jvm.MethodName)) ∈ lw_tbl := lw_at lw_m6 22 rfl
theorem q1343 : (Jvm.Cond.instanceMethod ({ cls := "TollsForLate", name := "isQuiet", desc := "(I)Z" } : Jvm.MethodName)) ∈ lw_all := lw_g (lw_at lw_m6 23 rfl) rfl
theorem q1344 : (Jvm.Cond.code ({ cls := "TollsForLate", name := "isQuiet", desc := "(I)Z" } : Jvm.MethodName) prog_1_method_85_code (3 : Nat) (Option.some Jvm.ClassFile.FieldType.boolean)) ∈ lw_all := lw_g (lw_at lw_m6 24 rfl) rfl
theorem q1346 : (Jvm.Cond.instanceMethod ({ cls := "TollsForLate", name := "slack", desc := "(I)I" } : Jvm.MethodName)) ∈ lw_all := lw_g (lw_at lw_m6 26 rfl) rfl
theorem q1347 : (Jvm.Cond.selects "TollsForLate" ({ cls := "TollsForLate", name := "slack", desc := "(I)I" } : Jvm.MethodName) ({ cls := "TollsForLate", name := "slack", desc := "(I)I" } : Jvm.MethodName)) ∈ lw_all := lw_g (lw_at lw_m6 27 rfl) rfl
theorem q1348 : (Jvm.Cond.code ({ cls := "TollsForLate", name := "slack", desc := "(I)I" } : Jvm.MethodName) prog_1_method_87_code (2 : Nat) (Option.some Jvm.ClassFile.FieldType.int)) ∈ lw_all := lw_g (lw_at lw_m6 28 rfl) rfl
theorem q1350 : (Jvm.Cond.instanceMethod ({ cls := "TollsForLate", name := "least", desc := "(I)I" } : Jvm.MethodName)) ∈ lw_all := lw_g (lw_at lw_m6 30 rfl) rfl
theorem q1351 : (Jvm.Cond.selects "TollsForLate" ({ cls := "TollsForLate", name := "least", desc := "(I)I" } : Jvm.MethodName) ({ cls := "TollsForLate", name := "least", desc := "(I)I" } : Jvm.MethodName)) ∈ lw_all := lw_g (lw_at lw_m6 31 rfl) rfl
theorem q1352 : (Jvm.Cond.code ({ cls := "TollsForLate", name := "least", desc := "(I)I" } : Jvm.MethodName) prog_1_method_88_code (2 : Nat) (Option.some Jvm.ClassFile.FieldType.int)) ∈ lw_all := lw_g (lw_at lw_m6 32 rfl) rfl
theorem q1354 : (Jvm.Cond.instanceMethod ({ cls := "TollsForLate", name := "moves", desc := "(II)I" } : Jvm.MethodName)) ∈ lw_all := lw_g (lw_at lw_m6 34 rfl) rfl
theorem q1355 : (Jvm.Cond.selects "TollsForLate" ({ cls := "TollsForLate", name := "moves", desc := "(II)I" } : Jvm.MethodName) ({ cls := "TollsForLate", name := "moves", desc := "(II)I" } : Jvm.MethodName)) ∈ lw_all := lw_g (lw_at lw_m6 35 rfl) rfl
theorem q1356 : (Jvm.Cond.code ({ cls := "TollsForLate", name := "moves", desc := "(II)I" } : Jvm.MethodName) prog_1_method_89_code (4 : Nat) (Option.some Jvm.ClassFile.FieldType.int)) ∈ lw_all := lw_g (lw_at lw_m6 36 rfl) rfl
theorem q1358 : (Jvm.Cond.instanceMethod ({ cls := "TollsForLate", name := "said", desc := "(II)I" } : Jvm.MethodName)) ∈ lw_all := lw_g (lw_at lw_m6 38 rfl) rfl
theorem q1359 : (Jvm.Cond.selects "TollsForLate" ({ cls := "TollsForLate", name := "said", desc := "(II)I" } : Jvm.MethodName) ({ cls := "TollsForLate", name := "said", desc := "(II)I" } : Jvm.MethodName)) ∈ lw_all := lw_g (lw_at lw_m6 39 rfl) rfl
theorem q1360 : (Jvm.Cond.code ({ cls := "TollsForLate", name := "said", desc := "(II)I" } : Jvm.MethodName) prog_1_method_90_code (3 : Nat) (Option.some Jvm.ClassFile.FieldType.int)) ∈ lw_all := lw_g (lw_at lw_m6 40 rfl) rfl
theorem q1362 : (Jvm.Cond.instanceMethod ({ cls := "TollsForLate", name := "whose", desc := "()I" } : Jvm.MethodName)) ∈ lw_all := lw_g (lw_at lw_m6 42 rfl) rfl
theorem q1363 : (Jvm.Cond.selects "TollsForLate" ({ cls := "TollsForLate", name := "whose", desc := "()I" } : Jvm.MethodName) ({ cls := "TollsForLate", name := "whose", desc := "()I" } : Jvm.MethodName)) ∈ lw_all := lw_g (lw_at lw_m6 43 rfl) rfl
theorem q1364 : (Jvm.Cond.code ({ cls := "TollsForLate", name := "whose", desc := "()I" } : Jvm.MethodName) prog_1_method_92_code (3 : Nat) (Option.some Jvm.ClassFile.FieldType.int)) ∈ lw_all := lw_g (lw_at lw_m6 44 rfl) rfl
theorem q1365 : (Jvm.Cond.methodLink "TollsForLate" (360 : Nat) ({ cls := "TollsForLate", name := "isLaw", desc := "(LTollsForLate$Text;)Z" } : Jvm.MethodName)) ∈ lw_all := lw_g (lw_at lw_m6 45 rfl) rfl
theorem q1366 : (Jvm.Cond.privateMethod ({ cls := "TollsForLate", name := "isLaw", desc := "(LTollsForLate$Text;)Z" } : Jvm.MethodName)) ∈ lw_tbl := lw_at lw_m6 46 rfl
theorem q1367 : (Jvm.Cond.instanceMethod ({ cls := "TollsForLate", name := "isLaw", desc := "(LTollsForLate$Text;)Z" } : Jvm.MethodName)) ∈ lw_all := lw_g (lw_at lw_m6 47 rfl) rfl
theorem q1368 : (Jvm.Cond.code ({ cls := "TollsForLate", name := "isLaw", desc := "(LTollsForLate$Text;)Z" } : Jvm.MethodName) prog_1_method_91_code (3 : Nat) (Option.some Jvm.ClassFile.FieldType.boolean)) ∈ lw_all := lw_g (lw_at lw_m6 48 rfl) rfl
theorem q1370 : (Jvm.Cond.instanceMethod ({ cls := "TollsForLate", name := "latest", desc := "()I" } : Jvm.MethodName)) ∈ lw_all := lw_g (lw_at lw_m6 50 rfl) rfl
theorem q1371 : (Jvm.Cond.selects "TollsForLate" ({ cls := "TollsForLate", name := "latest", desc := "()I" } : Jvm.MethodName) ({ cls := "TollsForLate", name := "latest", desc := "()I" } : Jvm.MethodName)) ∈ lw_all := lw_g (lw_at lw_m6 51 rfl) rfl
theorem q1372 : (Jvm.Cond.code ({ cls := "TollsForLate", name := "latest", desc := "()I" } : Jvm.MethodName) prog_1_method_93_code (3 : Nat) (Option.some Jvm.ClassFile.FieldType.int)) ∈ lw_all := lw_g (lw_at lw_m6 52 rfl) rfl
theorem q1374 : (Jvm.Cond.instanceMethod ({ cls := "TollsForLate", name := "crowded", desc := "()I" } : Jvm.MethodName)) ∈ lw_all := lw_g (lw_at lw_m6 54 rfl) rfl
theorem q1375 : (Jvm.Cond.selects "TollsForLate" ({ cls := "TollsForLate", name := "crowded", desc := "()I" } : Jvm.MethodName) ({ cls := "TollsForLate", name := "crowded", desc := "()I" } : Jvm.MethodName)) ∈ lw_all := lw_g (lw_at lw_m6 55 rfl) rfl
theorem q1376 : (Jvm.Cond.code ({ cls := "TollsForLate", name := "crowded", desc := "()I" } : Jvm.MethodName) prog_1_method_94_code (4 : Nat) (Option.some Jvm.ClassFile.FieldType.int)) ∈ lw_all := lw_g (lw_at lw_m6 56 rfl) rfl
theorem q1378 : (Jvm.Cond.instanceMethod ({ cls := "TollsForLate", name := "deaf", desc := "()I" } : Jvm.MethodName)) ∈ lw_all := lw_g (lw_at lw_m6 58 rfl) rfl
theorem q1379 : (Jvm.Cond.selects "TollsForLate" ({ cls := "TollsForLate", name := "deaf", desc := "()I" } : Jvm.MethodName) ({ cls := "TollsForLate", name := "deaf", desc := "()I" } : Jvm.MethodName)) ∈ lw_all := lw_g (lw_at lw_m6 59 rfl) rfl
theorem q1380 : (Jvm.Cond.code ({ cls := "TollsForLate", name := "deaf", desc := "()I" } : Jvm.MethodName) prog_1_method_95_code (3 : Nat) (Option.some Jvm.ClassFile.FieldType.int)) ∈ lw_all := lw_g (lw_at lw_m6 60 rfl) rfl
theorem q1382 : (Jvm.Cond.instanceMethod ({ cls := "TollsForLate", name := "ledger", desc := "(I)I" } : Jvm.MethodName)) ∈ lw_all := lw_g (lw_at lw_m6 62 rfl) rfl
theorem q1383 : (Jvm.Cond.selects "TollsForLate" ({ cls := "TollsForLate", name := "ledger", desc := "(I)I" } : Jvm.MethodName) ({ cls := "TollsForLate", name := "ledger", desc := "(I)I" } : Jvm.MethodName)) ∈ lw_all := lw_g (lw_at lw_m6 63 rfl) rfl
theorem q1384 : (Jvm.Cond.code ({ cls := "TollsForLate", name := "ledger", desc := "(I)I" } : Jvm.MethodName) prog_1_method_96_code (5 : Nat) (Option.some Jvm.ClassFile.FieldType.int)) ∈ lw_all := lw_g (lw_at lw_m6 64 rfl) rfl
theorem q1386 : (Jvm.Cond.instanceMethod ({ cls := "TollsForLate", name := "image", desc := "()I" } : Jvm.MethodName)) ∈ lw_all := lw_g (lw_at lw_m6 66 rfl) rfl
theorem q1387 : (Jvm.Cond.selects "TollsForLate" ({ cls := "TollsForLate", name := "image", desc := "()I" } : Jvm.MethodName) ({ cls := "TollsForLate", name := "image", desc := "()I" } : Jvm.MethodName)) ∈ lw_all := lw_g (lw_at lw_m6 67 rfl) rfl
theorem q1388 : (Jvm.Cond.code ({ cls := "TollsForLate", name := "image", desc := "()I" } : Jvm.MethodName) prog_1_method_97_code (1 : Nat) (Option.some Jvm.ClassFile.FieldType.int)) ∈ lw_all := lw_g (lw_at lw_m6 68 rfl) rfl
theorem q1390 : (Jvm.Cond.instanceMethod ({ cls := "TollsForLate", name := "back", desc := "()I" } : Jvm.MethodName)) ∈ lw_all := lw_g (lw_at lw_m6 70 rfl) rfl
theorem q1391 : (Jvm.Cond.selects "TollsForLate" ({ cls := "TollsForLate", name := "back", desc := "()I" } : Jvm.MethodName) ({ cls := "TollsForLate", name := "back", desc := "()I" } : Jvm.MethodName)) ∈ lw_all := lw_g (lw_at lw_m6 71 rfl) rfl
theorem q1392 : (Jvm.Cond.code ({ cls := "TollsForLate", name := "back", desc := "()I" } : Jvm.MethodName) prog_1_method_98_code (1 : Nat) (Option.some Jvm.ClassFile.FieldType.int)) ∈ lw_all := lw_g (lw_at lw_m6 72 rfl) rfl
theorem q1394 : (Jvm.Cond.instanceMethod ({ cls := "TollsForLate", name := "about", desc := "(I)I" } : Jvm.MethodName)) ∈ lw_all := lw_g (lw_at lw_m6 74 rfl) rfl
theorem q1395 : (Jvm.Cond.selects "TollsForLate" ({ cls := "TollsForLate", name := "about", desc := "(I)I" } : Jvm.MethodName) ({ cls := "TollsForLate", name := "about", desc := "(I)I" } : Jvm.MethodName)) ∈ lw_all := lw_g (lw_at lw_m6 75 rfl) rfl
theorem q1396 : (Jvm.Cond.code ({ cls := "TollsForLate", name := "about", desc := "(I)I" } : Jvm.MethodName) prog_1_method_99_code (2 : Nat) (Option.some Jvm.ClassFile.FieldType.int)) ∈ lw_all := lw_g (lw_at lw_m6 76 rfl) rfl
theorem q2053 : (Jvm.Cond.castable "TollsForLate" "java/lang/Object") ∈ lw_tbl := lw_at lw_m9 13 rfl
theorem in_X0 : ∀ w ∈ wsX00, w ∈ lw_all := lw_in wsX00 [245, 247, 249, 251, 253, 255, 257, 259, 261, 263, 265, 267] (by decide +kernel) (by decide +kernel)
