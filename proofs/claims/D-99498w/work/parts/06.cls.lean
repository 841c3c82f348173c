/-! THE CLASSES of the pure machine: number, name, fields. 0 TollsForLate .. 17 Doing as in claim/names X0..X17, 18 ArrayList, 19 Integer -/
set_option maxRecDepth 100000
def z_TW : u_T := fun k => match k with
  | 0 => ("TollsForLate$Wrong", "fault", "I", true)
  | 1 => ("TollsForLate$Wrong", "place", "I", true)
  | _ => ("java/lang/Throwable", "backtrace", "Ljava/lang/Object;", false)
def z_tyW : Nat → FieldType := fun k => match k with
  | 0 => .int
  | 1 => .int
  | _ => .object "java/lang/Object"
def z_TS : u_T := fun k => match k with
  | 0 => ("java/lang/String", "value", "[B", true)
  | _ => ("java/lang/String", "coder", "B", true)
def z_tyS : Nat → FieldType := fun k => match k with
  | 0 => .array .byte
  | _ => .byte
def z_cl : List vw_C := [(RX0, TX0, 12), (RX1, TX1, 10), (RX2, TX2, 31), (RX3, TX3, 8), (RX4, TX4, 3), (RX5, z_TW, 3), (RX6, TX6, 3), (RX7, TX7, 1), (RX8, TX8, 1), (RX9, TX9, 3), (RX10, TX10, 2), (RX11, TX11, 2), (RX12, TX12, 2), (RX13, TX13, 3), (RX14, TX14, 1), (RX15, TX15, 1), (RX16, TX16, 1), (RX17, TX17, 6), (RJ3, TJ3, 3), (RJ15, TJ15, 1)]
def z_R : Nat → String := fun c => match c with
  | 0 => RX0
  | 1 => RX1
  | 2 => RX2
  | 3 => RX3
  | 4 => RX4
  | 5 => RX5
  | 6 => RX6
  | 7 => RX7
  | 8 => RX8
  | 9 => RX9
  | 10 => RX10
  | 11 => RX11
  | 12 => RX12
  | 13 => RX13
  | 14 => RX14
  | 15 => RX15
  | 16 => RX16
  | 17 => RX17
  | 18 => RJ3
  | 19 => RJ15
  | _ => RJ4
def z_T : Nat → u_T := fun c => match c with
  | 0 => TX0
  | 1 => TX1
  | 2 => TX2
  | 3 => TX3
  | 4 => TX4
  | 5 => z_TW
  | 6 => TX6
  | 7 => TX7
  | 8 => TX8
  | 9 => TX9
  | 10 => TX10
  | 11 => TX11
  | 12 => TX12
  | 13 => TX13
  | 14 => TX14
  | 15 => TX15
  | 16 => TX16
  | 17 => TX17
  | 18 => TJ3
  | 19 => TJ15
  | _ => z_TS
def z_N : Nat → Nat := fun c => match c with
  | 0 => 12
  | 1 => 10
  | 2 => 31
  | 3 => 8
  | 4 => 3
  | 5 => 3
  | 6 => 3
  | 7 => 1
  | 8 => 1
  | 9 => 3
  | 10 => 2
  | 11 => 2
  | 12 => 2
  | 13 => 3
  | 14 => 1
  | 15 => 1
  | 16 => 1
  | 17 => 6
  | 18 => 3
  | 19 => 1
  | _ => 2
def z_ty : Nat → Nat → FieldType := fun c => match c with
  | 0 => tyX0
  | 1 => tyX1
  | 2 => tyX2
  | 3 => tyX3
  | 4 => tyX4
  | 5 => z_tyW
  | 6 => tyX6
  | 7 => tyX7
  | 8 => tyX8
  | 9 => tyX9
  | 10 => tyX10
  | 11 => tyX11
  | 12 => tyX12
  | 13 => tyX13
  | 14 => tyX14
  | 15 => tyX15
  | 16 => tyX16
  | 17 => tyX17
  | 18 => tyJ3
  | 19 => tyJ15
  | _ => z_tyS
/-- of a field: 0 an int, 1 a long, 2 a reference, 3 a boolean -/
def z_kd : Nat → Nat → Nat := fun c k => (([[2, 2, 2, 0, 0, 0, 2, 2, 2, 2, 0, 2], [2, 2, 2, 2, 2, 2, 2, 2, 2, 2], [2, 2, 2, 2, 0, 0, 0, 0, 0, 0, 0, 1, 0, 0, 0, 2, 0, 0, 3, 0, 2, 0, 2, 2, 3, 0, 2, 2, 2, 2, 2], [2, 0, 0, 0, 0, 0, 0, 0], [2, 0, 2], [0, 0, 2], [2, 2, 2], [0], [2], [0, 2, 2], [3, 2], [2, 2], [2, 2], [2, 2, 2], [0], [2], [2], [0, 0, 0, 0, 0, 0], [0, 2, 0], [0], [2, 0]] : List (List Nat)).getD c []).getD k 0
/-- cells and fields that a new one takes -/
def z_NN : Nat → Nat := fun c => if c = 5 then 8 else z_N c
theorem z_cl_at : ∀ c, c < 20 → z_cl[c]? = some (z_R c, z_T c, z_N c) := by
  intro c h
  match c, h with
  | 0, _ => rfl
  | 1, _ => rfl
  | 2, _ => rfl
  | 3, _ => rfl
  | 4, _ => rfl
  | 5, _ => rfl
  | 6, _ => rfl
  | 7, _ => rfl
  | 8, _ => rfl
  | 9, _ => rfl
  | 10, _ => rfl
  | 11, _ => rfl
  | 12, _ => rfl
  | 13, _ => rfl
  | 14, _ => rfl
  | 15, _ => rfl
  | 16, _ => rfl
  | 17, _ => rfl
  | 18, _ => rfl
  | 19, _ => rfl
  | n + 20, h => exact absurd h (by omega)
theorem z_in5 : ∀ w ∈ u_ws RX5 z_TW 3, w ∈ lw_all := fun w hw => in_X5 w (by
  have h1 : u_ws RX5 z_TW 3 = [u_lay RX5 TX5 6, u_lay RX5 TX5 7, u_lay RX5 TX5 4] := rfl
  rw [h1] at hw
  rcases List.mem_cons.mp hw with e | e
  · rw [e]; exact u_in_lay (by omega)
  · rcases List.mem_cons.mp e with e | e
    · rw [e]; exact u_in_lay (by omega)
    · rw [List.mem_singleton.mp e]; exact u_in_lay (by omega))
/-- what the tables say of a class -/
def z_cf (c : Nat) : Prop := (∀ w ∈ u_ws (z_R c) (z_T c) (z_N c), w ∈ lw_all) ∧ (∀ k, k < z_N c → parseFieldDescriptor (z_T c k).2.2.1 = some (z_ty c k)) ∧ (∀ a, a < z_N c → ∀ b, b < z_N c → a ≠ b → (z_T c a).2.1 ≠ (z_T c b).2.1) ∧ Cond.initialized (z_R c) ∈ lw_all ∧ Cond.instantiable (z_R c) (z_NN c) ∈ lw_all
theorem z_cf0 : z_cf 0 := ⟨in_X0, tyX0_ok, nmX0, q121, q158⟩
theorem z_cf1 : z_cf 1 := ⟨in_X1, tyX1_ok, nmX1, q122, q166⟩
theorem z_cf2 : z_cf 2 := ⟨in_X2, tyX2_ok, nmX2, q125, q1398⟩
theorem z_cf3 : z_cf 3 := ⟨in_X3, tyX3_ok, nmX3, q126, q304⟩
theorem z_cf4 : z_cf 4 := ⟨in_X4, tyX4_ok, nmX4, q127, q339⟩
theorem z_cf5 : z_cf 5 := ⟨z_in5, (by decide +kernel), (by decide +kernel), q138, q460⟩
theorem z_cf6 : z_cf 6 := ⟨in_X6, tyX6_ok, nmX6, q139, q528⟩
theorem z_cf7 : z_cf 7 := ⟨in_X7, tyX7_ok, nmX7, q141, q538⟩
theorem z_cf8 : z_cf 8 := ⟨in_X8, tyX8_ok, nmX8, q142, q577⟩
theorem z_cf9 : z_cf 9 := ⟨in_X9, tyX9_ok, nmX9, q143, q587⟩
theorem z_cf10 : z_cf 10 := ⟨in_X10, tyX10_ok, nmX10, q146, q683⟩
theorem z_cf11 : z_cf 11 := ⟨in_X11, tyX11_ok, nmX11, q147, q696⟩
theorem z_cf12 : z_cf 12 := ⟨in_X12, tyX12_ok, nmX12, q148, q709⟩
theorem z_cf13 : z_cf 13 := ⟨in_X13, tyX13_ok, nmX13, q149, q726⟩
theorem z_cf14 : z_cf 14 := ⟨in_X14, tyX14_ok, nmX14, q150, q752⟩
theorem z_cf15 : z_cf 15 := ⟨in_X15, tyX15_ok, nmX15, q151, q762⟩
theorem z_cf16 : z_cf 16 := ⟨in_X16, tyX16_ok, nmX16, q152, q772⟩
theorem z_cf17 : z_cf 17 := ⟨in_X17, tyX17_ok, nmX17, q156, q839⟩
theorem z_cf18 : z_cf 18 := ⟨in_J3, tyJ3_ok, nmJ3, q130, q347⟩
theorem z_cf19 : z_cf 19 := ⟨in_J15, tyJ15_ok, nmJ15, q154, q809⟩
theorem z_cfs : ∀ c, c < 20 → z_cf c := by
  intro c h
  match c, h with
  | 0, _ => exact z_cf0
  | 1, _ => exact z_cf1
  | 2, _ => exact z_cf2
  | 3, _ => exact z_cf3
  | 4, _ => exact z_cf4
  | 5, _ => exact z_cf5
  | 6, _ => exact z_cf6
  | 7, _ => exact z_cf7
  | 8, _ => exact z_cf8
  | 9, _ => exact z_cf9
  | 10, _ => exact z_cf10
  | 11, _ => exact z_cf11
  | 12, _ => exact z_cf12
  | 13, _ => exact z_cf13
  | 14, _ => exact z_cf14
  | 15, _ => exact z_cf15
  | 16, _ => exact z_cf16
  | 17, _ => exact z_cf17
  | 18, _ => exact z_cf18
  | 19, _ => exact z_cf19
  | n + 20, h => exact absurd h (by omega)
theorem z_kd_ty : ∀ c, c < 20 → ∀ k, k < z_N c → (z_kd c k = 0 ∧ z_ty c k = .int) ∨ (z_kd c k = 1 ∧ z_ty c k = .long) ∨ (z_kd c k = 2 ∧ refKind (z_ty c k) = true) ∨ (z_kd c k = 3 ∧ z_ty c k = .boolean) := by decide +kernel
/-- words of the tables that ride by themselves -/
def z_nw : List Jvm.Cond := [(Jvm.Cond.castable "java/lang/Integer" "java/lang/Object"),
  (Jvm.Cond.castable "java/util/ArrayList" "java/lang/Object"),
  (Jvm.Cond.castable "java/lang/String" "java/lang/Object"),
  (Jvm.Cond.castable "java/lang/Throwable" "java/lang/Object"),
  (Jvm.Cond.fieldLinkNest "TollsForLate" (59 : Nat) "TollsForLate$State" "n" "[I" "TollsForLate"),
  (Jvm.Cond.fieldLinkNest "TollsForLate" (188 : Nat) "TollsForLate$State" "row" "[I" "TollsForLate"),
  (Jvm.Cond.fieldLinkNest "TollsForLate" (70 : Nat) "TollsForLate$State" "road" "[I" "TollsForLate"),
  (Jvm.Cond.fieldLinkNest "TollsForLate" (73 : Nat) "TollsForLate$State" "walk" "[I" "TollsForLate"),
  (Jvm.Cond.fieldLinkNest "TollsForLate" (76 : Nat) "TollsForLate$State" "run" "[I" "TollsForLate"),
  (Jvm.Cond.fieldLinkNest "TollsForLate" (83 : Nat) "TollsForLate$State" "hears" "[I" "TollsForLate"),
  (Jvm.Cond.fieldLinkNest "TollsForLate" (320 : Nat) "TollsForLate$State" "heard" "[[I" "TollsForLate"),
  (Jvm.Cond.fieldLinkNest "TollsForLate" (357 : Nat) "TollsForLate$State" "said" "[[I" "TollsForLate"),
  (Jvm.Cond.fieldLinkNest "TollsForLate" (275 : Nat) "TollsForLate$State" "step" "[[I" "TollsForLate"),
  (Jvm.Cond.fieldLinkNest "TollsForLate" (93 : Nat) "TollsForLate$State" "text" "[LTollsForLate$Text;" "TollsForLate"),
  (Jvm.Cond.fieldLinkNest "TollsForLate" (120 : Nat) "TollsForLate$Text" "law" "[LTollsForLate$Sum;" "TollsForLate"),
  (Jvm.Cond.fieldLinkNest "TollsForLate" (252 : Nat) "TollsForLate$Text" "doings" "Ljava/util/ArrayList;" "TollsForLate"),
  (Jvm.Cond.fieldLinkNest "TollsForLate" (108 : Nat) "TollsForLate$Wrong" "fault" "I" "TollsForLate"),
  (Jvm.Cond.fieldLinkNest "TollsForLate" (109 : Nat) "TollsForLate$Wrong" "place" "I" "TollsForLate"),
  (Jvm.Cond.methodLinkNest "TollsForLate" (279 : Nat) ({ cls := "TollsForLate$State", name := "copy", desc := "([I[I)V" } : Jvm.MethodName) "TollsForLate"),
  (Jvm.Cond.castable "TollsForLate" "java/lang/Object"),
  (Jvm.Cond.castable "TollsForLate$State" "java/lang/Object"),
  (Jvm.Cond.castable "TollsForLate$All" "TollsForLate$Asked"),
  (Jvm.Cond.castable "TollsForLate$All" "java/lang/Object"),
  (Jvm.Cond.castable "TollsForLate$Or" "TollsForLate$Asked"),
  (Jvm.Cond.castable "TollsForLate$Or" "java/lang/Object"),
  (Jvm.Cond.castable "TollsForLate$Xor" "TollsForLate$Asked"),
  (Jvm.Cond.castable "TollsForLate$Xor" "java/lang/Object"),
  (Jvm.Cond.castable "TollsForLate$If" "TollsForLate$Sum"),
  (Jvm.Cond.castable "TollsForLate$If" "java/lang/Object"),
  (Jvm.Cond.castable "TollsForLate$Name" "TollsForLate$Sum"),
  (Jvm.Cond.castable "TollsForLate$Name" "java/lang/Object"),
  (Jvm.Cond.castable "TollsForLate$Rings" "TollsForLate$Sum"),
  (Jvm.Cond.castable "TollsForLate$Rings" "java/lang/Object"),
  (Jvm.Cond.castable "TollsForLate$Minus" "TollsForLate$Sum"),
  (Jvm.Cond.castable "TollsForLate$Minus" "java/lang/Object"),
  (Jvm.Cond.castable "TollsForLate$Doing" "java/lang/Object"),
  (Jvm.Cond.castable "TollsForLateModel" "java/lang/Object"),
  (Jvm.Cond.methodLinkNest "TollsForLate$Tokens" (82 : Nat) ({ cls := "TollsForLate$Text", name := "<init>", desc := "()V" } : Jvm.MethodName) "TollsForLate"),
  (Jvm.Cond.fieldLinkNest "TollsForLate$Tokens" (86 : Nat) "TollsForLate$Text" "law" "[LTollsForLate$Sum;" "TollsForLate"),
  (Jvm.Cond.fieldLinkNest "TollsForLate$Tokens" (90 : Nat) "TollsForLate$Text" "clauses" "I" "TollsForLate"),
  (Jvm.Cond.fieldLinkNest "TollsForLate$Tokens" (97 : Nat) "TollsForLate$Text" "doings" "Ljava/util/ArrayList;" "TollsForLate"),
  (Jvm.Cond.methodLinkNest "TollsForLate$Tokens" (199 : Nat) ({ cls := "TollsForLate$Plain", name := "<init>", desc := "(I)V" } : Jvm.MethodName) "TollsForLate"),
  (Jvm.Cond.methodLinkNest "TollsForLate$Tokens" (160 : Nat) ({ cls := "TollsForLate$Not", name := "<init>", desc := "(LTollsForLate$Asked;)V" } : Jvm.MethodName) "TollsForLate"),
  (Jvm.Cond.methodLinkNest "TollsForLate$Tokens" (165 : Nat) ({ cls := "TollsForLate$Compared", name := "<init>", desc := "(ILTollsForLate$Sum;LTollsForLate$Sum;)V" } : Jvm.MethodName) "TollsForLate"),
  (Jvm.Cond.methodLinkNest "TollsForLate$Tokens" (152 : Nat) ({ cls := "TollsForLate$All", name := "<init>", desc := "(ZLjava/util/ArrayList;)V" } : Jvm.MethodName) "TollsForLate"),
  (Jvm.Cond.methodLinkNest "TollsForLate$Tokens" (132 : Nat) ({ cls := "TollsForLate$Or", name := "<init>", desc := "(LTollsForLate$Asked;LTollsForLate$Asked;)V" } : Jvm.MethodName) "TollsForLate"),
  (Jvm.Cond.methodLinkNest "TollsForLate$Tokens" (137 : Nat) ({ cls := "TollsForLate$Xor", name := "<init>", desc := "(LTollsForLate$Asked;LTollsForLate$Asked;)V" } : Jvm.MethodName) "TollsForLate"),
  (Jvm.Cond.methodLinkNest "TollsForLate$Tokens" (194 : Nat) ({ cls := "TollsForLate$If", name := "<init>", desc := "(LTollsForLate$Asked;LTollsForLate$Sum;LTollsForLate$Sum;)V" } : Jvm.MethodName) "TollsForLate"),
  (Jvm.Cond.methodLinkNest "TollsForLate$Tokens" (212 : Nat) ({ cls := "TollsForLate$Name", name := "<init>", desc := "(I)V" } : Jvm.MethodName) "TollsForLate"),
  (Jvm.Cond.methodLinkNest "TollsForLate$Tokens" (215 : Nat) ({ cls := "TollsForLate$Rings", name := "<init>", desc := "(LTollsForLate$Sum;)V" } : Jvm.MethodName) "TollsForLate"),
  (Jvm.Cond.methodLinkNest "TollsForLate$Tokens" (218 : Nat) ({ cls := "TollsForLate$Minus", name := "<init>", desc := "(LTollsForLate$Sum;)V" } : Jvm.MethodName) "TollsForLate"),
  (Jvm.Cond.methodLinkNest "TollsForLate$Tokens" (123 : Nat) ({ cls := "TollsForLate$Doing", name := "<init>", desc := "(IIIIII)V" } : Jvm.MethodName) "TollsForLate"),
  (Jvm.Cond.castable "TollsForLate$Tokens" "java/lang/Object"),
  (Jvm.Cond.castable "TollsForLate$Text" "java/lang/Object"),
  (Jvm.Cond.castable "TollsForLate$Wrong" "TollsForLate$Wrong"),
  (Jvm.Cond.castable "TollsForLate$Wrong" "java/lang/Object"),
  (Jvm.Cond.castable "TollsForLate$Chain" "TollsForLate$Sum"),
  (Jvm.Cond.castable "TollsForLate$Chain" "java/lang/Object"),
  (Jvm.Cond.castable "TollsForLate$Plain" "TollsForLate$Sum"),
  (Jvm.Cond.castable "TollsForLate$Plain" "java/lang/Object"),
  (Jvm.Cond.castable "TollsForLate$Not" "TollsForLate$Asked"),
  (Jvm.Cond.castable "TollsForLate$Not" "java/lang/Object"),
  (Jvm.Cond.castable "TollsForLate$Compared" "TollsForLate$Asked"),
  (Jvm.Cond.castable "TollsForLate$Compared" "java/lang/Object")]
theorem nw_q2070 : (Jvm.Cond.castable "java/lang/Integer" "java/lang/Object") ∈ z_nw := List.mem_of_getElem? (i := 0) rfl
theorem nw_q2057 : (Jvm.Cond.castable "java/util/ArrayList" "java/lang/Object") ∈ z_nw := List.mem_of_getElem? (i := 1) rfl
theorem nw_q2052 : (Jvm.Cond.castable "java/lang/String" "java/lang/Object") ∈ z_nw := List.mem_of_getElem? (i := 2) rfl
theorem nw_q2072 : (Jvm.Cond.castable "java/lang/Throwable" "java/lang/Object") ∈ z_nw := List.mem_of_getElem? (i := 3) rfl
theorem nw_q179 : (Jvm.Cond.fieldLinkNest "TollsForLate" (59 : Nat) "TollsForLate$State" "n" "[I" "TollsForLate") ∈ z_nw := List.mem_of_getElem? (i := 4) rfl
theorem nw_q181 : (Jvm.Cond.fieldLinkNest "TollsForLate" (188 : Nat) "TollsForLate$State" "row" "[I" "TollsForLate") ∈ z_nw := List.mem_of_getElem? (i := 5) rfl
theorem nw_q183 : (Jvm.Cond.fieldLinkNest "TollsForLate" (70 : Nat) "TollsForLate$State" "road" "[I" "TollsForLate") ∈ z_nw := List.mem_of_getElem? (i := 6) rfl
theorem nw_q185 : (Jvm.Cond.fieldLinkNest "TollsForLate" (73 : Nat) "TollsForLate$State" "walk" "[I" "TollsForLate") ∈ z_nw := List.mem_of_getElem? (i := 7) rfl
theorem nw_q187 : (Jvm.Cond.fieldLinkNest "TollsForLate" (76 : Nat) "TollsForLate$State" "run" "[I" "TollsForLate") ∈ z_nw := List.mem_of_getElem? (i := 8) rfl
theorem nw_q189 : (Jvm.Cond.fieldLinkNest "TollsForLate" (83 : Nat) "TollsForLate$State" "hears" "[I" "TollsForLate") ∈ z_nw := List.mem_of_getElem? (i := 9) rfl
theorem nw_q191 : (Jvm.Cond.fieldLinkNest "TollsForLate" (320 : Nat) "TollsForLate$State" "heard" "[[I" "TollsForLate") ∈ z_nw := List.mem_of_getElem? (i := 10) rfl
theorem nw_q193 : (Jvm.Cond.fieldLinkNest "TollsForLate" (357 : Nat) "TollsForLate$State" "said" "[[I" "TollsForLate") ∈ z_nw := List.mem_of_getElem? (i := 11) rfl
theorem nw_q195 : (Jvm.Cond.fieldLinkNest "TollsForLate" (275 : Nat) "TollsForLate$State" "step" "[[I" "TollsForLate") ∈ z_nw := List.mem_of_getElem? (i := 12) rfl
theorem nw_q197 : (Jvm.Cond.fieldLinkNest "TollsForLate" (93 : Nat) "TollsForLate$State" "text" "[LTollsForLate$Text;" "TollsForLate") ∈ z_nw := List.mem_of_getElem? (i := 13) rfl
theorem nw_q374 : (Jvm.Cond.fieldLinkNest "TollsForLate" (120 : Nat) "TollsForLate$Text" "law" "[LTollsForLate$Sum;" "TollsForLate") ∈ z_nw := List.mem_of_getElem? (i := 14) rfl
theorem nw_q378 : (Jvm.Cond.fieldLinkNest "TollsForLate" (252 : Nat) "TollsForLate$Text" "doings" "Ljava/util/ArrayList;" "TollsForLate") ∈ z_nw := List.mem_of_getElem? (i := 15) rfl
theorem nw_q504 : (Jvm.Cond.fieldLinkNest "TollsForLate" (108 : Nat) "TollsForLate$Wrong" "fault" "I" "TollsForLate") ∈ z_nw := List.mem_of_getElem? (i := 16) rfl
theorem nw_q506 : (Jvm.Cond.fieldLinkNest "TollsForLate" (109 : Nat) "TollsForLate$Wrong" "place" "I" "TollsForLate") ∈ z_nw := List.mem_of_getElem? (i := 17) rfl
theorem nw_q1148 : (Jvm.Cond.methodLinkNest "TollsForLate" (279 : Nat) ({ cls := "TollsForLate$State", name := "copy", desc := "([I[I)V" } : Jvm.MethodName) "TollsForLate") ∈ z_nw := List.mem_of_getElem? (i := 18) rfl
theorem nw_q2053 : (Jvm.Cond.castable "TollsForLate" "java/lang/Object") ∈ z_nw := List.mem_of_getElem? (i := 19) rfl
theorem nw_q2054 : (Jvm.Cond.castable "TollsForLate$State" "java/lang/Object") ∈ z_nw := List.mem_of_getElem? (i := 20) rfl
theorem nw_q940 : (Jvm.Cond.castable "TollsForLate$All" "TollsForLate$Asked") ∈ z_nw := List.mem_of_getElem? (i := 21) rfl
theorem nw_q2063 : (Jvm.Cond.castable "TollsForLate$All" "java/lang/Object") ∈ z_nw := List.mem_of_getElem? (i := 22) rfl
theorem nw_q996 : (Jvm.Cond.castable "TollsForLate$Or" "TollsForLate$Asked") ∈ z_nw := List.mem_of_getElem? (i := 23) rfl
theorem nw_q2064 : (Jvm.Cond.castable "TollsForLate$Or" "java/lang/Object") ∈ z_nw := List.mem_of_getElem? (i := 24) rfl
theorem nw_q1004 : (Jvm.Cond.castable "TollsForLate$Xor" "TollsForLate$Asked") ∈ z_nw := List.mem_of_getElem? (i := 25) rfl
theorem nw_q2065 : (Jvm.Cond.castable "TollsForLate$Xor" "java/lang/Object") ∈ z_nw := List.mem_of_getElem? (i := 26) rfl
theorem nw_q930 : (Jvm.Cond.castable "TollsForLate$If" "TollsForLate$Sum") ∈ z_nw := List.mem_of_getElem? (i := 27) rfl
theorem nw_q2066 : (Jvm.Cond.castable "TollsForLate$If" "java/lang/Object") ∈ z_nw := List.mem_of_getElem? (i := 28) rfl
theorem nw_q967 : (Jvm.Cond.castable "TollsForLate$Name" "TollsForLate$Sum") ∈ z_nw := List.mem_of_getElem? (i := 29) rfl
theorem nw_q2067 : (Jvm.Cond.castable "TollsForLate$Name" "java/lang/Object") ∈ z_nw := List.mem_of_getElem? (i := 30) rfl
theorem nw_q979 : (Jvm.Cond.castable "TollsForLate$Rings" "TollsForLate$Sum") ∈ z_nw := List.mem_of_getElem? (i := 31) rfl
theorem nw_q2068 : (Jvm.Cond.castable "TollsForLate$Rings" "java/lang/Object") ∈ z_nw := List.mem_of_getElem? (i := 32) rfl
theorem nw_q959 : (Jvm.Cond.castable "TollsForLate$Minus" "TollsForLate$Sum") ∈ z_nw := List.mem_of_getElem? (i := 33) rfl
theorem nw_q2069 : (Jvm.Cond.castable "TollsForLate$Minus" "java/lang/Object") ∈ z_nw := List.mem_of_getElem? (i := 34) rfl
theorem nw_q2071 : (Jvm.Cond.castable "TollsForLate$Doing" "java/lang/Object") ∈ z_nw := List.mem_of_getElem? (i := 35) rfl
theorem nw_q2055 : (Jvm.Cond.castable "TollsForLateModel" "java/lang/Object") ∈ z_nw := List.mem_of_getElem? (i := 36) rfl
theorem nw_q340 : (Jvm.Cond.methodLinkNest "TollsForLate$Tokens" (82 : Nat) ({ cls := "TollsForLate$Text", name := "<init>", desc := "()V" } : Jvm.MethodName) "TollsForLate") ∈ z_nw := List.mem_of_getElem? (i := 37) rfl
theorem nw_q373 : (Jvm.Cond.fieldLinkNest "TollsForLate$Tokens" (86 : Nat) "TollsForLate$Text" "law" "[LTollsForLate$Sum;" "TollsForLate") ∈ z_nw := List.mem_of_getElem? (i := 38) rfl
theorem nw_q375 : (Jvm.Cond.fieldLinkNest "TollsForLate$Tokens" (90 : Nat) "TollsForLate$Text" "clauses" "I" "TollsForLate") ∈ z_nw := List.mem_of_getElem? (i := 39) rfl
theorem nw_q377 : (Jvm.Cond.fieldLinkNest "TollsForLate$Tokens" (97 : Nat) "TollsForLate$Text" "doings" "Ljava/util/ArrayList;" "TollsForLate") ∈ z_nw := List.mem_of_getElem? (i := 40) rfl
theorem nw_q543 : (Jvm.Cond.methodLinkNest "TollsForLate$Tokens" (199 : Nat) ({ cls := "TollsForLate$Plain", name := "<init>", desc := "(I)V" } : Jvm.MethodName) "TollsForLate") ∈ z_nw := List.mem_of_getElem? (i := 41) rfl
theorem nw_q578 : (Jvm.Cond.methodLinkNest "TollsForLate$Tokens" (160 : Nat) ({ cls := "TollsForLate$Not", name := "<init>", desc := "(LTollsForLate$Asked;)V" } : Jvm.MethodName) "TollsForLate") ∈ z_nw := List.mem_of_getElem? (i := 42) rfl
theorem nw_q588 : (Jvm.Cond.methodLinkNest "TollsForLate$Tokens" (165 : Nat) ({ cls := "TollsForLate$Compared", name := "<init>", desc := "(ILTollsForLate$Sum;LTollsForLate$Sum;)V" } : Jvm.MethodName) "TollsForLate") ∈ z_nw := List.mem_of_getElem? (i := 43) rfl
theorem nw_q684 : (Jvm.Cond.methodLinkNest "TollsForLate$Tokens" (152 : Nat) ({ cls := "TollsForLate$All", name := "<init>", desc := "(ZLjava/util/ArrayList;)V" } : Jvm.MethodName) "TollsForLate") ∈ z_nw := List.mem_of_getElem? (i := 44) rfl
theorem nw_q697 : (Jvm.Cond.methodLinkNest "TollsForLate$Tokens" (132 : Nat) ({ cls := "TollsForLate$Or", name := "<init>", desc := "(LTollsForLate$Asked;LTollsForLate$Asked;)V" } : Jvm.MethodName) "TollsForLate") ∈ z_nw := List.mem_of_getElem? (i := 45) rfl
theorem nw_q710 : (Jvm.Cond.methodLinkNest "TollsForLate$Tokens" (137 : Nat) ({ cls := "TollsForLate$Xor", name := "<init>", desc := "(LTollsForLate$Asked;LTollsForLate$Asked;)V" } : Jvm.MethodName) "TollsForLate") ∈ z_nw := List.mem_of_getElem? (i := 46) rfl
theorem nw_q727 : (Jvm.Cond.methodLinkNest "TollsForLate$Tokens" (194 : Nat) ({ cls := "TollsForLate$If", name := "<init>", desc := "(LTollsForLate$Asked;LTollsForLate$Sum;LTollsForLate$Sum;)V" } : Jvm.MethodName) "TollsForLate") ∈ z_nw := List.mem_of_getElem? (i := 47) rfl
theorem nw_q753 : (Jvm.Cond.methodLinkNest "TollsForLate$Tokens" (212 : Nat) ({ cls := "TollsForLate$Name", name := "<init>", desc := "(I)V" } : Jvm.MethodName) "TollsForLate") ∈ z_nw := List.mem_of_getElem? (i := 48) rfl
theorem nw_q763 : (Jvm.Cond.methodLinkNest "TollsForLate$Tokens" (215 : Nat) ({ cls := "TollsForLate$Rings", name := "<init>", desc := "(LTollsForLate$Sum;)V" } : Jvm.MethodName) "TollsForLate") ∈ z_nw := List.mem_of_getElem? (i := 49) rfl
theorem nw_q773 : (Jvm.Cond.methodLinkNest "TollsForLate$Tokens" (218 : Nat) ({ cls := "TollsForLate$Minus", name := "<init>", desc := "(LTollsForLate$Sum;)V" } : Jvm.MethodName) "TollsForLate") ∈ z_nw := List.mem_of_getElem? (i := 50) rfl
theorem nw_q840 : (Jvm.Cond.methodLinkNest "TollsForLate$Tokens" (123 : Nat) ({ cls := "TollsForLate$Doing", name := "<init>", desc := "(IIIIII)V" } : Jvm.MethodName) "TollsForLate") ∈ z_nw := List.mem_of_getElem? (i := 51) rfl
theorem nw_q2056 : (Jvm.Cond.castable "TollsForLate$Tokens" "java/lang/Object") ∈ z_nw := List.mem_of_getElem? (i := 52) rfl
theorem nw_q2050 : (Jvm.Cond.castable "TollsForLate$Text" "java/lang/Object") ∈ z_nw := List.mem_of_getElem? (i := 53) rfl
theorem nw_q461 : (Jvm.Cond.castable "TollsForLate$Wrong" "TollsForLate$Wrong") ∈ z_nw := List.mem_of_getElem? (i := 54) rfl
theorem nw_q2058 : (Jvm.Cond.castable "TollsForLate$Wrong" "java/lang/Object") ∈ z_nw := List.mem_of_getElem? (i := 55) rfl
theorem nw_q922 : (Jvm.Cond.castable "TollsForLate$Chain" "TollsForLate$Sum") ∈ z_nw := List.mem_of_getElem? (i := 56) rfl
theorem nw_q2059 : (Jvm.Cond.castable "TollsForLate$Chain" "java/lang/Object") ∈ z_nw := List.mem_of_getElem? (i := 57) rfl
theorem nw_q973 : (Jvm.Cond.castable "TollsForLate$Plain" "TollsForLate$Sum") ∈ z_nw := List.mem_of_getElem? (i := 58) rfl
theorem nw_q2060 : (Jvm.Cond.castable "TollsForLate$Plain" "java/lang/Object") ∈ z_nw := List.mem_of_getElem? (i := 59) rfl
theorem nw_q988 : (Jvm.Cond.castable "TollsForLate$Not" "TollsForLate$Asked") ∈ z_nw := List.mem_of_getElem? (i := 60) rfl
theorem nw_q2061 : (Jvm.Cond.castable "TollsForLate$Not" "java/lang/Object") ∈ z_nw := List.mem_of_getElem? (i := 61) rfl
theorem nw_q951 : (Jvm.Cond.castable "TollsForLate$Compared" "TollsForLate$Asked") ∈ z_nw := List.mem_of_getElem? (i := 62) rfl
theorem nw_q2062 : (Jvm.Cond.castable "TollsForLate$Compared" "java/lang/Object") ∈ z_nw := List.mem_of_getElem? (i := 63) rfl
theorem z_nw_tbl : ∀ w ∈ z_nw, w ∈ lw_tbl := List.forall_mem_cons.mpr ⟨q2070, List.forall_mem_cons.mpr ⟨q2057, List.forall_mem_cons.mpr ⟨q2052, List.forall_mem_cons.mpr ⟨q2072, List.forall_mem_cons.mpr ⟨q179, List.forall_mem_cons.mpr ⟨q181, List.forall_mem_cons.mpr ⟨q183, List.forall_mem_cons.mpr ⟨q185, List.forall_mem_cons.mpr ⟨q187, List.forall_mem_cons.mpr ⟨q189, List.forall_mem_cons.mpr ⟨q191, List.forall_mem_cons.mpr ⟨q193, List.forall_mem_cons.mpr ⟨q195, List.forall_mem_cons.mpr ⟨q197, List.forall_mem_cons.mpr ⟨q374, List.forall_mem_cons.mpr ⟨q378, List.forall_mem_cons.mpr ⟨q504, List.forall_mem_cons.mpr ⟨q506, List.forall_mem_cons.mpr ⟨q1148, List.forall_mem_cons.mpr ⟨q2053, List.forall_mem_cons.mpr ⟨q2054, List.forall_mem_cons.mpr ⟨q940, List.forall_mem_cons.mpr ⟨q2063, List.forall_mem_cons.mpr ⟨q996, List.forall_mem_cons.mpr ⟨q2064, List.forall_mem_cons.mpr ⟨q1004, List.forall_mem_cons.mpr ⟨q2065, List.forall_mem_cons.mpr ⟨q930, List.forall_mem_cons.mpr ⟨q2066, List.forall_mem_cons.mpr ⟨q967, List.forall_mem_cons.mpr ⟨q2067, List.forall_mem_cons.mpr ⟨q979, List.forall_mem_cons.mpr ⟨q2068, List.forall_mem_cons.mpr ⟨q959, List.forall_mem_cons.mpr ⟨q2069, List.forall_mem_cons.mpr ⟨q2071, List.forall_mem_cons.mpr ⟨q2055, List.forall_mem_cons.mpr ⟨q340, List.forall_mem_cons.mpr ⟨q373, List.forall_mem_cons.mpr ⟨q375, List.forall_mem_cons.mpr ⟨q377, List.forall_mem_cons.mpr ⟨q543, List.forall_mem_cons.mpr ⟨q578, List.forall_mem_cons.mpr ⟨q588, List.forall_mem_cons.mpr ⟨q684, List.forall_mem_cons.mpr ⟨q697, List.forall_mem_cons.mpr ⟨q710, List.forall_mem_cons.mpr ⟨q727, List.forall_mem_cons.mpr ⟨q753, List.forall_mem_cons.mpr ⟨q763, List.forall_mem_cons.mpr ⟨q773, List.forall_mem_cons.mpr ⟨q840, List.forall_mem_cons.mpr ⟨q2056, List.forall_mem_cons.mpr ⟨q2050, List.forall_mem_cons.mpr ⟨q461, List.forall_mem_cons.mpr ⟨q2058, List.forall_mem_cons.mpr ⟨q922, List.forall_mem_cons.mpr ⟨q2059, List.forall_mem_cons.mpr ⟨q973, List.forall_mem_cons.mpr ⟨q2060, List.forall_mem_cons.mpr ⟨q988, List.forall_mem_cons.mpr ⟨q2061, List.forall_mem_cons.mpr ⟨q951, List.forall_mem_cons.mpr ⟨q2062, fun _ h => absurd h List.not_mem_nil⟩⟩⟩⟩⟩⟩⟩⟩⟩⟩⟩⟩⟩⟩⟩⟩⟩⟩⟩⟩⟩⟩⟩⟩⟩⟩⟩⟩⟩⟩⟩⟩⟩⟩⟩⟩⟩⟩⟩⟩⟩⟩⟩⟩⟩⟩⟩⟩⟩⟩⟩⟩⟩⟩⟩⟩⟩⟩⟩⟩⟩⟩⟩⟩
def z_nwk (w : Jvm.Cond) : Bool := match w with
  | .castable _ _ => true
  | .fieldLinkNest _ _ _ _ _ _ => true
  | .methodLinkNest _ _ _ _ => true
  | _ => false
theorem z_nw_k : ∀ w ∈ z_nw, z_nwk w = true := List.all_eq_true.mp (by decide +kernel)
theorem z_castO : ∀ k, k < 20 → Jvm.Cond.castable (z_R k) "java/lang/Object" ∈ z_nw := by
  intro k h
  match k, h with
  | 0, _ => exact nw_q2053
  | 1, _ => exact nw_q2054
  | 2, _ => exact nw_q2055
  | 3, _ => exact nw_q2056
  | 4, _ => exact nw_q2050
  | 5, _ => exact nw_q2058
  | 6, _ => exact nw_q2059
  | 7, _ => exact nw_q2060
  | 8, _ => exact nw_q2061
  | 9, _ => exact nw_q2062
  | 10, _ => exact nw_q2063
  | 11, _ => exact nw_q2064
  | 12, _ => exact nw_q2065
  | 13, _ => exact nw_q2066
  | 14, _ => exact nw_q2067
  | 15, _ => exact nw_q2068
  | 16, _ => exact nw_q2069
  | 17, _ => exact nw_q2071
  | 18, _ => exact nw_q2057
  | 19, _ => exact nw_q2070
  | n + 20, h => exact absurd h (by omega)
theorem z_castS6 : Jvm.Cond.castable (z_R 6) "TollsForLate$Sum" ∈ z_nw := nw_q922
theorem z_castS7 : Jvm.Cond.castable (z_R 7) "TollsForLate$Sum" ∈ z_nw := nw_q973
theorem z_castS13 : Jvm.Cond.castable (z_R 13) "TollsForLate$Sum" ∈ z_nw := nw_q930
theorem z_castS14 : Jvm.Cond.castable (z_R 14) "TollsForLate$Sum" ∈ z_nw := nw_q967
theorem z_castS15 : Jvm.Cond.castable (z_R 15) "TollsForLate$Sum" ∈ z_nw := nw_q979
theorem z_castS16 : Jvm.Cond.castable (z_R 16) "TollsForLate$Sum" ∈ z_nw := nw_q959
theorem z_castA8 : Jvm.Cond.castable (z_R 8) "TollsForLate$Asked" ∈ z_nw := nw_q988
theorem z_castA9 : Jvm.Cond.castable (z_R 9) "TollsForLate$Asked" ∈ z_nw := nw_q951
theorem z_castA10 : Jvm.Cond.castable (z_R 10) "TollsForLate$Asked" ∈ z_nw := nw_q940
theorem z_castA11 : Jvm.Cond.castable (z_R 11) "TollsForLate$Asked" ∈ z_nw := nw_q996
theorem z_castA12 : Jvm.Cond.castable (z_R 12) "TollsForLate$Asked" ∈ z_nw := nw_q1004
