/-! THE START, 1: leaves of the premise (printed by gen/gstart.py) -/
set_option maxRecDepth 100000
def z_c0 : Jvm.Cond := Jvm.Cond.and given_1 narrow_1
def z_tm (i : Nat) : Term := if i < 26 then .string "TollsForLate$Tokens" (219 + 2 * i) else .string "TollsForLate$Tokens" 53
def z_fldV (i : Nat) : Term := .field (z_tm i) "java/lang/String" "value" "[B"
def z_tNO : Term := .static "TollsForLate" "NOTHING" "LTollsForLate$Text;"
def z_tNL : Term := .field z_tNO "TollsForLate$Text" "law" "[LTollsForLate$Sum;"
def z_tDE : Term := .static "java/util/ArrayList" "DEFAULTCAPACITY_EMPTY_ELEMENTDATA" "[Ljava/lang/Object;"
def z_tWO : Term := .static "TollsForLate$Tokens" "WORDS" "[Ljava/lang/String;"
def z_tNA : Term := .static "TollsForLate$Tokens" "NAMED" "[I"
def z_tCA : Term := .static "java/lang/Integer$IntegerCache" "cache" "[Ljava/lang/Integer;"
def z_el (t : Term) (j : Nat) : Term := .elem t (.int (Int32.ofNat j))
def z_tCE : Term := .elem z_tCA (.index 0)
section ZLeaf
variable {s : State} {args : Array Value}
theorem z_aL {a b : Jvm.Cond} (h : (Jvm.Cond.and a b).before args s = true) : a.before args s = true := by
  simp only [Cond.before, Cond.holds, Cond.value] at h ⊢
  generalize a.value args s none s [] = x at h ⊢
  generalize b.value args s none s [] = y at h
  rcases x with _ | (_ | _) <;> rcases y with _ | (_ | _) <;> simp_all
theorem z_aR {a b : Jvm.Cond} (h : (Jvm.Cond.and a b).before args s = true) : b.before args s = true := by
  simp only [Cond.before, Cond.holds, Cond.value] at h ⊢
  generalize a.value args s none s [] = x at h
  generalize b.value args s none s [] = y at h ⊢
  rcases x with _ | (_ | _) <;> rcases y with _ | (_ | _) <;> simp_all
def z_stP (s : State) (args : Array Value) (i : Nat) : Prop := (Cond.exactly (z_tm i) "java/lang/String").before args s = true ∧ (Cond.eq (.field (z_tm i) "java/lang/String" "coder" "B") (.int 0)).before args s = true ∧ (Cond.arrayOf (z_fldV i) .byte).before args s = true ∧ (Cond.eq (.length (z_fldV i)) (.int (Int32.ofNat (z_words.getD i []).length))).before args s = true ∧ ∀ j, j < (z_words.getD i []).length → (Cond.eq (.elem (z_fldV i) (.int (Int32.ofNat j))) (.int (nI ((z_words.getD i []).getD j 0)))).before args s = true
theorem z_sta0 (h : z_c0.before args s = true) : z_stP s args 0 := ⟨(z_aR (z_aR (z_aR (z_aL (z_aR (z_aL (z_aR (z_aR (z_aL (z_aR h)))))))))), (z_aL (z_aL (z_aR (z_aR (z_aL (z_aR (z_aR (z_aL (z_aR h))))))))), (z_aL (z_aR (z_aL (z_aR (z_aR (z_aL (z_aR (z_aR (z_aL (z_aR h)))))))))), (z_aR (z_aR (z_aL (z_aR (z_aR (z_aL (z_aR (z_aR (z_aL (z_aR h)))))))))), fun j hj => match j, hj with
  | 0, _ => (z_aL (z_aR (z_aR (z_aR (z_aL (z_aR (z_aR (z_aL (z_aR h)))))))))
  | 1, _ => (z_aL (z_aR (z_aR (z_aR (z_aR (z_aL (z_aR (z_aR (z_aL (z_aR h))))))))))
  | 2, _ => (z_aR (z_aR (z_aR (z_aR (z_aR (z_aL (z_aR (z_aR (z_aL (z_aR h))))))))))
  | 3, _ => (z_aL (z_aL (z_aL (z_aL (z_aR (z_aR (z_aR (z_aL (z_aR h)))))))))
  | n + 4, hj => absurd hj (by show ¬ n + 4 < 4; omega)⟩
theorem z_sta1 (h : z_c0.before args s = true) : z_stP s args 1 := ⟨(z_aR (z_aL (z_aL (z_aL (z_aR (z_aR (z_aR (z_aL (z_aR h))))))))), (z_aL (z_aR (z_aL (z_aL (z_aR (z_aR (z_aR (z_aL (z_aR h))))))))), (z_aL (z_aR (z_aR (z_aL (z_aL (z_aR (z_aR (z_aR (z_aL (z_aR h)))))))))), (z_aR (z_aR (z_aR (z_aL (z_aL (z_aR (z_aR (z_aR (z_aL (z_aR h)))))))))), fun j hj => match j, hj with
  | 0, _ => (z_aL (z_aL (z_aR (z_aL (z_aR (z_aR (z_aR (z_aL (z_aR h)))))))))
  | 1, _ => (z_aL (z_aR (z_aL (z_aR (z_aL (z_aR (z_aR (z_aR (z_aL (z_aR h))))))))))
  | 2, _ => (z_aR (z_aR (z_aL (z_aR (z_aL (z_aR (z_aR (z_aR (z_aL (z_aR h))))))))))
  | 3, _ => (z_aL (z_aR (z_aR (z_aL (z_aR (z_aR (z_aR (z_aL (z_aR h)))))))))
  | 4, _ => (z_aL (z_aR (z_aR (z_aR (z_aL (z_aR (z_aR (z_aR (z_aL (z_aR h))))))))))
  | n + 5, hj => absurd hj (by show ¬ n + 5 < 5; omega)⟩
theorem z_sta2 (h : z_c0.before args s = true) : z_stP s args 2 := ⟨(z_aR (z_aR (z_aR (z_aR (z_aL (z_aR (z_aR (z_aR (z_aL (z_aR h)))))))))), (z_aL (z_aL (z_aL (z_aR (z_aR (z_aR (z_aR (z_aL (z_aR h))))))))), (z_aR (z_aL (z_aL (z_aR (z_aR (z_aR (z_aR (z_aL (z_aR h))))))))), (z_aL (z_aR (z_aL (z_aR (z_aR (z_aR (z_aR (z_aL (z_aR h))))))))), fun j hj => match j, hj with
  | 0, _ => (z_aL (z_aR (z_aR (z_aL (z_aR (z_aR (z_aR (z_aR (z_aL (z_aR h))))))))))
  | 1, _ => (z_aR (z_aR (z_aR (z_aL (z_aR (z_aR (z_aR (z_aR (z_aL (z_aR h))))))))))
  | 2, _ => (z_aL (z_aL (z_aR (z_aR (z_aR (z_aR (z_aR (z_aL (z_aR h)))))))))
  | 3, _ => (z_aL (z_aR (z_aL (z_aR (z_aR (z_aR (z_aR (z_aR (z_aL (z_aR h))))))))))
  | 4, _ => (z_aR (z_aR (z_aL (z_aR (z_aR (z_aR (z_aR (z_aR (z_aL (z_aR h))))))))))
  | 5, _ => (z_aL (z_aR (z_aR (z_aR (z_aR (z_aR (z_aR (z_aL (z_aR h)))))))))
  | n + 6, hj => absurd hj (by show ¬ n + 6 < 6; omega)⟩
theorem z_sta3 (h : z_c0.before args s = true) : z_stP s args 3 := ⟨(z_aL (z_aR (z_aR (z_aR (z_aR (z_aR (z_aR (z_aR (z_aL (z_aR h)))))))))), (z_aR (z_aR (z_aR (z_aR (z_aR (z_aR (z_aR (z_aR (z_aL (z_aR h)))))))))), (z_aL (z_aL (z_aL (z_aL (z_aL (z_aL (z_aL (z_aR (z_aR h))))))))), (z_aR (z_aL (z_aL (z_aL (z_aL (z_aL (z_aL (z_aR (z_aR h))))))))), fun j hj => match j, hj with
  | 0, _ => (z_aL (z_aR (z_aL (z_aL (z_aL (z_aL (z_aL (z_aR (z_aR h)))))))))
  | 1, _ => (z_aL (z_aR (z_aR (z_aL (z_aL (z_aL (z_aL (z_aL (z_aR (z_aR h))))))))))
  | 2, _ => (z_aR (z_aR (z_aR (z_aL (z_aL (z_aL (z_aL (z_aL (z_aR (z_aR h))))))))))
  | 3, _ => (z_aL (z_aL (z_aR (z_aL (z_aL (z_aL (z_aL (z_aR (z_aR h)))))))))
  | n + 4, hj => absurd hj (by show ¬ n + 4 < 4; omega)⟩
theorem z_sta4 (h : z_c0.before args s = true) : z_stP s args 4 := ⟨(z_aR (z_aL (z_aR (z_aL (z_aL (z_aL (z_aL (z_aR (z_aR h))))))))), (z_aL (z_aR (z_aR (z_aL (z_aL (z_aL (z_aL (z_aR (z_aR h))))))))), (z_aL (z_aR (z_aR (z_aR (z_aL (z_aL (z_aL (z_aL (z_aR (z_aR h)))))))))), (z_aR (z_aR (z_aR (z_aR (z_aL (z_aL (z_aL (z_aL (z_aR (z_aR h)))))))))), fun j hj => match j, hj with
  | 0, _ => (z_aL (z_aL (z_aL (z_aR (z_aL (z_aL (z_aL (z_aR (z_aR h)))))))))
  | 1, _ => (z_aR (z_aL (z_aL (z_aR (z_aL (z_aL (z_aL (z_aR (z_aR h)))))))))
  | 2, _ => (z_aL (z_aR (z_aL (z_aR (z_aL (z_aL (z_aL (z_aR (z_aR h)))))))))
  | n + 3, hj => absurd hj (by show ¬ n + 3 < 3; omega)⟩
theorem z_sta5 (h : z_c0.before args s = true) : z_stP s args 5 := ⟨(z_aL (z_aR (z_aR (z_aL (z_aR (z_aL (z_aL (z_aL (z_aR (z_aR h)))))))))), (z_aR (z_aR (z_aR (z_aL (z_aR (z_aL (z_aL (z_aL (z_aR (z_aR h)))))))))), (z_aL (z_aL (z_aR (z_aR (z_aL (z_aL (z_aL (z_aR (z_aR h))))))))), (z_aL (z_aR (z_aL (z_aR (z_aR (z_aL (z_aL (z_aL (z_aR (z_aR h)))))))))), fun j hj => match j, hj with
  | 0, _ => (z_aR (z_aR (z_aL (z_aR (z_aR (z_aL (z_aL (z_aL (z_aR (z_aR h))))))))))
  | 1, _ => (z_aL (z_aR (z_aR (z_aR (z_aL (z_aL (z_aL (z_aR (z_aR h)))))))))
  | 2, _ => (z_aL (z_aR (z_aR (z_aR (z_aR (z_aL (z_aL (z_aL (z_aR (z_aR h))))))))))
  | n + 3, hj => absurd hj (by show ¬ n + 3 < 3; omega)⟩
theorem z_sta6 (h : z_c0.before args s = true) : z_stP s args 6 := ⟨(z_aR (z_aR (z_aR (z_aR (z_aR (z_aL (z_aL (z_aL (z_aR (z_aR h)))))))))), (z_aL (z_aL (z_aL (z_aL (z_aR (z_aL (z_aL (z_aR (z_aR h))))))))), (z_aR (z_aL (z_aL (z_aL (z_aR (z_aL (z_aL (z_aR (z_aR h))))))))), (z_aL (z_aR (z_aL (z_aL (z_aR (z_aL (z_aL (z_aR (z_aR h))))))))), fun j hj => match j, hj with
  | 0, _ => (z_aL (z_aR (z_aR (z_aL (z_aL (z_aR (z_aL (z_aL (z_aR (z_aR h))))))))))
  | 1, _ => (z_aR (z_aR (z_aR (z_aL (z_aL (z_aR (z_aL (z_aL (z_aR (z_aR h))))))))))
  | n + 2, hj => absurd hj (by show ¬ n + 2 < 2; omega)⟩
theorem z_sta7 (h : z_c0.before args s = true) : z_stP s args 7 := ⟨(z_aL (z_aL (z_aR (z_aL (z_aR (z_aL (z_aL (z_aR (z_aR h))))))))), (z_aL (z_aR (z_aL (z_aR (z_aL (z_aR (z_aL (z_aL (z_aR (z_aR h)))))))))), (z_aR (z_aR (z_aL (z_aR (z_aL (z_aR (z_aL (z_aL (z_aR (z_aR h)))))))))), (z_aL (z_aR (z_aR (z_aL (z_aR (z_aL (z_aL (z_aR (z_aR h))))))))), fun j hj => match j, hj with
  | 0, _ => (z_aL (z_aR (z_aR (z_aR (z_aL (z_aR (z_aL (z_aL (z_aR (z_aR h))))))))))
  | 1, _ => (z_aR (z_aR (z_aR (z_aR (z_aL (z_aR (z_aL (z_aL (z_aR (z_aR h))))))))))
  | 2, _ => (z_aL (z_aL (z_aL (z_aR (z_aR (z_aL (z_aL (z_aR (z_aR h)))))))))
  | n + 3, hj => absurd hj (by show ¬ n + 3 < 3; omega)⟩
theorem z_sta8 (h : z_c0.before args s = true) : z_stP s args 8 := ⟨(z_aR (z_aL (z_aL (z_aR (z_aR (z_aL (z_aL (z_aR (z_aR h))))))))), (z_aL (z_aR (z_aL (z_aR (z_aR (z_aL (z_aL (z_aR (z_aR h))))))))), (z_aL (z_aR (z_aR (z_aL (z_aR (z_aR (z_aL (z_aL (z_aR (z_aR h)))))))))), (z_aR (z_aR (z_aR (z_aL (z_aR (z_aR (z_aL (z_aL (z_aR (z_aR h)))))))))), fun j hj => match j, hj with
  | 0, _ => (z_aL (z_aL (z_aR (z_aR (z_aR (z_aL (z_aL (z_aR (z_aR h)))))))))
  | 1, _ => (z_aL (z_aR (z_aL (z_aR (z_aR (z_aR (z_aL (z_aL (z_aR (z_aR h))))))))))
  | 2, _ => (z_aR (z_aR (z_aL (z_aR (z_aR (z_aR (z_aL (z_aL (z_aR (z_aR h))))))))))
  | 3, _ => (z_aL (z_aR (z_aR (z_aR (z_aR (z_aL (z_aL (z_aR (z_aR h)))))))))
  | n + 4, hj => absurd hj (by show ¬ n + 4 < 4; omega)⟩
theorem z_sta9 (h : z_c0.before args s = true) : z_stP s args 9 := ⟨(z_aL (z_aR (z_aR (z_aR (z_aR (z_aR (z_aL (z_aL (z_aR (z_aR h)))))))))), (z_aR (z_aR (z_aR (z_aR (z_aR (z_aR (z_aL (z_aL (z_aR (z_aR h)))))))))), (z_aL (z_aL (z_aL (z_aL (z_aL (z_aR (z_aL (z_aR (z_aR h))))))))), (z_aR (z_aL (z_aL (z_aL (z_aL (z_aR (z_aL (z_aR (z_aR h))))))))), fun j hj => match j, hj with
  | 0, _ => (z_aL (z_aR (z_aL (z_aL (z_aL (z_aR (z_aL (z_aR (z_aR h)))))))))
  | 1, _ => (z_aL (z_aR (z_aR (z_aL (z_aL (z_aL (z_aR (z_aL (z_aR (z_aR h))))))))))
  | 2, _ => (z_aR (z_aR (z_aR (z_aL (z_aL (z_aL (z_aR (z_aL (z_aR (z_aR h))))))))))
  | n + 3, hj => absurd hj (by show ¬ n + 3 < 3; omega)⟩
theorem z_sta10 (h : z_c0.before args s = true) : z_stP s args 10 := ⟨(z_aL (z_aL (z_aR (z_aL (z_aL (z_aR (z_aL (z_aR (z_aR h))))))))), (z_aR (z_aL (z_aR (z_aL (z_aL (z_aR (z_aL (z_aR (z_aR h))))))))), (z_aL (z_aR (z_aR (z_aL (z_aL (z_aR (z_aL (z_aR (z_aR h))))))))), (z_aL (z_aR (z_aR (z_aR (z_aL (z_aL (z_aR (z_aL (z_aR (z_aR h)))))))))), fun j hj => match j, hj with
  | 0, _ => (z_aR (z_aR (z_aR (z_aR (z_aL (z_aL (z_aR (z_aL (z_aR (z_aR h))))))))))
  | 1, _ => (z_aL (z_aL (z_aL (z_aR (z_aL (z_aR (z_aL (z_aR (z_aR h)))))))))
  | n + 2, hj => absurd hj (by show ¬ n + 2 < 2; omega)⟩
theorem z_sta11 (h : z_c0.before args s = true) : z_stP s args 11 := ⟨(z_aR (z_aL (z_aL (z_aR (z_aL (z_aR (z_aL (z_aR (z_aR h))))))))), (z_aL (z_aR (z_aL (z_aR (z_aL (z_aR (z_aL (z_aR (z_aR h))))))))), (z_aL (z_aR (z_aR (z_aL (z_aR (z_aL (z_aR (z_aL (z_aR (z_aR h)))))))))), (z_aR (z_aR (z_aR (z_aL (z_aR (z_aL (z_aR (z_aL (z_aR (z_aR h)))))))))), fun j hj => match j, hj with
  | 0, _ => (z_aL (z_aL (z_aR (z_aR (z_aL (z_aR (z_aL (z_aR (z_aR h)))))))))
  | 1, _ => (z_aL (z_aR (z_aL (z_aR (z_aR (z_aL (z_aR (z_aL (z_aR (z_aR h))))))))))
  | 2, _ => (z_aR (z_aR (z_aL (z_aR (z_aR (z_aL (z_aR (z_aL (z_aR (z_aR h))))))))))
  | 3, _ => (z_aL (z_aR (z_aR (z_aR (z_aL (z_aR (z_aL (z_aR (z_aR h)))))))))
  | 4, _ => (z_aL (z_aR (z_aR (z_aR (z_aR (z_aL (z_aR (z_aL (z_aR (z_aR h))))))))))
  | n + 5, hj => absurd hj (by show ¬ n + 5 < 5; omega)⟩
theorem z_sta12 (h : z_c0.before args s = true) : z_stP s args 12 := ⟨(z_aR (z_aR (z_aR (z_aR (z_aR (z_aL (z_aR (z_aL (z_aR (z_aR h)))))))))), (z_aL (z_aL (z_aL (z_aL (z_aR (z_aR (z_aL (z_aR (z_aR h))))))))), (z_aR (z_aL (z_aL (z_aL (z_aR (z_aR (z_aL (z_aR (z_aR h))))))))), (z_aL (z_aR (z_aL (z_aL (z_aR (z_aR (z_aL (z_aR (z_aR h))))))))), fun j hj => match j, hj with
  | 0, _ => (z_aL (z_aR (z_aR (z_aL (z_aL (z_aR (z_aR (z_aL (z_aR (z_aR h))))))))))
  | 1, _ => (z_aR (z_aR (z_aR (z_aL (z_aL (z_aR (z_aR (z_aL (z_aR (z_aR h))))))))))
  | n + 2, hj => absurd hj (by show ¬ n + 2 < 2; omega)⟩
theorem z_sta13 (h : z_c0.before args s = true) : z_stP s args 13 := ⟨(z_aL (z_aL (z_aR (z_aL (z_aR (z_aR (z_aL (z_aR (z_aR h))))))))), (z_aL (z_aR (z_aL (z_aR (z_aL (z_aR (z_aR (z_aL (z_aR (z_aR h)))))))))), (z_aR (z_aR (z_aL (z_aR (z_aL (z_aR (z_aR (z_aL (z_aR (z_aR h)))))))))), (z_aL (z_aR (z_aR (z_aL (z_aR (z_aR (z_aL (z_aR (z_aR h))))))))), fun j hj => match j, hj with
  | 0, _ => (z_aL (z_aR (z_aR (z_aR (z_aL (z_aR (z_aR (z_aL (z_aR (z_aR h))))))))))
  | 1, _ => (z_aR (z_aR (z_aR (z_aR (z_aL (z_aR (z_aR (z_aL (z_aR (z_aR h))))))))))
  | 2, _ => (z_aL (z_aL (z_aL (z_aR (z_aR (z_aR (z_aL (z_aR (z_aR h)))))))))
  | 3, _ => (z_aR (z_aL (z_aL (z_aR (z_aR (z_aR (z_aL (z_aR (z_aR h)))))))))
  | n + 4, hj => absurd hj (by show ¬ n + 4 < 4; omega)⟩
theorem z_sta14 (h : z_c0.before args s = true) : z_stP s args 14 := ⟨(z_aL (z_aR (z_aL (z_aR (z_aR (z_aR (z_aL (z_aR (z_aR h))))))))), (z_aL (z_aR (z_aR (z_aL (z_aR (z_aR (z_aR (z_aL (z_aR (z_aR h)))))))))), (z_aR (z_aR (z_aR (z_aL (z_aR (z_aR (z_aR (z_aL (z_aR (z_aR h)))))))))), (z_aL (z_aL (z_aR (z_aR (z_aR (z_aR (z_aL (z_aR (z_aR h))))))))), fun j hj => match j, hj with
  | 0, _ => (z_aL (z_aR (z_aL (z_aR (z_aR (z_aR (z_aR (z_aL (z_aR (z_aR h))))))))))
  | 1, _ => (z_aR (z_aR (z_aL (z_aR (z_aR (z_aR (z_aR (z_aL (z_aR (z_aR h))))))))))
  | 2, _ => (z_aL (z_aR (z_aR (z_aR (z_aR (z_aR (z_aL (z_aR (z_aR h)))))))))
  | 3, _ => (z_aL (z_aR (z_aR (z_aR (z_aR (z_aR (z_aR (z_aL (z_aR (z_aR h))))))))))
  | n + 4, hj => absurd hj (by show ¬ n + 4 < 4; omega)⟩
theorem z_sta15 (h : z_c0.before args s = true) : z_stP s args 15 := ⟨(z_aR (z_aR (z_aR (z_aR (z_aR (z_aR (z_aR (z_aL (z_aR (z_aR h)))))))))), (z_aL (z_aL (z_aL (z_aL (z_aL (z_aL (z_aR (z_aR (z_aR h))))))))), (z_aR (z_aL (z_aL (z_aL (z_aL (z_aL (z_aR (z_aR (z_aR h))))))))), (z_aL (z_aR (z_aL (z_aL (z_aL (z_aL (z_aR (z_aR (z_aR h))))))))), fun j hj => match j, hj with
  | 0, _ => (z_aL (z_aR (z_aR (z_aL (z_aL (z_aL (z_aL (z_aR (z_aR (z_aR h))))))))))
  | 1, _ => (z_aR (z_aR (z_aR (z_aL (z_aL (z_aL (z_aL (z_aR (z_aR (z_aR h))))))))))
  | 2, _ => (z_aL (z_aL (z_aR (z_aL (z_aL (z_aL (z_aR (z_aR (z_aR h)))))))))
  | n + 3, hj => absurd hj (by show ¬ n + 3 < 3; omega)⟩
theorem z_sta16 (h : z_c0.before args s = true) : z_stP s args 16 := ⟨(z_aR (z_aL (z_aR (z_aL (z_aL (z_aL (z_aR (z_aR (z_aR h))))))))), (z_aL (z_aR (z_aR (z_aL (z_aL (z_aL (z_aR (z_aR (z_aR h))))))))), (z_aL (z_aR (z_aR (z_aR (z_aL (z_aL (z_aL (z_aR (z_aR (z_aR h)))))))))), (z_aR (z_aR (z_aR (z_aR (z_aL (z_aL (z_aL (z_aR (z_aR (z_aR h)))))))))), fun j hj => match j, hj with
  | 0, _ => (z_aL (z_aL (z_aL (z_aR (z_aL (z_aL (z_aR (z_aR (z_aR h)))))))))
  | 1, _ => (z_aR (z_aL (z_aL (z_aR (z_aL (z_aL (z_aR (z_aR (z_aR h)))))))))
  | n + 2, hj => absurd hj (by show ¬ n + 2 < 2; omega)⟩
theorem z_sta17 (h : z_c0.before args s = true) : z_stP s args 17 := ⟨(z_aL (z_aR (z_aL (z_aR (z_aL (z_aL (z_aR (z_aR (z_aR h))))))))), (z_aL (z_aR (z_aR (z_aL (z_aR (z_aL (z_aL (z_aR (z_aR (z_aR h)))))))))), (z_aR (z_aR (z_aR (z_aL (z_aR (z_aL (z_aL (z_aR (z_aR (z_aR h)))))))))), (z_aL (z_aL (z_aR (z_aR (z_aL (z_aL (z_aR (z_aR (z_aR h))))))))), fun j hj => match j, hj with
  | 0, _ => (z_aL (z_aR (z_aL (z_aR (z_aR (z_aL (z_aL (z_aR (z_aR (z_aR h))))))))))
  | 1, _ => (z_aR (z_aR (z_aL (z_aR (z_aR (z_aL (z_aL (z_aR (z_aR (z_aR h))))))))))
  | 2, _ => (z_aL (z_aR (z_aR (z_aR (z_aL (z_aL (z_aR (z_aR (z_aR h)))))))))
  | n + 3, hj => absurd hj (by show ¬ n + 3 < 3; omega)⟩
theorem z_sta18 (h : z_c0.before args s = true) : z_stP s args 18 := ⟨(z_aL (z_aR (z_aR (z_aR (z_aR (z_aL (z_aL (z_aR (z_aR (z_aR h)))))))))), (z_aR (z_aR (z_aR (z_aR (z_aR (z_aL (z_aL (z_aR (z_aR (z_aR h)))))))))), (z_aL (z_aL (z_aL (z_aL (z_aR (z_aL (z_aR (z_aR (z_aR h))))))))), (z_aR (z_aL (z_aL (z_aL (z_aR (z_aL (z_aR (z_aR (z_aR h))))))))), fun j hj => match j, hj with
  | 0, _ => (z_aL (z_aR (z_aL (z_aL (z_aR (z_aL (z_aR (z_aR (z_aR h)))))))))
  | 1, _ => (z_aL (z_aR (z_aR (z_aL (z_aL (z_aR (z_aL (z_aR (z_aR (z_aR h))))))))))
  | 2, _ => (z_aR (z_aR (z_aR (z_aL (z_aL (z_aR (z_aL (z_aR (z_aR (z_aR h))))))))))
  | n + 3, hj => absurd hj (by show ¬ n + 3 < 3; omega)⟩
theorem z_sta19 (h : z_c0.before args s = true) : z_stP s args 19 := ⟨(z_aL (z_aL (z_aR (z_aL (z_aR (z_aL (z_aR (z_aR (z_aR h))))))))), (z_aL (z_aR (z_aL (z_aR (z_aL (z_aR (z_aL (z_aR (z_aR (z_aR h)))))))))), (z_aR (z_aR (z_aL (z_aR (z_aL (z_aR (z_aL (z_aR (z_aR (z_aR h)))))))))), (z_aL (z_aR (z_aR (z_aL (z_aR (z_aL (z_aR (z_aR (z_aR h))))))))), fun j hj => match j, hj with
  | 0, _ => (z_aL (z_aR (z_aR (z_aR (z_aL (z_aR (z_aL (z_aR (z_aR (z_aR h))))))))))
  | 1, _ => (z_aR (z_aR (z_aR (z_aR (z_aL (z_aR (z_aL (z_aR (z_aR (z_aR h))))))))))
  | 2, _ => (z_aL (z_aL (z_aL (z_aR (z_aR (z_aL (z_aR (z_aR (z_aR h)))))))))
  | n + 3, hj => absurd hj (by show ¬ n + 3 < 3; omega)⟩
theorem z_sta20 (h : z_c0.before args s = true) : z_stP s args 20 := ⟨(z_aR (z_aL (z_aL (z_aR (z_aR (z_aL (z_aR (z_aR (z_aR h))))))))), (z_aL (z_aR (z_aL (z_aR (z_aR (z_aL (z_aR (z_aR (z_aR h))))))))), (z_aL (z_aR (z_aR (z_aL (z_aR (z_aR (z_aL (z_aR (z_aR (z_aR h)))))))))), (z_aR (z_aR (z_aR (z_aL (z_aR (z_aR (z_aL (z_aR (z_aR (z_aR h)))))))))), fun j hj => match j, hj with
  | 0, _ => (z_aL (z_aL (z_aR (z_aR (z_aR (z_aL (z_aR (z_aR (z_aR h)))))))))
  | 1, _ => (z_aL (z_aR (z_aL (z_aR (z_aR (z_aR (z_aL (z_aR (z_aR (z_aR h))))))))))
  | 2, _ => (z_aR (z_aR (z_aL (z_aR (z_aR (z_aR (z_aL (z_aR (z_aR (z_aR h))))))))))
  | 3, _ => (z_aL (z_aR (z_aR (z_aR (z_aR (z_aL (z_aR (z_aR (z_aR h)))))))))
  | 4, _ => (z_aL (z_aR (z_aR (z_aR (z_aR (z_aR (z_aL (z_aR (z_aR (z_aR h))))))))))
  | 5, _ => (z_aR (z_aR (z_aR (z_aR (z_aR (z_aR (z_aL (z_aR (z_aR (z_aR h))))))))))
  | 6, _ => (z_aL (z_aL (z_aL (z_aL (z_aL (z_aR (z_aR (z_aR (z_aR h)))))))))
  | n + 7, hj => absurd hj (by show ¬ n + 7 < 7; omega)⟩
theorem z_sta21 (h : z_c0.before args s = true) : z_stP s args 21 := ⟨(z_aR (z_aL (z_aL (z_aL (z_aL (z_aR (z_aR (z_aR (z_aR h))))))))), (z_aL (z_aR (z_aL (z_aL (z_aL (z_aR (z_aR (z_aR (z_aR h))))))))), (z_aL (z_aR (z_aR (z_aL (z_aL (z_aL (z_aR (z_aR (z_aR (z_aR h)))))))))), (z_aR (z_aR (z_aR (z_aL (z_aL (z_aL (z_aR (z_aR (z_aR (z_aR h)))))))))), fun j hj => match j, hj with
  | 0, _ => (z_aL (z_aL (z_aR (z_aL (z_aL (z_aR (z_aR (z_aR (z_aR h)))))))))
  | 1, _ => (z_aL (z_aR (z_aL (z_aR (z_aL (z_aL (z_aR (z_aR (z_aR (z_aR h))))))))))
  | 2, _ => (z_aR (z_aR (z_aL (z_aR (z_aL (z_aL (z_aR (z_aR (z_aR (z_aR h))))))))))
  | n + 3, hj => absurd hj (by show ¬ n + 3 < 3; omega)⟩
theorem z_sta22 (h : z_c0.before args s = true) : z_stP s args 22 := ⟨(z_aL (z_aR (z_aR (z_aL (z_aL (z_aR (z_aR (z_aR (z_aR h))))))))), (z_aL (z_aR (z_aR (z_aR (z_aL (z_aL (z_aR (z_aR (z_aR (z_aR h)))))))))), (z_aR (z_aR (z_aR (z_aR (z_aL (z_aL (z_aR (z_aR (z_aR (z_aR h)))))))))), (z_aL (z_aL (z_aL (z_aR (z_aL (z_aR (z_aR (z_aR (z_aR h))))))))), fun j hj => match j, hj with
  | 0, _ => (z_aR (z_aL (z_aL (z_aR (z_aL (z_aR (z_aR (z_aR (z_aR h)))))))))
  | 1, _ => (z_aL (z_aR (z_aL (z_aR (z_aL (z_aR (z_aR (z_aR (z_aR h)))))))))
  | 2, _ => (z_aL (z_aR (z_aR (z_aL (z_aR (z_aL (z_aR (z_aR (z_aR (z_aR h))))))))))
  | 3, _ => (z_aR (z_aR (z_aR (z_aL (z_aR (z_aL (z_aR (z_aR (z_aR (z_aR h))))))))))
  | n + 4, hj => absurd hj (by show ¬ n + 4 < 4; omega)⟩
theorem z_sta23 (h : z_c0.before args s = true) : z_stP s args 23 := ⟨(z_aL (z_aL (z_aR (z_aR (z_aL (z_aR (z_aR (z_aR (z_aR h))))))))), (z_aL (z_aR (z_aL (z_aR (z_aR (z_aL (z_aR (z_aR (z_aR (z_aR h)))))))))), (z_aR (z_aR (z_aL (z_aR (z_aR (z_aL (z_aR (z_aR (z_aR (z_aR h)))))))))), (z_aL (z_aR (z_aR (z_aR (z_aL (z_aR (z_aR (z_aR (z_aR h))))))))), fun j hj => match j, hj with
  | 0, _ => (z_aL (z_aR (z_aR (z_aR (z_aR (z_aL (z_aR (z_aR (z_aR (z_aR h))))))))))
  | 1, _ => (z_aR (z_aR (z_aR (z_aR (z_aR (z_aL (z_aR (z_aR (z_aR (z_aR h))))))))))
  | 2, _ => (z_aL (z_aL (z_aL (z_aL (z_aR (z_aR (z_aR (z_aR (z_aR h)))))))))
  | 3, _ => (z_aR (z_aL (z_aL (z_aL (z_aR (z_aR (z_aR (z_aR (z_aR h)))))))))
  | 4, _ => (z_aL (z_aR (z_aL (z_aL (z_aR (z_aR (z_aR (z_aR (z_aR h)))))))))
  | n + 5, hj => absurd hj (by show ¬ n + 5 < 5; omega)⟩
theorem z_sta24 (h : z_c0.before args s = true) : z_stP s args 24 := ⟨(z_aL (z_aR (z_aR (z_aL (z_aL (z_aR (z_aR (z_aR (z_aR (z_aR h)))))))))), (z_aR (z_aR (z_aR (z_aL (z_aL (z_aR (z_aR (z_aR (z_aR (z_aR h)))))))))), (z_aL (z_aL (z_aR (z_aL (z_aR (z_aR (z_aR (z_aR (z_aR h))))))))), (z_aL (z_aR (z_aL (z_aR (z_aL (z_aR (z_aR (z_aR (z_aR (z_aR h)))))))))), fun j hj => match j, hj with
  | 0, _ => (z_aR (z_aR (z_aL (z_aR (z_aL (z_aR (z_aR (z_aR (z_aR (z_aR h))))))))))
  | 1, _ => (z_aL (z_aR (z_aR (z_aL (z_aR (z_aR (z_aR (z_aR (z_aR h)))))))))
  | 2, _ => (z_aL (z_aR (z_aR (z_aR (z_aL (z_aR (z_aR (z_aR (z_aR (z_aR h))))))))))
  | 3, _ => (z_aR (z_aR (z_aR (z_aR (z_aL (z_aR (z_aR (z_aR (z_aR (z_aR h))))))))))
  | n + 4, hj => absurd hj (by show ¬ n + 4 < 4; omega)⟩
theorem z_sta25 (h : z_c0.before args s = true) : z_stP s args 25 := ⟨(z_aL (z_aL (z_aL (z_aR (z_aR (z_aR (z_aR (z_aR (z_aR h))))))))), (z_aR (z_aL (z_aL (z_aR (z_aR (z_aR (z_aR (z_aR (z_aR h))))))))), (z_aL (z_aR (z_aL (z_aR (z_aR (z_aR (z_aR (z_aR (z_aR h))))))))), (z_aL (z_aR (z_aR (z_aL (z_aR (z_aR (z_aR (z_aR (z_aR (z_aR h)))))))))), fun j hj => match j, hj with
  | 0, _ => (z_aR (z_aR (z_aR (z_aL (z_aR (z_aR (z_aR (z_aR (z_aR (z_aR h))))))))))
  | 1, _ => (z_aL (z_aL (z_aR (z_aR (z_aR (z_aR (z_aR (z_aR (z_aR h)))))))))
  | 2, _ => (z_aL (z_aR (z_aL (z_aR (z_aR (z_aR (z_aR (z_aR (z_aR (z_aR h))))))))))
  | n + 3, hj => absurd hj (by show ¬ n + 3 < 3; omega)⟩
theorem z_sta26 (h : z_c0.before args s = true) : z_stP s args 26 := ⟨(z_aR (z_aR (z_aR (z_aR (z_aR (z_aR (z_aL (z_aR (z_aL (z_aR h)))))))))), (z_aL (z_aL (z_aL (z_aL (z_aL (z_aR (z_aR (z_aL (z_aR h))))))))), (z_aR (z_aL (z_aL (z_aL (z_aL (z_aR (z_aR (z_aL (z_aR h))))))))), (z_aL (z_aR (z_aL (z_aL (z_aL (z_aR (z_aR (z_aL (z_aR h))))))))), fun j hj => match j, hj with
  | 0, _ => (z_aL (z_aR (z_aR (z_aL (z_aL (z_aL (z_aR (z_aR (z_aL (z_aR h))))))))))
  | 1, _ => (z_aR (z_aR (z_aR (z_aL (z_aL (z_aL (z_aR (z_aR (z_aL (z_aR h))))))))))
  | 2, _ => (z_aL (z_aL (z_aR (z_aL (z_aL (z_aR (z_aR (z_aL (z_aR h)))))))))
  | 3, _ => (z_aR (z_aL (z_aR (z_aL (z_aL (z_aR (z_aR (z_aL (z_aR h)))))))))
  | 4, _ => (z_aL (z_aR (z_aR (z_aL (z_aL (z_aR (z_aR (z_aL (z_aR h)))))))))
  | 5, _ => (z_aL (z_aR (z_aR (z_aR (z_aL (z_aL (z_aR (z_aR (z_aL (z_aR h))))))))))
  | 6, _ => (z_aR (z_aR (z_aR (z_aR (z_aL (z_aL (z_aR (z_aR (z_aL (z_aR h))))))))))
  | 7, _ => (z_aL (z_aL (z_aL (z_aR (z_aL (z_aR (z_aR (z_aL (z_aR h)))))))))
  | 8, _ => (z_aR (z_aL (z_aL (z_aR (z_aL (z_aR (z_aR (z_aL (z_aR h)))))))))
  | 9, _ => (z_aL (z_aR (z_aL (z_aR (z_aL (z_aR (z_aR (z_aL (z_aR h)))))))))
  | 10, _ => (z_aL (z_aR (z_aR (z_aL (z_aR (z_aL (z_aR (z_aR (z_aL (z_aR h))))))))))
  | n + 11, hj => absurd hj (by show ¬ n + 11 < 11; omega)⟩
theorem z_stAll (h : z_c0.before args s = true) : ∀ i, i < 27 → z_stP s args i := by
  intro i hi
  match i, hi with
  | 0, _ => exact z_sta0 h
  | 1, _ => exact z_sta1 h
  | 2, _ => exact z_sta2 h
  | 3, _ => exact z_sta3 h
  | 4, _ => exact z_sta4 h
  | 5, _ => exact z_sta5 h
  | 6, _ => exact z_sta6 h
  | 7, _ => exact z_sta7 h
  | 8, _ => exact z_sta8 h
  | 9, _ => exact z_sta9 h
  | 10, _ => exact z_sta10 h
  | 11, _ => exact z_sta11 h
  | 12, _ => exact z_sta12 h
  | 13, _ => exact z_sta13 h
  | 14, _ => exact z_sta14 h
  | 15, _ => exact z_sta15 h
  | 16, _ => exact z_sta16 h
  | 17, _ => exact z_sta17 h
  | 18, _ => exact z_sta18 h
  | 19, _ => exact z_sta19 h
  | 20, _ => exact z_sta20 h
  | 21, _ => exact z_sta21 h
  | 22, _ => exact z_sta22 h
  | 23, _ => exact z_sta23 h
  | 24, _ => exact z_sta24 h
  | 25, _ => exact z_sta25 h
  | 26, _ => exact z_sta26 h
  | n + 27, hi => exact absurd hi (by omega)
theorem z_stW (h : z_c0.before args s = true) : ∀ j, j < 26 → (Cond.eq (z_el z_tWO j) (z_tm j)).before args s = true := by
  intro i hi
  match i, hi with
  | 0, _ => exact (z_aR (z_aR (z_aR (z_aR (z_aL (z_aL (z_aL (z_aL (z_aL (z_aR h))))))))))
  | 1, _ => exact (z_aL (z_aL (z_aL (z_aR (z_aL (z_aL (z_aL (z_aL (z_aR h)))))))))
  | 2, _ => exact (z_aR (z_aL (z_aL (z_aR (z_aL (z_aL (z_aL (z_aL (z_aR h)))))))))
  | 3, _ => exact (z_aL (z_aR (z_aL (z_aR (z_aL (z_aL (z_aL (z_aL (z_aR h)))))))))
  | 4, _ => exact (z_aL (z_aR (z_aR (z_aL (z_aR (z_aL (z_aL (z_aL (z_aL (z_aR h))))))))))
  | 5, _ => exact (z_aR (z_aR (z_aR (z_aL (z_aR (z_aL (z_aL (z_aL (z_aL (z_aR h))))))))))
  | 6, _ => exact (z_aL (z_aL (z_aR (z_aR (z_aL (z_aL (z_aL (z_aL (z_aR h)))))))))
  | 7, _ => exact (z_aL (z_aR (z_aL (z_aR (z_aR (z_aL (z_aL (z_aL (z_aL (z_aR h))))))))))
  | 8, _ => exact (z_aR (z_aR (z_aL (z_aR (z_aR (z_aL (z_aL (z_aL (z_aL (z_aR h))))))))))
  | 9, _ => exact (z_aL (z_aR (z_aR (z_aR (z_aL (z_aL (z_aL (z_aL (z_aR h)))))))))
  | 10, _ => exact (z_aL (z_aR (z_aR (z_aR (z_aR (z_aL (z_aL (z_aL (z_aL (z_aR h))))))))))
  | 11, _ => exact (z_aR (z_aR (z_aR (z_aR (z_aR (z_aL (z_aL (z_aL (z_aL (z_aR h))))))))))
  | 12, _ => exact (z_aL (z_aL (z_aL (z_aL (z_aR (z_aL (z_aL (z_aL (z_aR h)))))))))
  | 13, _ => exact (z_aR (z_aL (z_aL (z_aL (z_aR (z_aL (z_aL (z_aL (z_aR h)))))))))
  | 14, _ => exact (z_aL (z_aR (z_aL (z_aL (z_aR (z_aL (z_aL (z_aL (z_aR h)))))))))
  | 15, _ => exact (z_aL (z_aR (z_aR (z_aL (z_aL (z_aR (z_aL (z_aL (z_aL (z_aR h))))))))))
  | 16, _ => exact (z_aR (z_aR (z_aR (z_aL (z_aL (z_aR (z_aL (z_aL (z_aL (z_aR h))))))))))
  | 17, _ => exact (z_aL (z_aL (z_aR (z_aL (z_aR (z_aL (z_aL (z_aL (z_aR h)))))))))
  | 18, _ => exact (z_aL (z_aR (z_aL (z_aR (z_aL (z_aR (z_aL (z_aL (z_aL (z_aR h))))))))))
  | 19, _ => exact (z_aR (z_aR (z_aL (z_aR (z_aL (z_aR (z_aL (z_aL (z_aL (z_aR h))))))))))
  | 20, _ => exact (z_aL (z_aR (z_aR (z_aL (z_aR (z_aL (z_aL (z_aL (z_aR h)))))))))
  | 21, _ => exact (z_aL (z_aR (z_aR (z_aR (z_aL (z_aR (z_aL (z_aL (z_aL (z_aR h))))))))))
  | 22, _ => exact (z_aR (z_aR (z_aR (z_aR (z_aL (z_aR (z_aL (z_aL (z_aL (z_aR h))))))))))
  | 23, _ => exact (z_aL (z_aL (z_aL (z_aR (z_aR (z_aL (z_aL (z_aL (z_aR h)))))))))
  | 24, _ => exact (z_aR (z_aL (z_aL (z_aR (z_aR (z_aL (z_aL (z_aL (z_aR h)))))))))
  | 25, _ => exact (z_aL (z_aR (z_aL (z_aR (z_aR (z_aL (z_aL (z_aL (z_aR h)))))))))
  | n + 26, hi => exact absurd hi (by omega)
theorem z_stN (h : z_c0.before args s = true) : ∀ j, j < 10 → (Cond.eq (z_el z_tNA j) (.int (nI (z_named.getD j 0)))).before args s = true := by
  intro i hi
  match i, hi with
  | 0, _ => exact (z_aL (z_aR (z_aL (z_aL (z_aL (z_aR (z_aL (z_aL (z_aR h)))))))))
  | 1, _ => exact (z_aL (z_aR (z_aR (z_aL (z_aL (z_aL (z_aR (z_aL (z_aL (z_aR h))))))))))
  | 2, _ => exact (z_aR (z_aR (z_aR (z_aL (z_aL (z_aL (z_aR (z_aL (z_aL (z_aR h))))))))))
  | 3, _ => exact (z_aL (z_aL (z_aR (z_aL (z_aL (z_aR (z_aL (z_aL (z_aR h)))))))))
  | 4, _ => exact (z_aR (z_aL (z_aR (z_aL (z_aL (z_aR (z_aL (z_aL (z_aR h)))))))))
  | 5, _ => exact (z_aL (z_aR (z_aR (z_aL (z_aL (z_aR (z_aL (z_aL (z_aR h)))))))))
  | 6, _ => exact (z_aL (z_aR (z_aR (z_aR (z_aL (z_aL (z_aR (z_aL (z_aL (z_aR h))))))))))
  | 7, _ => exact (z_aR (z_aR (z_aR (z_aR (z_aL (z_aL (z_aR (z_aL (z_aL (z_aR h))))))))))
  | 8, _ => exact (z_aL (z_aL (z_aL (z_aR (z_aL (z_aR (z_aL (z_aL (z_aR h)))))))))
  | 9, _ => exact (z_aR (z_aL (z_aL (z_aR (z_aL (z_aR (z_aL (z_aL (z_aR h)))))))))
  | n + 10, hi => exact absurd hi (by omega)
theorem z_lfNO (h : z_c0.before args s = true) : Cond.before (.exactly z_tNO "TollsForLate$Text") args s = true := (z_aR (z_aR (z_aL (z_aR (z_aR (z_aL (z_aR (z_aL (z_aL (z_aR h))))))))))
theorem z_lfNL (h : z_c0.before args s = true) : Cond.before (.arrayOf z_tNL (.object "TollsForLate$Sum")) args s = true := (z_aL (z_aR (z_aR (z_aR (z_aL (z_aR (z_aL (z_aL (z_aR h)))))))))
theorem z_lfNLl (h : z_c0.before args s = true) : Cond.before (.eq (.length z_tNL) (.int (Int32.ofNat 2))) args s = true := (z_aL (z_aR (z_aR (z_aR (z_aR (z_aL (z_aR (z_aL (z_aL (z_aR h))))))))))
theorem z_lfNL0 (h : z_c0.before args s = true) : Cond.before (.eq (z_el z_tNL 0) .null) args s = true := (z_aR (z_aR (z_aR (z_aR (z_aR (z_aL (z_aR (z_aL (z_aL (z_aR h))))))))))
theorem z_lfNL1 (h : z_c0.before args s = true) : Cond.before (.eq (z_el z_tNL 1) .null) args s = true := (z_aL (z_aL (z_aL (z_aL (z_aR (z_aR (z_aL (z_aL (z_aR h)))))))))
theorem z_lfDE (h : z_c0.before args s = true) : Cond.before (.arrayOf z_tDE (.object "java/lang/Object")) args s = true := (z_aL (z_aR (z_aR (z_aL (z_aL (z_aL (z_aL (z_aL (z_aL (z_aR h))))))))))
theorem z_lfDEl (h : z_c0.before args s = true) : Cond.before (.eq (.length z_tDE) (.int (Int32.ofNat 0))) args s = true := (z_aL (z_aL (z_aR (z_aL (z_aL (z_aL (z_aL (z_aL (z_aR h)))))))))
theorem z_lfWO (h : z_c0.before args s = true) : Cond.before (.arrayOf z_tWO (.object "java/lang/String")) args s = true := (z_aL (z_aR (z_aR (z_aL (z_aL (z_aL (z_aL (z_aL (z_aR h)))))))))
theorem z_lfWOl (h : z_c0.before args s = true) : Cond.before (.eq (.length z_tWO) (.int (Int32.ofNat 26))) args s = true := (z_aL (z_aR (z_aR (z_aR (z_aL (z_aL (z_aL (z_aL (z_aL (z_aR h))))))))))
theorem z_lfNA (h : z_c0.before args s = true) : Cond.before (.arrayOf z_tNA .int) args s = true := (z_aL (z_aL (z_aL (z_aL (z_aL (z_aR (z_aL (z_aL (z_aR h)))))))))
theorem z_lfNAl (h : z_c0.before args s = true) : Cond.before (.eq (.length z_tNA) (.int (Int32.ofNat 10))) args s = true := (z_aR (z_aL (z_aL (z_aL (z_aL (z_aR (z_aL (z_aL (z_aR h)))))))))
theorem z_lfCA (h : z_c0.before args s = true) : Cond.before (.arrayOf z_tCA (.object "java/lang/Integer")) args s = true := (z_aR (z_aR (z_aR (z_aL (z_aR (z_aL (z_aR (z_aL (z_aL (z_aR h))))))))))
theorem z_lfCAl (h : z_c0.before args s = true) : Cond.before (.eq (.length z_tCA) (.int (Int32.ofNat 256))) args s = true := (z_aL (z_aL (z_aR (z_aR (z_aL (z_aR (z_aL (z_aL (z_aR h)))))))))
theorem z_lfCAa (h : z_c0.before args s = true) : Cond.before (.all z_tCA (.and (.exactly z_tCE "java/lang/Integer") (.eq (.field z_tCE "java/lang/Integer" "value" "I") (.sub (.index 0) (.int 128))))) args s = true := (z_aL (z_aR (z_aL (z_aR (z_aR (z_aL (z_aR (z_aL (z_aL (z_aR h))))))))))
theorem z_lfCS (h : z_c0.before args s = true) : Cond.before (.eq (.static "java/lang/String" "COMPACT_STRINGS" "Z") (.int 1)) args s = true := (z_aL (z_aR (z_aR (z_aL (z_aR (z_aR (z_aL (z_aL (z_aL (z_aR h))))))))))
theorem z_lfHI (h : z_c0.before args s = true) : Cond.before (.eq (.static "java/lang/Integer$IntegerCache" "high" "I") (.int 127)) args s = true := (z_aL (z_aR (z_aL (z_aR (z_aL (z_aR (z_aL (z_aL (z_aR h)))))))))
theorem z_lfSF (h : z_c0.before args s = true) : Cond.before (.isRef (.static "jdk/internal/util/Preconditions" "SIOOBE_FORMATTER" "Ljava/util/function/BiFunction;")) args s = true := (z_aR (z_aR (z_aR (z_aL (z_aR (z_aR (z_aL (z_aL (z_aL (z_aR h))))))))))
theorem z_lfUS (h : z_c0.before args s = true) : Cond.before (.isRef (.static "java/lang/Throwable" "UNASSIGNED_STACK" "[Ljava/lang/StackTraceElement;")) args s = true := (z_aL (z_aR (z_aR (z_aR (z_aR (z_aL (z_aL (z_aL (z_aR h)))))))))
theorem z_lfSS (h : z_c0.before args s = true) : Cond.before (.isRef (.static "java/lang/Throwable" "SUPPRESSED_SENTINEL" "Ljava/util/List;")) args s = true := (z_aL (z_aR (z_aR (z_aR (z_aR (z_aR (z_aL (z_aL (z_aL (z_aR h))))))))))
theorem z_lfMI (h : z_c0.before args s = true) : Cond.before (.isRef (.mirror "[Ljava/lang/Object;")) args s = true := (z_aL (z_aR (z_aR (z_aR (z_aR (z_aR (z_aL (z_aR (z_aL (z_aR h))))))))))
end ZLeaf
