/-! THE START, 2: the world at the law's entry, out of the premises -/
set_option maxRecDepth 100000
section ZStart
variable {s : State} {args : Array Value}
theorem z_eq2 {t u : Term} {v : Value} (h : (Cond.eq t u).before args s = true) (hu : u.eval args s none [] s = some v) (hv : v.isRef = true) : t.eval args s none [] s = some v := by
  cases ht : t.eval args s none [] s with
  | none => simp [Cond.before, Cond.holds, Cond.value, ht] at h
  | some w =>
    simp only [Cond.before, Cond.holds, Cond.value, ht, hu] at h
    cases v <;> cases w <;> simp_all [Value.isRef]
theorem z_aV {a b : Jvm.Cond} {idx : List Nat} (h : (Jvm.Cond.and a b).value args s none s idx = some true) : a.holds args s none s idx = true ∧ b.holds args s none s idx = true := by
  simp only [Cond.value] at h
  simp only [Cond.holds]
  generalize a.value args s none s idx = x at h ⊢
  generalize b.value args s none s idx = y at h ⊢
  rcases x with _ | (_ | _) <;> rcases y with _ | (_ | _) <;> simp_all
theorem z_noA : ∀ a : Nat, a < s.heap.size → ¬ s.heap.size ≤ a := fun _ h => Nat.not_le.mpr h
def z_strF (s : State) (args : Array Value) (i : Nat) (q : Nat × Nat) : Prop := (z_tm i).eval args s none [] s = some (.ref q.1) ∧ va_O "java/lang/String" q.1 (fun x => s.heap.size ≤ x) s s.heap ∧ va_OF "java/lang/String" "coder" "B" (.int 0) q.1 (fun x => s.heap.size ≤ x) s s.heap ∧ va_OF "java/lang/String" "value" "[B" (.ref q.2) q.1 (fun x => s.heap.size ≤ x) s s.heap ∧ va_T .byte q.2 (z_words.getD i []).length (fun j => .int (nI ((z_words.getD i []).getD j 0))) (fun x => s.heap.size ≤ x) s s.heap
theorem z_st_len : ∀ i, i < 27 → (z_words.getD i []).length < 2 ^ 31 := by decide +kernel
theorem z_st_str (hq : z_c0.before args s = true) : ∃ f : Nat → Nat × Nat, ∀ i, i < 27 → z_strF s args i (f i) := by
  have h0 : ∀ i : Nat, ∃ q : Nat × Nat, i < 27 → z_strF s args i q := by
    intro i
    by_cases hi : i < 27
    · obtain ⟨h1, h2, h3, h4, h5⟩ := z_stAll hq i hi
      obtain ⟨a, c, cA, kA, q1, q2, q3, q4, q5, q6, -⟩ := Cond.exactly_spec (args := args) (first := s) (o := none) (s := s) (idx := []) h1
      obtain ⟨t, ht, hT⟩ := va_Tof (f := fun j => .int (nI ((z_words.getD i []).getD j 0))) (A := fun x => s.heap.size ≤ x) (z_st_len i hi) h3 (va_eqt h4) (fun j hj => va_eqt (h5 j hj)) z_noA
      exact ⟨(a, t), fun _ => ⟨q1, ⟨cA, q3, q5, by rw [q6]; exact q2, z_noA a (Array.getElem?_eq_some_iff.mp q3).1⟩, vk_OFof q1 (va_eqt h2) z_noA, vk_OFof q1 ht z_noA, hT⟩⟩
    · exact ⟨(0, 0), fun h => absurd h hi⟩
  obtain ⟨f, hf⟩ := Classical.axiomOfChoice h0
  exact ⟨f, hf⟩
theorem z_tCA_idx (k : Nat) : z_tCE.eval args s none [k] s = (z_el z_tCA k).eval args s none [] s := by
  unfold z_tCE z_el z_tCA
  simp [Term.eval]
/-- the cache of the small Integers -/
theorem z_st_cache (hq : z_c0.before args s = true) : ∃ (a : Nat) (f : Nat → Nat), z_tCA.eval args s none [] s = some (.ref a) ∧ va_T (.object "java/lang/Integer") a 256 (fun j => .ref (f j)) (fun x => s.heap.size ≤ x) s s.heap ∧
    ∀ k, k < 256 → va_O "java/lang/Integer" (f k) (fun x => s.heap.size ≤ x) s s.heap ∧ va_OF "java/lang/Integer" "value" "I" (.int (nI k - 128)) (f k) (fun x => s.heap.size ≤ x) s s.heap := by
  have h1 := z_lfCA hq
  have h2 := va_eqt (z_lfCAl hq)
  have h3 := z_lfCAa hq
  obtain ⟨a0, cell, ht, hat, hv⟩ := Term.length_spec h2
  have hsz : 256 ≤ cell.slots.size := by
    have e1 : cell.slots.size.toInt32 = Int32.ofNat 256 := by
      have := hv
      simp at this
      first | exact this.symm | exact this
    have e2 := congrArg Int32.toUInt32 e1
    have e3 := congrArg UInt32.toNat e2
    have e4 : (Int32.ofNat cell.slots.size).toUInt32.toNat = cell.slots.size % 2 ^ 32 := rfl
    have e5 : (Int32.ofNat 256).toUInt32.toNat = 256 := rfl
    have e6 : cell.slots.size % 2 ^ 32 = 256 := by
      rw [← e4, ← e5]; exact e3
    omega
  have hall := Cond.all_elim (c := .and (.exactly z_tCE "java/lang/Integer") (.eq (.field z_tCE "java/lang/Integer" "value" "I") (.sub (.index 0) (.int 128)))) (args := args) (first := s) (o := none) (idx := []) ht hat (by
    have := h3
    simpa [Cond.before, Cond.holds] using this)
  have key : ∀ k : Nat, ∃ f : Nat, k < 256 → (z_el z_tCA k).eval args s none [] s = some (.ref f) ∧ va_O "java/lang/Integer" f (fun x => s.heap.size ≤ x) s s.heap ∧ va_OF "java/lang/Integer" "value" "I" (.int (nI k - 128)) f (fun x => s.heap.size ≤ x) s s.heap := by
    intro k
    by_cases hk : k < 256
    · have h4 := hall k (by omega)
      have h5 : (Cond.exactly z_tCE "java/lang/Integer").holds args s none s [k] = true ∧ (Cond.eq (.field z_tCE "java/lang/Integer" "value" "I") (.sub (.index 0) (.int 128))).holds args s none s [k] = true := by
        exact z_aV h4
      obtain ⟨a, c, cA, kA, q1, q2, q3, q4, q5, q6, -⟩ := Cond.exactly_spec h5.1
      rw [z_tCA_idx] at q1
      have e1 : (Term.field (z_el z_tCA k) "java/lang/Integer" "value" "I").eval args s none [] s = some (.int (nI k - 128)) := by
        have h6 := h5.2
        have e2 : (Term.field z_tCE "java/lang/Integer" "value" "I").eval args s none [k] s = (Term.field (z_el z_tCA k) "java/lang/Integer" "value" "I").eval args s none [] s := by
          have := z_tCA_idx (args := args) (s := s) k
          simp only [Term.eval] at this ⊢
          rw [this]
        have e3 : (Term.sub (.index 0) (.int 128)).eval args s none [k] s = some (.int (nI k - 128)) := by simp [Term.eval, nI]
        simp only [Cond.holds, Cond.value, e2, e3] at h6
        cases hv : (Term.field (z_el z_tCA k) "java/lang/Integer" "value" "I").eval args s none [] s with
        | none => simp [hv] at h6
        | some w => rw [hv] at h6; cases w <;> simp_all
      exact ⟨a, fun _ => ⟨q1, ⟨cA, q3, q5, by rw [q6]; exact q2, z_noA a (Array.getElem?_eq_some_iff.mp q3).1⟩, vk_OFof q1 e1 z_noA⟩⟩
    · exact ⟨0, fun h => absurd h hk⟩
  obtain ⟨f, hf⟩ := Classical.axiomOfChoice key
  obtain ⟨t, ht2, hT⟩ := va_Tof (tm := z_tCA) (f := fun j => .ref (f j)) (A := fun x => s.heap.size ≤ x) (N := 256) (by decide) h1 h2 (fun j hj => (hf j hj).1) z_noA
  exact ⟨t, f, ht2, hT, fun k hk => (hf k hk).2⟩
end ZStart
