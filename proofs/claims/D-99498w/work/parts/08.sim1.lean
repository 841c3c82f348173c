/-! THE PURE MACHINE AGAINST THE JVM, 1: what the machine's memory stands for; instructions of the stack and the locals -/
set_option maxRecDepth 100000
/-- where static cells lie; unknown references; the heap at the law's start; class numbers and field slots; array classes; the script -/
abbrev z_E : Type := (Nat → Nat) × (UInt32 → Value) × Heap × va_G × (Nat → ClassId) × Nat × (Nat → Int32)
def z_f (E : z_E) (a : Nat) : Nat := if a < 317 then E.1 a else E.2.2.1.size + (a - 317)
def z_v (E : z_E) (v : Value) : Value := match v with
  | .ref a => .ref (z_f E a)
  | .float w => E.2.1 w
  | v => v
def z_cell (E : z_E) (h : z_H) (a : Nat) : va_E :=
  if z_k h a < 100 then .inr (z_k h a, (List.range (z_N (z_k h a))).map fun k => z_v E (z_fv (z_kd (z_k h a) k) h a k))
  else .inl (E.2.2.2.2.1 (z_k h a - 100), z_n h a, if z_k h a < 103 then .inl (z_I h a) else if z_k h a = 103 then .inr (.inl (z_J h a)) else .inr (.inr (.inr (.inr fun i => (z_P h a i).map (z_f E)))))
def z_tys (E : z_E) : List (ClassId × FieldType) := [(E.2.2.2.2.1 0, .int), (E.2.2.2.2.1 1, .byte), (E.2.2.2.2.1 2, .boolean), (E.2.2.2.2.1 3, .long), (E.2.2.2.2.1 4, .object "java/lang/Object"), (E.2.2.2.2.1 5, .object "TollsForLate$Sum"), (E.2.2.2.2.1 6, .object "TollsForLate$Text"), (E.2.2.2.2.1 7, .array .int)]
/-- the static cells: 0 the script, 1 NOTHING, 2 its law, 3 the empty elements, 4 NAMED, 5 WORDS, 6.. the strings, 33.. their bytes, 60 the cache, 61.. its Integers -/
def z_words : List (List Nat) := [[114, 117, 110, 115], [116, 97, 107, 101, 115], [112, 101, 114, 115, 111, 110], [114, 105, 110, 103], [100, 117, 101], [98, 101, 100], [117, 112], [100, 97, 121], [119, 97, 108, 107], [114, 117, 110], [111, 102], [114, 105, 110, 103, 115], [105, 102], [116, 104, 101, 110], [101, 108, 115, 101], [101, 110, 100], [111, 114], [120, 111, 114], [97, 110, 100], [110, 111, 116], [119, 101, 97, 116, 104, 101, 114], [119, 104, 111], [114, 111, 97, 100], [104, 101, 97, 114, 100], [102, 97, 115, 116], [106, 97, 109], [60, 62, 61, 35, 43, 45, 42, 47, 40, 41, 59]]
def z_named : List Nat := [207, 220, 221, 222, 208, 209, 204, 223, 224, 225]
def z_sk (L a : Nat) : Nat × Nat :=
  if a = 0 then (100, L) else if a = 1 then (4, 0) else if a = 2 then (105, 2) else if a = 3 then (104, 0) else if a = 4 then (100, 10) else if a = 5 then (108, 26)
  else if a < 33 then (20, 0) else if a < 60 then (101, (z_words.getD (a - 33) []).length) else if a = 60 then (109, 256) else (19, 0)
def z_sI (xs : Nat → Int32) (a i : Nat) : Int32 :=
  if a = 0 then xs i else if a = 4 then nI (z_named.getD i 0) else if 33 ≤ a ∧ a < 60 then nI ((z_words.getD (a - 33) []).getD i 0) else if 61 ≤ a ∧ a < 317 then nI (a - 61) - 128 else 0
def z_sP (a i : Nat) : Option Nat :=
  if a = 1 then (if i = 0 then some 2 else none) else if a = 5 then (if i < 26 then some (6 + i) else none) else if 6 ≤ a ∧ a < 33 then (if i = 0 then some (a + 27) else none) else if a = 60 then (if i < 256 then some (61 + i) else none) else none
/-- objects of class 5 are not locked -/
def z_Mon (E : z_E) (h : z_H) (H : Heap) : Prop := ∀ a, 317 ≤ a → a < h.1 → z_k h a = 5 → ∃ cell : Cell, H[z_f E a]? = some cell ∧ cell.monitor.owner = none ∧ cell.monitor.count = 0 ∧ cell.slots.size = 8
def z_Rep (E : z_E) (h : z_H) (H : Heap) : Prop :=
  (317 ≤ h.1 ∧ z_Mon E h H) ∧ H.size = E.2.2.1.size + (h.1 - 317) ∧ (∀ q : Nat, q < E.2.2.1.size → H[q]? = E.2.2.1[q]?) ∧ (∀ a, 317 ≤ a → a < h.1 → (z_k h a < 20 ∨ (100 ≤ z_k h a ∧ z_k h a < 108)) ∧ va_at E.2.2.2.1 z_cl (z_f E a, z_cell E h a) H) ∧ (∀ a, h.1 ≤ a → h.2.1 a = (200, 0)) ∧
  (∀ a, a < 317 → h.2.1 a = z_sk E.2.2.2.2.2.1 a ∧ ∀ i, z_I h a i = z_sI E.2.2.2.2.2.2 a i ∧ z_P h a i = z_sP a i)
def z_LR (E : z_E) (ls : z_L) (lsA : Array Slot) (nL : Nat) : Prop := lsA.size = nL ∧ lv_wf lsA ∧ ∀ k v, z_get ls k = some v → lsA[k]? = some (.val (z_v E v))
/-- an unknown reference is one word -/
def z_om (E : z_E) : Prop := ∀ w, (E.2.1 w = .null ∨ ∃ a, E.2.1 w = .ref a)
theorem z_v_cat {E : z_E} (ho : z_om E) (v : Value) : (z_v E v).category = v.category := by
  cases v <;> first | rfl | skip
  rename_i w
  rcases ho w with h | ⟨a, h⟩ <;> (show (E.2.1 w).category = 1; rw [h]; rfl)
theorem z_get_set_eq : ∀ (ls : z_L) (i : Nat) (x : Option Value) (v : Value), z_get (z_set ls i x) i = some v → x = some v
  | [], _, _, _, h => by cases h
  | _ :: _, 0, x, v, h => h
  | _ :: l, i + 1, x, v, h => z_get_set_eq l i x v h
theorem z_get_set_ne : ∀ (ls : z_L) (i k : Nat) (x : Option Value), k ≠ i → z_get (z_set ls i x) k = z_get ls k
  | [], _, _, _, _ => rfl
  | _ :: _, 0, 0, _, h => absurd rfl h
  | _ :: _, 0, k + 1, _, _ => rfl
  | _ :: _, i + 1, 0, _, _ => rfl
  | _ :: l, i + 1, k + 1, x, h => z_get_set_ne l i k x (fun e => h (by rw [e]))
theorem z_clr_some {x : Option Value} {v : Value} (h : z_clr x = some v) : x = some v ∧ ¬ v.category = 2 := by
  unfold z_clr at h
  split at h
  · cases h
  · cases h
  · rename_i h1 h2
    refine ⟨h, fun q => ?_⟩
    cases v <;> simp [Value.category] at q
    · exact h1 _ h
    · exact h2 _ h
/-- what a store of one word leaves -/
theorem z_get_st1 {ls : z_L} {i k : Nat} {v w : Value} (h : z_get (z_st1 ls i v) k = some w) : (k = i ∧ w = v) ∨ (k ≠ i ∧ z_get ls k = some w ∧ ¬ (k + 1 = i ∧ w.category = 2)) := by
  by_cases hk : k = i
  · subst hk
    left
    refine ⟨rfl, ?_⟩
    cases k with
    | zero => exact (Option.some.inj (z_get_set_eq _ _ _ _ h)).symm
    | succ n => exact (Option.some.inj (z_get_set_eq _ _ _ _ h)).symm
  · right
    refine ⟨hk, ?_⟩
    cases i with
    | zero =>
      have h1 : z_get ls k = some w := by rw [← z_get_set_ne ls 0 k (some v) hk]; exact h
      exact ⟨h1, fun q => by omega⟩
    | succ n =>
      have h1 : z_get (z_set ls n (z_clr (z_get ls n))) k = some w := by rw [← z_get_set_ne _ (n + 1) k (some v) hk]; exact h
      by_cases hn : k = n
      · subst hn
        have h2 := z_get_set_eq _ _ _ _ h1
        obtain ⟨h3, h4⟩ := z_clr_some h2
        exact ⟨h3, fun q => h4 q.2⟩
      · rw [z_get_set_ne _ _ _ _ hn] at h1
        exact ⟨h1, fun q => hn (by omega)⟩
theorem z_LR.list {E : z_E} {ls : z_L} {lsA : Array Slot} {nL : Nat} (h : z_LR E ls lsA nL) : lv_has lsA nL ((List.range nL).filterMap (fun k => (z_get ls k).map fun v => (k, z_v E v))) := by
  refine ⟨h.1, h.2.1, fun q hq => ?_⟩
  obtain ⟨k, -, hk⟩ := List.mem_filterMap.mp hq
  cases hv : z_get ls k with
  | none => rw [hv] at hk; cases hk
  | some v => rw [hv] at hk; cases hk; exact h.2.2 k v hv
theorem z_LR.mem {E : z_E} {ls : z_L} {nL k : Nat} {v : Value} (hk : k < nL) (h : z_get ls k = some v) : (k, z_v E v) ∈ (List.range nL).filterMap (fun k => (z_get ls k).map fun v => (k, z_v E v)) :=
  List.mem_filterMap.mpr ⟨k, List.mem_range.mpr hk, by rw [h]; rfl⟩
theorem z_LR.lt {E : z_E} {ls : z_L} {lsA : Array Slot} {nL k : Nat} {v : Value} (h : z_LR E ls lsA nL) (hg : z_get ls k = some v) : k < nL := by
  have h1 := h.2.2 k v hg
  rw [← h.1]
  exact (Array.getElem?_eq_some_iff.mp h1).1
theorem z_LR.st1 {E : z_E} {ls : z_L} {lsA ls' : Array Slot} {nL i : Nat} {v : Value} (ho : z_om E) (h : z_LR E ls lsA nL)
    (h' : lv_has ls' nL ((i, z_v E v) :: ((List.range nL).filterMap (fun k => (z_get ls k).map fun v => (k, z_v E v))).filter (fun q => !(q.1 == i) && !(q.1 + 1 == i && q.2.category == 2)))) : z_LR E (z_st1 ls i v) ls' nL := by
  refine ⟨h'.1, h'.2.1, fun k w hw => ?_⟩
  rcases z_get_st1 hw with ⟨rfl, rfl⟩ | ⟨h1, h2, h3⟩
  · exact h'.2.2 _ List.mem_cons_self
  · refine h'.2.2 (k, z_v E w) (List.mem_cons_of_mem _ (List.mem_filter.mpr ⟨z_LR.mem (h.lt h2) h2, ?_⟩))
    rw [← z_v_cat ho] at h3
    simp only [Bool.and_eq_true, Bool.not_eq_true', beq_eq_false_iff_ne, ne_eq, Bool.and_eq_false_iff]
    refine ⟨h1, ?_⟩
    by_cases a : k + 1 = i
    · right; exact fun q => h3 ⟨a, q⟩
    · left; exact a
theorem z_LR.st2 {E : z_E} {ls : z_L} {lsA ls' : Array Slot} {nL i : Nat} {v : Value} (ho : z_om E) (h : z_LR E ls lsA nL)
    (h' : lv_has ls' nL ((i, z_v E v) :: ((List.range nL).filterMap (fun k => (z_get ls k).map fun v => (k, z_v E v))).filter (fun q => !(q.1 == i) && (!(q.1 == i + 1) && !(q.1 + 1 == i && q.2.category == 2))))) : z_LR E (z_st2 ls i v) ls' nL := by
  refine ⟨h'.1, h'.2.1, fun k w hw => ?_⟩
  by_cases hk : k = i + 1
  · subst hk
    have := z_get_set_eq _ _ _ _ hw
    cases this
  · have hw1 : z_get (z_st1 ls i v) k = some w := by rw [← z_get_set_ne _ (i + 1) k none hk]; exact hw
    rcases z_get_st1 hw1 with ⟨rfl, rfl⟩ | ⟨h1, h2, h3⟩
    · exact h'.2.2 _ List.mem_cons_self
    · refine h'.2.2 (k, z_v E w) (List.mem_cons_of_mem _ (List.mem_filter.mpr ⟨z_LR.mem (h.lt h2) h2, ?_⟩))
      rw [← z_v_cat ho] at h3
      simp only [Bool.and_eq_true, Bool.not_eq_true', beq_eq_false_iff_ne, ne_eq, Bool.and_eq_false_iff]
      refine ⟨h1, hk, ?_⟩
      by_cases a : k + 1 = i
      · right; exact fun q => h3 ⟨a, q⟩
      · left; exact a
theorem z_LR.le {E : z_E} {ls ls' : z_L} {lsA : Array Slot} {nL : Nat} (h : z_LR E ls lsA nL) (hl : z_le ls' ls) : z_LR E ls' lsA nL := ⟨h.1, h.2.1, fun k v hv => h.2.2 k v (hl k v hv)⟩
theorem z_i1_e {st : List Value} {k : Int32 → List Value → Prop} (h : z_i1 st k) : ∃ x r, st = .int x :: r ∧ k x r := by
  unfold z_i1 at h; split at h
  · exact ⟨_, _, rfl, h⟩
  · exact h.elim
theorem z_i2_e {st : List Value} {k : Int32 → Int32 → List Value → Prop} (h : z_i2 st k) : ∃ x y r, st = .int y :: .int x :: r ∧ k x y r := by
  unfold z_i2 at h; split at h
  · exact ⟨_, _, _, rfl, h⟩
  · exact h.elim
theorem z_l1_e {st : List Value} {k : Int64 → List Value → Prop} (h : z_l1 st k) : ∃ x r, st = .long x :: r ∧ k x r := by
  unfold z_l1 at h; split at h
  · exact ⟨_, _, rfl, h⟩
  · exact h.elim
theorem z_l2_e {st : List Value} {k : Int64 → Int64 → List Value → Prop} (h : z_l2 st k) : ∃ x y r, st = .long y :: .long x :: r ∧ k x y r := by
  unfold z_l2 at h; split at h
  · exact ⟨_, _, _, rfl, h⟩
  · exact h.elim
theorem z_li_e {st : List Value} {k : Int64 → Int32 → List Value → Prop} (h : z_li st k) : ∃ x y r, st = .int y :: .long x :: r ∧ k x y r := by
  unfold z_li at h; split at h
  · exact ⟨_, _, _, rfl, h⟩
  · exact h.elim
theorem z_r1_e {st : List Value} {k : Nat → List Value → Prop} (h : z_r1 st k) : ∃ a r, st = .ref a :: r ∧ k a r := by
  unfold z_r1 at h; split at h
  · exact ⟨_, _, rfl, h⟩
  · exact h.elim
theorem z_ri_e {st : List Value} {k : Nat → Int32 → List Value → Prop} (h : z_ri st k) : ∃ a i r, st = .int i :: .ref a :: r ∧ k a i r := by
  unfold z_ri at h; split at h
  · exact ⟨_, _, _, rfl, h⟩
  · exact h.elim
theorem z_rii_e {st : List Value} {k : Nat → Int32 → Int32 → List Value → Prop} (h : z_rii st k) : ∃ a i x r, st = .int x :: .int i :: .ref a :: r ∧ k a i x r := by
  unfold z_rii at h; split at h
  · exact ⟨_, _, _, _, rfl, h⟩
  · exact h.elim
theorem z_ril_e {st : List Value} {k : Nat → Int32 → Int64 → List Value → Prop} (h : z_ril st k) : ∃ a i x r, st = .long x :: .int i :: .ref a :: r ∧ k a i x r := by
  unfold z_ril at h; split at h
  · exact ⟨_, _, _, _, rfl, h⟩
  · exact h.elim
theorem z_rir_e {st : List Value} {k : Nat → Int32 → Nat → List Value → Prop} (h : z_rir st k) : ∃ a i b r, st = .ref b :: .int i :: .ref a :: r ∧ k a i b r := by
  unfold z_rir at h; split at h
  · exact ⟨_, _, _, _, rfl, h⟩
  · exact h.elim
theorem z_rv_e {st : List Value} {k : Nat → Value → List Value → Prop} (h : z_rv st k) : ∃ a v r, st = v :: .ref a :: r ∧ k a v r := by
  unfold z_rv at h; split at h
  · exact ⟨_, _, _, rfl, h⟩
  · exact h.elim
theorem z_gi_e {x : Option Value} {k : Int32 → Prop} (h : z_gi x k) : ∃ v, x = some (.int v) ∧ k v := by
  unfold z_gi at h; split at h
  · exact ⟨_, rfl, h⟩
  · exact h.elim
theorem z_gl_e {x : Option Value} {k : Int64 → Prop} (h : z_gl x k) : ∃ v, x = some (.long v) ∧ k v := by
  unfold z_gl at h; split at h
  · exact ⟨_, rfl, h⟩
  · exact h.elim
def z_isr (v : Value) : Prop := (∃ a, v = .ref a) ∨ v = .null ∨ ∃ w, v = .float w
theorem z_isr_v {E : z_E} (ho : z_om E) {v : Value} (h : z_isr v) : z_v E v = .null ∨ ∃ a, z_v E v = .ref a := by
  rcases h with ⟨a, rfl⟩ | rfl | ⟨w, rfl⟩
  · exact Or.inr ⟨_, rfl⟩
  · exact Or.inl rfl
  · exact ho w
theorem z_gr_e {x : Option Value} {k : Value → Prop} (h : z_gr x k) : ∃ v, x = some v ∧ z_isr v ∧ k v := by
  unfold z_gr at h; split at h
  · exact ⟨_, rfl, Or.inl ⟨_, rfl⟩, h⟩
  · exact ⟨_, rfl, Or.inr (Or.inl rfl), h⟩
  · exact ⟨_, rfl, Or.inr (Or.inr ⟨_, rfl⟩), h⟩
  · exact h.elim
theorem z_vr_e {st : List Value} {k : Value → List Value → Prop} (h : z_vr st k) : ∃ v r, st = v :: r ∧ z_isr v ∧ k v r := by
  unfold z_vr at h; split at h
  · exact ⟨_, _, rfl, Or.inl ⟨_, rfl⟩, h⟩
  · exact ⟨_, _, rfl, Or.inr (Or.inl rfl), h⟩
  · exact ⟨_, _, rfl, Or.inr (Or.inr ⟨_, rfl⟩), h⟩
  · exact h.elim
/-- one state of the machine and one of the JVM -/
def z_Gd (E : z_E) (s : State) (R : Room) (nL : Nat) (ls : z_L) (h : z_H) (bc bs : Nat) (H : Heap) (locs : List Loc) (cells slots : Nat) (lsA : Array Slot) : Prop :=
  z_Rep E h H ∧ s.heap.size ≤ H.size ∧ (∀ q ∈ locs, E.2.2.1.size ≤ q.base) ∧ z_LR E ls lsA nL ∧ cells + bc ≤ R.cells ∧ slots + bs ≤ R.slots
def z_Sim (E : z_E) (p : Program) (l : Launch) (e : Env) (R : Room) (s : State) (m : MethodId) (args : Array Value) (below : List Frame) (meth : Method) (c : Code) (nL : Nat) (QQ : State → Prop) : z_C := fun pc ls st h bc bs =>
  ∀ (H : Heap) (locs : List Loc) (cells slots : Nat) (lsA : Array Slot), z_Gd E s R nL ls h bc bs H locs cells slots lsA → W p l e R s m args below meth c H locs cells slots QQ (F0 m pc lsA (st.map (z_v E)))
theorem z_Gd.st1 {E : z_E} {s : State} {R : Room} {nL : Nat} {ls : z_L} {h : z_H} {bc bs : Nat} {H : Heap} {locs : List Loc} {cells slots : Nat} {lsA ls' : Array Slot} {i : Nat} {v : Value} (ho : z_om E) (g : z_Gd E s R nL ls h bc bs H locs cells slots lsA)
    (h' : lv_has ls' nL ((i, z_v E v) :: ((List.range nL).filterMap (fun k => (z_get ls k).map fun v => (k, z_v E v))).filter (fun q => !(q.1 == i) && !(q.1 + 1 == i && q.2.category == 2)))) : z_Gd E s R nL (z_st1 ls i v) h bc bs H locs cells slots ls' :=
  ⟨g.1, g.2.1, g.2.2.1, g.2.2.2.1.st1 ho h', g.2.2.2.2⟩
theorem z_Gd.st2 {E : z_E} {s : State} {R : Room} {nL : Nat} {ls : z_L} {h : z_H} {bc bs : Nat} {H : Heap} {locs : List Loc} {cells slots : Nat} {lsA ls' : Array Slot} {i : Nat} {v : Value} (ho : z_om E) (g : z_Gd E s R nL ls h bc bs H locs cells slots lsA)
    (h' : lv_has ls' nL ((i, z_v E v) :: ((List.range nL).filterMap (fun k => (z_get ls k).map fun v => (k, z_v E v))).filter (fun q => !(q.1 == i) && (!(q.1 == i + 1) && !(q.1 + 1 == i && q.2.category == 2))))) : z_Gd E s R nL (z_st2 ls i v) h bc bs H locs cells slots ls' :=
  ⟨g.1, g.2.1, g.2.2.1, g.2.2.2.1.st2 ho h', g.2.2.2.2⟩
