/-! THE PURE MACHINE AGAINST THE JVM, 10: ends and calls -/
set_option maxRecDepth 100000
def z_MQ (below : List Frame) (E : z_E) (Q : z_Q) (QX : z_X) (a : Array Value) (s : State) (mc ms : Nat) : State → Prop := fun t => ∃ o, t.status = .running ∧ Ended t below o ∧ z_Qall E Q QX mc ms a s o t
def z_ws (m : z_M) : List Jvm.Cond := match m.2.2.2.2.1 with
  | [] => ws_ m.1 m.2.1 m.2.2.1 m.2.2.2.1
  | hh => wsW_ m.1 m.2.1 m.2.2.1 m.2.2.2.1 hh
def z_rm (d mc ms : Nat) : Room := { frames := d + 4, cells := mc, slots := ms, locals := 64 * (d + 4) }
/-- what the tables say of a method -/
def z_okJ (m : z_M) : Prop := (m.2.2.2.2.1 = [] → Cond.code m.1 m.2.1 m.2.2.1 m.2.2.2.1 ∈ lw_all) ∧ (m.2.2.2.2.1 ≠ [] → Cond.codeWith m.1 m.2.1 m.2.2.1 m.2.2.2.1 m.2.2.2.2.1 ∈ lw_all) ∧ Cond.initialized m.1.cls ∈ lw_all ∧ (m.1.cls ≠ "java/lang/invoke/MethodHandle" ∧ m.1.cls ≠ "java/lang/invoke/VarHandle" ∧ (parseMethodDescriptor m.1.desc).map (fun d => d.parameters.length) = some m.2.2.2.2.2.2) ∧ m.2.2.1 ≤ 40 ∧ plainName m.1.cls = true
theorem z_pop_e : ∀ (n : Nat) (st acc As r : List Value), z_pop n st acc = some (As, r) → ∃ pre, st = pre ++ r ∧ pre.length = n ∧ As = pre.reverse ++ acc
  | 0, st, acc, As, r, h => by
    cases h
    exact ⟨[], rfl, rfl, rfl⟩
  | n + 1, [], acc, As, r, h => by cases h
  | n + 1, v :: st, acc, As, r, h => by
    obtain ⟨pre, e1, e2, e3⟩ := z_pop_e n st (v :: acc) As r h
    exact ⟨v :: pre, by rw [e1]; rfl, by rw [List.length_cons, e2], by rw [e3]; simp⟩
theorem z_pn_e {n : Nat} {st : List Value} {k : List Value → List Value → Prop} (h : z_pn n st k) : ∃ As r, st = As.reverse ++ r ∧ As.length = n ∧ k As r := by
  unfold z_pn at h
  split at h
  · rename_i As r e
    obtain ⟨pre, e1, e2, e3⟩ := z_pop_e _ _ _ _ _ e
    rw [List.append_nil] at e3
    exact ⟨As, r, by rw [e3, List.reverse_reverse]; exact e1, by rw [e3, List.length_reverse]; exact e2, h⟩
  · exact h.elim
theorem z_narrow {ty : FieldType} {x : Int32} (h : vp_nar ty x = x) (hr : refKind ty = false) : narrow ty (.int x) = .int x := by
  unfold vp_nar at h
  cases ty <;> first | (cases hr; done) | (simp only [narrow] at h ⊢ <;> first | (rw [h]; done) | rfl)
section ZEnd
variable {E : z_E} {p : Program} {l : Launch} {e : Env} {R : Room} {s : State} {m : MethodId} {args : Array Value} {below : List Frame} {meth : Method} {c : Code} {nL : Nat} {QQ : State → Prop} {cc : ByteArray}
variable {C : z_K} {mi : z_M} {Qz : z_Q} {QX : z_X} {Y : z_C} {pc : Nat} {o : z_O} {ls : z_L} {st : List Value} {h : z_H} {bc bs : Nat}
theorem z_frame {H : Heap} {locs : List Loc} {cells slots : Nat} {lsA : Array Slot} (g : z_Gd E s R nL ls h bc bs H locs cells slots lsA) (hs0 : ∀ q : Nat, q < E.2.2.1.size → s.heap[q]? = E.2.2.1[q]?) {t : State} (ht : t.heap = H) : va_F (z_A E) s t := by
  refine ⟨by rw [ht]; exact g.2.1, fun q h1 h2 => ?_⟩
  have h3 : q < E.2.2.1.size := Nat.not_le.mp h2
  rw [ht, g.1.2.2.1 q h3, hs0 q h3]
theorem z_toMQ {H : Heap} {locs : List Loc} {cells slots mc ms : Nat} {gf : JFrame} (k : W p l e R s m args below meth c H locs cells slots (MQ below (z_Qc E Qz) args s mc ms (z_A E)) gf) : W p l e R s m args below meth c H locs cells slots (z_MQ below E Qz QX args s mc ms) gf := by
  intro T hT X
  obtain ⟨t, a1, o, b1, b2, b3, b4⟩ := k T hT X
  exact ⟨t, a1, o, b1, b2, Or.inl ⟨b3, b4⟩⟩
theorem z_sm_ireturn (hx : p.tables.exec = Jvm.exec) (hb : c.code = cc) (hr : meth.sig.returnType = mi.2.2.2.1) (hlocks : meth.locks = false) (hs0 : ∀ q : Nat, q < E.2.2.1.size → s.heap[q]? = E.2.2.1[q]?) (hd : decode cc pc = .ok (.ireturn, 1)) (hs : z_step C mi Qz QX Y pc (.ireturn) o ls st h bc bs) : z_Sim E p l e R s m args below meth c nL (z_MQ below E Qz QX args s R.cells R.slots) pc ls st h bc bs := by
  unfold z_step at hs
  dsimp only at hs
  generalize hret : mi.2.2.2.1 = ret at hs hr
  match st, ret, hs with
  | [.int x], some ty, ⟨h1, h2, h3⟩ =>
    intro H locs cells slots lsA g
    refine W.widen (k := R.cells) (n := R.slots) (by have := g.2.2.2.2.1; omega) (by have := g.2.2.2.2.2; omega) (z_toMQ ?_)
    exact W.zret (v := x) hx hb hr (z_narrow h1 h2) (fun t ht hW => ⟨⟨some (.int x), h, rfl, h3, by rw [ht]; exact g.1⟩, z_frame g hs0 ht⟩) g.2.2.1 hd hlocks
theorem z_sm_lreturn (hx : p.tables.exec = Jvm.exec) (hb : c.code = cc) (hr : meth.sig.returnType = mi.2.2.2.1) (hlocks : meth.locks = false) (hs0 : ∀ q : Nat, q < E.2.2.1.size → s.heap[q]? = E.2.2.1[q]?) (hd : decode cc pc = .ok (.lreturn, 1)) (hs : z_step C mi Qz QX Y pc (.lreturn) o ls st h bc bs) : z_Sim E p l e R s m args below meth c nL (z_MQ below E Qz QX args s R.cells R.slots) pc ls st h bc bs := by
  unfold z_step at hs
  dsimp only at hs
  generalize hret : mi.2.2.2.1 = ret at hs hr
  match st, ret, hs with
  | [.long x], some .long, h3 =>
    intro H locs cells slots lsA g
    refine W.widen (k := R.cells) (n := R.slots) (by have := g.2.2.2.2.1; omega) (by have := g.2.2.2.2.2; omega) (z_toMQ ?_)
    exact W.lret (v := x) hx hb hr (fun t ht hW => ⟨⟨some (.long x), h, rfl, h3, by rw [ht]; exact g.1⟩, z_frame g hs0 ht⟩) g.2.2.1 hd hlocks
theorem z_sm_areturn (hx : p.tables.exec = Jvm.exec) (hb : c.code = cc) (hr : meth.sig.returnType = mi.2.2.2.1) (hlocks : meth.locks = false) (hs0 : ∀ q : Nat, q < E.2.2.1.size → s.heap[q]? = E.2.2.1[q]?) (hd : decode cc pc = .ok (.areturn, 1)) (hs : z_step C mi Qz QX Y pc (.areturn) o ls st h bc bs) : z_Sim E p l e R s m args below meth c nL (z_MQ below E Qz QX args s R.cells R.slots) pc ls st h bc bs := by
  unfold z_step at hs
  dsimp only at hs
  generalize hret : mi.2.2.2.1 = ret at hs hr
  have hrt : ∀ ty, refKind ty = true → (∃ n, ty = .object n) ∨ ∃ t, ty = .array t := by
    intro ty q
    cases ty <;> first | (exact Or.inl ⟨_, rfl⟩) | (exact Or.inr ⟨_, rfl⟩) | cases q
  match st, ret, hs with
  | [.ref x], some ty, ⟨h1, h3⟩ =>
    intro H locs cells slots lsA g
    refine W.widen (k := R.cells) (n := R.slots) (by have := g.2.2.2.2.1; omega) (by have := g.2.2.2.2.2; omega) (z_toMQ ?_)
    exact W.aret (v := .ref (z_f E x)) hx hb hr (hrt _ h1) (Or.inr ⟨_, rfl⟩) (fun t ht hW => ⟨⟨some (.ref x), h, rfl, h3, by rw [ht]; exact g.1⟩, z_frame g hs0 ht⟩) g.2.2.1 hd hlocks
  | [.null], some ty, ⟨h1, h3⟩ =>
    intro H locs cells slots lsA g
    refine W.widen (k := R.cells) (n := R.slots) (by have := g.2.2.2.2.1; omega) (by have := g.2.2.2.2.2; omega) (z_toMQ ?_)
    exact W.aret (v := .null) hx hb hr (hrt _ h1) (Or.inl rfl) (fun t ht hW => ⟨⟨some .null, h, rfl, h3, by rw [ht]; exact g.1⟩, z_frame g hs0 ht⟩) g.2.2.1 hd hlocks
theorem z_sm_return (hx : p.tables.exec = Jvm.exec) (hb : c.code = cc) (hr : meth.sig.returnType = mi.2.2.2.1) (hlocks : meth.locks = false) (hs0 : ∀ q : Nat, q < E.2.2.1.size → s.heap[q]? = E.2.2.1[q]?) (hd : decode cc pc = .ok (.return_, 1)) (hs : z_step C mi Qz QX Y pc (.return_) o ls st h bc bs) : z_Sim E p l e R s m args below meth c nL (z_MQ below E Qz QX args s R.cells R.slots) pc ls st h bc bs := by
  unfold z_step at hs
  dsimp only at hs
  generalize hret : mi.2.2.2.1 = ret at hs hr
  match st, ret, hs with
  | [], none, h3 =>
    intro H locs cells slots lsA g
    refine W.widen (k := R.cells) (n := R.slots) (by have := g.2.2.2.2.1; omega) (by have := g.2.2.2.2.2; omega) (z_toMQ ?_)
    exact W.vret hx hb hr (fun t ht hW => ⟨⟨none, h, rfl, h3, by rw [ht]; exact g.1⟩, z_frame g hs0 ht⟩) g.2.2.1 hd hlocks
/-- what was thrown goes on to the caller -/
theorem z_out {H : Heap} {locs : List Loc} {cells slots : Nat} {lsA : Array Slot} {q0 : Nat} {rest : List Value} (hout : ∀ x ∈ c.exceptionTable.toList, covers x pc = false) (hlocks : meth.locks = false) (hs0 : ∀ q : Nat, q < E.2.2.1.size → s.heap[q]? = E.2.2.1[q]?) (g : z_Gd E s R nL ls h bc bs H locs cells slots lsA) (hq : QX q0 h) (hk : z_k h q0 = 5) (h3 : 317 ≤ q0) :
    vx_W p l e R s m args below meth c H locs cells slots (z_MQ below E Qz QX args s R.cells R.slots) (F0 m pc lsA rest) (z_f E q0) := by
  intro T hT X
  obtain ⟨st1, hrun, hend, hW, hsm⟩ := X.leaveThrown (z_f E q0) (g := F0 m pc lsA rest) rfl rfl rfl hout hlocks
  exact ⟨_, st1, .threw (z_f E q0), hrun, hend, Or.inr ⟨q0, h, locs, rfl, hq, hk, h3, by show z_Rep E h T.heap; rw [hT]; exact g.1, z_frame g hs0 hT, hW, hsm.mono (by have := g.2.2.2.2.1; omega) (by have := g.2.2.2.2.2; omega), g.2.2.1⟩⟩
theorem z_sm_athrow (hx : p.tables.exec = Jvm.exec) (hb : c.code = cc) (hout : mi.2.2.2.2.1 = [] → ∀ x ∈ c.exceptionTable.toList, False) (hlocks : meth.locks = false) (hs0 : ∀ q : Nat, q < E.2.2.1.size → s.heap[q]? = E.2.2.1[q]?) (hd : decode cc pc = .ok (.athrow, 1)) (hs : z_step C mi Qz QX Y pc (.athrow) o ls st h bc bs) : z_Sim E p l e R s m args below meth c nL (z_MQ below E Qz QX args s R.cells R.slots) pc ls st h bc bs := by
  obtain ⟨a, r, rfl, hk, h3, hh, h1⟩ := z_r1_e hs
  intro H locs cells slots lsA g
  exact vx_athrow hx hb hd (z_out (fun x hx => (hout hh x hx).elim) hlocks hs0 g h1 hk h3)
theorem z_wt_v (ho : z_om E) (r : List Value) : ((r.map (z_v E)).map fun v => v.category).sum = z_wt r := by
  unfold z_wt
  rw [List.map_map]
  congr 1
  apply List.map_congr_left
  intro v _
  exact z_v_cat ho v
theorem z_fr {a b : List Value} (h : a = b) : (F0 m pc #[] a) = (F0 m pc #[] b) := by rw [h]
theorem z_optmap (v : Option Value) (r : List Value) : (v.map (z_v E)).toList ++ r.map (z_v E) = (v.toList ++ r).map (z_v E) := by
  cases v <;> rfl
theorem z_Gd.back {H H' : Heap} {locs L : List Loc} {cells slots mc ms : Nat} {lsA : Array Slot} {h' : z_H} (g : z_Gd E s R nL ls h bc bs H locs cells slots lsA) (hmc : mc ≤ bc) (hms : ms ≤ bs) (hR : z_Rep E h' H') (hsz : H.size ≤ H'.size) (hL : ∀ q ∈ L, z_A E q.base) : z_Gd E s R nL ls h' (bc - mc) (bs - ms) H' (locs ++ L) (cells + mc) (slots + ms) lsA := by
  obtain ⟨g1, g2, g3, g4, g5, g6⟩ := g
  refine ⟨hR, by omega, fun q hq => ?_, g4, by omega, by omega⟩
  rcases List.mem_append.mp hq with q1 | q1
  · exact g3 q q1
  · exact hL q q1
theorem z_contS {H : Heap} {locs : List Loc} {cells slots mc ms : Nat} {lsA : Array Slot} {st0 r : List Value} {a : Array Value} {Q9 : z_Q} (hr : va_Run p l e R s m args below meth c H locs cells slots mc ms (F0 m pc lsA st0) (r.map (z_v E)) (z_Qc E Q9 a) (z_A E)) (g : z_Gd E s R nL ls h bc bs H locs cells slots lsA) (hmc : mc ≤ bc) (hms : ms ≤ bs)
    (kk : ∀ v h', Q9 v h' → z_Sim E p l e R s m args below meth c nL QQ (pc + 3) ls (v.toList ++ r) h' (bc - mc) (bs - ms)) : W p l e R s m args below meth c H locs cells slots QQ (F0 m pc lsA st0) := by
  intro T hT X
  obtain ⟨v, st₀, t, T', L, h0, X', hL, e1, e2, ⟨⟨v', h', ev, hq, hrep⟩, hz, hk⟩, st⟩ := hr T hT X
  cases ev
  rw [h0] at hz
  obtain ⟨t2, a1, b1⟩ := kk v' h' hq T'.heap (locs ++ L) (cells + mc) (slots + ms) lsA (g.back hmc hms (by rw [e1]; exact hrep) (by rw [e1]; exact hz) hL) T' rfl X'
  rw [← z_optmap] at a1
  exact ⟨t2, st t2 a1, b1⟩
theorem z_cont5 {H : Heap} {locs : List Loc} {cells slots mc ms : Nat} {lsA : Array Slot} {st0 r : List Value} {a : Array Value} {Q9 : z_Q} (hr : va_Run5 p l e R s m args below meth c H locs cells slots mc ms (F0 m pc lsA st0) (r.map (z_v E)) (z_Qc E Q9 a) (z_A E)) (g : z_Gd E s R nL ls h bc bs H locs cells slots lsA) (hmc : mc ≤ bc) (hms : ms ≤ bs)
    (kk : ∀ v h', Q9 v h' → z_Sim E p l e R s m args below meth c nL QQ (pc + 5) ls (v.toList ++ r) h' (bc - mc) (bs - ms)) : W p l e R s m args below meth c H locs cells slots QQ (F0 m pc lsA st0) := by
  intro T hT X
  obtain ⟨v, st₀, t, T', L, h0, X', hL, e1, e2, ⟨⟨v', h', ev, hq, hrep⟩, hz, hk⟩, st⟩ := hr T hT X
  cases ev
  rw [h0] at hz
  obtain ⟨t2, a1, b1⟩ := kk v' h' hq T'.heap (locs ++ L) (cells + mc) (slots + ms) lsA (g.back hmc hms (by rw [e1]; exact hrep) (by rw [e1]; exact hz) hL) T' rfl X'
  rw [← z_optmap] at a1
  exact ⟨t2, st t2 a1, b1⟩
theorem z_contV {H : Heap} {locs : List Loc} {cells slots mc ms : Nat} {lsA : Array Slot} {st0 r : List Value} {a : Array Value} {Q9 : z_Q} {QX9 : z_X} (hr : z_Run E p l e R s m args below meth c H locs cells slots mc ms (F0 m pc lsA st0) (r.map (z_v E)) (z_Qc E Q9 a) QX9) (g : z_Gd E s R nL ls h bc bs H locs cells slots lsA) (hmc : mc ≤ bc) (hms : ms ≤ bs)
    (kx : ∀ q0 h' H' locs' cells' slots', QX9 q0 h' → z_k h' q0 = 5 → 317 ≤ q0 → z_Gd E s R nL ls h' (bc - mc) (bs - ms) H' locs' cells' slots' lsA → vx_W p l e R s m args below meth c H' locs' cells' slots' QQ (F0 m pc lsA (r.map (z_v E))) (z_f E q0))
    (kk : ∀ v h', Q9 v h' → z_Sim E p l e R s m args below meth c nL QQ (pc + 3) ls (v.toList ++ r) h' (bc - mc) (bs - ms)) : W p l e R s m args below meth c H locs cells slots QQ (F0 m pc lsA st0) := by
  intro T hT X
  rcases hr T hT X with ⟨v, st₀, t, T', L, h0, X', hL, e1, e2, ⟨⟨v', h', ev, hq, hrep⟩, hz, hk⟩, st⟩ | ⟨q0, h', st₀, t, T', L, h0, X', hL, e1, e2, hq, hk5, h317, hrep, ⟨hz, hk⟩, st⟩
  · cases ev
    rw [h0] at hz
    obtain ⟨t2, a1, b1⟩ := kk v' h' hq T'.heap (locs ++ L) (cells + mc) (slots + ms) lsA (g.back hmc hms (by rw [e1]; exact hrep) (by rw [e1]; exact hz) hL) T' rfl X'
    rw [← z_optmap] at a1
    exact ⟨t2, st t2 a1, b1⟩
  · rw [h0] at hz
    obtain ⟨t2, a1, b1⟩ := kx q0 h' T'.heap (locs ++ L) (cells + mc) (slots + ms) hq hk5 h317 (g.back hmc hms (by rw [e1]; exact hrep) (by rw [e1]; exact hz) hL) T' rfl X'
    exact ⟨t2, st.trans a1, b1⟩
end ZEnd
