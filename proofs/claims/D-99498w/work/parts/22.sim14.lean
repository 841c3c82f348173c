/-! THE PURE MACHINE AGAINST THE JVM, 15: a method that the pure machine runs meets its contract -/
set_option maxRecDepth 100000
section ZTop
variable {E : z_E} {l : Launch} {M : Nat → z_M}
theorem z_get_rep : ∀ (n k : Nat) (v : Value), z_get (List.replicate n none) k = some v → False
  | 0, _, _, h => by cases h
  | n + 1, 0, _, h => by cases h
  | n + 1, k + 1, v, h => z_get_rep n k v h
theorem z_ent_args (ho : z_om E) : ∀ (vs : List Value) (n k i : Nat) (v : Value), z_get (z_ent vs n) k = some v → (i + k, z_v E v) ∈ lv_args i (vs.map (z_v E))
  | [], n, k, i, v, h => (z_get_rep n k v h).elim
  | w :: vs, n, k, i, v, h => by
    rw [List.map_cons]
    unfold lv_args
    rw [z_v_cat ho]
    by_cases hw : w.category = 2
    · rw [if_pos hw]
      have e : z_ent (w :: vs) n = some w :: none :: z_ent vs (n - 2) := by cases w <;> first | rfl | (exact absurd hw (by simp [Value.category]))
      rw [e] at h
      match k, h with
      | 0, h => cases h; exact List.mem_cons_self
      | 1, h => cases h
      | k + 2, h =>
        have := z_ent_args ho vs (n - 2) k (i + 2) v h
        rw [show i + (k + 2) = i + 2 + k by omega]
        exact List.mem_cons_of_mem _ this
    · rw [if_neg hw]
      have e : z_ent (w :: vs) n = some w :: z_ent vs (n - 1) := by cases w <;> first | rfl | (exact absurd rfl hw)
      rw [e] at h
      match k, h with
      | 0, h => cases h; exact List.mem_cons_self
      | k + 1, h =>
        have := z_ent_args ho vs (n - 1) k (i + 1) v h
        rw [show i + (k + 1) = i + 1 + k by omega]
        exact List.mem_cons_of_mem _ this
theorem z_sl_len (ho : z_om E) : ∀ vs : List Value, (lg_sl (vs.map (z_v E))).length = z_wt vs
  | [] => rfl
  | w :: vs => by
    have ih := z_sl_len ho vs
    have e : z_wt (w :: vs) = w.category + z_wt vs := by unfold z_wt; rw [List.map_cons, List.sum_cons]
    rw [e, ← ih, ← z_v_cat (E := E) ho w]
    show (lg_sl (z_v E w :: vs.map (z_v E))).length = _
    unfold lg_sl
    rw [List.flatMap_cons, List.length_append]
    congr 1
    cases z_v E w <;> rfl
theorem z_body {p : Program} {e : Env} {s s₁ : State} {m : MethodId} {args : Array Value} {below : List Frame} {meth : Method} {c : Code} {d j mc ms : Nat} {as : List Value} {h : z_H} {Q : z_Q} {QX : z_X} (hlt : l.stackTraces = false) (hM : ∀ j, z_okM M (M j))
    (hC : ∀ j As h mc ms Q QX, z_call M d j As h mc ms Q QX → z_Met E l (M j).1 (z_ws (M j)) (z_rm d mc ms) As h Q QX mc ms)
    (B : BodyLoose p l (M j).1 (headSpec (z_ws (M j)) (z_rm (d + 1) mc ms)) (M j).2.1 (M j).2.2.1 (M j).2.2.2.1 e s m args below meth c s₁) (hml : c.maxLocals = (M j).2.2.1) (htab : c.exceptionTable.toList = tableOf (M j).2.2.2.2.1) (hP : z_Pc E as h args s)
    (hc : z_call M (d + 1) j as h mc ms Q QX) : W p l e (z_rm (d + 1) mc ms) s m args below meth c s.heap [] 0 0 (z_MQ below E Q QX args s mc ms) (entryFrame m args (M j).2.2.1) := by
  obtain ⟨rfl, hR, hG⟩ := hP
  obtain ⟨hwt, hw⟩ := hc
  have hts : ∀ w ∈ lw_all, w.before (as.map (z_v E)).toArray s = true := by
    intro w hw
    refine atoms_spec (ws := z_ws (M j)) B.pre w ?_
    unfold z_ws
    split
    · exact List.mem_cons_of_mem _ hw
    · exact List.mem_cons_of_mem _ hw
  have hown : s.vm.findClass (M j).1.cls = some m.cls := findClass_of_methodNamed B.named
  have hnm : meth.name = (M j).1.name := (name_of_methodNamed B.named B.method).1
  obtain ⟨hJ, hT, hH⟩ := hM j
  have hs0 : ∀ q : Nat, q < E.2.2.1.size → s.heap[q]? = E.2.2.1[q]? := hR.2.2.1
  have key := hw (z_Sim E p l e (z_rm (d + 1) mc ms) s m (as.map (z_v E)).toArray below meth c (M j).2.2.1 (z_MQ below E Q QX (as.map (z_v E)).toArray s mc ms)) ?_ ?_
  · have hl := lv_entry (as.map (z_v E)) (n := (M j).2.2.1) (by rw [z_sl_len hG.2.1]; exact hwt)
    rw [lg_entry_eq]
    refine key s.heap [] 0 0 _ ⟨hR, Nat.le_refl _, (fun q hq => by cases hq), ⟨hl.1, hl.2.1, fun k v hv => ?_⟩, by show 0 + mc ≤ mc; omega, by show 0 + ms ≤ ms; omega⟩
    have h1 := z_ent_args hG.2.1 as (M j).2.2.1 k 0 v hv
    rw [Nat.zero_add] at h1
    exact hl.2.2 _ h1
  · intro Y pc ins o ls st h' bc bs hY hat hst
    obtain ⟨t1, t2, t3⟩ := hT pc ins o hat
    exact z_disp (d := d) (C := z_call M d) (mi := M j) (M := M) B.exec B.bytes hml hlt hown hnm rfl B.returns B.notSynchronized htab hH hts hG hs0 (Nat.le_refl _) (Nat.le_refl _) hC (fun i => (hM i).1) t1 t2 (by rw [hnm]; exact t3) hY hst
  · intro pc ls ls' st h' bc bs bc' bs' hl1 hb1 hb2 w H locs cells slots lsA g
    obtain ⟨g1, g2, g3, g4, g5, g6⟩ := g
    exact w H locs cells slots lsA ⟨g1, g2, g3, g4.le hl1, by omega, by omega⟩
/-- what the pure machine computes, the JVM computes -/
theorem z_sim (hlt : l.stackTraces = false) (hM : ∀ j, z_okM M (M j)) : ∀ (d j : Nat) (as : List Value) (h : z_H) (mc ms : Nat) (Q : z_Q) (QX : z_X), z_call M d j as h mc ms Q QX → z_Met E l (M j).1 (z_ws (M j)) (z_rm d mc ms) as h Q QX mc ms
  | 0, _, _, _, _, _, _, _, hc => hc.elim
  | d + 1, j, as, h, mc, ms, Q, QX, hc => by
    have ih := z_sim hlt hM d
    have hJ := (hM j).1
    obtain ⟨j1, j2, j3, j4, j5, j6⟩ := hJ
    refine MetFree.of_bodyS (code := (M j).2.1) (maxLocals := (M j).2.2.1) (ret := (M j).2.2.2.1) j6 ?_ ?_
    · intro args s m hp hn
      cases hh : (M j).2.2.2.2.1 with
      | nil =>
        have hw : Cond.code (M j).1 (M j).2.1 (M j).2.2.1 (M j).2.2.2.1 ∈ z_ws (M j) := by unfold z_ws; rw [hh]; exact List.mem_cons_self
        obtain ⟨meth, c, h1, h2, h3, h4, h5, h6, -, -⟩ := Cond.code_spec hn (atoms_spec (ws := z_ws (M j)) hp _ hw)
        exact ⟨meth, c, h1, h2, h3, h4, h5, h6⟩
      | cons x tl =>
        have hw : Cond.codeWith (M j).1 (M j).2.1 (M j).2.2.1 (M j).2.2.2.1 (x :: tl) ∈ z_ws (M j) := by unfold z_ws; rw [hh]; exact List.mem_cons_self
        obtain ⟨m9, meth, c, hn9, h1, h2, h3, h4, -, h5, h6, -⟩ := Cond.codeWith_spec (atoms_spec (ws := z_ws (M j)) hp _ hw)
        cases hn.symm.trans hn9
        exact ⟨meth, c, h1, h2, h3, h4, h5, h6⟩
    · intro p e s m args below meth c s₁ B hml hP _
      have hh0 : s₁.heap = s.heap := by rw [B.state]; rfl
      have htab : c.exceptionTable.toList = tableOf (M j).2.2.2.2.1 := by
        cases hh : (M j).2.2.2.2.1 with
        | nil =>
          have hw : Cond.code (M j).1 (M j).2.1 (M j).2.2.1 (M j).2.2.2.1 ∈ z_ws (M j) := by unfold z_ws; rw [hh]; exact List.mem_cons_self
          obtain ⟨meth9, c9, h1, h2, -, -, -, -, h7, -⟩ := Cond.code_spec B.named (atoms_spec (ws := z_ws (M j)) B.pre _ hw)
          cases Option.some.inj (h1.symm.trans B.method)
          cases Option.some.inj (h2.symm.trans (Stand.of_body B).code)
          rw [Array.isEmpty_iff.mp h7]
          rfl
        | cons x tl =>
          have hw : Cond.codeWith (M j).1 (M j).2.1 (M j).2.2.1 (M j).2.2.2.1 (x :: tl) ∈ z_ws (M j) := by unfold z_ws; rw [hh]; exact List.mem_cons_self
          exact vx_table (x := (M j).1) B (atoms_spec (ws := z_ws (M j)) B.pre _ hw)
      obtain ⟨t, a1, o, b1, b2, b3⟩ := z_body hlt hM (fun j As h mc ms Q QX q => ih j As h mc ms Q QX q) B hml htab hP hc s₁ hh0 (Stand.of_body B)
      exact ⟨t, o, a1, b1, b2, b3⟩
end ZTop
