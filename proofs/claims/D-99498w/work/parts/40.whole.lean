/-! THE WHOLE, over the pure machine: the law's own text runs as zmL. R_law .. lw_At began as the starting text SKELETON.whole -/
set_option maxRecDepth 100000
def R_law : String := "TollsForLateLaw"
def lw_P (b : Addr) (xs : List Int32) (args : Array Value) (s : State) : Prop := args = #[.ref b] ∧ s.IntsAt b xs ∧ xs.length ≤ 384 ∧ (Jvm.Cond.and given_1 narrow_1).before args s = true
def lw_Q (_ : Array Value) (s : State) (o : Outcome) (t : State) : Prop := o = .returned (some (.int 1)) ∧ Framed s o t [] 1200128 5501098
def lw_Z (below : List Frame) (a : Array Value) (s : State) : State → Prop := fun t => ∃ o, t.status = .running ∧ Ended t below o ∧ lw_Q a s o t
def lw_At (p : Program) (s : State) (m : MethodId) (meth : Method) (c : Code) (b L : Nat) (xs : Nat → Int32) : Prop :=
  p.tables.exec = Jvm.exec ∧ c.code = code ∧ meth.sig.returnType = ret ∧ c.maxLocals = 4 ∧ s.vm.findClass R_law = some m.cls ∧ (∀ w ∈ lw_tbl, w.before #[Value.ref b] s = true) ∧ va_X b L xs s s.heap ∧ b < s.heap.size ∧ meth.locks = false ∧ (Jvm.Cond.and given_1 narrow_1).before #[Value.ref b] s = true
/-- the memory at the law's entry -/
def z_h0 (L : Nat) (xs : Nat → Int32) : z_H := (317, fun a => if a < 317 then z_sk L a else (200, 0), z_sI xs, fun _ _ => 0, z_sP)
theorem z_h0_Rep {E : z_E} {s : State} (hH : E.2.2.1 = s.heap) : z_Rep E (z_h0 E.2.2.2.2.2.1 E.2.2.2.2.2.2) s.heap := by
  refine ⟨⟨Nat.le_refl _, fun a h1 h2 => absurd h2 (Nat.not_lt.mpr h1)⟩, by rw [hH]; rfl, fun q _ => by rw [hH], fun a h1 h2 => absurd h2 (Nat.not_lt.mpr h1), fun a h1 => ?_, fun a h1 => ⟨?_, fun i => ⟨rfl, rfl⟩⟩⟩
  · show (if a < 317 then _ else _) = _
    have h2 : 317 ≤ a := h1
    rw [if_neg (by omega)]
  · show (if a < 317 then _ else _) = _
    rw [if_pos h1]
theorem z_flags (l : Launch) (h : l.flags = flags0) : l.stackTraces = false := by
  unfold Launch.stackTraces
  rw [h]
  decide +kernel
theorem z_forget {s t : State} {o : Outcome} {L : List Loc} {mc ms : Nat} (h : FrameEnd s o t L mc ms) (hL : ∀ q ∈ L, s.heap.size ≤ q.base) : Framed s o t [] mc ms := by
  obtain ⟨h1, h2, e1, e2, e3, e4, e5, e6⟩ := h
  refine ⟨h1, h2, e1, e2, e3, e4, e5, fun a c hc => ?_⟩
  obtain ⟨c', w1, w2, w3, w4⟩ := e6 a c hc
  refine ⟨c', w1, w2, w3, fun i _ => w4 i (fun hm => ?_)⟩
  have h3 := hL _ hm
  have h4 : a < s.heap.size := (Array.getElem?_eq_some_iff.mp hc).1
  exact absurd h3 (Nat.not_le.mpr h4)
/-- what is left: the law's run on the pure machine -/
def z_Law : Prop := ∀ (L : Nat) (xs : Nat → Int32), L ≤ 384 → z_WP (z_call z_tab 1557) zmL (fun v _ => v = some (.int 1)) (fun _ _ => False) 0 (z_ent [.ref 0] 4) [] (z_h0 L xs) 1200128 5501098
theorem z_whole (hpure : z_Law) {p : Program} {e : Env} {s : State} {m : MethodId} {below : List Frame} {meth : Method} {c : Code} (l : Launch) (hflags : l.flags = flags0) {b L : Nat} {xs : Nat → Int32} (hL : L ≤ 384) (C0 : lw_At p s m meth c b L xs) (hnm : meth.name = "law") (htab : c.exceptionTable.toList = []) : W p l e room_1 s m #[Value.ref b] below meth c s.heap [] 0 0 (lw_Z below #[Value.ref b] s) (entryFrame m ([Value.ref b] : List Value).toArray 4) := by
  obtain ⟨hx, hb, hr, hml, hown, hts, hX, hbl, hlocks, hgv⟩ := C0
  obtain ⟨E, hEb, hEH, hEL, hEx, hG⟩ := z_startG hts hgv hX hbl
  have htsA : ∀ w ∈ lw_all, w.before #[Value.ref b] s = true := fun w h => hts w (lw_all_tbl h)
  have hR := z_h0_Rep (E := E) (s := s) hEH
  rw [hEL, hEx] at hR
  have hs0 : ∀ q : Nat, q < E.2.2.1.size → s.heap[q]? = E.2.2.1[q]? := fun q _ => by rw [hEH]
  have hlt := z_flags l hflags
  have hw := hpure L xs hL
  have hC := z_sim (E := E) hlt z_tab_ok 1557
  have key := hw (z_Sim E p l e room_1 s m #[Value.ref b] below meth c 4 (z_MQ below E (fun v _ => v = some (.int 1)) (fun _ _ => False) #[Value.ref b] s 1200128 5501098)) ?_ ?_
  · have hl := lv_entry ([Value.ref 0].map (z_v E)) (n := 4) (by rw [z_sl_len hG.2.1]; decide)
    have e0 : ([Value.ref b] : List Value) = [Value.ref 0].map (z_v E) := by
      show [Value.ref b] = [Value.ref (z_f E 0)]
      rw [z_f_sta (by omega), hEb]
    have e1 : entryFrame m ([Value.ref b] : List Value).toArray 4 = F0 m 0 ((lg_sl ([Value.ref 0].map (z_v E)) ++ List.replicate (4 - (lg_sl ([Value.ref 0].map (z_v E))).length) Slot.unset).toArray) [] := by
      rw [← lg_entry_eq, e0]
    rw [e1]
    have k2 := key s.heap [] 0 0 _ ⟨hR, Nat.le_refl _, (fun q hq => by cases hq), ⟨hl.1, hl.2.1, fun k v hv => hl.2.2 _ (by
      have h1 := z_ent_args hG.2.1 [.ref 0] 4 k 0 v hv
      rw [Nat.zero_add] at h1
      exact h1)⟩, Nat.le_refl _, Nat.le_refl _⟩
    intro T hT X
    obtain ⟨t, a1, o, b1, b2, b3⟩ := k2 T hT X
    refine ⟨t, a1, o, b1, b2, ?_⟩
    rcases b3 with ⟨⟨⟨v, h', hv, hq, -⟩, -⟩, Lc, hfe, hLc⟩ | ⟨q0, h', Lc, -, hq, -⟩
    · rw [hq] at hv
      have hv : o = .returned (some (.int 1)) := hv
      refine ⟨hv, z_forget hfe (fun q hq => ?_)⟩
      have := hLc q hq
      unfold z_A at this
      rw [hEH] at this
      exact this
    · exact hq.elim
  · intro Y pc ins o ls st h' bc bs hY hat hst
    obtain ⟨t1, t2, t3⟩ := zTL pc ins o hat
    exact z_disp (d := 1557) (C := z_call z_tab 1557) (mi := zmL) (M := z_tab) hx hb hml hlt hown hnm rfl hr hlocks (by rw [htab]; rfl) (fun q hq => nomatch hq) htsA hG hs0 (by decide) (by decide) (fun j As h mc ms Q QX q => hC j As h mc ms Q QX q) (fun i => (z_tab_ok i).1) t1 t2 (by rw [hnm]; exact t3) hY hst
  · intro pc ls ls' st h' bc bs bc' bs' hl1 hb1 hb2 w H locs cells slots lsA g
    obtain ⟨g1, g2, g3, g4, g5, g6⟩ := g
    exact w H locs cells slots lsA ⟨g1, g2, g3, g4.le hl1, by omega, by omega⟩
