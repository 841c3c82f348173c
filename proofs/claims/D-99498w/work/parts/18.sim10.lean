/-! THE PURE MACHINE AGAINST THE JVM, 11: calls -/
set_option maxRecDepth 100000
section ZCalls
variable {E : z_E} {p : Program} {l : Launch} {e : Env} {R : Room} {s : State} {m : MethodId} {args : Array Value} {below : List Frame} {meth : Method} {c : Code} {nL : Nat} {QQ : State → Prop} {cc : ByteArray}
variable {C : z_K} {mi : z_M} {Qz : z_Q} {QX : z_X} {Y : z_C} {pc : Nat} {o : z_O} {ls : z_L} {st : List Value} {h : z_H} {bc bs : Nat} {M : Nat → z_M} {d : Nat}
theorem z_goodIn {w : Jvm.Cond} (h : w ∈ lw_all) : ∀ x ∈ [w], x ∈ lw_all := fun x hx => by rw [List.mem_singleton.mp hx]; exact h
theorem z_pre {As : List Value} {H : Heap} (hG : z_G E s) (hR : z_Rep E h H) : ∀ U : State, U.heap = H → s.WarmedH U.vm → z_Pc E As h (As.map (z_v E)).toArray U := fun U hU hW => ⟨rfl, by rw [hU]; exact hR, hG.warm hW⟩
theorem z_sm_static {index : Nat} (hx : p.tables.exec = Jvm.exec) (hb : c.code = cc) (hml : c.maxLocals = nL) {own : String} (hown : s.vm.findClass own = some m.cls) (hts : ∀ w ∈ lw_all, w.before args s = true) (hG : z_G E s) (hRf : d + 5 ≤ R.frames) (hRl : 64 * (d + 5) ≤ R.locals) (hC : ∀ j As h mc ms Q QX, C j As h mc ms Q QX → z_Met E l (M j).1 (z_ws (M j)) (z_rm d mc ms) As h Q QX mc ms)
    (hj : z_okJ (M o.1)) (hh : (M o.1).2.2.2.2.1 = []) (hn : (M o.1).2.2.2.2.2.2 = o.2.2.1) (hl : Cond.methodLink own index (M o.1).1 ∈ lw_all ∨ ∃ host, Cond.methodLinkNest own index (M o.1).1 host ∈ z_nw) (hst : Cond.static (M o.1).1 ∈ lw_all) (hY : ∀ pc ls st h bc bs, Y pc ls st h bc bs → z_Sim E p l e R s m args below meth c nL QQ pc ls st h bc bs) (hd : decode cc pc = .ok (.invokestatic index, 3))
    (hs : z_pn o.2.2.1 st fun As r => z_goS C Y pc 3 ls h bc bs o.1 As r) : z_Sim E p l e R s m args below meth c nL QQ pc ls st h bc bs := by
  obtain ⟨As, r, rfl, hlen, hwt, mc, ms, hmc, hms, h1⟩ := z_pn_e hs
  intro H locs cells slots lsA g
  have hM := (hC _ _ _ _ _ _ _ h1).pure
  rw [← hn] at hlen
  generalize M o.1 = mj at hM hj hh hn hl hst hlen
  obtain ⟨y, b, nLy, ret, hh0, tb, n⟩ := mj
  dsimp only at hh hM hj hn hl hst hlen
  subst hh
  have hM : Met l y (ws_ y b nLy ret) (z_rm d mc ms) (z_Pc E As h) (z_Qc E fun v h' => Y (pc + 3) ls (v.toList ++ r) h' (bc - mc) (bs - ms)) mc ms (z_A E) := hM
  obtain ⟨j1, -, j3, ⟨j4, j5, j6⟩, j7, -⟩ := hj
  dsimp only at j1 j3 j4 j5 j6 j7
  have hroom : (z_rm d mc ms).frames + 1 ≤ R.frames ∧ 8 + (nLy + 11) + (z_rm d mc ms).locals ≤ R.locals := ⟨hRf, by show 8 + (nLy + 11) + 64 * (d + 4) ≤ R.locals; omega⟩
  have hst0 : (F0 m pc lsA ((As.reverse ++ r).map (z_v E))).stack = (As.map (z_v E)).reverse ++ r.map (z_v E) := by show (As.reverse ++ r).map (z_v E) = _; rw [List.map_append, List.map_reverse]
  have hW : 2 * (F0 m pc lsA ((As.reverse ++ r).map (z_v E))).monitorRoom + ((r.map (z_v E)).map fun v => v.category).sum ≤ 8 := by rw [z_wt_v hG.2.1]; show 2 * 0 + _ ≤ 8; omega
  have gc := g.2.2.2.2.1
  have gs := g.2.2.2.2.2
  rcases hl with hl | ⟨host, hl⟩
  · exact z_contS (va_runS ⟨hx, hb, hml, hown, hts⟩ hM (va_cwS n hts (lw_S hl hst j3 (j1 rfl)) rfl rfl rfl ⟨j4, j5, j6⟩ hroom) ⟨z_blind, z_pre hG g.1⟩ rfl (by rw [List.length_map]; exact hlen) g.2.2.2.1.1 hst0 hW hd ⟨by omega, by omega⟩) g hmc hms (fun v h' q => hY _ _ _ _ _ _ q)
  · exact z_contS (va_runSN ⟨hx, hb, hml, hown, hts⟩ hM ⟨va_cnB n hts (lw_meth (j1 rfl)) rfl rfl rfl (hG.2.2.2.1 _ hl) (hts _ j3) ⟨j4, j5, j6⟩ hroom, hts _ hst, trivial⟩ ⟨z_blind, z_pre hG g.1⟩ rfl (by rw [List.length_map]; exact hlen) g.2.2.2.1.1 hst0 hW hd ⟨by omega, by omega⟩) g hmc hms (fun v h' q => hY _ _ _ _ _ _ q)
theorem z_sm_init {index : Nat} (hx : p.tables.exec = Jvm.exec) (hb : c.code = cc) (hml : c.maxLocals = nL) {own : String} (hown : s.vm.findClass own = some m.cls) (hts : ∀ w ∈ lw_all, w.before args s = true) (hG : z_G E s) (hRf : d + 5 ≤ R.frames) (hRl : 64 * (d + 5) ≤ R.locals) (hC : ∀ j As h mc ms Q QX, C j As h mc ms Q QX → z_Met E l (M j).1 (z_ws (M j)) (z_rm d mc ms) As h Q QX mc ms)
    (hj : z_okJ (M o.1)) (hh : (M o.1).2.2.2.2.1 = []) (hret : (M o.1).2.2.2.1 = none) (hnm : (M o.1).1.name = "<init>") (hn : (M o.1).2.2.2.2.2.2 = o.2.2.1) (hl : Cond.methodLink own index (M o.1).1 ∈ lw_all ∨ ∃ host, Cond.methodLinkNest own index (M o.1).1 host ∈ z_nw) (hin : Cond.instanceMethod (M o.1).1 ∈ lw_all) (hY : ∀ pc ls st h bc bs, Y pc ls st h bc bs → z_Sim E p l e R s m args below meth c nL QQ pc ls st h bc bs) (hd : decode cc pc = .ok (.invokespecial index, 3))
    (hs : z_pn o.2.2.1 st fun As r => z_r1 r fun b r => z_goS C Y pc 3 ls h bc bs o.1 (.ref b :: As) r) : z_Sim E p l e R s m args below meth c nL QQ pc ls st h bc bs := by
  obtain ⟨As, r0, rfl, hlen, hs1⟩ := z_pn_e hs
  obtain ⟨rb, r, rfl, hwt, mc, ms, hmc, hms, h1⟩ := z_r1_e hs1
  intro H locs cells slots lsA g
  have hM := (hC _ _ _ _ _ _ _ h1).pure
  rw [← hn] at hlen
  generalize M o.1 = mj at hM hj hh hn hl hin hlen hret hnm
  obtain ⟨y, b, nLy, ret, hh0, tb, n⟩ := mj
  dsimp only at hh hM hj hn hl hin hlen hret hnm
  subst hh
  subst hret
  have hM : Met l y (ws_ y b nLy none) (z_rm d mc ms) (z_Pc E (.ref rb :: As) h) (z_Qc E fun v h' => Y (pc + 3) ls (v.toList ++ r) h' (bc - mc) (bs - ms)) mc ms (z_A E) := hM
  obtain ⟨j1, -, j3, ⟨j4, j5, j6⟩, j7, -⟩ := hj
  dsimp only at j1 j3 j4 j5 j6 j7
  have hroom : (z_rm d mc ms).frames + 1 ≤ R.frames ∧ 8 + (nLy + 11) + (z_rm d mc ms).locals ≤ R.locals := ⟨hRf, by show 8 + (nLy + 11) + 64 * (d + 4) ≤ R.locals; omega⟩
  have hst0 : (F0 m pc lsA ((As.reverse ++ .ref rb :: r).map (z_v E))).stack = (As.map (z_v E)).reverse ++ .ref (z_f E rb) :: r.map (z_v E) := by show (As.reverse ++ .ref rb :: r).map (z_v E) = _; rw [List.map_append, List.map_reverse]; rfl
  have hW : 2 * (F0 m pc lsA ((As.reverse ++ .ref rb :: r).map (z_v E))).monitorRoom + ((r.map (z_v E)).map fun v => v.category).sum ≤ 8 := by rw [z_wt_v hG.2.1]; show 2 * 0 + _ ≤ 8; omega
  have gc := g.2.2.2.2.1
  have gs := g.2.2.2.2.2
  have hpre : ∀ U : State, U.heap = H → s.WarmedH U.vm → z_Pc E (.ref rb :: As) h (Value.ref (z_f E rb) :: As.map (z_v E)).toArray U := z_pre (As := .ref rb :: As) hG g.1
  rcases hl with hl | ⟨host, hl⟩
  · exact z_contS (va_runI ⟨hx, hb, hml, hown, hts⟩ hM (cwI n hts (lw_meth (j1 rfl)) rfl rfl rfl (hts _ j3) (hts _ hl) (hts _ hin) hnm ⟨j4, j5, j6⟩ hroom) ⟨z_blind, hpre⟩ rfl (by rw [List.length_map]; exact hlen) g.2.2.2.1.1 hst0 hW hd ⟨by omega, by omega⟩) g hmc hms (fun v h' q => hY _ _ _ _ _ _ q)
  · exact z_contS (va_runIN ⟨hx, hb, hml, hown, hts⟩ hM ⟨va_cnB n hts (lw_meth (j1 rfl)) rfl rfl rfl (hG.2.2.2.1 _ hl) (hts _ j3) ⟨j4, j5, j6⟩ hroom, hnm, hts _ hin⟩ ⟨z_blind, hpre⟩ rfl (by rw [List.length_map]; exact hlen) g.2.2.2.1.1 hst0 hW hd ⟨by omega, by omega⟩) g hmc hms (fun v h' q => hY _ _ _ _ _ _ q)
theorem z_sm_interface {index count : Nat} {x : MethodName} (hx : p.tables.exec = Jvm.exec) (hb : c.code = cc) (hml : c.maxLocals = nL) {own : String} (hown : s.vm.findClass own = some m.cls) (hts : ∀ w ∈ lw_all, w.before args s = true) (hG : z_G E s) (hRf : d + 5 ≤ R.frames) (hRl : 64 * (d + 5) ≤ R.locals) (hC : ∀ j As h mc ms Q QX, C j As h mc ms Q QX → z_Met E l (M j).1 (z_ws (M j)) (z_rm d mc ms) As h Q QX mc ms)
    (hl : Cond.methodLink own index x ∈ lw_all) (hxn : x.cls ≠ "java/lang/invoke/MethodHandle" ∧ x.cls ≠ "java/lang/invoke/VarHandle" ∧ (parseMethodDescriptor x.desc).map (fun d => d.parameters.length) = some o.2.2.1)
    (hall : ∀ q ∈ o.2.2.2, ∃ k : Nat, q.1 = (k : Int) ∧ k < 20 ∧ z_okJ (M q.2) ∧ (M q.2).2.2.2.2.1 = [] ∧ (z_R k, x, (M q.2).1) ∈ z_fw ∧ Cond.selects (z_R k) x (M q.2).1 ∈ lw_all ∧ Cond.instanceMethod (M q.2).1 ∈ lw_all)
    (hY : ∀ pc ls st h bc bs, Y pc ls st h bc bs → z_Sim E p l e R s m args below meth c nL QQ pc ls st h bc bs) (hd : decode cc pc = .ok (.invokeinterface index count, 5))
    (hs : z_step C mi Qz QX Y pc (.invokeinterface index count) o ls st h bc bs) : z_Sim E p l e R s m args below meth c nL QQ pc ls st h bc bs := by
  obtain ⟨As, r0, rfl, hlen, hs1⟩ := z_pn_e hs
  obtain ⟨rb, r, rfl, hs2⟩ := z_r1_e hs1
  intro H locs cells slots lsA g
  split at hs2
  · rename_i j hsel
    obtain ⟨hwt, mc, ms, hmc, hms, h1⟩ := hs2
    obtain ⟨k, e1, e2, hj, hh, hfw, hse, hin⟩ := hall _ (z_sel_mem hsel)
    dsimp only at e1 hj hh hfw hse hin
    have hk : z_k h rb = k := by omega
    have hM := (hC _ _ _ _ _ _ _ h1).pure
    generalize M j = mj at hM hj hh hfw hse hin
    obtain ⟨y, b, nLy, ret, hh0, tb, n⟩ := mj
    dsimp only at hh hM hj hfw hse hin
    subst hh
    have hM : Met l y (ws_ y b nLy ret) (z_rm d mc ms) (z_Pc E (.ref rb :: As) h) (z_Qc E fun v h' => Y (pc + 5) ls (v.toList ++ r) h' (bc - mc) (bs - ms)) mc ms (z_A E) := hM
    obtain ⟨j1, -, j3, ⟨j4, j5, j6⟩, j7, -⟩ := hj
    dsimp only at j1 j3 j4 j5 j6 j7
    have hroom : (z_rm d mc ms).frames + 1 ≤ R.frames ∧ 8 + (nLy + 11) + (z_rm d mc ms).locals ≤ R.locals := ⟨hRf, by show 8 + (nLy + 11) + 64 * (d + 4) ≤ R.locals; omega⟩
    have hst0 : (F0 m pc lsA ((As.reverse ++ .ref rb :: r).map (z_v E))).stack = (As.map (z_v E)).reverse ++ .ref (z_f E rb) :: r.map (z_v E) := by show (As.reverse ++ .ref rb :: r).map (z_v E) = _; rw [List.map_append, List.map_reverse]; rfl
    have hW : 2 * (F0 m pc lsA ((As.reverse ++ .ref rb :: r).map (z_v E))).monitorRoom + ((r.map (z_v E)).map fun v => v.category).sum ≤ 8 := by rw [z_wt_v hG.2.1]; show 2 * 0 + _ ≤ 8; omega
    have gc := g.2.2.2.2.1
    have gs := g.2.2.2.2.2
    have hpre : ∀ U : State, U.heap = H → s.WarmedH U.vm → z_Pc E (.ref rb :: As) h (Value.ref (z_f E rb) :: As.map (z_v E)).toArray U := z_pre (As := .ref rb :: As) hG g.1
    obtain ⟨cell, g1, g2, g3, g4⟩ := z_obj_cell (a := rb) g.1 hG.2.2.1 hG.1 (by omega)
    rw [hk] at g3
    have hT : GoodIn lw_all (va_wsF own index (z_R k) x y (ws_ y b nLy ret)) := by
      refine lw_app (fun w hw => ?_) (lw_meth (j1 rfl))
      simp only [List.mem_cons, List.not_mem_nil, or_false] at hw
      rcases hw with rfl | rfl | rfl | rfl
      · exact hl
      · exact hse
      · exact hin
      · exact j3
    exact z_cont5 (va_runF (hG.1.1 _ _ (z_cl_at _ e2)).2 ⟨hx, hb, hml, hown, hts⟩ hM (va_cwF (ws' := lw_all) o.2.2.1 hts hT rfl rfl rfl (hG.2.2.2.2.2.2.2.1 _ hfw) hxn hroom) ⟨z_blind, ⟨cell, g1, g2, g3⟩, hpre⟩ rfl (by rw [List.length_map]; exact hlen) g.2.2.2.1.1 hst0 hW hd ⟨by omega, by omega⟩) g hmc hms (fun v h' q => hY _ _ _ _ _ _ q)
  · exact hs2.elim
/-- a call of an object's own method, that may throw -/
theorem z_sm_virtual {index : Nat} {ci : Nat} (hx : p.tables.exec = Jvm.exec) (hb : c.code = cc) (hml : c.maxLocals = nL) {own : String} (hown : s.vm.findClass own = some m.cls) (hts : ∀ w ∈ lw_all, w.before args s = true) (hG : z_G E s) (hRf : d + 5 ≤ R.frames) (hRl : 64 * (d + 5) ≤ R.locals) (hC : ∀ j As h mc ms Q QX, C j As h mc ms Q QX → z_Met E l (M j).1 (z_ws (M j)) (z_rm d mc ms) As h Q QX mc ms)
    (hci : ci < 21) (hj : z_okJ (M o.1)) (hcl : (M o.1).1.cls = z_R ci) (hn : (M o.1).2.2.2.2.2.2 = o.2.2.1) (hl : Cond.methodLink own index (M o.1).1 ∈ lw_all) (hin : Cond.instanceMethod (M o.1).1 ∈ lw_all) (hse : Cond.selects (z_R ci) (M o.1).1 (M o.1).1 ∈ lw_all) (hini : Cond.initialized (z_R ci) ∈ lw_all) (hY : ∀ pc ls st h bc bs, Y pc ls st h bc bs → z_Sim E p l e R s m args below meth c nL QQ pc ls st h bc bs)
    (hthr : ∀ (q0 : Nat) (r : List Value) (h' : z_H) (bc' bs' : Nat) (H' : Heap) (locs' : List Loc) (cells' slots' : Nat) (lsA' : Array Slot), z_thr QX (fun hp q h' => Y hp ls [.ref q] h' bc' bs') pc mi.2.2.2.2.1 q0 h' → z_k h' q0 = 5 → 317 ≤ q0 → z_Gd E s R nL ls h' bc' bs' H' locs' cells' slots' lsA' → vx_W p l e R s m args below meth c H' locs' cells' slots' QQ (F0 m pc lsA' (r.map (z_v E))) (z_f E q0))
    (hd : decode cc pc = .ok (.invokevirtual index, 3))
    (hs : z_pn o.2.2.1 st fun As r => z_r1 r fun b r => (z_k h b : Int) = (ci : Int) ∧ z_goV C mi QX Y pc 3 ls h bc bs o.1 (.ref b :: As) r) : z_Sim E p l e R s m args below meth c nL QQ pc ls st h bc bs := by
  obtain ⟨As, r0, rfl, hlen, hs1⟩ := z_pn_e hs
  obtain ⟨rb, r, rfl, hkb, hwt, mc, ms, hmc, hms, h1⟩ := z_r1_e hs1
  have hk : z_k h rb = ci := by omega
  intro H locs cells slots lsA g
  have hM := hC _ _ _ _ _ _ _ h1
  rw [← hn] at hlen
  generalize M o.1 = mj at hM hj hcl hn hl hin hse hlen
  obtain ⟨y, b, nLy, ret, hh0, tb, n⟩ := mj
  dsimp only at hM hj hcl hn hl hin hse hlen
  obtain ⟨j1, j2, j3, ⟨j4, j5, j6⟩, j7, -⟩ := hj
  dsimp only at j1 j2 j3 j4 j5 j6 j7
  have hroom : (z_rm d mc ms).frames + 1 ≤ R.frames ∧ 8 + (nLy + 11) + (z_rm d mc ms).locals ≤ R.locals := ⟨hRf, by show 8 + (nLy + 11) + 64 * (d + 4) ≤ R.locals; omega⟩
  have hst0 : (F0 m pc lsA ((As.reverse ++ .ref rb :: r).map (z_v E))).stack = (As.map (z_v E)).reverse ++ .ref (z_f E rb) :: r.map (z_v E) := by show (As.reverse ++ .ref rb :: r).map (z_v E) = _; rw [List.map_append, List.map_reverse]; rfl
  have hW : 2 * (F0 m pc lsA ((As.reverse ++ .ref rb :: r).map (z_v E))).monitorRoom + ((r.map (z_v E)).map fun v => v.category).sum ≤ 8 := by rw [z_wt_v hG.2.1]; show 2 * 0 + _ ≤ 8; omega
  have gc := g.2.2.2.2.1
  have gs := g.2.2.2.2.2
  have hpre : ∀ U : State, U.heap = H → s.WarmedH U.vm → z_Pc E (.ref rb :: As) h (Value.ref (z_f E rb) :: As.map (z_v E)).toArray U := z_pre (As := .ref rb :: As) hG g.1
  obtain ⟨cell, g1, g2, g3, g4⟩ := z_obj_cell (a := rb) g.1 hG.2.2.1 hG.1 (by omega)
  rw [hk] at g3
  cases hh0 with
  | nil =>
    have hM : z_Met E l y (ws_ y b nLy ret) (z_rm d mc ms) (.ref rb :: As) h (fun v h' => Y (pc + 3) ls (v.toList ++ r) h' (bc - mc) (bs - ms)) _ mc ms := hM
    exact z_contV (z_runV ⟨hx, hb, hml, hown, hts⟩ hM (cwV n hts (lw_V hl hin hse hini (j1 rfl)) rfl rfl rfl ⟨hcl, j4, j5, j6⟩ hroom) ⟨z_blind, ⟨cell, g1, g2, g3⟩, hpre⟩ rfl (by rw [List.length_map]; exact hlen) g.2.2.2.1.1 hst0 hW hd ⟨by omega, by omega⟩) g hmc hms (fun q0 h' H' locs' cells' slots' a1 a2 a3 a4 => hthr q0 r h' _ _ H' locs' cells' slots' lsA a1 a2 a3 a4) (fun v h' q => hY _ _ _ _ _ _ q)
  | cons hd0 tl0 =>
    have hM : z_Met E l y (wsW_ y b nLy ret (hd0 :: tl0)) (z_rm d mc ms) (.ref rb :: As) h (fun v h' => Y (pc + 3) ls (v.toList ++ r) h' (bc - mc) (bs - ms)) _ mc ms := hM
    exact z_contV (z_runVW ⟨hx, hb, hml, hown, hts⟩ hM (vx_cwVW n hts (lw_VW hl hin hse hini (j2 (fun q => by cases q))) rfl rfl rfl ⟨hcl, j4, j5, j6⟩ hroom) ⟨z_blind, ⟨cell, g1, g2, g3⟩, hpre⟩ rfl (by rw [List.length_map]; exact hlen) g.2.2.2.1.1 hst0 hW hd ⟨by omega, by omega⟩) g hmc hms (fun q0 h' H' locs' cells' slots' a1 a2 a3 a4 => hthr q0 r h' _ _ H' locs' cells' slots' lsA a1 a2 a3 a4) (fun v h' q => hY _ _ _ _ _ _ q)
end ZCalls
