/-! THE PURE MACHINE AGAINST THE JVM, 14: every instruction, and the method (printed by gen/gdisp.py) -/
set_option maxRecDepth 100000
section ZDisp
variable {E : z_E} {p : Program} {l : Launch} {e : Env} {R : Room} {s : State} {m : MethodId} {args : Array Value} {below : List Frame} {meth : Method} {c : Code} {nL : Nat} {cc : ByteArray}
variable {C : z_K} {mi : z_M} {Qz : z_Q} {QX : z_X} {Y : z_C} {pc : Nat} {o : z_O} {ls : z_L} {st : List Value} {h : z_H} {bc bs : Nat} {M : Nat → z_M} {d : Nat}
theorem z_and_e {a b : Bool} (h : (a && b) = true) : a = true ∧ b = true := by simpa using h
theorem z_tsw_e {nL pc : Nat} {df lo hi : Int} {offs : Array Int} {o : z_O} (h : z_bok nL pc (.tableswitch df lo hi offs) o = true) : (∀ i : Nat, i < o.2.2.2.length → ∃ t, o.2.2.2[i]? = some (lo + i, t)) ∧ -2147483648 ≤ lo ∧ lo + o.2.2.2.length ≤ 2147483647 ∧ hi + 1 = lo + o.2.2.2.length ∧ (∀ (i t : Nat) (k : Int), o.2.2.2[i]? = some (k, t) → ∃ off, offs[i]? = some off ∧ (pc : Int) + off = (t : Int)) ∧ (pc : Int) + df = (o.1 : Int) := by
  unfold z_bok at h
  obtain ⟨h, h6⟩ := z_and_e h
  obtain ⟨h, h5⟩ := z_and_e h
  obtain ⟨h, h4⟩ := z_and_e h
  obtain ⟨h, h3⟩ := z_and_e h
  obtain ⟨h1, h2⟩ := z_and_e h
  have h1 := of_decide_eq_true h1
  have h2 := of_decide_eq_true h2
  have h3 := of_decide_eq_true h3
  have h4 := of_decide_eq_true h4
  have h5 := of_decide_eq_true h5
  have key : ∀ i, i < o.2.2.2.length → ∃ k t off, o.2.2.2[i]? = some (k, t) ∧ offs[i]? = some off ∧ k = lo + i ∧ (pc : Int) + off = (t : Int) := by
    intro i hi
    have h7 := List.all_eq_true.mp h6 i (List.mem_range.mpr hi)
    split at h7
    · rename_i k t off e1 e2
      obtain ⟨g1, g2⟩ := z_and_e h7
      exact ⟨k, t, off, e1, e2, of_decide_eq_true g1, of_decide_eq_true g2⟩
    · cases h7
  refine ⟨fun i hi => ?_, h2, h3, h4, fun i t k hi => ?_, h1⟩
  · obtain ⟨k, t, off, e1, e2, e3, e4⟩ := key i hi
    exact ⟨t, by rw [e1, e3]⟩
  · obtain ⟨k', t', off, e1, e2, e3, e4⟩ := key i (List.getElem?_eq_some_iff.mp hi).1
    rw [hi] at e1
    cases e1
    exact ⟨off, e2, e4⟩
theorem z_lsw_e {nL pc : Nat} {df : Int} {ps : Array (Int × Int)} {o : z_O} (h : z_bok nL pc (.lookupswitch df ps) o = true) : (ps.toList.zip (ps.toList.drop 1)).all (fun (a, next) => a.1 < next.1) = true ∧ o.2.2.2.length = ps.toList.length ∧ (∀ (i : Nat) (k : Int) (t : Nat) (q : Int × Int), o.2.2.2[i]? = some (k, t) → ps.toList[i]? = some q → q.1 = k ∧ (pc : Int) + q.2 = (t : Int) ∧ -2147483648 ≤ k ∧ k ≤ 2147483647) ∧ (pc : Int) + df = (o.1 : Int) := by
  unfold z_bok at h
  obtain ⟨h, h4⟩ := z_and_e h
  obtain ⟨h, h3⟩ := z_and_e h
  obtain ⟨h1, h2⟩ := z_and_e h
  have h1 := of_decide_eq_true h1
  have h3 := of_decide_eq_true h3
  refine ⟨h2, h3, fun i k t q e1 e2 => ?_, h1⟩
  have h7 := List.all_eq_true.mp h4 i (List.mem_range.mpr (List.getElem?_eq_some_iff.mp e1).1)
  rw [e1, e2] at h7
  dsimp only at h7
  obtain ⟨h7, g4⟩ := z_and_e h7
  obtain ⟨h7, g3⟩ := z_and_e h7
  obtain ⟨g1, g2⟩ := z_and_e h7
  exact ⟨of_decide_eq_true g1, of_decide_eq_true g2, of_decide_eq_true g3, of_decide_eq_true g4⟩
set_option maxHeartbeats 4000000 in
theorem z_disp {ins : Instr} (hx : p.tables.exec = Jvm.exec) (hb : c.code = cc) (hml : c.maxLocals = nL) (hlt : l.stackTraces = false) {own : String} (hown : s.vm.findClass own = some m.cls) (hnm : meth.name = mi.1.name) (hmo : mi.1.cls = own) (hr : meth.sig.returnType = mi.2.2.2.1) (hlocks : meth.locks = false) (htab : c.exceptionTable.toList = tableOf mi.2.2.2.2.1) (hhl : ∀ q ∈ mi.2.2.2.2.1, q.2.2.2 ≠ 0 → Cond.classLink own q.2.2.2 "TollsForLate$Wrong" ∈ lw_all)
    (hts : ∀ w ∈ lw_all, w.before args s = true) (hG : z_G E s) (hs0 : ∀ q : Nat, q < E.2.2.1.size → s.heap[q]? = E.2.2.1[q]?) (hRf : d + 5 ≤ R.frames) (hRl : 64 * (d + 5) ≤ R.locals) (hC : ∀ j As h mc ms Q QX, C j As h mc ms Q QX → z_Met E l (M j).1 (z_ws (M j)) (z_rm d mc ms) As h Q QX mc ms) (hJ : ∀ j, z_okJ (M j))
    (hd : z_dec cc pc ins) (hB : z_bok nL pc ins o = true) (hq : z_req M own meth.name ins o) (hY : ∀ pc ls st h bc bs, Y pc ls st h bc bs → z_Sim E p l e R s m args below meth c nL (z_MQ below E Qz QX args s R.cells R.slots) pc ls st h bc bs) (hs : z_step C mi Qz QX Y pc ins o ls st h bc bs) : z_Sim E p l e R s m args below meth c nL (z_MQ below E Qz QX args s R.cells R.slots) pc ls st h bc bs := by
  have hK := hG.1
  have ho := hG.2.1
  have hS := hG.2.2.1
  have hW := hG.2.2.2.1
  have hRf4 : 4 ≤ R.frames := by omega
  have hRl64 : 64 ≤ R.locals := by omega
  cases ins with
  | iconst n => exact z_sm_iconst hx hb ho hY hd hs
  | bipush n => exact z_sm_bipush hx hb ho hY hd hs
  | sipush n => exact z_sm_sipush hx hb ho hY hd hs
  | lconst n => exact z_sm_lconst hx hb ho hY hd hs
  | aconst_null => exact z_sm_aconst_null hx hb ho hY hd hs
  | iload_n k => exact z_sm_iload_n hx hb ho hY hd hs
  | iload k => exact z_sm_iload hx hb ho hY hd hs
  | lload_n k => exact z_sm_lload_n hx hb ho hY hd hs
  | lload k => exact z_sm_lload hx hb ho hY hd hs
  | aload_n k => exact z_sm_aload_n hx hb ho hY hd hs
  | aload k => exact z_sm_aload hx hb ho hY hd hs
  | istore_n k => exact z_sm_istore_n hx hb ho hY (of_decide_eq_true hB) hd hs
  | istore k => exact z_sm_istore hx hb ho hY (of_decide_eq_true hB) hd hs
  | lstore_n k => exact z_sm_lstore_n hx hb ho hY (of_decide_eq_true hB) hd hs
  | lstore k => exact z_sm_lstore hx hb ho hY (of_decide_eq_true hB) hd hs
  | astore_n k => exact z_sm_astore_n hx hb ho hY (of_decide_eq_true hB) hd hs
  | astore k => exact z_sm_astore hx hb ho hY (of_decide_eq_true hB) hd hs
  | iinc k n => exact z_sm_iinc hx hb ho hY hd hs
  | iadd => exact z_sm_iadd hx hb ho hY hd hs
  | isub => exact z_sm_isub hx hb ho hY hd hs
  | imul => exact z_sm_imul hx hb ho hY hd hs
  | iand => exact z_sm_iand hx hb ho hY hd hs
  | ior => exact z_sm_ior hx hb ho hY hd hs
  | ixor => exact z_sm_ixor hx hb ho hY hd hs
  | ishl => exact z_sm_ishl hx hb ho hY hd hs
  | ishr => exact z_sm_ishr hx hb ho hY hd hs
  | iushr => exact z_sm_iushr hx hb ho hY hd hs
  | idiv => exact z_sm_idiv hx hb ho hY hd hs
  | irem => exact z_sm_irem hx hb ho hY hd hs
  | ineg => exact z_sm_ineg hx hb ho hY hd hs
  | i2l => exact z_sm_i2l hx hb ho hY hd hs
  | i2b => exact z_sm_i2b hx hb ho hY hd hs
  | i2c => exact z_sm_i2c hx hb ho hY hd hs
  | l2i => exact z_sm_l2i hx hb ho hY hd hs
  | ladd => exact z_sm_ladd hx hb ho hY hd hs
  | lsub => exact z_sm_lsub hx hb ho hY hd hs
  | lmul => exact z_sm_lmul hx hb ho hY hd hs
  | lor => exact z_sm_lor hx hb ho hY hd hs
  | ldiv => exact z_sm_ldiv hx hb ho hY hd hs
  | lrem => exact z_sm_lrem hx hb ho hY hd hs
  | lneg => exact z_sm_lneg hx hb ho hY hd hs
  | lshl => exact z_sm_lshl hx hb ho hY hd hs
  | lshr => exact z_sm_lshr hx hb ho hY hd hs
  | lcmp => exact z_sm_lcmp hx hb ho hY hd hs
  | dup => exact z_sm_dup hx hb ho hY hd hs
  | pop => exact z_sm_pop hx hb ho hY hd hs
  | dup_x1 => exact z_sm_dup_x1 hx hb ho hY hd hs
  | dup2 => exact z_sm_dup2 hx hb ho hY hd hs
  | goto off => exact z_sm_goto hx hb ho hY (of_decide_eq_true hB) hd hs
  | ifCond cd off =>
    cases cd with
    | eq => exact z_sm_if_eq hx hb ho hY (of_decide_eq_true hB) hd hs
    | ne => exact z_sm_if_ne hx hb ho hY (of_decide_eq_true hB) hd hs
    | lt => exact z_sm_if_lt hx hb ho hY (of_decide_eq_true hB) hd hs
    | ge => exact z_sm_if_ge hx hb ho hY (of_decide_eq_true hB) hd hs
    | gt => exact z_sm_if_gt hx hb ho hY (of_decide_eq_true hB) hd hs
    | le => exact z_sm_if_le hx hb ho hY (of_decide_eq_true hB) hd hs
  | if_icmp cd off =>
    cases cd with
    | eq => exact z_sm_icmp_eq hx hb ho hY (of_decide_eq_true hB) hd hs
    | ne => exact z_sm_icmp_ne hx hb ho hY (of_decide_eq_true hB) hd hs
    | lt => exact z_sm_icmp_lt hx hb ho hY (of_decide_eq_true hB) hd hs
    | ge => exact z_sm_icmp_ge hx hb ho hY (of_decide_eq_true hB) hd hs
    | gt => exact z_sm_icmp_gt hx hb ho hY (of_decide_eq_true hB) hd hs
    | le => exact z_sm_icmp_le hx hb ho hY (of_decide_eq_true hB) hd hs
  | if_acmp cd off =>
    cases cd with
    | eq => exact z_sm_acmp_eq hx hb (of_decide_eq_true hB) hS hY hd hs
    | ne => exact z_sm_acmp_ne hx hb ho (of_decide_eq_true hB) hY hd hs
  | ifnull off => exact z_sm_ifnull hx hb ho hY (of_decide_eq_true hB) hd hs
  | ifnonnull off => exact z_sm_ifnonnull hx hb ho hY (of_decide_eq_true hB) hd hs
  | tableswitch df lo hi offs =>
    obtain ⟨len, hd⟩ := hd
    obtain ⟨a1, a2, a3, a4, a5, a6⟩ := z_tsw_e hB
    exact z_sm_tableswitch hx hb ho hY a1 a2 a3 a4 a5 a6 hd hs
  | lookupswitch df ps =>
    obtain ⟨len, hd⟩ := hd
    obtain ⟨a1, a2, a3, a4⟩ := z_lsw_e hB
    exact z_sm_lookupswitch hx hb ho hY a1 a2 a3 a4 hd hs
  | ireturn => exact z_sm_ireturn hx hb hr hlocks hs0 hd hs
  | lreturn => exact z_sm_lreturn hx hb hr hlocks hs0 hd hs
  | areturn => exact z_sm_areturn hx hb hr hlocks hs0 hd hs
  | return_ => exact z_sm_return hx hb hr hlocks hs0 hd hs
  | athrow => exact z_sm_athrow hx hb (fun e0 x hx => by rw [htab, e0] at hx; cases hx) hlocks hs0 hd hs
  | getfield i => exact z_sm_getfield hx hb hts hown (z_use_F hts hW hq) (of_decide_eq_true hB) hS hK hY hd hs
  | putfield i => exact z_sm_putfield hx hb hts hown (z_use_P hts hW rfl hq) (of_decide_eq_true hB) hK hY hd hs
  | getstatic i =>
    obtain ⟨C0, n, d0, ref, q1, q2, q3⟩ := hq
    exact z_sm_getstatic hx hb hown ⟨C0, n, d0, ref, hG.2.2.2.2.1 _ q1, hts _ q2, fun x hx => by
      rcases q3 with rfl | q3
      · exact hx
      · exact u_same (hts _ q3) x hx⟩ hY hd hs
  | ldc i =>
    refine z_sm_ldc hx hb hown ?_ hY hd hs
    unfold z_req at hq
    dsimp only at hq
    unfold z_okC
    generalize o.1 = t at hq
    match t, hq with
    | 0, hq => exact hts _ hq
    | 1, ⟨q1, q2, q3⟩ => rw [q1, q2, q3]; exact ⟨_, hG.2.2.2.2.2.1, by omega⟩
    | n + 2, ⟨q1, q2⟩ =>
      obtain ⟨mi0, hM, hE⟩ := hG.2.2.2.2.2.2.1
      rw [q2]
      exact ⟨_, mi0, hM, hE, hts _ q1⟩
  | ldc_w i => exact z_sm_ldc_w hx hb hown (hts _ hq) hY hd hs
  | ldc2_w i => exact z_sm_ldc2_w hx hb hown (fun q q1 => hts _ (hq q q1)) hY hd hs
  | iaload => exact z_sm_iaload hx hb hS hK hY hd hs
  | baload => exact z_sm_baload hx hb hS hK hY hd hs
  | laload => exact z_sm_laload hx hb hS hK hY hd hs
  | aaload => exact z_sm_aaload hx hb hS hK hY hd hs
  | iastore => exact z_sm_iastore hx hb hK hY hd hs
  | bastore => exact z_sm_bastore hx hb hK hY hd hs
  | lastore => exact z_sm_lastore hx hb hK hY hd hs
  | aastore => exact z_sm_aastore hx hb hW hS hK hY hd hs
  | arraylength => exact z_sm_arraylength hx hb hS hK hY hd hs
  | new i => exact z_sm_new hx hb hts hown (hts _ hq) hK hY hd hs
  | newarray a =>
    unfold z_bok at hB
    obtain ⟨hB, b3⟩ := z_and_e hB
    obtain ⟨b1, b2⟩ := z_and_e hB
    exact z_sm_newarray hx hb (of_decide_eq_true b3) ⟨of_decide_eq_true b1, of_decide_eq_true b2⟩ (hts _ hq) hK hY hd hs
  | anewarray i =>
    obtain ⟨a1, a2, a3, a4⟩ := hG.2.2.2.2.2.2.2.2.1
    rcases hq with ⟨q1, q2⟩ | ⟨q1, q2⟩ | ⟨q1, q2⟩
    · exact z_sm_anewarray hx hb hown (hts _ q2) a1 (by rw [q1]; rfl) (by omega) hK hY hd hs
    · exact z_sm_anewarray hx hb hown (hts _ q2) a2 (by rw [q1]; rfl) (by omega) hK hY hd hs
    · exact z_sm_anewarray hx hb hown (hts _ q2) a3 (by rw [q1]; rfl) (by omega) hK hY hd hs
  | multianewarray i dd =>
    have e2 : dd = 2 := of_decide_eq_true hB
    subst e2
    exact z_sm_multianewarray hx hb hown (hts _ hq.1) hG.2.2.2.2.2.2.2.2.1.2.2.2 (hts _ hq.2) hK hY hd hs
  | checkcast i =>
    obtain ⟨nm, q1, q2⟩ := hq
    refine z_sm_checkcast hx hb hown (hts _ q1) (fun q hqq => ?_) hS hK hY hd hs
    obtain ⟨k, e1, e2, e3⟩ := q2 q hqq
    exact ⟨k, e1, e2, e3.imp (fun z => hW _ z) id⟩
  | invokestatic i =>
    unfold z_req at hq
    unfold z_step at hs
    dsimp only at hq hs
    split at hs
    · rename_i e0
      rw [e0] at hq
      obtain ⟨q1, q2, q3, q4⟩ := hq
      exact z_sm_static hx hb hml hown hts hG hRf hRl hC (hJ _) q1 q2 q3 q4 hY hd hs
    · rename_i e0
      rw [e0] at hq
      split at hs
      · obtain ⟨b1, b2, b3, b4, b5, b6, b7, b8, b9, b10, b11⟩ := hs
        exact z_sm_copyI hx hb hml hown ⟨hts _ hq, hts _ q229, hts _ q228, hts _ q124⟩ (by omega) (by omega) hK ho hY hd b1 b2 b3 b4 b5 b6 b7 b8 b9 b10 b11
      · exact hs.elim
    · rename_i e0
      rw [e0] at hq
      split at hs
      · obtain ⟨b1, b2, b3, b4, b5, b6, b7, b8, b9, b10, b11, b12⟩ := hs
        exact z_sm_copyP hx hb hml hown ⟨hts _ hq, hts _ q229, hts _ q228, hts _ q124⟩ (by omega) (by omega) hW hS hK ho hY hd b1 b2 b3 b4 b5 b6 b7 b8 b9 b10 b11 b12
      · exact hs.elim
    · rename_i e0
      rw [e0] at hq
      obtain ⟨x, y, r, rfl, hwt, h1⟩ := z_i2_e hs
      intro H locs cells slots lsA g
      have hw2 := z_wt_v (E := E) ho r
      exact va_mmax hx hb (hml.trans g.2.2.2.1.1.symm) hown (hts _ hq) (hts _ q622) (hts _ q135) (hts _ q623) (by omega) (by rw [hw2]; omega) (Nat.le_trans (Nat.le_add_right _ _) g.2.2.2.2.1) (Nat.le_trans (Nat.le_add_right _ _) g.2.2.2.2.2) hd (hY _ _ _ _ _ _ h1 H locs cells slots lsA g)
    · rename_i e0
      rw [e0] at hq
      obtain ⟨x, y, r, rfl, hwt, h1⟩ := z_i2_e hs
      intro H locs cells slots lsA g
      have hw2 := z_wt_v (E := E) ho r
      exact va_mmin hx hb (hml.trans g.2.2.2.1.1.symm) hown (hts _ hq) (hts _ q452) (hts _ q135) (hts _ q453) (by omega) (by rw [hw2]; omega) (Nat.le_trans (Nat.le_add_right _ _) g.2.2.2.2.1) (Nat.le_trans (Nat.le_add_right _ _) g.2.2.2.2.2) hd (hY _ _ _ _ _ _ h1 H locs cells slots lsA g)
    · rename_i e0
      rw [e0] at hq
      obtain ⟨x, y, r, rfl, hwt, h1⟩ := z_l2_e hs
      intro H locs cells slots lsA g
      have hw2 := z_wt_v (E := E) ho r
      exact va_mmax_long hx hb (hml.trans g.2.2.2.1.1.symm) hown (hts _ hq) (hts _ q1028) (hts _ q135) (hts _ q1029) (by omega) (by rw [hw2]; omega) (Nat.le_trans (Nat.le_add_right _ _) g.2.2.2.2.1) (Nat.le_trans (Nat.le_add_right _ _) g.2.2.2.2.2) hd (hY _ _ _ _ _ _ h1 H locs cells slots lsA g)
    · rename_i e0
      rw [e0] at hq
      obtain ⟨x, y, r, rfl, hwt, h1⟩ := z_l2_e hs
      intro H locs cells slots lsA g
      have hw2 := z_wt_v (E := E) ho r
      exact va_mmin_long hx hb (hml.trans g.2.2.2.1.1.symm) hown (hts _ hq) (hts _ q1025) (hts _ q135) (hts _ q1026) (by omega) (by rw [hw2]; omega) (Nat.le_trans (Nat.le_add_right _ _) g.2.2.2.2.1) (Nat.le_trans (Nat.le_add_right _ _) g.2.2.2.2.2) hd (hY _ _ _ _ _ _ h1 H locs cells slots lsA g)
    · exact hs.elim
  | invokespecial i =>
    unfold z_req at hq
    unfold z_step at hs
    dsimp only at hq hs
    split at hs
    · rename_i e0
      rw [e0] at hq
      obtain ⟨q1, q2, q3, q4, q5, q6⟩ := hq
      exact z_sm_init hx hb hml hown hts hG hRf hRl hC (hJ _) q1 q2 q3 q4 q5 q6 hY hd hs
    · rename_i e0
      rw [e0] at hq
      exact z_sm_object hx hb hml hown hts hG hRf4 hRl64 hq hY hd hs
    · rename_i e0
      rw [e0] at hq
      exact z_sm_super hx hb hml hlt hown hts hG hs0 hRf4 hRl64 hq hY hd hs
    · exact hs.elim
  | invokevirtual i =>
    unfold z_req at hq
    unfold z_step at hs
    dsimp only at hq hs
    split at hs
    · rename_i ci x0 tl0 e0
      rw [e0] at hq
      obtain ⟨k, q1, q2, q3, q4, q5, q6, q7, q8⟩ := hq
      subst q1
      exact z_sm_virtual hx hb hml hown hts hG hRf hRl hC q2 (hJ _) q3 q4 q5 q6 q7 q8 hY (fun q0 r h' bc' bs' H' locs' cells' slots' lsA' ht hk h3 g => z_thr_ok hown hts hG hlocks hs0 hY hk h3 g _ [] htab (fun z hz => nomatch hz) hhl ht) hd hs
    · rename_i e0
      rw [e0] at hq
      exact z_sm_getClass hx hb hml hown hts hG hRf4 hRl64 hq hY hd hs
  | invokeinterface i n =>
    obtain ⟨x, q1, q2, q3⟩ := hq
    refine z_sm_interface hx hb hml hown hts hG hRf hRl hC q1 q2 (fun q hqq => ?_) hY hd hs
    obtain ⟨k, e1, e2, e3, e4, e5, e6⟩ := q3 q hqq
    exact ⟨k, e1, e2, hJ _, e3, e4, e5, e6⟩
  | _ => exact (show False from hs).elim
end ZDisp
