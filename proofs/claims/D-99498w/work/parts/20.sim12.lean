/-! THE PURE MACHINE AGAINST THE JVM, 13: what the tables say of an instruction; every instruction; the method -/
set_option maxRecDepth 100000
/-- how long an instruction is -/
def z_ln : Instr → Nat
  | .bipush _ | .iload _ | .lload _ | .aload _ | .istore _ | .lstore _ | .astore _ | .ldc _ | .newarray _ => 2
  | .sipush _ | .iinc _ _ | .goto _ | .ifCond _ _ | .if_icmp _ _ | .if_acmp _ _ | .ifnull _ | .ifnonnull _ | .getfield _ | .putfield _ | .getstatic _ | .ldc_w _ | .ldc2_w _ | .new _ | .anewarray _ | .checkcast _ | .invokestatic _ | .invokespecial _ | .invokevirtual _ => 3
  | .multianewarray _ _ => 4
  | .invokeinterface _ _ => 5
  | _ => 1
def z_dec (cc : ByteArray) (pc : Nat) (ins : Instr) : Prop := match ins with
  | .tableswitch d lo hi offs => ∃ len, decode cc pc = .ok (.tableswitch d lo hi offs, len)
  | .lookupswitch d ps => ∃ len, decode cc pc = .ok (.lookupswitch d ps, len)
  | ins => decode cc pc = .ok (ins, z_ln ins)
/-- what is to be counted of an instruction -/
def z_bok (nL pc : Nat) (ins : Instr) (o : z_O) : Bool := match ins with
  | .istore_n k | .astore_n k => decide (k.val < nL)
  | .istore k | .astore k => decide (k < nL)
  | .lstore_n k => decide (k.val + 1 < nL)
  | .lstore k => decide (k + 1 < nL)
  | .goto off | .ifCond _ off | .if_icmp _ off | .if_acmp _ off | .ifnull off | .ifnonnull off => decide ((pc : Int) + off = (o.1 : Int))
  | .tableswitch df lo hi offs => decide ((pc : Int) + df = (o.1 : Int)) && decide (-2147483648 ≤ lo) && decide (lo + o.2.2.2.length ≤ 2147483647) && decide (hi + 1 = lo + o.2.2.2.length) && decide (o.2.2.2.length = offs.size) && (List.range o.2.2.2.length).all (fun i => match o.2.2.2[i]?, offs[i]? with
    | some (k, t), some off => decide (k = lo + i) && decide ((pc : Int) + off = (t : Int))
    | _, _ => false)
  | .lookupswitch df ps => decide ((pc : Int) + df = (o.1 : Int)) && (ps.toList.zip (ps.toList.drop 1)).all (fun (a, next) => a.1 < next.1) && decide (o.2.2.2.length = ps.toList.length) && (List.range o.2.2.2.length).all (fun i => match o.2.2.2[i]?, ps.toList[i]? with
    | some (k, t), some q => decide (q.1 = k) && decide ((pc : Int) + q.2 = (t : Int)) && decide (-2147483648 ≤ k) && decide (k ≤ 2147483647)
    | _, _ => false)
  | .getfield _ | .putfield _ => decide (z_kd o.1 o.2.1 = o.2.2.1)
  | .newarray a => decide (100 ≤ o.1) && decide (o.1 ≤ 103) && decide (newarray.typeOf a = z_aty o.1)
  | .multianewarray _ d => decide (d = 2)
  | _ => true
def z_rF (own : String) (i ci k : Nat) : Prop := ∃ ref, (Cond.fieldLink own i ref (z_T ci k).2.1 (z_T ci k).2.2.1 ∈ lw_all ∨ ∃ host, Cond.fieldLinkNest own i ref (z_T ci k).2.1 (z_T ci k).2.2.1 host ∈ z_nw) ∧ (ref = (z_T ci k).1 ∨ Cond.sameField ref (z_T ci k).1 (z_T ci k).2.1 (z_T ci k).2.2.1 ∈ lw_all)
def z_rP (own nm : String) (i ci k : Nat) : Prop := ((z_T ci k).2.2.2 = false ∧ z_rF own i ci k) ∨ ((z_T ci k).2.2.2 = true ∧ nm = "<init>" ∧ (z_T ci k).1 = own ∧ Cond.fieldLink own i (z_T ci k).1 (z_T ci k).2.1 (z_T ci k).2.2.1 ∈ lw_all)
def z_rM (own : String) (i : Nat) (y : MethodName) : Prop := Cond.methodLink own i y ∈ lw_all ∨ ∃ host, Cond.methodLinkNest own i y host ∈ z_nw
def z_req (M : Nat → z_M) (own nm : String) (ins : Instr) (o : z_O) : Prop := match ins with
  | .getfield i => z_rF own i o.1 o.2.1
  | .putfield i => z_rP own nm i o.1 o.2.1
  | .getstatic i => ∃ C n d ref : String, (C, n, d, z_gsv o.1 o.2.1) ∈ z_sfl ∧ Cond.fieldLink own i ref n d ∈ lw_all ∧ (ref = C ∨ Cond.sameField ref C n d ∈ lw_all)
  | .ldc i => (match o.1 with
    | 0 => Cond.constant own i (Int32.ofNat o.2.1) ∈ lw_all
    | 1 => own = "TollsForLate$Tokens" ∧ i = 53 ∧ o.2.1 = 32
    | _ => Cond.classLink own i "[Ljava/lang/Object;" ∈ lw_all ∧ o.2.1 = 0)
  | .ldc_w i => Cond.constant own i (Int32.ofNat o.2.1) ∈ lw_all
  | .ldc2_w i => ∀ q ∈ o.2.2.2, Cond.constantLong own i (Int64.ofInt q.1) ∈ lw_all
  | .new i => Cond.classLink own i (z_R o.1) ∈ lw_all
  | .newarray a => Cond.arrayClass (newarray.typeOf a) ∈ lw_all
  | .anewarray i => (o.1 = 104 ∧ Cond.classLink own i "java/lang/Object" ∈ lw_all) ∨ (o.1 = 105 ∧ Cond.classLink own i "TollsForLate$Sum" ∈ lw_all) ∨ (o.1 = 106 ∧ Cond.classLink own i "TollsForLate$Text" ∈ lw_all)
  | .multianewarray i _ => Cond.classLink own i "[[I" ∈ lw_all ∧ Cond.arrayClass .int ∈ lw_all
  | .checkcast i => ∃ nm, Cond.classLink own i nm ∈ lw_all ∧ ∀ q ∈ o.2.2.2, ∃ k : Nat, q.1 = (k : Int) ∧ k < 20 ∧ (Cond.castable (z_R k) nm ∈ z_nw ∨ z_R k = nm)
  | .invokestatic i => (match o.2.1 with
    | 0 => (M o.1).2.2.2.2.1 = [] ∧ (M o.1).2.2.2.2.2.2 = o.2.2.1 ∧ z_rM own i (M o.1).1 ∧ Cond.static (M o.1).1 ∈ lw_all
    | 1 => Cond.methodLink own i arraycopyName ∈ lw_all
    | 2 => Cond.methodLink own i arraycopyName ∈ lw_all
    | 3 => Cond.methodLink own i Lib.Math.max.name ∈ lw_all
    | 4 => Cond.methodLink own i Lib.Math.min.name ∈ lw_all
    | 5 => Cond.methodLink own i Lib.MathLoose.max_long.x ∈ lw_all
    | _ => Cond.methodLink own i Lib.MathLoose.min_long.x ∈ lw_all)
  | .invokespecial i => (match o.2.1 with
    | 0 => (M o.1).2.2.2.2.1 = [] ∧ (M o.1).2.2.2.1 = none ∧ (M o.1).1.name = "<init>" ∧ (M o.1).2.2.2.2.2.2 = o.2.2.1 ∧ z_rM own i (M o.1).1 ∧ Cond.instanceMethod (M o.1).1 ∈ lw_all
    | 1 => Cond.methodLink own i Lib.objectInit ∈ lw_all
    | _ => Cond.methodLink own i (Bundle.init0 "java/lang/Exception") ∈ lw_all)
  | .invokevirtual i => (match o.2.2.2 with
    | [] => Cond.methodLink own i ⟨"java/lang/Object", "getClass", "()Ljava/lang/Class;"⟩ ∈ lw_all
    | (ci, _) :: _ => ∃ k : Nat, ci = (k : Int) ∧ k < 21 ∧ (M o.1).1.cls = z_R k ∧ (M o.1).2.2.2.2.2.2 = o.2.2.1 ∧ Cond.methodLink own i (M o.1).1 ∈ lw_all ∧ Cond.instanceMethod (M o.1).1 ∈ lw_all ∧ Cond.selects (z_R k) (M o.1).1 (M o.1).1 ∈ lw_all ∧ Cond.initialized (z_R k) ∈ lw_all)
  | .invokeinterface i _ => ∃ x : MethodName, Cond.methodLink own i x ∈ lw_all ∧ (x.cls ≠ "java/lang/invoke/MethodHandle" ∧ x.cls ≠ "java/lang/invoke/VarHandle" ∧ (parseMethodDescriptor x.desc).map (fun d => d.parameters.length) = some o.2.2.1) ∧
      ∀ q ∈ o.2.2.2, ∃ k : Nat, q.1 = (k : Int) ∧ k < 20 ∧ (M q.2).2.2.2.2.1 = [] ∧ (z_R k, x, (M q.2).1) ∈ z_fw ∧ Cond.selects (z_R k) x (M q.2).1 ∈ lw_all ∧ Cond.instanceMethod (M q.2).1 ∈ lw_all
  | _ => True
/-- what the tables say of a method's instructions -/
def z_okT (M : Nat → z_M) (mi : z_M) : Prop := ∀ pc ins o, z_at mi.2.2.2.2.2.1 pc = some (ins, o) → z_dec mi.2.1 pc ins ∧ z_bok mi.2.2.1 pc ins o = true ∧ z_req M mi.1.cls mi.1.name ins o
def z_okM (M : Nat → z_M) (mi : z_M) : Prop := z_okJ mi ∧ z_okT M mi ∧ ∀ q ∈ mi.2.2.2.2.1, q.2.2.2 ≠ 0 → Cond.classLink mi.1.cls q.2.2.2 "TollsForLate$Wrong" ∈ lw_all
section ZAll
variable {E : z_E} {p : Program} {l : Launch} {e : Env} {R : Room} {s : State} {m : MethodId} {args : Array Value} {below : List Frame} {meth : Method} {c : Code} {nL : Nat} {QQ : State → Prop} {cc : ByteArray}
variable {C : z_K} {mi : z_M} {Qz : z_Q} {QX : z_X} {Y : z_C} {pc : Nat} {o : z_O} {ls : z_L} {st : List Value} {h : z_H} {bc bs : Nat} {M : Nat → z_M} {d : Nat}
theorem z_use_F {own : String} {i ci k : Nat} (hts : ∀ w ∈ lw_all, w.before args s = true) (hB : z_BW s) (h : z_rF own i ci k) : z_okF s args own i ci k := by
  obtain ⟨ref, h1, h2⟩ := h
  refine ⟨ref, ?_, ?_⟩
  · rcases h1 with h1 | ⟨host, h1⟩
    · exact Or.inl (hts _ h1)
    · exact Or.inr ⟨host, va_any rfl (hB _ h1)⟩
  · intro x hx
    rcases h2 with rfl | h2
    · exact hx
    · exact u_same (hts _ h2) x hx
theorem z_use_P {own nm : String} {i ci k : Nat} (hts : ∀ w ∈ lw_all, w.before args s = true) (hB : z_BW s) (hnm : meth.name = nm) (h : z_rP own nm i ci k) : z_okP s args meth own i ci k := by
  rcases h with ⟨h1, h2⟩ | ⟨h1, h2, h3, h4⟩
  · exact Or.inl ⟨h1, z_use_F hts hB h2⟩
  · exact Or.inr ⟨h1, hnm.trans h2, h3, hts _ h4⟩
/-- what is thrown at a place goes to its handler, or to the caller -/
theorem z_thr_ok {own : String} (hown : s.vm.findClass own = some m.cls) (hts : ∀ w ∈ lw_all, w.before args s = true) (hG : z_G E s) (hlocks : meth.locks = false) (hs0 : ∀ q : Nat, q < E.2.2.1.size → s.heap[q]? = E.2.2.1[q]?) (hY : ∀ pc ls st h bc bs, Y pc ls st h bc bs → z_Sim E p l e R s m args below meth c nL (z_MQ below E Qz QX args s R.cells R.slots) pc ls st h bc bs)
    {q0 : Nat} {h' : z_H} {r : List Value} {H' : Heap} {locs' : List Loc} {cells' slots' bc' bs' : Nat} {lsA' : Array Slot} (hk : z_k h' q0 = 5) (h3 : 317 ≤ q0) (g : z_Gd E s R nL ls h' bc' bs' H' locs' cells' slots' lsA') :
    ∀ (hh : List (Nat × Nat × Nat × Nat)) (pre : List ExceptionTableEntry), c.exceptionTable.toList = pre ++ tableOf hh → (∀ z ∈ pre, covers z pc = false) → (∀ q ∈ hh, q.2.2.2 ≠ 0 → Cond.classLink own q.2.2.2 "TollsForLate$Wrong" ∈ lw_all) → z_thr QX (fun hp q h' => Y hp ls [.ref q] h' bc' bs') pc hh q0 h' →
      vx_W p l e R s m args below meth c H' locs' cells' slots' (z_MQ below E Qz QX args s R.cells R.slots) (F0 m pc lsA' (r.map (z_v E))) (z_f E q0)
  | [], pre, htab, hpre, _, ht => by
    refine z_out (fun x hx => ?_) hlocks hs0 g ht hk h3
    rw [htab, show tableOf [] = [] from rfl, List.append_nil] at hx
    exact hpre x hx
  | (a, b, hp, t) :: hh, pre, htab, hpre, hl, ht => by
    have hcv : covers (⟨a, b, hp, t⟩ : ExceptionTableEntry) pc = true ↔ a ≤ pc ∧ pc < b := by simp [covers]
    unfold z_thr at ht
    by_cases hc : a ≤ pc ∧ pc < b
    · rw [if_pos hc] at ht
      obtain ⟨h0, h1⟩ := ht
      have hlt2 : q0 < h'.1 := z_lt_of_kind g.1 (by omega)
      obtain ⟨d1, d2⟩ := g.1.2.2.2.1 q0 h3 hlt2
      unfold z_cell at d2
      rw [hk, if_pos (by omega)] at d2
      obtain ⟨rr, w1, cell, q1, q2, q3, q4⟩ := d2
      have hr : rr = (z_R 5, z_T 5, z_N 5) := Option.some.inj (w1.symm.trans (z_cl_at 5 (by omega)))
      subst hr
      have q2' : cell.cls = E.2.2.2.1.1 5 := q2
      have hfc : s.vm.findClass "TollsForLate$Wrong" = some cell.cls := by rw [q2']; exact (hG.1.1 5 _ (z_cl_at 5 (by omega))).2.1
      have h2 := hY _ _ _ _ _ _ h1 H' locs' cells' slots' lsA' g
      exact vx_catch hown pre ⟨a, b, hp, t⟩ (tableOf hh) htab (fun z hz => Or.inl (hpre z hz)) (hcv.mpr hc) h0 (hts _ (hl _ List.mem_cons_self h0)) (va_any rfl (hG.2.2.2.1 _ nw_q461)) q1 q3 hfc h2
    · rw [if_neg hc] at ht
      refine z_thr_ok hown hts hG hlocks hs0 hY hk h3 g hh (pre ++ [⟨a, b, hp, t⟩]) (by rw [htab]; simp [tableOf]) (fun z hz => ?_) (fun q hq => hl q (List.mem_cons_of_mem _ hq)) ht
      rcases List.mem_append.mp hz with z1 | z1
      · exact hpre z z1
      · rw [List.mem_singleton.mp z1]
        cases hv : covers (⟨a, b, hp, t⟩ : ExceptionTableEntry) pc
        · rfl
        · exact absurd (hcv.mp hv) hc
end ZAll
