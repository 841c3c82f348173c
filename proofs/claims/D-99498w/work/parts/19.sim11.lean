/-! THE PURE MACHINE AGAINST THE JVM, 12: constructors of the JDK's own classes (z_sm_super follows vx_ctorMade0 of kit/laws/EXCEPTIONS.to-paste), getClass -/
set_option maxRecDepth 100000
section ZSup
variable {E : z_E} {p : Program} {l : Launch} {e : Env} {R : Room} {s : State} {m : MethodId} {args : Array Value} {below : List Frame} {meth : Method} {c : Code} {nL : Nat} {QQ : State → Prop} {cc : ByteArray}
variable {C : z_K} {mi : z_M} {Qz : z_Q} {QX : z_X} {Y : z_C} {pc : Nat} {o : z_O} {ls : z_L} {st : List Value} {h : z_H} {bc bs : Nat}
theorem z_exL {s : State} (hG : z_G E s) (hs0 : ∀ q : Nat, q < E.2.2.1.size → s.heap[q]? = E.2.2.1[q]?) : vx_Zq Bundle.tN "UNASSIGNED_STACK" Bundle.steD (fun x => E.2.2.1.size ≤ x) s s.heap ∧ vx_Zq Bundle.tN "SUPPRESSED_SENTINEL" Bundle.listD (fun x => E.2.2.1.size ≤ x) s s.heap :=
  ⟨vx_Zq.kept hG.2.2.2.2.2.2.2.2.2.1 (fun a h1 _ => hs0 a h1), vx_Zq.kept hG.2.2.2.2.2.2.2.2.2.2.1 (fun a h1 _ => hs0 a h1)⟩
theorem z_exT (hts : ∀ w ∈ lw_all, w.before args s = true) (hG : z_G E s) (hs0 : ∀ q : Nat, q < E.2.2.1.size → s.heap[q]? = E.2.2.1[q]?) : ∀ w ∈ Bundle.throwableAtoms, w.before args s = true := by
  obtain ⟨hU, hN⟩ := z_exL hG hs0
  refine vx_own (L := Bundle.throwableAtoms) (fun w hw => ?_) (vx_isRefq hU.1) (vx_isRefq hN.1) hU.2.word hN.2.word
  obtain ⟨hw, hn⟩ := List.mem_filter.mp hw
  unfold Bundle.throwableAtoms at hw
  rcases List.mem_cons.mp hw with rfl | hw; · exact hts _ q136
  rcases List.mem_cons.mp hw with rfl | hw; · exact hts _ q479
  rcases List.mem_cons.mp hw with rfl | hw; · exact hts _ q488
  rcases List.mem_cons.mp hw with rfl | hw; · exact hts _ q490
  rcases List.mem_cons.mp hw with rfl | hw; · exact hts _ q493
  rcases List.mem_cons.mp hw with rfl | hw; · exact hts _ q495
  rcases List.mem_cons.mp hw with rfl | hw; · exact hts _ q480
  rcases List.mem_cons.mp hw with rfl | hw; · exact hts _ q481
  rcases List.mem_cons.mp hw with rfl | hw; · exact hts _ q163
  rcases List.mem_cons.mp hw with rfl | hw; · exact hts _ q164
  rcases List.mem_cons.mp hw with rfl | hw; · exact hts _ q482
  rcases List.mem_cons.mp hw with rfl | hw; · exact hts _ q487
  rcases List.mem_cons.mp hw with rfl | hw; · exact hts _ q491
  rcases List.mem_cons.mp hw with rfl | hw; · exact hts _ q508
  rcases List.mem_cons.mp hw with rfl | hw; · exact hts _ q469
  rcases List.mem_cons.mp hw with rfl | hw; · exact hts _ q509
  rcases List.mem_cons.mp hw with rfl | hw; · exact hts _ q471
  rcases List.mem_cons.mp hw with rfl | hw; · exact hts _ q510
  rcases List.mem_cons.mp hw with rfl | hw; · exact hts _ q473
  rcases List.mem_cons.mp hw with rfl | hw; · exact hts _ q483
  rcases List.mem_cons.mp hw with rfl | hw; · exact hU.2.word
  rcases List.mem_cons.mp hw with rfl | hw; · exact hts _ q485
  rcases List.mem_cons.mp hw with rfl | hw; · exact hN.2.word
  rcases List.mem_cons.mp hw with rfl | hw; · exact hts _ q475
  cases hw
theorem z_exC (hts : ∀ w ∈ lw_all, w.before args s = true) (hG : z_G E s) : ∀ w ∈ Bundle.chain0Atoms "java/lang/Exception" [], w.before args s = true := by
  intro w hw
  unfold Bundle.chain0Atoms Bundle.passAtoms at hw
  rcases List.mem_cons.mp hw with rfl | hw; · exact hts _ q500
  rcases List.mem_cons.mp hw with rfl | hw; · exact hts _ q501
  rcases List.mem_cons.mp hw with rfl | hw; · exact hts _ q502
  rcases List.mem_cons.mp hw with rfl | hw; · exact hts _ q480
  rcases List.mem_cons.mp hw with rfl | hw; · exact va_any rfl hG.2.2.2.2.2.2.2.2.2.2.2.2.1
  cases hw
theorem z_keep {cell : Cell} {i j : Nat} {v w : Value} (h : cell.slots[i]? = some v) (hne : j ≠ i) : (cell.setSlot j w).slots[i]? = some v := by
  show (cell.slots.setIfInBounds j w)[i]? = some v
  rw [Array.getElem?_setIfInBounds, if_neg hne]
  exact h
/-- Exception's own constructor, of the object that is being made -/
theorem z_sm_super {index : Nat} (hx : p.tables.exec = Jvm.exec) (hb : c.code = cc) (hml : c.maxLocals = nL) (hlt : l.stackTraces = false) {own : String} (hown : s.vm.findClass own = some m.cls) (hts : ∀ w ∈ lw_all, w.before args s = true) (hG : z_G E s) (hs0 : ∀ q : Nat, q < E.2.2.1.size → s.heap[q]? = E.2.2.1[q]?) (hRf : 4 ≤ R.frames) (hRl : 64 ≤ R.locals)
    (hl : Cond.methodLink own index (Bundle.init0 "java/lang/Exception") ∈ lw_all) (hY : ∀ pc ls st h bc bs, Y pc ls st h bc bs → z_Sim E p l e R s m args below meth c nL QQ pc ls st h bc bs) (hd : decode cc pc = .ok (.invokespecial index, 3))
    (hs : z_r1 st fun a r => z_k h a = 5 ∧ 317 ≤ a ∧ z_wt r ≤ 8 ∧ z_P h a 2 = none ∧ Y (pc + 3) ls r h bc bs) : z_Sim E p l e R s m args below meth c nL QQ pc ls st h bc bs := by
  obtain ⟨a, r, rfl, hk, ha, hwt, hP2, h1⟩ := z_r1_e hs
  intro H locs cells slots lsA g T hT X
  subst hT
  have htr : e.platform.stackTraces = false := (show e.platform.stackTraces = l.stackTraces by rw [X.admits.platform]).trans hlt
  have howns : e.platform.frameOwnsMonitors = true := by rw [X.admits.platform]
  have hfin : e.platform.finalization = false := by rw [X.admits.platform]
  have hpl : e.platform.magicAccessors = ({} : Platform).magicAccessors := by rw [X.admits.platform]
  obtain ⟨Th, Z, L, LZ, Yt⟩ := ThrowableC.of_atoms (args := args) howns hfin hpl (z_exT hts hG hs0)
  obtain ⟨P1, Ps, hlen, L1, hL, hP1m, hlink1, hlink⟩ := Bundle.chain0 (args := args) hpl Yt.init0 [] "java/lang/Exception" (by decide +kernel) (fun n hn => nomatch hn) (z_exC hts hG)
  have hKn := hG.1.1 5 _ (z_cl_at 5 (by omega))
  obtain ⟨hSl, hfc, kC, hkC, hkind⟩ := hKn
  have hlt2 : a < h.1 := z_lt_of_kind g.1 (by omega)
  obtain ⟨d1, d2⟩ := g.1.2.2.2.1 a ha hlt2
  unfold z_cell at d2
  rw [hk, if_pos (by omega)] at d2
  obtain ⟨rr, w1, cell, q1, q2, q3, q4⟩ := d2
  have hr : rr = (z_R 5, z_T 5, z_N 5) := Option.some.inj (w1.symm.trans (z_cl_at 5 (by omega)))
  subst hr
  obtain ⟨c9, m1, m2, m3, m4⟩ := g.1.1.2 a ha hlt2 hk
  have e9 : c9 = cell := Option.some.inj (m1.symm.trans q1)
  subst e9
  have q2' : c9.cls = E.2.2.2.1.1 5 := q2
  have q4' : ∀ k, k < 3 → c9.slots[E.2.2.2.1.2 5 k]? = some (vp_V ((List.range 3).map fun k => z_v E (z_fv (z_kd 5 k) h a k)) k) := q4
  have hfc' : s.vm.findClass "TollsForLate$Wrong" = some (E.2.2.2.1.1 5) := hfc
  have hsel0 : selectMethod e.platform s.vm c9.cls Th.fill0 = .method Th.fill0 := by
    obtain ⟨c2, r2, m2, z1, z2, z3, z4, -⟩ := Cond.selects_spec (hts _ q466)
    cases Option.some.inj (z1.symm.trans hfc')
    cases Option.some.inj (z2.symm.trans (State.methodFound?_of_named Yt.fill0 (by decide)))
    cases Option.some.inj (z3.symm.trans Yt.fill0)
    rw [Launch.admits_selectMethod X.admits, q2']; exact z4
  have hselF : selectMethod e.platform s.vm c9.cls Th.fill = .method Th.fill := by
    obtain ⟨c2, r2, m2, z1, z2, z3, z4, -⟩ := Cond.selects_spec (hts _ q467)
    cases Option.some.inj (z1.symm.trans hfc')
    cases Option.some.inj (z2.symm.trans (State.methodFound?_of_named Yt.fill (by decide)))
    cases Option.some.inj (z3.symm.trans Yt.fill)
    rw [Launch.admits_selectMethod X.admits, q2']; exact z4
  obtain ⟨hU, hN⟩ := z_exL hG hs0
  obtain ⟨cellS, hcS0, hiss⟩ := Yt.statics
  obtain ⟨u0, hu0⟩ := Cond.staticRefV Yt.unassigned L.unassignedStatic L.statics hcS0 hiss (vx_isRefq (args := args) hU.1)
  obtain ⟨sen, hsen⟩ := Cond.staticRefV Yt.sentinel L.sentinelStatic L.statics hcS0 hiss (vx_isRefq (args := args) hN.1)
  have haS : Th.aS < E.2.2.1.size := by
    obtain ⟨c8, k8, i8, f8, a8, cell8, z1, z2, z3, z4, z5, z6, z7, z8, z9, z10⟩ := hU.2
    have e1 := Option.some.inj (z2.symm.trans Yt.unassigned)
    simp only [Prod.mk.injEq] at e1
    have e2 : a8 = Th.aS := by
      have e3 := z4
      rw [e1.2.1] at e3
      exact Option.some.inj (e3.symm.trans L.statics)
    rw [← e2]
    exact Nat.not_le.mp z10
  have hcellS : T.heap[Th.aS]? = some cellS := by rw [g.1.2.2.1 _ haS, ← hs0 _ haS]; exact hcS0
  have hknownS : cellS.vm ≠ .unknown := by
    intro hu
    rw [hu] at hiss
    cases hiss
  have hneS : Th.aS ≠ z_f E a := by
    rw [z_f_dyn ha]
    exact Nat.ne_of_lt (Nat.lt_of_lt_of_le haS (Nat.le_add_right _ _))
  obtain ⟨ci198, i198, fB, hk198, hg198, ha198, hsB, -, hnB, htB, hffB⟩ := Cond.ownField (t := .object "java/lang/Object") Yt.found L.cls (by decide +kernel) (hts _ q478) (hts _ q477) e.platform hpl
  obtain ⟨tyC, dC, hdC, hdnC⟩ := Cond.laysAt hfc' hkC Yt.cause (hts _ q468)
  obtain ⟨tyS, dS, hdS, hdnS⟩ := Cond.laysAt hfc' hkC Yt.stack (hts _ q470)
  obtain ⟨tyP, dP, hdP, hdnP⟩ := Cond.laysAt hfc' hkC Yt.supp (hts _ q472)
  obtain ⟨c6, k6, i1, i2, -, -, -, i6⟩ := Cond.instantiable_spec (hts _ q460)
  have e6 : c6 = E.2.2.2.1.1 5 := Option.some.inj (i1.symm.trans hfc')
  subst e6
  have e7 : k6 = kC := Option.some.inj (i2.symm.trans hkC)
  subst e7
  have take : ∀ (f : Field) (v : Value), k6.instanceTypes[f.slot]? = some f.type → fits f.type v = true → Takes s c9 f v := by
    intro f v t1 t2
    refine ⟨?_, ?_⟩
    · have := (Array.getElem?_eq_some_iff.mp t1).1
      rw [m4, ← i6]; exact this
    · rw [q2', q3]
      exact fresh_fits (s := s) (U := s) (Vm.Alike.refl _) hkC hkind t1 t2
  -- the fields that stay
  have apart : ∀ k, k < 3 → E.2.2.2.1.2 5 k ≠ Th.fCause.slot ∧ E.2.2.2.1.2 5 k ≠ Th.fStack.slot ∧ E.2.2.2.1.2 5 k ≠ Th.fSupp.slot := by
    intro k hk3
    obtain ⟨cf, kf, fi, f, hi, hsl⟩ := hSl k hk3
    have hly := u_lays hts (z_cfs 5 (by omega)).1 hk3
    have hnm : f.name = (z_TW k).2.1 := (State.fieldFound?_type hi ((z_cfs 5 (by omega)).2.1 k hk3)).1
    have hnn : (z_TW k).2.1 ≠ "cause" ∧ (z_TW k).2.1 ≠ "stackTrace" ∧ (z_TW k).2.1 ≠ "suppressedExceptions" := by
      rcases (show k = 0 ∨ k = 1 ∨ k = 2 by omega) with rfl | rfl | rfl <;> decide
    rw [← hsl]
    refine ⟨?_, ?_, ?_⟩
    · exact u_apart hly (Or.inl (hts _ q468)) hi Yt.cause (by rw [hnm, Yt.causeName]; exact hnn.1)
    · exact u_apart hly (Or.inl (hts _ q470)) hi Yt.stack (by rw [hnm, Yt.stackName]; exact hnn.2.1)
    · exact u_apart hly (Or.inl (hts _ q472)) hi Yt.supp (by rw [hnm, Yt.suppName]; exact hnn.2.2)
  have kept : ∀ k, k < 3 → ((((c9.setSlot Th.fCause.slot (.ref (z_f E a))).setSlot Th.fStack.slot u0.v).setSlot Th.fSupp.slot sen.v)).slots[E.2.2.2.1.2 5 k]? = some (vp_V ((List.range 3).map fun k => z_v E (z_fv (z_kd 5 k) h a k)) k) := by
    intro k hk3
    obtain ⟨n1, n2, n3⟩ := apart k hk3
    exact z_keep (z_keep (z_keep (q4' k hk3) n1.symm) n2.symm) n3.symm
  have hBslot : fB.slot = E.2.2.2.1.2 5 2 := by
    obtain ⟨cf, kf, fi, f, hi, hsl⟩ := hSl 2 (by omega : (2 : Nat) < 3)
    have hi' : s.fieldFound? Bundle.tN "backtrace" "Ljava/lang/Object;" = some (cf, kf, fi, f) := hi
    have e1 := Option.some.inj (hi'.symm.trans hffB)
    simp only [Prod.mk.injEq] at e1
    rw [← hsl, e1.2.2.2]
  have hskip : SkipFacts Th e.platform s (fun u => u) u0 ((preparedCellV Th.toThrowableT c9 (z_f E a) u0 sen).withEntry T.cur) :=
    ⟨{ ci198 := ci198, i198 := i198, fBack := fB }, ⟨hk198, hg198, ha198, hsB⟩, by
      have k2 := kept 2 (by omega)
      show ((((c9.setSlot Th.fCause.slot (.ref (z_f E a))).setSlot Th.fStack.slot u0.v).setSlot Th.fSupp.slot sen.v)).slots[fB.slot]? = some .null
      rw [hBslot, k2]
      show some (z_v E (va_rf (z_P h a 2))) = some .null
      rw [hP2]
      rfl, fun _ _ => rfl⟩
  have hsz : lsA.size = c.maxLocals := by rw [hml]; exact g.2.2.2.1.1
  obtain ⟨tm, methC, cdC, kC', vm₁, hnC, -, -, -, -, -, -, -, hW₁, st1⟩ := Steps.initCold (tb := p.tables) (e := e) (below := below) (s := s) (U := T) X.here hx X.warmed hpl hown (t := Bundle.init0 "java/lang/Exception") rfl rfl (Bundle.fit_spec (n := "java/lang/Exception") (by decide +kernel)).2
    (hts _ hl) (hts _ q500) (bytes := Bundle.five) (maxL := 1) (hts _ q501)
    (f := F0 m pc lsA ((.ref a :: r).map (z_v E))) rfl (a := z_f E a) (rest := r.map (z_v E)) rfl (by rw [hb]; exact hd)
  cases Option.some.inj (hnC.symm.trans hP1m)
  have X₁ := X.noted hW₁
  obtain ⟨vm₂, X₂, st2⟩ := X₁.ctorPlainOffV hx (g := F0 m pc lsA (r.map (z_v E))) rfl hsz Th L Z LZ (P1 :: Ps)
    (fun P hP => by rcases List.mem_cons.mp hP with rfl | hP; exact L1; exact hL P hP) ⟨hlink1, hlink⟩ (u0 := u0) (sen := sen) (self := z_f E a) (cell := c9) (cellS := cellS)
    q1 (fun _ => by rw [q3]; simp) (by rw [q3]; simp) m2 m3 hsel0 hselF hcellS hneS hknownS hu0 hsen
    (take _ _ tyC (by rw [Yt.causeType]; rfl)) (take _ _ tyS (by rw [Yt.stackType]; exact fits_refV_array _ u0)) (take _ _ tyP (by rw [Yt.suppType]; exact fits_refV_object _ sen)) Yt.objLocals hskip htr [] (by rw [hb]; exact hd)
    (by simp only [List.length_cons, hlen, List.length_nil]; omega) (by
      simp only [List.length_cons, hlen, List.length_nil]
      have := z_wt_v (E := E) hG.2.1 r
      show 2 * 0 + ((r.map (z_v E)).map fun v => v.category).sum + _ ≤ _
      rw [this]
      omega)
  have hlt' : z_f E a < ((T.setVm vm₁).setVm vm₂).heap.size := (Array.getElem?_eq_some_iff.mp q1).1
  generalize hce : ((preparedCellV Th.toThrowableT c9 (z_f E a) u0 sen).setSlot Th.fStack.slot u0.v) = ce at X₂ st2
  have hce1 : ce.cls = E.2.2.2.1.1 5 := by rw [← hce]; exact q2'
  have hce2 : ce.vm = .none := by rw [← hce]; exact q3
  have hce3 : ce.monitor.owner = none ∧ ce.monitor.count = 0 ∧ ce.slots.size = 8 := by
    rw [← hce]
    refine ⟨m2, m3, ?_⟩
    show ((((c9.slots.setIfInBounds _ _).setIfInBounds _ _).setIfInBounds _ _).setIfInBounds _ _).size = 8
    simp only [Array.size_setIfInBounds]
    exact m4
  have hce4 : ∀ k, k < 3 → ce.slots[E.2.2.2.1.2 5 k]? = some (vp_V ((List.range 3).map fun k => z_v E (z_fv (z_kd 5 k) h a k)) k) := by
    intro k hk3
    rw [← hce]
    exact z_keep (kept k hk3) (apart k hk3).2.1.symm
  have e1 : (((T.setVm vm₁).setVm vm₂).setCell (z_f E a) ce).heap[z_f E a]? = some ce := heapAt_setCell_self (s := (T.setVm vm₁).setVm vm₂) ce hlt'
  have e2 : (((T.setVm vm₁).setVm vm₂).setCell (z_f E a) ce).heap.size = T.heap.size := by
    show (T.heap.setIfInBounds _ _).size = _
    rw [Array.size_setIfInBounds]
  have e3 : ∀ q, q ≠ z_f E a → (((T.setVm vm₁).setVm vm₂).setCell (z_f E a) ce).heap[q]? = T.heap[q]? := by
    intro q hq
    show (T.heap.setIfInBounds _ _)[q]? = _
    rw [Array.getElem?_setIfInBounds, if_neg (fun z => hq z.symm)]
  have hat : va_at E.2.2.2.1 z_cl (z_f E a, z_cell E h a) (((T.setVm vm₁).setVm vm₂).setCell (z_f E a) ce).heap := by
    unfold z_cell
    rw [hk, if_pos (by omega)]
    exact ⟨_, z_cl_at 5 (by omega), ce, e1, hce1, hce2, hce4⟩
  have hR := g.1.upd (h' := h) ha rfl rfl (fun _ _ _ => rfl) (fun _ _ _ => rfl) (fun _ _ _ => rfl) e2 e3 hat (fun _ => ⟨ce, e1, hce3⟩)
  obtain ⟨t, a1, b1⟩ := hY _ _ _ _ _ _ h1 _ _ cells slots lsA ⟨hR, by rw [e2]; exact g.2.1, fun q hq => by
    rcases List.mem_append.mp hq with z | z
    · exact g.2.2.1 q z
    · have hq2 : q.base = z_f E a := by
        simp only [List.mem_cons, List.not_mem_nil, or_false] at z
        rcases z with rfl | rfl | rfl | rfl <;> rfl
      rw [hq2, z_f_dyn ha]
      exact Nat.le_add_right _ _, g.2.2.2⟩ _ rfl X₂
  refine ⟨t, st1 _ (fun acts => ?_), b1⟩
  rw [doInvoke_state]
  exact st2 _ a1
/-- Object's own -/
theorem z_sm_object {index : Nat} (hx : p.tables.exec = Jvm.exec) (hb : c.code = cc) (hml : c.maxLocals = nL) {own : String} (hown : s.vm.findClass own = some m.cls) (hts : ∀ w ∈ lw_all, w.before args s = true) (hG : z_G E s) (hRf : 4 ≤ R.frames) (hRl : 64 ≤ R.locals)
    (hl : Cond.methodLink own index Lib.objectInit ∈ lw_all) (hY : ∀ pc ls st h bc bs, Y pc ls st h bc bs → z_Sim E p l e R s m args below meth c nL QQ pc ls st h bc bs) (hd : decode cc pc = .ok (.invokespecial index, 3))
    (hs : z_r1 st fun _ r => z_wt r ≤ 8 ∧ Y (pc + 3) ls r h bc bs) : z_Sim E p l e R s m args below meth c nL QQ pc ls st h bc bs := by
  obtain ⟨a, r, rfl, hwt, h1⟩ := z_r1_e hs
  intro H locs cells slots lsA g
  have hsz : lsA.size = c.maxLocals := by rw [hml]; exact g.2.2.2.1.1
  refine W.objInit hx hb hown (hts _ hl) (hts _ q163) (hts _ q164) (g := F0 m pc lsA ((.ref a :: r).map (z_v E))) rfl hsz (a := z_f E a) (rest := r.map (z_v E)) rfl hd (by omega) ?_ (hY _ _ _ _ _ _ h1 H locs cells slots lsA g)
  show 2 * 0 + ((r.map (z_v E)).map fun v => v.category).sum + _ ≤ _
  rw [z_wt_v (E := E) hG.2.1 r]
  omega
/-- getClass of an array of objects -/
theorem z_sm_getClass {index : Nat} (hx : p.tables.exec = Jvm.exec) (hb : c.code = cc) (hml : c.maxLocals = nL) {own : String} (hown : s.vm.findClass own = some m.cls) (hts : ∀ w ∈ lw_all, w.before args s = true) (hG : z_G E s) (hRf : 4 ≤ R.frames) (hRl : 64 ≤ R.locals)
    (hl : Cond.methodLink own index ⟨"java/lang/Object", "getClass", "()Ljava/lang/Class;"⟩ ∈ lw_all) (hY : ∀ pc ls st h bc bs, Y pc ls st h bc bs → z_Sim E p l e R s m args below meth c nL QQ pc ls st h bc bs) (hd : decode cc pc = .ok (.invokevirtual index, 3))
    (hs : z_r1 st fun a r => 317 ≤ a ∧ z_wt r ≤ 8 ∧ z_k h a = 104 ∧ Y (pc + 3) ls (.float 0 :: r) h bc bs) : z_Sim E p l e R s m args below meth c nL QQ pc ls st h bc bs := by
  obtain ⟨a, r, rfl, ha, hwt, hk, h1⟩ := z_r1_e hs
  intro H locs cells slots lsA g
  obtain ⟨g1, g2, g3⟩ := z_dyn_cell (a := a) g.1 hG.1 ha (by omega) (by omega)
  obtain ⟨mi0, hM, hE⟩ := hG.2.2.2.2.2.2.1
  have hsz : c.maxLocals = lsA.size := by rw [hml]; exact g.2.2.2.1.1.symm
  have h2 := hY _ _ _ _ _ _ h1 H locs cells slots lsA g
  rw [List.map_cons] at h2
  have e0 : z_v E (.float 0) = .ref mi0 := hE
  rw [e0] at h2
  refine va_getC hx hb hsz hown (hts _ hl) (hG.2.2.2.2.2.2.2.2.2.2.2.2.2.use) (hts _ q2074) (hts _ q632) (hts _ q654) hM ?_ (by omega) ?_ hd h2
  · refine ⟨_, g1, rfl, ?_⟩
    rw [hk]
    exact va_nmO (C := "java/lang/Object") (hG.1.2 4 (E.2.2.2.2.1 4, .object "java/lang/Object") rfl).2 rfl
  · rw [z_wt_v (E := E) hG.2.1 r]
    omega
end ZSup
