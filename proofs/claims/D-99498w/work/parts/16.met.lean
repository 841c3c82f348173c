/-! THE PURE MACHINE AGAINST THE JVM, 9: contracts. z_back follows the proof of vx_back (kit/laws/EXCEPTIONS.to-paste), the thrown address kept -/
set_option maxRecDepth 100000
/-- static fields, string constants, the class of arrays of objects, interfaces' methods -/
def z_sfl : List (String × String × String × Value) := [("TollsForLate", "NOTHING", "LTollsForLate$Text;", .ref 1), ("TollsForLate$Tokens", "WORDS", "[Ljava/lang/String;", .ref 5), ("TollsForLate$Tokens", "NAMED", "[I", .ref 4), ("java/lang/Integer$IntegerCache", "high", "I", .int 127), ("java/lang/Integer$IntegerCache", "cache", "[Ljava/lang/Integer;", .ref 60), ("java/util/ArrayList", "DEFAULTCAPACITY_EMPTY_ELEMENTDATA", "[Ljava/lang/Object;", .ref 3), ("java/lang/String", "COMPACT_STRINGS", "Z", .int 1), ("jdk/internal/util/Preconditions", "SIOOBE_FORMATTER", "Ljava/util/function/BiFunction;", .float 1)]
def z_SF (E : z_E) (s : State) : Prop := ∀ q ∈ z_sfl, va_Z q.1 q.2.1 q.2.2.1 (z_v E q.2.2.2) (fun x => E.2.2.1.size ≤ x) s E.2.2.1
def z_KS (E : z_E) (s : State) : Prop := vk_R "TollsForLate$Tokens" 53 "<>=#+-*/();" (E.1 32) s
def z_MI (E : z_E) (s : State) : Prop := ∃ mi, va_Mi "[Ljava/lang/Object;" mi s ∧ E.2.1 0 = .ref mi
def z_xOf : MethodName := ⟨"TollsForLate$Sum", "of", "([I)J"⟩
def z_xIs : MethodName := ⟨"TollsForLate$Asked", "is", "([I)Z"⟩
def z_fw : List (String × MethodName × MethodName) := [(RX6, z_xOf, yX6_of), (RX7, z_xOf, yX7_of), (RX13, z_xOf, yX13_of), (RX14, z_xOf, yX14_of), (RX15, z_xOf, yX15_of), (RX16, z_xOf, yX16_of), (RX8, z_xIs, yX8_is), (RX9, z_xIs, yX9_is), (RX10, z_xIs, yX10_is), (RX11, z_xIs, yX11_is), (RX12, z_xIs, yX12_is)]
def z_FW (s : State) : Prop := ∀ q ∈ z_fw, va_Fw q.1 q.2.1 q.2.2 s
def z_AO (s : State) : Prop := va_AO "java/lang/Object" s ∧ va_AO "TollsForLate$Sum" s ∧ va_AO "TollsForLate$Text" s ∧ z_AOA s
/-- what a throw of the JDK's own classes asks -/
def z_EX (E : z_E) (s : State) : Prop := vx_Zq Bundle.tN "UNASSIGNED_STACK" Bundle.steD (fun x => E.2.2.1.size ≤ x) s E.2.2.1 ∧ vx_Zq Bundle.tN "SUPPRESSED_SENTINEL" Bundle.listD (fun x => E.2.2.1.size ≤ x) s E.2.2.1 ∧ (Cond.declares (⟨"java/lang/Exception", "<init>", "()V"⟩ : MethodName)).before #[] s = true ∧ (Cond.declares (⟨"java/lang/Throwable", "<init>", "()V"⟩ : MethodName)).before #[] s = true ∧ va_Dc s
def z_G (E : z_E) (s : State) : Prop := va_K E.2.2.2.1 z_cl (z_tys E) s ∧ z_om E ∧ z_HS E s ∧ z_BW s ∧ z_SF E s ∧ z_KS E s ∧ z_MI E s ∧ z_FW s ∧ z_AO s ∧ z_EX E s
theorem z_fw_ok : ∀ q ∈ z_fw, q.2.1.cls ≠ "java/lang/invoke/MethodHandle" ∧ q.2.1.cls ≠ "java/lang/invoke/VarHandle" := by
  intro q hq
  unfold z_fw at hq
  repeat' (rcases List.mem_cons.mp hq with rfl | hq; · exact ⟨by decide +kernel, by decide +kernel⟩)
  cases hq
theorem z_G.warm {E : z_E} {s U : State} (hW : s.WarmedH U.vm) (h : z_G E s) : z_G E U := by
  obtain ⟨h1, h2, h3, h4, h5, h6, ⟨mi, h7, h7'⟩, h8, ⟨a1, a2, a3, a4⟩, ⟨x1, x2, x3, x4, x5⟩⟩ := h
  refine ⟨va_K.moved hW.alike h1, h2, z_HS.moved hW.alike h3, z_BW.warm hW h4, fun q hq => va_Z.moved hW.alike (h5 q hq), vk_R.warm hW h6, ⟨mi, ?_, h7'⟩, fun q hq => va_Fw.moved (z_fw_ok q hq) hW.alike (h8 q hq), ⟨va_AO.moved hW.alike a1, va_AO.moved hW.alike a2, va_AO.moved hW.alike a3, z_AOA.moved hW.alike a4⟩, ⟨vx_Zq.moved hW.alike x1, vx_Zq.moved hW.alike x2, va_Nw.warmD hW x3, va_Nw.warmD hW x4, va_Dc.moved hW.alike x5⟩⟩
  first
    | exact va_Mi.moved hW.alike h7
    | exact va_Mi.warm hW h7
theorem z_G.same {E : z_E} {s U : State} (hW : s.vm = U.vm) (h : z_G E s) : z_G E U := by
  have ha : s.vm.Alike U.vm := by rw [hW]; exact Vm.Alike.refl U.vm
  obtain ⟨h1, h2, h3, h4, h5, h6, ⟨mi, h7, h7'⟩, h8, ⟨a1, a2, a3, a4⟩, ⟨x1, x2, x3, x4, x5⟩⟩ := h
  refine ⟨va_K.moved ha h1, h2, z_HS.moved ha h3, fun w hw => va_Nw.same ?_ hW (h4 w hw), fun q hq => va_Z.moved ha (h5 q hq), vk_R.same hW.symm h6, ⟨mi, ?_, h7'⟩, fun q hq => va_Fw.moved (z_fw_ok q hq) ha (h8 q hq), ⟨va_AO.moved ha a1, va_AO.moved ha a2, va_AO.moved ha a3, z_AOA.moved ha a4⟩, ⟨vx_Zq.moved ha x1, vx_Zq.moved ha x2, va_Nw.same rfl hW x3, va_Nw.same rfl hW x4, va_Dc.moved ha x5⟩⟩
  · have h1 := z_nw_k w hw
    unfold z_nwk at h1
    split at h1 <;> first | rfl | cases h1
  · first
      | exact va_Mi.moved ha h7
      | exact va_Mi.same hW h7
def z_A (E : z_E) : Nat → Prop := fun q => E.2.2.1.size ≤ q
def z_Pc (E : z_E) (as : List Value) (h : z_H) : Array Value → State → Prop := fun v U => v = (as.map (z_v E)).toArray ∧ z_Rep E h U.heap ∧ z_G E U
def z_Qc (E : z_E) (Q : z_Q) : Array Value → State → Outcome → State → Prop := fun _ st oc t => (∃ v h', oc = .returned (v.map (z_v E)) ∧ Q v h' ∧ z_Rep E h' t.heap) ∧ va_F (z_A E) st t
def z_Qt (E : z_E) (QX : z_X) (mc ms : Nat) : Array Value → State → Outcome → State → Prop := fun _ st o t => ∃ q h' L, o = .threw (z_f E q) ∧ QX q h' ∧ z_k h' q = 5 ∧ 317 ≤ q ∧ z_Rep E h' t.heap ∧ va_F (z_A E) st t ∧ st.WarmedH t.vm ∧ st.sameButNew ({ t with vm := st.vm } : State) L mc ms ∧ ∀ z ∈ L, z_A E z.base
def z_Qall (E : z_E) (Q : z_Q) (QX : z_X) (mc ms : Nat) : Array Value → State → Outcome → State → Prop := fun a st o t => (z_Qc E Q a st o t ∧ ∃ L, FrameEnd st o t L mc ms ∧ ∀ q ∈ L, z_A E q.base) ∨ z_Qt E QX mc ms a st o t
/-- the contract of a method for these values and this memory -/
def z_Met (E : z_E) (l : Launch) (y : MethodName) (ws : List Jvm.Cond) (rm : Room) (as : List Value) (h : z_H) (Q : z_Q) (QX : z_X) (mc ms : Nat) : Prop :=
  MetFree l y (headSpec ws rm) (z_Pc E as h) (fun _ _ _ _ _ => True) (z_Qall E Q QX mc ms)
theorem z_Met.pure {E : z_E} {l : Launch} {y : MethodName} {ws : List Jvm.Cond} {rm : Room} {as : List Value} {h : z_H} {Q : z_Q} {mc ms : Nat} (hM : z_Met E l y ws rm as h Q (fun _ _ => False) mc ms) : Met l y ws rm (z_Pc E as h) (z_Qc E Q) mc ms (z_A E) := by
  refine MetFree.mono hM (fun _ _ q => q) (fun _ _ _ _ _ q => q) (fun a s o t _ hq => ?_)
  rcases hq with ⟨q1, q2⟩ | ⟨_, _, _, _, q1, _⟩
  · exact ⟨q1, q2⟩
  · exact q1.elim
theorem z_blind {E : z_E} {as : List Value} {h : z_H} : FrameBlind (z_Pc E as h) := fun a U g mk q => ⟨q.1, q.2.1, z_G.same (s := U) (U := U.calling g mk a) rfl q.2.2⟩
def z_Post (E : z_E) (QX : z_X) (mc ms : Nat) : Pt → Array Value → Addr → Pt → Prop := fun A a q B =>
  ∃ (g : JFrame) (mk : MethodId) (t : State) (L : List Loc) (q0 : Nat) (h' : z_H), q = z_f E q0 ∧ B.U.heap = t.heap ∧ B.U.vm = t.vm ∧ QX q0 h' ∧ z_k h' q0 = 5 ∧ 317 ≤ q0 ∧ z_Rep E h' t.heap ∧ va_F (z_A E) (A.U.calling g mk a) t ∧ B.locs = A.locs ++ L ∧ (∀ z ∈ L, z_A E z.base) ∧ B.cells = A.cells + mc ∧ B.slots = A.slots + ms
section ZPay
variable {l : Launch} {R : Room} {p : Program} {e : Env} {below : List Frame} {s : State} {sargs : Array Value} {y : MethodName} {len W9 : Nat}
theorem z_back {E : z_E} {as : List Value} {hh0 : z_H} {Q : z_Q} {QX : z_X} {ws : List Jvm.Cond} {rm : Room} {mc ms : Nat} {bytes : ByteArray} {maxL : Nat} {ret : Option FieldType}
    (hM : z_Met E l y ws rm as hh0 Q QX mc ms) (hrc : rm.cells = mc) (hrs : rm.slots = ms)
    (hframes : rm.frames + 1 ≤ R.frames) (hlocals : W9 + (maxL + 11) + rm.locals ≤ R.locals)
    (hws : ∀ w ∈ ws, ∀ a' U, s.WarmedH U.vm → w.before a' U = true) (hcode : Cond.code y bytes maxL ret ∈ ws) (hinit : ∀ a' U, s.WarmedH U.vm → (Cond.initialized y.cls).before a' U = true) :
    vx_Back l R p e below s sargs y len W9 (PreOf R mc ms (z_Pc E as hh0)) (PostOf (z_Qc E Q) mc ms (z_A E)) (z_Post E QX mc ms) := by
  intro m meth c A g ig mk a X hg hsize hdg hW hn hp
  have h1 : (headSpec ws rm).pre.before a A.U = true := atoms_intro fun w hw => hws w hw _ _ X.warmed
  have h2 : (Cond.code y bytes maxL ret).before a A.U = true := hws _ hcode _ _ X.warmed
  have h3 : (Cond.initialized y.cls).before a A.U = true := hinit _ _ X.warmed
  have h4 : A.cells + (headSpec ws rm).room.cells ≤ R.cells := by rw [show (headSpec ws rm).room.cells = mc from hrc]; exact hp.1
  have h5 : A.slots + (headSpec ws rm).room.slots ≤ R.slots := by rw [show (headSpec ws rm).room.slots = ms from hrs]; exact hp.2.1
  have hPc : z_Pc E as hh0 a (A.U.calling g mk a) := z_blind _ _ _ _ hp.2.2
  obtain ⟨U, Ls, c0, s0⟩ := A
  dsimp only [Pt.U, Pt.locs, Pt.cells, Pt.slots] at h1 h2 h3 h4 h5 X hn hPc ⊢
  obtain ⟨methY, cY, hmY, hcY, -, hlY, -, -, -, -⟩ := Cond.code_spec hn h2
  obtain ⟨kY, hkY, -⟩ := className_of_methodNamed hn
  have hinitY : kY.init = .initialized := Cond.initialized_spec (findClass_of_methodNamed hn) hkY h3
  have h : At U g.method c below := by rw [hg]; exact X.here
  have hlocals9 : W9 + (maxL + 11) + (headSpec ws rm).room.locals ≤ R.locals := hlocals
  have happ : (headSpec ws rm).appliesLoose y e.platform (U.calling g mk a) = true :=
    Spec.appliesLoose_calling (g := g) h hdg hn hkY hinitY
      (X.room_calling (g := g) (R' := (headSpec ws rm).room) hsize hmY hcY hframes (by rw [hlY]; omega) h4 h5) h1
  obtain ⟨mid, hmid⟩ := h.above
  have hfr : (U.setTop g).frames = (.java g :: mid) ++ below := by rw [State.frames_setTop' g h.top, hmid]; rfl
  obtain ⟨o, s₂, hsteps, -, hend, hq⟩ := Steps.callFree hM p X.admits X.cas X.clock (acts := []) hfr happ hPc trivial
  have hq' : z_Qall E Q QX mc ms a (U.calling g mk a) o s₂ := hq
  rw [State.frames_setTop' g h.top] at hend
  obtain ⟨g₀, hg0⟩ := Option.isSome_iff_exists.mp h.top
  obtain ⟨r, hr⟩ := State.topJava?_eq_some.mp hg0
  have hr' : (({ U with heap := s₂.heap, slotsUsed := s₂.slotsUsed } : State).setVm s₂.vm).frames = .java g₀ :: r := hr
  rcases hq' with ⟨hqc, L, hfe, hL⟩ | ⟨q0, hh9, L, rfl, hqx, hk5, h317, hrep, hva, hW₂, hsm, hL⟩
  · obtain ⟨⟨v, rfl⟩, hW₂, e2, q2, q3, q4, q5, q6⟩ := id hfe
    have e3 : s₂ = ({ (U.calling g mk a).setFrames s₂.frames with heap := s₂.heap, slotsUsed := s₂.slotsUsed } : State).setVm s₂.vm := by
      have : s₂ = ({ s₂ with vm := (U.calling g mk a).vm } : State).setVm s₂.vm := rfl
      rw [e2] at this
      exact this
    obtain ⟨c₂, i₂, len₂, hc₂, hd₂, hf₂⟩ := hend
    have hW' : U.WarmedH s₂.vm := hW₂
    have hcc : c₂ = c := by
      have h1 : s₂.code? g.method = U.code? g.method := by
        rw [State.code?_eq, State.code?_eq, hW'.alike.method?]
      exact Option.some.inj (hc₂.symm.trans (h1.trans h.code))
    subst hcc
    have hlen : len₂ = len := by rw [hdg] at hd₂; cases hd₂; rfl
    subst hlen
    have hs₂ : s₂ = (({ U with heap := s₂.heap, slotsUsed := s₂.slotsUsed } : State).setVm s₂.vm).setTop { g with pc := g.pc + len₂, stack := v.toList ++ g.stack } := by
      refine e3.trans ?_
      rw [hf₂, State.calling_eq h.top, State.setFrames_setFrames, State.setTop_of_frames _ hr', hr]
      rfl
    have hsame : U.sameButNew ({ U with heap := s₂.heap, slotsUsed := s₂.slotsUsed } : State) L mc ms := by
      refine ⟨?_, q2, q3, q4, q5, q6⟩
      obtain ⟨t, ht, -⟩ := State.frames_cons hr
      show ({ U with heap := s₂.heap, slotsUsed := s₂.slotsUsed } : State) = { U.setFrames U.frames with heap := s₂.heap, slotsUsed := s₂.slotsUsed }
      rw [State.setFrames_self ht]
    subst hg
    refine Or.inl ⟨v, ⟨(({ U with heap := s₂.heap, slotsUsed := s₂.slotsUsed } : State).setVm s₂.vm), Ls ++ L, c0 + mc, s0 + ms⟩,
      ⟨X.admits, X.cas, X.clock, X.frames, X.room, X.hears, X.method, X.code, (X.here.setHeapUsed s₂.heap s₂.slotsUsed).setVm hW'.alike, X.tail, State.WarmedH.trans X.warmed hW', X.limits, X.bytes, X.same.trans (hsame.setVm s.vm)⟩,
      ⟨g, mk, s₂, L, rfl, rfl, hqc, rfl, hL, rfl, rfl⟩, ?_⟩
    show Steps p.tables e below _ ((({ U with heap := s₂.heap, slotsUsed := s₂.slotsUsed } : State).setVm s₂.vm).setTop { g with pc := g.pc + len₂, stack := v.toList ++ g.stack })
    rw [← hs₂]
    exact hsteps
  · obtain ⟨e2, q2, q3, q4, q5, q6⟩ := id hsm
    have e3 : s₂ = ({ (U.calling g mk a).setFrames s₂.frames with heap := s₂.heap, slotsUsed := s₂.slotsUsed } : State).setVm s₂.vm := by
      have : s₂ = ({ s₂ with vm := (U.calling g mk a).vm } : State).setVm s₂.vm := rfl
      rw [e2] at this
      exact this
    have hf₂ : s₂.frames = .throwing (z_f E q0) :: .java g :: U.frames.tail := hend
    have hW' : U.WarmedH s₂.vm := hW₂
    have hs₂ : s₂ = ((({ U with heap := s₂.heap, slotsUsed := s₂.slotsUsed } : State).setVm s₂.vm).setTop g).pushFrame (.throwing (z_f E q0)) := by
      refine e3.trans ?_
      rw [hf₂, State.calling_eq h.top, State.setFrames_setFrames, State.pushFrame, State.frames_setTop _ hr', State.setTop_of_frames _ hr', State.setFrames_setFrames, hr]
      rfl
    have hsame : U.sameButNew ({ U with heap := s₂.heap, slotsUsed := s₂.slotsUsed } : State) L mc ms := by
      refine ⟨?_, q2, q3, q4, q5, q6⟩
      obtain ⟨t, ht, -⟩ := State.frames_cons hr
      show ({ U with heap := s₂.heap, slotsUsed := s₂.slotsUsed } : State) = { U.setFrames U.frames with heap := s₂.heap, slotsUsed := s₂.slotsUsed }
      rw [State.setFrames_self ht]
    subst hg
    refine Or.inr ⟨z_f E q0, ⟨(({ U with heap := s₂.heap, slotsUsed := s₂.slotsUsed } : State).setVm s₂.vm), Ls ++ L, c0 + mc, s0 + ms⟩,
      ⟨X.admits, X.cas, X.clock, X.frames, X.room, X.hears, X.method, X.code, (X.here.setHeapUsed s₂.heap s₂.slotsUsed).setVm hW'.alike, X.tail, State.WarmedH.trans X.warmed hW', X.limits, X.bytes, X.same.trans (hsame.setVm s.vm)⟩,
      ⟨g, mk, s₂, L, q0, hh9, rfl, rfl, rfl, hqx, hk5, h317, hrep, hva, rfl, hL, rfl, rfl⟩, ?_⟩
    show Steps p.tables e below _ (((({ U with heap := s₂.heap, slotsUsed := s₂.slotsUsed } : State).setVm s₂.vm).setTop g).pushFrame (.throwing (z_f E q0)))
    rw [← hs₂]
    exact hsteps
theorem z_backW {E : z_E} {as : List Value} {hh0 : z_H} {Q : z_Q} {QX : z_X} {ws : List Jvm.Cond} {rm : Room} {mc ms : Nat} {bytes : ByteArray} {maxL : Nat} {ret : Option FieldType} {hh : List (Nat × Nat × Nat × Nat)}
    (hM : z_Met E l y ws rm as hh0 Q QX mc ms) (hrc : rm.cells = mc) (hrs : rm.slots = ms)
    (hframes : rm.frames + 1 ≤ R.frames) (hlocals : W9 + (maxL + 11) + rm.locals ≤ R.locals)
    (hws : ∀ w ∈ ws, ∀ a' U, s.WarmedH U.vm → w.before a' U = true) (hcode : Cond.codeWith y bytes maxL ret hh ∈ ws) (hinit : ∀ a' U, s.WarmedH U.vm → (Cond.initialized y.cls).before a' U = true) :
    vx_Back l R p e below s sargs y len W9 (PreOf R mc ms (z_Pc E as hh0)) (PostOf (z_Qc E Q) mc ms (z_A E)) (z_Post E QX mc ms) := by
  intro m meth c A g ig mk a X hg hsize hdg hW hn hp
  have h1 : (headSpec ws rm).pre.before a A.U = true := atoms_intro fun w hw => hws w hw _ _ X.warmed
  have h2 : (Cond.codeWith y bytes maxL ret hh).before a A.U = true := hws _ hcode _ _ X.warmed
  have h3 : (Cond.initialized y.cls).before a A.U = true := hinit _ _ X.warmed
  have h4 : A.cells + (headSpec ws rm).room.cells ≤ R.cells := by rw [show (headSpec ws rm).room.cells = mc from hrc]; exact hp.1
  have h5 : A.slots + (headSpec ws rm).room.slots ≤ R.slots := by rw [show (headSpec ws rm).room.slots = ms from hrs]; exact hp.2.1
  have hPc : z_Pc E as hh0 a (A.U.calling g mk a) := z_blind _ _ _ _ hp.2.2
  obtain ⟨U, Ls, c0, s0⟩ := A
  dsimp only [Pt.U, Pt.locs, Pt.cells, Pt.slots] at h1 h2 h3 h4 h5 X hn hPc ⊢
  obtain ⟨m9, methY, cY, hn9, hmY, hcY, -, hlY, -⟩ := Cond.codeWith_spec h2
  cases Option.some.inj (hn9.symm.trans hn)
  obtain ⟨kY, hkY, -⟩ := className_of_methodNamed hn
  have hinitY : kY.init = .initialized := Cond.initialized_spec (findClass_of_methodNamed hn) hkY h3
  have h : At U g.method c below := by rw [hg]; exact X.here
  have hlocals9 : W9 + (maxL + 11) + (headSpec ws rm).room.locals ≤ R.locals := hlocals
  have happ : (headSpec ws rm).appliesLoose y e.platform (U.calling g mk a) = true :=
    Spec.appliesLoose_calling (g := g) h hdg hn hkY hinitY
      (X.room_calling (g := g) (R' := (headSpec ws rm).room) hsize hmY hcY hframes (by rw [hlY]; omega) h4 h5) h1
  obtain ⟨mid, hmid⟩ := h.above
  have hfr : (U.setTop g).frames = (.java g :: mid) ++ below := by rw [State.frames_setTop' g h.top, hmid]; rfl
  obtain ⟨o, s₂, hsteps, -, hend, hq⟩ := Steps.callFree hM p X.admits X.cas X.clock (acts := []) hfr happ hPc trivial
  have hq' : z_Qall E Q QX mc ms a (U.calling g mk a) o s₂ := hq
  rw [State.frames_setTop' g h.top] at hend
  obtain ⟨g₀, hg0⟩ := Option.isSome_iff_exists.mp h.top
  obtain ⟨r, hr⟩ := State.topJava?_eq_some.mp hg0
  have hr' : (({ U with heap := s₂.heap, slotsUsed := s₂.slotsUsed } : State).setVm s₂.vm).frames = .java g₀ :: r := hr
  rcases hq' with ⟨hqc, L, hfe, hL⟩ | ⟨q0, hh9, L, rfl, hqx, hk5, h317, hrep, hva, hW₂, hsm, hL⟩
  · obtain ⟨⟨v, rfl⟩, hW₂, e2, q2, q3, q4, q5, q6⟩ := id hfe
    have e3 : s₂ = ({ (U.calling g mk a).setFrames s₂.frames with heap := s₂.heap, slotsUsed := s₂.slotsUsed } : State).setVm s₂.vm := by
      have : s₂ = ({ s₂ with vm := (U.calling g mk a).vm } : State).setVm s₂.vm := rfl
      rw [e2] at this
      exact this
    obtain ⟨c₂, i₂, len₂, hc₂, hd₂, hf₂⟩ := hend
    have hW' : U.WarmedH s₂.vm := hW₂
    have hcc : c₂ = c := by
      have h1 : s₂.code? g.method = U.code? g.method := by
        rw [State.code?_eq, State.code?_eq, hW'.alike.method?]
      exact Option.some.inj (hc₂.symm.trans (h1.trans h.code))
    subst hcc
    have hlen : len₂ = len := by rw [hdg] at hd₂; cases hd₂; rfl
    subst hlen
    have hs₂ : s₂ = (({ U with heap := s₂.heap, slotsUsed := s₂.slotsUsed } : State).setVm s₂.vm).setTop { g with pc := g.pc + len₂, stack := v.toList ++ g.stack } := by
      refine e3.trans ?_
      rw [hf₂, State.calling_eq h.top, State.setFrames_setFrames, State.setTop_of_frames _ hr', hr]
      rfl
    have hsame : U.sameButNew ({ U with heap := s₂.heap, slotsUsed := s₂.slotsUsed } : State) L mc ms := by
      refine ⟨?_, q2, q3, q4, q5, q6⟩
      obtain ⟨t, ht, -⟩ := State.frames_cons hr
      show ({ U with heap := s₂.heap, slotsUsed := s₂.slotsUsed } : State) = { U.setFrames U.frames with heap := s₂.heap, slotsUsed := s₂.slotsUsed }
      rw [State.setFrames_self ht]
    subst hg
    refine Or.inl ⟨v, ⟨(({ U with heap := s₂.heap, slotsUsed := s₂.slotsUsed } : State).setVm s₂.vm), Ls ++ L, c0 + mc, s0 + ms⟩,
      ⟨X.admits, X.cas, X.clock, X.frames, X.room, X.hears, X.method, X.code, (X.here.setHeapUsed s₂.heap s₂.slotsUsed).setVm hW'.alike, X.tail, State.WarmedH.trans X.warmed hW', X.limits, X.bytes, X.same.trans (hsame.setVm s.vm)⟩,
      ⟨g, mk, s₂, L, rfl, rfl, hqc, rfl, hL, rfl, rfl⟩, ?_⟩
    show Steps p.tables e below _ ((({ U with heap := s₂.heap, slotsUsed := s₂.slotsUsed } : State).setVm s₂.vm).setTop { g with pc := g.pc + len₂, stack := v.toList ++ g.stack })
    rw [← hs₂]
    exact hsteps
  · obtain ⟨e2, q2, q3, q4, q5, q6⟩ := id hsm
    have e3 : s₂ = ({ (U.calling g mk a).setFrames s₂.frames with heap := s₂.heap, slotsUsed := s₂.slotsUsed } : State).setVm s₂.vm := by
      have : s₂ = ({ s₂ with vm := (U.calling g mk a).vm } : State).setVm s₂.vm := rfl
      rw [e2] at this
      exact this
    have hf₂ : s₂.frames = .throwing (z_f E q0) :: .java g :: U.frames.tail := hend
    have hW' : U.WarmedH s₂.vm := hW₂
    have hs₂ : s₂ = ((({ U with heap := s₂.heap, slotsUsed := s₂.slotsUsed } : State).setVm s₂.vm).setTop g).pushFrame (.throwing (z_f E q0)) := by
      refine e3.trans ?_
      rw [hf₂, State.calling_eq h.top, State.setFrames_setFrames, State.pushFrame, State.frames_setTop _ hr', State.setTop_of_frames _ hr', State.setFrames_setFrames, hr]
      rfl
    have hsame : U.sameButNew ({ U with heap := s₂.heap, slotsUsed := s₂.slotsUsed } : State) L mc ms := by
      refine ⟨?_, q2, q3, q4, q5, q6⟩
      obtain ⟨t, ht, -⟩ := State.frames_cons hr
      show ({ U with heap := s₂.heap, slotsUsed := s₂.slotsUsed } : State) = { U.setFrames U.frames with heap := s₂.heap, slotsUsed := s₂.slotsUsed }
      rw [State.setFrames_self ht]
    subst hg
    refine Or.inr ⟨z_f E q0, ⟨(({ U with heap := s₂.heap, slotsUsed := s₂.slotsUsed } : State).setVm s₂.vm), Ls ++ L, c0 + mc, s0 + ms⟩,
      ⟨X.admits, X.cas, X.clock, X.frames, X.room, X.hears, X.method, X.code, (X.here.setHeapUsed s₂.heap s₂.slotsUsed).setVm hW'.alike, X.tail, State.WarmedH.trans X.warmed hW', X.limits, X.bytes, X.same.trans (hsame.setVm s.vm)⟩,
      ⟨g, mk, s₂, L, q0, hh9, rfl, rfl, rfl, hqx, hk5, h317, hrep, hva, rfl, hL, rfl, rfl⟩, ?_⟩
    show Steps p.tables e below _ (((({ U with heap := s₂.heap, slotsUsed := s₂.slotsUsed } : State).setVm s₂.vm).setTop g).pushFrame (.throwing (z_f E q0)))
    rw [← hs₂]
    exact hsteps
end ZPay
section ZRun
variable {p : Program} {l : Launch} {e : Env} {R : Room} {s : State} {m : MethodId} {args : Array Value} {below : List Frame} {meth : Method} {c : Code} {H : Heap} {locs : List Loc} {cells slots : Nat} {E : z_E} {as : List Value} {hh0 : z_H} {Qz : z_Q} {QX : z_X}
variable {y : MethodName} {bytes cc : ByteArray} {maxL nL mc ms n index : Nat} {ret : Option FieldType} {ws : List Jvm.Cond} {rm : Room} {Ts : List Jvm.Cond} {own C : String} {b : Addr} {As rest : List Value} {g : JFrame}
def z_Run (E : z_E) (p : Program) (l : Launch) (e : Env) (R : Room) (s : State) (m : MethodId) (args : Array Value) (below : List Frame) (meth : Method) (c : Code) (H : Heap) (locs : List Loc) (cells slots mc ms : Nat) (g : JFrame) (rest : List Value) (Qa : State → Outcome → State → Prop) (QX : z_X) : Prop :=
  ∀ T : State, T.heap = H → Stand p l e R s m args below meth c T locs cells slots →
    (∃ (v : Option Value) (st₀ t T' : State) (L : List Loc), st₀.heap = H ∧ Stand p l e R s m args below meth c T' (locs ++ L) (cells + mc) (slots + ms) ∧ (∀ q ∈ L, z_A E q.base) ∧ T'.heap = t.heap ∧ T'.vm = t.vm ∧ Qa st₀ (.returned v) t ∧
      Goes p e below T g T' { g with pc := g.pc + 3, stack := v.toList ++ rest }) ∨
    (∃ (q0 : Nat) (h' : z_H) (st₀ t T' : State) (L : List Loc), st₀.heap = H ∧ Stand p l e R s m args below meth c T' (locs ++ L) (cells + mc) (slots + ms) ∧ (∀ z ∈ L, z_A E z.base) ∧ T'.heap = t.heap ∧ T'.vm = t.vm ∧ QX q0 h' ∧ z_k h' q0 = 5 ∧ 317 ≤ q0 ∧ z_Rep E h' t.heap ∧ va_F (z_A E) st₀ t ∧
      Steps p.tables e below (T.setTop g) ((T'.setTop { g with stack := rest }).pushFrame (.throwing (z_f E q0))))
theorem z_runV (S : CallFix p m c cc nL s args Ts own) (hM : z_Met E l y ws rm as hh0 Qz QX mc ms) (cw : CallW R s args own C index y bytes maxL ret ws rm mc ms n) (hp : PreV s H C b (z_Pc E as hh0) As)
    (hg : g.method = m) (hn : As.length = n) (hsize : g.locals.size = nL) (hstack : g.stack = As.reverse ++ .ref b :: rest) (hW : 2 * g.monitorRoom + (rest.map fun v => v.category).sum ≤ 8) (hdg : decode cc g.pc = .ok (.invokevirtual index, 3)) (hf : cells + mc ≤ R.cells ∧ slots + ms ≤ R.slots) :
    z_Run E p l e R s m args below meth c H locs cells slots mc ms g rest (z_Qc E Qz (Value.ref b :: As).toArray) QX := by
  obtain ⟨⟨hrc, hrs, hfr, hlo, hws, hcw, hcode, hini, hy, hlen, hl⟩, hin, hse⟩ := cw
  have hK : vx_Back l R p e below s args y 3 8 (PreOf R mc ms (z_Pc E as hh0)) (PostOf (z_Qc E Qz) mc ms (z_A E)) (z_Post E QX mc ms) := z_back (bytes := bytes) (maxL := maxL) (ret := ret) hM hrc hrs hfr hlo hws hcw (fun a' U hW => word_at hW (Or.inl (by first | rfl | simp [Cond.onTables, Cond.keeps, Cond.steady])) hini)
  obtain ⟨hx, hb, hml, ho, -⟩ := S
  obtain ⟨-, ⟨cellB, hcB, hoB, hclB⟩, hPc⟩ := hp
  intro T hT X
  rcases vx_callV X hx (C := C) (bytes := bytes) (maxL := maxL) (ret := ret) ho hl hin hse hcode hy hK (by rw [hT]; exact hcB) hoB hclB hg (hsize.trans hml.symm) (argsL := As) (rest := rest) (fun sig h => hn.trans (hlen sig h)) hstack hW (by rw [hb]; exact hdg)
    (fun vm₁ hW₁ => ⟨hf.1, hf.2, hPc (T.setVm vm₁) hT hW₁⟩) with ⟨v, vm₁, ⟨U', l2, c2, s2⟩, hW₁, X', ⟨g', mk, t, L, e1, e2, hq, h1, hL, h2, h3⟩, st⟩ | ⟨q, vm₁, ⟨U', l2, c2, s2⟩, hW₁, X', ⟨g', mk, t, L, q0, h', rfl, e1, e2, hq, hk5, h317, hrep, hva, h1, hL, h2, h3⟩, st⟩
  · dsimp only [Pt.U, Pt.locs, Pt.cells, Pt.slots] at X' e1 e2 h1 h2 h3 st
    subst h1; subst h2; subst h3
    exact Or.inl ⟨v, (T.setVm vm₁).calling g' mk (Value.ref b :: As).toArray, t, U', L, hT, X', hL, e1, e2, hq, st⟩
  · dsimp only [Pt.U, Pt.locs, Pt.cells, Pt.slots] at X' e1 e2 h1 h2 h3 st hva
    subst h1; subst h2; subst h3
    exact Or.inr ⟨q0, h', (T.setVm vm₁).calling g' mk (Value.ref b :: As).toArray, t, U', L, hT, X', hL, e1, e2, hq, hk5, h317, hrep, hva, st⟩
theorem z_runVW {hh : List (Nat × Nat × Nat × Nat)} (S : CallFix p m c cc nL s args Ts own) (hM : z_Met E l y ws rm as hh0 Qz QX mc ms) (cw : vx_CVW R s args own C index y bytes maxL ret hh ws rm mc ms n) (hp : PreV s H C b (z_Pc E as hh0) As)
    (hg : g.method = m) (hn : As.length = n) (hsize : g.locals.size = nL) (hstack : g.stack = As.reverse ++ .ref b :: rest) (hW : 2 * g.monitorRoom + (rest.map fun v => v.category).sum ≤ 8) (hdg : decode cc g.pc = .ok (.invokevirtual index, 3)) (hf : cells + mc ≤ R.cells ∧ slots + ms ≤ R.slots) :
    z_Run E p l e R s m args below meth c H locs cells slots mc ms g rest (z_Qc E Qz (Value.ref b :: As).toArray) QX := by
  obtain ⟨⟨hrc, hrs, hfr, hlo, hws, hcw⟩, hcode, hini, hy, hlen, hl, hin, hse⟩ := cw
  have hK : vx_Back l R p e below s args y 3 8 (PreOf R mc ms (z_Pc E as hh0)) (PostOf (z_Qc E Qz) mc ms (z_A E)) (z_Post E QX mc ms) := z_backW (hh := hh) (bytes := bytes) (maxL := maxL) (ret := ret) hM hrc hrs hfr hlo hws hcw (fun a' U hW => word_at hW (Or.inl (by first | rfl | simp [Cond.onTables, Cond.keeps, Cond.steady])) hini)
  obtain ⟨hx, hb, hml, ho, -⟩ := S
  obtain ⟨-, ⟨cellB, hcB, hoB, hclB⟩, hPc⟩ := hp
  intro T hT X
  rcases vx_callVX X hx (C := C) (hh := hh) (bytes := bytes) (maxL := maxL) (ret := ret) ho hl hin hse hcode hy hK (by rw [hT]; exact hcB) hoB hclB hg (hsize.trans hml.symm) (argsL := As) (rest := rest) (fun sig h => hn.trans (hlen sig h)) hstack hW (by rw [hb]; exact hdg)
    (fun vm₁ hW₁ => ⟨hf.1, hf.2, hPc (T.setVm vm₁) hT hW₁⟩) with ⟨v, vm₁, ⟨U', l2, c2, s2⟩, hW₁, X', ⟨g', mk, t, L, e1, e2, hq, h1, hL, h2, h3⟩, st⟩ | ⟨q, vm₁, ⟨U', l2, c2, s2⟩, hW₁, X', ⟨g', mk, t, L, q0, h', rfl, e1, e2, hq, hk5, h317, hrep, hva, h1, hL, h2, h3⟩, st⟩
  · dsimp only [Pt.U, Pt.locs, Pt.cells, Pt.slots] at X' e1 e2 h1 h2 h3 st
    subst h1; subst h2; subst h3
    exact Or.inl ⟨v, (T.setVm vm₁).calling g' mk (Value.ref b :: As).toArray, t, U', L, hT, X', hL, e1, e2, hq, st⟩
  · dsimp only [Pt.U, Pt.locs, Pt.cells, Pt.slots] at X' e1 e2 h1 h2 h3 st hva
    subst h1; subst h2; subst h3
    exact Or.inr ⟨q0, h', (T.setVm vm₁).calling g' mk (Value.ref b :: As).toArray, t, U', L, hT, X', hL, e1, e2, hq, hk5, h317, hrep, hva, st⟩
end ZRun
