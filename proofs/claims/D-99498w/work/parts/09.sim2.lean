/-! THE PURE MACHINE AGAINST THE JVM, 2: instructions of the stack, the locals, branches -/
set_option maxRecDepth 100000
section ZOps
variable {E : z_E} {p : Program} {l : Launch} {e : Env} {R : Room} {s : State} {m : MethodId} {args : Array Value} {below : List Frame} {meth : Method} {c : Code} {nL : Nat} {QQ : State → Prop} {cc : ByteArray}
variable {C : z_K} {mi : z_M} {Qz : z_Q} {QX : z_X} {Y : z_C} {pc : Nat} {o : z_O} {ls : z_L} {st : List Value} {h : z_H} {bc bs : Nat}
theorem z_sm_iconst (hx : p.tables.exec = Jvm.exec) (hb : c.code = cc) (ho : z_om E) (hY : ∀ pc ls st h bc bs, Y pc ls st h bc bs → z_Sim E p l e R s m args below meth c nL QQ pc ls st h bc bs) {n : Int} (hd : decode cc pc = .ok (.iconst n, 1)) (hs : z_step C mi Qz QX Y pc (.iconst n) o ls st h bc bs) : z_Sim E p l e R s m args below meth c nL QQ pc ls st h bc bs := by
  intro H locs cells slots lsA g
  exact lv_iconst hx hb hd rfl (hY _ _ _ _ _ _ hs H locs cells slots lsA g)
theorem z_sm_bipush (hx : p.tables.exec = Jvm.exec) (hb : c.code = cc) (ho : z_om E) (hY : ∀ pc ls st h bc bs, Y pc ls st h bc bs → z_Sim E p l e R s m args below meth c nL QQ pc ls st h bc bs) {n : Int} (hd : decode cc pc = .ok (.bipush n, 2)) (hs : z_step C mi Qz QX Y pc (.bipush n) o ls st h bc bs) : z_Sim E p l e R s m args below meth c nL QQ pc ls st h bc bs := by
  intro H locs cells slots lsA g
  exact lv_bipush hx hb hd rfl (hY _ _ _ _ _ _ hs H locs cells slots lsA g)
theorem z_sm_sipush (hx : p.tables.exec = Jvm.exec) (hb : c.code = cc) (ho : z_om E) (hY : ∀ pc ls st h bc bs, Y pc ls st h bc bs → z_Sim E p l e R s m args below meth c nL QQ pc ls st h bc bs) {n : Int} (hd : decode cc pc = .ok (.sipush n, 3)) (hs : z_step C mi Qz QX Y pc (.sipush n) o ls st h bc bs) : z_Sim E p l e R s m args below meth c nL QQ pc ls st h bc bs := by
  intro H locs cells slots lsA g
  exact lv_sipush hx hb hd rfl (hY _ _ _ _ _ _ hs H locs cells slots lsA g)
theorem z_sm_lconst (hx : p.tables.exec = Jvm.exec) (hb : c.code = cc) (ho : z_om E) (hY : ∀ pc ls st h bc bs, Y pc ls st h bc bs → z_Sim E p l e R s m args below meth c nL QQ pc ls st h bc bs) {n : Fin 2} (hd : decode cc pc = .ok (.lconst n, 1)) (hs : z_step C mi Qz QX Y pc (.lconst n) o ls st h bc bs) : z_Sim E p l e R s m args below meth c nL QQ pc ls st h bc bs := by
  intro H locs cells slots lsA g
  exact lv_lconst hx hb hd rfl (hY _ _ _ _ _ _ hs H locs cells slots lsA g)
theorem z_sm_aconst_null (hx : p.tables.exec = Jvm.exec) (hb : c.code = cc) (ho : z_om E) (hY : ∀ pc ls st h bc bs, Y pc ls st h bc bs → z_Sim E p l e R s m args below meth c nL QQ pc ls st h bc bs) (hd : decode cc pc = .ok (.aconst_null, 1)) (hs : z_step C mi Qz QX Y pc (.aconst_null) o ls st h bc bs) : z_Sim E p l e R s m args below meth c nL QQ pc ls st h bc bs := by
  intro H locs cells slots lsA g
  exact lv_null hx hb hd (hY _ _ _ _ _ _ hs H locs cells slots lsA g)
theorem z_sm_iload_n (hx : p.tables.exec = Jvm.exec) (hb : c.code = cc) (ho : z_om E) (hY : ∀ pc ls st h bc bs, Y pc ls st h bc bs → z_Sim E p l e R s m args below meth c nL QQ pc ls st h bc bs) {k : Fin 4} (hd : decode cc pc = .ok (.iload_n k, 1)) (hs : z_step C mi Qz QX Y pc (.iload_n k) o ls st h bc bs) : z_Sim E p l e R s m args below meth c nL QQ pc ls st h bc bs := by
  obtain ⟨x, hg, h1⟩ := z_gi_e hs
  intro H locs cells slots lsA g
  exact lv_iload_n hx hb hd rfl (g.2.2.2.1.2.2 _ _ hg) (hY _ _ _ _ _ _ h1 H locs cells slots lsA g)
theorem z_sm_iload (hx : p.tables.exec = Jvm.exec) (hb : c.code = cc) (ho : z_om E) (hY : ∀ pc ls st h bc bs, Y pc ls st h bc bs → z_Sim E p l e R s m args below meth c nL QQ pc ls st h bc bs) {k : Nat} (hd : decode cc pc = .ok (.iload k, 2)) (hs : z_step C mi Qz QX Y pc (.iload k) o ls st h bc bs) : z_Sim E p l e R s m args below meth c nL QQ pc ls st h bc bs := by
  obtain ⟨x, hg, h1⟩ := z_gi_e hs
  intro H locs cells slots lsA g
  exact lv_iload hx hb hd (g.2.2.2.1.2.2 _ _ hg) (hY _ _ _ _ _ _ h1 H locs cells slots lsA g)
theorem z_sm_lload_n (hx : p.tables.exec = Jvm.exec) (hb : c.code = cc) (ho : z_om E) (hY : ∀ pc ls st h bc bs, Y pc ls st h bc bs → z_Sim E p l e R s m args below meth c nL QQ pc ls st h bc bs) {k : Fin 4} (hd : decode cc pc = .ok (.lload_n k, 1)) (hs : z_step C mi Qz QX Y pc (.lload_n k) o ls st h bc bs) : z_Sim E p l e R s m args below meth c nL QQ pc ls st h bc bs := by
  obtain ⟨x, hg, h1⟩ := z_gl_e hs
  intro H locs cells slots lsA g
  exact lv_lload_n hx hb hd rfl (g.2.2.2.1.2.2 _ _ hg) (hY _ _ _ _ _ _ h1 H locs cells slots lsA g)
theorem z_sm_lload (hx : p.tables.exec = Jvm.exec) (hb : c.code = cc) (ho : z_om E) (hY : ∀ pc ls st h bc bs, Y pc ls st h bc bs → z_Sim E p l e R s m args below meth c nL QQ pc ls st h bc bs) {k : Nat} (hd : decode cc pc = .ok (.lload k, 2)) (hs : z_step C mi Qz QX Y pc (.lload k) o ls st h bc bs) : z_Sim E p l e R s m args below meth c nL QQ pc ls st h bc bs := by
  obtain ⟨x, hg, h1⟩ := z_gl_e hs
  intro H locs cells slots lsA g
  exact lv_lload hx hb hd (g.2.2.2.1.2.2 _ _ hg) (hY _ _ _ _ _ _ h1 H locs cells slots lsA g)
theorem z_sm_aload_n (hx : p.tables.exec = Jvm.exec) (hb : c.code = cc) (ho : z_om E) (hY : ∀ pc ls st h bc bs, Y pc ls st h bc bs → z_Sim E p l e R s m args below meth c nL QQ pc ls st h bc bs) {k : Fin 4} (hd : decode cc pc = .ok (.aload_n k, 1)) (hs : z_step C mi Qz QX Y pc (.aload_n k) o ls st h bc bs) : z_Sim E p l e R s m args below meth c nL QQ pc ls st h bc bs := by
  have h0 : z_gr (z_get ls k) (fun x => Y (pc + 1) ls (x :: st) h bc bs) := hs
  obtain ⟨x, hg, hr, h1⟩ := z_gr_e h0
  intro H locs cells slots lsA g
  have hr := z_isr_v ho hr
  have hl := g.2.2.2.1.2.2 _ _ hg
  have h2 := hY _ _ _ _ _ _ h1 H locs cells slots lsA g
  rw [List.map_cons] at h2
  rcases hr with hr | ⟨a, hr⟩
  · rw [hr] at hl h2
    exact lv_aload_nN hx hb hd rfl hl h2
  · rw [hr] at hl h2
    exact lv_aload_n hx hb hd rfl hl h2
theorem z_sm_aload (hx : p.tables.exec = Jvm.exec) (hb : c.code = cc) (ho : z_om E) (hY : ∀ pc ls st h bc bs, Y pc ls st h bc bs → z_Sim E p l e R s m args below meth c nL QQ pc ls st h bc bs) {k : Nat} (hd : decode cc pc = .ok (.aload k, 2)) (hs : z_step C mi Qz QX Y pc (.aload k) o ls st h bc bs) : z_Sim E p l e R s m args below meth c nL QQ pc ls st h bc bs := by
  have h0 : z_gr (z_get ls k) (fun x => Y (pc + 2) ls (x :: st) h bc bs) := hs
  obtain ⟨x, hg, hr, h1⟩ := z_gr_e h0
  intro H locs cells slots lsA g
  have hr := z_isr_v ho hr
  have hl := g.2.2.2.1.2.2 _ _ hg
  have h2 := hY _ _ _ _ _ _ h1 H locs cells slots lsA g
  rw [List.map_cons] at h2
  rcases hr with hr | ⟨a, hr⟩
  · rw [hr] at hl h2
    exact lv_aloadN hx hb hd hl h2
  · rw [hr] at hl h2
    exact lv_aload hx hb hd hl h2
theorem z_sm_istore_n (hx : p.tables.exec = Jvm.exec) (hb : c.code = cc) (ho : z_om E) (hY : ∀ pc ls st h bc bs, Y pc ls st h bc bs → z_Sim E p l e R s m args below meth c nL QQ pc ls st h bc bs) {k : Fin 4} (hn : (k : Nat) < nL) (hd : decode cc pc = .ok (.istore_n k, 1)) (hs : z_step C mi Qz QX Y pc (.istore_n k) o ls st h bc bs) : z_Sim E p l e R s m args below meth c nL QQ pc ls st h bc bs := by
  obtain ⟨x, r, rfl, h1⟩ := z_i1_e hs
  intro H locs cells slots lsA g
  refine lv_istore_n hx hb hd rfl g.2.2.2.1.list hn rfl (fun ls1 h2 => ?_)
  exact hY _ _ _ _ _ _ h1 H locs cells slots ls1 (g.st1 ho h2)
theorem z_sm_istore (hx : p.tables.exec = Jvm.exec) (hb : c.code = cc) (ho : z_om E) (hY : ∀ pc ls st h bc bs, Y pc ls st h bc bs → z_Sim E p l e R s m args below meth c nL QQ pc ls st h bc bs) {k : Nat} (hn : k < nL) (hd : decode cc pc = .ok (.istore k, 2)) (hs : z_step C mi Qz QX Y pc (.istore k) o ls st h bc bs) : z_Sim E p l e R s m args below meth c nL QQ pc ls st h bc bs := by
  obtain ⟨x, r, rfl, h1⟩ := z_i1_e hs
  intro H locs cells slots lsA g
  refine lv_istore hx hb hd g.2.2.2.1.list hn rfl (fun ls1 h2 => ?_)
  exact hY _ _ _ _ _ _ h1 H locs cells slots ls1 (g.st1 ho h2)
theorem z_sm_lstore_n (hx : p.tables.exec = Jvm.exec) (hb : c.code = cc) (ho : z_om E) (hY : ∀ pc ls st h bc bs, Y pc ls st h bc bs → z_Sim E p l e R s m args below meth c nL QQ pc ls st h bc bs) {k : Fin 4} (hn : (k : Nat) + 1 < nL) (hd : decode cc pc = .ok (.lstore_n k, 1)) (hs : z_step C mi Qz QX Y pc (.lstore_n k) o ls st h bc bs) : z_Sim E p l e R s m args below meth c nL QQ pc ls st h bc bs := by
  obtain ⟨x, r, rfl, h1⟩ := z_l1_e hs
  intro H locs cells slots lsA g
  refine lv_lstore_n hx hb hd rfl g.2.2.2.1.list hn rfl (fun ls1 h2 => ?_)
  exact hY _ _ _ _ _ _ h1 H locs cells slots ls1 (g.st2 ho h2)
theorem z_sm_lstore (hx : p.tables.exec = Jvm.exec) (hb : c.code = cc) (ho : z_om E) (hY : ∀ pc ls st h bc bs, Y pc ls st h bc bs → z_Sim E p l e R s m args below meth c nL QQ pc ls st h bc bs) {k : Nat} (hn : k + 1 < nL) (hd : decode cc pc = .ok (.lstore k, 2)) (hs : z_step C mi Qz QX Y pc (.lstore k) o ls st h bc bs) : z_Sim E p l e R s m args below meth c nL QQ pc ls st h bc bs := by
  obtain ⟨x, r, rfl, h1⟩ := z_l1_e hs
  intro H locs cells slots lsA g
  refine lv_lstore hx hb hd g.2.2.2.1.list hn rfl (fun ls1 h2 => ?_)
  exact hY _ _ _ _ _ _ h1 H locs cells slots ls1 (g.st2 ho h2)
theorem z_sm_astore_n (hx : p.tables.exec = Jvm.exec) (hb : c.code = cc) (ho : z_om E) (hY : ∀ pc ls st h bc bs, Y pc ls st h bc bs → z_Sim E p l e R s m args below meth c nL QQ pc ls st h bc bs) {k : Fin 4} (hn : (k : Nat) < nL) (hd : decode cc pc = .ok (.astore_n k, 1)) (hs : z_step C mi Qz QX Y pc (.astore_n k) o ls st h bc bs) : z_Sim E p l e R s m args below meth c nL QQ pc ls st h bc bs := by
  have h0 : z_vr st (fun x r => Y (pc + 1) (z_st1 ls k x) r h bc bs) := hs
  obtain ⟨x, r, rfl, hr, h1⟩ := z_vr_e h0
  intro H locs cells slots lsA g
  have hr := z_isr_v ho hr
  have key : ∀ (ls1 : Array Slot) (lv : List (Nat × Value)), (((k : Nat), z_v E x) :: ((List.range nL).filterMap (fun k => (z_get ls k).map fun v => (k, z_v E v))).filter (fun q => !(q.1 == (k : Nat)) && !(q.1 + 1 == (k : Nat) && q.2.category == 2))) = lv → lv_has ls1 nL lv → W p l e R s m args below meth c H locs cells slots QQ (F0 m (pc + 1) ls1 (r.map (z_v E))) := fun ls1 lv e1 h2 => hY _ _ _ _ _ _ h1 H locs cells slots ls1 (g.st1 ho (e1 ▸ h2))
  rw [List.map_cons]
  rcases hr with hr | ⟨a, hr⟩
  · rw [hr] at key ⊢
    exact lv_astore_nN hx hb hd rfl g.2.2.2.1.list hn rfl (fun ls1 h2 => key ls1 _ rfl h2)
  · rw [hr] at key ⊢
    exact lv_astore_n hx hb hd rfl g.2.2.2.1.list hn rfl (fun ls1 h2 => key ls1 _ rfl h2)
theorem z_sm_astore (hx : p.tables.exec = Jvm.exec) (hb : c.code = cc) (ho : z_om E) (hY : ∀ pc ls st h bc bs, Y pc ls st h bc bs → z_Sim E p l e R s m args below meth c nL QQ pc ls st h bc bs) {k : Nat} (hn : k < nL) (hd : decode cc pc = .ok (.astore k, 2)) (hs : z_step C mi Qz QX Y pc (.astore k) o ls st h bc bs) : z_Sim E p l e R s m args below meth c nL QQ pc ls st h bc bs := by
  have h0 : z_vr st (fun x r => Y (pc + 2) (z_st1 ls k x) r h bc bs) := hs
  obtain ⟨x, r, rfl, hr, h1⟩ := z_vr_e h0
  intro H locs cells slots lsA g
  have hr := z_isr_v ho hr
  have key : ∀ (ls1 : Array Slot) (lv : List (Nat × Value)), ((k, z_v E x) :: ((List.range nL).filterMap (fun k => (z_get ls k).map fun v => (k, z_v E v))).filter (fun q => !(q.1 == k) && !(q.1 + 1 == k && q.2.category == 2))) = lv → lv_has ls1 nL lv → W p l e R s m args below meth c H locs cells slots QQ (F0 m (pc + 2) ls1 (r.map (z_v E))) := fun ls1 lv e1 h2 => hY _ _ _ _ _ _ h1 H locs cells slots ls1 (g.st1 ho (e1 ▸ h2))
  rw [List.map_cons]
  rcases hr with hr | ⟨a, hr⟩
  · rw [hr] at key ⊢
    exact lv_astoreN hx hb hd g.2.2.2.1.list hn rfl (fun ls1 h2 => key ls1 _ rfl h2)
  · rw [hr] at key ⊢
    exact lv_astore hx hb hd g.2.2.2.1.list hn rfl (fun ls1 h2 => key ls1 _ rfl h2)
theorem z_sm_iinc (hx : p.tables.exec = Jvm.exec) (hb : c.code = cc) (ho : z_om E) (hY : ∀ pc ls st h bc bs, Y pc ls st h bc bs → z_Sim E p l e R s m args below meth c nL QQ pc ls st h bc bs) {k : Nat} {n : Int} (hd : decode cc pc = .ok (.iinc k n, 3)) (hs : z_step C mi Qz QX Y pc (.iinc k n) o ls st h bc bs) : z_Sim E p l e R s m args below meth c nL QQ pc ls st h bc bs := by
  obtain ⟨x, hg, h1⟩ := z_gi_e hs
  intro H locs cells slots lsA g
  obtain ⟨q, hq⟩ := List.getElem?_of_mem (z_LR.mem (E := E) (g.2.2.2.1.lt hg) hg)
  refine lv_iinc hx hb hd g.2.2.2.1.list hq rfl (g.2.2.2.1.lt hg) rfl (fun ls1 h2 => ?_)
  exact hY _ _ _ _ _ _ h1 H locs cells slots ls1 (g.st1 ho h2)
theorem z_sm_iadd (hx : p.tables.exec = Jvm.exec) (hb : c.code = cc) (ho : z_om E) (hY : ∀ pc ls st h bc bs, Y pc ls st h bc bs → z_Sim E p l e R s m args below meth c nL QQ pc ls st h bc bs) (hd : decode cc pc = .ok (.iadd, 1)) (hs : z_step C mi Qz QX Y pc (.iadd) o ls st h bc bs) : z_Sim E p l e R s m args below meth c nL QQ pc ls st h bc bs := by
  obtain ⟨x, y, r, rfl, h1⟩ := z_i2_e hs
  intro H locs cells slots lsA g
  exact lv_iadd hx hb hd (hY _ _ _ _ _ _ h1 H locs cells slots lsA g)
theorem z_sm_isub (hx : p.tables.exec = Jvm.exec) (hb : c.code = cc) (ho : z_om E) (hY : ∀ pc ls st h bc bs, Y pc ls st h bc bs → z_Sim E p l e R s m args below meth c nL QQ pc ls st h bc bs) (hd : decode cc pc = .ok (.isub, 1)) (hs : z_step C mi Qz QX Y pc (.isub) o ls st h bc bs) : z_Sim E p l e R s m args below meth c nL QQ pc ls st h bc bs := by
  obtain ⟨x, y, r, rfl, h1⟩ := z_i2_e hs
  intro H locs cells slots lsA g
  exact lv_isub hx hb hd (hY _ _ _ _ _ _ h1 H locs cells slots lsA g)
theorem z_sm_imul (hx : p.tables.exec = Jvm.exec) (hb : c.code = cc) (ho : z_om E) (hY : ∀ pc ls st h bc bs, Y pc ls st h bc bs → z_Sim E p l e R s m args below meth c nL QQ pc ls st h bc bs) (hd : decode cc pc = .ok (.imul, 1)) (hs : z_step C mi Qz QX Y pc (.imul) o ls st h bc bs) : z_Sim E p l e R s m args below meth c nL QQ pc ls st h bc bs := by
  obtain ⟨x, y, r, rfl, h1⟩ := z_i2_e hs
  intro H locs cells slots lsA g
  exact lv_imul hx hb hd (hY _ _ _ _ _ _ h1 H locs cells slots lsA g)
theorem z_sm_iand (hx : p.tables.exec = Jvm.exec) (hb : c.code = cc) (ho : z_om E) (hY : ∀ pc ls st h bc bs, Y pc ls st h bc bs → z_Sim E p l e R s m args below meth c nL QQ pc ls st h bc bs) (hd : decode cc pc = .ok (.iand, 1)) (hs : z_step C mi Qz QX Y pc (.iand) o ls st h bc bs) : z_Sim E p l e R s m args below meth c nL QQ pc ls st h bc bs := by
  obtain ⟨x, y, r, rfl, h1⟩ := z_i2_e hs
  intro H locs cells slots lsA g
  exact lv_iand hx hb hd (hY _ _ _ _ _ _ h1 H locs cells slots lsA g)
theorem z_sm_ior (hx : p.tables.exec = Jvm.exec) (hb : c.code = cc) (ho : z_om E) (hY : ∀ pc ls st h bc bs, Y pc ls st h bc bs → z_Sim E p l e R s m args below meth c nL QQ pc ls st h bc bs) (hd : decode cc pc = .ok (.ior, 1)) (hs : z_step C mi Qz QX Y pc (.ior) o ls st h bc bs) : z_Sim E p l e R s m args below meth c nL QQ pc ls st h bc bs := by
  obtain ⟨x, y, r, rfl, h1⟩ := z_i2_e hs
  intro H locs cells slots lsA g
  exact lv_ior hx hb hd (hY _ _ _ _ _ _ h1 H locs cells slots lsA g)
theorem z_sm_ixor (hx : p.tables.exec = Jvm.exec) (hb : c.code = cc) (ho : z_om E) (hY : ∀ pc ls st h bc bs, Y pc ls st h bc bs → z_Sim E p l e R s m args below meth c nL QQ pc ls st h bc bs) (hd : decode cc pc = .ok (.ixor, 1)) (hs : z_step C mi Qz QX Y pc (.ixor) o ls st h bc bs) : z_Sim E p l e R s m args below meth c nL QQ pc ls st h bc bs := by
  obtain ⟨x, y, r, rfl, h1⟩ := z_i2_e hs
  intro H locs cells slots lsA g
  exact lv_ixor hx hb hd (hY _ _ _ _ _ _ h1 H locs cells slots lsA g)
theorem z_sm_ishl (hx : p.tables.exec = Jvm.exec) (hb : c.code = cc) (ho : z_om E) (hY : ∀ pc ls st h bc bs, Y pc ls st h bc bs → z_Sim E p l e R s m args below meth c nL QQ pc ls st h bc bs) (hd : decode cc pc = .ok (.ishl, 1)) (hs : z_step C mi Qz QX Y pc (.ishl) o ls st h bc bs) : z_Sim E p l e R s m args below meth c nL QQ pc ls st h bc bs := by
  obtain ⟨x, y, r, rfl, h1⟩ := z_i2_e hs
  intro H locs cells slots lsA g
  exact lv_ishl hx hb hd (hY _ _ _ _ _ _ h1 H locs cells slots lsA g)
theorem z_sm_ishr (hx : p.tables.exec = Jvm.exec) (hb : c.code = cc) (ho : z_om E) (hY : ∀ pc ls st h bc bs, Y pc ls st h bc bs → z_Sim E p l e R s m args below meth c nL QQ pc ls st h bc bs) (hd : decode cc pc = .ok (.ishr, 1)) (hs : z_step C mi Qz QX Y pc (.ishr) o ls st h bc bs) : z_Sim E p l e R s m args below meth c nL QQ pc ls st h bc bs := by
  obtain ⟨x, y, r, rfl, h1⟩ := z_i2_e hs
  intro H locs cells slots lsA g
  exact lv_ishr hx hb hd (hY _ _ _ _ _ _ h1 H locs cells slots lsA g)
theorem z_sm_iushr (hx : p.tables.exec = Jvm.exec) (hb : c.code = cc) (ho : z_om E) (hY : ∀ pc ls st h bc bs, Y pc ls st h bc bs → z_Sim E p l e R s m args below meth c nL QQ pc ls st h bc bs) (hd : decode cc pc = .ok (.iushr, 1)) (hs : z_step C mi Qz QX Y pc (.iushr) o ls st h bc bs) : z_Sim E p l e R s m args below meth c nL QQ pc ls st h bc bs := by
  obtain ⟨x, y, r, rfl, h1⟩ := z_i2_e hs
  intro H locs cells slots lsA g
  exact lv_iushr hx hb hd rfl (hY _ _ _ _ _ _ h1 H locs cells slots lsA g)
theorem z_sm_idiv (hx : p.tables.exec = Jvm.exec) (hb : c.code = cc) (ho : z_om E) (hY : ∀ pc ls st h bc bs, Y pc ls st h bc bs → z_Sim E p l e R s m args below meth c nL QQ pc ls st h bc bs) (hd : decode cc pc = .ok (.idiv, 1)) (hs : z_step C mi Qz QX Y pc (.idiv) o ls st h bc bs) : z_Sim E p l e R s m args below meth c nL QQ pc ls st h bc bs := by
  obtain ⟨x, y, r, rfl, hne, h1⟩ := z_i2_e hs
  intro H locs cells slots lsA g
  exact lv_idiv hx hb hd hne (hY _ _ _ _ _ _ h1 H locs cells slots lsA g)
theorem z_sm_irem (hx : p.tables.exec = Jvm.exec) (hb : c.code = cc) (ho : z_om E) (hY : ∀ pc ls st h bc bs, Y pc ls st h bc bs → z_Sim E p l e R s m args below meth c nL QQ pc ls st h bc bs) (hd : decode cc pc = .ok (.irem, 1)) (hs : z_step C mi Qz QX Y pc (.irem) o ls st h bc bs) : z_Sim E p l e R s m args below meth c nL QQ pc ls st h bc bs := by
  obtain ⟨x, y, r, rfl, hne, h1⟩ := z_i2_e hs
  intro H locs cells slots lsA g
  exact lv_irem hx hb hd hne (hY _ _ _ _ _ _ h1 H locs cells slots lsA g)
theorem z_sm_ineg (hx : p.tables.exec = Jvm.exec) (hb : c.code = cc) (ho : z_om E) (hY : ∀ pc ls st h bc bs, Y pc ls st h bc bs → z_Sim E p l e R s m args below meth c nL QQ pc ls st h bc bs) (hd : decode cc pc = .ok (.ineg, 1)) (hs : z_step C mi Qz QX Y pc (.ineg) o ls st h bc bs) : z_Sim E p l e R s m args below meth c nL QQ pc ls st h bc bs := by
  obtain ⟨x, r, rfl, h1⟩ := z_i1_e hs
  intro H locs cells slots lsA g
  exact lv_ineg hx hb hd (hY _ _ _ _ _ _ h1 H locs cells slots lsA g)
theorem z_sm_i2l (hx : p.tables.exec = Jvm.exec) (hb : c.code = cc) (ho : z_om E) (hY : ∀ pc ls st h bc bs, Y pc ls st h bc bs → z_Sim E p l e R s m args below meth c nL QQ pc ls st h bc bs) (hd : decode cc pc = .ok (.i2l, 1)) (hs : z_step C mi Qz QX Y pc (.i2l) o ls st h bc bs) : z_Sim E p l e R s m args below meth c nL QQ pc ls st h bc bs := by
  obtain ⟨x, r, rfl, h1⟩ := z_i1_e hs
  intro H locs cells slots lsA g
  exact lv_i2l hx hb hd rfl (hY _ _ _ _ _ _ h1 H locs cells slots lsA g)
theorem z_sm_i2b (hx : p.tables.exec = Jvm.exec) (hb : c.code = cc) (ho : z_om E) (hY : ∀ pc ls st h bc bs, Y pc ls st h bc bs → z_Sim E p l e R s m args below meth c nL QQ pc ls st h bc bs) (hd : decode cc pc = .ok (.i2b, 1)) (hs : z_step C mi Qz QX Y pc (.i2b) o ls st h bc bs) : z_Sim E p l e R s m args below meth c nL QQ pc ls st h bc bs := by
  obtain ⟨x, r, rfl, h1⟩ := z_i1_e hs
  intro H locs cells slots lsA g
  exact lv_i2b hx hb hd rfl (hY _ _ _ _ _ _ h1 H locs cells slots lsA g)
theorem z_sm_i2c (hx : p.tables.exec = Jvm.exec) (hb : c.code = cc) (ho : z_om E) (hY : ∀ pc ls st h bc bs, Y pc ls st h bc bs → z_Sim E p l e R s m args below meth c nL QQ pc ls st h bc bs) (hd : decode cc pc = .ok (.i2c, 1)) (hs : z_step C mi Qz QX Y pc (.i2c) o ls st h bc bs) : z_Sim E p l e R s m args below meth c nL QQ pc ls st h bc bs := by
  obtain ⟨x, r, rfl, h1⟩ := z_i1_e hs
  intro H locs cells slots lsA g
  exact lv_i2c hx hb hd rfl (hY _ _ _ _ _ _ h1 H locs cells slots lsA g)
theorem z_sm_l2i (hx : p.tables.exec = Jvm.exec) (hb : c.code = cc) (ho : z_om E) (hY : ∀ pc ls st h bc bs, Y pc ls st h bc bs → z_Sim E p l e R s m args below meth c nL QQ pc ls st h bc bs) (hd : decode cc pc = .ok (.l2i, 1)) (hs : z_step C mi Qz QX Y pc (.l2i) o ls st h bc bs) : z_Sim E p l e R s m args below meth c nL QQ pc ls st h bc bs := by
  obtain ⟨x, r, rfl, h1⟩ := z_l1_e hs
  intro H locs cells slots lsA g
  exact lv_l2i hx hb hd rfl (hY _ _ _ _ _ _ h1 H locs cells slots lsA g)
theorem z_sm_ladd (hx : p.tables.exec = Jvm.exec) (hb : c.code = cc) (ho : z_om E) (hY : ∀ pc ls st h bc bs, Y pc ls st h bc bs → z_Sim E p l e R s m args below meth c nL QQ pc ls st h bc bs) (hd : decode cc pc = .ok (.ladd, 1)) (hs : z_step C mi Qz QX Y pc (.ladd) o ls st h bc bs) : z_Sim E p l e R s m args below meth c nL QQ pc ls st h bc bs := by
  obtain ⟨x, y, r, rfl, h1⟩ := z_l2_e hs
  intro H locs cells slots lsA g
  exact lv_ladd hx hb hd (hY _ _ _ _ _ _ h1 H locs cells slots lsA g)
theorem z_sm_lsub (hx : p.tables.exec = Jvm.exec) (hb : c.code = cc) (ho : z_om E) (hY : ∀ pc ls st h bc bs, Y pc ls st h bc bs → z_Sim E p l e R s m args below meth c nL QQ pc ls st h bc bs) (hd : decode cc pc = .ok (.lsub, 1)) (hs : z_step C mi Qz QX Y pc (.lsub) o ls st h bc bs) : z_Sim E p l e R s m args below meth c nL QQ pc ls st h bc bs := by
  obtain ⟨x, y, r, rfl, h1⟩ := z_l2_e hs
  intro H locs cells slots lsA g
  exact lv_lsub hx hb hd (hY _ _ _ _ _ _ h1 H locs cells slots lsA g)
theorem z_sm_lmul (hx : p.tables.exec = Jvm.exec) (hb : c.code = cc) (ho : z_om E) (hY : ∀ pc ls st h bc bs, Y pc ls st h bc bs → z_Sim E p l e R s m args below meth c nL QQ pc ls st h bc bs) (hd : decode cc pc = .ok (.lmul, 1)) (hs : z_step C mi Qz QX Y pc (.lmul) o ls st h bc bs) : z_Sim E p l e R s m args below meth c nL QQ pc ls st h bc bs := by
  obtain ⟨x, y, r, rfl, h1⟩ := z_l2_e hs
  intro H locs cells slots lsA g
  exact lv_lmul hx hb hd (hY _ _ _ _ _ _ h1 H locs cells slots lsA g)
theorem z_sm_lor (hx : p.tables.exec = Jvm.exec) (hb : c.code = cc) (ho : z_om E) (hY : ∀ pc ls st h bc bs, Y pc ls st h bc bs → z_Sim E p l e R s m args below meth c nL QQ pc ls st h bc bs) (hd : decode cc pc = .ok (.lor, 1)) (hs : z_step C mi Qz QX Y pc (.lor) o ls st h bc bs) : z_Sim E p l e R s m args below meth c nL QQ pc ls st h bc bs := by
  obtain ⟨x, y, r, rfl, h1⟩ := z_l2_e hs
  intro H locs cells slots lsA g
  exact lv_lor hx hb hd (hY _ _ _ _ _ _ h1 H locs cells slots lsA g)
theorem z_sm_ldiv (hx : p.tables.exec = Jvm.exec) (hb : c.code = cc) (ho : z_om E) (hY : ∀ pc ls st h bc bs, Y pc ls st h bc bs → z_Sim E p l e R s m args below meth c nL QQ pc ls st h bc bs) (hd : decode cc pc = .ok (.ldiv, 1)) (hs : z_step C mi Qz QX Y pc (.ldiv) o ls st h bc bs) : z_Sim E p l e R s m args below meth c nL QQ pc ls st h bc bs := by
  obtain ⟨x, y, r, rfl, hne, h1⟩ := z_l2_e hs
  intro H locs cells slots lsA g
  exact lv_ldiv hx hb hd hne (hY _ _ _ _ _ _ h1 H locs cells slots lsA g)
theorem z_sm_lrem (hx : p.tables.exec = Jvm.exec) (hb : c.code = cc) (ho : z_om E) (hY : ∀ pc ls st h bc bs, Y pc ls st h bc bs → z_Sim E p l e R s m args below meth c nL QQ pc ls st h bc bs) (hd : decode cc pc = .ok (.lrem, 1)) (hs : z_step C mi Qz QX Y pc (.lrem) o ls st h bc bs) : z_Sim E p l e R s m args below meth c nL QQ pc ls st h bc bs := by
  obtain ⟨x, y, r, rfl, hne, h1⟩ := z_l2_e hs
  intro H locs cells slots lsA g
  exact lv_lrem hx hb hd hne (hY _ _ _ _ _ _ h1 H locs cells slots lsA g)
theorem z_sm_lneg (hx : p.tables.exec = Jvm.exec) (hb : c.code = cc) (ho : z_om E) (hY : ∀ pc ls st h bc bs, Y pc ls st h bc bs → z_Sim E p l e R s m args below meth c nL QQ pc ls st h bc bs) (hd : decode cc pc = .ok (.lneg, 1)) (hs : z_step C mi Qz QX Y pc (.lneg) o ls st h bc bs) : z_Sim E p l e R s m args below meth c nL QQ pc ls st h bc bs := by
  obtain ⟨x, r, rfl, h1⟩ := z_l1_e hs
  intro H locs cells slots lsA g
  exact lv_lneg hx hb hd (hY _ _ _ _ _ _ h1 H locs cells slots lsA g)
theorem z_sm_lshl (hx : p.tables.exec = Jvm.exec) (hb : c.code = cc) (ho : z_om E) (hY : ∀ pc ls st h bc bs, Y pc ls st h bc bs → z_Sim E p l e R s m args below meth c nL QQ pc ls st h bc bs) (hd : decode cc pc = .ok (.lshl, 1)) (hs : z_step C mi Qz QX Y pc (.lshl) o ls st h bc bs) : z_Sim E p l e R s m args below meth c nL QQ pc ls st h bc bs := by
  obtain ⟨x, y, r, rfl, h1⟩ := z_li_e hs
  intro H locs cells slots lsA g
  exact lv_lshl hx hb hd rfl (hY _ _ _ _ _ _ h1 H locs cells slots lsA g)
theorem z_sm_lshr (hx : p.tables.exec = Jvm.exec) (hb : c.code = cc) (ho : z_om E) (hY : ∀ pc ls st h bc bs, Y pc ls st h bc bs → z_Sim E p l e R s m args below meth c nL QQ pc ls st h bc bs) (hd : decode cc pc = .ok (.lshr, 1)) (hs : z_step C mi Qz QX Y pc (.lshr) o ls st h bc bs) : z_Sim E p l e R s m args below meth c nL QQ pc ls st h bc bs := by
  obtain ⟨x, y, r, rfl, h1⟩ := z_li_e hs
  intro H locs cells slots lsA g
  exact lv_lshr hx hb hd rfl (hY _ _ _ _ _ _ h1 H locs cells slots lsA g)
theorem z_sm_lcmp (hx : p.tables.exec = Jvm.exec) (hb : c.code = cc) (ho : z_om E) (hY : ∀ pc ls st h bc bs, Y pc ls st h bc bs → z_Sim E p l e R s m args below meth c nL QQ pc ls st h bc bs) (hd : decode cc pc = .ok (.lcmp, 1)) (hs : z_step C mi Qz QX Y pc (.lcmp) o ls st h bc bs) : z_Sim E p l e R s m args below meth c nL QQ pc ls st h bc bs := by
  obtain ⟨x, y, r, rfl, h1⟩ := z_l2_e hs
  intro H locs cells slots lsA g
  exact W.lcmp hx hb hd (hY _ _ _ _ _ _ h1 H locs cells slots lsA g)
theorem z_sm_dup (hx : p.tables.exec = Jvm.exec) (hb : c.code = cc) (ho : z_om E) (hY : ∀ pc ls st h bc bs, Y pc ls st h bc bs → z_Sim E p l e R s m args below meth c nL QQ pc ls st h bc bs) (hd : decode cc pc = .ok (.dup, 1)) (hs : z_step C mi Qz QX Y pc (.dup) o ls st h bc bs) : z_Sim E p l e R s m args below meth c nL QQ pc ls st h bc bs := by
  match st, hs with
  | v :: r, ⟨hc, h1⟩ =>
    intro H locs cells slots lsA g
    exact lv_dup hx hb hd ((z_v_cat ho v).trans hc) (hY _ _ _ _ _ _ h1 H locs cells slots lsA g)
  | [], hs => exact hs.elim
theorem z_sm_pop (hx : p.tables.exec = Jvm.exec) (hb : c.code = cc) (ho : z_om E) (hY : ∀ pc ls st h bc bs, Y pc ls st h bc bs → z_Sim E p l e R s m args below meth c nL QQ pc ls st h bc bs) (hd : decode cc pc = .ok (.pop, 1)) (hs : z_step C mi Qz QX Y pc (.pop) o ls st h bc bs) : z_Sim E p l e R s m args below meth c nL QQ pc ls st h bc bs := by
  match st, hs with
  | v :: r, ⟨hc, h1⟩ =>
    intro H locs cells slots lsA g
    exact lv_pop hx hb hd ((z_v_cat ho v).trans hc) (hY _ _ _ _ _ _ h1 H locs cells slots lsA g)
  | [], hs => exact hs.elim
theorem z_sm_dup_x1 (hx : p.tables.exec = Jvm.exec) (hb : c.code = cc) (ho : z_om E) (hY : ∀ pc ls st h bc bs, Y pc ls st h bc bs → z_Sim E p l e R s m args below meth c nL QQ pc ls st h bc bs) (hd : decode cc pc = .ok (.dup_x1, 1)) (hs : z_step C mi Qz QX Y pc (.dup_x1) o ls st h bc bs) : z_Sim E p l e R s m args below meth c nL QQ pc ls st h bc bs := by
  match st, hs with
  | v :: w :: r, ⟨hc, hc2, h1⟩ =>
    intro H locs cells slots lsA g
    exact lv_dup_x1 hx hb hd ((z_v_cat ho v).trans hc) ((z_v_cat ho w).trans hc2) (hY _ _ _ _ _ _ h1 H locs cells slots lsA g)
  | [], hs => exact hs.elim
  | [_], hs => exact hs.elim
theorem z_sm_dup2 (hx : p.tables.exec = Jvm.exec) (hb : c.code = cc) (ho : z_om E) (hY : ∀ pc ls st h bc bs, Y pc ls st h bc bs → z_Sim E p l e R s m args below meth c nL QQ pc ls st h bc bs) (hd : decode cc pc = .ok (.dup2, 1)) (hs : z_step C mi Qz QX Y pc (.dup2) o ls st h bc bs) : z_Sim E p l e R s m args below meth c nL QQ pc ls st h bc bs := by
  match st, hs with
  | v :: w :: r, ⟨hc, hc2, h1⟩ =>
    intro H locs cells slots lsA g
    exact lv_dup2_11 hx hb hd ((z_v_cat ho v).trans hc) ((z_v_cat ho w).trans hc2) (hY _ _ _ _ _ _ h1 H locs cells slots lsA g)
  | [], hs => exact hs.elim
  | [_], hs => exact hs.elim
theorem z_sm_goto (hx : p.tables.exec = Jvm.exec) (hb : c.code = cc) (ho : z_om E) (hY : ∀ pc ls st h bc bs, Y pc ls st h bc bs → z_Sim E p l e R s m args below meth c nL QQ pc ls st h bc bs) {off : Int} (ht : (pc : Int) + off = (o.1 : Int)) (hd : decode cc pc = .ok (.goto off, 3)) (hs : z_step C mi Qz QX Y pc (.goto off) o ls st h bc bs) : z_Sim E p l e R s m args below meth c nL QQ pc ls st h bc bs := by
  intro H locs cells slots lsA g
  exact lv_goto hx hb hd ht (hY _ _ _ _ _ _ hs H locs cells slots lsA g)
theorem z_sm_if_eq (hx : p.tables.exec = Jvm.exec) (hb : c.code = cc) (ho : z_om E) (hY : ∀ pc ls st h bc bs, Y pc ls st h bc bs → z_Sim E p l e R s m args below meth c nL QQ pc ls st h bc bs) {off : Int} (ht : (pc : Int) + off = (o.1 : Int)) (hd : decode cc pc = .ok (.ifCond .eq off, 3)) (hs : z_step C mi Qz QX Y pc (.ifCond .eq off) o ls st h bc bs) : z_Sim E p l e R s m args below meth c nL QQ pc ls st h bc bs := by
  obtain ⟨x, r, rfl, h1, h2⟩ := z_i1_e hs
  intro H locs cells slots lsA g
  exact lv_if_eq hx hb hd ht (fun q => hY _ _ _ _ _ _ (h1 q) H locs cells slots lsA g) (fun q => hY _ _ _ _ _ _ (h2 q) H locs cells slots lsA g)
theorem z_sm_icmp_eq (hx : p.tables.exec = Jvm.exec) (hb : c.code = cc) (ho : z_om E) (hY : ∀ pc ls st h bc bs, Y pc ls st h bc bs → z_Sim E p l e R s m args below meth c nL QQ pc ls st h bc bs) {off : Int} (ht : (pc : Int) + off = (o.1 : Int)) (hd : decode cc pc = .ok (.if_icmp .eq off, 3)) (hs : z_step C mi Qz QX Y pc (.if_icmp .eq off) o ls st h bc bs) : z_Sim E p l e R s m args below meth c nL QQ pc ls st h bc bs := by
  obtain ⟨x, y, r, rfl, h1, h2⟩ := z_i2_e hs
  intro H locs cells slots lsA g
  exact lv_icmp_eq hx hb hd ht (fun q => hY _ _ _ _ _ _ (h1 q) H locs cells slots lsA g) (fun q => hY _ _ _ _ _ _ (h2 q) H locs cells slots lsA g)
theorem z_sm_if_ne (hx : p.tables.exec = Jvm.exec) (hb : c.code = cc) (ho : z_om E) (hY : ∀ pc ls st h bc bs, Y pc ls st h bc bs → z_Sim E p l e R s m args below meth c nL QQ pc ls st h bc bs) {off : Int} (ht : (pc : Int) + off = (o.1 : Int)) (hd : decode cc pc = .ok (.ifCond .ne off, 3)) (hs : z_step C mi Qz QX Y pc (.ifCond .ne off) o ls st h bc bs) : z_Sim E p l e R s m args below meth c nL QQ pc ls st h bc bs := by
  obtain ⟨x, r, rfl, h1, h2⟩ := z_i1_e hs
  intro H locs cells slots lsA g
  exact lv_if_ne hx hb hd ht (fun q => hY _ _ _ _ _ _ (h1 q) H locs cells slots lsA g) (fun q => hY _ _ _ _ _ _ (h2 (fun z => z q)) H locs cells slots lsA g)
theorem z_sm_icmp_ne (hx : p.tables.exec = Jvm.exec) (hb : c.code = cc) (ho : z_om E) (hY : ∀ pc ls st h bc bs, Y pc ls st h bc bs → z_Sim E p l e R s m args below meth c nL QQ pc ls st h bc bs) {off : Int} (ht : (pc : Int) + off = (o.1 : Int)) (hd : decode cc pc = .ok (.if_icmp .ne off, 3)) (hs : z_step C mi Qz QX Y pc (.if_icmp .ne off) o ls st h bc bs) : z_Sim E p l e R s m args below meth c nL QQ pc ls st h bc bs := by
  obtain ⟨x, y, r, rfl, h1, h2⟩ := z_i2_e hs
  intro H locs cells slots lsA g
  exact lv_icmp_ne hx hb hd ht (fun q => hY _ _ _ _ _ _ (h1 q) H locs cells slots lsA g) (fun q => hY _ _ _ _ _ _ (h2 (fun z => z q)) H locs cells slots lsA g)
theorem z_sm_if_lt (hx : p.tables.exec = Jvm.exec) (hb : c.code = cc) (ho : z_om E) (hY : ∀ pc ls st h bc bs, Y pc ls st h bc bs → z_Sim E p l e R s m args below meth c nL QQ pc ls st h bc bs) {off : Int} (ht : (pc : Int) + off = (o.1 : Int)) (hd : decode cc pc = .ok (.ifCond .lt off, 3)) (hs : z_step C mi Qz QX Y pc (.ifCond .lt off) o ls st h bc bs) : z_Sim E p l e R s m args below meth c nL QQ pc ls st h bc bs := by
  obtain ⟨x, r, rfl, h1, h2⟩ := z_i1_e hs
  intro H locs cells slots lsA g
  exact lv_if_lt hx hb hd ht (fun q => hY _ _ _ _ _ _ (h1 q) H locs cells slots lsA g) (fun q => hY _ _ _ _ _ _ (h2 q) H locs cells slots lsA g)
theorem z_sm_icmp_lt (hx : p.tables.exec = Jvm.exec) (hb : c.code = cc) (ho : z_om E) (hY : ∀ pc ls st h bc bs, Y pc ls st h bc bs → z_Sim E p l e R s m args below meth c nL QQ pc ls st h bc bs) {off : Int} (ht : (pc : Int) + off = (o.1 : Int)) (hd : decode cc pc = .ok (.if_icmp .lt off, 3)) (hs : z_step C mi Qz QX Y pc (.if_icmp .lt off) o ls st h bc bs) : z_Sim E p l e R s m args below meth c nL QQ pc ls st h bc bs := by
  obtain ⟨x, y, r, rfl, h1, h2⟩ := z_i2_e hs
  intro H locs cells slots lsA g
  exact lv_icmp_lt hx hb hd ht (fun q => hY _ _ _ _ _ _ (h1 q) H locs cells slots lsA g) (fun q => hY _ _ _ _ _ _ (h2 q) H locs cells slots lsA g)
theorem z_sm_if_ge (hx : p.tables.exec = Jvm.exec) (hb : c.code = cc) (ho : z_om E) (hY : ∀ pc ls st h bc bs, Y pc ls st h bc bs → z_Sim E p l e R s m args below meth c nL QQ pc ls st h bc bs) {off : Int} (ht : (pc : Int) + off = (o.1 : Int)) (hd : decode cc pc = .ok (.ifCond .ge off, 3)) (hs : z_step C mi Qz QX Y pc (.ifCond .ge off) o ls st h bc bs) : z_Sim E p l e R s m args below meth c nL QQ pc ls st h bc bs := by
  obtain ⟨x, r, rfl, h1, h2⟩ := z_i1_e hs
  intro H locs cells slots lsA g
  exact lv_if_ge hx hb hd ht (fun q => hY _ _ _ _ _ _ (h1 q) H locs cells slots lsA g) (fun q => hY _ _ _ _ _ _ (h2 q) H locs cells slots lsA g)
theorem z_sm_icmp_ge (hx : p.tables.exec = Jvm.exec) (hb : c.code = cc) (ho : z_om E) (hY : ∀ pc ls st h bc bs, Y pc ls st h bc bs → z_Sim E p l e R s m args below meth c nL QQ pc ls st h bc bs) {off : Int} (ht : (pc : Int) + off = (o.1 : Int)) (hd : decode cc pc = .ok (.if_icmp .ge off, 3)) (hs : z_step C mi Qz QX Y pc (.if_icmp .ge off) o ls st h bc bs) : z_Sim E p l e R s m args below meth c nL QQ pc ls st h bc bs := by
  obtain ⟨x, y, r, rfl, h1, h2⟩ := z_i2_e hs
  intro H locs cells slots lsA g
  exact lv_icmp_ge hx hb hd ht (fun q => hY _ _ _ _ _ _ (h1 q) H locs cells slots lsA g) (fun q => hY _ _ _ _ _ _ (h2 q) H locs cells slots lsA g)
theorem z_sm_if_gt (hx : p.tables.exec = Jvm.exec) (hb : c.code = cc) (ho : z_om E) (hY : ∀ pc ls st h bc bs, Y pc ls st h bc bs → z_Sim E p l e R s m args below meth c nL QQ pc ls st h bc bs) {off : Int} (ht : (pc : Int) + off = (o.1 : Int)) (hd : decode cc pc = .ok (.ifCond .gt off, 3)) (hs : z_step C mi Qz QX Y pc (.ifCond .gt off) o ls st h bc bs) : z_Sim E p l e R s m args below meth c nL QQ pc ls st h bc bs := by
  obtain ⟨x, r, rfl, h1, h2⟩ := z_i1_e hs
  intro H locs cells slots lsA g
  exact lv_if_gt hx hb hd ht (fun q => hY _ _ _ _ _ _ (h1 q) H locs cells slots lsA g) (fun q => hY _ _ _ _ _ _ (h2 q) H locs cells slots lsA g)
theorem z_sm_icmp_gt (hx : p.tables.exec = Jvm.exec) (hb : c.code = cc) (ho : z_om E) (hY : ∀ pc ls st h bc bs, Y pc ls st h bc bs → z_Sim E p l e R s m args below meth c nL QQ pc ls st h bc bs) {off : Int} (ht : (pc : Int) + off = (o.1 : Int)) (hd : decode cc pc = .ok (.if_icmp .gt off, 3)) (hs : z_step C mi Qz QX Y pc (.if_icmp .gt off) o ls st h bc bs) : z_Sim E p l e R s m args below meth c nL QQ pc ls st h bc bs := by
  obtain ⟨x, y, r, rfl, h1, h2⟩ := z_i2_e hs
  intro H locs cells slots lsA g
  exact lv_icmp_gt hx hb hd ht (fun q => hY _ _ _ _ _ _ (h1 q) H locs cells slots lsA g) (fun q => hY _ _ _ _ _ _ (h2 q) H locs cells slots lsA g)
theorem z_sm_if_le (hx : p.tables.exec = Jvm.exec) (hb : c.code = cc) (ho : z_om E) (hY : ∀ pc ls st h bc bs, Y pc ls st h bc bs → z_Sim E p l e R s m args below meth c nL QQ pc ls st h bc bs) {off : Int} (ht : (pc : Int) + off = (o.1 : Int)) (hd : decode cc pc = .ok (.ifCond .le off, 3)) (hs : z_step C mi Qz QX Y pc (.ifCond .le off) o ls st h bc bs) : z_Sim E p l e R s m args below meth c nL QQ pc ls st h bc bs := by
  obtain ⟨x, r, rfl, h1, h2⟩ := z_i1_e hs
  intro H locs cells slots lsA g
  exact lv_if_le hx hb hd ht (fun q => hY _ _ _ _ _ _ (h1 q) H locs cells slots lsA g) (fun q => hY _ _ _ _ _ _ (h2 q) H locs cells slots lsA g)
theorem z_sm_icmp_le (hx : p.tables.exec = Jvm.exec) (hb : c.code = cc) (ho : z_om E) (hY : ∀ pc ls st h bc bs, Y pc ls st h bc bs → z_Sim E p l e R s m args below meth c nL QQ pc ls st h bc bs) {off : Int} (ht : (pc : Int) + off = (o.1 : Int)) (hd : decode cc pc = .ok (.if_icmp .le off, 3)) (hs : z_step C mi Qz QX Y pc (.if_icmp .le off) o ls st h bc bs) : z_Sim E p l e R s m args below meth c nL QQ pc ls st h bc bs := by
  obtain ⟨x, y, r, rfl, h1, h2⟩ := z_i2_e hs
  intro H locs cells slots lsA g
  exact lv_icmp_le hx hb hd ht (fun q => hY _ _ _ _ _ _ (h1 q) H locs cells slots lsA g) (fun q => hY _ _ _ _ _ _ (h2 q) H locs cells slots lsA g)
theorem z_sm_ifnull (hx : p.tables.exec = Jvm.exec) (hb : c.code = cc) (ho : z_om E) (hY : ∀ pc ls st h bc bs, Y pc ls st h bc bs → z_Sim E p l e R s m args below meth c nL QQ pc ls st h bc bs) {off : Int} (ht : (pc : Int) + off = (o.1 : Int)) (hd : decode cc pc = .ok (.ifnull off, 3)) (hs : z_step C mi Qz QX Y pc (.ifnull off) o ls st h bc bs) : z_Sim E p l e R s m args below meth c nL QQ pc ls st h bc bs := by
  match st, hs with
  | .ref a :: r, h1 =>
    intro H locs cells slots lsA g
    exact lv_ifnull hx hb hd (hY _ _ _ _ _ _ h1 H locs cells slots lsA g)
  | .null :: r, h1 =>
    intro H locs cells slots lsA g
    exact lv_ifnullN hx hb hd ht (hY _ _ _ _ _ _ h1 H locs cells slots lsA g)
theorem z_sm_ifnonnull (hx : p.tables.exec = Jvm.exec) (hb : c.code = cc) (ho : z_om E) (hY : ∀ pc ls st h bc bs, Y pc ls st h bc bs → z_Sim E p l e R s m args below meth c nL QQ pc ls st h bc bs) {off : Int} (ht : (pc : Int) + off = (o.1 : Int)) (hd : decode cc pc = .ok (.ifnonnull off, 3)) (hs : z_step C mi Qz QX Y pc (.ifnonnull off) o ls st h bc bs) : z_Sim E p l e R s m args below meth c nL QQ pc ls st h bc bs := by
  match st, hs with
  | .ref a :: r, h1 =>
    intro H locs cells slots lsA g
    exact lv_ifnonnull hx hb hd ht (hY _ _ _ _ _ _ h1 H locs cells slots lsA g)
  | .null :: r, h1 =>
    intro H locs cells slots lsA g
    exact lv_ifnonnullN hx hb hd (hY _ _ _ _ _ _ h1 H locs cells slots lsA g)
theorem z_sw_table {x : Int32} {d : Nat → Prop} {dt : Nat} : ∀ (l : List (Int × Nat)) (lo : Int), (∀ i : Nat, i < l.length → ∃ t, l[i]? = some (lo + i, t)) → -2147483648 ≤ lo → lo + l.length ≤ 2147483647 → z_sw x d dt l → (∃ (i t : Nat) (k : Int), l[i]? = some (k, t) ∧ x.toInt = lo + i ∧ d t) ∨ ((x.toInt < lo ∨ lo + l.length ≤ x.toInt) ∧ d dt)
  | [], lo, _, _, _, h => Or.inr ⟨by simp only [List.length_nil]; omega, h⟩
  | (k, t) :: l, lo, hk, h1, h2, h => by
    have e0 : k = lo := by
      obtain ⟨t', ht'⟩ := hk 0 (by simp)
      simp at ht'
      exact ht'.1
    subst e0
    have hl : (k + 1) + (l.length : Int) = k + ((k, t) :: l).length := by simp; omega
    by_cases hx : x = Int32.ofInt k
    · left
      refine ⟨0, t, k, rfl, ?_, h.1 hx⟩
      rw [hx, Int32.toInt_ofInt_of_le (by omega) (by simp at h2; omega)]
      omega
    · have hne : ¬ x.toInt = k := by
        intro q
        apply hx
        rw [← q, Int32.ofInt_toInt]
      rcases z_sw_table l (k + 1) (fun i hi => by
        obtain ⟨t', ht'⟩ := hk (i + 1) (by simp; omega)
        refine ⟨t', ?_⟩
        rw [List.getElem?_cons_succ] at ht'
        rw [ht']
        congr 2
        omega) (by omega) (by rw [hl]; exact h2) (h.2 hx) with ⟨i, t', k', e1, e2, e3⟩ | ⟨e1, e2⟩
      · left
        exact ⟨i + 1, t', k', e1, by rw [e2]; omega, e3⟩
      · right
        exact ⟨by rw [← hl]; omega, e2⟩
theorem z_sm_tableswitch (hx : p.tables.exec = Jvm.exec) (hb : c.code = cc) (ho : z_om E) (hY : ∀ pc ls st h bc bs, Y pc ls st h bc bs → z_Sim E p l e R s m args below meth c nL QQ pc ls st h bc bs) {df lo hi : Int} {offs : Array Int} {len : Nat} (hk : ∀ i : Nat, i < o.2.2.2.length → ∃ t, o.2.2.2[i]? = some (lo + i, t)) (hb1 : -2147483648 ≤ lo) (hb2 : lo + o.2.2.2.length ≤ 2147483647) (hhi : hi + 1 = lo + o.2.2.2.length) (hto : ∀ (i t : Nat) (k : Int), o.2.2.2[i]? = some (k, t) → ∃ off, offs[i]? = some off ∧ (pc : Int) + off = (t : Int)) (hdf : (pc : Int) + df = (o.1 : Int)) (hd : decode cc pc = .ok (.tableswitch df lo hi offs, len)) (hs : z_step C mi Qz QX Y pc (.tableswitch df lo hi offs) o ls st h bc bs) : z_Sim E p l e R s m args below meth c nL QQ pc ls st h bc bs := by
  obtain ⟨x, r, rfl, h1⟩ := z_i1_e hs
  intro H locs cells slots lsA g
  rcases z_sw_table _ lo hk hb1 hb2 h1 with ⟨i, t, k, e1, e2, h3⟩ | ⟨e1, h3⟩
  · obtain ⟨off, q1, q2⟩ := hto i t k e1
    have hi1 : i < o.2.2.2.length := (List.getElem?_eq_some_iff.mp e1).1
    exact lv_tableIn hx hb hd (by omega) (by omega) (by rw [e2, show (lo + (i : Int) - lo).toNat = i by omega]; exact q1) q2 (hY _ _ _ _ _ _ h3 H locs cells slots lsA g)
  · exact lv_tableOut hx hb hd (by rcases e1 with q | q <;> omega) hdf (hY _ _ _ _ _ _ h3 H locs cells slots lsA g)
theorem z_sw_look {x : Int32} {d : Nat → Prop} {dt : Nat} {df : Int} {pc : Nat} (hdf : (pc : Int) + df = (dt : Int)) : ∀ (l : List (Int × Nat)) (ps : List (Int × Int)), l.length = ps.length → (∀ (i : Nat) (k : Int) (t : Nat) (q : Int × Int), l[i]? = some (k, t) → ps[i]? = some q → q.1 = k ∧ (pc : Int) + q.2 = (t : Int) ∧ -2147483648 ≤ k ∧ k ≤ 2147483647) → z_sw x d dt l → ∃ (off : Int) (t : Nat), Op.lookupswitch.offset ps df x.toInt = off ∧ (pc : Int) + off = (t : Int) ∧ d t
  | [], [], _, _, h => ⟨df, dt, by simp [Op.lookupswitch.offset], hdf, h⟩
  | (k, t) :: l, [], hl, _, _ => by simp at hl
  | [], q :: ps, hl, _, _ => by simp at hl
  | (k, t) :: l, (k', off) :: ps, hl, hk, h => by
    obtain ⟨e1, e2, e3, e4⟩ := hk 0 k t (k', off) rfl rfl
    dsimp only at e1 e2
    subst e1
    rw [Op.lookupswitch.offset_cons]
    by_cases hx : x = Int32.ofInt k'
    · refine ⟨off, t, ?_, e2, h.1 hx⟩
      rw [if_pos]
      rw [hx, Int32.toInt_ofInt_of_le (by omega) (by omega)]
    · obtain ⟨off', t', q1, q2, q3⟩ := z_sw_look hdf l ps (by simpa using hl) (fun i k t q a b => hk (i + 1) k t q a b) (h.2 hx)
      refine ⟨off', t', ?_, q2, q3⟩
      rw [if_neg]
      · exact q1
      · intro q
        apply hx
        first | rw [q, Int32.ofInt_toInt] | rw [← q, Int32.ofInt_toInt]
theorem z_sm_lookupswitch (hx : p.tables.exec = Jvm.exec) (hb : c.code = cc) (ho : z_om E) (hY : ∀ pc ls st h bc bs, Y pc ls st h bc bs → z_Sim E p l e R s m args below meth c nL QQ pc ls st h bc bs) {df : Int} {ps : Array (Int × Int)} {len : Nat} (hp : (ps.toList.zip (ps.toList.drop 1)).all (fun (a, next) => a.1 < next.1) = true) (hlen : o.2.2.2.length = ps.toList.length) (hk : ∀ (i : Nat) (k : Int) (t : Nat) (q : Int × Int), o.2.2.2[i]? = some (k, t) → ps.toList[i]? = some q → q.1 = k ∧ (pc : Int) + q.2 = (t : Int) ∧ -2147483648 ≤ k ∧ k ≤ 2147483647) (hdf : (pc : Int) + df = (o.1 : Int)) (hd : decode cc pc = .ok (.lookupswitch df ps, len)) (hs : z_step C mi Qz QX Y pc (.lookupswitch df ps) o ls st h bc bs) : z_Sim E p l e R s m args below meth c nL QQ pc ls st h bc bs := by
  obtain ⟨x, r, rfl, h1⟩ := z_i1_e hs
  intro H locs cells slots lsA g
  obtain ⟨off, t, q1, q2, q3⟩ := z_sw_look hdf _ _ hlen hk h1
  exact lv_lookup hx hb hd hp q1 q2 (hY _ _ _ _ _ _ q3 H locs cells slots lsA g)
end ZOps
