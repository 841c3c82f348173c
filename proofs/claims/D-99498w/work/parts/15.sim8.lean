/-! THE PURE MACHINE AGAINST THE JVM, 8: casts, comparison of references, constants, statics, copies, natives -/
set_option maxRecDepth 100000
theorem z_sel_mem {k j : Nat} : ∀ {l : List (Int × Nat)}, z_sel k l = some j → ((k : Int), j) ∈ l
  | [], h => by cases h
  | (c, j') :: l, h => by
    unfold z_sel at h
    by_cases q : (k : Int) = c
    · rw [if_pos q] at h
      cases h
      rw [q]
      exact List.mem_cons_self
    · rw [if_neg q] at h
      exact List.mem_cons_of_mem _ (z_sel_mem h)
section ZMisc
variable {E : z_E} {p : Program} {l : Launch} {e : Env} {R : Room} {s : State} {m : MethodId} {args : Array Value} {below : List Frame} {meth : Method} {c : Code} {nL : Nat} {QQ : State → Prop} {cc : ByteArray}
variable {C : z_K} {mi : z_M} {Qz : z_Q} {QX : z_X} {Y : z_C} {pc : Nat} {o : z_O} {ls : z_L} {st : List Value} {h : z_H} {bc bs : Nat}
theorem z_sm_checkcast {index : Nat} {nm : String} (hx : p.tables.exec = Jvm.exec) (hb : c.code = cc) {own : String} (hown : s.vm.findClass own = some m.cls) (hlk : (Cond.classLink own index nm).before args s = true) (hl : ∀ q ∈ o.2.2.2, ∃ k : Nat, q.1 = (k : Int) ∧ k < 20 ∧ (va_Nw (.castable (z_R k) nm) s ∨ z_R k = nm)) (hS : z_HS E s) (hK : va_K E.2.2.2.1 z_cl (z_tys E) s) (hY : ∀ pc ls st h bc bs, Y pc ls st h bc bs → z_Sim E p l e R s m args below meth c nL QQ pc ls st h bc bs) (hd : decode cc pc = .ok (.checkcast index, 3)) (hs : z_step C mi Qz QX Y pc (.checkcast index) o ls st h bc bs) : z_Sim E p l e R s m args below meth c nL QQ pc ls st h bc bs := by
  obtain ⟨a, r, rfl, hk, h1⟩ := z_r1_e hs
  intro H locs cells slots lsA g
  obtain ⟨j, hj⟩ := Option.isSome_iff_exists.mp hk
  obtain ⟨k, e1, e2, e3⟩ := hl _ (z_sel_mem hj)
  have e4 : z_k h a = k := by
    dsimp only at e1
    omega
  obtain ⟨cell, g1, g2, g3, g4⟩ := z_obj_cell (a := a) g.1 hS hK (by omega)
  rw [e4] at g3
  have h2 := hY _ _ _ _ _ _ h1 H locs cells slots lsA g
  rcases e3 with e3 | e3
  · exact va_castY hx hb hown hlk e3 ⟨cell, g1, g2, g3⟩ hd h2
  · subst e3
    exact va_castS hx hb hown hlk (hK.1 _ _ (z_cl_at _ e2)).2 ⟨cell, g1, g2, g3⟩ hd h2
theorem z_sm_acmp_eq {off : Int} (hx : p.tables.exec = Jvm.exec) (hb : c.code = cc) (ht : (pc : Int) + off = (o.1 : Int)) (hS : z_HS E s) (hY : ∀ pc ls st h bc bs, Y pc ls st h bc bs → z_Sim E p l e R s m args below meth c nL QQ pc ls st h bc bs) (hd : decode cc pc = .ok (.if_acmp .eq off, 3)) (hs : z_step C mi Qz QX Y pc (.if_acmp .eq off) o ls st h bc bs) : z_Sim E p l e R s m args below meth c nL QQ pc ls st h bc bs := by
  match st, hs with
  | .ref b :: .ref a :: r, ⟨hc, h1, h2⟩ =>
    intro H locs cells slots lsA g
    have inj : z_f E a = z_f E b → a = b := by
      intro q
      rcases hc with hc | hc | hc
      · exact hc
      · by_cases hb3 : b < 317
        · have := (hS b hb3).1
          rw [z_f_dyn hc, z_f_sta hb3] at q
          omega
        · exact z_f_inj hc (Nat.not_lt.mp hb3) q
      · by_cases ha3 : a < 317
        · have := (hS a ha3).1
          rw [z_f_dyn hc, z_f_sta ha3] at q
          omega
        · exact z_f_inj (Nat.not_lt.mp ha3) hc q
    exact lv_acmp_eq (rx := some (z_f E a)) (ry := some (z_f E b)) hx hb hd ht (fun q => hY _ _ _ _ _ _ (h1 (inj (Option.some.inj q))) H locs cells slots lsA g) (fun q => hY _ _ _ _ _ _ (h2 (fun z => q (by rw [z]))) H locs cells slots lsA g)
theorem z_sm_acmp_ne {off : Int} (hx : p.tables.exec = Jvm.exec) (hb : c.code = cc) (ho : z_om E) (ht : (pc : Int) + off = (o.1 : Int)) (hY : ∀ pc ls st h bc bs, Y pc ls st h bc bs → z_Sim E p l e R s m args below meth c nL QQ pc ls st h bc bs) (hd : decode cc pc = .ok (.if_acmp .ne off, 3)) (hs : z_step C mi Qz QX Y pc (.if_acmp .ne off) o ls st h bc bs) : z_Sim E p l e R s m args below meth c nL QQ pc ls st h bc bs := by
  match st, hs with
  | .float b :: .float a :: r, ⟨hc, h1⟩ =>
    subst hc
    intro H locs cells slots lsA g
    have h2 := hY _ _ _ _ _ _ h1 H locs cells slots lsA g
    show W p l e R s m args below meth c H locs cells slots QQ (F0 m pc lsA (E.2.1 a :: E.2.1 a :: r.map (z_v E)))
    obtain ⟨rx, hrx⟩ : ∃ rx : Option Nat, E.2.1 a = va_rf rx := by
      rcases ho a with q | ⟨z, q⟩
      · exact ⟨none, q⟩
      · exact ⟨some z, q⟩
    rw [hrx]
    first
      | exact lv_acmp_ne (rx := rx) (ry := rx) hx hb hd ht (fun q => absurd rfl q) (fun _ => h2)
      | exact lv_acmp_ne (rx := rx) (ry := rx) hx hb hd ht (fun _ => h2) (fun q => absurd rfl q)
def z_gsv (t v : Nat) : Value := match t with
  | 0 => .int (Int32.ofNat v)
  | 1 => .ref v
  | _ => .float (UInt32.ofNat v)
/-- a static field: what it holds at the law's start, and a link to it -/
def z_okG (E : z_E) (s : State) (args : Array Value) (own : String) (index t v : Nat) : Prop :=
  ∃ C n d ref : String, va_Z C n d (z_v E (z_gsv t v)) (fun q => E.2.2.1.size ≤ q) s E.2.2.1 ∧ (Cond.fieldLink own index ref n d).before args s = true ∧ (∀ x, s.fieldFound? C n d = some x → s.fieldFound? ref n d = some x)
theorem z_sm_getstatic {index : Nat} (hx : p.tables.exec = Jvm.exec) (hb : c.code = cc) {own : String} (hown : s.vm.findClass own = some m.cls) (hok : z_okG E s args own index o.1 o.2.1) (hY : ∀ pc ls st h bc bs, Y pc ls st h bc bs → z_Sim E p l e R s m args below meth c nL QQ pc ls st h bc bs) (hd : decode cc pc = .ok (.getstatic index, 3)) (hs : z_step C mi Qz QX Y pc (.getstatic index) o ls st h bc bs) : z_Sim E p l e R s m args below meth c nL QQ pc ls st h bc bs := by
  have h1 : Y (pc + 3) ls (z_gsv o.1 o.2.1 :: st) h bc bs := by
    unfold z_step at hs
    dsimp only at hs
    unfold z_gsv
    generalize o.1 = t at hs
    match t, hs with
    | 0, hs => exact hs
    | 1, hs => exact hs
    | 2, hs => exact hs
  intro H locs cells slots lsA g
  obtain ⟨C0, n, d, ref, ⟨cf, kf, fi, f, a, cell, q1, q2, q3, q4, q5, q6, q7, q8⟩, hl, hsame⟩ := hok
  have ha : a < E.2.2.1.size := Nat.not_le.mp q8
  exact W.gets hx hb hown hl (hsame _ q1) q2 q3 q4 (by rw [g.1.2.2.1 a ha]; exact q5) (by intro z; rw [z] at q6; cases q6) q7 rfl hd (hY _ _ _ _ _ _ h1 H locs cells slots lsA g)
/-- a constant: an int, a string, a class -/
def z_okC (E : z_E) (s : State) (args : Array Value) (own : String) (index t v : Nat) : Prop := match t with
  | 0 => (Jvm.Cond.constant own index (Int32.ofNat v)).before args s = true
  | 1 => ∃ tx, vk_R own index tx (E.1 v) s ∧ v < 317
  | _ => ∃ (D : String) (mi : Nat), va_Mi D mi s ∧ E.2.1 (UInt32.ofNat v) = .ref mi ∧ (Cond.classLink own index D).before args s = true
theorem z_sm_ldc {index : Nat} (hx : p.tables.exec = Jvm.exec) (hb : c.code = cc) {own : String} (hown : s.vm.findClass own = some m.cls) (hok : z_okC E s args own index o.1 o.2.1) (hY : ∀ pc ls st h bc bs, Y pc ls st h bc bs → z_Sim E p l e R s m args below meth c nL QQ pc ls st h bc bs) (hd : decode cc pc = .ok (.ldc index, 2)) (hs : z_step C mi Qz QX Y pc (.ldc index) o ls st h bc bs) : z_Sim E p l e R s m args below meth c nL QQ pc ls st h bc bs := by
  intro H locs cells slots lsA g
  unfold z_step at hs
  dsimp only at hs
  unfold z_okC at hok
  generalize o.1 = t at hs hok
  match t, hs, hok with
  | 0, hs, hok => exact W.ldc hx hb hown hok rfl hd (hY _ _ _ _ _ _ hs H locs cells slots lsA g)
  | 1, hs, ⟨tx, h1, h2⟩ =>
    have h3 := hY _ _ _ _ _ _ hs H locs cells slots lsA g
    rw [List.map_cons] at h3
    have e1 : z_v E (.ref o.2.1) = .ref (E.1 o.2.1) := by show Value.ref (z_f E o.2.1) = _; rw [z_f_sta h2]
    rw [e1] at h3
    exact va_ldcS hx hb hown h1 hd h3
  | 2, hs, ⟨D, mi, h1, h2, h4⟩ =>
    have h3 := hY _ _ _ _ _ _ hs H locs cells slots lsA g
    rw [List.map_cons] at h3
    have e1 : z_v E (.float (UInt32.ofNat o.2.1)) = .ref mi := h2
    rw [e1] at h3
    exact va_ldcM hx hb hown h4 h1 hd h3
theorem z_sm_ldc_w {index : Nat} (hx : p.tables.exec = Jvm.exec) (hb : c.code = cc) {own : String} (hown : s.vm.findClass own = some m.cls) (hok : (Jvm.Cond.constant own index (Int32.ofNat o.2.1)).before args s = true) (hY : ∀ pc ls st h bc bs, Y pc ls st h bc bs → z_Sim E p l e R s m args below meth c nL QQ pc ls st h bc bs) (hd : decode cc pc = .ok (.ldc_w index, 3)) (hs : z_step C mi Qz QX Y pc (.ldc_w index) o ls st h bc bs) : z_Sim E p l e R s m args below meth c nL QQ pc ls st h bc bs := by
  intro H locs cells slots lsA g
  exact lv_ldcw hx hb hown hok hd (hY _ _ _ _ _ _ hs H locs cells slots lsA g)
theorem z_sm_ldc2_w {index : Nat} (hx : p.tables.exec = Jvm.exec) (hb : c.code = cc) {own : String} (hown : s.vm.findClass own = some m.cls) (hok : ∀ q ∈ o.2.2.2, (Jvm.Cond.constantLong own index (Int64.ofInt q.1)).before args s = true) (hY : ∀ pc ls st h bc bs, Y pc ls st h bc bs → z_Sim E p l e R s m args below meth c nL QQ pc ls st h bc bs) (hd : decode cc pc = .ok (.ldc2_w index, 3)) (hs : z_step C mi Qz QX Y pc (.ldc2_w index) o ls st h bc bs) : z_Sim E p l e R s m args below meth c nL QQ pc ls st h bc bs := by
  intro H locs cells slots lsA g
  unfold z_step at hs
  dsimp only at hs
  generalize o.2.2.2 = ll at hs hok
  match ll, hs, hok with
  | (v, j) :: tl, hs, hok => exact W.ldc2 hx hb hown (hok _ List.mem_cons_self) rfl hd (hY _ _ _ _ _ _ hs H locs cells slots lsA g)
theorem z_nn (z : Int32) (hz : ¬ z < 0) : z.toInt = (z.toNatClampNeg : Int) := by
  have hz0 : (0 : Int) ≤ z.toInt := by
    have := Int32.not_lt.mp hz
    simpa using Int32.le_iff_toInt_le.mp this
  show z.toInt = ((z.toInt.toNat : Nat) : Int)
  omega
/-- what a copy asks of the tables -/
def z_okA (s : State) (args : Array Value) (own : String) (index : Nat) : Prop := (Cond.methodLink own index arraycopyName).before args s = true ∧ (Cond.native arraycopyName).before args s = true ∧ (Cond.static arraycopyName).before args s = true ∧ (Cond.initialized "java/lang/System").before args s = true
theorem z_copy_go {index : Nat} {H : Heap} {locs : List Loc} {cells slots : Nat} {lsA : Array Slot} {a b : Nat} {sp dp n : Int32} {r : List Value} (hx : p.tables.exec = Jvm.exec) (hb : c.code = cc) (hml : c.maxLocals = nL) {own : String} (hown : s.vm.findClass own = some m.cls) (hok : z_okA s args own index) (hRf : 1 ≤ R.frames) (hRl : 40 ≤ R.locals) (hK : va_K E.2.2.2.1 z_cl (z_tys E) s) (ho : z_om E)
    (g : z_Gd E s R nL ls h bc bs H locs cells slots lsA) (ha : 317 ≤ a) (hb3 : 317 ≤ b) (hwt : z_wt r ≤ 8) (hka : 100 ≤ z_k h a ∧ z_k h a < 110) (hkb : z_k h b = z_k h a) (h1 : ¬ sp < 0) (h2 : ¬ dp < 0) (h3 : ¬ n < 0) (h4 : sp.toNatClampNeg + n.toNatClampNeg ≤ z_n h a) (h5 : dp.toNatClampNeg + n.toNatClampNeg ≤ z_n h b)
    (hty : ((refKind (z_aty (z_k h a)) != refKind (z_aty (z_k h a))) || (!refKind (z_aty (z_k h a)) && z_aty (z_k h a) != z_aty (z_k h a))) = false)
    (hvals : ∀ (T : State) (vm' : Vm) (dComp : ClassId) (kd : Class), T.heap = H → s.vm.Alike vm' → s.vm.classes[E.2.2.2.2.1 (z_k h b - 100)]? = some kd → kd.kind = .array dComp (z_aty (z_k h a)) → ∀ i, i < n.toNatClampNeg → fits (z_aty (z_k h a)) (z_av E h a (sp.toNatClampNeg + i)) = true ∧ (T.setVm vm').takes dComp (z_av E h a (sp.toNatClampNeg + i)))
    (hd : decode cc pc = .ok (.invokestatic index, 3))
    (kk : ∀ (H1 : Heap) (locs1 : List Loc), H1[z_f E b]? = some (arrV (E.2.2.2.2.1 (z_k h b - 100)) (z_n h b) (va_cpy (z_av E h a) (z_av E h b) sp.toNatClampNeg dp.toNatClampNeg n.toNatClampNeg)) → H1.size = H.size → (∀ q, q ≠ z_f E b → H1[q]? = H[q]?) → (∀ q ∈ locs1, E.2.2.1.size ≤ q.base) → W p l e R s m args below meth c H1 locs1 cells slots QQ (F0 m (pc + 3) lsA (r.map (z_v E)))) :
    W p l e R s m args below meth c H locs cells slots QQ (F0 m pc lsA ((.int n :: .int dp :: .ref b :: .int sp :: .ref a :: r).map (z_v E))) := by
  obtain ⟨hl, hnat, hstat, hini⟩ := hok
  obtain ⟨c1, c2, c3⟩ := z_dyn_cell (a := a) g.1 hK ha hka.1 hka.2
  obtain ⟨d1, d2, d3⟩ := z_dyn_cell (a := b) g.1 hK hb3 (by omega) (by omega)
  obtain ⟨-, k0, hk0, cm0, hkk0⟩ := c2
  obtain ⟨-, k1, hk1, cm1, hkk1⟩ := d2
  rw [show z_aty (z_k h b) = z_aty (z_k h a) by rw [hkb]] at hkk1
  intro T hT X
  have hwt2 : ((r.map (z_v E)).map fun v => v.category).sum ≤ 8 := by
    have : (r.map (z_v E)).map (fun v => v.category) = r.map fun v => v.category := by
      rw [List.map_map]
      apply List.map_congr_left
      intro v _
      exact z_v_cat ho v
    rw [this]
    exact hwt
  obtain ⟨vm', X', step⟩ := X.arraycopy hx hown hl hnat hstat hini (src := z_f E a) (dst := z_f E b) (srcPos := sp) (destPos := dp) (n := n) (by rw [hT]; exact c1) (by rw [hT]; exact d1)
    (fun _ z => by cases z) (fun _ z => by cases z) (fun z => by cases z) (fun z => by cases z) hk0 hk1 hkk0 hkk1 hty h1 h2 h3
    (by rw [z_nn sp h1, z_nn n h3, arrV_size]; omega)
    (by rw [z_nn dp h2, z_nn n h3, arrV_size]; omega)
    (fun vm₁ hal i hi => by
      have e : (arrV (E.2.2.2.2.1 (z_k h a - 100)) (z_n h a) (z_av E h a)).slots.getD (sp.toNatClampNeg + i) .null = z_av E h a (sp.toNatClampNeg + i) := by
        rw [Array.getD_eq_getD_getElem?, arrV_read _ _ (by omega)]
        rfl
      rw [e]
      exact hvals T vm₁ cm1 k1 hT hal hk1 hkk1 i hi)
    (g := F0 m pc lsA ((.int n :: .int dp :: .ref b :: .int sp :: .ref a :: r).map (z_v E))) rfl (by rw [hml]; exact g.2.2.2.1.1) (rest := r.map (z_v E)) rfl (by rw [hb]; exact hd) hRf (by
      have hw : nativeFrameWords "java/lang/System" "arraycopy" 5 ≤ 16 := by decide
      show 2 * 0 + _ + _ ≤ _
      omega)
  have e1 : copied (arrV (E.2.2.2.2.1 (z_k h a - 100)) (z_n h a) (z_av E h a)) (arrV (E.2.2.2.2.1 (z_k h b - 100)) (z_n h b) (z_av E h b)) sp dp n = arrV (E.2.2.2.2.1 (z_k h b - 100)) (z_n h b) (va_cpy (z_av E h a) (z_av E h b) sp.toNatClampNeg dp.toNatClampNeg n.toNatClampNeg) := va_copied (fun z => z) _ _ (z_av E h a) (z_av E h b) h4
  rw [e1] at X' step
  have hlt : z_f E b < H.size := (Array.getElem?_eq_some_iff.mp d1).1
  have hheap : ((T.setVm vm').setCell (z_f E b) (arrV (E.2.2.2.2.1 (z_k h b - 100)) (z_n h b) (va_cpy (z_av E h a) (z_av E h b) sp.toNatClampNeg dp.toNatClampNeg n.toNatClampNeg))).heap = H.setIfInBounds (z_f E b) (arrV (E.2.2.2.2.1 (z_k h b - 100)) (z_n h b) (va_cpy (z_av E h a) (z_av E h b) sp.toNatClampNeg dp.toNatClampNeg n.toNatClampNeg)) := by rw [← hT]; rfl
  obtain ⟨t, a1, b1⟩ := kk _ _ (by rw [hheap]; simp [Array.getElem?_setIfInBounds, hlt]) (by rw [hheap]; simp) (fun q hq => by rw [hheap]; simp [Array.getElem?_setIfInBounds, Ne.symm hq]) (fun q hq => by
      rcases List.mem_append.mp hq with q1 | q1
      · exact g.2.2.1 q q1
      · obtain ⟨z, -, hz⟩ := List.mem_map.mp q1
        rw [← hz]
        show E.2.2.1.size ≤ z_f E b
        rw [z_f_dyn hb3]
        exact Nat.le_add_right _ _) _ rfl X'
  exact ⟨t, step t a1, b1⟩
theorem z_I_cI (h : z_H) (a sp b dp n x j : Nat) : z_I (z_cI h a sp b dp n) x j = if x = b ∧ dp ≤ j ∧ j < dp + n then z_I h a (sp + (j - dp)) else z_I h x j := rfl
theorem z_P_cP (h : z_H) (a sp b dp n x j : Nat) : z_P (z_cP h a sp b dp n) x j = if x = b ∧ dp ≤ j ∧ j < dp + n then z_P h a (sp + (j - dp)) else z_P h x j := rfl
theorem z_sm_copyI {index : Nat} {a b : Nat} {sp dp n : Int32} {r : List Value} (hx : p.tables.exec = Jvm.exec) (hb : c.code = cc) (hml : c.maxLocals = nL) {own : String} (hown : s.vm.findClass own = some m.cls) (hok : z_okA s args own index) (hRf : 1 ≤ R.frames) (hRl : 40 ≤ R.locals) (hK : va_K E.2.2.2.1 z_cl (z_tys E) s) (ho : z_om E) (hY : ∀ pc ls st h bc bs, Y pc ls st h bc bs → z_Sim E p l e R s m args below meth c nL QQ pc ls st h bc bs) (hd : decode cc pc = .ok (.invokestatic index, 3))
    (ha : 317 ≤ a) (hb3 : 317 ≤ b) (hwt : z_wt r ≤ 8) (hka : z_k h a = 100) (hkb : z_k h b = 100) (h1 : ¬ sp < 0) (h2 : ¬ dp < 0) (h3 : ¬ n < 0) (h4 : sp.toNatClampNeg + n.toNatClampNeg ≤ z_n h a) (h5 : dp.toNatClampNeg + n.toNatClampNeg ≤ z_n h b) (hs : Y (pc + 3) ls r (z_cI h a sp.toNatClampNeg b dp.toNatClampNeg n.toNatClampNeg) bc bs) : z_Sim E p l e R s m args below meth c nL QQ pc ls (.int n :: .int dp :: .ref b :: .int sp :: .ref a :: r) h bc bs := by
  intro H locs cells slots lsA g
  refine z_copy_go hx hb hml hown hok hRf hRl hK ho g ha hb3 hwt (by omega) (by omega) h1 h2 h3 h4 h5 (by rw [hka]; rfl) (fun T vm' dComp kd _ _ _ _ i hi => ?_) hd (fun H1 locs1 e1 z oq hl => ?_)
  · unfold z_av
    rw [if_pos (by omega), hka]
    exact ⟨rfl, trivial⟩
  · have hR := g.1.upd (hm := fun q => absurd q (by omega)) (h' := z_cI h a sp.toNatClampNeg b dp.toNatClampNeg n.toNatClampNeg) (H' := H1) hb3 rfl rfl (fun x hx j => by rw [z_I_cI, if_neg (fun q => hx q.1)]) (fun _ _ _ => rfl) (fun _ _ _ => rfl) z oq (by
      rw [z_at_arr (by show 100 ≤ z_k h b; omega), e1]
      congr 2
      funext j
      show va_cpy (z_av E h a) (z_av E h b) sp.toNatClampNeg dp.toNatClampNeg n.toNatClampNeg j = if z_k h b < 103 then .int (z_I (z_cI h a sp.toNatClampNeg b dp.toNatClampNeg n.toNatClampNeg) b j) else _
      rw [if_pos (by omega), z_I_cI]
      unfold va_cpy
      by_cases q : dp.toNatClampNeg ≤ j ∧ j < dp.toNatClampNeg + n.toNatClampNeg
      · rw [if_pos q, if_pos ⟨rfl, q⟩]
        unfold z_av
        rw [if_pos (by omega)]
      · rw [if_neg q, if_neg (fun z => q z.2)]
        unfold z_av
        rw [if_pos (by omega)])
    exact hY _ _ _ _ _ _ hs H1 locs1 cells slots lsA ⟨hR, by rw [z]; exact g.2.1, hl, g.2.2.2⟩
theorem z_sm_copyP {index : Nat} {a b : Nat} {sp dp n : Int32} {r : List Value} (hx : p.tables.exec = Jvm.exec) (hb : c.code = cc) (hml : c.maxLocals = nL) {own : String} (hown : s.vm.findClass own = some m.cls) (hok : z_okA s args own index) (hRf : 1 ≤ R.frames) (hRl : 40 ≤ R.locals) (hB : z_BW s) (hS : z_HS E s) (hK : va_K E.2.2.2.1 z_cl (z_tys E) s) (ho : z_om E) (hY : ∀ pc ls st h bc bs, Y pc ls st h bc bs → z_Sim E p l e R s m args below meth c nL QQ pc ls st h bc bs) (hd : decode cc pc = .ok (.invokestatic index, 3))
    (ha : 317 ≤ a) (hb3 : 317 ≤ b) (hwt : z_wt r ≤ 8) (hka : z_k h a = 104 ∨ z_k h a = 106) (hkb : z_k h b = z_k h a) (h1 : ¬ sp < 0) (h2 : ¬ dp < 0) (h3 : ¬ n < 0) (h4 : sp.toNatClampNeg + n.toNatClampNeg ≤ z_n h a) (h5 : dp.toNatClampNeg + n.toNatClampNeg ≤ z_n h b) (hel : ∀ i y, i < n.toNatClampNeg → z_P h a (sp.toNatClampNeg + i) = some y → z_asg (z_k h a) (z_k h y) = true) (hs : Y (pc + 3) ls r (z_cP h a sp.toNatClampNeg b dp.toNatClampNeg n.toNatClampNeg) bc bs) : z_Sim E p l e R s m args below meth c nL QQ pc ls (.int n :: .int dp :: .ref b :: .int sp :: .ref a :: r) h bc bs := by
  intro H locs cells slots lsA g
  have hD : ∃ D, z_aty (z_k h a) = .object D := by
    rcases hka with q | q <;> rw [q] <;> exact ⟨_, rfl⟩
  obtain ⟨D, hD⟩ := hD
  refine z_copy_go hx hb hml hown hok hRf hRl hK ho g ha hb3 hwt (by omega) (by omega) h1 h2 h3 h4 h5 (by rw [hD]; rfl) (fun T vm' dComp kd hT hal hkd hkk i hi => ?_) hd (fun H1 locs1 e1 z oq hl => ?_)
  · unfold z_av
    rw [if_neg (by omega), if_neg (by omega), hD]
    cases hy : z_P h a (sp.toNatClampNeg + i) with
    | none => exact ⟨rfl, trivial⟩
    | some y =>
      have hq := hel i y hi hy
      obtain ⟨k1, k2, k3⟩ := z_asg_kind hq
      obtain ⟨cv, v1, v2, v3, kv, v4⟩ := z_obj_cell (a := y) g.1 hS hK (by omega)
      obtain ⟨d1, d2, d3⟩ := z_dyn_cell (a := b) g.1 hK hb3 (by omega) (by omega)
      have hra := (hK.2 _ _ d3).2
      rw [show z_aty (z_k h b) = .object D by rw [hkb, hD]] at hra
      obtain ⟨kA, comp, r1, r2, r3, -⟩ := hra
      cases hkd.symm.trans r1
      rw [hD] at hkk
      cases hkk.symm.trans r2
      obtain ⟨kE, hkE, -⟩ := Vm.findClass_spec r3
      obtain ⟨kC', hkC', -⟩ := hal.2.2 _ _ v4
      obtain ⟨kE', hkE', -⟩ := hal.2.2 _ _ hkE
      refine ⟨rfl, cv, (show T.heap[z_f E y]? = some cv by rw [hT]; exact v1), (fun q h => by rw [h] at v2; cases v2), ⟨kC', hkC'⟩, ⟨kE', hkE'⟩, ?_⟩
      show vm'.assignable _ _ = true
      rw [hal.assignable]
      exact z_asg_ok (H := H) hB hK hq hD v3 r3
  · have hR := g.1.upd (hm := fun q => absurd q (by omega)) (h' := z_cP h a sp.toNatClampNeg b dp.toNatClampNeg n.toNatClampNeg) (H' := H1) hb3 rfl rfl (fun _ _ _ => rfl) (fun _ _ _ => rfl) (fun x hx j => by rw [z_P_cP, if_neg (fun q => hx q.1)]) z oq (by
      rw [z_at_arr (by show 100 ≤ z_k h b; omega), e1]
      congr 2
      funext j
      show va_cpy (z_av E h a) (z_av E h b) sp.toNatClampNeg dp.toNatClampNeg n.toNatClampNeg j = if z_k h b < 103 then _ else if z_k h b = 103 then _ else va_rf ((z_P (z_cP h a sp.toNatClampNeg b dp.toNatClampNeg n.toNatClampNeg) b j).map (z_f E))
      rw [if_neg (by omega), if_neg (by omega), z_P_cP]
      unfold va_cpy
      by_cases q : dp.toNatClampNeg ≤ j ∧ j < dp.toNatClampNeg + n.toNatClampNeg
      · rw [if_pos q, if_pos ⟨rfl, q⟩]
        unfold z_av
        rw [if_neg (by omega), if_neg (by omega)]
      · rw [if_neg q, if_neg (fun z => q z.2)]
        unfold z_av
        rw [if_neg (by omega), if_neg (by omega)])
    exact hY _ _ _ _ _ _ hs H1 locs1 cells slots lsA ⟨hR, by rw [z]; exact g.2.1, hl, g.2.2.2⟩
end ZMisc
