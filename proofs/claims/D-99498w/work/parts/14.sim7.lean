/-! THE PURE MACHINE AGAINST THE JVM, 7: new arrays, constants, casts, copies -/
set_option maxRecDepth 100000
def z_AOA (s : State) : Prop := (Jvm.Cond.arrayOver (.array .int)).before #[] s = true
theorem z_AOA.moved {u U : State} (hvm : u.vm.Alike U.vm) (h : z_AOA u) : z_AOA U := by
  obtain ⟨comp, c, k, h1, h2, h3, h4, h5⟩ := arrayOverA_spec h
  obtain ⟨k', hk', he⟩ := hvm.2.2 _ _ h3
  have hi : (U.vm.classes.findIdx? fun (x : Class) => match x.kind with | .array component _ => component == comp | _ => false) = some c := by
    have e0 : U.vm.bare = u.vm.bare := by first | exact hvm.bare_eq | exact hvm.bare_eq.symm
    refine (va_idx_bare U.vm comp).symm.trans ?_
    rw [e0]
    exact (va_idx_bare u.vm comp).trans h2
  have hkind : k'.kind = .array comp (.array .int) := by rw [he]; exact h4
  have f1 : U.vm.findClass (FieldType.array .int).toString = some comp := by rw [hvm.findClass]; exact h1
  have f2 : U.vm.findClass ("[" ++ (FieldType.array .int).toString) = some c := by rw [hvm.findClass]; exact h5
  unfold z_AOA Cond.before Cond.holds
  simp only [Cond.value]
  rw [f1, Option.bind_some]
  refine (congrArg (fun o : Option Nat => (o.bind (fun c => (U.vm.classes[c]?).map fun (k : Class) => match k.kind with | .array _ ty => decide (ty = FieldType.array .int) && decide (U.vm.findClass ("[" ++ (FieldType.array .int).toString) = some c) | _ => false) == some true)) hi).trans ?_
  simp [hk', hkind, f2]
section ZNew
variable {E : z_E} {p : Program} {l : Launch} {e : Env} {R : Room} {s : State} {m : MethodId} {args : Array Value} {below : List Frame} {meth : Method} {c : Code} {nL : Nat} {QQ : State → Prop} {cc : ByteArray}
variable {C : z_K} {mi : z_M} {Qz : z_Q} {QX : z_X} {Y : z_C} {pc : Nat} {o : z_O} {ls : z_L} {st : List Value} {h : z_H} {bc bs : Nat}
theorem z_new_at {H1 : Heap} {k n : Nat} (hk : 100 ≤ k) (dv : Value) (hdv : (k < 103 ∧ dv = .int 0) ∨ (k = 103 ∧ dv = .long 0) ∨ (103 < k ∧ dv = .null)) (e1 : H1[z_f E h.1]? = some (arrV (E.2.2.2.2.1 (k - 100)) n (fun _ => dv))) : va_at E.2.2.2.1 z_cl (z_f E h.1, z_cell E (z_new h k n) h.1) H1 := by
  have ek : z_k (z_new h k n) h.1 = k := by unfold z_k z_new; simp
  have en : z_n (z_new h k n) h.1 = n := by unfold z_n z_new; simp
  rw [z_at_arr (by rw [ek]; exact hk), ek, en, e1]
  congr 2
  funext j
  unfold z_av
  rw [ek]
  have e0 : ∀ i, z_I (z_new h k n) h.1 i = 0 := fun i => by unfold z_I z_new; simp
  have e2 : ∀ i, z_J (z_new h k n) h.1 i = 0 := fun i => by unfold z_J z_new; simp
  have e3 : ∀ i, z_P (z_new h k n) h.1 i = none := fun i => by unfold z_P z_new; simp
  rw [e0, e2, e3]
  rcases hdv with ⟨q, rfl⟩ | ⟨q, rfl⟩ | ⟨q, rfl⟩
  · rw [if_pos q]
  · rw [if_neg (by omega), if_pos q]
  · rw [if_neg (by omega), if_neg (by omega)]; rfl
theorem z_sm_newarray {at0 : ArrayType} (hx : p.tables.exec = Jvm.exec) (hb : c.code = cc) (hty : newarray.typeOf at0 = z_aty o.1) (hk1 : 100 ≤ o.1 ∧ o.1 ≤ 103) (harr : (Cond.arrayClass (newarray.typeOf at0)).before args s = true) (hK : va_K E.2.2.2.1 z_cl (z_tys E) s) (hY : ∀ pc ls st h bc bs, Y pc ls st h bc bs → z_Sim E p l e R s m args below meth c nL QQ pc ls st h bc bs) (hd : decode cc pc = .ok (.newarray at0, 2)) (hs : z_step C mi Qz QX Y pc (.newarray at0) o ls st h bc bs) : z_Sim E p l e R s m args below meth c nL QQ pc ls st h bc bs := by
  obtain ⟨x, r, rfl, hx0, hx1, hbc, hbs, h1⟩ := z_i1_e hs
  intro H locs cells slots lsA g
  have gc := g.2.2.2.2.1
  have gs := g.2.2.2.2.2
  have hcb : componentBytes (newarray.typeOf at0) ≤ 8 := by cases at0 <;> decide
  have hbytes : x.toNatClampNeg * componentBytes (newarray.typeOf at0) ≤ 536870912 := by
    have := Nat.mul_le_mul hx1 hcb
    omega
  refine va_newaK hx hb harr rfl hd rfl hx0 rfl hbytes (by omega) (by omega) rfl fun H1 cA e1 z1 o1 hAr hNm => ?_
  have hty0 : (z_tys E)[o.1 - 100]? = some (E.2.2.2.2.1 (o.1 - 100), z_aty o.1) ∧ (∀ t, z_aty o.1 ≠ .object t) := by
    generalize o.1 = k at hk1
    rcases (show k = 100 ∨ k = 101 ∨ k = 102 ∨ k = 103 by omega) with rfl | rfl | rfl | rfl <;> exact ⟨rfl, fun t q => by cases q⟩
  have hra := (hK.2 _ _ hty0.1).2
  have hcA : cA = E.2.2.2.2.1 (o.1 - 100) := by
    unfold va_RA at hra
    rw [hty] at hNm
    generalize z_aty o.1 = ty at hra hNm hty0
    cases ty <;> first | exact Option.some.inj (hNm.symm.trans hra) | exact absurd rfl (hty0.2 _)
  subst hcA
  have hat := z_new_at (E := E) (h := h) (H1 := H1) (k := o.1) (n := x.toNatClampNeg) hk1.1 (defaultValue (newarray.typeOf at0)) (by
    rw [hty]
    generalize o.1 = k at hk1
    rcases (show k = 100 ∨ k = 101 ∨ k = 102 ∨ k = 103 by omega) with rfl | rfl | rfl | rfl
    · exact Or.inl ⟨by omega, rfl⟩
    · exact Or.inl ⟨by omega, rfl⟩
    · exact Or.inl ⟨by omega, rfl⟩
    · exact Or.inr (Or.inl ⟨rfl, rfl⟩)) (by rw [z_nx_f g.1]; exact e1)
  have hR := g.1.new (Or.inr ⟨hk1.1, by omega⟩) z1 o1 hat (fun q => absurd q (by omega))
  have h2 := hY _ _ _ _ _ _ h1 H1 locs _ _ lsA (g.new hbc hbs hR z1)
  rw [List.map_cons] at h2
  show W p l e R s m args below meth c H1 locs (cells + 1) (slots + x.toNatClampNeg) QQ (F0 m (pc + 2) lsA (.ref H.size :: r.map (z_v E)))
  rw [← z_nx_f g.1]
  exact h2
theorem z_sm_anewarray {index : Nat} {D : String} (hx : p.tables.exec = Jvm.exec) (hb : c.code = cc) {own : String} (hown : s.vm.findClass own = some m.cls) (hlk : (Cond.classLink own index D).before args s = true) (hao : va_AO D s) (hty : z_aty o.1 = .object D) (hk1 : 104 ≤ o.1 ∧ o.1 ≤ 106) (hK : va_K E.2.2.2.1 z_cl (z_tys E) s) (hY : ∀ pc ls st h bc bs, Y pc ls st h bc bs → z_Sim E p l e R s m args below meth c nL QQ pc ls st h bc bs) (hd : decode cc pc = .ok (.anewarray index, 3)) (hs : z_step C mi Qz QX Y pc (.anewarray index) o ls st h bc bs) : z_Sim E p l e R s m args below meth c nL QQ pc ls st h bc bs := by
  obtain ⟨x, r, rfl, hx0, hx1, hbc, hbs, h1⟩ := z_i1_e hs
  intro H locs cells slots lsA g
  have gc := g.2.2.2.2.1
  have gs := g.2.2.2.2.2
  refine W.anew hx hb hown hlk (va_AO.use hao) rfl hd rfl hx0 (by omega) (by omega) (by omega) fun cA kA comp f1 f2 f3 f4 => ?_
  generalize hH1 : H.push ({ cls := cA, slots := Array.replicate x.toNatClampNeg .null, vm := .none } : Cell) = H1
  have z1 : H1.size = H.size + 1 := by rw [← hH1, Array.size_push]
  have e1 : H1[H.size]? = some (arrV cA x.toNatClampNeg (fun _ => .null)) := by rw [← hH1, Array.getElem?_push_size, ← arrV_new]
  have o1 : ∀ q : Nat, q < H.size → H1[q]? = H[q]? := fun q hq => by rw [← hH1, Array.getElem?_push, if_neg (Nat.ne_of_lt hq)]
  have hty0 : (z_tys E)[o.1 - 100]? = some (E.2.2.2.2.1 (o.1 - 100), z_aty o.1) := by
    generalize o.1 = k at hk1
    rcases (show k = 104 ∨ k = 105 ∨ k = 106 by omega) with rfl | rfl | rfl <;> rfl
  have hra := (hK.2 _ _ hty0).2
  rw [hty] at hra
  obtain ⟨kA', comp', q1, q2, q3, q4⟩ := hra
  have hcA : cA = E.2.2.2.2.1 (o.1 - 100) := Option.some.inj (f1.symm.trans q4)
  subst hcA
  have hat := z_new_at (E := E) (h := h) (H1 := H1) (k := o.1) (n := x.toNatClampNeg) (by omega) .null (Or.inr (Or.inr ⟨by omega, rfl⟩)) (by rw [z_nx_f g.1]; exact e1)
  have hR := g.1.new (Or.inr ⟨by omega, by omega⟩) z1 o1 hat (fun q => absurd q (by omega))
  have h2 := hY _ _ _ _ _ _ h1 H1 locs _ _ lsA (g.new hbc hbs hR z1)
  rw [List.map_cons] at h2
  show W p l e R s m args below meth c H1 locs (cells + 1) (slots + x.toNatClampNeg) QQ (F0 m (pc + 3) lsA (.ref H.size :: r.map (z_v E)))
  rw [← z_nx_f g.1]
  exact h2
theorem z_rows_nx (h : z_H) (m : Nat) : ∀ n, (z_rows h m n).1 = h.1 + n
  | 0 => rfl
  | n + 1 => by show (z_rows h m n).1 + 1 = _; rw [z_rows_nx h m n]; omega
theorem z_rows_S (h : z_H) (m : Nat) : ∀ n b, (z_rows h m n).2.1 b = if h.1 ≤ b ∧ b < h.1 + n then (100, m) else h.2.1 b
  | 0, b => by rw [if_neg (by omega)]; rfl
  | n + 1, b => by
    show (if b = (z_rows h m n).1 then (100, m) else (z_rows h m n).2.1 b) = _
    rw [z_rows_nx, z_rows_S h m n b]
    by_cases h1 : b = h.1 + n
    · rw [if_pos h1, if_pos (by omega)]
    · rw [if_neg h1]
      by_cases h2 : h.1 ≤ b ∧ b < h.1 + n
      · rw [if_pos h2, if_pos (by omega)]
      · rw [if_neg h2, if_neg (by omega)]
theorem z_rows_I (h : z_H) (m : Nat) : ∀ n b i, z_I (z_rows h m n) b i = if h.1 ≤ b ∧ b < h.1 + n then 0 else z_I h b i
  | 0, b, i => by rw [if_neg (by omega)]; rfl
  | n + 1, b, i => by
    show (if b = (z_rows h m n).1 then 0 else z_I (z_rows h m n) b i) = _
    rw [z_rows_nx, z_rows_I h m n b i]
    by_cases h1 : b = h.1 + n
    · rw [if_pos h1, if_pos (by omega)]
    · rw [if_neg h1]
      by_cases h2 : h.1 ≤ b ∧ b < h.1 + n
      · rw [if_pos h2, if_pos (by omega)]
      · rw [if_neg h2, if_neg (by omega)]
theorem z_rows_J (h : z_H) (m : Nat) : ∀ n b i, (b < h.1 ∨ h.1 + n ≤ b) → z_J (z_rows h m n) b i = z_J h b i
  | 0, b, i, _ => rfl
  | n + 1, b, i, hb => by
    show (if b = (z_rows h m n).1 then 0 else z_J (z_rows h m n) b i) = _
    rw [z_rows_nx, z_rows_J h m n b i (by omega), if_neg (by omega)]
theorem z_rows_P (h : z_H) (m : Nat) : ∀ n b i, (b < h.1 ∨ h.1 + n ≤ b) → z_P (z_rows h m n) b i = z_P h b i
  | 0, b, i, _ => rfl
  | n + 1, b, i, hb => by
    show (if b = (z_rows h m n).1 then none else z_P (z_rows h m n) b i) = _
    rw [z_rows_nx, z_rows_P h m n b i (by omega), if_neg (by omega)]
theorem z_grid_nx (h : z_H) (n m : Nat) : (z_grid h n m).1 = h.1 + 1 + n := by
  show (z_rows (z_new h 107 n) m n).1 = _
  rw [z_rows_nx]; rfl
theorem z_grid_S (h : z_H) (n m b : Nat) : (z_grid h n m).2.1 b = if b = h.1 then (107, n) else if h.1 + 1 ≤ b ∧ b < h.1 + 1 + n then (100, m) else h.2.1 b := by
  show (z_rows (z_new h 107 n) m n).2.1 b = _
  rw [z_rows_S]
  show (if h.1 + 1 ≤ b ∧ b < h.1 + 1 + n then (100, m) else (if b = h.1 then (107, n) else h.2.1 b)) = _
  by_cases h1 : b = h.1
  · rw [if_neg (by omega), if_pos h1, if_pos h1]
  · rw [if_neg h1, if_neg h1]
theorem z_grid_I (h : z_H) (n m b i : Nat) : z_I (z_grid h n m) b i = if h.1 ≤ b ∧ b < h.1 + 1 + n then 0 else z_I h b i := by
  show z_I (z_rows (z_new h 107 n) m n) b i = _
  rw [z_rows_I]
  show (if h.1 + 1 ≤ b ∧ b < h.1 + 1 + n then 0 else (if b = h.1 then 0 else z_I h b i)) = _
  by_cases h1 : b = h.1
  · rw [if_neg (by omega), if_pos h1, if_pos (by omega)]
  · rw [if_neg h1]
    by_cases h2 : h.1 + 1 ≤ b ∧ b < h.1 + 1 + n
    · rw [if_pos h2, if_pos (by omega)]
    · rw [if_neg h2, if_neg (by omega)]
theorem z_grid_J (h : z_H) (n m b i : Nat) (hb : b < h.1 ∨ h.1 + 1 + n ≤ b) : z_J (z_grid h n m) b i = z_J h b i := by
  show z_J (z_rows (z_new h 107 n) m n) b i = _
  rw [z_rows_J _ _ _ _ _ (by show b < h.1 + 1 ∨ h.1 + 1 + n ≤ b; omega)]
  show (if b = h.1 then 0 else z_J h b i) = _
  rw [if_neg (by omega)]
theorem z_grid_P (h : z_H) (n m b i : Nat) (hb : b < h.1 ∨ h.1 + 1 + n ≤ b) : z_P (z_grid h n m) b i = z_P h b i := by
  show (if b = h.1 ∧ i < n then some (h.1 + 1 + i) else z_P (z_rows (z_new h 107 n) m n) b i) = _
  rw [if_neg (by omega), z_rows_P _ _ _ _ _ (by show b < h.1 + 1 ∨ h.1 + 1 + n ≤ b; omega)]
  show (if b = h.1 then none else z_P h b i) = _
  rw [if_neg (by omega)]
theorem z_grid_P0 (h : z_H) (n m i : Nat) (hi : i < n) : z_P (z_grid h n m) h.1 i = some (h.1 + 1 + i) := by
  show (if h.1 = h.1 ∧ i < n then some (h.1 + 1 + i) else z_P (z_rows (z_new h 107 n) m n) h.1 i) = _
  rw [if_pos ⟨rfl, hi⟩]
theorem z_arrV_congr {cI : ClassId} {N : Nat} {f g : Nat → Value} (h : ∀ j, j < N → f j = g j) : arrV cI N f = arrV cI N g := by
  have e : (Array.ofFn (n := N) fun j => f j.val) = Array.ofFn (n := N) fun j => g j.val := by
    congr 1
    funext j
    exact h j.val j.isLt
  unfold arrV
  rw [e]
theorem z_outer_shape (cA : ClassId) (N h0 : Nat) : ∀ i, ∃ sl, Jvm.Free.Multi.outerC cA N h0 i = ({ cls := cA, slots := sl, vm := .none } : Cell)
  | 0 => ⟨_, rfl⟩
  | i + 1 => by
    obtain ⟨sl, e⟩ := z_outer_shape cA N h0 i
    refine ⟨sl.setIfInBounds i (.ref (h0 + 1 + i)), ?_⟩
    show (Jvm.Free.Multi.outerC cA N h0 i).setSlot i (.ref (h0 + 1 + i)) = _
    rw [e]
    rfl
theorem z_outer_eq (cA : ClassId) (N h0 : Nat) : Jvm.Free.Multi.outerC cA N h0 N = arrV cA N (fun j => .ref (h0 + 1 + j)) := by
  obtain ⟨o1, o2, o3⟩ := Jvm.Free.Multi.outerC_facts cA N h0 N
  have hs : (Jvm.Free.Multi.outerC cA N h0 N).slots = (arrV cA N (fun j => .ref (h0 + 1 + j))).slots := by
    apply Array.ext_getElem?
    intro j
    by_cases hj : j < N
    · rw [Jvm.Free.Multi.outerC_slot cA N h0 N j hj, if_pos hj, arrV_read _ _ hj]
    · rw [Array.getElem?_eq_none (by rw [o3]; omega), Array.getElem?_eq_none (by rw [arrV_size]; omega)]
  obtain ⟨sl, e⟩ := z_outer_shape cA N h0 N
  rw [e] at hs ⊢
  dsimp only at hs
  rw [hs]
  rfl
theorem z_sm_multianewarray {index : Nat} (hx : p.tables.exec = Jvm.exec) (hb : c.code = cc) {own : String} (hown : s.vm.findClass own = some m.cls) (hlk : (Cond.classLink own index ("[" ++ (FieldType.array .int).toString)).before args s = true) (hao : z_AOA s) (harr : (Cond.arrayClass .int).before args s = true) (hK : va_K E.2.2.2.1 z_cl (z_tys E) s) (hY : ∀ pc ls st h bc bs, Y pc ls st h bc bs → z_Sim E p l e R s m args below meth c nL QQ pc ls st h bc bs) (hd : decode cc pc = .ok (.multianewarray index 2, 4)) (hs : z_step C mi Qz QX Y pc (.multianewarray index 2) o ls st h bc bs) : z_Sim E p l e R s m args below meth c nL QQ pc ls st h bc bs := by
  obtain ⟨x, y, r, rfl, hx0, hy0, hx1, hy1, hbc, hbs, h1⟩ := z_i2_e hs
  intro H locs cells slots lsA g
  have gc := g.2.2.2.2.1
  have gs := g.2.2.2.2.2
  intro T hT X
  subst hT; subst hb
  obtain ⟨vm₁, cA, comp, hW, hfA, hfC, -, -, X1, step⟩ := X.multianewarray2F hx hown hlk hao harr (g := F0 m pc lsA (.int y :: .int x :: r.map (z_v E))) rfl hd (n := x) (k := y) rfl hx0 hy0 (by omega) (by show y.toNatClampNeg * 4 ≤ _; omega) (by omega) rfl rfl (by omega) (by omega)
  have hcA : cA = E.2.2.2.2.1 7 := Option.some.inj (hfA.symm.trans (hK.2 7 _ rfl).2)
  have hcC : comp = E.2.2.2.2.1 0 := Option.some.inj (hfC.symm.trans (hK.2 0 _ rfl).2)
  subst hcA; subst hcC
  obtain ⟨f1, f2, f3, f4⟩ := Jvm.Free.Multi.fill_facts (T.setVm vm₁) (E.2.2.2.2.1 7) (E.2.2.2.2.1 0) x.toNatClampNeg y.toNatClampNeg (defaultValue .int) x.toNatClampNeg
  have old := fun (q : Nat) (hq : q < T.heap.size) => Jvm.Free.Multi.fill_old (T.setVm vm₁) (E.2.2.2.2.1 7) (E.2.2.2.2.1 0) x.toNatClampNeg y.toNatClampNeg (defaultValue .int) (a := q) hq x.toNatClampNeg
  have inn := Jvm.Free.Multi.fill_inner (T.setVm vm₁) (E.2.2.2.2.1 7) (E.2.2.2.2.1 0) x.toNatClampNeg y.toNatClampNeg (defaultValue .int) x.toNatClampNeg
  generalize Jvm.Free.Multi.fill (T.setVm vm₁) (E.2.2.2.2.1 7) (E.2.2.2.2.1 0) x.toNatClampNeg y.toNatClampNeg (defaultValue .int) x.toNatClampNeg = T2 at X1 step f1 f2 old inn
  have hsz : (T.setVm vm₁).heap.size = T.heap.size := rfl
  rw [hsz] at f1 f2 inn
  have hnx := z_nx_f g.1
  obtain ⟨⟨r1, r7⟩, r2, r3, r4, r5, r6⟩ := g.1
  have hR : z_Rep E (z_grid h x.toNatClampNeg y.toNatClampNeg) T2.heap := by
    refine ⟨⟨by rw [z_grid_nx]; omega, fun b hb hl h5 => ?_⟩, by rw [f1, z_grid_nx]; omega, fun q hq => ?_, fun b hb hl => ?_, fun b hb => ?_, fun b hb => ?_⟩
    · rw [z_grid_nx] at hl
      unfold z_k at h5
      rw [z_grid_S] at h5
      by_cases b0 : b = h.1
      · rw [if_pos b0] at h5; cases h5
      · rw [if_neg b0] at h5
        by_cases b1 : h.1 + 1 ≤ b ∧ b < h.1 + 1 + x.toNatClampNeg
        · rw [if_pos b1] at h5; cases h5
        · rw [if_neg b1] at h5
          rw [old _ (by rw [z_f_dyn hb]; omega)]
          exact r7 b hb (by omega) h5
    · rw [old q (by omega)]; exact r3 q hq
    · rw [z_grid_nx] at hl
      by_cases b0 : b = h.1
      · subst b0
        have ek : z_k (z_grid h x.toNatClampNeg y.toNatClampNeg) h.1 = 107 := by unfold z_k; rw [z_grid_S, if_pos rfl]
        have en : z_n (z_grid h x.toNatClampNeg y.toNatClampNeg) h.1 = x.toNatClampNeg := by unfold z_n; rw [z_grid_S, if_pos rfl]
        refine ⟨by rw [ek]; omega, ?_⟩
        rw [z_at_arr (by rw [ek]; omega), ek, en, hnx, f2, z_outer_eq]
        congr 1
        refine z_arrV_congr (fun j hj => ?_)
        unfold z_av
        rw [ek, if_neg (by omega), if_neg (by omega), z_grid_P0 _ _ _ _ hj]
        show Value.ref _ = Value.ref (z_f E (h.1 + 1 + j))
        rw [z_f_dyn (by omega)]
        congr 1
        show T.heap.size + 1 + j = _
        rw [r2]
        omega
      · by_cases b1 : h.1 < b
        · have ek : z_k (z_grid h x.toNatClampNeg y.toNatClampNeg) b = 100 := by unfold z_k; rw [z_grid_S, if_neg b0, if_pos (by omega)]
          have en : z_n (z_grid h x.toNatClampNeg y.toNatClampNeg) b = y.toNatClampNeg := by unfold z_n; rw [z_grid_S, if_neg b0, if_pos (by omega)]
          refine ⟨by rw [ek]; omega, ?_⟩
          have hj := inn (b - h.1 - 1) (by omega)
          have hfb : z_f E b = T.heap.size + 1 + (b - h.1 - 1) := by rw [z_f_dyn hb, r2]; omega
          rw [z_at_arr (by rw [ek]; omega), ek, en, hfb, hj]
          have e2 : Jvm.Free.Multi.innerC (E.2.2.2.2.1 0) y.toNatClampNeg (defaultValue .int) = arrV (E.2.2.2.2.1 0) y.toNatClampNeg (fun _ => .int 0) := arrV_new _ _ _
          rw [e2]
          congr 2
          funext j
          unfold z_av
          rw [ek, if_pos (by omega), z_grid_I, if_pos (by omega)]
        · obtain ⟨d1, d2⟩ := r4 b hb (by omega)
          have es : (z_grid h x.toNatClampNeg y.toNatClampNeg).2.1 b = h.2.1 b := by rw [z_grid_S, if_neg b0, if_neg (by omega)]
          refine ⟨by unfold z_k; rw [es]; exact d1, ?_⟩
          rw [z_cell_eq es (fun i => by rw [z_grid_I, if_neg (by omega)]) (fun i => z_grid_J _ _ _ _ _ (by omega)) (fun i => z_grid_P _ _ _ _ _ (by omega))]
          exact d2.kept (old _ (by rw [z_f_dyn hb]; omega))
    · rw [z_grid_nx] at hb
      rw [z_grid_S, if_neg (by omega), if_neg (by omega)]
      exact r5 b (by omega)
    · obtain ⟨e1, e2⟩ := r6 b hb
      refine ⟨by rw [z_grid_S, if_neg (by omega), if_neg (by omega)]; exact e1, fun i => ⟨by rw [z_grid_I, if_neg (by omega)]; exact (e2 i).1, by rw [z_grid_P _ _ _ _ _ (by omega)]; exact (e2 i).2⟩⟩
  have h2 := hY _ _ _ _ _ _ h1 T2.heap locs (cells + 1 + x.toNatClampNeg) (slots + x.toNatClampNeg + x.toNatClampNeg * y.toNatClampNeg) lsA ⟨hR, by have := g.2.1; omega, g.2.2.1, g.2.2.2.1, by omega, by omega⟩
  obtain ⟨t, a1, b1⟩ := h2 T2 rfl X1
  refine ⟨t, step t ?_, b1⟩
  rw [List.map_cons] at a1
  have a2 : z_v E (.ref (z_nx h)) = .ref T.heap.size := by show Value.ref (z_f E h.1) = _; rw [hnx]
  rw [a2] at a1
  exact a1
end ZNew
