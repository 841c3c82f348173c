/-! THE PURE MACHINE AGAINST THE JVM, 6: putfield, new cells -/
set_option maxRecDepth 100000
theorem z_put_e {E : z_E} {ci k kd : Nat} {v : Value} {h : z_H} {a : Nat} {κ : z_H → Prop} (hc : ci < 20) (hk : k < z_N ci) (hkd : z_kd ci k = kd) (h1 : z_put kd v h a k κ) :
    ∃ h', κ h' ∧ h'.1 = h.1 ∧ h'.2.1 = h.2.1 ∧ (∀ b, b ≠ a → ∀ i, z_I h' b i = z_I h b i) ∧ (∀ b, b ≠ a → ∀ i, z_J h' b i = z_J h b i) ∧ (∀ b, b ≠ a → ∀ i, z_P h' b i = z_P h b i) ∧
      (∀ j, z_fv (z_kd ci j) h' a j = if j = k then v else z_fv (z_kd ci j) h a j) ∧ narrow (z_ty ci k) (z_v E v) = z_v E v ∧ fits (z_ty ci k) (z_v E v) = true := by
  have hty := z_kd_ty ci hc k hk
  unfold z_put at h1
  split at h1
  · rename_i x
    have ht : z_ty ci k = .int := by rcases hty with ⟨_, q⟩ | ⟨q, _⟩ | ⟨q, _⟩ | ⟨q, _⟩ <;> first | exact q | omega
    refine ⟨_, h1, rfl, rfl, fun b hb j => by rw [z_I_wI, if_neg (fun q => hb q.1)], fun _ _ _ => rfl, fun _ _ _ => rfl, fun j => ?_, by rw [ht]; rfl, by rw [ht]; rfl⟩
    by_cases hj : j = k
    · subst hj
      rw [if_pos rfl, hkd]
      show Value.int (z_I (z_wI h a j x) a j) = _
      rw [z_I_wI, if_pos ⟨rfl, rfl⟩]
    · rw [if_neg hj]
      unfold z_fv
      rw [z_I_wI, if_neg (fun q => hj q.2)]
      rfl
  · rename_i x
    have ht : z_ty ci k = .long := by rcases hty with ⟨q, _⟩ | ⟨_, q⟩ | ⟨q, _⟩ | ⟨q, _⟩ <;> first | exact q | omega
    refine ⟨_, h1, rfl, rfl, fun _ _ _ => rfl, fun b hb j => by rw [z_J_wJ, if_neg (fun q => hb q.1)], fun _ _ _ => rfl, fun j => ?_, by rw [ht]; rfl, by rw [ht]; rfl⟩
    by_cases hj : j = k
    · subst hj
      rw [if_pos rfl, hkd]
      show Value.long (z_J (z_wJ h a j x) a j) = _
      rw [z_J_wJ, if_pos ⟨rfl, rfl⟩]
    · rw [if_neg hj]
      unfold z_fv
      rw [z_J_wJ, if_neg (fun q => hj q.2)]
      rfl
  · rename_i b
    have ht : refKind (z_ty ci k) = true := by rcases hty with ⟨q, _⟩ | ⟨q, _⟩ | ⟨_, q⟩ | ⟨q, _⟩ <;> first | exact q | omega
    refine ⟨_, h1, rfl, rfl, fun _ _ _ => rfl, fun _ _ _ => rfl, fun b hb j => by rw [z_P_wP, if_neg (fun q => hb q.1)], fun j => ?_, ?_, ?_⟩
    · by_cases hj : j = k
      · subst hj
        rw [if_pos rfl, hkd]
        show va_rf (z_P (z_wP h a j (some b)) a j) = _
        rw [z_P_wP, if_pos ⟨rfl, rfl⟩]
        rfl
      · rw [if_neg hj]
        unfold z_fv
        rw [z_P_wP, if_neg (fun q => hj q.2)]
        rfl
    · cases hz : z_ty ci k <;> rw [hz] at ht <;> first | rfl | cases ht
    · cases hz : z_ty ci k <;> rw [hz] at ht <;> first | rfl | cases ht
  · have ht : refKind (z_ty ci k) = true := by rcases hty with ⟨q, _⟩ | ⟨q, _⟩ | ⟨_, q⟩ | ⟨q, _⟩ <;> first | exact q | omega
    refine ⟨_, h1, rfl, rfl, fun _ _ _ => rfl, fun _ _ _ => rfl, fun b hb j => by rw [z_P_wP, if_neg (fun q => hb q.1)], fun j => ?_, ?_, ?_⟩
    · by_cases hj : j = k
      · subst hj
        rw [if_pos rfl, hkd]
        show va_rf (z_P (z_wP h a j none) a j) = _
        rw [z_P_wP, if_pos ⟨rfl, rfl⟩]
        rfl
      · rw [if_neg hj]
        unfold z_fv
        rw [z_P_wP, if_neg (fun q => hj q.2)]
        rfl
    · cases hz : z_ty ci k <;> rw [hz] at ht <;> first | rfl | cases ht
    · cases hz : z_ty ci k <;> rw [hz] at ht <;> first | rfl | cases ht
  · rename_i x
    have ht : z_ty ci k = .boolean := by rcases hty with ⟨q, _⟩ | ⟨q, _⟩ | ⟨q, _⟩ | ⟨_, q⟩ <;> first | exact q | omega
    have hx := z_bool h1.1
    refine ⟨_, h1.2, rfl, rfl, fun b hb j => by rw [z_I_wI, if_neg (fun q => hb q.1)], fun _ _ _ => rfl, fun _ _ _ => rfl, fun j => ?_, ?_, ?_⟩
    · by_cases hj : j = k
      · subst hj
        rw [if_pos rfl, hkd]
        show Value.int (z_I (z_wI h a j x) a j) = _
        rw [z_I_wI, if_pos ⟨rfl, rfl⟩]
      · rw [if_neg hj]
        unfold z_fv
        rw [z_I_wI, if_neg (fun q => hj q.2)]
        rfl
    · rw [ht]; rcases hx with rfl | rfl <;> rfl
    · rw [ht]; rcases hx with rfl | rfl <;> rfl
  · exact h1.elim
section ZPut
variable {E : z_E} {p : Program} {l : Launch} {e : Env} {R : Room} {s : State} {m : MethodId} {args : Array Value} {below : List Frame} {meth : Method} {c : Code} {nL : Nat} {QQ : State → Prop} {cc : ByteArray}
variable {C : z_K} {mi : z_M} {Qz : z_Q} {QX : z_X} {Y : z_C} {pc : Nat} {o : z_O} {ls : z_L} {st : List Value} {h : z_H} {bc bs : Nat}
/-- a link to a field that may be written here -/
def z_okP (s : State) (args : Array Value) (meth : Method) (own : String) (index ci k : Nat) : Prop :=
  ((z_T ci k).2.2.2 = false ∧ z_okF s args own index ci k) ∨ ((z_T ci k).2.2.2 = true ∧ meth.name = "<init>" ∧ (z_T ci k).1 = own ∧ (Cond.fieldLink own index (z_T ci k).1 (z_T ci k).2.1 (z_T ci k).2.2.1).before args s = true)
theorem z_sm_putfield {index : Nat} (hx : p.tables.exec = Jvm.exec) (hb : c.code = cc) (hts : ∀ w ∈ lw_all, w.before args s = true) {own : String} (hown : s.vm.findClass own = some m.cls) (hlk : z_okP s args meth own index o.1 o.2.1) (hkd : z_kd o.1 o.2.1 = o.2.2.1) (hK : va_K E.2.2.2.1 z_cl (z_tys E) s) (hY : ∀ pc ls st h bc bs, Y pc ls st h bc bs → z_Sim E p l e R s m args below meth c nL QQ pc ls st h bc bs) (hd : decode cc pc = .ok (.putfield index, 3)) (hs : z_step C mi Qz QX Y pc (.putfield index) o ls st h bc bs) : z_Sim E p l e R s m args below meth c nL QQ pc ls st h bc bs := by
  obtain ⟨a, v, r, rfl, ha, hk, hc, hkn, h1⟩ := z_rv_e hs
  intro H locs cells slots lsA g
  obtain ⟨h', h2, p1, p2, p3, p4, p5, p6, p7, p8⟩ := z_put_e (E := E) hc hkn hkd h1
  obtain ⟨f1, f2, f3, f4, f5⟩ := z_cfs _ hc
  generalize o.1 = ci at *
  generalize o.2.1 = k at *
  have hcl := z_cl_at _ hc
  have hap := va_apart (own := own) hts f1 (z_ty ci) f2 f3 hK hcl
  have hlt : a < h.1 := z_lt_of_kind g.1 (by omega)
  obtain ⟨d1, d2⟩ := g.1.2.2.2.1 a ha hlt
  have d3 := d2
  unfold z_cell at d2
  rw [hk, if_pos (by omega)] at d2
  obtain ⟨rr, w1, cell, q1, q2, q3, q4⟩ := d2
  have hr : rr = (z_R ci, z_T ci, z_N ci) := Option.some.inj (w1.symm.trans hcl)
  subst hr
  obtain ⟨hSl, hfc, kC, hkC, hkind⟩ := hK.1 _ _ hcl
  obtain ⟨cf, kf, fi, f, hi, hsl⟩ := hSl k hkn
  have hst := (u_facts hfc hkC (u_lays hts f1 hkn) hi).1
  have hlay := hts _ (f1 _ (u_in_lay hkn))
  have fin : ∀ (H1 : Heap) (j : Nat), H1[z_f E a]? = some (cell.setSlot (E.2.2.2.1.2 ci k) (z_v E v)) → H1.size = H.size → (∀ q, q ≠ z_f E a → H1[q]? = H[q]?) → W p l e R s m args below meth c H1 (locs ++ [⟨z_f E a, j⟩]) cells slots QQ (F0 m (pc + 3) lsA (r.map (z_v E))) := by
    intro H1 j e1 e2 e3
    have hat : va_at E.2.2.2.1 z_cl (z_f E a, z_cell E h' a) H1 := by
      have ek : z_k h' a = ci := by unfold z_k; rw [p2]; exact hk
      unfold z_cell
      rw [ek, if_pos (by omega)]
      refine ⟨_, hcl, t_OB.to (V := updV (vp_V ((List.range (z_N ci)).map fun k => z_v E (z_fv (z_kd ci k) h a k))) k (z_v E v)) ⟨_, e1, q2, q3, t_set q4 hap hkn (z_v E v)⟩ (fun j hj => ?_)⟩
      unfold updV vp_V
      simp only [List.getD_eq_getElem?_getD, List.getElem?_map, List.getElem?_range hj, Option.map_some, Option.getD_some]
      rw [p6 j]
      by_cases hjk : j = k
      · rw [if_pos hjk, if_pos hjk]
      · rw [if_neg hjk, if_neg hjk]
    exact hY _ _ _ _ _ _ h2 H1 _ cells slots lsA (g.wr ha (g.1.upd ha p1 p2 p3 p4 p5 e2 e3 hat (fun q5 => (g.1.1.2 a ha hlt q5).elim fun c9 w9 => ⟨_, e1, by have := Option.some.inj (w9.1.symm.trans q1); subst this; exact ⟨w9.2.1, w9.2.2.1, by show (c9.slots.setIfInBounds _ _).size = 8; rw [Array.size_setIfInBounds]; exact w9.2.2.2⟩⟩)) e2)
  rcases hlk with ⟨nf, ref, hl, hsame⟩ | ⟨nf, hin2, hdecl, hl⟩
  · unfold u_lay at hlay
    rw [if_neg (by rw [nf]; decide)] at hlay
    have h6 := u_store hfc hkC hkind hlay hi (f2 k hkn) p7 p8
    rcases hl with hl | ⟨host, hl⟩
    · refine W.putK hx hb (f := f) ⟨hown, hl, ⟨_, _, _, hsame _ hi⟩, hst⟩ (by rw [q2]; exact h6) q1 q3 (by rw [hsl]; exact k2_hasslot (q4 k hkn)) rfl rfl hd fun H' e1 e2 e3 => ?_
      rw [hsl] at e1 ⊢
      exact fin H' _ e1 e2 e3
    · refine va_WputK hx hb (f := f) hown hl (hsame _ hi) hst (by rw [q2]; exact h6) q1 q3 (by rw [hsl]; exact k2_hasslot (q4 k hkn)) rfl rfl hd fun H' e1 e2 e3 => ?_
      rw [hsl] at e1 ⊢
      exact fin H' _ e1 e2 e3
  · unfold u_lay at hlay
    rw [if_pos nf] at hlay
    have hcf : m.cls = cf := by
      obtain ⟨_, _, c', _, _, _, -, -, hf', -, -, -, hown2, -⟩ := Cond.laysFinal_spec hlay
      have e1 : c' = cf := by have := hi.symm.trans hf'; simp at this; exact this.1.symm
      rw [hdecl] at hown2
      rw [← e1]; exact Option.some.inj (hown.symm.trans hown2)
    have h6 := u_fits hfc hkC hkind (Or.inr hlay) hi (f2 k hkn) p7 p8
    refine W.putFinK hx hb hown hl hi hst hcf hin2 (by rw [q2]; exact h6) q1 q3 (by rw [hsl]; exact k2_hasslot (q4 k hkn)) rfl rfl hd fun H' e1 e2 e3 => ?_
    rw [hsl] at e1 ⊢
    exact fin H' _ e1 e2 e3
theorem z_Gd.new {H H' : Heap} {locs : List Loc} {cells slots : Nat} {lsA : Array Slot} {k n b : Nat} (g : z_Gd E s R nL ls h bc bs H locs cells slots lsA) (h1 : 1 ≤ bc) (h2 : b ≤ bs) (hR : z_Rep E (z_new h k n) H') (hsz : H'.size = H.size + 1) : z_Gd E s R nL ls (z_new h k n) (bc - 1) (bs - b) H' locs (cells + 1) (slots + b) lsA := by
  obtain ⟨g1, g2, g3, g4, g5, g6⟩ := g
  exact ⟨hR, by omega, g3, g4, by omega, by omega⟩
theorem z_nx_f {H : Heap} (hR : z_Rep E h H) : z_f E h.1 = H.size := by
  rw [z_f_dyn hR.1.1, hR.2.1]
theorem z_sm_new {index : Nat} (hx : p.tables.exec = Jvm.exec) (hb : c.code = cc) (hts : ∀ w ∈ lw_all, w.before args s = true) {own : String} (hown : s.vm.findClass own = some m.cls) (hlk : (Cond.classLink own index (z_R o.1)).before args s = true) (hK : va_K E.2.2.2.1 z_cl (z_tys E) s) (hY : ∀ pc ls st h bc bs, Y pc ls st h bc bs → z_Sim E p l e R s m args below meth c nL QQ pc ls st h bc bs) (hd : decode cc pc = .ok (.new index, 3)) (hs : z_step C mi Qz QX Y pc (.new index) o ls st h bc bs) : z_Sim E p l e R s m args below meth c nL QQ pc ls st h bc bs := by
  obtain ⟨hc, hbc, hbs, h1⟩ := hs
  intro H locs cells slots lsA g
  obtain ⟨f1, f2, f3, f4, f5⟩ := z_cfs _ hc
  have hcl := z_cl_at _ hc
  have hKn := hK.1 _ _ hcl
  have gc := g.2.2.2.2.1
  have gs := g.2.2.2.2.2
  refine W.newcK hx hb hown hlk (hts _ f5) (hts _ f4) rfl hd (by omega) (by omega) hKn.2.1 rfl fun H1 kC hkC e1 z1 o1 => ?_
  have hat : va_at E.2.2.2.1 z_cl (z_f E h.1, z_cell E (z_new h o.1 0) h.1) H1 := by
    have ek : z_k (z_new h o.1 0) h.1 = o.1 := by unfold z_k z_new; simp
    unfold z_cell
    rw [ek, if_pos (by omega), z_nx_f g.1]
    refine ⟨_, hcl, (u_born (z_ty o.1) hts f1 hKn hkC e1 f2).to (fun j hj => ?_)⟩
    unfold vp_V
    simp only [List.getD_eq_getElem?_getD, List.getElem?_map, List.getElem?_range hj, Option.map_some, Option.getD_some]
    have e0 : ∀ i, z_I (z_new h o.1 0) h.1 i = 0 := fun i => by unfold z_I z_new; simp
    have e2 : ∀ i, z_J (z_new h o.1 0) h.1 i = 0 := fun i => by unfold z_J z_new; simp
    have e3 : ∀ i, z_P (z_new h o.1 0) h.1 i = none := fun i => by unfold z_P z_new; simp
    rcases z_kd_ty _ hc j hj with ⟨q1, q2⟩ | ⟨q1, q2⟩ | ⟨q1, q2⟩ | ⟨q1, q2⟩
    · rw [q1, q2]
      show Value.int 0 = z_v E (.int (z_I (z_new h o.1 0) h.1 j))
      rw [e0]; rfl
    · rw [q1, q2]
      show Value.long 0 = z_v E (.long (z_J (z_new h o.1 0) h.1 j))
      rw [e2]; rfl
    · rw [q1]
      show _ = z_v E (va_rf (z_P (z_new h o.1 0) h.1 j))
      rw [e3]
      cases hz : z_ty o.1 j <;> rw [hz] at q2 <;> first | rfl | cases q2
    · rw [q1, q2]
      show Value.int 0 = z_v E (.int (z_I (z_new h o.1 0) h.1 j))
      rw [e0]; rfl
  have hR := g.1.new (Or.inl hc) z1 o1 hat (fun q5 => ⟨_, by rw [z_nx_f g.1]; exact e1, rfl, rfl, by
    obtain ⟨c8, k8, i1, i2, -, -, -, i6⟩ := Cond.instantiable_spec (hts _ f5)
    have e8 : c8 = E.2.2.2.1.1 o.1 := Option.some.inj (i1.symm.trans hKn.2.1)
    subst e8
    have e9 : k8 = kC := Option.some.inj (i2.symm.trans hkC)
    subst e9
    show (k8.instanceTypes.map defaultValue).size = 8
    rw [Array.size_map, i6, q5]
    rfl⟩)
  have h2 := hY _ _ _ _ _ _ h1 H1 locs _ _ lsA (g.new hbc hbs hR z1)
  rw [List.map_cons] at h2
  show W p l e R s m args below meth c H1 locs (cells + 1) (slots + z_NN o.1) QQ (F0 m (pc + 3) lsA (.ref H.size :: st.map (z_v E)))
  rw [← z_nx_f g.1]
  exact h2
end ZPut
