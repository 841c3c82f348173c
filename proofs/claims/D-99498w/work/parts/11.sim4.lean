/-! THE PURE MACHINE AGAINST THE JVM, 4: writing the memory -/
set_option maxRecDepth 100000
theorem z_at_arr {E : z_E} {h : z_H} {H : Heap} {a : Nat} (hk : 100 ≤ z_k h a) : va_at E.2.2.2.1 z_cl (z_f E a, z_cell E h a) H ↔ H[z_f E a]? = some (arrV (E.2.2.2.2.1 (z_k h a - 100)) (z_n h a) (z_av E h a)) := by
  unfold z_cell
  rw [if_neg (by omega)]
  have e : vp_cell (E.2.2.2.2.1 (z_k h a - 100)) (z_n h a, if z_k h a < 103 then .inl (z_I h a) else if z_k h a = 103 then .inr (.inl (z_J h a)) else .inr (.inr (.inr (.inr fun i => (z_P h a i).map (z_f E))))) = arrV (E.2.2.2.2.1 (z_k h a - 100)) (z_n h a) (z_av E h a) := by
    have ez : z_av E h a = fun j => if z_k h a < 103 then .int (z_I h a j) else if z_k h a = 103 then .long (z_J h a j) else va_rf ((z_P h a j).map (z_f E)) := rfl
    rw [ez]
    by_cases q : z_k h a < 103
    · rw [if_pos q]
      simp only [if_pos q]
      exact vp_cell_i _ _ _
    · rw [if_neg q]
      by_cases q2 : z_k h a = 103
      · rw [if_pos q2]
        simp only [if_neg q, if_pos q2]
        exact vp_cell_l _ _ _
      · rw [if_neg q2]
        simp only [if_neg q, if_neg q2]
        exact vp_cell_q _ _ _
  show (H[z_f E a]? = some (vp_cell _ _)) ↔ _
  rw [e]
theorem z_cell_eq {E : z_E} {h h' : z_H} {b : Nat} (hs : h'.2.1 b = h.2.1 b) (hI : ∀ i, z_I h' b i = z_I h b i) (hJ : ∀ i, z_J h' b i = z_J h b i) (hP : ∀ i, z_P h' b i = z_P h b i) : z_cell E h' b = z_cell E h b := by
  have ek : z_k h' b = z_k h b := by unfold z_k; rw [hs]
  have en : z_n h' b = z_n h b := by unfold z_n; rw [hs]
  have eI : z_I h' b = z_I h b := funext hI
  have eJ : z_J h' b = z_J h b := funext hJ
  have eP : z_P h' b = z_P h b := funext hP
  have ef : ∀ kd k, z_fv kd h' b k = z_fv kd h b k := by
    intro kd k
    unfold z_fv
    rw [eI, eJ, eP]
  unfold z_cell
  rw [ek, en, eI, eJ, eP]
  simp only [ef]
theorem z_f_inj {E : z_E} {a b : Nat} (ha : 317 ≤ a) (hb : 317 ≤ b) (h : z_f E a = z_f E b) : a = b := by
  rw [z_f_dyn ha, z_f_dyn hb] at h
  omega
/-- one cell is changed -/
theorem z_Rep.upd {E : z_E} {h h' : z_H} {H H' : Heap} {a : Nat} (hR : z_Rep E h H) (ha : 317 ≤ a) (hn : h'.1 = h.1) (hs : h'.2.1 = h.2.1) (hI : ∀ b, b ≠ a → ∀ i, z_I h' b i = z_I h b i) (hJ : ∀ b, b ≠ a → ∀ i, z_J h' b i = z_J h b i) (hP : ∀ b, b ≠ a → ∀ i, z_P h' b i = z_P h b i) (hsz : H'.size = H.size) (ho : ∀ q, q ≠ z_f E a → H'[q]? = H[q]?) (hat : va_at E.2.2.2.1 z_cl (z_f E a, z_cell E h' a) H') (hm : z_k h a = 5 → ∃ cell : Cell, H'[z_f E a]? = some cell ∧ cell.monitor.owner = none ∧ cell.monitor.count = 0 ∧ cell.slots.size = 8) : z_Rep E h' H' := by
  obtain ⟨r1, r2, r3, r4, r5, r6⟩ := hR
  have ek : ∀ b, z_k h' b = z_k h b := fun b => by unfold z_k; rw [hs]
  refine ⟨⟨by rw [hn]; exact r1.1, fun b hb hl h5 => ?_⟩, by rw [hsz, hn]; exact r2, fun q hq => ?_, fun b hb hl => ?_, fun b hb => ?_, fun b hb => ?_⟩
  · rw [ek] at h5
    by_cases hab : b = a
    · rw [hab] at h5 ⊢; exact hm h5
    · rw [ho _ (fun q => hab (z_f_inj hb ha q))]
      exact r1.2 b hb (by rw [← hn]; exact hl) h5
  · rw [ho q (by rw [z_f_dyn ha]; omega)]
    exact r3 q hq
  · rw [hn] at hl
    obtain ⟨d1, d2⟩ := r4 b hb hl
    refine ⟨by rw [ek]; exact d1, ?_⟩
    by_cases hab : b = a
    · rw [hab]; exact hat
    · rw [z_cell_eq (by rw [hs]) (hI b hab) (hJ b hab) (hP b hab)]
      exact d2.kept (ho _ (fun q => hab (z_f_inj hb ha q)))
  · rw [hs]
    exact r5 b (by rw [← hn]; exact hb)
  · obtain ⟨e1, e2⟩ := r6 b hb
    exact ⟨by rw [hs]; exact e1, fun i => ⟨by rw [hI b (by omega)]; exact (e2 i).1, by rw [hP b (by omega)]; exact (e2 i).2⟩⟩
/-- a cell is new -/
theorem z_Rep.new {E : z_E} {h : z_H} {H H' : Heap} {k n : Nat} (hR : z_Rep E h H) (hk : k < 20 ∨ (100 ≤ k ∧ k < 108)) (hsz : H'.size = H.size + 1) (ho : ∀ q, q < H.size → H'[q]? = H[q]?) (hat : va_at E.2.2.2.1 z_cl (z_f E h.1, z_cell E (z_new h k n) h.1) H') (hm : k = 5 → ∃ cell : Cell, H'[z_f E h.1]? = some cell ∧ cell.monitor.owner = none ∧ cell.monitor.count = 0 ∧ cell.slots.size = 8) : z_Rep E (z_new h k n) H' := by
  obtain ⟨⟨r1, r7⟩, r2, r3, r4, r5, r6⟩ := hR
  have e1 : (z_new h k n).1 = h.1 + 1 := rfl
  have es : ∀ b, b ≠ h.1 → (z_new h k n).2.1 b = h.2.1 b := fun b hb => by show (if b = h.1 then (k, n) else h.2.1 b) = _; rw [if_neg hb]
  have eI : ∀ b, b ≠ h.1 → ∀ i, z_I (z_new h k n) b i = z_I h b i := fun b hb i => by show (if b = h.1 then 0 else h.2.2.1 b i) = _; rw [if_neg hb]; rfl
  have eJ : ∀ b, b ≠ h.1 → ∀ i, z_J (z_new h k n) b i = z_J h b i := fun b hb i => by show (if b = h.1 then 0 else h.2.2.2.1 b i) = _; rw [if_neg hb]; rfl
  have eP : ∀ b, b ≠ h.1 → ∀ i, z_P (z_new h k n) b i = z_P h b i := fun b hb i => by show (if b = h.1 then none else h.2.2.2.2 b i) = _; rw [if_neg hb]; rfl
  have e0 : (z_new h k n).2.1 h.1 = (k, n) := by show (if h.1 = h.1 then (k, n) else h.2.1 h.1) = _; rw [if_pos rfl]
  refine ⟨⟨by rw [e1]; omega, fun b hb hl h5 => ?_⟩, by rw [hsz, e1]; omega, fun q hq => ?_, fun b hb hl => ?_, fun b hb => ?_, fun b hb => ?_⟩
  · by_cases hab : b = h.1
    · rw [hab] at h5 ⊢
      unfold z_k at h5
      rw [e0] at h5
      exact hm h5
    · rw [ho _ (by rw [z_f_dyn hb]; rw [e1] at hl; omega)]
      refine r7 b hb (by rw [e1] at hl; omega) ?_
      unfold z_k at h5 ⊢
      rw [es b hab] at h5
      exact h5
  · rw [ho q (by omega)]
    exact r3 q hq
  · by_cases hab : b = h.1
    · rw [hab]
      refine ⟨?_, hat⟩
      unfold z_k
      rw [e0]
      exact hk
    · obtain ⟨d1, d2⟩ := r4 b hb (by rw [e1] at hl; omega)
      refine ⟨by unfold z_k; rw [es b hab]; exact d1, ?_⟩
      rw [z_cell_eq (es b hab) (eI b hab) (eJ b hab) (eP b hab)]
      refine d2.kept (ho _ ?_)
      rw [z_f_dyn hb]
      rw [e1] at hl
      omega
  · rw [e1] at hb
    rw [es b (by omega)]
    exact r5 b (by omega)
  · obtain ⟨e1, e2⟩ := r6 b hb
    exact ⟨by rw [es b (by omega)]; exact e1, fun i => ⟨by rw [eI b (by omega)]; exact (e2 i).1, by rw [eP b (by omega)]; exact (e2 i).2⟩⟩
theorem z_I_wI (h : z_H) (a i : Nat) (v : Int32) (b j : Nat) : z_I (z_wI h a i v) b j = if b = a ∧ j = i then v else z_I h b j := rfl
theorem z_J_wJ (h : z_H) (a i : Nat) (v : Int64) (b j : Nat) : z_J (z_wJ h a i v) b j = if b = a ∧ j = i then v else z_J h b j := rfl
theorem z_P_wP (h : z_H) (a i : Nat) (v : Option Nat) (b j : Nat) : z_P (z_wP h a i v) b j = if b = a ∧ j = i then v else z_P h b j := rfl
theorem z_Rep.wI {E : z_E} {h : z_H} {H H' : Heap} {a i : Nat} {x : Int32} (hR : z_Rep E h H) (ha : 317 ≤ a) (hsz : H'.size = H.size) (ho : ∀ q, q ≠ z_f E a → H'[q]? = H[q]?) (hat : va_at E.2.2.2.1 z_cl (z_f E a, z_cell E (z_wI h a i x) a) H') (hm : z_k h a = 5 → ∃ cell : Cell, H'[z_f E a]? = some cell ∧ cell.monitor.owner = none ∧ cell.monitor.count = 0 ∧ cell.slots.size = 8) : z_Rep E (z_wI h a i x) H' :=
  hR.upd ha rfl rfl (fun b hb j => by rw [z_I_wI, if_neg (fun q => hb q.1)]) (fun _ _ _ => rfl) (fun _ _ _ => rfl) hsz ho hat hm
theorem z_Rep.wJ {E : z_E} {h : z_H} {H H' : Heap} {a i : Nat} {x : Int64} (hR : z_Rep E h H) (ha : 317 ≤ a) (hsz : H'.size = H.size) (ho : ∀ q, q ≠ z_f E a → H'[q]? = H[q]?) (hat : va_at E.2.2.2.1 z_cl (z_f E a, z_cell E (z_wJ h a i x) a) H') (hm : z_k h a = 5 → ∃ cell : Cell, H'[z_f E a]? = some cell ∧ cell.monitor.owner = none ∧ cell.monitor.count = 0 ∧ cell.slots.size = 8) : z_Rep E (z_wJ h a i x) H' :=
  hR.upd ha rfl rfl (fun _ _ _ => rfl) (fun b hb j => by rw [z_J_wJ, if_neg (fun q => hb q.1)]) (fun _ _ _ => rfl) hsz ho hat hm
theorem z_Rep.wP {E : z_E} {h : z_H} {H H' : Heap} {a i : Nat} {x : Option Nat} (hR : z_Rep E h H) (ha : 317 ≤ a) (hsz : H'.size = H.size) (ho : ∀ q, q ≠ z_f E a → H'[q]? = H[q]?) (hat : va_at E.2.2.2.1 z_cl (z_f E a, z_cell E (z_wP h a i x) a) H') (hm : z_k h a = 5 → ∃ cell : Cell, H'[z_f E a]? = some cell ∧ cell.monitor.owner = none ∧ cell.monitor.count = 0 ∧ cell.slots.size = 8) : z_Rep E (z_wP h a i x) H' :=
  hR.upd ha rfl rfl (fun _ _ _ => rfl) (fun _ _ _ => rfl) (fun b hb j => by rw [z_P_wP, if_neg (fun q => hb q.1)]) hsz ho hat hm
/-- the state behind a write -/
theorem z_Gd.wr {E : z_E} {s : State} {R : Room} {nL : Nat} {ls : z_L} {h h' : z_H} {bc bs : Nat} {H H' : Heap} {locs : List Loc} {cells slots : Nat} {lsA : Array Slot} {a j : Nat} (g : z_Gd E s R nL ls h bc bs H locs cells slots lsA) (ha : 317 ≤ a) (hR : z_Rep E h' H') (hsz : H'.size = H.size) : z_Gd E s R nL ls h' bc bs H' (locs ++ [⟨z_f E a, j⟩]) cells slots lsA := by
  refine ⟨hR, by rw [hsz]; exact g.2.1, fun q hq => ?_, g.2.2.2⟩
  rcases List.mem_append.mp hq with q1 | q1
  · exact g.2.2.1 q q1
  · rw [List.mem_singleton.mp q1, z_f_dyn ha]
    exact Nat.le_add_right _ _
theorem z_bool {x : Int32} (h : vp_nar .boolean x = x) : x = 0 ∨ x = 1 := by
  have h1 : vp_nar .boolean x = x &&& 1 := rfl
  rw [h1, pk_and x 1 (by decide)] at h
  rcases (show x.toBitVec.toNat % 2 ^ 1 = 0 ∨ x.toBitVec.toNat % 2 ^ 1 = 1 by omega) with q | q
  · left; rw [q] at h; exact h.symm
  · right; rw [q] at h; exact h.symm
section ZWr
variable {E : z_E} {p : Program} {l : Launch} {e : Env} {R : Room} {s : State} {m : MethodId} {args : Array Value} {below : List Frame} {meth : Method} {c : Code} {nL : Nat} {QQ : State → Prop} {cc : ByteArray}
variable {C : z_K} {mi : z_M} {Qz : z_Q} {QX : z_X} {Y : z_C} {pc : Nat} {o : z_O} {ls : z_L} {st : List Value} {h : z_H} {bc bs : Nat}
theorem z_dyn_cell {H : Heap} {a : Nat} (hR : z_Rep E h H) (hK : va_K E.2.2.2.1 z_cl (z_tys E) s) (ha : 317 ≤ a) (hk : 100 ≤ z_k h a) (hk2 : z_k h a < 110) : H[z_f E a]? = some (arrV (E.2.2.2.2.1 (z_k h a - 100)) (z_n h a) (z_av E h a)) ∧ s.isArrayOf (arrV (E.2.2.2.2.1 (z_k h a - 100)) (z_n h a) (z_av E h a)) (z_aty (z_k h a)) ∧ (z_tys E)[z_k h a - 100]? = some (E.2.2.2.2.1 (z_k h a - 100), z_aty (z_k h a)) := by
  have hlt : a < h.1 := z_lt_of_kind hR (by omega)
  obtain ⟨d1, d2⟩ := hR.2.2.2.1 a ha hlt
  have hkk : z_k h a < 108 := by omega
  have hty : (z_tys E)[z_k h a - 100]? = some (E.2.2.2.2.1 (z_k h a - 100), z_aty (z_k h a)) := by
    generalize z_k h a = k at hk hkk
    rcases (show k = 100 ∨ k = 101 ∨ k = 102 ∨ k = 103 ∨ k = 104 ∨ k = 105 ∨ k = 106 ∨ k = 107 by omega) with rfl | rfl | rfl | rfl | rfl | rfl | rfl | rfl <;> rfl
  exact ⟨(z_at_arr hk).mp d2, (hK.2 _ _ hty).1 _ _, hty⟩
theorem z_sm_iastore (hx : p.tables.exec = Jvm.exec) (hb : c.code = cc) (hK : va_K E.2.2.2.1 z_cl (z_tys E) s) (hY : ∀ pc ls st h bc bs, Y pc ls st h bc bs → z_Sim E p l e R s m args below meth c nL QQ pc ls st h bc bs) (hd : decode cc pc = .ok (.iastore, 1)) (hs : z_step C mi Qz QX Y pc (.iastore) o ls st h bc bs) : z_Sim E p l e R s m args below meth c nL QQ pc ls st h bc bs := by
  obtain ⟨a, i, x, r, rfl, ha, hk, hin, h1⟩ := z_rii_e hs
  intro H locs cells slots lsA g
  obtain ⟨g1, g2, -⟩ := z_dyn_cell (a := a) g.1 hK ha (by omega) (by omega)
  rw [show z_aty (z_k h a) = .int by rw [hk]; rfl] at g2
  refine W.iast hx hb g1 g2 (fun q => by cases q) (by rw [arrV_size]; exact hin) rfl rfl hd fun H1 e z oq => ?_
  have hR := g.1.wI (hm := fun q => absurd q (by omega)) (x := x) (i := i.toNatClampNeg) ha z oq (by
    rw [z_at_arr (by show 100 ≤ z_k h a; omega), e, arrV_store]
    congr 2
    funext j
    show updV (z_av E h a) i.toNatClampNeg (.int x) j = if z_k h a < 103 then .int (z_I (z_wI h a i.toNatClampNeg x) a j) else _
    rw [if_pos (by omega), z_I_wI]
    unfold updV
    by_cases q : j = i.toNatClampNeg
    · rw [if_pos q, if_pos ⟨rfl, q⟩]
    · rw [if_neg q, if_neg (fun z => q z.2)]
      unfold z_av
      rw [if_pos (by omega)])
  exact hY _ _ _ _ _ _ h1 H1 _ cells slots lsA (g.wr ha hR z)
theorem z_sm_bastore (hx : p.tables.exec = Jvm.exec) (hb : c.code = cc) (hK : va_K E.2.2.2.1 z_cl (z_tys E) s) (hY : ∀ pc ls st h bc bs, Y pc ls st h bc bs → z_Sim E p l e R s m args below meth c nL QQ pc ls st h bc bs) (hd : decode cc pc = .ok (.bastore, 1)) (hs : z_step C mi Qz QX Y pc (.bastore) o ls st h bc bs) : z_Sim E p l e R s m args below meth c nL QQ pc ls st h bc bs := by
  obtain ⟨a, i, x, r, rfl, ha, hk, hin, h1⟩ := z_rii_e hs
  intro H locs cells slots lsA g
  obtain ⟨g1, g2, -⟩ := z_dyn_cell (a := a) g.1 hK ha (by omega) (by omega)
  have fin : ∀ (H1 : Heap) (j : Nat) (x9 : Int32), x9 = z_nk (z_k h a) x → H1[z_f E a]? = some ((arrV (E.2.2.2.2.1 (z_k h a - 100)) (z_n h a) (z_av E h a)).setSlot i.toNatClampNeg (.int x9)) → H1.size = H.size → (∀ q, q ≠ z_f E a → H1[q]? = H[q]?) → W p l e R s m args below meth c H1 (locs ++ [⟨z_f E a, j⟩]) cells slots QQ (F0 m (pc + 1) lsA (r.map (z_v E))) := by
    intro H1 j x9 hx9 e z oq
    subst hx9
    have hR := g.1.wI (hm := fun q => absurd q (by omega)) (x := z_nk (z_k h a) x) (i := i.toNatClampNeg) ha z oq (by
      rw [z_at_arr (by show 100 ≤ z_k h a; omega), e, arrV_store]
      congr 2
      funext j
      show updV (z_av E h a) i.toNatClampNeg (.int (z_nk (z_k h a) x)) j = if z_k h a < 103 then .int (z_I (z_wI h a i.toNatClampNeg (z_nk (z_k h a) x)) a j) else _
      rw [if_pos (by omega), z_I_wI]
      unfold updV
      by_cases q : j = i.toNatClampNeg
      · rw [if_pos q, if_pos ⟨rfl, q⟩]
      · rw [if_neg q, if_neg (fun z => q z.2)]
        unfold z_av
        rw [if_pos (by omega)])
    exact hY _ _ _ _ _ _ h1 H1 _ cells slots lsA (g.wr ha hR z)
  rcases hk with hk | hk
  · have g2' := g2
    rw [hk] at g2'
    have g2'' : s.isArrayOf (arrV (E.2.2.2.2.1 (z_k h a - 100)) (z_n h a) (z_av E h a)) .byte := by rw [hk]; exact g2'
    refine W.bast hx hb g1 g2'' (fun q => by cases q) (by rw [arrV_size]; exact hin) rfl rfl hd fun H1 e z oq => fin H1 _ (vp_nar .byte x) (by unfold z_nk; rw [if_pos hk]) e z oq
  · have g2' := g2
    rw [hk] at g2'
    have g2'' : s.isArrayOf (arrV (E.2.2.2.2.1 (z_k h a - 100)) (z_n h a) (z_av E h a)) .boolean := by rw [hk]; exact g2'
    refine W.zast hx hb g1 g2'' (fun q => by cases q) (by rw [arrV_size]; exact hin) rfl rfl hd fun H1 e z oq => fin H1 _ (vp_nar .boolean x) (by unfold z_nk; rw [if_neg (by omega)]) e z oq
theorem z_sm_lastore (hx : p.tables.exec = Jvm.exec) (hb : c.code = cc) (hK : va_K E.2.2.2.1 z_cl (z_tys E) s) (hY : ∀ pc ls st h bc bs, Y pc ls st h bc bs → z_Sim E p l e R s m args below meth c nL QQ pc ls st h bc bs) (hd : decode cc pc = .ok (.lastore, 1)) (hs : z_step C mi Qz QX Y pc (.lastore) o ls st h bc bs) : z_Sim E p l e R s m args below meth c nL QQ pc ls st h bc bs := by
  obtain ⟨a, i, x, r, rfl, ha, hk, hin, h1⟩ := z_ril_e hs
  intro H locs cells slots lsA g
  obtain ⟨g1, g2, -⟩ := z_dyn_cell (a := a) g.1 hK ha (by omega) (by omega)
  rw [show z_aty (z_k h a) = .long by rw [hk]; rfl] at g2
  refine W.last hx hb g1 g2 (fun q => by cases q) (by rw [arrV_size]; exact hin) rfl rfl hd fun H1 e z oq => ?_
  have hR := g.1.wJ (hm := fun q => absurd q (by omega)) (x := x) (i := i.toNatClampNeg) ha z oq (by
    rw [z_at_arr (by show 100 ≤ z_k h a; omega), e, arrV_store]
    congr 2
    funext j
    show updV (z_av E h a) i.toNatClampNeg (.long x) j = if z_k h a < 103 then _ else if z_k h a = 103 then .long (z_J (z_wJ h a i.toNatClampNeg x) a j) else _
    rw [if_neg (by omega), if_pos hk, z_J_wJ]
    unfold updV
    by_cases q : j = i.toNatClampNeg
    · rw [if_pos q, if_pos ⟨rfl, q⟩]
    · rw [if_neg q, if_neg (fun z => q z.2)]
      unfold z_av
      rw [if_neg (by omega), if_pos hk])
  exact hY _ _ _ _ _ _ h1 H1 _ cells slots lsA (g.wr ha hR z)
end ZWr
