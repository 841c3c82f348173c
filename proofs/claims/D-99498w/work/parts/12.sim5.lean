/-! THE PURE MACHINE AGAINST THE JVM, 5: stores of references, fields, new cells -/
set_option maxRecDepth 100000
def z_BW (s : State) : Prop := ∀ w ∈ z_nw, va_Nw w s
theorem z_BW.warm {s U : State} (hW : s.WarmedH U.vm) (h : z_BW s) : z_BW U := by
  intro w hw
  have h1 := z_nw_k w hw
  have h2 := h w hw
  unfold z_nwk at h1
  split at h1
  · exact va_Nw.warmC hW h2
  · exact va_Nw.warmF hW h2
  · exact va_Nw.warmM hW h2
  · cases h1
section ZWr2
variable {E : z_E} {p : Program} {l : Launch} {e : Env} {R : Room} {s : State} {m : MethodId} {args : Array Value} {below : List Frame} {meth : Method} {c : Code} {nL : Nat} {QQ : State → Prop} {cc : ByteArray}
variable {C : z_K} {mi : z_M} {Qz : z_Q} {QX : z_X} {Y : z_C} {pc : Nat} {o : z_O} {ls : z_L} {st : List Value} {h : z_H} {bc bs : Nat}
/-- an object's cell and its class -/
theorem z_obj_cell {H : Heap} {a : Nat} (hR : z_Rep E h H) (hS : z_HS E s) (hK : va_K E.2.2.2.1 z_cl (z_tys E) s) (hk : z_k h a < 100) : ∃ cell : Cell, H[z_f E a]? = some cell ∧ cell.vm.isStatics = false ∧ s.vm.findClass (z_R (z_k h a)) = some cell.cls ∧ ∃ kC : Class, s.vm.classes[cell.cls]? = some kC := by
  obtain ⟨r1, r2, r3, r4, r5, r6⟩ := hR
  by_cases hs : a < 317
  · obtain ⟨e1, e2⟩ := r6 a hs
    have ek : z_k h a = (z_sk E.2.2.2.2.2.1 a).1 := by unfold z_k; rw [e1]
    obtain ⟨h1, -, h3⟩ := hS a hs
    obtain ⟨⟨cell, g1, g2, g3, g4⟩, -⟩ := h3 (by rw [← ek]; exact hk)
    exact ⟨cell, by rw [z_f_sta hs, r3 _ h1]; exact g1, g2, by rw [ek]; exact g3, g4⟩
  · have hlt : a < h.1 := z_lt_of_kind ⟨r1, r2, r3, r4, r5, r6⟩ (by omega)
    obtain ⟨d1, d2⟩ := r4 a (by omega) hlt
    have hc20 : z_k h a < 20 := by omega
    unfold z_cell at d2
    rw [if_pos hk] at d2
    obtain ⟨r, w1, cell, q1, q2, q3, q4⟩ := d2
    have hr : r = (z_R (z_k h a), z_T (z_k h a), z_N (z_k h a)) := Option.some.inj (w1.symm.trans (z_cl_at _ hc20))
    subst hr
    obtain ⟨hSl, hfc, kC, hkC, hkind⟩ := hK.1 _ _ (z_cl_at _ hc20)
    exact ⟨cell, q1, by rw [q3]; rfl, by rw [q2]; exact hfc, kC, by rw [q2]; exact hkC⟩
theorem z_asg_ok {H : Heap} {ka b : Nat} {cv : Cell} {comp : ClassId} {D : String} (hB : z_BW s) (hK : va_K E.2.2.2.1 z_cl (z_tys E) s) (hq : z_asg ka (z_k h b) = true) (hD : z_aty ka = .object D) (hcv : s.vm.findClass (z_R (z_k h b)) = some cv.cls) (hcomp : s.vm.findClass D = some comp) : s.vm.assignable cv.cls comp = true := by
  unfold z_asg at hq
  split at hq
  · cases hD
    simp only [decide_eq_true_eq] at hq
    exact vb_asgC (hB _ (z_castO _ hq)) comp cv.cls hcomp hcv
  · cases hD
    simp only [Bool.or_eq_true, beq_iff_eq] at hq
    rcases hq with ((((q | q) | q) | q) | q) | q
    · rw [q] at hcv; exact vb_asgC (hB _ z_castS6) comp cv.cls hcomp hcv
    · rw [q] at hcv; exact vb_asgC (hB _ z_castS7) comp cv.cls hcomp hcv
    · rw [q] at hcv; exact vb_asgC (hB _ z_castS13) comp cv.cls hcomp hcv
    · rw [q] at hcv; exact vb_asgC (hB _ z_castS14) comp cv.cls hcomp hcv
    · rw [q] at hcv; exact vb_asgC (hB _ z_castS15) comp cv.cls hcomp hcv
    · rw [q] at hcv; exact vb_asgC (hB _ z_castS16) comp cv.cls hcomp hcv
  · cases hD
    simp only [beq_iff_eq] at hq
    rw [hq] at hcv
    have hcl := (hK.1 4 _ (z_cl_at 4 (by omega))).2
    have hcc : comp = cv.cls := Option.some.inj (hcomp.symm.trans hcv)
    subst hcc
    have h1 : s.vm.findClass (z_R 4) = some (E.2.2.2.1.1 4) := hcl.1
    have h2 : E.2.2.2.1.1 4 = cv.cls := Option.some.inj (h1.symm.trans hcv)
    rw [← h2]
    exact va_assign (C := z_R 4) hcl
  · cases hq
theorem z_asg_kind {ka kb : Nat} (hq : z_asg ka kb = true) : 104 ≤ ka ∧ ka < 107 ∧ kb < 20 := by
  unfold z_asg at hq
  split at hq
  · simp only [decide_eq_true_eq] at hq; omega
  · simp only [Bool.or_eq_true, beq_iff_eq] at hq; omega
  · simp only [beq_iff_eq] at hq; omega
  · cases hq
theorem z_sm_aastore (hx : p.tables.exec = Jvm.exec) (hb : c.code = cc) (hB : z_BW s) (hS : z_HS E s) (hK : va_K E.2.2.2.1 z_cl (z_tys E) s) (hY : ∀ pc ls st h bc bs, Y pc ls st h bc bs → z_Sim E p l e R s m args below meth c nL QQ pc ls st h bc bs) (hd : decode cc pc = .ok (.aastore, 1)) (hs : z_step C mi Qz QX Y pc (.aastore) o ls st h bc bs) : z_Sim E p l e R s m args below meth c nL QQ pc ls st h bc bs := by
  obtain ⟨a, i, b, r, rfl, ha, hq, hin, h1⟩ := z_rir_e hs
  intro H locs cells slots lsA g
  obtain ⟨k1, k2, k3⟩ := z_asg_kind hq
  obtain ⟨g1, g2, g3⟩ := z_dyn_cell (a := a) g.1 hK ha (by omega) (by omega)
  obtain ⟨cv, v1, v2, v3, kv, v4⟩ := z_obj_cell (a := b) g.1 hS hK (by omega)
  have hD : ∃ D, z_aty (z_k h a) = .object D := by
    generalize z_k h a = k at k1 k2
    rcases (show k = 104 ∨ k = 105 ∨ k = 106 by omega) with rfl | rfl | rfl <;> exact ⟨_, rfl⟩
  obtain ⟨D, hD⟩ := hD
  have hra := (hK.2 _ _ g3).2
  rw [hD] at hra
  obtain ⟨kA, comp, q1, q2, q3, q4⟩ := hra
  obtain ⟨-, kc, hkc, -⟩ := Vm.findClass_spec q3 |>.imp (fun _ h => h) |> fun h => (⟨trivial, h.choose, h.choose_spec.1, trivial⟩ : True ∧ ∃ k : Class, s.vm.classes[comp]? = some k ∧ True)
  have h0 : ¬ i < 0 := fun q => hin (Or.inl q)
  have hlt : i.toNatClampNeg < z_n h a := Nat.not_le.mp fun q => hin (Or.inr q)
  refine W.aast hx hb g1 (fun q z => by cases z) (fun z => by cases z) q1 q2 rfl hkc ⟨h0, by rw [arrV_size]; exact hlt⟩ v1 (fun q z => by rw [z] at v2; cases v2) v4 (z_asg_ok (H := H) hB hK hq hD v3 q3) rfl rfl hd fun H1 e1 z oq => ?_
  have hR := g.1.wP (hm := fun q => absurd q (by omega)) (x := some b) (i := i.toNatClampNeg) ha z oq (by
    rw [z_at_arr (by show 100 ≤ z_k h a; omega), e1, arrV_store]
    congr 2
    funext j
    show updV (z_av E h a) i.toNatClampNeg (.ref (z_f E b)) j = if z_k h a < 103 then _ else if z_k h a = 103 then _ else va_rf ((z_P (z_wP h a i.toNatClampNeg (some b)) a j).map (z_f E))
    rw [if_neg (by omega), if_neg (by omega), z_P_wP]
    unfold updV
    by_cases q : j = i.toNatClampNeg
    · rw [if_pos q, if_pos ⟨rfl, q⟩]; rfl
    · rw [if_neg q, if_neg (fun z => q z.2)]
      unfold z_av
      rw [if_neg (by omega), if_neg (by omega)])
  exact hY _ _ _ _ _ _ h1 H1 _ cells slots lsA (g.wr ha hR z)
end ZWr2
