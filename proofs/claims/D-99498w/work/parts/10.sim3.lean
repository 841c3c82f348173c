/-! THE PURE MACHINE AGAINST THE JVM, 3: reading the memory -/
set_option maxRecDepth 100000
def z_aty (k : Nat) : FieldType := match k with
  | 100 => .int
  | 101 => .byte
  | 102 => .boolean
  | 103 => .long
  | 104 => .object "java/lang/Object"
  | 105 => .object "TollsForLate$Sum"
  | 106 => .object "TollsForLate$Text"
  | 107 => .array .int
  | 108 => .object "java/lang/String"
  | _ => .object "java/lang/Integer"
/-- what a static cell holds -/
def z_sv (E : z_E) (k a j : Nat) : Value := if k < 103 then .int (z_sI E.2.2.2.2.2.2 a j) else va_rf ((z_sP a j).map (z_f E))
def z_svf (E : z_E) (k a j : Nat) : Value := if z_kd k j = 2 then va_rf ((z_sP a j).map (z_f E)) else .int (z_sI E.2.2.2.2.2.2 a j)
def z_HS (E : z_E) (s : State) : Prop := ∀ a, a < 317 → E.1 a < E.2.2.1.size ∧
  (100 ≤ (z_sk E.2.2.2.2.2.1 a).1 → ∃ cell : Cell, E.2.2.1[E.1 a]? = some cell ∧ s.isArrayOf cell (z_aty (z_sk E.2.2.2.2.2.1 a).1) ∧ cell.vm ≠ .unknown ∧ ((z_sk E.2.2.2.2.2.1 a).2 ≤ cell.slots.size ∧ cell.slots.size.toInt32 = Int32.ofNat (z_sk E.2.2.2.2.2.1 a).2) ∧ ∀ j, j < (z_sk E.2.2.2.2.2.1 a).2 → cell.slots[j]? = some (z_sv E (z_sk E.2.2.2.2.2.1 a).1 a j)) ∧
  ((z_sk E.2.2.2.2.2.1 a).1 < 100 → (∃ cell : Cell, E.2.2.1[E.1 a]? = some cell ∧ cell.vm.isStatics = false ∧ s.vm.findClass (z_R (z_sk E.2.2.2.2.2.1 a).1) = some cell.cls ∧ ∃ kC : Class, s.vm.classes[cell.cls]? = some kC) ∧
    ∀ k, k < z_N (z_sk E.2.2.2.2.2.1 a).1 → z_sf a k = true → va_OF (z_T (z_sk E.2.2.2.2.2.1 a).1 k).1 (z_T (z_sk E.2.2.2.2.2.1 a).1 k).2.1 (z_T (z_sk E.2.2.2.2.2.1 a).1 k).2.2.1 (z_svf E (z_sk E.2.2.2.2.2.1 a).1 a k) (E.1 a) (fun q => E.2.2.1.size ≤ q) s E.2.2.1)
theorem z_HS.moved {E : z_E} {u U : State} (hvm : u.vm.Alike U.vm) (h : z_HS E u) : z_HS E U := by
  intro a ha
  obtain ⟨h1, h2, h3⟩ := h a ha
  refine ⟨h1, fun q => ?_, fun q => ?_⟩
  · obtain ⟨cell, g1, g2, g3⟩ := h2 q
    exact ⟨cell, g1, State.isArrayOf_alike hvm g2, g3⟩
  · obtain ⟨⟨cell, g1, g2, g3, kC, g4⟩, g5⟩ := h3 q
    obtain ⟨k', hk', -⟩ := hvm.2.2 _ _ g4
    exact ⟨⟨cell, g1, g2, by rw [hvm.findClass]; exact g3, k', hk'⟩, fun k hk hs => va_OF.moved hvm (g5 k hk hs)⟩
/-- what an array's place holds -/
def z_av (E : z_E) (h : z_H) (a j : Nat) : Value := if z_k h a < 103 then .int (z_I h a j) else if z_k h a = 103 then .long (z_J h a j) else va_rf ((z_P h a j).map (z_f E))
theorem z_f_dyn {E : z_E} {a : Nat} (h : 317 ≤ a) : z_f E a = E.2.2.1.size + (a - 317) := by
  unfold z_f
  rw [if_neg (by omega)]
theorem z_f_sta {E : z_E} {a : Nat} (h : a < 317) : z_f E a = E.1 a := by
  unfold z_f
  rw [if_pos h]
theorem z_sk_nl (L a : Nat) : (z_sk L a).1 ≠ 103 := by
  unfold z_sk
  repeat' split
  all_goals (dsimp only; omega)
theorem z_sk_lt (L a : Nat) : (z_sk L a).1 < 110 := by
  unfold z_sk
  repeat' split
  all_goals (dsimp only; omega)
theorem z_lt_of_kind {E : z_E} {h : z_H} {H : Heap} {a : Nat} (hR : z_Rep E h H) (hk : z_k h a < 200) : a < h.1 := by
  rcases Nat.lt_or_ge a h.1 with q | q
  · exact q
  · have h1 := hR.2.2.2.2.1 a q
    unfold z_k at hk
    rw [h1] at hk
    exact absurd hk (by decide)
theorem z_arr_cell {E : z_E} {s : State} {h : z_H} {H : Heap} {a : Nat} (hR : z_Rep E h H) (hS : z_HS E s) (hK : va_K E.2.2.2.1 z_cl (z_tys E) s) (hk : 100 ≤ z_k h a) (hk2 : z_k h a < 110) :
    ∃ cell : Cell, H[z_f E a]? = some cell ∧ s.isArrayOf cell (z_aty (z_k h a)) ∧ cell.vm ≠ .unknown ∧ (z_n h a ≤ cell.slots.size ∧ cell.slots.size.toInt32 = Int32.ofNat (z_n h a)) ∧ ∀ j, j < z_n h a → cell.slots[j]? = some (z_av E h a j) := by
  obtain ⟨r1, r2, r3, r4, r5, r6⟩ := hR
  by_cases hs : a < 317
  · obtain ⟨e1, e2⟩ := r6 a hs
    have ek : z_k h a = (z_sk E.2.2.2.2.2.1 a).1 := by unfold z_k; rw [e1]
    have en : z_n h a = (z_sk E.2.2.2.2.2.1 a).2 := by unfold z_n; rw [e1]
    obtain ⟨h1, h2, -⟩ := hS a hs
    obtain ⟨cell, g1, g2, g3, g4, g5⟩ := h2 (by rw [← ek]; exact hk)
    refine ⟨cell, by rw [z_f_sta hs, r3 _ h1]; exact g1, by rw [ek]; exact g2, g3, by rw [en]; exact g4, fun j hj => ?_⟩
    rw [g5 j (by rw [← en]; exact hj)]
    unfold z_sv z_av
    rw [← ek, (e2 j).1, (e2 j).2]
    by_cases q : z_k h a < 103
    · rw [if_pos q, if_pos q]
    · rw [if_neg q, if_neg q, if_neg (by rw [ek]; exact z_sk_nl _ _)]
  · have hlt : a < h.1 := z_lt_of_kind ⟨r1, r2, r3, r4, r5, r6⟩ (by omega)
    obtain ⟨d1, d2⟩ := r4 a (by omega) hlt
    have hkk : z_k h a < 108 := by omega
    have hc : ¬ z_k h a < 100 := by omega
    unfold z_cell at d2
    rw [if_neg hc] at d2
    have hty : ∃ t0 : Nat, (z_tys E)[t0]? = some (E.2.2.2.2.1 (z_k h a - 100), z_aty (z_k h a)) := by
      refine ⟨z_k h a - 100, ?_⟩
      generalize z_k h a = k at hk hkk
      rcases (show k = 100 ∨ k = 101 ∨ k = 102 ∨ k = 103 ∨ k = 104 ∨ k = 105 ∨ k = 106 ∨ k = 107 by omega) with rfl | rfl | rfl | rfl | rfl | rfl | rfl | rfl <;> rfl
    obtain ⟨t0, ht0⟩ := hty
    have hA := (hK.2 t0 _ ht0).1
    have hat : ∃ z : Nat → Value, vp_cell (E.2.2.2.2.1 (z_k h a - 100)) (z_n h a, if z_k h a < 103 then .inl (z_I h a) else if z_k h a = 103 then .inr (.inl (z_J h a)) else .inr (.inr (.inr (.inr fun i => (z_P h a i).map (z_f E))))) = arrV (E.2.2.2.2.1 (z_k h a - 100)) (z_n h a) z ∧ ∀ j, z j = z_av E h a j := by
      unfold z_av
      by_cases q : z_k h a < 103
      · rw [if_pos q]
        exact ⟨_, vp_cell_i _ _ _, fun j => by rw [if_pos q]⟩
      · rw [if_neg q]
        by_cases q2 : z_k h a = 103
        · rw [if_pos q2]
          exact ⟨_, vp_cell_l _ _ _, fun j => by rw [if_neg q, if_pos q2]⟩
        · rw [if_neg q2]
          exact ⟨_, vp_cell_q _ _ _, fun j => by rw [if_neg q, if_neg q2]⟩
    obtain ⟨z, hz, hzj⟩ := hat
    have hcell : H[z_f E a]? = some (arrV (E.2.2.2.2.1 (z_k h a - 100)) (z_n h a) z) := by rw [← hz]; exact d2
    refine ⟨_, hcell, hA _ _, (fun q => by cases q), ⟨Nat.le_of_eq (arrV_size _ _ _).symm, by rw [arrV_size]⟩, fun j hj => ?_⟩
    rw [arrV_read _ _ hj, hzj]
section ZRd
variable {E : z_E} {p : Program} {l : Launch} {e : Env} {R : Room} {s : State} {m : MethodId} {args : Array Value} {below : List Frame} {meth : Method} {c : Code} {nL : Nat} {QQ : State → Prop} {cc : ByteArray}
variable {C : z_K} {mi : z_M} {Qz : z_Q} {QX : z_X} {Y : z_C} {pc : Nat} {o : z_O} {ls : z_L} {st : List Value} {h : z_H} {bc bs : Nat}
theorem z_sm_iaload (hx : p.tables.exec = Jvm.exec) (hb : c.code = cc) (hS : z_HS E s) (hK : va_K E.2.2.2.1 z_cl (z_tys E) s) (hY : ∀ pc ls st h bc bs, Y pc ls st h bc bs → z_Sim E p l e R s m args below meth c nL QQ pc ls st h bc bs) (hd : decode cc pc = .ok (.iaload, 1)) (hs : z_step C mi Qz QX Y pc (.iaload) o ls st h bc bs) : z_Sim E p l e R s m args below meth c nL QQ pc ls st h bc bs := by
  obtain ⟨a, i, r, rfl, hk, hin, h1⟩ := z_ri_e hs
  intro H locs cells slots lsA g
  obtain ⟨cell, g1, g2, g3, g4, g5⟩ := z_arr_cell (a := a) g.1 hS hK (by omega) (by omega)
  have hlt : i.toNatClampNeg < z_n h a := Nat.not_le.mp fun q => hin (Or.inr q)
  have g6 := g5 _ hlt
  unfold z_av at g6
  rw [if_pos (by omega)] at g6
  rw [hk] at g2
  exact W.iald hx hb g1 g2 g3 (fun q => hin (q.imp id (Nat.le_trans g4.1))) g6 rfl rfl hd (hY _ _ _ _ _ _ h1 H locs cells slots lsA g)
theorem z_sm_baload (hx : p.tables.exec = Jvm.exec) (hb : c.code = cc) (hS : z_HS E s) (hK : va_K E.2.2.2.1 z_cl (z_tys E) s) (hY : ∀ pc ls st h bc bs, Y pc ls st h bc bs → z_Sim E p l e R s m args below meth c nL QQ pc ls st h bc bs) (hd : decode cc pc = .ok (.baload, 1)) (hs : z_step C mi Qz QX Y pc (.baload) o ls st h bc bs) : z_Sim E p l e R s m args below meth c nL QQ pc ls st h bc bs := by
  obtain ⟨a, i, r, rfl, hk, hin, h1⟩ := z_ri_e hs
  intro H locs cells slots lsA g
  obtain ⟨cell, g1, g2, g3, g4, g5⟩ := z_arr_cell (a := a) g.1 hS hK (by omega) (by omega)
  have hlt : i.toNatClampNeg < z_n h a := Nat.not_le.mp fun q => hin (Or.inr q)
  have g6 := g5 _ hlt
  unfold z_av at g6
  rw [if_pos (by omega)] at g6
  rcases hk with hk | hk
  · rw [hk] at g2
    exact W.bald hx hb g1 g2 g3 (fun q => hin (q.imp id (Nat.le_trans g4.1))) g6 rfl rfl hd (hY _ _ _ _ _ _ h1 H locs cells slots lsA g)
  · rw [hk] at g2
    exact W.zald hx hb g1 g2 g3 (fun q => hin (q.imp id (Nat.le_trans g4.1))) g6 rfl rfl hd (hY _ _ _ _ _ _ h1 H locs cells slots lsA g)
theorem z_sm_laload (hx : p.tables.exec = Jvm.exec) (hb : c.code = cc) (hS : z_HS E s) (hK : va_K E.2.2.2.1 z_cl (z_tys E) s) (hY : ∀ pc ls st h bc bs, Y pc ls st h bc bs → z_Sim E p l e R s m args below meth c nL QQ pc ls st h bc bs) (hd : decode cc pc = .ok (.laload, 1)) (hs : z_step C mi Qz QX Y pc (.laload) o ls st h bc bs) : z_Sim E p l e R s m args below meth c nL QQ pc ls st h bc bs := by
  obtain ⟨a, i, r, rfl, hk, hin, h1⟩ := z_ri_e hs
  intro H locs cells slots lsA g
  obtain ⟨cell, g1, g2, g3, g4, g5⟩ := z_arr_cell (a := a) g.1 hS hK (by omega) (by omega)
  have hlt : i.toNatClampNeg < z_n h a := Nat.not_le.mp fun q => hin (Or.inr q)
  have g6 := g5 _ hlt
  unfold z_av at g6
  rw [if_neg (by omega), if_pos hk] at g6
  rw [hk] at g2
  exact W.lald hx hb g1 g2 g3 (fun q => hin (q.imp id (Nat.le_trans g4.1))) g6 rfl rfl hd (hY _ _ _ _ _ _ h1 H locs cells slots lsA g)
theorem z_rf_v (x : Option Nat) : va_rf (x.map (z_f E)) = z_v E (va_rf x) := by cases x <;> rfl
theorem z_sm_aaload (hx : p.tables.exec = Jvm.exec) (hb : c.code = cc) (hS : z_HS E s) (hK : va_K E.2.2.2.1 z_cl (z_tys E) s) (hY : ∀ pc ls st h bc bs, Y pc ls st h bc bs → z_Sim E p l e R s m args below meth c nL QQ pc ls st h bc bs) (hd : decode cc pc = .ok (.aaload, 1)) (hs : z_step C mi Qz QX Y pc (.aaload) o ls st h bc bs) : z_Sim E p l e R s m args below meth c nL QQ pc ls st h bc bs := by
  obtain ⟨a, i, r, rfl, hk, hin, h1⟩ := z_ri_e hs
  intro H locs cells slots lsA g
  obtain ⟨cell, g1, g2, g3, g4, g5⟩ := z_arr_cell (a := a) g.1 hS hK (by omega) (by omega)
  have hlt : i.toNatClampNeg < z_n h a := Nat.not_le.mp fun q => hin (Or.inr q)
  have g6 := g5 _ hlt
  unfold z_av at g6
  rw [if_neg (by omega), if_neg (by omega), z_rf_v] at g6
  have hr : (z_aty (z_k h a)).isReference = true := by
    generalize z_k h a = k at hk
    rcases (show k = 104 ∨ k = 105 ∨ k = 106 ∨ k = 107 ∨ k = 108 ∨ k = 109 by omega) with rfl | rfl | rfl | rfl | rfl | rfl <;> rfl
  exact W.aald hx hb g1 g2 hr g3 (fun q => hin (q.imp id (Nat.le_trans g4.1))) g6 rfl rfl hd (hY _ _ _ _ _ _ h1 H locs cells slots lsA g)
theorem z_sm_arraylength (hx : p.tables.exec = Jvm.exec) (hb : c.code = cc) (hS : z_HS E s) (hK : va_K E.2.2.2.1 z_cl (z_tys E) s) (hY : ∀ pc ls st h bc bs, Y pc ls st h bc bs → z_Sim E p l e R s m args below meth c nL QQ pc ls st h bc bs) (hd : decode cc pc = .ok (.arraylength, 1)) (hs : z_step C mi Qz QX Y pc (.arraylength) o ls st h bc bs) : z_Sim E p l e R s m args below meth c nL QQ pc ls st h bc bs := by
  obtain ⟨a, r, rfl, hk, h1⟩ := z_r1_e hs
  intro H locs cells slots lsA g
  unfold z_arr at hk
  simp only [Bool.and_eq_true, decide_eq_true_eq] at hk
  obtain ⟨cell, g1, g2, g3, g4, g5⟩ := z_arr_cell (a := a) g.1 hS hK (by omega) (by omega)
  exact W.alen hx hb g1 g2 g4.2 rfl rfl hd (hY _ _ _ _ _ _ h1 H locs cells slots lsA g)
/-- a link to a field, own or of a nest mate -/
def z_okF (s : State) (args : Array Value) (own : String) (index ci k : Nat) : Prop :=
  ∃ ref, ((Cond.fieldLink own index ref (z_T ci k).2.1 (z_T ci k).2.2.1).before args s = true ∨ ∃ host, (Cond.fieldLinkNest own index ref (z_T ci k).2.1 (z_T ci k).2.2.1 host).before args s = true) ∧ ∀ x, s.fieldFound? (z_T ci k).1 (z_T ci k).2.1 (z_T ci k).2.2.1 = some x → s.fieldFound? ref (z_T ci k).2.1 (z_T ci k).2.2.1 = some x
theorem z_fcell {h : z_H} {H : Heap} {a ci k kd : Nat} (hts : ∀ w ∈ lw_all, w.before args s = true) (hR : z_Rep E h H) (hS : z_HS E s) (hK : va_K E.2.2.2.1 z_cl (z_tys E) s) (hk : z_k h a = ci) (hc : ci < 21) (hsf : z_sf a k = true) (hkn : k < z_N ci) (hkd : z_kd ci k = kd) :
    ∃ (cf i : Nat) (kk : Class) (f : Field) (cell : Cell), s.fieldFound? (z_T ci k).1 (z_T ci k).2.1 (z_T ci k).2.2.1 = some (cf, kk, i, f) ∧ f.isStatic = false ∧ H[z_f E a]? = some cell ∧ cell.vm ≠ .unknown ∧ cell.slots[f.slot]? = some (z_v E (z_fv kd h a k)) := by
  obtain ⟨r1, r2, r3, r4, r5, r6⟩ := hR
  subst hk
  by_cases hs : a < 317
  · obtain ⟨e1, e2⟩ := r6 a hs
    have ek : z_k h a = (z_sk E.2.2.2.2.2.1 a).1 := by unfold z_k; rw [e1]
    obtain ⟨h1, -, h3⟩ := hS a hs
    obtain ⟨-, h4⟩ := h3 (by rw [← ek]; omega)
    rw [ek] at hkn ⊢
    obtain ⟨cf, kk, i, f, cell, q1, q2, q3, q4, q5, q6⟩ := h4 k hkn hsf
    refine ⟨cf, i, kk, f, cell, q1, q2, by rw [z_f_sta hs, r3 _ h1]; exact q3, q4, ?_⟩
    rw [q5]
    unfold z_svf
    rw [← ek, hkd]
    have hkv : z_kd (z_k h a) k = 2 ∨ z_kd (z_k h a) k = 0 := by
      have hsk : (z_k h a = 4 ∧ k = 0) ∨ (z_k h a = 20 ∧ k < 2) ∨ (z_k h a = 19 ∧ k < 1) := by
        rw [ek]
        simp only [z_sf, Bool.or_eq_true, Bool.and_eq_true, decide_eq_true_eq, beq_iff_eq] at hsf
        rcases hsf with ((q | q) | q) | q
        · omega
        · left; obtain ⟨rfl, rfl⟩ := q; exact ⟨rfl, rfl⟩
        · right; left
          have : (z_sk E.2.2.2.2.2.1 a).1 = 20 := by
            unfold z_sk
            rw [if_neg (by omega), if_neg (by omega), if_neg (by omega), if_neg (by omega), if_neg (by omega), if_neg (by omega), if_pos (by omega)]
          rw [this] at hkn
          exact ⟨this, hkn⟩
        · right; right
          have : (z_sk E.2.2.2.2.2.1 a).1 = 19 := by
            unfold z_sk
            rw [if_neg (by omega), if_neg (by omega), if_neg (by omega), if_neg (by omega), if_neg (by omega), if_neg (by omega), if_neg (by omega), if_neg (by omega), if_neg (by omega)]
          rw [this] at hkn
          exact ⟨this, hkn⟩
      rcases hsk with ⟨q, rfl⟩ | ⟨q, q2⟩ | ⟨q, q2⟩
      · rw [q]; left; rfl
      · rw [q]
        rcases (show k = 0 ∨ k = 1 by omega) with rfl | rfl
        · left; rfl
        · right; rfl
      · rw [q]
        rcases (show k = 0 by omega) with rfl
        right; rfl
    rw [hkd] at hkv
    rcases hkv with rfl | rfl
    · rw [if_pos rfl, ← (e2 k).2, z_rf_v]; rfl
    · rw [if_neg (by decide), ← (e2 k).1]; rfl
  · have hlt : a < h.1 := z_lt_of_kind ⟨r1, r2, r3, r4, r5, r6⟩ (by omega)
    obtain ⟨d1, d2⟩ := r4 a (by omega) hlt
    have hc20 : z_k h a < 20 := by omega
    unfold z_cell at d2
    rw [if_pos (by omega)] at d2
    obtain ⟨r, w1, cell, q1, q2, q3, q4⟩ := d2
    have hr : r = (z_R (z_k h a), z_T (z_k h a), z_N (z_k h a)) := Option.some.inj (w1.symm.trans (z_cl_at _ hc20))
    subst hr
    obtain ⟨hSl, hfc, kC, hkC, hkind⟩ := hK.1 _ _ (z_cl_at _ hc20)
    obtain ⟨cf, kf, fi, f, hi, hsl⟩ := hSl k hkn
    refine ⟨cf, fi, kf, f, cell, hi, (u_facts hfc hkC (u_lays hts (z_cfs _ hc20).1 hkn) hi).1, q1, (by rw [q3]; exact fun z => by cases z), ?_⟩
    rw [hsl, q4 k hkn]
    simp [vp_V, hkn, hkd]
theorem z_sm_getfield {index : Nat} (hx : p.tables.exec = Jvm.exec) (hb : c.code = cc) (hts : ∀ w ∈ lw_all, w.before args s = true) {own : String} (hown : s.vm.findClass own = some m.cls) (hlk : z_okF s args own index o.1 o.2.1) (hkd : z_kd o.1 o.2.1 = o.2.2.1) (hS : z_HS E s) (hK : va_K E.2.2.2.1 z_cl (z_tys E) s) (hY : ∀ pc ls st h bc bs, Y pc ls st h bc bs → z_Sim E p l e R s m args below meth c nL QQ pc ls st h bc bs) (hd : decode cc pc = .ok (.getfield index, 3)) (hs : z_step C mi Qz QX Y pc (.getfield index) o ls st h bc bs) : z_Sim E p l e R s m args below meth c nL QQ pc ls st h bc bs := by
  obtain ⟨a, r, rfl, hk, hc, hsf, hkn, h1⟩ := z_r1_e hs
  intro H locs cells slots lsA g
  obtain ⟨cf, i, kk, f, cell, q1, q2, q3, q4, q5⟩ := z_fcell hts g.1 hS hK hk hc hsf hkn hkd
  obtain ⟨ref, hl, hsame⟩ := hlk
  rcases hl with hl | ⟨host, hl⟩
  · exact W.getf hx hb hown hl (hsame _ q1) q2 q3 q4 q5 rfl rfl hd (hY _ _ _ _ _ _ h1 H locs cells slots lsA g)
  · exact va_Wgetf hx hb hown hl (hsame _ q1) q2 q3 q4 q5 rfl rfl hd (hY _ _ _ _ _ _ h1 H locs cells slots lsA g)
end ZRd
