/-! THE START, 4: the environment has all that lasts (printed by gen/gstart2.py) -/
set_option maxRecDepth 100000
section ZSt4
variable {s : State} {b L : Nat} {xs : Nat → Int32}
theorem z_arrP {args : Array Value} {t : FieldType} (h : (Cond.arrayClass t).before args s = true) (ht : ∀ C, t ≠ .object C) : ∃ c : ClassId, ArrOfT s c t ∧ va_RA s c t := by
  obtain ⟨c, k, comp, h1, h2, h3⟩ := Cond.arrayClass_spec (args := args) (first := s) (o := none) (s := s) (idx := []) h
  refine ⟨c, fun N z => ⟨(fun k h => by cases h), k, h2, comp, h3⟩, ?_⟩
  cases t <;> first | exact h1 | exact absurd rfl (ht _)
theorem z_arrO {args : Array Value} {C : String} (h : (Cond.arrayOver (.object C)).before args s = true) : ∃ c : ClassId, ArrOfT s c (.object C) ∧ va_RA s c (.object C) := by
  obtain ⟨comp, c, k, h1, -, h2, h3, h4⟩ := Cond.arrayOver_spec (args := args) (first := s) (o := none) (s := s) (idx := []) h
  exact ⟨c, fun N z => ⟨(fun k h => by cases h), k, h2, comp, h3⟩, k, comp, h2, h3, h1, h4⟩
theorem z_arrA {args : Array Value} {t : FieldType} (h : (Cond.arrayOver (.array t)).before args s = true) : ∃ c : ClassId, ArrOfT s c (.array t) ∧ va_RA s c (.array t) := by
  obtain ⟨comp, c, k, h1, h2, h3, h4⟩ := Cond.arrayOver_specA (args := args) (first := s) (o := none) (s := s) (idx := []) h
  exact ⟨c, fun N z => ⟨(fun k h => by cases h), k, h2, comp, h3⟩, h4⟩
theorem z_startG (hts : ∀ w ∈ lw_tbl, w.before #[Value.ref b] s = true) (h0 : z_c0.before #[Value.ref b] s = true) (hX : va_X b L xs s s.heap) (hb : b < s.heap.size) :
    ∃ E : z_E, E.1 0 = b ∧ E.2.2.1 = s.heap ∧ E.2.2.2.2.2.1 = L ∧ E.2.2.2.2.2.2 = xs ∧ z_G E s := by
  have htsA : ∀ w ∈ lw_all, w.before #[Value.ref b] s = true := fun w h => hts w (lw_all_tbl h)
  -- classes
  have hkn : ∀ c : Nat, ∃ p : ClassId × (Nat → Nat), c < 20 → u_Kn s (z_R c) (z_T c) (z_N c) p.1 p.2 := by
    intro c
    by_cases h : c < 20
    · obtain ⟨cC, iS, hK⟩ := u_known htsA (z_cfs c h).1 (htsA _ (z_cfs c h).2.2.2.2)
      exact ⟨(cC, iS), fun _ => hK⟩
    · exact ⟨(0, fun _ => 0), fun q => absurd q h⟩
  obtain ⟨kf, hkf⟩ := Classical.axiomOfChoice hkn
  have har : ∀ k : Nat, ∃ c : ClassId, k < 8 → ArrOfT s c (z_aty (100 + k)) ∧ va_RA s c (z_aty (100 + k)) := by
    intro k
    match k with
    | 0 => obtain ⟨c, h⟩ := z_arrP (hts _ (lw_all_tbl q219)) (fun C e => by cases e); exact ⟨c, fun _ => h⟩
    | 1 => obtain ⟨c, h⟩ := z_arrP (hts _ (lw_all_tbl q270)) (fun C e => by cases e); exact ⟨c, fun _ => h⟩
    | 2 => obtain ⟨c, h⟩ := z_arrP (hts _ (lw_all_tbl q1225)) (fun C e => by cases e); exact ⟨c, fun _ => h⟩
    | 3 => obtain ⟨c, h⟩ := z_arrP (hts _ (lw_all_tbl q1500)) (fun C e => by cases e); exact ⟨c, fun _ => h⟩
    | 4 => obtain ⟨c, h⟩ := z_arrO (hts _ q659); exact ⟨c, fun _ => h⟩
    | 5 => obtain ⟨c, h⟩ := z_arrO (hts _ q345); exact ⟨c, fun _ => h⟩
    | 6 => obtain ⟨c, h⟩ := z_arrO (hts _ q174); exact ⟨c, fun _ => h⟩
    | 7 => obtain ⟨c, h⟩ := z_arrA (hts _ q172); exact ⟨c, fun _ => h⟩
    | n + 8 => exact ⟨0, fun q => absurd q (by omega)⟩
  obtain ⟨af, haf⟩ := Classical.axiomOfChoice har
  -- the static objects
  obtain ⟨sf, hsf⟩ := z_st_str h0
  obtain ⟨cA, cf, hcA, hcT, hcf⟩ := z_st_cache h0
  obtain ⟨nA, hnA, hnO⟩ : ∃ nA : Nat, z_tNO.eval #[Value.ref b] s none [] s = some (.ref nA) ∧ va_O "TollsForLate$Text" nA (fun x => s.heap.size ≤ x) s s.heap := by
    obtain ⟨a, c, cA, kA, q1, -⟩ := Cond.exactly_spec (args := #[Value.ref b]) (first := s) (o := none) (s := s) (idx := []) (z_lfNO h0)
    exact ⟨a, q1, va_Oof (z_lfNO h0) q1 z_noA⟩
  obtain ⟨lA, hlA, hlT⟩ := va_Tof (tm := z_tNL) (f := fun _ => .null) (A := fun x => s.heap.size ≤ x) (N := 2) (by decide) (z_lfNL h0) (va_eqt (z_lfNLl h0)) (fun j hj => by
    match j, hj with
    | 0, _ => exact z_eq2 (z_lfNL0 h0) rfl rfl
    | 1, _ => exact z_eq2 (z_lfNL1 h0) rfl rfl
    | n + 2, hj => exact absurd hj (by omega)) z_noA
  obtain ⟨dA, hdA, hdT⟩ := va_Tof (tm := z_tDE) (f := fun _ => .null) (A := fun x => s.heap.size ≤ x) (N := 0) (by decide) (z_lfDE h0) (va_eqt (z_lfDEl h0)) (fun j hj => absurd hj (by omega)) z_noA
  obtain ⟨wA, hwA, hwT⟩ := va_Tof (tm := z_tWO) (f := fun j => .ref (sf j).1) (A := fun x => s.heap.size ≤ x) (N := 26) (by decide) (z_lfWO h0) (va_eqt (z_lfWOl h0)) (fun j hj => z_eq2 (z_stW h0 j hj) (hsf j (by omega)).1 rfl) z_noA
  obtain ⟨aA, haA, haT⟩ := va_Tof (tm := z_tNA) (f := fun j => .int (nI (z_named.getD j 0))) (A := fun x => s.heap.size ≤ x) (N := 10) (by decide) (z_lfNA h0) (va_eqt (z_lfNAl h0)) (fun j hj => va_eqt (z_stN h0 j hj)) z_noA
  have hXT : va_T .int b L (fun j => .int (xs j)) (fun x => s.heap.size ≤ x) s s.heap := by
    obtain ⟨scr, x1, x2, x3, x4, x5⟩ := hX
    exact ⟨scr, x1, x2, x3, by rw [x4]; exact Nat.le_refl _, by rw [x4], x5, z_noA _ hb⟩
  obtain ⟨mi, hmi⟩ := va_Mi.of (z_lfMI h0)
  obtain ⟨v1, hv1, hv1Z⟩ : ∃ v1 : Value, (v1 = .null ∨ ∃ a, v1 = .ref a) ∧ va_Z "jdk/internal/util/Preconditions" "SIOOBE_FORMATTER" "Ljava/util/function/BiFunction;" v1 (fun x => s.heap.size ≤ x) s s.heap := by
    rcases va_Zqof (hts _ q424) (hts _ (lw_all_tbl q133)) (z_lfSF h0) z_noA with h | ⟨t, h⟩
    · exact ⟨.null, Or.inl rfl, h⟩
    · exact ⟨.ref t, Or.inr ⟨t, rfl⟩, h⟩
  let E : z_E := (z_stf b nA lA dA aA wA cA sf cf, fun w => if w = 0 then .ref mi else v1, s.heap, (fun c => (kf c).1, fun c => (kf c).2), af, L, xs)
  have hom : z_om E := fun w => by
    show ((if w = 0 then Value.ref mi else v1) = .null ∨ ∃ a, (if w = 0 then Value.ref mi else v1) = .ref a)
    by_cases hw : w = 0
    · rw [if_pos hw]; exact Or.inr ⟨mi, rfl⟩
    · rw [if_neg hw]; exact hv1
  have hK : va_K E.2.2.2.1 z_cl (z_tys E) s := by
    refine ⟨fun c q hc => ?_, fun k q hk => ?_⟩
    · have hc20 : c < 20 := (List.getElem?_eq_some_iff.mp hc).1
      have e := Option.some.inj ((z_cl_at c hc20).symm.trans hc)
      subst e
      exact hkf c hc20
    · have hk8 : k < 8 := (List.getElem?_eq_some_iff.mp hk).1
      have h2 := haf k hk8
      match k, hk8, hk, h2 with
      | 0, _, hk, h2 => cases hk; exact h2
      | 1, _, hk, h2 => cases hk; exact h2
      | 2, _, hk, h2 => cases hk; exact h2
      | 3, _, hk, h2 => cases hk; exact h2
      | 4, _, hk, h2 => cases hk; exact h2
      | 5, _, hk, h2 => cases hk; exact h2
      | 6, _, hk, h2 => cases hk; exact h2
      | 7, _, hk, h2 => cases hk; exact h2
      | n + 8, hk8, _, _ => exact absurd hk8 (by omega)
  have hHS : z_HS E s := z_start_HS (args := #[Value.ref b]) (E := E) rfl rfl rfl rfl hXT hnO (vk_OFof hnA hlA z_noA) hlT hdT haT hwT hsf hcT hcf
  have hBW : z_BW s := fun w hw => by
    have h1 := z_nw_k w hw
    have h2 := hts w (z_nw_tbl w hw)
    unfold z_nwk at h1
    split at h1 <;> first | exact va_Nw.of rfl h2 | cases h1
  have hSF : z_SF E s := by
    intro q hq
    unfold z_sfl at hq
    rcases List.mem_cons.mp hq with rfl | hq
    · exact va_Zof (hts _ q899) (hts _ (lw_all_tbl q121)) hnA z_noA
    rcases List.mem_cons.mp hq with rfl | hq
    · exact va_Zof (hts _ q394) (hts _ (lw_all_tbl q126)) hwA z_noA
    rcases List.mem_cons.mp hq with rfl | hq
    · exact va_Zof (hts _ q746) (hts _ (lw_all_tbl q126)) haA z_noA
    rcases List.mem_cons.mp hq with rfl | hq
    · exact va_Zof (hts _ q805) (hts _ (lw_all_tbl q155)) (va_eqt (z_lfHI h0)) z_noA
    rcases List.mem_cons.mp hq with rfl | hq
    · exact va_Zof (hts _ q807) (hts _ (lw_all_tbl q155)) hcA z_noA
    rcases List.mem_cons.mp hq with rfl | hq
    · exact va_Zof (hts _ q359) (hts _ (lw_all_tbl q130)) hdA z_noA
    rcases List.mem_cons.mp hq with rfl | hq
    · exact va_Zof (hts _ q408) (hts _ (lw_all_tbl q131)) (va_eqt (z_lfCS h0)) z_noA
    rcases List.mem_cons.mp hq with rfl | hq
    · exact hv1Z
    cases hq
  have hKS : z_KS E s := by
    have h1 := (hsf 26 (by omega)).1
    refine vk_R.of (A := #[Value.ref b]) (hts _ q454) ?_
    exact h1
  have hFW : z_FW s := by
    intro q hq
    unfold z_fw at hq
    rcases List.mem_cons.mp hq with rfl | hq
    · exact va_Fw.of (hts _ q921) (hts _ q920) (hts _ q926) (hts _ q924) (hts _ q922)
    rcases List.mem_cons.mp hq with rfl | hq
    · exact va_Fw.of (hts _ q921) (hts _ q920) (hts _ q977) (hts _ q975) (hts _ q973)
    rcases List.mem_cons.mp hq with rfl | hq
    · exact va_Fw.of (hts _ q921) (hts _ q920) (hts _ q934) (hts _ q932) (hts _ q930)
    rcases List.mem_cons.mp hq with rfl | hq
    · exact va_Fw.of (hts _ q921) (hts _ q920) (hts _ q971) (hts _ q969) (hts _ q967)
    rcases List.mem_cons.mp hq with rfl | hq
    · exact va_Fw.of (hts _ q921) (hts _ q920) (hts _ q983) (hts _ q981) (hts _ q979)
    rcases List.mem_cons.mp hq with rfl | hq
    · exact va_Fw.of (hts _ q921) (hts _ q920) (hts _ q963) (hts _ q961) (hts _ q959)
    rcases List.mem_cons.mp hq with rfl | hq
    · exact va_Fw.of (hts _ q939) (hts _ q938) (hts _ q992) (hts _ q990) (hts _ q988)
    rcases List.mem_cons.mp hq with rfl | hq
    · exact va_Fw.of (hts _ q939) (hts _ q938) (hts _ q955) (hts _ q953) (hts _ q951)
    rcases List.mem_cons.mp hq with rfl | hq
    · exact va_Fw.of (hts _ q939) (hts _ q938) (hts _ q944) (hts _ q942) (hts _ q940)
    rcases List.mem_cons.mp hq with rfl | hq
    · exact va_Fw.of (hts _ q939) (hts _ q938) (hts _ q1000) (hts _ q998) (hts _ q996)
    rcases List.mem_cons.mp hq with rfl | hq
    · exact va_Fw.of (hts _ q939) (hts _ q938) (hts _ q1008) (hts _ q1006) (hts _ q1004)
    cases hq
  exact ⟨E, rfl, rfl, rfl, rfl, hK, hom, hHS, hBW, hSF, hKS, ⟨mi, hmi, rfl⟩, hFW, ⟨va_AO.of (hts _ q659), va_AO.of (hts _ q345), va_AO.of (hts _ q174), hts _ q172⟩,
    ⟨vx_Zqof (hts _ q484) (hts _ (lw_all_tbl q136)) (z_lfUS h0) z_noA, vx_Zqof (hts _ q486) (hts _ (lw_all_tbl q136)) (z_lfSS h0) z_noA, va_any rfl (hts _ q462), va_any rfl (hts _ q464), va_Dc.of (hts _ q2075)⟩⟩
end ZSt4
