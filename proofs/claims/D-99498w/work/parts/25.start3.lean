/-! THE START, 3: the environment -/
set_option maxRecDepth 100000
theorem z_sk_str (L : Nat) {a : Nat} (h1 : 6 ≤ a) (h2 : a < 33) : z_sk L a = (20, 0) := by
  unfold z_sk
  rw [if_neg (by omega), if_neg (by omega), if_neg (by omega), if_neg (by omega), if_neg (by omega), if_neg (by omega), if_pos h2]
theorem z_sk_byt (L : Nat) {a : Nat} (h1 : 33 ≤ a) (h2 : a < 60) : z_sk L a = (101, (z_words.getD (a - 33) []).length) := by
  unfold z_sk
  rw [if_neg (by omega), if_neg (by omega), if_neg (by omega), if_neg (by omega), if_neg (by omega), if_neg (by omega), if_neg (by omega), if_pos h2]
theorem z_sk_int (L : Nat) {a : Nat} (h1 : 61 ≤ a) : z_sk L a = (19, 0) := by
  unfold z_sk
  rw [if_neg (by omega), if_neg (by omega), if_neg (by omega), if_neg (by omega), if_neg (by omega), if_neg (by omega), if_neg (by omega), if_neg (by omega), if_neg (by omega)]
theorem z_Tc {ty : FieldType} {t N : Nat} {f g : Nat → Value} {A : Nat → Prop} {U : State} {H : Heap} (h : va_T ty t N f A U H) (e : ∀ j, j < N → f j = g j) : va_T ty t N g A U H := by
  obtain ⟨cell, h1, h2, h3, h4, h5, h6, h7⟩ := h
  exact ⟨cell, h1, h2, h3, h4, h5, fun j hj => by rw [h6 j hj, e j hj], h7⟩
theorem z_hsA {E : z_E} {s : State} {a k n : Nat} (hH : E.2.2.1 = s.heap) (hk : z_sk E.2.2.2.2.2.1 a = (k, n)) (hk1 : 100 ≤ k) (hT : va_T (z_aty k) (E.1 a) n (fun j => z_sv E k a j) (fun x => s.heap.size ≤ x) s s.heap) : E.1 a < E.2.2.1.size ∧
  (100 ≤ (z_sk E.2.2.2.2.2.1 a).1 → ∃ cell : Cell, E.2.2.1[E.1 a]? = some cell ∧ s.isArrayOf cell (z_aty (z_sk E.2.2.2.2.2.1 a).1) ∧ cell.vm ≠ .unknown ∧ ((z_sk E.2.2.2.2.2.1 a).2 ≤ cell.slots.size ∧ cell.slots.size.toInt32 = Int32.ofNat (z_sk E.2.2.2.2.2.1 a).2) ∧ ∀ j, j < (z_sk E.2.2.2.2.2.1 a).2 → cell.slots[j]? = some (z_sv E (z_sk E.2.2.2.2.2.1 a).1 a j)) ∧
  ((z_sk E.2.2.2.2.2.1 a).1 < 100 → (∃ cell : Cell, E.2.2.1[E.1 a]? = some cell ∧ cell.vm.isStatics = false ∧ s.vm.findClass (z_R (z_sk E.2.2.2.2.2.1 a).1) = some cell.cls ∧ ∃ kC : Class, s.vm.classes[cell.cls]? = some kC) ∧
    ∀ k, k < z_N (z_sk E.2.2.2.2.2.1 a).1 → z_sf a k = true → va_OF (z_T (z_sk E.2.2.2.2.2.1 a).1 k).1 (z_T (z_sk E.2.2.2.2.2.1 a).1 k).2.1 (z_T (z_sk E.2.2.2.2.2.1 a).1 k).2.2.1 (z_svf E (z_sk E.2.2.2.2.2.1 a).1 a k) (E.1 a) (fun q => E.2.2.1.size ≤ q) s E.2.2.1) := by
  rw [hk, hH]
  obtain ⟨cell, h1, h2, h3, h4, h5, h6, h7⟩ := hT
  exact ⟨Nat.not_le.mp h7, fun _ => ⟨cell, h1, h2, h3, ⟨h4, h5⟩, h6⟩, fun q => absurd q (by dsimp only; omega)⟩
theorem z_hsO {E : z_E} {s : State} {a k n : Nat} (hH : E.2.2.1 = s.heap) (hk : z_sk E.2.2.2.2.2.1 a = (k, n)) (hk1 : k < 100) (hO : va_O (z_R k) (E.1 a) (fun x => s.heap.size ≤ x) s s.heap)
    (hF : ∀ i, i < z_N k → z_sf a i = true → va_OF (z_T k i).1 (z_T k i).2.1 (z_T k i).2.2.1 (z_svf E k a i) (E.1 a) (fun x => s.heap.size ≤ x) s s.heap) : E.1 a < E.2.2.1.size ∧
  (100 ≤ (z_sk E.2.2.2.2.2.1 a).1 → ∃ cell : Cell, E.2.2.1[E.1 a]? = some cell ∧ s.isArrayOf cell (z_aty (z_sk E.2.2.2.2.2.1 a).1) ∧ cell.vm ≠ .unknown ∧ ((z_sk E.2.2.2.2.2.1 a).2 ≤ cell.slots.size ∧ cell.slots.size.toInt32 = Int32.ofNat (z_sk E.2.2.2.2.2.1 a).2) ∧ ∀ j, j < (z_sk E.2.2.2.2.2.1 a).2 → cell.slots[j]? = some (z_sv E (z_sk E.2.2.2.2.2.1 a).1 a j)) ∧
  ((z_sk E.2.2.2.2.2.1 a).1 < 100 → (∃ cell : Cell, E.2.2.1[E.1 a]? = some cell ∧ cell.vm.isStatics = false ∧ s.vm.findClass (z_R (z_sk E.2.2.2.2.2.1 a).1) = some cell.cls ∧ ∃ kC : Class, s.vm.classes[cell.cls]? = some kC) ∧
    ∀ k, k < z_N (z_sk E.2.2.2.2.2.1 a).1 → z_sf a k = true → va_OF (z_T (z_sk E.2.2.2.2.2.1 a).1 k).1 (z_T (z_sk E.2.2.2.2.2.1 a).1 k).2.1 (z_T (z_sk E.2.2.2.2.2.1 a).1 k).2.2.1 (z_svf E (z_sk E.2.2.2.2.2.1 a).1 a k) (E.1 a) (fun q => E.2.2.1.size ≤ q) s E.2.2.1) := by
  rw [hk, hH]
  obtain ⟨cell, h1, h2, h3, h4⟩ := hO
  obtain ⟨kC, hkC, -⟩ := Vm.findClass_spec h3
  exact ⟨Nat.not_le.mp h4, fun q => absurd q (by dsimp only; omega), fun _ => ⟨⟨cell, h1, h2, h3, kC, hkC⟩, hF⟩⟩
def z_stf (b nA lA dA aA wA cA : Nat) (sf : Nat → Nat × Nat) (cf : Nat → Nat) (a : Nat) : Nat :=
  if a = 0 then b else if a = 1 then nA else if a = 2 then lA else if a = 3 then dA else if a = 4 then aA else if a = 5 then wA
  else if a < 33 then (sf (a - 6)).1 else if a < 60 then (sf (a - 33)).2 else if a = 60 then cA else cf (a - 61)
theorem z_stf_str {b nA lA dA aA wA cA : Nat} {sf : Nat → Nat × Nat} {cf : Nat → Nat} {a : Nat} (h1 : 6 ≤ a) (h2 : a < 33) : z_stf b nA lA dA aA wA cA sf cf a = (sf (a - 6)).1 := by
  unfold z_stf
  rw [if_neg (by omega), if_neg (by omega), if_neg (by omega), if_neg (by omega), if_neg (by omega), if_neg (by omega), if_pos h2]
theorem z_stf_byt {b nA lA dA aA wA cA : Nat} {sf : Nat → Nat × Nat} {cf : Nat → Nat} {a : Nat} (h1 : 33 ≤ a) (h2 : a < 60) : z_stf b nA lA dA aA wA cA sf cf a = (sf (a - 33)).2 := by
  unfold z_stf
  rw [if_neg (by omega), if_neg (by omega), if_neg (by omega), if_neg (by omega), if_neg (by omega), if_neg (by omega), if_neg (by omega), if_pos h2]
theorem z_stf_int {b nA lA dA aA wA cA : Nat} {sf : Nat → Nat × Nat} {cf : Nat → Nat} {a : Nat} (h1 : 61 ≤ a) : z_stf b nA lA dA aA wA cA sf cf a = cf (a - 61) := by
  unfold z_stf
  rw [if_neg (by omega), if_neg (by omega), if_neg (by omega), if_neg (by omega), if_neg (by omega), if_neg (by omega), if_neg (by omega), if_neg (by omega), if_neg (by omega)]
theorem z_start_HS {E : z_E} {s : State} {args : Array Value} {b L nA lA dA aA wA cA : Nat} {xs : Nat → Int32} {sf : Nat → Nat × Nat} {cf : Nat → Nat} (hf : E.1 = z_stf b nA lA dA aA wA cA sf cf) (hH : E.2.2.1 = s.heap) (hL : E.2.2.2.2.2.1 = L) (hxs : E.2.2.2.2.2.2 = xs)
    (hX : va_T .int b L (fun j => .int (xs j)) (fun x => s.heap.size ≤ x) s s.heap) (hN : va_O "TollsForLate$Text" nA (fun x => s.heap.size ≤ x) s s.heap) (hN1 : va_OF "TollsForLate$Text" "law" "[LTollsForLate$Sum;" (.ref lA) nA (fun x => s.heap.size ≤ x) s s.heap)
    (hNL : va_T (.object "TollsForLate$Sum") lA 2 (fun _ => .null) (fun x => s.heap.size ≤ x) s s.heap) (hDE : va_T (.object "java/lang/Object") dA 0 (fun _ => .null) (fun x => s.heap.size ≤ x) s s.heap) (hNA : va_T .int aA 10 (fun j => .int (nI (z_named.getD j 0))) (fun x => s.heap.size ≤ x) s s.heap)
    (hWO : va_T (.object "java/lang/String") wA 26 (fun j => .ref (sf j).1) (fun x => s.heap.size ≤ x) s s.heap) (hS : ∀ i, i < 27 → z_strF s args i (sf i)) (hCA : va_T (.object "java/lang/Integer") cA 256 (fun j => .ref (cf j)) (fun x => s.heap.size ≤ x) s s.heap)
    (hC : ∀ k, k < 256 → va_O "java/lang/Integer" (cf k) (fun x => s.heap.size ≤ x) s s.heap ∧ va_OF "java/lang/Integer" "value" "I" (.int (nI k - 128)) (cf k) (fun x => s.heap.size ≤ x) s s.heap) : z_HS E s := by
  have hfs : ∀ a, a < 317 → z_f E a = z_stf b nA lA dA aA wA cA sf cf a := fun a ha => by rw [z_f_sta ha, hf]
  intro a ha
  by_cases a0 : a = 0
  · subst a0
    exact z_hsA hH (k := 100) (n := L) (by rw [hL]; rfl) (by omega) (by rw [hf]; exact z_Tc hX (fun j _ => by rw [← hxs]; rfl))
  by_cases a1 : a = 1
  · subst a1
    refine z_hsO hH (k := 4) (n := 0) (by rw [hL]; rfl) (by omega) (by rw [hf]; exact hN) (fun i hi hsf => ?_)
    have hi0 : i = 0 := by
      match i, hi, hsf with
      | 0, _, _ => rfl
      | 1, _, hsf => cases hsf
      | 2, _, hsf => cases hsf
      | n + 3, hi, _ => exact absurd hi (by show ¬ n + 3 < 3; omega)
    subst hi0
    have e1 : z_svf E 4 1 0 = .ref lA := by show Value.ref (z_f E 2) = _; rw [hfs 2 (by omega)]; rfl
    rw [e1, hf]
    exact hN1
  by_cases a2 : a = 2
  · subst a2
    exact z_hsA hH (k := 105) (n := 2) (by rw [hL]; rfl) (by omega) (by rw [hf]; exact z_Tc hNL (fun j _ => rfl))
  by_cases a3 : a = 3
  · subst a3
    exact z_hsA hH (k := 104) (n := 0) (by rw [hL]; rfl) (by omega) (by rw [hf]; exact z_Tc hDE (fun j hj => absurd hj (by omega)))
  by_cases a4 : a = 4
  · subst a4
    exact z_hsA hH (k := 100) (n := 10) (by rw [hL]; rfl) (by omega) (by rw [hf]; exact z_Tc hNA (fun j _ => rfl))
  by_cases a5 : a = 5
  · subst a5
    refine z_hsA hH (k := 108) (n := 26) (by rw [hL]; rfl) (by omega) (by
      rw [hf]
      refine z_Tc hWO (fun j hj => ?_)
      show _ = va_rf ((z_sP 5 j).map (z_f E))
      have e1 : z_sP 5 j = some (6 + j) := by unfold z_sP; rw [if_neg (by omega), if_pos rfl, if_pos hj]
      rw [e1]
      show Value.ref (sf j).1 = Value.ref (z_f E (6 + j))
      rw [hfs _ (by omega), z_stf_str (by omega) (by omega), show 6 + j - 6 = j by omega])
  by_cases a33 : a < 33
  · obtain ⟨s1, s2, s3, s4, s5⟩ := hS (a - 6) (by omega)
    have ef : E.1 a = (sf (a - 6)).1 := by rw [hf, z_stf_str (by omega) a33]
    refine z_hsO hH (k := 20) (n := 0) (by rw [z_sk_str _ (by omega) a33]) (by omega) (by rw [ef]; exact s2) (fun i hi _ => ?_)
    rw [ef]
    match i, hi with
    | 0, _ =>
      have e1 : z_svf E 20 a 0 = .ref (sf (a - 6)).2 := by
        show va_rf ((z_sP a 0).map (z_f E)) = _
        have e2 : z_sP a 0 = some (a + 27) := by unfold z_sP; rw [if_neg (by omega), if_neg (by omega), if_pos ⟨by omega, a33⟩, if_pos rfl]
        rw [e2]
        show Value.ref (z_f E (a + 27)) = _
        rw [hfs _ (by omega), z_stf_byt (by omega) (by omega), show a + 27 - 33 = a - 6 by omega]
      rw [e1]
      exact s4
    | 1, _ =>
      have e1 : z_svf E 20 a 1 = .int 0 := by
        show Value.int (z_sI E.2.2.2.2.2.2 a 1) = _
        unfold z_sI
        rw [if_neg (by omega), if_neg (by omega), if_neg (by omega), if_neg (by omega)]
      rw [e1]
      exact s3
    | n + 2, hi => exact absurd hi (by show ¬ n + 2 < 2; omega)
  by_cases a60 : a < 60
  · obtain ⟨s1, s2, s3, s4, s5⟩ := hS (a - 33) (by omega)
    refine z_hsA hH (k := 101) (by rw [z_sk_byt _ (by omega) a60]) (by omega) (by
      rw [hf, z_stf_byt (by omega) a60]
      refine z_Tc s5 (fun j hj => ?_)
      show _ = Value.int (z_sI E.2.2.2.2.2.2 a j)
      unfold z_sI
      rw [if_neg (by omega), if_neg (by omega), if_pos ⟨by omega, a60⟩])
  by_cases a60' : a = 60
  · subst a60'
    refine z_hsA hH (k := 109) (n := 256) (by rw [hL]; rfl) (by omega) (by
      rw [hf]
      refine z_Tc hCA (fun j hj => ?_)
      show _ = va_rf ((z_sP 60 j).map (z_f E))
      have e1 : z_sP 60 j = some (61 + j) := by unfold z_sP; rw [if_neg (by omega), if_neg (by omega), if_neg (by omega), if_pos rfl, if_pos hj]
      rw [e1]
      show Value.ref (cf j) = Value.ref (z_f E (61 + j))
      rw [hfs _ (by omega), z_stf_int (by omega), show 61 + j - 61 = j by omega])
  · obtain ⟨c1, c2⟩ := hC (a - 61) (by omega)
    have ef : E.1 a = cf (a - 61) := by rw [hf, z_stf_int (by omega)]
    refine z_hsO hH (k := 19) (n := 0) (by rw [z_sk_int _ (by omega)]) (by omega) (by rw [ef]; exact c1) (fun i hi _ => ?_)
    rw [ef]
    match i, hi with
    | 0, _ =>
      have e1 : z_svf E 19 a 0 = .int (nI (a - 61) - 128) := by
        show Value.int (z_sI E.2.2.2.2.2.2 a 0) = _
        unfold z_sI
        rw [if_neg (by omega), if_neg (by omega), if_neg (by omega), if_pos ⟨by omega, ha⟩]
      rw [e1]
      exact c2
    | n + 1, hi => exact absurd hi (by show ¬ n + 1 < 1; omega)
