/-! THE PURE MACHINE IS MONOTONE: what is asked of the end, callees, budgets (printed by gen/gmono.py) -/
set_option maxRecDepth 100000
theorem z_i1_m {st : List Value} {k k' : Int32 → List Value → Prop} (hk : ∀ x r, k x r → k' x r) (h : z_i1 st k) : z_i1 st k' := by
  unfold z_i1 at h ⊢
  split at h <;> first | exact hk _ h | exact hk _ _ h | exact hk _ _ _ h | exact hk _ _ _ _ h | exact h.elim
theorem z_i2_m {st : List Value} {k k' : Int32 → Int32 → List Value → Prop} (hk : ∀ x y r, k x y r → k' x y r) (h : z_i2 st k) : z_i2 st k' := by
  unfold z_i2 at h ⊢
  split at h <;> first | exact hk _ h | exact hk _ _ h | exact hk _ _ _ h | exact hk _ _ _ _ h | exact h.elim
theorem z_l1_m {st : List Value} {k k' : Int64 → List Value → Prop} (hk : ∀ x r, k x r → k' x r) (h : z_l1 st k) : z_l1 st k' := by
  unfold z_l1 at h ⊢
  split at h <;> first | exact hk _ h | exact hk _ _ h | exact hk _ _ _ h | exact hk _ _ _ _ h | exact h.elim
theorem z_l2_m {st : List Value} {k k' : Int64 → Int64 → List Value → Prop} (hk : ∀ x y r, k x y r → k' x y r) (h : z_l2 st k) : z_l2 st k' := by
  unfold z_l2 at h ⊢
  split at h <;> first | exact hk _ h | exact hk _ _ h | exact hk _ _ _ h | exact hk _ _ _ _ h | exact h.elim
theorem z_li_m {st : List Value} {k k' : Int64 → Int32 → List Value → Prop} (hk : ∀ x y r, k x y r → k' x y r) (h : z_li st k) : z_li st k' := by
  unfold z_li at h ⊢
  split at h <;> first | exact hk _ h | exact hk _ _ h | exact hk _ _ _ h | exact hk _ _ _ _ h | exact h.elim
theorem z_r1_m {st : List Value} {k k' : Nat → List Value → Prop} (hk : ∀ x r, k x r → k' x r) (h : z_r1 st k) : z_r1 st k' := by
  unfold z_r1 at h ⊢
  split at h <;> first | exact hk _ h | exact hk _ _ h | exact hk _ _ _ h | exact hk _ _ _ _ h | exact h.elim
theorem z_ri_m {st : List Value} {k k' : Nat → Int32 → List Value → Prop} (hk : ∀ a i r, k a i r → k' a i r) (h : z_ri st k) : z_ri st k' := by
  unfold z_ri at h ⊢
  split at h <;> first | exact hk _ h | exact hk _ _ h | exact hk _ _ _ h | exact hk _ _ _ _ h | exact h.elim
theorem z_rii_m {st : List Value} {k k' : Nat → Int32 → Int32 → List Value → Prop} (hk : ∀ a i x r, k a i x r → k' a i x r) (h : z_rii st k) : z_rii st k' := by
  unfold z_rii at h ⊢
  split at h <;> first | exact hk _ h | exact hk _ _ h | exact hk _ _ _ h | exact hk _ _ _ _ h | exact h.elim
theorem z_ril_m {st : List Value} {k k' : Nat → Int32 → Int64 → List Value → Prop} (hk : ∀ a i x r, k a i x r → k' a i x r) (h : z_ril st k) : z_ril st k' := by
  unfold z_ril at h ⊢
  split at h <;> first | exact hk _ h | exact hk _ _ h | exact hk _ _ _ h | exact hk _ _ _ _ h | exact h.elim
theorem z_rir_m {st : List Value} {k k' : Nat → Int32 → Nat → List Value → Prop} (hk : ∀ a i b r, k a i b r → k' a i b r) (h : z_rir st k) : z_rir st k' := by
  unfold z_rir at h ⊢
  split at h <;> first | exact hk _ h | exact hk _ _ h | exact hk _ _ _ h | exact hk _ _ _ _ h | exact h.elim
theorem z_rv_m {st : List Value} {k k' : Nat → Value → List Value → Prop} (hk : ∀ a v r, k a v r → k' a v r) (h : z_rv st k) : z_rv st k' := by
  unfold z_rv at h ⊢
  split at h <;> first | exact hk _ h | exact hk _ _ h | exact hk _ _ _ h | exact hk _ _ _ _ h | exact h.elim
theorem z_gi_m {st : Option Value} {k k' : Int32 → Prop} (hk : ∀ x, k x → k' x) (h : z_gi st k) : z_gi st k' := by
  unfold z_gi at h ⊢
  split at h <;> first | exact hk _ h | exact hk _ _ h | exact hk _ _ _ h | exact hk _ _ _ _ h | exact h.elim
theorem z_gl_m {st : Option Value} {k k' : Int64 → Prop} (hk : ∀ x, k x → k' x) (h : z_gl st k) : z_gl st k' := by
  unfold z_gl at h ⊢
  split at h <;> first | exact hk _ h | exact hk _ _ h | exact hk _ _ _ h | exact hk _ _ _ _ h | exact h.elim
theorem z_gr_m {st : Option Value} {k k' : Value → Prop} (hk : ∀ x, k x → k' x) (h : z_gr st k) : z_gr st k' := by
  unfold z_gr at h ⊢
  split at h <;> first | exact hk _ h | exact hk _ _ h | exact hk _ _ _ h | exact hk _ _ _ _ h | exact h.elim
theorem z_vr_m {st : List Value} {k k' : Value → List Value → Prop} (hk : ∀ x r, k x r → k' x r) (h : z_vr st k) : z_vr st k' := by
  unfold z_vr at h ⊢
  split at h <;> first | exact hk _ h | exact hk _ _ h | exact hk _ _ _ h | exact hk _ _ _ _ h | exact h.elim
theorem z_pn_m {n : Nat} {st : List Value} {k k' : List Value → List Value → Prop} (hk : ∀ a r, k a r → k' a r) (h : z_pn n st k) : z_pn n st k' := by
  unfold z_pn at h ⊢
  split at h <;> first | exact hk _ _ h | exact h.elim
theorem z_put_m {kd : Nat} {v : Value} {h : z_H} {a k : Nat} {κ κ' : z_H → Prop} (hk : ∀ h, κ h → κ' h) (hp : z_put kd v h a k κ) : z_put kd v h a k κ' := by
  unfold z_put at hp ⊢
  split at hp <;> first | exact hk _ hp | exact ⟨hp.1, hk _ hp.2⟩ | exact hp.elim
theorem z_sw_m {x : Int32} {d d' : Nat → Prop} {dt : Nat} (hd : ∀ t, d t → d' t) : ∀ {l : List (Int × Nat)}, z_sw x d dt l → z_sw x d' dt l
  | [], h => hd _ h
  | _ :: _, h => ⟨fun q => hd _ (h.1 q), fun q => z_sw_m hd (h.2 q)⟩
theorem z_thr_m {QX QX' : z_X} {Y Y' : Nat → z_X} {pc : Nat} (h1 : ∀ q h, QX q h → QX' q h) (h2 : ∀ t q h, Y t q h → Y' t q h) : ∀ {l : List (Nat × Nat × Nat × Nat)} {q : Nat} {h : z_H}, z_thr QX Y pc l q h → z_thr QX' Y' pc l q h
  | [], q, h, w => h1 q h w
  | (s, e, hp, t) :: tl, q, h, w => by
    unfold z_thr at w ⊢
    by_cases c : s ≤ pc ∧ pc < e
    · rw [if_pos c] at w ⊢; exact ⟨w.1, h2 _ _ _ w.2⟩
    · rw [if_neg c] at w ⊢; exact z_thr_m h1 h2 w
section ZMono
variable {C C' : z_K} {mi : z_M} {Q Q' : z_Q} {QX QX' : z_X} {X X' : z_C} {pc : Nat} {ins : Instr} {o : z_O} {ls : z_L} {st : List Value} {h : z_H} {bc bs : Nat}
theorem z_goV_m {len j : Nat} {As r : List Value} (hC : ∀ j As h mc ms R R' S S', (∀ v h, R v h → R' v h) → (∀ q h, S q h → S' q h) → C j As h mc ms R S → C' j As h mc ms R' S') (hQX : ∀ q h, QX q h → QX' q h) (hX : ∀ pc ls st h bc bs, X pc ls st h bc bs → X' pc ls st h bc bs) (w : z_goV C mi QX X pc len ls h bc bs j As r) : z_goV C' mi QX' X' pc len ls h bc bs j As r := by
  obtain ⟨w1, mc, ms, w2, w3, w4⟩ := w
  exact ⟨w1, mc, ms, w2, w3, hC _ _ _ _ _ _ _ _ _ (fun v h q => hX _ _ _ _ _ _ q) (fun q h w => z_thr_m hQX (fun t q h w => hX _ _ _ _ _ _ w) w) w4⟩
theorem z_goS_m {len j : Nat} {As r : List Value} (hC : ∀ j As h mc ms R R' S S', (∀ v h, R v h → R' v h) → (∀ q h, S q h → S' q h) → C j As h mc ms R S → C' j As h mc ms R' S') (hX : ∀ pc ls st h bc bs, X pc ls st h bc bs → X' pc ls st h bc bs) (w : z_goS C X pc len ls h bc bs j As r) : z_goS C' X' pc len ls h bc bs j As r := by
  obtain ⟨w1, mc, ms, w2, w3, w4⟩ := w
  exact ⟨w1, mc, ms, w2, w3, hC _ _ _ _ _ _ _ _ _ (fun v h q => hX _ _ _ _ _ _ q) (fun _ _ w => w) w4⟩
set_option maxHeartbeats 4000000 in
theorem z_step_m (hC : ∀ j As h mc ms R R' S S', (∀ v h, R v h → R' v h) → (∀ q h, S q h → S' q h) → C j As h mc ms R S → C' j As h mc ms R' S') (hQ : ∀ v h, Q v h → Q' v h) (hQX : ∀ q h, QX q h → QX' q h) (hX : ∀ pc ls st h bc bs, X pc ls st h bc bs → X' pc ls st h bc bs) (hs : z_step C mi Q QX X pc ins o ls st h bc bs) : z_step C' mi Q' QX' X' pc ins o ls st h bc bs := by
  cases ins with
  | iconst n => exact hX _ _ _ _ _ _ hs
  | bipush n => exact hX _ _ _ _ _ _ hs
  | sipush n => exact hX _ _ _ _ _ _ hs
  | lconst n => exact hX _ _ _ _ _ _ hs
  | aconst_null  => exact hX _ _ _ _ _ _ hs
  | goto n => exact hX _ _ _ _ _ _ hs
  | ldc_w n => exact hX _ _ _ _ _ _ hs
  | iload_n k => exact z_gi_m (fun _ => hX _ _ _ _ _ _) hs
  | iload k => exact z_gi_m (fun _ => hX _ _ _ _ _ _) hs
  | lload_n k => exact z_gl_m (fun _ => hX _ _ _ _ _ _) hs
  | lload k => exact z_gl_m (fun _ => hX _ _ _ _ _ _) hs
  | aload_n k =>
    unfold z_step at hs ⊢
    dsimp only at hs ⊢
    exact z_gr_m (fun _ q => hX _ _ _ _ _ _ q) hs
  | aload k =>
    unfold z_step at hs ⊢
    dsimp only at hs ⊢
    exact z_gr_m (fun _ q => hX _ _ _ _ _ _ q) hs
  | iinc k n => exact z_gi_m (fun _ => hX _ _ _ _ _ _) hs
  | istore_n k => exact z_i1_m (fun _ _ => hX _ _ _ _ _ _) hs
  | istore k => exact z_i1_m (fun _ _ => hX _ _ _ _ _ _) hs
  | lstore_n k => exact z_l1_m (fun _ _ => hX _ _ _ _ _ _) hs
  | lstore k => exact z_l1_m (fun _ _ => hX _ _ _ _ _ _) hs
  | astore_n k =>
    unfold z_step at hs ⊢
    dsimp only at hs ⊢
    exact z_vr_m (fun _ _ q => hX _ _ _ _ _ _ q) hs
  | astore k =>
    unfold z_step at hs ⊢
    dsimp only at hs ⊢
    exact z_vr_m (fun _ _ q => hX _ _ _ _ _ _ q) hs
  | iadd => exact z_i2_m (fun _ _ _ => hX _ _ _ _ _ _) hs
  | isub => exact z_i2_m (fun _ _ _ => hX _ _ _ _ _ _) hs
  | imul => exact z_i2_m (fun _ _ _ => hX _ _ _ _ _ _) hs
  | iand => exact z_i2_m (fun _ _ _ => hX _ _ _ _ _ _) hs
  | ior => exact z_i2_m (fun _ _ _ => hX _ _ _ _ _ _) hs
  | ixor => exact z_i2_m (fun _ _ _ => hX _ _ _ _ _ _) hs
  | ishl => exact z_i2_m (fun _ _ _ => hX _ _ _ _ _ _) hs
  | ishr => exact z_i2_m (fun _ _ _ => hX _ _ _ _ _ _) hs
  | iushr => exact z_i2_m (fun _ _ _ => hX _ _ _ _ _ _) hs
  | ineg => exact z_i1_m (fun _ _ => hX _ _ _ _ _ _) hs
  | i2l => exact z_i1_m (fun _ _ => hX _ _ _ _ _ _) hs
  | i2b => exact z_i1_m (fun _ _ => hX _ _ _ _ _ _) hs
  | i2c => exact z_i1_m (fun _ _ => hX _ _ _ _ _ _) hs
  | l2i => exact z_l1_m (fun _ _ => hX _ _ _ _ _ _) hs
  | ladd => exact z_l2_m (fun _ _ _ => hX _ _ _ _ _ _) hs
  | lsub => exact z_l2_m (fun _ _ _ => hX _ _ _ _ _ _) hs
  | lmul => exact z_l2_m (fun _ _ _ => hX _ _ _ _ _ _) hs
  | lor => exact z_l2_m (fun _ _ _ => hX _ _ _ _ _ _) hs
  | lcmp => exact z_l2_m (fun _ _ _ => hX _ _ _ _ _ _) hs
  | lneg => exact z_l1_m (fun _ _ => hX _ _ _ _ _ _) hs
  | lshl => exact z_li_m (fun _ _ _ => hX _ _ _ _ _ _) hs
  | lshr => exact z_li_m (fun _ _ _ => hX _ _ _ _ _ _) hs
  | idiv => exact z_i2_m (fun _ _ _ q => ⟨q.1, hX _ _ _ _ _ _ q.2⟩) hs
  | irem => exact z_i2_m (fun _ _ _ q => ⟨q.1, hX _ _ _ _ _ _ q.2⟩) hs
  | ldiv => exact z_l2_m (fun _ _ _ q => ⟨q.1, hX _ _ _ _ _ _ q.2⟩) hs
  | lrem => exact z_l2_m (fun _ _ _ q => ⟨q.1, hX _ _ _ _ _ _ q.2⟩) hs
  | dup =>
    unfold z_step at hs ⊢
    dsimp only at hs ⊢
    split at hs <;> first | exact ⟨hs.1, hX _ _ _ _ _ _ hs.2⟩ | exact ⟨hs.1, hs.2.1, hX _ _ _ _ _ _ hs.2.2⟩ | exact hs.elim
  | pop =>
    unfold z_step at hs ⊢
    dsimp only at hs ⊢
    split at hs <;> first | exact ⟨hs.1, hX _ _ _ _ _ _ hs.2⟩ | exact ⟨hs.1, hs.2.1, hX _ _ _ _ _ _ hs.2.2⟩ | exact hs.elim
  | dup_x1 =>
    unfold z_step at hs ⊢
    dsimp only at hs ⊢
    split at hs <;> first | exact ⟨hs.1, hX _ _ _ _ _ _ hs.2⟩ | exact ⟨hs.1, hs.2.1, hX _ _ _ _ _ _ hs.2.2⟩ | exact hs.elim
  | dup2 =>
    unfold z_step at hs ⊢
    dsimp only at hs ⊢
    split at hs <;> first | exact ⟨hs.1, hX _ _ _ _ _ _ hs.2⟩ | exact ⟨hs.1, hs.2.1, hX _ _ _ _ _ _ hs.2.2⟩ | exact hs.elim
  | ifCond c off => exact z_i1_m (fun _ _ q => ⟨fun w => hX _ _ _ _ _ _ (q.1 w), fun w => hX _ _ _ _ _ _ (q.2 w)⟩) hs
  | if_icmp c off => exact z_i2_m (fun _ _ _ q => ⟨fun w => hX _ _ _ _ _ _ (q.1 w), fun w => hX _ _ _ _ _ _ (q.2 w)⟩) hs
  | if_acmp c off =>
    unfold z_step at hs ⊢
    dsimp only at hs ⊢
    split at hs <;> first | exact ⟨hs.1, fun w => hX _ _ _ _ _ _ (hs.2.1 w), fun w => hX _ _ _ _ _ _ (hs.2.2 w)⟩ | exact ⟨hs.1, hX _ _ _ _ _ _ hs.2⟩ | exact hs.elim
  | ifnull off =>
    unfold z_step at hs ⊢
    dsimp only at hs ⊢
    split at hs <;> first | exact hX _ _ _ _ _ _ hs | exact hs.elim
  | ifnonnull off =>
    unfold z_step at hs ⊢
    dsimp only at hs ⊢
    split at hs <;> first | exact hX _ _ _ _ _ _ hs | exact hs.elim
  | tableswitch d lo hi offs => exact z_i1_m (fun _ _ q => z_sw_m (fun _ => hX _ _ _ _ _ _) q) hs
  | lookupswitch d ps => exact z_i1_m (fun _ _ q => z_sw_m (fun _ => hX _ _ _ _ _ _) q) hs
  | ireturn =>
    unfold z_step at hs ⊢
    dsimp only at hs ⊢
    split at hs <;> first | exact ⟨hs.1, hs.2.1, hQ _ _ hs.2.2⟩ | exact hs.elim
  | lreturn =>
    unfold z_step at hs ⊢
    dsimp only at hs ⊢
    split at hs <;> first | exact hQ _ _ hs | exact hs.elim
  | areturn =>
    unfold z_step at hs ⊢
    dsimp only at hs ⊢
    split at hs <;> first | exact ⟨hs.1, hQ _ _ hs.2⟩ | exact hs.elim
  | return_ =>
    unfold z_step at hs ⊢
    dsimp only at hs ⊢
    split at hs <;> first | exact hQ _ _ hs | exact hs.elim
  | getfield i => exact z_r1_m (fun _ _ q => ⟨q.1, q.2.1, q.2.2.1, q.2.2.2.1, hX _ _ _ _ _ _ q.2.2.2.2⟩) hs
  | putfield i => exact z_rv_m (fun _ _ _ q => ⟨q.1, q.2.1, q.2.2.1, q.2.2.2.1, z_put_m (fun _ => hX _ _ _ _ _ _) q.2.2.2.2⟩) hs
  | getstatic i =>
    unfold z_step at hs ⊢
    dsimp only at hs ⊢
    split at hs <;> first | exact hX _ _ _ _ _ _ hs | exact hs.elim
  | ldc i =>
    unfold z_step at hs ⊢
    dsimp only at hs ⊢
    split at hs <;> first | exact hX _ _ _ _ _ _ hs | exact hs.elim
  | ldc2_w i =>
    unfold z_step at hs ⊢
    dsimp only at hs ⊢
    split at hs <;> first | exact hX _ _ _ _ _ _ hs | exact hs.elim
  | iaload => exact z_ri_m (fun _ _ _ q => ⟨q.1, q.2.1, hX _ _ _ _ _ _ q.2.2⟩) hs
  | baload => exact z_ri_m (fun _ _ _ q => ⟨q.1, q.2.1, hX _ _ _ _ _ _ q.2.2⟩) hs
  | laload => exact z_ri_m (fun _ _ _ q => ⟨q.1, q.2.1, hX _ _ _ _ _ _ q.2.2⟩) hs
  | aaload => exact z_ri_m (fun _ _ _ q => ⟨q.1, q.2.1, hX _ _ _ _ _ _ q.2.2⟩) hs
  | iastore => exact z_rii_m (fun _ _ _ _ q => ⟨q.1, q.2.1, q.2.2.1, hX _ _ _ _ _ _ q.2.2.2⟩) hs
  | bastore => exact z_rii_m (fun _ _ _ _ q => ⟨q.1, q.2.1, q.2.2.1, hX _ _ _ _ _ _ q.2.2.2⟩) hs
  | lastore => exact z_ril_m (fun _ _ _ _ q => ⟨q.1, q.2.1, q.2.2.1, hX _ _ _ _ _ _ q.2.2.2⟩) hs
  | aastore => exact z_rir_m (fun _ _ _ _ q => ⟨q.1, q.2.1, q.2.2.1, hX _ _ _ _ _ _ q.2.2.2⟩) hs
  | arraylength => exact z_r1_m (fun _ _ q => ⟨q.1, hX _ _ _ _ _ _ q.2⟩) hs
  | new i => exact ⟨hs.1, hs.2.1, hs.2.2.1, hX _ _ _ _ _ _ hs.2.2.2⟩
  | newarray a => exact z_i1_m (fun _ _ q => ⟨q.1, q.2.1, q.2.2.1, q.2.2.2.1, hX _ _ _ _ _ _ q.2.2.2.2⟩) hs
  | anewarray i => exact z_i1_m (fun _ _ q => ⟨q.1, q.2.1, q.2.2.1, q.2.2.2.1, hX _ _ _ _ _ _ q.2.2.2.2⟩) hs
  | multianewarray i d => exact z_i2_m (fun _ _ _ q => ⟨q.1, q.2.1, q.2.2.1, q.2.2.2.1, q.2.2.2.2.1, q.2.2.2.2.2.1, hX _ _ _ _ _ _ q.2.2.2.2.2.2⟩) hs
  | checkcast i => exact z_r1_m (fun _ _ q => ⟨q.1, hX _ _ _ _ _ _ q.2⟩) hs
  | invokestatic i =>
    unfold z_step at hs ⊢
    dsimp only at hs ⊢
    split at hs
    · exact z_pn_m (fun _ _ q => z_goS_m hC hX q) hs
    · split at hs
      · obtain ⟨b1, b2, b3, b4, b5, b6, b7, b8, b9, b10, b11⟩ := hs
        exact ⟨b1, b2, b3, b4, b5, b6, b7, b8, b9, b10, hX _ _ _ _ _ _ b11⟩
      · exact hs.elim
    · split at hs
      · obtain ⟨b1, b2, b3, b4, b5, b6, b7, b8, b9, b10, b11, b12⟩ := hs
        exact ⟨b1, b2, b3, b4, b5, b6, b7, b8, b9, b10, b11, hX _ _ _ _ _ _ b12⟩
      · exact hs.elim
    · exact z_i2_m (fun _ _ _ q => ⟨q.1, hX _ _ _ _ _ _ q.2⟩) hs
    · exact z_i2_m (fun _ _ _ q => ⟨q.1, hX _ _ _ _ _ _ q.2⟩) hs
    · exact z_l2_m (fun _ _ _ q => ⟨q.1, hX _ _ _ _ _ _ q.2⟩) hs
    · exact z_l2_m (fun _ _ _ q => ⟨q.1, hX _ _ _ _ _ _ q.2⟩) hs
    · exact hs.elim
  | invokespecial i =>
    unfold z_step at hs ⊢
    dsimp only at hs ⊢
    split at hs
    · exact z_pn_m (fun _ _ q => z_r1_m (fun _ _ q => z_goS_m hC hX q) q) hs
    · exact z_r1_m (fun _ _ q => ⟨q.1, hX _ _ _ _ _ _ q.2⟩) hs
    · exact z_r1_m (fun _ _ q => ⟨q.1, q.2.1, q.2.2.1, q.2.2.2.1, hX _ _ _ _ _ _ q.2.2.2.2⟩) hs
    · exact hs.elim
  | invokevirtual i =>
    unfold z_step at hs ⊢
    dsimp only at hs ⊢
    split at hs
    · exact z_pn_m (fun _ _ q => z_r1_m (fun _ _ q => ⟨q.1, z_goV_m hC hQX hX q.2⟩) q) hs
    · exact z_r1_m (fun _ _ q => ⟨q.1, q.2.1, q.2.2.1, hX _ _ _ _ _ _ q.2.2.2⟩) hs
  | invokeinterface i n =>
    refine z_pn_m (fun _ _ q => z_r1_m (fun _ _ q => ?_) q) hs
    split at q
    · exact z_goS_m hC hX q
    · exact q.elim
  | athrow => exact z_r1_m (fun _ _ q => ⟨q.1, q.2.1, q.2.2.1, hQX _ _ q.2.2.2⟩) hs
  | _ => exact (show False from hs).elim
theorem z_WP_m (hC : ∀ j As h mc ms R R' S S', (∀ v h, R v h → R' v h) → (∀ q h, S q h → S' q h) → C j As h mc ms R S → C' j As h mc ms R' S') (hQ : ∀ v h, Q v h → Q' v h) (hQX : ∀ q h, QX q h → QX' q h) (w : z_WP C mi Q QX pc ls st h bc bs) : z_WP C' mi Q' QX' pc ls st h bc bs :=
  w (z_WP C' mi Q' QX') (fun _ _ _ _ _ _ _ _ _ hY ha hs => z_WP_step ha (z_step_m hC hQ hQX hY hs)) (fun _ _ _ _ _ _ _ _ _ hl h1 h2 q => z_WP_le hl h1 h2 q)
end ZMono
theorem z_call_m {M : Nat → z_M} : ∀ (d : Nat) {d' : Nat}, d ≤ d' → ∀ (j : Nat) (As : List Value) (h : z_H) (mc ms : Nat) (R R' : z_Q) (S S' : z_X), (∀ v h, R v h → R' v h) → (∀ q h, S q h → S' q h) → z_call M d j As h mc ms R S → z_call M d' j As h mc ms R' S'
  | 0, _, _, _, _, _, _, _, _, _, _, _, _, _, w => w.elim
  | d + 1, 0, hd, _, _, _, _, _, _, _, _, _, _, _, _ => absurd hd (by omega)
  | d + 1, d' + 1, hd, j, As, h, mc, ms, R, R', S, S', hR, hS, w => ⟨w.1, z_WP_m (z_call_m d (by omega)) hR hS w.2⟩
/-- more room -/
theorem z_call_room {M : Nat → z_M} {j : Nat} {As : List Value} {h : z_H} {mc ms mc' ms' : Nat} {R : z_Q} {S : z_X} : ∀ {d : Nat}, mc ≤ mc' → ms ≤ ms' → z_call M d j As h mc ms R S → z_call M d j As h mc' ms' R S
  | 0, _, _, w => w.elim
  | _ + 1, h1, h2, w => ⟨w.1, z_WP_le (fun _ _ q => q) h1 h2 w.2⟩
