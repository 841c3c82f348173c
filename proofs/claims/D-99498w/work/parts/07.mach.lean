/-! THE PURE MACHINE: its memory, one instruction's weakest precondition, a method's run, a call -/
set_option maxRecDepth 100000
abbrev z_L : Type := List (Option Value)
/-- the memory: next address; of an address its kind and length; its ints, longs, references -/
abbrev z_H : Type := Nat × (Nat → Nat × Nat) × (Nat → Nat → Int32) × (Nat → Nat → Int64) × (Nat → Nat → Option Nat)
abbrev z_C : Type := Nat → z_L → List Value → z_H → Nat → Nat → Prop
abbrev z_Q : Type := Option Value → z_H → Prop
abbrev z_X : Type := Nat → z_H → Prop
abbrev z_K : Type := Nat → List Value → z_H → Nat → Nat → z_Q → z_X → Prop
abbrev z_O : Type := Nat × Nat × Nat × List (Int × Nat)
abbrev z_TB : Type := List (Nat × Instr × z_O)
/-- a method: name, code, locals, answer, handlers, table, parameters -/
abbrev z_M : Type := MethodName × ByteArray × Nat × Option FieldType × List (Nat × Nat × Nat × Nat) × z_TB × Nat
def z_nx (h : z_H) : Nat := h.1
def z_k (h : z_H) (a : Nat) : Nat := (h.2.1 a).1
def z_n (h : z_H) (a : Nat) : Nat := (h.2.1 a).2
def z_I (h : z_H) (a i : Nat) : Int32 := h.2.2.1 a i
def z_J (h : z_H) (a i : Nat) : Int64 := h.2.2.2.1 a i
def z_P (h : z_H) (a i : Nat) : Option Nat := h.2.2.2.2 a i
def z_wI (h : z_H) (a i : Nat) (v : Int32) : z_H := (h.1, h.2.1, (fun b j => if b = a ∧ j = i then v else h.2.2.1 b j), h.2.2.2.1, h.2.2.2.2)
def z_wJ (h : z_H) (a i : Nat) (v : Int64) : z_H := (h.1, h.2.1, h.2.2.1, (fun b j => if b = a ∧ j = i then v else h.2.2.2.1 b j), h.2.2.2.2)
def z_wP (h : z_H) (a i : Nat) (v : Option Nat) : z_H := (h.1, h.2.1, h.2.2.1, h.2.2.2.1, (fun b j => if b = a ∧ j = i then v else h.2.2.2.2 b j))
/-- a new cell of kind k and length n -/
def z_new (h : z_H) (k n : Nat) : z_H := (h.1 + 1, (fun b => if b = h.1 then (k, n) else h.2.1 b), (fun b j => if b = h.1 then 0 else h.2.2.1 b j), (fun b j => if b = h.1 then 0 else h.2.2.2.1 b j), (fun b j => if b = h.1 then none else h.2.2.2.2 b j))
/-- n ints of a from sp on go to b from dp on -/
def z_cI (h : z_H) (a sp b dp n : Nat) : z_H := (h.1, h.2.1, (fun x j => if x = b ∧ dp ≤ j ∧ j < dp + n then h.2.2.1 a (sp + (j - dp)) else h.2.2.1 x j), h.2.2.2.1, h.2.2.2.2)
def z_cP (h : z_H) (a sp b dp n : Nat) : z_H := (h.1, h.2.1, h.2.2.1, h.2.2.2.1, (fun x j => if x = b ∧ dp ≤ j ∧ j < dp + n then h.2.2.2.2 a (sp + (j - dp)) else h.2.2.2.2 x j))
/-- rows of a two-dimensional array: n of them, of m ints each, from the next address on -/
def z_rows (h : z_H) (m : Nat) : Nat → z_H
  | 0 => h
  | n + 1 => z_new (z_rows h m n) 100 m
/-- int[n][m] -/
def z_grid (h : z_H) (n m : Nat) : z_H :=
  let g := z_rows (z_new h 107 n) m n
  (g.1, g.2.1, g.2.2.1, g.2.2.2.1, (fun x j => if x = h.1 ∧ j < n then some (h.1 + 1 + j) else g.2.2.2.2 x j))
def z_get : z_L → Nat → Option Value
  | [], _ => none
  | v :: _, 0 => v
  | _ :: l, k + 1 => z_get l k
def z_set : z_L → Nat → Option Value → z_L
  | [], _, _ => []
  | _ :: l, 0, v => v :: l
  | x :: l, k + 1, v => x :: z_set l k v
def z_clr (x : Option Value) : Option Value := match x with
  | some (.long _) => none
  | some (.double _) => none
  | x => x
def z_st1 (ls : z_L) (i : Nat) (v : Value) : z_L := match i with
  | 0 => z_set ls 0 (some v)
  | i + 1 => z_set (z_set ls i (z_clr (z_get ls i))) (i + 1) (some v)
def z_st2 (ls : z_L) (i : Nat) (v : Value) : z_L := z_set (z_st1 ls i v) (i + 1) none
def z_i1 (st : List Value) (k : Int32 → List Value → Prop) : Prop := match st with
  | .int x :: r => k x r
  | _ => False
def z_i2 (st : List Value) (k : Int32 → Int32 → List Value → Prop) : Prop := match st with
  | .int y :: .int x :: r => k x y r
  | _ => False
def z_l1 (st : List Value) (k : Int64 → List Value → Prop) : Prop := match st with
  | .long x :: r => k x r
  | _ => False
def z_l2 (st : List Value) (k : Int64 → Int64 → List Value → Prop) : Prop := match st with
  | .long y :: .long x :: r => k x y r
  | _ => False
def z_li (st : List Value) (k : Int64 → Int32 → List Value → Prop) : Prop := match st with
  | .int y :: .long x :: r => k x y r
  | _ => False
def z_r1 (st : List Value) (k : Nat → List Value → Prop) : Prop := match st with
  | .ref a :: r => k a r
  | _ => False
def z_ri (st : List Value) (k : Nat → Int32 → List Value → Prop) : Prop := match st with
  | .int i :: .ref a :: r => k a i r
  | _ => False
def z_rii (st : List Value) (k : Nat → Int32 → Int32 → List Value → Prop) : Prop := match st with
  | .int x :: .int i :: .ref a :: r => k a i x r
  | _ => False
def z_ril (st : List Value) (k : Nat → Int32 → Int64 → List Value → Prop) : Prop := match st with
  | .long x :: .int i :: .ref a :: r => k a i x r
  | _ => False
def z_rir (st : List Value) (k : Nat → Int32 → Nat → List Value → Prop) : Prop := match st with
  | .ref b :: .int i :: .ref a :: r => k a i b r
  | _ => False
def z_rv (st : List Value) (k : Nat → Value → List Value → Prop) : Prop := match st with
  | v :: .ref a :: r => k a v r
  | _ => False
def z_gi (x : Option Value) (k : Int32 → Prop) : Prop := match x with
  | some (.int v) => k v
  | _ => False
def z_gl (x : Option Value) (k : Int64 → Prop) : Prop := match x with
  | some (.long v) => k v
  | _ => False
/-- a reference, null or an unknown one -/
def z_gr (x : Option Value) (k : Value → Prop) : Prop := match x with
  | some (.ref a) => k (.ref a)
  | some .null => k .null
  | some (.float w) => k (.float w)
  | _ => False
def z_vr (st : List Value) (k : Value → List Value → Prop) : Prop := match st with
  | .ref a :: r => k (.ref a) r
  | .null :: r => k .null r
  | .float w :: r => k (.float w) r
  | _ => False
def z_fv (kd : Nat) (h : z_H) (a k : Nat) : Value := match kd with
  | 1 => .long (z_J h a k)
  | 2 => va_rf (z_P h a k)
  | _ => .int (z_I h a k)
def z_put (kd : Nat) (v : Value) (h : z_H) (a k : Nat) (κ : z_H → Prop) : Prop := match kd, v with
  | 0, .int x => κ (z_wI h a k x)
  | 1, .long x => κ (z_wJ h a k x)
  | 2, .ref b => κ (z_wP h a k (some b))
  | 2, .null => κ (z_wP h a k none)
  | 3, .int x => vp_nar .boolean x = x ∧ κ (z_wI h a k x)
  | _, _ => False
def z_nk (k : Nat) (x : Int32) : Int32 := if k = 101 then vp_nar .byte x else vp_nar .boolean x
/-- what may lie in an array of references -/
def z_asg (ka kb : Nat) : Bool := match ka with
  | 104 => decide (kb < 20)
  | 105 => kb == 6 || kb == 7 || kb == 13 || kb == 14 || kb == 15 || kb == 16
  | 106 => kb == 4
  | _ => false
/-- the values of n parameters, and what lies below them -/
def z_pop : Nat → List Value → List Value → Option (List Value × List Value)
  | 0, st, acc => some (acc, st)
  | _ + 1, [], _ => none
  | n + 1, v :: st, acc => z_pop n st (v :: acc)
def z_sw (x : Int32) (d : Nat → Prop) (dt : Nat) : List (Int × Nat) → Prop
  | [] => d dt
  | (k, t) :: l => (x = Int32.ofInt k → d t) ∧ (¬ x = Int32.ofInt k → z_sw x d dt l)
def z_wt (r : List Value) : Nat := (r.map fun v => v.category).sum
/-- where what was thrown goes -/
def z_thr (QX : z_X) (Y : Nat → z_X) (pc : Nat) : List (Nat × Nat × Nat × Nat) → z_X
  | [] => QX
  | (s, e, hp, t) :: tl => fun q h => if s ≤ pc ∧ pc < e then t ≠ 0 ∧ Y hp q h else z_thr QX Y pc tl q h
/-- a call with the values As; r is left below: one that may throw, one that doesn't -/
def z_goV (C : z_K) (mi : z_M) (QX : z_X) (X : z_C) (pc len : Nat) (ls : z_L) (h : z_H) (bc bs j : Nat) (As r : List Value) : Prop :=
  z_wt r ≤ 8 ∧ ∃ mc ms, mc ≤ bc ∧ ms ≤ bs ∧ C j As h mc ms (fun v h' => X (pc + len) ls (v.toList ++ r) h' (bc - mc) (bs - ms)) (z_thr QX (fun hp q h' => X hp ls [.ref q] h' (bc - mc) (bs - ms)) pc mi.2.2.2.2.1)
def z_goS (C : z_K) (X : z_C) (pc len : Nat) (ls : z_L) (h : z_H) (bc bs j : Nat) (As r : List Value) : Prop :=
  z_wt r ≤ 8 ∧ ∃ mc ms, mc ≤ bc ∧ ms ≤ bs ∧ C j As h mc ms (fun v h' => X (pc + len) ls (v.toList ++ r) h' (bc - mc) (bs - ms)) (fun _ _ => False)
def z_pn (n : Nat) (st : List Value) (k : List Value → List Value → Prop) : Prop := match z_pop n st [] with
  | some (As, r) => k As r
  | none => False
/-- of an interface's method: the one of the receiver's class -/
def z_sel (k : Nat) : List (Int × Nat) → Option Nat
  | [] => none
  | (c, j) :: l => if (k : Int) = c then some j else z_sel k l
def z_cnd (c : ClassFile.Cond) (x y : Int32) : Prop := match c with
  | .eq => x = y
  | .ne => ¬ x = y
  | .lt => x < y
  | .ge => y ≤ x
  | .gt => y < x
  | .le => x ≤ y
def z_arr (k : Nat) : Bool := decide (100 ≤ k) && decide (k < 110)
/-- which fields of the static objects are known -/
def z_sf (a k : Nat) : Bool := decide (317 ≤ a) || (a == 1 && k == 0) || (decide (6 ≤ a) && decide (a < 33)) || (decide (61 ≤ a) && decide (a < 317))
/-- one instruction -/
def z_step (C : z_K) (mi : z_M) (Q : z_Q) (QX : z_X) (X : z_C) (pc : Nat) (ins : Instr) (o : z_O) (ls : z_L) (st : List Value) (h : z_H) (bc bs : Nat) : Prop :=
  match ins with
  | .iconst n => X (pc + 1) ls (.int (Int32.ofInt n) :: st) h bc bs
  | .bipush n => X (pc + 2) ls (.int (Int8.ofInt n).toInt32 :: st) h bc bs
  | .sipush n => X (pc + 3) ls (.int (Int16.ofInt n).toInt32 :: st) h bc bs
  | .lconst n => X (pc + 1) ls (.long (Int64.ofNat (n : Nat)) :: st) h bc bs
  | .aconst_null => X (pc + 1) ls (.null :: st) h bc bs
  | .iload_n k => z_gi (z_get ls k) fun x => X (pc + 1) ls (.int x :: st) h bc bs
  | .iload k => z_gi (z_get ls k) fun x => X (pc + 2) ls (.int x :: st) h bc bs
  | .lload_n k => z_gl (z_get ls k) fun x => X (pc + 1) ls (.long x :: st) h bc bs
  | .lload k => z_gl (z_get ls k) fun x => X (pc + 2) ls (.long x :: st) h bc bs
  | .aload_n k => z_gr (z_get ls k) fun x => X (pc + 1) ls (x :: st) h bc bs
  | .aload k => z_gr (z_get ls k) fun x => X (pc + 2) ls (x :: st) h bc bs
  | .istore_n k => z_i1 st fun x r => X (pc + 1) (z_st1 ls k (.int x)) r h bc bs
  | .istore k => z_i1 st fun x r => X (pc + 2) (z_st1 ls k (.int x)) r h bc bs
  | .lstore_n k => z_l1 st fun x r => X (pc + 1) (z_st2 ls k (.long x)) r h bc bs
  | .lstore k => z_l1 st fun x r => X (pc + 2) (z_st2 ls k (.long x)) r h bc bs
  | .astore_n k => z_vr st fun x r => X (pc + 1) (z_st1 ls k x) r h bc bs
  | .astore k => z_vr st fun x r => X (pc + 2) (z_st1 ls k x) r h bc bs
  | .iinc k n => z_gi (z_get ls k) fun x => X (pc + 3) (z_st1 ls k (.int (x + Int32.ofInt n))) st h bc bs
  | .iadd => z_i2 st fun x y r => X (pc + 1) ls (.int (x + y) :: r) h bc bs
  | .isub => z_i2 st fun x y r => X (pc + 1) ls (.int (x - y) :: r) h bc bs
  | .imul => z_i2 st fun x y r => X (pc + 1) ls (.int (x * y) :: r) h bc bs
  | .iand => z_i2 st fun x y r => X (pc + 1) ls (.int (x &&& y) :: r) h bc bs
  | .ior => z_i2 st fun x y r => X (pc + 1) ls (.int (x ||| y) :: r) h bc bs
  | .ixor => z_i2 st fun x y r => X (pc + 1) ls (.int (x ^^^ y) :: r) h bc bs
  | .ishl => z_i2 st fun x y r => X (pc + 1) ls (.int (x <<< (y &&& 31)) :: r) h bc bs
  | .ishr => z_i2 st fun x y r => X (pc + 1) ls (.int (x >>> (y &&& 31)) :: r) h bc bs
  | .iushr => z_i2 st fun x y r => X (pc + 1) ls (.int (x.toUInt32 >>> (y.toUInt32 &&& Int32.toUInt32 31)).toInt32 :: r) h bc bs
  | .idiv => z_i2 st fun x y r => ¬ y = 0 ∧ X (pc + 1) ls (.int (x / y) :: r) h bc bs
  | .irem => z_i2 st fun x y r => ¬ y = 0 ∧ X (pc + 1) ls (.int (x - x / y * y) :: r) h bc bs
  | .ineg => z_i1 st fun x r => X (pc + 1) ls (.int (-x) :: r) h bc bs
  | .i2l => z_i1 st fun x r => X (pc + 1) ls (.long x.toInt64 :: r) h bc bs
  | .i2b => z_i1 st fun x r => X (pc + 1) ls (.int x.toInt8.toInt32 :: r) h bc bs
  | .i2c => z_i1 st fun x r => X (pc + 1) ls (.int (x.toUInt32 % 65536).toInt32 :: r) h bc bs
  | .l2i => z_l1 st fun x r => X (pc + 1) ls (.int x.toInt32 :: r) h bc bs
  | .ladd => z_l2 st fun x y r => X (pc + 1) ls (.long (x + y) :: r) h bc bs
  | .lsub => z_l2 st fun x y r => X (pc + 1) ls (.long (x - y) :: r) h bc bs
  | .lmul => z_l2 st fun x y r => X (pc + 1) ls (.long (x * y) :: r) h bc bs
  | .lor => z_l2 st fun x y r => X (pc + 1) ls (.long (x ||| y) :: r) h bc bs
  | .ldiv => z_l2 st fun x y r => ¬ y = 0 ∧ X (pc + 1) ls (.long (x / y) :: r) h bc bs
  | .lrem => z_l2 st fun x y r => ¬ y = 0 ∧ X (pc + 1) ls (.long (x - x / y * y) :: r) h bc bs
  | .lneg => z_l1 st fun x r => X (pc + 1) ls (.long (-x) :: r) h bc bs
  | .lshl => z_li st fun x y r => X (pc + 1) ls (.long (x <<< (y.toInt64 &&& 63)) :: r) h bc bs
  | .lshr => z_li st fun x y r => X (pc + 1) ls (.long (x >>> (y.toInt64 &&& 63)) :: r) h bc bs
  | .lcmp => z_l2 st fun x y r => X (pc + 1) ls (.int (lg_cmp x y) :: r) h bc bs
  | .dup => (match st with
    | v :: r => v.category = 1 ∧ X (pc + 1) ls (v :: v :: r) h bc bs
    | _ => False)
  | .pop => (match st with
    | v :: r => v.category = 1 ∧ X (pc + 1) ls r h bc bs
    | _ => False)
  | .dup_x1 => (match st with
    | v :: w :: r => v.category = 1 ∧ w.category = 1 ∧ X (pc + 1) ls (v :: w :: v :: r) h bc bs
    | _ => False)
  | .dup2 => (match st with
    | v :: w :: r => v.category = 1 ∧ w.category = 1 ∧ X (pc + 1) ls (v :: w :: v :: w :: r) h bc bs
    | _ => False)
  | .goto _ => X o.1 ls st h bc bs
  | .ifCond c _ => z_i1 st fun x r => (z_cnd c x 0 → X o.1 ls r h bc bs) ∧ (¬ z_cnd c x 0 → X (pc + 3) ls r h bc bs)
  | .if_icmp c _ => z_i2 st fun x y r => (z_cnd c x y → X o.1 ls r h bc bs) ∧ (¬ z_cnd c x y → X (pc + 3) ls r h bc bs)
  | .if_acmp c _ => (match c, st with
    | .eq, .ref b :: .ref a :: r => (a = b ∨ 317 ≤ a ∨ 317 ≤ b) ∧ (a = b → X o.1 ls r h bc bs) ∧ (¬ a = b → X (pc + 3) ls r h bc bs)
    | .ne, .float b :: .float a :: r => a = b ∧ X (pc + 3) ls r h bc bs
    | _, _ => False)
  | .ifnull _ => (match st with
    | .ref _ :: r => X (pc + 3) ls r h bc bs
    | .null :: r => X o.1 ls r h bc bs
    | _ => False)
  | .ifnonnull _ => (match st with
    | .ref _ :: r => X o.1 ls r h bc bs
    | .null :: r => X (pc + 3) ls r h bc bs
    | _ => False)
  | .tableswitch _ _ _ _ => z_i1 st fun x r => z_sw x (fun t => X t ls r h bc bs) o.1 o.2.2.2
  | .lookupswitch _ _ => z_i1 st fun x r => z_sw x (fun t => X t ls r h bc bs) o.1 o.2.2.2
  | .ireturn => (match st, mi.2.2.2.1 with
    | [.int x], some ty => vp_nar ty x = x ∧ refKind ty = false ∧ Q (some (.int x)) h
    | _, _ => False)
  | .lreturn => (match st, mi.2.2.2.1 with
    | [.long x], some .long => Q (some (.long x)) h
    | _, _ => False)
  | .areturn => (match st, mi.2.2.2.1 with
    | [.ref a], some ty => refKind ty = true ∧ Q (some (.ref a)) h
    | [.null], some ty => refKind ty = true ∧ Q (some .null) h
    | _, _ => False)
  | .return_ => (match st, mi.2.2.2.1 with
    | [], none => Q none h
    | _, _ => False)
  | .getfield _ => z_r1 st fun a r => z_k h a = o.1 ∧ o.1 < 21 ∧ z_sf a o.2.1 = true ∧ o.2.1 < z_N o.1 ∧ X (pc + 3) ls (z_fv o.2.2.1 h a o.2.1 :: r) h bc bs
  | .putfield _ => z_rv st fun a v r => 317 ≤ a ∧ z_k h a = o.1 ∧ o.1 < 20 ∧ o.2.1 < z_N o.1 ∧ z_put o.2.2.1 v h a o.2.1 fun h' => X (pc + 3) ls r h' bc bs
  | .getstatic _ => (match o.1 with
    | 0 => X (pc + 3) ls (.int (Int32.ofNat o.2.1) :: st) h bc bs
    | 1 => X (pc + 3) ls (.ref o.2.1 :: st) h bc bs
    | 2 => X (pc + 3) ls (.float (UInt32.ofNat o.2.1) :: st) h bc bs
    | _ => False)
  | .ldc _ => (match o.1 with
    | 0 => X (pc + 2) ls (.int (Int32.ofNat o.2.1) :: st) h bc bs
    | 1 => X (pc + 2) ls (.ref o.2.1 :: st) h bc bs
    | 2 => X (pc + 2) ls (.float (UInt32.ofNat o.2.1) :: st) h bc bs
    | _ => False)
  | .ldc_w _ => X (pc + 3) ls (.int (Int32.ofNat o.2.1) :: st) h bc bs
  | .ldc2_w _ => (match o.2.2.2 with
    | (v, _) :: _ => X (pc + 3) ls (.long (Int64.ofInt v) :: st) h bc bs
    | _ => False)
  | .iaload => z_ri st fun a i r => z_k h a = 100 ∧ vp_in i (z_n h a) ∧ X (pc + 1) ls (.int (z_I h a i.toNatClampNeg) :: r) h bc bs
  | .baload => z_ri st fun a i r => (z_k h a = 101 ∨ z_k h a = 102) ∧ vp_in i (z_n h a) ∧ X (pc + 1) ls (.int (z_I h a i.toNatClampNeg) :: r) h bc bs
  | .laload => z_ri st fun a i r => z_k h a = 103 ∧ vp_in i (z_n h a) ∧ X (pc + 1) ls (.long (z_J h a i.toNatClampNeg) :: r) h bc bs
  | .aaload => z_ri st fun a i r => (104 ≤ z_k h a ∧ z_k h a < 110) ∧ vp_in i (z_n h a) ∧ X (pc + 1) ls (va_rf (z_P h a i.toNatClampNeg) :: r) h bc bs
  | .iastore => z_rii st fun a i x r => 317 ≤ a ∧ z_k h a = 100 ∧ vp_in i (z_n h a) ∧ X (pc + 1) ls r (z_wI h a i.toNatClampNeg x) bc bs
  | .bastore => z_rii st fun a i x r => 317 ≤ a ∧ (z_k h a = 101 ∨ z_k h a = 102) ∧ vp_in i (z_n h a) ∧ X (pc + 1) ls r (z_wI h a i.toNatClampNeg (z_nk (z_k h a) x)) bc bs
  | .lastore => z_ril st fun a i x r => 317 ≤ a ∧ z_k h a = 103 ∧ vp_in i (z_n h a) ∧ X (pc + 1) ls r (z_wJ h a i.toNatClampNeg x) bc bs
  | .aastore => z_rir st fun a i b r => 317 ≤ a ∧ z_asg (z_k h a) (z_k h b) = true ∧ vp_in i (z_n h a) ∧ X (pc + 1) ls r (z_wP h a i.toNatClampNeg (some b)) bc bs
  | .arraylength => z_r1 st fun a r => z_arr (z_k h a) = true ∧ X (pc + 1) ls (.int (Int32.ofNat (z_n h a)) :: r) h bc bs
  | .new _ => o.1 < 20 ∧ 1 ≤ bc ∧ z_NN o.1 ≤ bs ∧ X (pc + 3) ls (.ref (z_nx h) :: st) (z_new h o.1 0) (bc - 1) (bs - z_NN o.1)
  | .newarray _ => z_i1 st fun x r => ¬ x < 0 ∧ x.toNatClampNeg ≤ 1000000 ∧ 1 ≤ bc ∧ x.toNatClampNeg ≤ bs ∧ X (pc + 2) ls (.ref (z_nx h) :: r) (z_new h o.1 x.toNatClampNeg) (bc - 1) (bs - x.toNatClampNeg)
  | .anewarray _ => z_i1 st fun x r => ¬ x < 0 ∧ x.toNatClampNeg ≤ 1000000 ∧ 1 ≤ bc ∧ x.toNatClampNeg ≤ bs ∧ X (pc + 3) ls (.ref (z_nx h) :: r) (z_new h o.1 x.toNatClampNeg) (bc - 1) (bs - x.toNatClampNeg)
  | .multianewarray _ _ => z_i2 st fun x y r => ¬ x < 0 ∧ ¬ y < 0 ∧ x.toNatClampNeg ≤ 1000 ∧ y.toNatClampNeg ≤ 1000 ∧ x.toNatClampNeg + 1 ≤ bc ∧ x.toNatClampNeg + x.toNatClampNeg * y.toNatClampNeg ≤ bs ∧ X (pc + 4) ls (.ref (z_nx h) :: r) (z_grid h x.toNatClampNeg y.toNatClampNeg) (bc - (x.toNatClampNeg + 1)) (bs - (x.toNatClampNeg + x.toNatClampNeg * y.toNatClampNeg))
  | .checkcast _ => z_r1 st fun a r => (z_sel (z_k h a) o.2.2.2).isSome = true ∧ X (pc + 3) ls (.ref a :: r) h bc bs
  | .invokestatic _ => (match o.2.1 with
    | 0 => z_pn o.2.2.1 st fun As r => z_goS C X pc 3 ls h bc bs o.1 As r
    | 1 => (match st with
      | .int n :: .int dp :: .ref b :: .int sp :: .ref a :: r => 317 ≤ a ∧ 317 ≤ b ∧ z_wt r ≤ 8 ∧ z_k h a = 100 ∧ z_k h b = 100 ∧ ¬ sp < 0 ∧ ¬ dp < 0 ∧ ¬ n < 0 ∧ sp.toNatClampNeg + n.toNatClampNeg ≤ z_n h a ∧ dp.toNatClampNeg + n.toNatClampNeg ≤ z_n h b ∧ X (pc + 3) ls r (z_cI h a sp.toNatClampNeg b dp.toNatClampNeg n.toNatClampNeg) bc bs
      | _ => False)
    | 2 => (match st with
      | .int n :: .int dp :: .ref b :: .int sp :: .ref a :: r => 317 ≤ a ∧ 317 ≤ b ∧ z_wt r ≤ 8 ∧ (z_k h a = 104 ∨ z_k h a = 106) ∧ z_k h b = z_k h a ∧ ¬ sp < 0 ∧ ¬ dp < 0 ∧ ¬ n < 0 ∧ sp.toNatClampNeg + n.toNatClampNeg ≤ z_n h a ∧ dp.toNatClampNeg + n.toNatClampNeg ≤ z_n h b ∧ (∀ i y, i < n.toNatClampNeg → z_P h a (sp.toNatClampNeg + i) = some y → z_asg (z_k h a) (z_k h y) = true) ∧ X (pc + 3) ls r (z_cP h a sp.toNatClampNeg b dp.toNatClampNeg n.toNatClampNeg) bc bs
      | _ => False)
    | 3 => z_i2 st fun x y r => z_wt r ≤ 8 ∧ X (pc + 3) ls (.int (if x < y then y else x) :: r) h bc bs
    | 4 => z_i2 st fun x y r => z_wt r ≤ 8 ∧ X (pc + 3) ls (.int (if y < x then y else x) :: r) h bc bs
    | 5 => z_l2 st fun x y r => z_wt r ≤ 8 ∧ X (pc + 3) ls (.long (if y < x then x else y) :: r) h bc bs
    | 6 => z_l2 st fun x y r => z_wt r ≤ 8 ∧ X (pc + 3) ls (.long (if y < x then y else x) :: r) h bc bs
    | _ => False)
  | .invokespecial _ => (match o.2.1 with
    | 0 => z_pn o.2.2.1 st fun As r => z_r1 r fun b r => z_goS C X pc 3 ls h bc bs o.1 (.ref b :: As) r
    | 1 => z_r1 st fun _ r => z_wt r ≤ 8 ∧ X (pc + 3) ls r h bc bs
    | 2 => z_r1 st fun a r => z_k h a = 5 ∧ 317 ≤ a ∧ z_wt r ≤ 8 ∧ z_P h a 2 = none ∧ X (pc + 3) ls r h bc bs
    | _ => False)
  | .invokevirtual _ => (match o.2.2.2 with
    | (ci, _) :: _ => z_pn o.2.2.1 st fun As r => z_r1 r fun b r => (z_k h b : Int) = ci ∧ z_goV C mi QX X pc 3 ls h bc bs o.1 (.ref b :: As) r
    | [] => z_r1 st fun a r => 317 ≤ a ∧ z_wt r ≤ 8 ∧ z_k h a = 104 ∧ X (pc + 3) ls (.float 0 :: r) h bc bs)
  | .invokeinterface _ _ => z_pn o.2.2.1 st fun As r => z_r1 r fun b r => (match z_sel (z_k h b) o.2.2.2 with
    | some j => z_goS C X pc 5 ls h bc bs j (.ref b :: As) r
    | none => False)
  | .athrow => z_r1 st fun a _ => z_k h a = 5 ∧ 317 ≤ a ∧ mi.2.2.2.2.1 = [] ∧ QX a h
  | _ => False
def z_at : z_TB → Nat → Option (Instr × z_O)
  | [], _ => none
  | (q, x) :: l, pc => if q = pc then some x else z_at l pc
def z_le (a b : z_L) : Prop := ∀ k v, z_get a k = some v → z_get b k = some v
/-- the run of a method's body from a place on: the least predicate that its instructions close -/
def z_WP (C : z_K) (mi : z_M) (Q : z_Q) (QX : z_X) : z_C := fun pc ls st h bc bs =>
  ∀ X : z_C, (∀ (Y : z_C) (pc : Nat) (ins : Instr) (o : z_O) (ls : z_L) (st : List Value) (h : z_H) (bc bs : Nat), (∀ pc ls st h bc bs, Y pc ls st h bc bs → X pc ls st h bc bs) → z_at mi.2.2.2.2.2.1 pc = some (ins, o) → z_step C mi Q QX Y pc ins o ls st h bc bs → X pc ls st h bc bs) →
    (∀ (pc : Nat) (ls ls' : z_L) (st : List Value) (h : z_H) (bc bs bc' bs' : Nat), z_le ls' ls → bc' ≤ bc → bs' ≤ bs → X pc ls' st h bc' bs' → X pc ls st h bc bs) → X pc ls st h bc bs
theorem z_WP_step {C : z_K} {mi : z_M} {Q : z_Q} {QX : z_X} {pc : Nat} {ins : Instr} {o : z_O} {ls : z_L} {st : List Value} {h : z_H} {bc bs : Nat} (ha : z_at mi.2.2.2.2.2.1 pc = some (ins, o)) (hs : z_step C mi Q QX (z_WP C mi Q QX) pc ins o ls st h bc bs) : z_WP C mi Q QX pc ls st h bc bs :=
  fun X h1 h2 => h1 (z_WP C mi Q QX) pc ins o ls st h bc bs (fun _ _ _ _ _ _ w => w X h1 h2) ha hs
theorem z_WP_le {C : z_K} {mi : z_M} {Q : z_Q} {QX : z_X} {pc : Nat} {ls ls' : z_L} {st : List Value} {h : z_H} {bc bs bc' bs' : Nat} (hl : z_le ls' ls) (hc : bc' ≤ bc) (hs : bs' ≤ bs) (w : z_WP C mi Q QX pc ls' st h bc' bs') : z_WP C mi Q QX pc ls st h bc bs :=
  fun X h1 h2 => h2 pc ls ls' st h bc bs bc' bs' hl hc hs (w X h1 h2)
def z_ent : List Value → Nat → z_L
  | [], n => List.replicate n none
  | .long x :: vs, n => some (.long x) :: none :: z_ent vs (n - 2)
  | .double x :: vs, n => some (.double x) :: none :: z_ent vs (n - 2)
  | v :: vs, n => some v :: z_ent vs (n - 1)
def z_call (M : Nat → z_M) : Nat → z_K
  | 0 => fun _ _ _ _ _ _ _ => False
  | d + 1 => fun j args h mc ms Q QX => z_wt args ≤ (M j).2.2.1 ∧ z_WP (z_call M d) (M j) Q QX 0 (z_ent args (M j).2.2.1) [] h mc ms
