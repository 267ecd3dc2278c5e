/-! THE SMALL MACHINE (pure). Values: Value.int, Value.long, Value.ref n (0: null; below 20: constants; from 20 on: made), Value.retAddr 0: a local that isn't set. -/
abbrev mj_H : Type := (Nat → Nat → Int32) × (Nat → Nat → Nat) × (Nat → Nat → Int64) × (Nat → Nat) × (Nat → Nat) × Nat × Nat
/-- ints, references, longs by address and place; tag and length by address; the next address; units used -/
def mj_I (h : mj_H) : Nat → Nat → Int32 := h.1
def mj_R (h : mj_H) : Nat → Nat → Nat := h.2.1
def mj_L (h : mj_H) : Nat → Nat → Int64 := h.2.2.1
def mj_T (h : mj_H) : Nat → Nat := h.2.2.2.1
def mj_N (h : mj_H) : Nat → Nat := h.2.2.2.2.1
def mj_Z (h : mj_H) : Nat := h.2.2.2.2.2.1
def mj_U (h : mj_H) : Nat := h.2.2.2.2.2.2
def mj_C : Nat := 20
def mj_M : Nat := 600000
def mj_wI (h : mj_H) (a k : Nat) (v : Int32) : mj_H := (fun x i => if x = a ∧ i = k then v else h.1 x i, h.2)
def mj_wR (h : mj_H) (a k : Nat) (v : Nat) : mj_H := (h.1, fun x i => if x = a ∧ i = k then v else h.2.1 x i, h.2.2)
def mj_wL (h : mj_H) (a k : Nat) (v : Int64) : mj_H := (h.1, h.2.1, fun x i => if x = a ∧ i = k then v else h.2.2.1 x i, h.2.2.2)
/-- a new cell: tag, length, slots -/
def mj_nw (h : mj_H) (t n u : Nat) : mj_H := (fun x i => if x = mj_Z h then 0 else h.1 x i, fun x i => if x = mj_Z h then 0 else h.2.1 x i, fun x i => if x = mj_Z h then 0 else h.2.2.1 x i,
  fun x => if x = mj_Z h then t else mj_T h x, fun x => if x = mj_Z h then n else mj_N h x, mj_Z h + 1, mj_U h + (1 + u))
def mj_cp (h : mj_H) (s sp d dp n : Nat) : mj_H := (fun x i => if x = d ∧ dp ≤ i ∧ i < dp + n then h.1 s (sp + (i - dp)) else h.1 x i, fun x i => if x = d ∧ dp ≤ i ∧ i < dp + n then h.2.1 s (sp + (i - dp)) else h.2.1 x i, h.2.2)
def mj_cl (h : mj_H) (a : Nat) : mj_H := (fun x i => if x = mj_Z h then h.1 a i else h.1 x i, fun x i => if x = mj_Z h then h.2.1 a i else h.2.1 x i, fun x i => if x = mj_Z h then h.2.2.1 a i else h.2.2.1 x i,
  fun x => if x = mj_Z h then mj_T h a else mj_T h x, fun x => if x = mj_Z h then mj_N h a else mj_N h x, mj_Z h + 1, mj_U h + (1 + mj_N h a))
def mj_k : Int → Int32
  | .ofNat n => nI n
  | .negSucc n => - nI (n + 1)
def mj_nth : List Value → Nat → Value
  | [], _ => .retAddr 0
  | v :: _, 0 => v
  | _ :: l, k + 1 => mj_nth l k
def mj_set : List Value → Nat → Value → Option (List Value)
  | [], _, _ => none
  | _ :: l, 0, v => some (v :: l)
  | x :: l, k + 1, v => match mj_set l k v with
    | some r => some (x :: r)
    | none => none
def mj_c0 (c : ClassFile.Cond) (x : Int32) (t f : Nat) : Nat := match c with
  | .eq => if x = 0 then t else f
  | .ne => if x = 0 then f else t
  | .lt => if x < 0 then t else f
  | .ge => if 0 ≤ x then t else f
  | .gt => if 0 < x then t else f
  | .le => if x ≤ 0 then t else f
def mj_c2 (c : ClassFile.Cond) (x y : Int32) (t f : Nat) : Nat := match c with
  | .eq => if x = y then t else f
  | .ne => if x = y then f else t
  | .lt => if x < y then t else f
  | .ge => if y ≤ x then t else f
  | .gt => if y < x then t else f
  | .le => if x ≤ y then t else f
/-- two references that can be told apart by their numbers -/
def mj_ac (a b : Nat) : Prop := a = b ∨ (20 ≤ a ∧ b ≠ 15 ∧ b ≠ 16) ∨ (20 ≤ b ∧ a ≠ 15 ∧ a ≠ 16) ∨ (8 ≤ a ∧ a ≤ 11 ∧ 8 ≤ b ∧ b ≤ 11)
/-- slots of an object by its tag -/
def mj_sl : Nat → Nat
  | 0 => 16 | 1 => 4 | 2 => 4 | 3 => 3 | 4 => 5 | 5 => 5 | 6 => 5 | 7 => 29 | 8 => 6 | 9 => 6 | 10 => 6 | _ => 0
def mj_at : ArrayType → Nat
  | .int => 16 | .byte => 17 | .char => 18 | .long => 19 | _ => 63
def mj_fitR (v : Nat) : Prop := v ≠ 15
abbrev mj_X : Type := List Prop × Nat × List Value × List Value × mj_H
def mj_all : List Prop → Prop
  | [] => True
  | [a] => a
  | a :: b :: r => a ∧ mj_all (b :: r)
def mj_sw (x lo hi : Int) (d : Int) (offs : Array Int) : Nat := if x < lo ∨ hi < x then d.toNat else ((offs.toList.getD (x - lo).toNat 0)).toNat
def mj_lk (x : Int) (d : Int) : List (Int × Int) → Nat
  | [] => d.toNat
  | (k, t) :: r => if x = k then t.toNat else mj_lk x d r
/-- what the static with the number q holds -/
def mj_sv : Nat → Value
  | 0 => .int (nI 1) | 1 => .ref 1 | 2 => .ref 2 | 3 => .ref 7 | 4 => .ref 8 | 5 => .ref 9 | 6 => .ref 10 | 7 => .ref 11 | 8 => .ref 12 | 9 => .ref 13 | 10 => .ref 14 | 11 => .ref 15 | _ => .retAddr 0
/-- what 'ldc' lays -/
def mj_kon : Nat → Value
  | 0 => .ref 5 | 1 => .ref 3 | 2 => .ref 16 | 3 => .int (nI 2147483647) | 4 => .int (nI 2147483639) | _ => .retAddr 0
def mj_01 (v : Int32) : Prop := v = nI 0 ∨ v = nI 1
def mj_ra (t : Nat) : Prop := t = 20 ∨ t = 21 ∨ t = 22 ∨ t = 23
def mj_el (t v : Nat) : Prop := (t = 21 ∧ v = 5) ∨ (t = 22 ∧ v = 6) ∨ (t = 23 ∧ v = 4)
def mj_aT (t : Nat) : Prop := 16 ≤ t ∧ t ≤ 23
def mj_lo1 (k n : Nat) (lc st : List Value) (h : mj_H) : Option mj_X := match mj_nth lc k with
  | .int x => some ([], n, lc, .int x :: st, h)
  | _ => none
def mj_lo2 (k n : Nat) (lc st : List Value) (h : mj_H) : Option mj_X := match mj_nth lc k with
  | .ref x => some ([], n, lc, .ref x :: st, h)
  | _ => none
def mj_st1 (k n : Nat) (lc st : List Value) (h : mj_H) : Option mj_X := match st with
  | .int x :: r => match mj_set lc k (.int x) with
    | some l => some ([], n, l, r, h)
    | none => none
  | _ => none
def mj_st2 (k n : Nat) (lc st : List Value) (h : mj_H) : Option mj_X := match st with
  | .ref x :: r => match mj_set lc k (.ref x) with
    | some l => some ([], n, l, r, h)
    | none => none
  | _ => none
def mj_ld1 (t n : Nat) (lc st : List Value) (h : mj_H) : Option mj_X := match st with
  | .int i :: .ref a :: r => some ([mj_T h a = t, vp_in i (mj_N h a)], n, lc, .int (mj_I h a i.toNatClampNeg) :: r, h)
  | _ => none
def mj_b (x : Int32) : Int32 := x.toInt8.toInt32
def mj_c (x : Int32) : Int32 := (x.toUInt32 % 65536).toInt32
def mj_n0 (z n : Nat) (lc st : List Value) (h : mj_H) : Option mj_X := if z = 900 then (match st with
    | .int k :: .int dp :: .ref d :: .int sp :: .ref s :: r => bif Nat.ble r.length 8 then some ([20 ≤ s, 20 ≤ d, mj_T h s = mj_T h d, mj_T h d = 17 ∨ mj_T h d = 23, ¬ sp < 0, ¬ dp < 0, ¬ k < 0, sp.toNatClampNeg + k.toNatClampNeg ≤ mj_N h s, dp.toNatClampNeg + k.toNatClampNeg ≤ mj_N h d,
        mj_T h d = 23 → ∀ i, i < k.toNatClampNeg → mj_T h (mj_R h s (sp.toNatClampNeg + i)) = 4 ∧ 20 ≤ mj_R h s (sp.toNatClampNeg + i)], n, lc, r, mj_cp h s sp.toNatClampNeg d dp.toNatClampNeg k.toNatClampNeg) else none
    | _ => none) else none
def mj_n1 (z n k : Nat) (lc st : List Value) (h : mj_H) : Option mj_X := if z = 901 then (match st with
    | .ref a :: r => bif Nat.ble r.length 8 then some ([if k = 7 then a = 7 else (mj_T h a = 17 ∧ 20 ≤ a), mj_U h + (1 + mj_N h a) ≤ mj_M], n, lc, .ref (mj_Z h) :: r, mj_cl h a) else none
    | _ => none) else if z = 902 then (match st with
    | .ref a :: r => bif Nat.ble r.length 8 then some ([mj_T h a = 23, 20 ≤ a], n, lc, .ref 16 :: r, h) else none
    | _ => none) else none
def mj_n2 (z n : Nat) (lc st : List Value) (h : mj_H) : Option mj_X := if z = 903 then (match st with
    | .ref a :: r => bif Nat.ble r.length 8 then some ([20 ≤ a], n, lc, r, h) else none
    | _ => none) else none
/-- an instruction that stays in its method: what must hold; then pc, locals, stack, heap -/
def mj_do (i : Instr) (n j k : Nat) (lc st : List Value) (h : mj_H) : Option mj_X := match i with
  | .aconst_null => some ([], n, lc, .ref 0 :: st, h)
  | .dload k => some ([], n, lc, .int (nI k) :: st, h)
  | .dstore k => some ([], n, lc, .int (- nI k) :: st, h)
  | .ldc q => some ([], n, lc, mj_kon q :: st, h)
  | .iload k => mj_lo1 k n lc st h
  | .iload_n k => mj_lo1 k.val n lc st h
  | .aload k => mj_lo2 k n lc st h
  | .aload_n k => mj_lo2 k.val n lc st h
  | .istore k => mj_st1 k n lc st h
  | .istore_n k => mj_st1 k.val n lc st h
  | .astore k => mj_st2 k n lc st h
  | .astore_n k => mj_st2 k.val n lc st h
  | .iinc k c => match mj_nth lc k with
    | .int x => match mj_set lc k (.int (x + mj_k c)) with
      | some l => some ([], n, l, st, h)
      | none => none
    | _ => none
  | .multianewarray k c => match mj_nth lc k with
    | .int x => match mj_set lc k (.int (x + nI c)) with
      | some l => some ([], n, l, st, h)
      | none => none
    | _ => none
  | .iadd => match st with
    | .int y :: .int x :: r => some ([], n, lc, .int (x + y) :: r, h)
    | _ => none
  | .isub => match st with
    | .int y :: .int x :: r => some ([], n, lc, .int (x - y) :: r, h)
    | _ => none
  | .imul => match st with
    | .int y :: .int x :: r => some ([], n, lc, .int (x * y) :: r, h)
    | _ => none
  | .iand => match st with
    | .int y :: .int x :: r => some ([], n, lc, .int (x &&& y) :: r, h)
    | _ => none
  | .ior => match st with
    | .int y :: .int x :: r => some ([], n, lc, .int (x ||| y) :: r, h)
    | _ => none
  | .ishl => match st with
    | .int y :: .int x :: r => some ([], n, lc, .int (x <<< (y &&& 31)) :: r, h)
    | _ => none
  | .ishr => match st with
    | .int y :: .int x :: r => some ([], n, lc, .int (x >>> (y &&& 31)) :: r, h)
    | _ => none
  | .idiv => match st with
    | .int y :: .int x :: r => some ([¬ y = 0], n, lc, .int (x / y) :: r, h)
    | _ => none
  | .irem => match st with
    | .int y :: .int x :: r => some ([¬ y = 0], n, lc, .int (x - x / y * y) :: r, h)
    | _ => none
  | .ineg => match st with
    | .int x :: r => some ([], n, lc, .int (- x) :: r, h)
    | _ => none
  | .i2b => match st with
    | .int x :: r => some ([], n, lc, .int (mj_b x) :: r, h)
    | _ => none
  | .i2c => match st with
    | .int x :: r => some ([], n, lc, .int (mj_c x) :: r, h)
    | _ => none
  | .i2l => match st with
    | .int x :: r => some ([], n, lc, .long x.toInt64 :: r, h)
    | _ => none
  | .lcmp => match st with
    | .long y :: .long x :: r => some ([], n, lc, .int (lg_cmp x y) :: r, h)
    | _ => none
  | .dup => match st with
    | .int x :: r => some ([], n, lc, .int x :: .int x :: r, h)
    | .ref x :: r => some ([], n, lc, .ref x :: .ref x :: r, h)
    | _ => none
  | .dup_x1 => match st with
    | .int x :: .ref z :: r => some ([], n, lc, .int x :: .ref z :: .int x :: r, h)
    | .ref x :: .ref z :: r => some ([], n, lc, .ref x :: .ref z :: .ref x :: r, h)
    | _ => none
  | .dup2 => match st with
    | .int x :: .ref z :: r => some ([], n, lc, .int x :: .ref z :: .int x :: .ref z :: r, h)
    | _ => none
  | .pop => match st with
    | .int _ :: r => some ([], n, lc, r, h)
    | .ref _ :: r => some ([], n, lc, r, h)
    | _ => none
  | .ifCond c _ => match st with
    | .int x :: r => some ([], mj_c0 c x j n, lc, r, h)
    | _ => none
  | .if_icmp c _ => match st with
    | .int y :: .int x :: r => some ([], mj_c2 c x y j n, lc, r, h)
    | _ => none
  | .if_acmp c _ => match st with
    | .ref y :: .ref x :: r => match c with
      | .eq => some ([mj_ac x y], if x = y then j else n, lc, r, h)
      | .ne => some ([mj_ac x y], if x = y then n else j, lc, r, h)
    | _ => none
  | .ifnull _ => match st with
    | .ref x :: r => some ([mj_fitR x], if x = 0 then j else n, lc, r, h)
    | _ => none
  | .ifnonnull _ => match st with
    | .ref x :: r => some ([mj_fitR x], if x = 0 then n else j, lc, r, h)
    | _ => none
  | .goto _ => some ([], j, lc, st, h)
  | .tableswitch d lo hi offs => match st with
    | .int x :: r => some ([], mj_sw x.toInt lo hi d offs, lc, r, h)
    | _ => none
  | .lookupswitch d ps => match st with
    | .int x :: r => some ([], mj_lk x.toInt d ps.toList, lc, r, h)
    | _ => none
  | .iaload => mj_ld1 16 n lc st h
  | .baload => mj_ld1 17 n lc st h
  | .caload => mj_ld1 18 n lc st h
  | .laload => match st with
    | .int i :: .ref a :: r => some ([mj_T h a = 19, vp_in i (mj_N h a)], n, lc, .long (mj_L h a i.toNatClampNeg) :: r, h)
    | _ => none
  | .aaload => match st with
    | .int i :: .ref a :: r => some ([20 ≤ a, mj_ra (mj_T h a), vp_in i (mj_N h a)], n, lc, .ref (mj_R h a i.toNatClampNeg) :: r, h)
    | _ => none
  | .iastore => match st with
    | .int v :: .int i :: .ref a :: r => some ([20 ≤ a, mj_T h a = 16, vp_in i (mj_N h a)], n, lc, r, mj_wI h a i.toNatClampNeg v)
    | _ => none
  | .bastore => match st with
    | .int v :: .int i :: .ref a :: r => some ([20 ≤ a, mj_T h a = 17, vp_in i (mj_N h a)], n, lc, r, mj_wI h a i.toNatClampNeg (mj_b v))
    | _ => none
  | .castore => match st with
    | .int v :: .int i :: .ref a :: r => some ([20 ≤ a, mj_T h a = 18, vp_in i (mj_N h a)], n, lc, r, mj_wI h a i.toNatClampNeg (mj_c v))
    | _ => none
  | .lastore => match st with
    | .long v :: .int i :: .ref a :: r => some ([20 ≤ a, mj_T h a = 19, vp_in i (mj_N h a)], n, lc, r, mj_wL h a i.toNatClampNeg v)
    | _ => none
  | .aastore => match st with
    | .ref v :: .int i :: .ref a :: r => some ([20 ≤ a, 20 ≤ v, mj_el (mj_T h a) (mj_T h v), vp_in i (mj_N h a)], n, lc, r, mj_wR h a i.toNatClampNeg v)
    | _ => none
  | .arraylength => match st with
    | .ref a :: r => some ([mj_aT (mj_T h a)], n, lc, .int (nI (mj_N h a)) :: r, h)
    | _ => none
  | .newarray t => match st with
    | .int k :: r => some ([¬ k < 0, mj_U h + (1 + k.toNatClampNeg) ≤ mj_M], n, lc, .ref (mj_Z h) :: r, mj_nw h (mj_at t) k.toNatClampNeg k.toNatClampNeg)
    | _ => none
  | .anewarray t => match st with
    | .int k :: r => some ([¬ k < 0, mj_U h + (1 + k.toNatClampNeg) ≤ mj_M], n, lc, .ref (mj_Z h) :: r, mj_nw h t k.toNatClampNeg k.toNatClampNeg)
    | _ => none
  | .new t => some ([mj_U h + (1 + mj_sl t) ≤ mj_M], n, lc, .ref (mj_Z h) :: st, mj_nw h t 0 (mj_sl t))
  | .getfield t => match st with
    | .ref a :: r => some ([mj_T h a = t], n, lc, .int (mj_I h a k) :: r, h)
    | _ => none
  | .fload t => match st with
    | .ref a :: r => some ([mj_T h a = t], n, lc, .ref (mj_R h a k) :: r, h)
    | _ => none
  | .putfield t => match st with
    | .int v :: .ref a :: r => some ([20 ≤ a, mj_T h a = t], n, lc, r, mj_wI h a k v)
    | _ => none
  | .lstore t => match st with
    | .int v :: .ref a :: r => some ([20 ≤ a, mj_T h a = t, mj_01 v], n, lc, r, mj_wI h a k v)
    | _ => none
  | .fstore t => match st with
    | .ref v :: .ref a :: r => some ([20 ≤ a, mj_T h a = t], n, lc, r, mj_wR h a k v)
    | _ => none
  | .getstatic q => some ([], n, lc, mj_sv q :: st, h)
  | .checkcast t => match st with
    | .ref a :: r => some ([mj_T h a = t, 20 ≤ a], n, lc, .ref a :: r, h)
    | _ => none
  | .invokestatic z => mj_n0 z n lc st h
  | .invokevirtual z => mj_n1 z n k lc st h
  | .invokespecial z => mj_n2 z n lc st h
  | _ => none
