/-! lengths and literals -/
def mj_len : Instr → Nat
  | .iload _ => 2 | .aload _ => 2 | .istore _ => 2 | .astore _ => 2 | .ldc _ => 2 | .newarray _ => 2
  | .iinc _ _ => 3 | .multianewarray _ _ => 3 | .ifCond _ _ => 3 | .if_icmp _ _ => 3 | .if_acmp _ _ => 3 | .ifnull _ => 3 | .ifnonnull _ => 3 | .goto _ => 3
  | .getfield _ => 3 | .fload _ => 3 | .putfield _ => 3 | .lstore _ => 3 | .fstore _ => 3 | .getstatic _ => 3 | .new _ => 3 | .jsr _ => 3 | .anewarray _ => 3 | .checkcast _ => 3
  | .invokestatic _ => 3 | .invokespecial _ => 3 | .invokevirtual _ => 3 | .invokeinterface _ _ => 5
  | _ => 1
def mj_c3 (pc : Nat) (i : Instr) (n : Nat) : Bool := match i with
  | .dload k => (n == pc + 1 && decide (Int32.ofInt k = nI k)) || ((n == pc + 2 && decide ((Int8.ofInt k).toInt32 = nI k)) || (n == pc + 3 && decide ((Int16.ofInt k).toInt32 = nI k)))
  | .dstore k => (n == pc + 1 && decide (Int32.ofInt (- (k : Int)) = - nI k)) || ((n == pc + 2 && decide ((Int8.ofInt (- (k : Int))).toInt32 = - nI k)) || (n == pc + 3 && decide ((Int16.ofInt (- (k : Int))).toInt32 = - nI k)))
  | .iinc _ c => n == pc + 3 && decide (Int32.ofInt c = mj_k c)
  | .multianewarray _ c => n == pc + 3 && decide (Int32.ofInt c = nI c)
  | .tableswitch d lo hi offs => decide (0 ≤ d) && (offs.toList.all (fun t => decide (0 ≤ t)) && (decide (offs.toList.length = (hi - lo + 1).toNat) && decide (lo ≤ hi)))
  | .lookupswitch d ps => decide (0 ≤ d) && (ps.toList.all (fun t => decide (0 ≤ t.2)) && (ps.toList.zip (ps.toList.drop 1)).all (fun (a, next) => a.1 < next.1))
  | i => n == pc + mj_len i
def mj_ck3 (y : Nat) : Bool := (List.range (mj_sz y)).all fun pc => match mj_ins y pc with
  | none => true
  | some (i, n, _, _) => mj_c3 pc i n
set_option maxRecDepth 100000 in
theorem mj_ck3_0 : (List.range 47).all mj_ck3 = true := by decide +kernel
set_option maxRecDepth 100000 in
theorem mj_ck3_1 : ((List.range 43).map (· + 47)).all mj_ck3 = true := by decide +kernel
set_option maxRecDepth 100000 in
theorem mj_ck3_2 : ((List.range 31).map (· + 90)).all mj_ck3 = true := by decide +kernel
set_option maxRecDepth 100000 in
theorem mj_ck3_3 : ((List.range 27).map (· + 121)).all mj_ck3 = true := by decide +kernel
set_option maxRecDepth 100000 in
theorem mj_ck3_4 : ((List.range 21).map (· + 148)).all mj_ck3 = true := by decide +kernel
theorem mj_c3_ok {y pc : Nat} {i : Instr} {n j k : Nat} (h : mj_ins y pc = some (i, n, j, k)) : mj_c3 pc i n = true := by
  obtain ⟨h1, h2⟩ := mj_ins_in h
  have q := List.all_eq_true.mp (mj_part mj_ck3_0 mj_ck3_1 mj_ck3_2 mj_ck3_3 mj_ck3_4 h1) pc (List.mem_range.mpr h2)
  rw [h] at q
  exact q
/-- where the next instruction stands, and what is decoded here -/
theorem mj_dd {y pc : Nat} {i : Instr} {n j k : Nat} (h : mj_ins y pc = some (i, n, j, k)) (h3 : mj_c3 pc i n = (n == pc + mj_len i)) : n = pc + mj_len i ∧ decode (mj_by y) pc = .ok (mj_rl pc i n j, mj_len i) := by
  have a := mj_c3_ok h
  rw [h3] at a
  have e : n = pc + mj_len i := by simpa using a
  have b := (mj_dec_ok h).2
  rw [show n - pc = mj_len i by omega] at b
  exact ⟨e, b⟩
theorem mj_set_ok : ∀ {lc : List Value} {k : Nat} {v : Value} {l : List Value}, mj_set lc k v = some l → k < lc.length ∧ l.length = lc.length ∧ ∀ i, mj_nth l i = if i = k then v else mj_nth lc i
  | [], _, _, _, h => by cases h
  | x :: lc, 0, v, l, h => by
    cases h
    refine ⟨Nat.succ_pos _, rfl, fun i => ?_⟩
    cases i with
    | zero => rfl
    | succ i => rfl
  | x :: lc, k + 1, v, l, h => by
    unfold mj_set at h
    split at h
    · next r e =>
      cases h
      obtain ⟨h1, h2, h3⟩ := mj_set_ok e
      refine ⟨Nat.succ_lt_succ h1, by simp [h2], fun i => ?_⟩
      cases i with
      | zero => rw [if_neg (by omega)]; rfl
      | succ i =>
        show mj_nth r i = _
        rw [h3 i]
        by_cases q : i = k
        · rw [if_pos q, if_pos (by omega)]
        · rw [if_neg q, if_neg (by omega)]; rfl
    · cases h
