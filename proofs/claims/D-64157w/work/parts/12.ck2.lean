/-! THE PROGRAM IS CHECKED against the tables -/
set_option maxRecDepth 100000 in
theorem mj_ck2_0 : (List.range 47).all mj_ck2 = true := by decide +kernel
set_option maxRecDepth 100000 in
theorem mj_ck2_1 : ((List.range 43).map (· + 47)).all mj_ck2 = true := by decide +kernel
set_option maxRecDepth 100000 in
theorem mj_ck2_2 : ((List.range 31).map (· + 90)).all mj_ck2 = true := by decide +kernel
set_option maxRecDepth 100000 in
theorem mj_ck2_3 : ((List.range 27).map (· + 121)).all mj_ck2 = true := by decide +kernel
set_option maxRecDepth 100000 in
theorem mj_ck2_4 : ((List.range 21).map (· + 148)).all mj_ck2 = true := by decide +kernel
theorem mj_part {f : Nat → Bool} (h0 : (List.range 47).all f = true) (h1 : ((List.range 43).map (· + 47)).all f = true) (h2 : ((List.range 31).map (· + 90)).all f = true) (h3 : ((List.range 27).map (· + 121)).all f = true) (h4 : ((List.range 21).map (· + 148)).all f = true) {y : Nat} (hy : y < 169) : f y = true := by
  have at' : ∀ {n k : Nat}, ((List.range n).map (· + k)).all f = true → k ≤ y → y < k + n → f y = true := by
    intro n k h a b
    rw [List.all_map] at h
    have := List.all_eq_true.mp h (y - k) (List.mem_range.mpr (by omega))
    simpa [Function.comp, Nat.sub_add_cancel a] using this
  rcases (show y < 47 ∨ (47 ≤ y ∧ y < 90) ∨ (90 ≤ y ∧ y < 121) ∨ (121 ≤ y ∧ y < 148) ∨ (148 ≤ y ∧ y < 169) by omega) with h | ⟨a, b⟩ | ⟨a, b⟩ | ⟨a, b⟩ | ⟨a, b⟩
  · exact List.all_eq_true.mp h0 y (List.mem_range.mpr h)
  · exact at' h1 a (by omega)
  · exact at' h2 a (by omega)
  · exact at' h3 a (by omega)
  · exact at' h4 a (by omega)
theorem mj_ins_in {y pc : Nat} {r : Instr × Nat × Nat × Nat} (h : mj_ins y pc = some r) : y < 169 ∧ pc < mj_sz y := by
  unfold mj_ins at h
  cases hb : Nat.ble (mj_sz y) pc with
  | true => rw [hb] at h; simp at h
  | false =>
    have h1 : ¬ mj_sz y ≤ pc := fun q => by rw [Nat.ble_eq_true_of_le q] at hb; cases hb
    refine ⟨?_, by omega⟩
    rcases Nat.lt_or_ge y 169 with q | q
    · exact q
    · exfalso
      unfold mj_sz at h1
      rw [Nat.ble_eq_true_of_le q] at h1
      exact h1 (Nat.zero_le _)
theorem mj_dec_ok {y pc : Nat} {i : Instr} {n j k : Nat} (h : mj_ins y pc = some (i, n, j, k)) : pc < n ∧ decode (mj_by y) pc = .ok (mj_rl pc i n j, n - pc) := by
  obtain ⟨h1, h2⟩ := mj_ins_in h
  have q := List.all_eq_true.mp (mj_part mj_ck1_0 mj_ck1_1 mj_ck1_2 mj_ck1_3 mj_ck1_4 h1) pc (List.mem_range.mpr h2)
  rw [h] at q
  simpa [mj_dec] using q
theorem mj_lok_ok {y pc : Nat} {i : Instr} {n j k : Nat} (h : mj_ins y pc = some (i, n, j, k)) : mj_lok y pc i j k (mj_pq pc (mj_pl y)) = true := by
  obtain ⟨h1, h2⟩ := mj_ins_in h
  have q := List.all_eq_true.mp (mj_part mj_ck2_0 mj_ck2_1 mj_ck2_2 mj_ck2_3 mj_ck2_4 h1) pc (List.mem_range.mpr h2)
  rw [h] at q
  exact q
