/-! every step of the small machine is a walk of the real one -/
theorem mr_any (i : Instr) : mr_T i := by
  cases i with
  | iadd => exact mr_iadd
  | isub => exact mr_isub
  | imul => exact mr_imul
  | iand => exact mr_iand
  | ior => exact mr_ior
  | ishl => exact mr_ishl
  | ishr => exact mr_ishr
  | idiv => exact mr_idiv
  | irem => exact mr_irem
  | ineg => exact mr_ineg
  | i2b => exact mr_i2b
  | i2c => exact mr_i2c
  | i2l => exact mr_i2l
  | lcmp => exact mr_lcmp
  | dup => exact mr_dup
  | dup_x1 => exact mr_dup_x1
  | dup2 => exact mr_dup2
  | pop => exact mr_pop
  | aconst_null => exact mr_aconst_null
  | iaload => exact mr_iaload
  | baload => exact mr_baload
  | caload => exact mr_caload
  | laload => exact mr_laload
  | aaload => exact mr_aaload
  | iastore => exact mr_iastore
  | bastore => exact mr_bastore
  | castore => exact mr_castore
  | lastore => exact mr_lastore
  | aastore => exact mr_aastore
  | arraylength => exact mr_arraylength
  | dload a => exact mr_dload a
  | dstore a => exact mr_dstore a
  | goto a => exact mr_goto a
  | ifnull a => exact mr_ifnull a
  | ifnonnull a => exact mr_ifnonnull a
  | iload a => exact mr_iload a
  | iload_n a => exact mr_iload_n a
  | aload a => exact mr_aload a
  | aload_n a => exact mr_aload_n a
  | istore a => exact mr_istore a
  | istore_n a => exact mr_istore_n a
  | astore a => exact mr_astore a
  | astore_n a => exact mr_astore_n a
  | getfield a => exact mr_getfield a
  | fload a => exact mr_fload a
  | putfield a => exact mr_putfield a
  | lstore a => exact mr_lstore a
  | fstore a => exact mr_fstore a
  | getstatic a => exact mr_getstatic a
  | ldc a => exact mr_ldc a
  | newarray a => exact mr_newarray a
  | anewarray a => exact mr_anewarray a
  | new a => exact mr_new a
  | checkcast a => exact mr_checkcast a
  | invokestatic a => exact mr_invokestatic a
  | invokespecial a => exact mr_invokespecial a
  | invokevirtual a => exact mr_invokevirtual a
  | ifCond a b => exact mr_ifCond a b
  | if_icmp a b => exact mr_if_icmp a b
  | if_acmp a b => exact mr_if_acmp a b
  | iinc a b => exact mr_iinc a b
  | multianewarray a b => exact mr_multianewarray a b
  | lookupswitch a b => exact mr_lookupswitch a b
  | tableswitch a b c d => exact mr_tableswitch a b c d
  | _ =>
    intro X xs L p l e R s m args below meth c d y Q pc H locs cells slots ls lc st h n j k S pc' lc' st' h' C hi hS hv hA kk
    cases hv
theorem mr_step {X : mr_X} {xs : Nat → Int32} {L : Nat} {p : Program} {l : Launch} {e : Env} (htr : e.platform.stackTraces = false) : ∀ d y pc lc st h P, mj_Step (mr_Z X xs L p l e) d y pc lc st h P → mr_Z X xs L p l e d y pc lc st h P := by
  intro d y pc lc st h P hstep R s m args below meth c H locs cells slots ls C hS
  rcases hstep with ⟨S, pc', lc', st', h', e1, s1, z1⟩ | ⟨S, v, e1, s1, q⟩ | ⟨S, t, e1, s1, q⟩ | ⟨S, z, as, r, pc', d', Q, e1, s1, hd, k1, k2, k3⟩
  · unfold mj_stp at e1
    split at e1
    · next i n j k hi =>
      exact mr_any i X xs L p l e R s m args below meth c d y _ pc H locs cells slots ls lc st h n j k S pc' lc' st' h' C hi hS e1 s1 (fun H' locs' cells' slots' ls' hS' => z1 R s m args below meth c H' locs' cells' slots' ls' C hS')
    · cases e1
  · exact mr_retW C hS e1 s1 q
  · exact mr_throwW htr C hS e1 s1 q
  · subst hd
    have cv : ∀ {z0 n : Nat}, mj_cv z0 n st h = some (S, z, as, r, pc') → z = z0 ∧ pc' = n ∧ ∃ a as', as = .ref a :: as' ∧ mj_sp (mj_na z0) [] st = some (.ref a :: as', r) ∧ Nat.ble r.length 8 = true ∧ (Value.ref a :: as').all mj_a1 = true ∧ mj_T h a = mj_rg z0 := by
      intro z0 n q
      unfold mj_cv at q
      split at q
      · next a as' r' hsp =>
        cases hb : (Nat.ble r'.length 8 && as'.all mj_a1) with
        | false => rw [hb] at q; cases q
        | true =>
          rw [hb] at q
          cases q
          rw [Bool.and_eq_true] at hb
          exact ⟨rfl, rfl, a, as', rfl, hsp, hb.1, by rw [List.all_cons, hb.2]; rfl, s1⟩
      · cases q
    unfold mj_cal at e1
    split at e1
    · next z0 n j k hi =>
      cases h9 : Nat.ble 900 z0 with
      | true => rw [h9] at e1; cases e1
      | false =>
        rw [h9] at e1
        have e1 : (match mj_sp (mj_na z0) [] st with | some (as, r) => bif Nat.ble r.length 8 && as.all mj_a1 then some ([], z0, as, r, n) else none | none => none) = some (S, z, as, r, pc') := e1
        split at e1
        · next as0 r0 hsp =>
          cases hb : (Nat.ble r0.length 8 && as0.all mj_a1) with
          | false => rw [hb] at e1; cases e1
          | true =>
            rw [hb] at e1
            cases e1
            rw [Bool.and_eq_true] at hb
            obtain ⟨hn, hdd⟩ := mj_dd hi rfl
            have h900 : ¬ z = 900 := by intro q; subst q; cases h9
            obtain ⟨hz, hc⟩ := mr_res_static (l := l) (e := e) (args := args) (below := below) (H := H) (locs := locs) (cells := cells) (slots := slots) (ls := ls) C hi h900 hsp
            obtain ⟨pre, p1, p2, p3⟩ := mj_sp_ok hsp
            exact mr_call C (mj_ins_in hi).1 hS hdd hn hz hb.2 (by rw [p3]; simp [p2]) hb.1 hc k1 k2 k3
        · cases e1
    · next z0 n j k hi =>
      cases h9 : Nat.ble 900 z0 with
      | true => rw [h9] at e1; cases e1
      | false =>
        rw [h9] at e1
        obtain ⟨rfl, rfl, a, as', rfl, hsp, hb1, hb2, hT⟩ := cv e1
        obtain ⟨hn, hdd⟩ := mj_dd hi rfl
        have h900 : ¬ 900 ≤ z := by intro q; rw [Nat.ble_eq_true_of_le q] at h9; cases h9
        obtain ⟨hz, hc⟩ := mr_res_special (l := l) (e := e) (args := args) (below := below) C hS hi h900 hsp hT
        exact mr_call C (mj_ins_in hi).1 hS hdd hn hz hb2 (by rw [List.length_cons]; exact (mj_spv (X := X) hsp).1) hb1 hc k1 k2 k3
    · next z0 n j k hi =>
      cases h9 : Nat.ble 900 z0 with
      | true => rw [h9] at e1; cases e1
      | false =>
        rw [h9] at e1
        obtain ⟨rfl, rfl, a, as', rfl, hsp, hb1, hb2, hT⟩ := cv e1
        obtain ⟨hn, hdd⟩ := mj_dd hi rfl
        have h900 : ¬ 900 ≤ z := by intro q; rw [Nat.ble_eq_true_of_le q] at h9; cases h9
        obtain ⟨hz, hc⟩ := mr_res_virtual (l := l) (e := e) (args := args) (below := below) C hS hi h900 hsp hT
        exact mr_call C (mj_ins_in hi).1 hS hdd hn hz hb2 (by rw [List.length_cons]; exact (mj_spv (X := X) hsp).1) hb1 hc k1 k2 k3
    · next i1 i2 n j k hi =>
      split at e1
      · next v1 v2 a r0 =>
        cases hb : Nat.ble r0.length 8 with
        | false => rw [hb] at e1; cases e1
        | true =>
          rw [hb] at e1
          cases e1
          obtain ⟨hn, hdd⟩ := mj_dd hi rfl
          have hT : mj_T h a = 6 ∨ mj_T h a = 4 := s1
          have hc := mr_res_face (l := l) (e := e) (args := args) (below := below) (v1 := v1) (v2 := v2) (r := r) C hS hi hT
          exact mr_call C (mj_ins_in hi).1 hS hdd hn (by split <;> decide) rfl (by split <;> rfl) hb hc k1 k2 k3
      · cases e1
    · cases e1
theorem mr_sound {X : mr_X} {xs : Nat → Int32} {L : Nat} {p : Program} {l : Launch} {e : Env} (htr : e.platform.stackTraces = false) {d y pc : Nat} {lc st : List Value} {h : mj_H} {P : mj_P} (k : Ends d y pc lc st h P) : mr_Z X xs L p l e d y pc lc st h P := k.ind (mr_step htr)
