/-! at the law's entry -/
theorem me_eqR {args : Array Value} {s : State} {t u : Term} {a : Nat} (h : (Cond.eq t u).before args s = true) (hu : u.eval args s none [] s = some (.ref a)) : t.eval args s none [] s = some (.ref a) := by
  cases ht : t.eval args s none [] s with
  | none => simp [Cond.before, Cond.holds, Cond.value, ht] at h
  | some w =>
    simp only [Cond.before, Cond.holds, Cond.value, ht, hu] at h
    cases w <;> simp_all
def me_f : List Cond := flatC (Jvm.Cond.and given_1 narrow_1)
def me_kn : Nat → String
  | 0 => "PARAGRAPH" | 1 => "HEADING" | 2 => "ITEM" | _ => "BREAK"
def me_kt (i : Nat) : Term := .static "DotBook$Kind" (me_kn i) "LDotBook$Kind;"
def me_vt : Term := .static "DotBook$Kind" "$VALUES" "[LDotBook$Kind;"
def me_et : Term := .static "java/util/ArrayList" "DEFAULTCAPACITY_EMPTY_ELEMENTDATA" "[Ljava/lang/Object;"
def me_dt (a : Nat) : Term := .static "java/lang/Integer" (if a = 13 then "DigitTens" else "DigitOnes") "[B"
def me_it (a : Nat) : Term := .static "DotBook" (if a = 1 then "LETTERS" else "MARK_CELLS") "[I"
def me_st (a : Nat) : Term := .string "DotBook" (if a = 3 then 27 else 137)
def me_sv (a : Nat) : Term := .field (me_st a) "java/lang/String" "value" "[B"
def me_in (w : Cond) : Bool := decide (w ∈ me_f)
theorem me_i1 (j : Nat) (hj : j < 26) : Cond.eq (.elem (me_it 1) (.int (Int32.ofNat j))) (.int (nI (mc_lets.getD j 0))) ∈ me_f := va_run (N := 26) (p := 247) (f := fun j => Cond.eq (.elem (me_it 1) (.int (Int32.ofNat j))) (.int (nI (mc_lets.getD j 0)))) (by decide +kernel) j hj
theorem me_i2 (j : Nat) (hj : j < 8) : Cond.eq (.elem (me_it 2) (.int (Int32.ofNat j))) (.int (nI (mc_mrks.getD j 0))) ∈ me_f := va_run (N := 8) (p := 276) (f := fun j => Cond.eq (.elem (me_it 2) (.int (Int32.ofNat j))) (.int (nI (mc_mrks.getD j 0)))) (by decide +kernel) j hj
theorem me_d13 (j : Nat) (hj : j < 100) : Cond.eq (.elem (me_dt 13) (.int (Int32.ofNat j))) (.int (nI (48 + j / 10))) ∈ me_f := va_run (N := 100) (p := 128) (f := fun j => Cond.eq (.elem (me_dt 13) (.int (Int32.ofNat j))) (.int (nI (48 + j / 10)))) (by decide +kernel) j hj
theorem me_d14 (j : Nat) (hj : j < 100) : Cond.eq (.elem (me_dt 14) (.int (Int32.ofNat j))) (.int (nI (48 + j % 10))) ∈ me_f := va_run (N := 100) (p := 25) (f := fun j => Cond.eq (.elem (me_dt 14) (.int (Int32.ofNat j))) (.int (nI (48 + j % 10)))) (by decide +kernel) j hj
theorem me_s3 : (List.range 8).all (fun j => me_in (.eq (.elem (me_sv 3) (.int (Int32.ofNat j))) (.int (nI (mc_mtxt.getD j 0))))) = true := by decide +kernel
theorem me_s5 : (List.range 5).all (fun j => me_in (.eq (.elem (me_sv 5) (.int (Int32.ofNat j))) (.int (nI (mc_ktxt.getD j 0))))) = true := by decide +kernel
theorem me_v : (List.range 4).all (fun j => me_in (.eq (.elem me_vt (.int (Int32.ofNat j))) (me_kt j))) = true := by decide +kernel
theorem me_ne : (List.range 4).all (fun i => (List.range 4).all (fun j => decide (i = j) || (me_in (.not (.eq (me_kt i) (me_kt j))) || me_in (.not (.eq (me_kt j) (me_kt i)))))) = true := by decide +kernel
theorem me_kx : (List.range 4).all (fun j => me_in (.exactly (me_kt j) "DotBook$Kind")) = true := by decide +kernel
theorem me_w : [Cond.arrayOf (me_it 1) .int, .arrayOf (me_it 2) .int, .eq (.length (me_it 1)) (.int (Int32.ofNat 26)), .eq (.length (me_it 2)) (.int (Int32.ofNat 8)), .arrayOf (me_dt 13) .byte, .arrayOf (me_dt 14) .byte, .eq (.length (me_dt 13)) (.int (Int32.ofNat 100)), .eq (.length (me_dt 14)) (.int (Int32.ofNat 100)),
    .exactly (me_st 3) "java/lang/String", .exactly (me_st 5) "java/lang/String", .arrayOf (me_sv 3) .byte, .arrayOf (me_sv 5) .byte, .eq (.length (me_sv 3)) (.int (Int32.ofNat 8)), .eq (.length (me_sv 5)) (.int (Int32.ofNat 5)), .eq (.field (me_st 3) "java/lang/String" "coder" "B") (.int 0), .eq (.field (me_st 5) "java/lang/String" "coder" "B") (.int 0),
    .arrayOf me_vt (.object "DotBook$Kind"), .eq (.length me_vt) (.int (Int32.ofNat 4)), .exactly me_vt "[LDotBook$Kind;", .all me_vt (.le (.index 0) (.int 3)), .arrayOf me_et (.object "java/lang/Object"), .eq (.length me_et) (.int (Int32.ofNat 0)), .eq (.static "java/lang/String" "COMPACT_STRINGS" "Z") (.int (nI 1)),
    .isRef (.static "jdk/internal/util/Preconditions" "SIOOBE_FORMATTER" "Ljava/util/function/BiFunction;"), .isRef (.static "java/lang/Throwable" "UNASSIGNED_STACK" "[Ljava/lang/StackTraceElement;"), .isRef (.static "java/lang/Throwable" "SUPPRESSED_SENTINEL" "Ljava/util/List;"), .isRef (.mirror "[Ljava/lang/Object;"),
    .not (.castable "java/lang/IllegalStateException" "java/lang/IllegalArgumentException")].all me_in = true := by decide +kernel
def me_tb (w : Cond) : Bool := decide (w ∈ lw_tbl)
theorem me_ls : (List.range 12).all (fun q => me_tb (.laysStatic (mj_stn q).1 (mj_stn q).2.1 (mj_stn q).2.2) && me_tb (.initialized (mj_stn q).1)) = true := by decide +kernel
theorem me_t2 : [Cond.laysStatic "java/lang/Throwable" "UNASSIGNED_STACK" "[Ljava/lang/StackTraceElement;", .laysStatic "java/lang/Throwable" "SUPPRESSED_SENTINEL" "Ljava/util/List;", .initialized "java/lang/Throwable", .stringRef "DotBook" 137 "wbmea", .stringRef "DotBook" 27 ".,;:?!-'", .arrayOver (.object "DotBook$Kind"), .arrayOver (.object "DotBook$Rule"), .arrayOver (.object "DotBook$Block"), .arrayOver (.object "java/lang/Object")].all me_tb = true := by decide +kernel
theorem me_ins : (List.range 11).all (fun t => me_tb (.instantiable (mj_CN t) (mj_sl t))) = true := by decide +kernel
theorem me_16 : ∀ a, a < 20 → mc_T a = 16 → a = 1 ∨ a = 2 ∨ a = 17 := by decide
theorem me_17 : ∀ a, a < 20 → mc_T a = 17 → a = 4 ∨ a = 6 ∨ a = 13 ∨ a = 14 := by decide
theorem me_2 : ∀ a, a < 20 → mc_T a = 2 → a = 3 ∨ a = 5 := by decide
theorem me_11 : ∀ a, a < 20 → mc_T a = 11 → a = 8 ∨ a = 9 ∨ a = 10 ∨ a = 11 := by decide
def me_ad (l : List Nat) (n : Nat) : Nat := l.getD n 0
def me_ty : Nat → FieldType
  | 16 => .int | 17 => .byte | 18 => .char | 19 => .long | 20 => .object "DotBook$Kind" | 21 => .object "DotBook$Rule" | 22 => .object "DotBook$Block" | _ => .object "java/lang/Object"
theorem me_Tlt {ty : FieldType} {t N : Nat} {f : Nat → Value} {A : Nat → Prop} {U : State} {H : Heap} (h : va_T ty t N f A U H) : t < H.size := by
  obtain ⟨cell, h1, -⟩ := h
  exact (Array.getElem?_eq_some_iff.mp h1).1
theorem me_start {p : Program} {s : State} {m : MethodId} {meth : Method} {c : Code} {b L : Nat} {xs : Nat → Int32} (h : lw_At p s m meth c b L xs) : ∃ X : mr_X, mr_B X = s.heap.size ∧ mr_ad X 17 = b ∧ mr_G X xs L s := by
  obtain ⟨hx, hb, hr, hml, hown, hts, hX, hbl, hlk, hgv⟩ := h
  have wd := flat_of_before _ hgv
  have wi : ∀ {w : Cond}, me_in w = true → w.before #[Value.ref b] s = true := fun {w} q => wd w (of_decide_eq_true q)
  have wt : ∀ {w : Cond}, me_tb w = true → w.before #[Value.ref b] s = true := fun {w} q => hts w (of_decide_eq_true q)
  have hA : ∀ a : Nat, a < s.heap.size → ¬ (fun q : Nat => s.heap.size ≤ q) a := fun a h => Nat.not_le.mpr h
  have hw := me_w
  simp only [List.all_cons, List.all_nil, Bool.and_true, Bool.and_eq_true] at hw
  obtain ⟨w1, w2, w3, w4, w5, w6, w7, w8, w9, w10, w11, w12, w13, w14, w15, w16, w17, w18, w19, w20, w21, w22, w23, w24, w25, w26, w27, w28⟩ := hw
  have hw2 := me_t2
  simp only [List.all_cons, List.all_nil, Bool.and_true, Bool.and_eq_true] at hw2
  obtain ⟨v1, v2, v3, v4, v5, v6, v7, v8, v9⟩ := hw2
  have lz : ∀ q, q < 12 → ∀ v, (Term.static (mj_stn q).1 (mj_stn q).2.1 (mj_stn q).2.2).eval #[Value.ref b] s none [] s = some v → va_Z (mj_stn q).1 (mj_stn q).2.1 (mj_stn q).2.2 v (fun q => s.heap.size ≤ q) s s.heap := fun q hq v hv => by
    have := List.all_eq_true.mp me_ls q (List.mem_range.mpr hq)
    rw [Bool.and_eq_true] at this
    exact va_Zof (wt this.1) (wt this.2) hv hA
  obtain ⟨t1, e1, T1⟩ := va_Tof (A := fun q => s.heap.size ≤ q) (f := fun i => .int (nI (mc_lets.getD i 0))) (N := 26) (by decide) (wi w1) (va_eqt (wi w3)) (fun j hj => va_eqt (wd _ (me_i1 j hj))) hA
  obtain ⟨t2, e2, T2⟩ := va_Tof (A := fun q => s.heap.size ≤ q) (f := fun i => .int (nI (mc_mrks.getD i 0))) (N := 8) (by decide) (wi w2) (va_eqt (wi w4)) (fun j hj => va_eqt (wd _ (me_i2 j hj))) hA
  obtain ⟨t13, e13, T13⟩ := va_Tof (A := fun q => s.heap.size ≤ q) (f := fun i => .int (nI (48 + i / 10))) (N := 100) (by decide) (wi w5) (va_eqt (wi w7)) (fun j hj => va_eqt (wd _ (me_d13 j hj))) hA
  obtain ⟨t14, e14, T14⟩ := va_Tof (A := fun q => s.heap.size ≤ q) (f := fun i => .int (nI (48 + i % 10))) (N := 100) (by decide) (wi w6) (va_eqt (wi w8)) (fun j hj => va_eqt (wd _ (me_d14 j hj))) hA
  obtain ⟨a3, -, -, -, e3, -⟩ := Cond.exactly_spec (wi w9)
  obtain ⟨a5, -, -, -, e5, -⟩ := Cond.exactly_spec (wi w10)
  have O3 := va_Oof (A := fun q => s.heap.size ≤ q) (wi w9) e3 hA
  have O5 := va_Oof (A := fun q => s.heap.size ≤ q) (wi w10) e5 hA
  obtain ⟨t4, e4, T4⟩ := va_Tof (A := fun q => s.heap.size ≤ q) (f := fun i => .int (nI (mc_mtxt.getD i 0))) (N := 8) (by decide) (wi w11) (va_eqt (wi w13)) (fun j hj => va_eqt (wi (List.all_eq_true.mp me_s3 j (List.mem_range.mpr hj)))) hA
  obtain ⟨t6, e6, T6⟩ := va_Tof (A := fun q => s.heap.size ≤ q) (f := fun i => .int (nI (mc_ktxt.getD i 0))) (N := 5) (by decide) (wi w12) (va_eqt (wi w14)) (fun j hj => va_eqt (wi (List.all_eq_true.mp me_s5 j (List.mem_range.mpr hj)))) hA
  have F3 := vk_OFof (A := fun q => s.heap.size ≤ q) e3 e4 hA
  have F5 := vk_OFof (A := fun q => s.heap.size ≤ q) e5 e6 hA
  have C3 := vk_OFof (A := fun q => s.heap.size ≤ q) e3 (va_eqt (wi w15)) hA
  have C5 := vk_OFof (A := fun q => s.heap.size ≤ q) e5 (va_eqt (wi w16)) hA
  have hk0 : ∀ i : Nat, ∃ a : Nat, i < 4 → (me_kt i).eval #[Value.ref b] s none [] s = some (.ref a) ∧ va_O "DotBook$Kind" a (fun q => s.heap.size ≤ q) s s.heap := by
    intro i
    by_cases hi : i < 4
    · have w := wi (List.all_eq_true.mp me_kx i (List.mem_range.mpr hi))
      obtain ⟨a, -, -, -, e, -⟩ := Cond.exactly_spec w
      exact ⟨a, fun _ => ⟨e, va_Oof w e hA⟩⟩
    · exact ⟨0, fun q => absurd q hi⟩
  obtain ⟨kd, hkd⟩ := Classical.axiomOfChoice hk0
  have hne : ∀ i j, i < 4 → j < 4 → i ≠ j → kd i ≠ kd j := by
    intro i j hi hj hij
    have w := List.all_eq_true.mp (List.all_eq_true.mp me_ne i (List.mem_range.mpr hi)) j (List.mem_range.mpr hj)
    rw [Bool.or_eq_true, Bool.or_eq_true, decide_eq_true_eq] at w
    rcases w with w | w | w
    · exact absurd w hij
    · exact va_neR (wi w) (hkd i hi).1 (hkd j hj).1
    · exact fun e => va_neR (wi w) (hkd j hj).1 (hkd i hi).1 e.symm
  obtain ⟨tv, ev, Tv⟩ := va_Tof (A := fun q => s.heap.size ≤ q) (f := fun i => .ref (kd i)) (N := 4) (by decide) (wi w17) (va_eqt (wi w18)) (fun j hj => me_eqR (wi (List.all_eq_true.mp me_v j (List.mem_range.mpr hj))) (hkd j hj).1) hA
  obtain ⟨te, ee, Te⟩ := va_Tof (A := fun q => s.heap.size ≤ q) (f := fun _ => .null) (N := 0) (by decide) (wi w21) (va_eqt (wi w22)) (fun j hj => absurd hj (Nat.not_lt_zero _)) hA
  obtain ⟨si, e15⟩ : ∃ si : Option Nat, (Term.static "jdk/internal/util/Preconditions" "SIOOBE_FORMATTER" "Ljava/util/function/BiFunction;").eval #[Value.ref b] s none [] s = some (va_rf si) := by
    have h := wi w24
    cases hv : (Term.static "jdk/internal/util/Preconditions" "SIOOBE_FORMATTER" "Ljava/util/function/BiFunction;").eval #[Value.ref b] s none [] s with
    | none => simp [Cond.before, Cond.holds, Cond.value, hv] at h
    | some w =>
      simp only [Cond.before, Cond.holds, Cond.value, hv] at h
      cases w with
      | null => exact ⟨none, rfl⟩
      | ref t => exact ⟨some t, rfl⟩
      | _ => simp at h
  obtain ⟨mi, hmi⟩ := va_Mi.of (wi w27)
  have T17 : va_T .int b L (fun i => .int (xs i)) (fun q => s.heap.size ≤ q) s s.heap := by
    obtain ⟨scr, x1, x2, x3, x4, x5⟩ := hX
    exact ⟨scr, x1, x2, x3, (by omega), (by rw [x4]), x5, hA b hbl⟩
  have hg0 : ∀ t : Nat, ∃ q : ClassId × (Nat → Nat), t < 11 → u_Kn s (mj_CN t) (mj_F t) (mj_nf t) q.1 q.2 := by
    intro t
    by_cases ht : t < 11
    · obtain ⟨cC, iS, hK⟩ := u_known (ws := lw_tbl) (T := mj_F t) (N := mj_nf t) hts (fun w hw => by
        have := List.all_eq_true.mp (mj_wsok t ht) w hw
        simp only [mj_has, Bool.and_eq_true, decide_eq_true_eq] at this
        exact this.1) (wt (List.all_eq_true.mp me_ins t (List.mem_range.mpr ht)))
      exact ⟨(cC, iS), fun _ => hK⟩
    · exact ⟨(0, fun _ => 0), fun q => absurd q ht⟩
  obtain ⟨g, hg⟩ := Classical.axiomOfChoice hg0
  have arrP : ∀ (ty : FieldType), (Cond.arrayClass ty).before #[Value.ref b] s = true → ∃ cA : ClassId, ArrOfT s cA ty ∧ s.vm.findClass ("[" ++ ty.toString) = some cA := by
    intro ty hw
    obtain ⟨cA, k, comp, h1, h2, h3⟩ := Cond.arrayClass_spec hw
    exact ⟨cA, fun n z => ⟨fun _ q => (by cases q), k, h2, comp, h3⟩, h1⟩
  have arrO : ∀ (C : String), (Cond.arrayOver (.object C)).before #[Value.ref b] s = true → ∃ cA : ClassId, ArrOfT s cA (.object C) ∧ va_RA s cA (.object C) := by
    intro C hw
    obtain ⟨comp, cA, k, h1, h2, h3, h4, h5⟩ := Cond.arrayOver_spec hw
    exact ⟨cA, fun n z => ⟨fun _ q => (by cases q), k, h3, comp, h4⟩, k, comp, h3, h4, h1, h5⟩
  have hmvt : ∀ {w : Cond}, mj_has w = true → w.before #[Value.ref b] s = true := fun {w} q => by
    simp only [mj_has, Bool.and_eq_true, decide_eq_true_eq] at q
    exact hts w q.1
  obtain ⟨d16, p16, q16⟩ := arrP .int (hmvt mj_acI)
  obtain ⟨d17, p17, q17⟩ := arrP .byte (hmvt mj_acB)
  obtain ⟨d18, p18, q18⟩ := arrP .char (hmvt mj_acC)
  obtain ⟨d19, p19, q19⟩ := arrP .long (hmvt mj_acL)
  obtain ⟨d20, p20, q20⟩ := arrO "DotBook$Kind" (wt v6)
  obtain ⟨d21, p21, q21⟩ := arrO "DotBook$Rule" (wt v7)
  obtain ⟨d22, p22, q22⟩ := arrO "DotBook$Block" (wt v8)
  obtain ⟨d23, p23, q23⟩ := arrO "java/lang/Object" (wt v9)
  let X : mr_X := (s.heap.size, me_ad [0, t1, t2, a3, t4, a5, t6, tv, kd 0, kd 1, kd 2, kd 3, te, t13, t14, 0, mi, b], si, (fun t => (g t).1, fun t => (g t).2), fun t => [d16, d17, d18, d19, d20, d21, d22, d23].getD (t - 16) 0)
  have had : ∀ i, i < 4 → mr_ad X (8 + i) = kd i := by
    intro i hi
    rcases (show i = 0 ∨ i = 1 ∨ i = 2 ∨ i = 3 by omega) with rfl | rfl | rfl | rfl <;> rfl
  refine ⟨X, rfl, rfl, fun w h1 h2 => mj_mv_of h2 (hts w h1), ⟨fun t q hq => ?_, fun k q hq => ?_⟩, ?_, Nat.le_refl _⟩
  · have ht : t < 11 := (List.getElem?_eq_some_iff.mp hq).1
    cases (mj_cls_at t ht).symm.trans hq
    exact hg t ht
  · have hk : k < 8 := (List.getElem?_eq_some_iff.mp hq).1
    rcases (show k = 0 ∨ k = 1 ∨ k = 2 ∨ k = 3 ∨ k = 4 ∨ k = 5 ∨ k = 6 ∨ k = 7 by omega) with rfl | rfl | rfl | rfl | rfl | rfl | rfl | rfl
    · cases hq; exact ⟨p16, q16⟩
    · cases hq; exact ⟨p17, q17⟩
    · cases hq; exact ⟨p18, q18⟩
    · cases hq; exact ⟨p19, q19⟩
    · cases hq; exact ⟨p20, q20⟩
    · cases hq; exact ⟨p21, q21⟩
    · cases hq; exact ⟨p22, q22⟩
    · cases hq; exact ⟨p23, q23⟩
  · refine ⟨fun a ha hc => ?_, fun a ha hc => ?_, fun a ha hc => ?_, fun a ha hc => ?_, ?_, ?_, Te, fun q hq => lz q hq _ ?_, vk_R.of (wt v4) e5, vk_R.of (wt v5) e3, hmi, fun t h1 h2 => ?_, ⟨va_Zqof (wt v1) (wt v3) (wi w25) hA, mt_LS.of (wt v1) hA⟩, ⟨va_Zqof (wt v2) (wt v3) (wi w26) hA, mt_LS.of (wt v2) hA⟩, va_Nc.of (wi w28), fun x z h1 h2 h3 h4 e => ?_, fun a ha h16 => ?_⟩
    · rcases me_16 a ha hc with rfl | rfl | rfl
      · exact T1
      · exact T2
      · exact T17
    · rcases me_17 a ha hc with rfl | rfl | rfl | rfl
      · exact T4
      · exact T6
      · exact T13
      · exact T14
    · rcases me_2 a ha hc with rfl | rfl
      · exact ⟨F3, C3, O3⟩
      · exact ⟨F5, C5, O5⟩
    · rcases me_11 a ha hc with rfl | rfl | rfl | rfl
      · exact (hkd 0 (by omega)).2
      · exact (hkd 1 (by omega)).2
      · exact (hkd 2 (by omega)).2
      · exact (hkd 3 (by omega)).2
    · obtain ⟨cell, x1, x2, x3, x4, x5, x6, x7⟩ := Tv
      exact ⟨cell, x1, x2, x3, x4, x5, fun j hj => (by show cell.slots[j]? = some (.ref (mr_ad X (8 + j))); rw [had j hj]; exact x6 j hj), x7⟩
    · obtain ⟨a9, c9, cell9, k9, y1, y2, y3, y4, y5, y6, -⟩ := Cond.exactly_spec (wi w19)
      cases ev.symm.trans y1
      obtain ⟨a8, cell8, z1, z2, z3⟩ := Term.length_spec (va_eqt (wi w18))
      cases ev.symm.trans z1
      obtain ⟨hc8, -, -, -⟩ := State.arrayAt?_spec z2
      cases y3.symm.trans hc8
      have hall := Cond.all_elim ev z2 (by simpa [Cond.before, Cond.holds] using wi w20)
      obtain ⟨cell, x1, x2, x3, x4, x5, x6, x7⟩ := Tv
      cases y3.symm.trans x1
      have hs4 : ¬ 4 < cell9.slots.size := by
        intro q
        have := hall 4 q
        simp [Cond.value, Term.eval] at this
        exact absurd this (by decide)
      have hcl : cell9.cls = d20 := by
        rw [y6]
        have := va_nmO (nm := "[LDotBook$Kind;") q20 rfl
        exact Option.some.inj (y2.symm.trans this)
      exact ⟨cell9, x1, hcl, (by omega), (Array.getElem?_eq_some_iff.mp x1).1⟩
    · rcases (show q = 0 ∨ q = 1 ∨ q = 2 ∨ q = 3 ∨ q = 4 ∨ q = 5 ∨ q = 6 ∨ q = 7 ∨ q = 8 ∨ q = 9 ∨ q = 10 ∨ q = 11 by omega) with rfl | rfl | rfl | rfl | rfl | rfl | rfl | rfl | rfl | rfl | rfl | rfl
      · exact va_eqt (wi w23)
      · exact e1
      · exact e2
      · exact ev
      · exact (hkd 0 (by omega)).1
      · exact (hkd 1 (by omega)).1
      · exact (hkd 2 (by omega)).1
      · exact (hkd 3 (by omega)).1
      · exact ee
      · exact e13
      · exact e14
      · exact e15
    · rcases (show t = 20 ∨ t = 21 ∨ t = 22 ∨ t = 23 by omega) with rfl | rfl | rfl | rfl
      · exact va_AO.of (wt v6)
      · exact va_AO.of (wt v7)
      · exact va_AO.of (wt v8)
      · exact va_AO.of (wt v9)
    · obtain ⟨i, rfl⟩ : ∃ i, x = 8 + i := ⟨x - 8, by omega⟩
      obtain ⟨j, rfl⟩ : ∃ j, z = 8 + j := ⟨z - 8, by omega⟩
      rw [had i (by omega), had j (by omega)] at e
      by_cases q : i = j
      · rw [q]
      · exact absurd e (hne i j (by omega) (by omega) q)
    · have olt : ∀ {E : String} {a : Nat}, va_O E a (fun q => s.heap.size ≤ q) s s.heap → a < s.heap.size := fun {E a} q => (Array.getElem?_eq_some_iff.mp q.choose_spec.1).1
      show me_ad [0, t1, t2, a3, t4, a5, t6, tv, kd 0, kd 1, kd 2, kd 3, te, t13, t14, 0, mi, b] a < s.heap.size
      have h0 : 0 < s.heap.size := Nat.lt_of_le_of_lt (Nat.zero_le _) hbl
      rcases (show a = 0 ∨ a = 1 ∨ a = 2 ∨ a = 3 ∨ a = 4 ∨ a = 5 ∨ a = 6 ∨ a = 7 ∨ a = 8 ∨ a = 9 ∨ a = 10 ∨ a = 11 ∨ a = 12 ∨ a = 13 ∨ a = 14 ∨ a = 15 ∨ a = 17 ∨ a = 18 ∨ a = 19 by omega) with rfl | rfl | rfl | rfl | rfl | rfl | rfl | rfl | rfl | rfl | rfl | rfl | rfl | rfl | rfl | rfl | rfl | rfl | rfl
      · exact h0
      · exact me_Tlt T1
      · exact me_Tlt T2
      · exact olt O3
      · exact me_Tlt T4
      · exact olt O5
      · exact me_Tlt T6
      · exact me_Tlt Tv
      · exact olt (hkd 0 (by omega)).2
      · exact olt (hkd 1 (by omega)).2
      · exact olt (hkd 2 (by omega)).2
      · exact olt (hkd 3 (by omega)).2
      · exact me_Tlt Te
      · exact me_Tlt T13
      · exact me_Tlt T14
      · exact h0
      · exact hbl
      · exact h0
      · exact h0
/-- the small machine's heap at the start -/
def me_h (xs : Nat → Int32) (L : Nat) : mj_H := (mc_I xs, mc_R, fun _ _ => 0, mc_T, mc_N L, 20, 0)
theorem me_63 (a : Nat) (h : 20 ≤ a) : mc_T a = 63 := by
  unfold mc_T
  split <;> first | omega | rfl
theorem me_H {X : mr_X} {xs : Nat → Int32} {L : Nat} {H : Heap} : mr_H X xs L (me_h xs L) H := by
  refine ⟨Nat.le_refl _, fun a ha => me_63 a ha, fun a h1 h2 => absurd h2 (Nat.not_lt.mpr h1), fun a ha => ⟨rfl, rfl, fun _ => rfl, fun _ => rfl⟩, fun a i h1 h2 => ?_, fun k q hq => ?_⟩
  · have h2 : mc_T a = 17 := h2
    rw [me_63 a h1] at h2
    cases h2
  · have : mr_ws X (me_h xs L) = [] := rfl
    rw [this] at hq
    cases hq
/-- the law's walk out of the small machine's -/
theorem me_whole {p : Program} (l : Launch) {e : Env} {s : State} {m : MethodId} {below : List Frame} {meth : Method} {c : Code} {b L : Nat} {xs : Nat → Int32} (htr : l.admits e → e.platform.stackTraces = false) (h : lw_At p s m meth c b L xs) (hnm : meth.name = "law") (hex : c.exceptionTable.toList = [])
    (k : Ends 100 168 0 (mj_ent 168 [.ref 17]) [] (me_h xs L) (fun o _ => o = .inl (some (.int 1)))) : W p l e room_1 s m #[Value.ref b] below meth c s.heap [] 0 0 (lw_Z below #[Value.ref b] s) (entryFrame m ([Value.ref b] : List Value).toArray 7) := by
  obtain ⟨X, hB, h17, G⟩ := me_start h
  obtain ⟨hx, hb, hr, hml, hown, hts, hX, hbl, hlk, hgv⟩ := h
  intro T hT X0
  have Z := mr_sound (X := X) (xs := xs) (L := L) (p := p) (l := l) (e := e) (htr X0.admits) k room_1 s m #[Value.ref b] below meth c s.heap [] 0 0 _
    ⟨⟨hx, hb, hml, hown, hr, hlk, hnm, by rw [hex]; rfl⟩, G, by decide, by decide⟩ ⟨Nat.zero_le _, (by show 0 + (600000 - 0) ≤ 600288; omega), (by show 0 + (600000 - 0) ≤ 7295648; omega), me_H, va_S.rf, by rw [hB]; rfl, mr_ent (by decide) rfl⟩
  have hz := W.monoQ (Q' := lw_Z below #[Value.ref b] s) (fun t q => ?_) Z
  · rw [lg_entry_eq]
    have e17 : mr_v X (.ref 17) = .ref b := by rw [mr_v_con (by omega) (by omega) (by omega), h17]
    have := hz T hT X0
    simp only [List.map_cons, List.map_nil, e17] at this
    exact this
  · obtain ⟨o, h', Lc, kc, nc, q1, q2, q3, q4, q5, q6, q7, q8, q9, q10, q11, q12, q13, q14, q15⟩ := q
    subst q15
    refine ⟨_, q1, q2, rfl, ⟨_, rfl⟩, q3, q4.weaken (fun x hx hl => ?_) ?_ ?_⟩
    · have := q5 x hx
      rw [hB] at this
      exact absurd hl (Nat.not_lt.mpr this)
    · have : kc + (mj_M - mj_U h') ≤ 600288 := q7
      omega
    · have : nc + (mj_M - mj_U h') ≤ 7295648 := q8
      omega
