/-! natives -/
theorem mr_cats {X : mr_X} : ∀ (r : List Value), ((r.map (mr_v X)).map (fun v => v.category)).sum ≤ 2 * r.length
  | [] => Nat.le_refl _
  | v :: r => by
    have ih := mr_cats (X := X) r
    simp only [List.map_cons, List.sum_cons, List.length_cons]
    have : (mr_v X v).category ≤ 2 := by
      cases hv : mr_v X v <;> simp [Value.category]
    omega
theorem mr_sum8 {X : mr_X} {r : List Value} (h : Nat.ble r.length 8 = true) : ((r.map (mr_v X)).map (fun v => v.category)).sum ≤ 16 := by
  have := mr_cats (X := X) r
  have := Nat.le_of_ble_eq_true h
  omega
theorem mr_ml {X : mr_X} {xs : Nat → Int32} {L : Nat} {p : Program} {R : Room} {s : State} {m : MethodId} {meth : Method} {c : Code} {d y : Nat} {lc : List Value} {h : mj_H} {H : Heap} {locs : List Loc} {cells slots : Nat} {ls : Array Slot} (C : mr_C X xs L p R s m meth c d y) (hS : mr_S X xs L R s y lc h H locs cells slots ls) : c.maxLocals = ls.size := by rw [C.1.2.2.1]; exact hS.2.2.2.2.2.2.1.symm
theorem mr_fitsb {x : Int32} (h : mj_b x = x) : fits .byte (.int x) = true := by rw [← h]; exact pk_fb x
theorem mr_en_cp {X : mr_X} {h : mj_H} {s sp d dp n b : Nat} (hb : b ≠ d) : mr_en X (mj_cp h s sp d dp n) b = mr_en X h b := by
  have e1 : mj_I (mj_cp h s sp d dp n) b = mj_I h b := by funext i; simp [mj_I, mj_cp, hb]
  have e2 : mj_R (mj_cp h s sp d dp n) b = mj_R h b := by funext i; simp [mj_R, mj_cp, hb]
  unfold mr_en
  rw [e1, e2]; rfl
theorem mr_H_cp {X : mr_X} {xs : Nat → Int32} {L : Nat} {h : mj_H} {H H1 : Heap} {s sp d dp n : Nat} (q : mr_H X xs L h H) (hd : 20 ≤ d) (hs : 20 ≤ s) (hT : mj_T h s = mj_T h d) (hP : va_P (mr_D X) mj_cls (mr_ws X (mj_cp h s sp d dp n)) H1) : mr_H X xs L (mj_cp h s sp d dp n) H1 := by
  obtain ⟨q1, q2, q3, q4, q5, -⟩ := q
  refine ⟨q1, q2, q3, fun b hb' => ?_, fun b i hb1 hb2 => ?_, hP⟩
  · obtain ⟨r1, r2, r3, r4⟩ := q4 b hb'
    have : b ≠ d := by omega
    refine ⟨r1, r2, fun i => ?_, fun i => ?_⟩
    · rw [← r3 i]; simp [mj_I, mj_cp, this]
    · rw [← r4 i]; simp [mj_R, mj_cp, this]
  · have hb2 : mj_T h b = 17 := hb2
    by_cases e : b = d
    · subst e
      by_cases e2 : dp ≤ i ∧ i < dp + n
      · have := q5 s (sp + (i - dp)) hs (by rw [hT]; exact hb2)
        simpa [mj_I, mj_cp, e2] using this
      · have := q5 b i hb1 hb2
        simpa [mj_I, mj_cp, e2] using this
    · simpa [mj_I, mj_cp, e] using q5 b i hb1 hb2
theorem mr_cpname : mj_nCP = arraycopyName := rfl
theorem mr_invokestatic (z : Nat) : mr_T (.invokestatic z) := by
  intro X xs L p l e R s m args below meth c d y Q pc H locs cells slots ls lc st h n j k S pc' lc' st' h' C hi hS hv hA kk
  obtain ⟨hn, hd⟩ := mj_dd hi rfl
  subst hn
  have hl := mj_lok_ok hi
  by_cases hz : z = 900
  · subst hz
    simp only [mj_lok, if_pos, Bool.and_eq_true] at hl
    obtain ⟨l1, l2, l3, l4⟩ := hl
    simp only [mj_do, mj_n0, if_pos] at hv
    split at hv
    · next kx dp dd sp ss r =>
      cases hb : Nat.ble r.length 8 with
      | false => rw [hb] at hv; cases hv
      | true =>
        rw [hb] at hv
        cases hv
        obtain ⟨hs, hdd, hTT, hTd, h1, h2, h3, h4, h5, h6⟩ := hA
        have qH := hS.2.2.2.1
        have hK := C.2.1.2.1
        have hsum := mr_sum8 (X := X) hb
        have hloc : ((st'.map (mr_v X)).map (fun v => v.category)).sum + (nativeFrameWords "java/lang/System" "arraycopy" 5 + 11) ≤ R.locals := by
          have : nativeFrameWords "java/lang/System" "arraycopy" 5 = 7 := by decide +kernel
          have := C.2.2.2
          omega
        show W p l e R s m args below meth c H locs cells slots Q (F0 m pc ls (.int kx :: .int dp :: mr_v X (.ref dd) :: .int sp :: mr_v X (.ref ss) :: st'.map (mr_v X)))
        rw [mr_v_new hs, mr_v_new hdd]
        have hes := qH.at hs (by omega)
        have hed := qH.at hdd (by omega)
        rcases hTd with hTd | hTd
        · rw [mr_en_int (hTT.trans hTd) (Or.inr (Or.inl rfl))] at hes
          rw [mr_en_int hTd (Or.inr (Or.inl rfl))] at hed
          refine va_copyi C.1.1 C.1.2.1 (mr_ml C hS) C.1.2.2.2.1 (mr_w C l1) (mr_w C l2) (mr_w C l3) (mr_w C l4) hK qH.2.2.2.2.2 mr_ws_D hS.2.2.2.2.1 (ss - 20) (dd - 20) 1 1 hes hed rfl rfl rfl h1 h2 h3 h4 h5 (fun i _ => mr_fitsb (qH.2.2.2.2.1 ss _ hs (hTT.trans hTd))) (by have := C.2.2.1; omega) hloc hd (fun H1 locs1 w1 _ w3 => kk _ _ _ _ _ (mr_S_h hS rfl rfl (mr_H_cp qH hdd hs hTT ?_) w3))
          rw [← mr_ws_set (X := X) (h := h) (h' := mj_cp h ss sp.toNatClampNeg dd dp.toNatClampNeg kx.toNatClampNeg) rfl hdd (fun b hb => mr_en_cp hb), mr_en_int (show mj_T (mj_cp h ss sp.toNatClampNeg dd dp.toNatClampNeg kx.toNatClampNeg) dd = 17 from hTd) (Or.inr (Or.inl rfl))]
          have e1 : mj_I (mj_cp h ss sp.toNatClampNeg dd dp.toNatClampNeg kx.toNatClampNeg) dd = va_cpy (mj_I h ss) (mj_I h dd) sp.toNatClampNeg dp.toNatClampNeg kx.toNatClampNeg := by funext i; simp [mj_I, mj_cp, va_cpy]
          rw [e1]
          exact w1
        · rw [mr_en_ref (hTT.trans hTd) (by omega)] at hes
          rw [mr_en_ref hTd (by omega)] at hed
          have h6 := h6 hTd
          refine va_copyq C.1.1 C.1.2.1 (mr_ml C hS) C.1.2.2.2.1 (mr_w C l1) (mr_w C l2) (mr_w C l3) (mr_w C l4) hK qH.2.2.2.2.2 mr_ws_D hS.2.2.2.2.1 (ss - 20) (dd - 20) 7 7 (C := "DotBook$Line") hes hed rfl rfl h1 h2 h3 h4 h5 (fun i hi2 yy hy => ?_) (fun comp c0 e1 e2 => ?_) (by have := C.2.2.1; omega) hloc hd (fun H1 locs1 w1 _ w3 => kk _ _ _ _ _ (mr_S_h hS rfl rfl (mr_H_cp qH hdd hs hTT ?_) w3))
          · obtain ⟨g1, g2⟩ := h6 i hi2
            rw [mr_o_new g2] at hy
            cases hy
            exact va_recv hK qH.2.2.2.2.2 (mj_cls_at 4 (by omega)) (mr_at_obj qH g2 g1 (by omega))
          · obtain ⟨c3, c4, g1, g2, g3⟩ := Cond.castable_spec (mr_has C mj_castLO)
            cases g1.symm.trans e2
            cases g2.symm.trans e1
            exact g3
          · rw [← mr_ws_set (X := X) (h := h) (h' := mj_cp h ss sp.toNatClampNeg dd dp.toNatClampNeg kx.toNatClampNeg) rfl hdd (fun b hb => mr_en_cp hb), mr_en_ref (show mj_T (mj_cp h ss sp.toNatClampNeg dd dp.toNatClampNeg kx.toNatClampNeg) dd = 23 from hTd) (by omega)]
            have e1 : (fun i => mr_o X (mj_R (mj_cp h ss sp.toNatClampNeg dd dp.toNatClampNeg kx.toNatClampNeg) dd i)) = va_cpy (fun i => mr_o X (mj_R h ss i)) (fun i => mr_o X (mj_R h dd i)) sp.toNatClampNeg dp.toNatClampNeg kx.toNatClampNeg := by
              funext i
              by_cases q : dp.toNatClampNeg ≤ i ∧ i < dp.toNatClampNeg + kx.toNatClampNeg
              · simp [mj_R, mj_cp, va_cpy, q]
              · simp [mj_R, mj_cp, va_cpy, q]
            rw [e1]
            exact w1
    · cases hv
  · simp only [mj_do, mj_n0, if_neg hz] at hv
    cases hv
theorem mr_invokespecial (z : Nat) : mr_T (.invokespecial z) := by
  intro X xs L p l e R s m args below meth c d y Q pc H locs cells slots ls lc st h n j k S pc' lc' st' h' C hi hS hv hA kk
  obtain ⟨hn, hd⟩ := mj_dd hi rfl
  subst hn
  have hl := mj_lok_ok hi
  by_cases hz : z = 903
  · subst hz
    simp only [mj_lok, if_pos, Bool.and_eq_true] at hl
    obtain ⟨l1, l2⟩ := hl
    simp only [mj_do, mj_n2, if_pos] at hv
    split at hv
    · next a r =>
      cases hb : Nat.ble r.length 8 with
      | false => rw [hb] at hv; cases hv
      | true =>
        rw [hb] at hv
        cases hv
        have ha : 20 ≤ a := hA
        have hsum := mr_sum8 (X := X) hb
        show W p l e R s m args below meth c H locs cells slots Q (F0 m pc ls (mr_v X (.ref a) :: st'.map (mr_v X)))
        rw [mr_v_new ha]
        exact W.objInit C.1.1 C.1.2.1 C.1.2.2.2.1 (mr_w C l1) (mr_w C l2) (mj_mv_use rfl (C.2.1.1 _ (mj_in_1 (List.mem_of_getElem? (i := 39) rfl)) rfl)) rfl (mr_ml C hS).symm rfl hd (by have := C.2.2.1; omega) (by show 2 * 0 + _ + 12 ≤ _; have := C.2.2.2; omega) (kk _ _ _ _ _ hS)
    · cases hv
  · simp only [mj_do, mj_n2, if_neg hz] at hv
    cases hv
theorem mr_en_cl {X : mr_X} {h : mj_H} {a b : Nat} (hb : b ≠ mj_Z h) : mr_en X (mj_cl h a) b = mr_en X h b := by
  have e1 : mj_I (mj_cl h a) b = mj_I h b := by funext i; simp [mj_I, mj_cl, hb]
  have e2 : mj_R (mj_cl h a) b = mj_R h b := by funext i; simp [mj_R, mj_cl, hb]
  have e3 : mj_L (mj_cl h a) b = mj_L h b := by funext i; simp [mj_L, mj_cl, hb]
  have e4 : mj_T (mj_cl h a) b = mj_T h b := by show (if b = mj_Z h then mj_T h a else mj_T h b) = _; rw [if_neg hb]
  have e5 : mj_N (mj_cl h a) b = mj_N h b := by show (if b = mj_Z h then mj_N h a else mj_N h b) = _; rw [if_neg hb]
  unfold mr_en
  rw [e1, e2, e3, e4, e5]
theorem mj_cl_T {h : mj_H} {a : Nat} : mj_T (mj_cl h a) (mj_Z h) = mj_T h a := by show (if mj_Z h = mj_Z h then mj_T h a else _) = _; rw [if_pos rfl]
theorem mj_cl_N {h : mj_H} {a : Nat} : mj_N (mj_cl h a) (mj_Z h) = mj_N h a := by show (if mj_Z h = mj_Z h then mj_N h a else _) = _; rw [if_pos rfl]
theorem mj_cl_I {h : mj_H} {a : Nat} : mj_I (mj_cl h a) (mj_Z h) = mj_I h a := by funext i; simp [mj_I, mj_cl]
theorem mj_cl_R {h : mj_H} {a : Nat} : mj_R (mj_cl h a) (mj_Z h) = mj_R h a := by funext i; simp [mj_R, mj_cl]
theorem mr_H_cl {X : mr_X} {xs : Nat → Int32} {L : Nat} {h : mj_H} {H H1 : Heap} {a : Nat} (q : mr_H X xs L h H) (ht : 16 ≤ mj_T h a ∧ mj_T h a ≤ 23) (h17 : mj_T h a = 17 → 20 ≤ a) (hP : va_P (mr_D X) mj_cls (mr_ws X (mj_cl h a)) H1) : mr_H X xs L (mj_cl h a) H1 := by
  obtain ⟨q1, q2, q3, q4, q5, -⟩ := q
  have eT : ∀ b, b ≠ mj_Z h → mj_T (mj_cl h a) b = mj_T h b := fun b hb => by show (if b = mj_Z h then mj_T h a else mj_T h b) = _; rw [if_neg hb]
  refine ⟨Nat.le_succ_of_le q1, fun b hb => ?_, fun b h1 h2 => ?_, fun b hb' => ?_, fun b i h1 h2 => ?_, hP⟩
  · have hb : mj_Z h + 1 ≤ b := hb
    rw [eT b (by omega)]; exact q2 b (by omega)
  · have h2 : b < mj_Z h + 1 := h2
    by_cases e : b = mj_Z h
    · subst e; rw [mj_cl_T]; exact Or.inr ht
    · rw [eT b e]; exact q3 b h1 (by omega)
  · have hb : b ≠ mj_Z h := by omega
    obtain ⟨r1, r2, r3, r4⟩ := q4 b hb'
    refine ⟨by rw [eT b hb]; exact r1, ?_, fun i => ?_, fun i => ?_⟩
    · show (if b = mj_Z h then mj_N h a else mj_N h b) = _; rw [if_neg hb]; exact r2
    · rw [← r3 i]; simp [mj_I, mj_cl, hb]
    · rw [← r4 i]; simp [mj_R, mj_cl, hb]
  · by_cases e : b = mj_Z h
    · subst e
      rw [mj_cl_T] at h2
      rw [mj_cl_I]
      exact q5 a i (h17 h2) h2
    · rw [eT b e] at h2
      have := q5 b i h1 h2
      simpa [mj_I, mj_cl, e] using this
theorem mr_S_cl {X : mr_X} {xs : Nat → Int32} {L : Nat} {R : Room} {s : State} {y : Nat} {lc : List Value} {h : mj_H} {H H1 : Heap} {locs locs1 : List Loc} {cells slots : Nat} {ls : Array Slot} {a : Nat} (hS : mr_S X xs L R s y lc h H locs cells slots ls) (hu : mj_U h + (1 + mj_N h a) ≤ mj_M) (h1 : mr_H X xs L (mj_cl h a) H1) (h2 : va_S (fun q => mr_B X ≤ q) s.heap H1 locs1) : mr_S X xs L R s y lc (mj_cl h a) H1 locs1 (cells + 1) (slots + mj_N h a) ls := by
  obtain ⟨a1, a2, a3, -, -, a6, a7⟩ := hS
  have eU : mj_U (mj_cl h a) = mj_U h + (1 + mj_N h a) := rfl
  refine ⟨by rw [eU]; exact hu, by rw [eU]; omega, by rw [eU]; omega, h1, h2, ?_, a7⟩
  show s.heap.size + (cells + 1) + 20 = mr_B X + (mj_Z h + 1)
  omega
