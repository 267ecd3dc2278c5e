/-! arrays -/
theorem mr_en_int {X : mr_X} {h : mj_H} {a t : Nat} (hT : mj_T h a = t) (h1 : t = 16 ∨ t = 17 ∨ t = 18) : mr_en X h a = .inl (mr_dA X t, (mj_N h a, .inl (mj_I h a))) := by
  subst hT
  unfold mr_en
  rw [if_neg (by omega), if_neg (by omega), if_pos (by omega)]
theorem mr_en_lng {X : mr_X} {h : mj_H} {a : Nat} (hT : mj_T h a = 19) : mr_en X h a = .inl (mr_dA X 19, (mj_N h a, .inr (.inl (mj_L h a)))) := by
  unfold mr_en
  rw [if_neg (by omega), if_pos hT]
theorem mr_en_ref {X : mr_X} {h : mj_H} {a t : Nat} (hT : mj_T h a = t) (h1 : 20 ≤ t) : mr_en X h a = .inl (mr_dA X t, (mj_N h a, .inr (.inr (.inr (.inr (fun i => mr_o X (mj_R h a i))))))) := by
  subst hT
  unfold mr_en
  rw [if_neg (by omega), if_neg (by omega), if_neg (by omega)]
theorem mc_T_16 : ∀ a, a < 20 → mc_T a = 16 → a ≠ 0 ∧ a ≠ 15 := by decide
theorem mc_T_17 : ∀ a, a < 20 → mc_T a = 17 → a ≠ 0 ∧ a ≠ 15 := by decide
theorem mc_T_18 : ∀ a, a < 20 → mc_T a ≠ 18 := by decide
theorem mc_T_19 : ∀ a, a < 20 → mc_T a ≠ 19 := by decide
theorem mc_T_20 : ∀ a, a < 20 → 20 ≤ mc_T a → mc_T a ≤ 23 → a = 7 ∨ a = 12 := by decide
theorem mr_iaload : mr_T .iaload := by
  intro X xs L p l e R s m args below meth c d y Q pc H locs cells slots ls lc st h n j k S pc' lc' st' h' C hi hS hv hA kk
  obtain ⟨hn, hd⟩ := mj_dd hi rfl
  subst hn
  simp only [mj_do, mj_ld1] at hv
  split at hv
  · next i a r =>
    cases hv
    obtain ⟨hT, hin⟩ : mj_T h a = 16 ∧ vp_in i (mj_N h a) := hA
    have k2 := kk _ _ _ _ _ hS
    have qH := hS.2.2.2.1
    show W p l e R s m args below meth c H locs cells slots Q (F0 m pc ls (.int i :: mr_v X (.ref a) :: r.map (mr_v X)))
    rcases Nat.lt_or_ge a 20 with ha | ha
    · obtain ⟨r1, r2, r3, -⟩ := qH.2.2.2.1 a ha
      have hc : mc_T a = 16 := by rw [← r1, hT]
      rw [mr_v_con (mc_T_16 a ha hc).1 (mc_T_16 a ha hc).2 ha]
      exact va_ti C.1.1 C.1.2.1 (C.2.1.2.2.1.1 a ha hc) hS.2.2.2.2.1 (by rw [← r2]; exact hin) (by rw [← r3]; rfl) hd k2
    · rw [mr_v_new ha]
      have he := qH.at ha (by rw [hT]; omega)
      rw [mr_en_int hT (Or.inl rfl)] at he
      exact va_iald C.1.1 C.1.2.1 C.2.1.2.1 qH.2.2.2.2.2 (a - 20) 0 he rfl hin hd k2
  · cases hv
theorem mr_baload : mr_T .baload := by
  intro X xs L p l e R s m args below meth c d y Q pc H locs cells slots ls lc st h n j k S pc' lc' st' h' C hi hS hv hA kk
  obtain ⟨hn, hd⟩ := mj_dd hi rfl
  subst hn
  simp only [mj_do, mj_ld1] at hv
  split at hv
  · next i a r =>
    cases hv
    obtain ⟨hT, hin⟩ : mj_T h a = 17 ∧ vp_in i (mj_N h a) := hA
    have k2 := kk _ _ _ _ _ hS
    have qH := hS.2.2.2.1
    show W p l e R s m args below meth c H locs cells slots Q (F0 m pc ls (.int i :: mr_v X (.ref a) :: r.map (mr_v X)))
    rcases Nat.lt_or_ge a 20 with ha | ha
    · obtain ⟨r1, r2, r3, -⟩ := qH.2.2.2.1 a ha
      have hc : mc_T a = 17 := by rw [← r1, hT]
      rw [mr_v_con (mc_T_17 a ha hc).1 (mc_T_17 a ha hc).2 ha]
      exact va_tb C.1.1 C.1.2.1 (C.2.1.2.2.1.2.1 a ha hc) hS.2.2.2.2.1 (by rw [← r2]; exact hin) (by rw [← r3]; rfl) hd k2
    · rw [mr_v_new ha]
      have he := qH.at ha (by rw [hT]; omega)
      rw [mr_en_int hT (Or.inr (Or.inl rfl))] at he
      exact va_bald C.1.1 C.1.2.1 C.2.1.2.1 qH.2.2.2.2.2 (a - 20) 1 he rfl hin hd k2
  · cases hv
theorem mr_caload : mr_T .caload := by
  intro X xs L p l e R s m args below meth c d y Q pc H locs cells slots ls lc st h n j k S pc' lc' st' h' C hi hS hv hA kk
  obtain ⟨hn, hd⟩ := mj_dd hi rfl
  subst hn
  simp only [mj_do, mj_ld1] at hv
  split at hv
  · next i a r =>
    cases hv
    obtain ⟨hT, hin⟩ : mj_T h a = 18 ∧ vp_in i (mj_N h a) := hA
    have k2 := kk _ _ _ _ _ hS
    have qH := hS.2.2.2.1
    show W p l e R s m args below meth c H locs cells slots Q (F0 m pc ls (.int i :: mr_v X (.ref a) :: r.map (mr_v X)))
    rcases Nat.lt_or_ge a 20 with ha | ha
    · obtain ⟨r1, r2, r3, -⟩ := qH.2.2.2.1 a ha
      exact absurd (show mc_T a = 18 by rw [← r1, hT]) (mc_T_18 a ha)
    · rw [mr_v_new ha]
      have he := qH.at ha (by rw [hT]; omega)
      rw [mr_en_int hT (Or.inr (Or.inr rfl))] at he
      exact va_cald C.1.1 C.1.2.1 C.2.1.2.1 qH.2.2.2.2.2 (a - 20) 2 he rfl hin hd k2
  · cases hv
theorem mr_laload : mr_T .laload := by
  intro X xs L p l e R s m args below meth c d y Q pc H locs cells slots ls lc st h n j k S pc' lc' st' h' C hi hS hv hA kk
  obtain ⟨hn, hd⟩ := mj_dd hi rfl
  subst hn
  simp only [mj_do] at hv
  split at hv
  · next i a r =>
    cases hv
    obtain ⟨hT, hin⟩ : mj_T h a = 19 ∧ vp_in i (mj_N h a) := hA
    have k2 := kk _ _ _ _ _ hS
    have qH := hS.2.2.2.1
    show W p l e R s m args below meth c H locs cells slots Q (F0 m pc ls (.int i :: mr_v X (.ref a) :: r.map (mr_v X)))
    rcases Nat.lt_or_ge a 20 with ha | ha
    · obtain ⟨r1, r2, r3, -⟩ := qH.2.2.2.1 a ha
      exact absurd (show mc_T a = 19 by rw [← r1, hT]) (mc_T_19 a ha)
    · rw [mr_v_new ha]
      have he := qH.at ha (by rw [hT]; omega)
      rw [mr_en_lng hT] at he
      exact va_lald C.1.1 C.1.2.1 C.2.1.2.1 qH.2.2.2.2.2 (a - 20) 3 he rfl hin hd k2
  · cases hv
theorem mr_tys_ref {X : mr_X} {t : Nat} (h : mj_ra t) : (mr_tys X)[t - 16]? = some (mr_dA X t, .object (mj_AN t)) := by
  rcases h with rfl | rfl | rfl | rfl <;> rfl
theorem mr_aaload : mr_T .aaload := by
  intro X xs L p l e R s m args below meth c d y Q pc H locs cells slots ls lc st h n j k S pc' lc' st' h' C hi hS hv hA kk
  obtain ⟨hn, hd⟩ := mj_dd hi rfl
  subst hn
  simp only [mj_do] at hv
  split at hv
  · next i a r =>
    cases hv
    obtain ⟨ha, hT, hin⟩ : 20 ≤ a ∧ mj_ra (mj_T h a) ∧ vp_in i (mj_N h a) := hA
    have k2 := kk _ _ _ _ _ hS
    have qH := hS.2.2.2.1
    show W p l e R s m args below meth c H locs cells slots Q (F0 m pc ls (.int i :: mr_v X (.ref a) :: r.map (mr_v X)))
    rw [mr_v_new ha]
    have h20 : 20 ≤ mj_T h a ∧ mj_T h a ≤ 23 := by unfold mj_ra at hT; omega
    have he := qH.at ha (by omega)
    rw [mr_en_ref rfl h20.1] at he
    exact va_aldq C.1.1 C.1.2.1 C.2.1.2.1 qH.2.2.2.2.2 (a - 20) (mj_T h a - 16) he (mr_tys_ref hT) hin hd k2
  · cases hv
theorem mr_stI {X : mr_X} {xs : Nat → Int32} {L : Nat} {R : Room} {s : State} {y : Nat} {lc : List Value} {h : mj_H} {H H1 : Heap} {locs locs1 : List Loc} {cells slots : Nat} {ls : Array Slot} {a t i : Nat} {v : Int32} (hS : mr_S X xs L R s y lc h H locs cells slots ls) (ha : 20 ≤ a) (hT : mj_T h a = t) (ht : t = 16 ∨ t = 17 ∨ t = 18) (hb : t = 17 → mj_b v = v)
    (w1 : va_P (mr_D X) mj_cls ((mr_ws X h).set (a - 20) (mr_B X + (a - 20), .inl (mr_dA X t, mj_N h a, .inl (upd (mj_I h a) i v)))) H1) (w2 : va_S (fun q => mr_B X ≤ q) s.heap H1 locs1) : mr_S X xs L R s y lc (mj_wI h a i v) H1 locs1 cells slots ls := by
  refine mr_S_h hS rfl rfl (mr_H_wI hS.2.2.2.1 ha (fun z => hb (by omega)) ?_) w2
  rw [← mr_ws_set (X := X) (h := h) (h' := mj_wI h a i v) rfl ha (fun b hb => mr_en_wI hb), mr_en_int (show mj_T (mj_wI h a i v) a = t from hT) ht]
  have e1 : mj_I (mj_wI h a i v) a = upd (mj_I h a) i v := by funext z; simp [mj_I, mj_wI, upd]
  rw [e1]
  exact w1
theorem mj_bb (x : Int32) : mj_b (mj_b x) = mj_b x := by unfold mj_b; simp
theorem mr_iastore : mr_T .iastore := by
  intro X xs L p l e R s m args below meth c d y Q pc H locs cells slots ls lc st h n j k S pc' lc' st' h' C hi hS hv hA kk
  obtain ⟨hn, hd⟩ := mj_dd hi rfl
  subst hn
  simp only [mj_do] at hv
  split at hv
  · next v i a r =>
    cases hv
    obtain ⟨ha, hT, hin⟩ : 20 ≤ a ∧ mj_T h a = 16 ∧ vp_in i (mj_N h a) := hA
    have qH := hS.2.2.2.1
    have he := qH.at ha (by rw [hT]; omega)
    rw [mr_en_int hT (Or.inl rfl)] at he
    show W p l e R s m args below meth c H locs cells slots Q (F0 m pc ls (.int v :: .int i :: mr_v X (.ref a) :: st'.map (mr_v X)))
    rw [mr_v_new ha]
    exact va_iast C.1.1 C.1.2.1 C.2.1.2.1 qH.2.2.2.2.2 mr_ws_D hS.2.2.2.2.1 (a - 20) 0 he rfl hin hd (fun H1 locs1 w1 _ w3 => kk _ _ _ _ _ (mr_stI hS ha hT (Or.inl rfl) (fun z => by omega) w1 w3))
  · cases hv
theorem mr_bastore : mr_T .bastore := by
  intro X xs L p l e R s m args below meth c d y Q pc H locs cells slots ls lc st h n j k S pc' lc' st' h' C hi hS hv hA kk
  obtain ⟨hn, hd⟩ := mj_dd hi rfl
  subst hn
  simp only [mj_do] at hv
  split at hv
  · next v i a r =>
    cases hv
    obtain ⟨ha, hT, hin⟩ : 20 ≤ a ∧ mj_T h a = 17 ∧ vp_in i (mj_N h a) := hA
    have qH := hS.2.2.2.1
    have he := qH.at ha (by rw [hT]; omega)
    rw [mr_en_int hT (Or.inr (Or.inl rfl))] at he
    show W p l e R s m args below meth c H locs cells slots Q (F0 m pc ls (.int v :: .int i :: mr_v X (.ref a) :: st'.map (mr_v X)))
    rw [mr_v_new ha]
    exact va_bast C.1.1 C.1.2.1 C.2.1.2.1 qH.2.2.2.2.2 mr_ws_D hS.2.2.2.2.1 (a - 20) 1 he rfl hin hd (fun H1 locs1 w1 _ w3 => kk _ _ _ _ _ (mr_stI hS ha hT (Or.inr (Or.inl rfl)) (fun z => mj_bb v) w1 w3))
  · cases hv
theorem mj_cc (x : Int32) : vp_nar .char x = mj_c x := by
  rw [vp_nar_char]
  unfold mj_c
  congr 1
theorem mr_castore : mr_T .castore := by
  intro X xs L p l e R s m args below meth c d y Q pc H locs cells slots ls lc st h n j k S pc' lc' st' h' C hi hS hv hA kk
  obtain ⟨hn, hd⟩ := mj_dd hi rfl
  subst hn
  simp only [mj_do] at hv
  split at hv
  · next v i a r =>
    cases hv
    obtain ⟨ha, hT, hin⟩ : 20 ≤ a ∧ mj_T h a = 18 ∧ vp_in i (mj_N h a) := hA
    have qH := hS.2.2.2.1
    have he := qH.at ha (by rw [hT]; omega)
    rw [mr_en_int hT (Or.inr (Or.inr rfl))] at he
    show W p l e R s m args below meth c H locs cells slots Q (F0 m pc ls (.int v :: .int i :: mr_v X (.ref a) :: st'.map (mr_v X)))
    rw [mr_v_new ha]
    exact va_cast C.1.1 C.1.2.1 C.2.1.2.1 qH.2.2.2.2.2 mr_ws_D hS.2.2.2.2.1 (a - 20) 2 he rfl hin hd (fun H1 locs1 w1 _ w3 => kk _ _ _ _ _ (mr_stI hS ha hT (Or.inr (Or.inr rfl)) (fun z => by omega) (by rw [← mj_cc]; exact w1) w3))
  · cases hv
theorem mr_lastore : mr_T .lastore := by
  intro X xs L p l e R s m args below meth c d y Q pc H locs cells slots ls lc st h n j k S pc' lc' st' h' C hi hS hv hA kk
  obtain ⟨hn, hd⟩ := mj_dd hi rfl
  subst hn
  simp only [mj_do] at hv
  split at hv
  · next v i a r =>
    cases hv
    obtain ⟨ha, hT, hin⟩ : 20 ≤ a ∧ mj_T h a = 19 ∧ vp_in i (mj_N h a) := hA
    have qH := hS.2.2.2.1
    have he := qH.at ha (by rw [hT]; omega)
    rw [mr_en_lng hT] at he
    show W p l e R s m args below meth c H locs cells slots Q (F0 m pc ls (.long v :: .int i :: mr_v X (.ref a) :: st'.map (mr_v X)))
    rw [mr_v_new ha]
    refine va_last C.1.1 C.1.2.1 C.2.1.2.1 qH.2.2.2.2.2 mr_ws_D hS.2.2.2.2.1 (a - 20) 3 he rfl hin hd (fun H1 locs1 w1 _ w3 => kk _ _ _ _ _ (mr_S_h hS rfl rfl (mr_H_wL qH ?_) w3))
    rw [← mr_ws_set (X := X) (h := h) (h' := mj_wL h a i.toNatClampNeg v) rfl ha (fun b hb => mr_en_wL hb), mr_en_lng (show mj_T (mj_wL h a i.toNatClampNeg v) a = 19 from hT)]
    have e1 : mj_L (mj_wL h a i.toNatClampNeg v) a = vp_updL (mj_L h a) i.toNatClampNeg v := by funext z; simp [mj_L, mj_wL, vp_updL]
    rw [e1]
    exact w1
  · cases hv
theorem mr_stR {X : mr_X} {xs : Nat → Int32} {L : Nat} {R : Room} {s : State} {y : Nat} {lc : List Value} {h : mj_H} {H H1 : Heap} {locs locs1 : List Loc} {cells slots : Nat} {ls : Array Slot} {a t i v : Nat} (hS : mr_S X xs L R s y lc h H locs cells slots ls) (ha : 20 ≤ a) (hT : mj_T h a = t) (ht : 20 ≤ t) (hv : 20 ≤ v)
    (w1 : va_P (mr_D X) mj_cls ((mr_ws X h).set (a - 20) (mr_B X + (a - 20), .inl (mr_dA X t, mj_N h a, .inr (.inr (.inr (.inr (va_up (fun i => mr_o X (mj_R h a i)) i (some (mr_B X + (v - 20)))))))))) H1) (w2 : va_S (fun q => mr_B X ≤ q) s.heap H1 locs1) : mr_S X xs L R s y lc (mj_wR h a i v) H1 locs1 cells slots ls := by
  refine mr_S_h hS rfl rfl (mr_H_wR hS.2.2.2.1 ha ?_) w2
  rw [← mr_ws_set (X := X) (h := h) (h' := mj_wR h a i v) rfl ha (fun b hb => mr_en_wR hb), mr_en_ref (show mj_T (mj_wR h a i v) a = t from hT) ht]
  have e1 : (fun z => mr_o X (mj_R (mj_wR h a i v) a z)) = va_up (fun i => mr_o X (mj_R h a i)) i (some (mr_B X + (v - 20))) := by
    funext z
    by_cases q : z = i
    · subst q; simp [mj_R, mj_wR, va_up, mr_o_new hv]
    · simp [mj_R, mj_wR, va_up, q]
  rw [e1]
  exact w1
theorem mj_castLO : mj_has (.castable "DotBook$Line" "java/lang/Object") = true := by decide +kernel
theorem mj_castLN : mj_has (.castable ((mj_CN 4, mj_F 4, mj_nf 4) : vw_C).1 "java/lang/Object") = true := by decide +kernel
theorem mr_ty7 {X : mr_X} : (mr_tys X)[7]? = some (mr_dA X 23, .object "java/lang/Object") := rfl
theorem mr_has {X : mr_X} {xs : Nat → Int32} {L : Nat} {p : Program} {R : Room} {s : State} {m : MethodId} {meth : Method} {c : Code} {d y : Nat} (C : mr_C X xs L p R s m meth c d y) {w : Cond} (h : mj_has w = true) : va_Nw w s := by
  simp only [mj_has, Bool.and_eq_true, decide_eq_true_eq] at h
  exact C.2.1.1 w h.1 h.2
theorem mr_aastore : mr_T .aastore := by
  intro X xs L p l e R s m args below meth c d y Q pc H locs cells slots ls lc st h n j k S pc' lc' st' h' C hi hS hv hA kk
  obtain ⟨hn, hd⟩ := mj_dd hi rfl
  subst hn
  simp only [mj_do] at hv
  split at hv
  · next v i a r =>
    cases hv
    obtain ⟨ha, hv2, hT, hin⟩ : 20 ≤ a ∧ 20 ≤ v ∧ mj_el (mj_T h a) (mj_T h v) ∧ vp_in i (mj_N h a) := hA
    have qH := hS.2.2.2.1
    have h20 : 20 ≤ mj_T h a := by unfold mj_el at hT; omega
    have he := qH.at ha (by unfold mj_el at hT; omega)
    rw [mr_en_ref rfl h20] at he
    show W p l e R s m args below meth c H locs cells slots Q (F0 m pc ls (mr_v X (.ref v) :: .int i :: mr_v X (.ref a) :: st'.map (mr_v X)))
    rw [mr_v_new ha, mr_v_new hv2]
    rcases hT with ⟨h1, h2⟩ | ⟨h1, h2⟩ | ⟨h1, h2⟩
    · have hvv := mr_at_obj qH hv2 h2 (by omega)
      rw [h1] at he
      exact va_astq C.1.1 C.1.2.1 C.2.1.2.1 qH.2.2.2.2.2 mr_ws_D hS.2.2.2.2.1 (a - 20) 5 (v - 20) 5 he rfl hvv (mj_cls_at 5 (by omega)) hin hd (fun H1 locs1 w1 _ w3 => kk _ _ _ _ _ (mr_stR hS ha h1 (by omega) hv2 w1 w3))
    · have hvv := mr_at_obj qH hv2 h2 (by omega)
      rw [h1] at he
      exact va_astq C.1.1 C.1.2.1 C.2.1.2.1 qH.2.2.2.2.2 mr_ws_D hS.2.2.2.2.1 (a - 20) 6 (v - 20) 6 he rfl hvv (mj_cls_at 6 (by omega)) hin hd (fun H1 locs1 w1 _ w3 => kk _ _ _ _ _ (mr_stR hS ha h1 (by omega) hv2 w1 w3))
    · have hvv := mr_at_obj qH hv2 h2 (by omega)
      rw [h1] at he
      exact va_astqO C.1.1 C.1.2.1 C.2.1.2.1 qH.2.2.2.2.2 mr_ws_D hS.2.2.2.2.1 (a - 20) 7 (v - 20) 4 (r := (mj_CN 4, mj_F 4, mj_nf 4)) (E := "java/lang/Object") he mr_ty7 (mr_has C mj_castLN) hvv (mj_cls_at 4 (by omega)) hin hd (fun H1 locs1 w1 _ w3 => kk _ _ _ _ _ (mr_stR hS ha h1 (by omega) hv2 w1 w3))
  · cases hv
theorem mr_arraylength : mr_T .arraylength := by
  intro X xs L p l e R s m args below meth c d y Q pc H locs cells slots ls lc st h n j k S pc' lc' st' h' C hi hS hv hA kk
  obtain ⟨hn, hd⟩ := mj_dd hi rfl
  subst hn
  simp only [mj_do] at hv
  split at hv
  · next a r =>
    cases hv
    obtain ⟨hT1, hT2⟩ : 16 ≤ mj_T h a ∧ mj_T h a ≤ 23 := hA
    have k2 := kk _ _ _ _ _ hS
    have qH := hS.2.2.2.1
    have K := C.2.1.2.2.1
    show W p l e R s m args below meth c H locs cells slots Q (F0 m pc ls (mr_v X (.ref a) :: r.map (mr_v X)))
    rcases Nat.lt_or_ge a 20 with ha | ha
    · obtain ⟨r1, r2, -, -⟩ := qH.2.2.2.1 a ha
      rw [r1] at hT1 hT2
      rw [r2] at k2
      rcases (show mc_T a = 16 ∨ mc_T a = 17 ∨ mc_T a = 18 ∨ mc_T a = 19 ∨ 20 ≤ mc_T a by omega) with q | q | q | q | q
      · rw [mr_v_con (mc_T_16 a ha q).1 (mc_T_16 a ha q).2 ha]
        exact va_tlen C.1.1 C.1.2.1 (K.1 a ha q) hS.2.2.2.2.1 rfl hd k2
      · rw [mr_v_con (mc_T_17 a ha q).1 (mc_T_17 a ha q).2 ha]
        exact va_tlen C.1.1 C.1.2.1 (K.2.1 a ha q) hS.2.2.2.2.1 rfl hd k2
      · exact absurd q (mc_T_18 a ha)
      · exact absurd q (mc_T_19 a ha)
      · rcases mc_T_20 a ha q hT2 with rfl | rfl
        · rw [mr_v_con (by omega) (by omega) ha]
          exact va_tlen C.1.1 C.1.2.1 K.2.2.2.2.1 hS.2.2.2.2.1 rfl hd k2
        · rw [mr_v_con (by omega) (by omega) ha]
          exact va_tlen C.1.1 C.1.2.1 K.2.2.2.2.2.2.1 hS.2.2.2.2.1 rfl hd k2
    · rw [mr_v_new ha]
      have he := qH.at ha (by omega)
      rcases (show (mj_T h a = 16 ∨ mj_T h a = 17 ∨ mj_T h a = 18) ∨ mj_T h a = 19 ∨ 20 ≤ mj_T h a by omega) with q | q | q
      · rw [mr_en_int rfl q] at he
        rcases q with q | q | q
        · rw [q] at he; exact va_alen C.1.1 C.1.2.1 C.2.1.2.1 qH.2.2.2.2.2 (a - 20) 0 he rfl rfl hd k2
        · rw [q] at he; exact va_alen C.1.1 C.1.2.1 C.2.1.2.1 qH.2.2.2.2.2 (a - 20) 1 he rfl rfl hd k2
        · rw [q] at he; exact va_alen C.1.1 C.1.2.1 C.2.1.2.1 qH.2.2.2.2.2 (a - 20) 2 he rfl rfl hd k2
      · rw [mr_en_lng q] at he
        exact va_alen C.1.1 C.1.2.1 C.2.1.2.1 qH.2.2.2.2.2 (a - 20) 3 he rfl rfl hd k2
      · rw [mr_en_ref rfl q] at he
        exact va_alen C.1.1 C.1.2.1 C.2.1.2.1 qH.2.2.2.2.2 (a - 20) (mj_T h a - 16) he (mr_tys_ref (by unfold mj_ra; omega)) rfl hd k2
  · cases hv
