/-! new cells -/
theorem mr_qx {X : mr_X} {h : mj_H} {s : State} {H1 : Heap} {q cells : Nat} {en : va_E} (hex : s.heap.size + cells + 20 = mr_B X + mj_Z h) (h20 : 20 ≤ mj_Z h) (hz : H1.size ≤ s.heap.size + (cells + 1)) (hP : va_P (mr_D X) mj_cls (mr_ws X h ++ [(q, en)]) H1) (hD : va_D (fun q => mr_B X ≤ q) (mr_ws X h ++ [(q, en)])) : q = mr_B X + (mj_Z h - 20) := by
  have hlen : (mr_ws X h).length = mj_Z h - 20 := by simp [mr_ws]
  have hn : (mr_ws X h ++ [(q, en)])[mj_Z h - 20]? = some (q, en) := by
    rw [List.getElem?_append_right (by omega), hlen]; simp
  have h1 := (hP _ _ hn).lt
  have h2 : mr_B X ≤ q := hD.2 _ _ hn
  simp only at h1
  rcases Nat.lt_or_ge q (mr_B X + (mj_Z h - 20)) with hq | hq
  · have hi : (mr_ws X h ++ [(q, en)])[q - mr_B X]? = some (mr_B X + (q - mr_B X), mr_en X h (20 + (q - mr_B X))) := by
      rw [List.getElem?_append_left (by omega)]
      have := mr_ws_at (X := X) (h := h) (a := 20 + (q - mr_B X)) (by omega) (by omega)
      rw [show 20 + (q - mr_B X) - 20 = q - mr_B X by omega] at this
      exact this
    have := hD.1 _ _ _ _ hi hn (by show mr_B X + (q - mr_B X) = q; omega)
    omega
  · omega
theorem mr_en_nw {X : mr_X} {h : mj_H} {t n u b : Nat} (hb : b ≠ mj_Z h) : mr_en X (mj_nw h t n u) b = mr_en X h b := by
  have e1 : mj_I (mj_nw h t n u) b = mj_I h b := by funext i; simp [mj_I, mj_nw, hb]
  have e2 : mj_R (mj_nw h t n u) b = mj_R h b := by funext i; simp [mj_R, mj_nw, hb]
  have e3 : mj_L (mj_nw h t n u) b = mj_L h b := by funext i; simp [mj_L, mj_nw, hb]
  have e4 : mj_T (mj_nw h t n u) b = mj_T h b := by show (if b = mj_Z h then t else mj_T h b) = _; rw [if_neg hb]
  have e5 : mj_N (mj_nw h t n u) b = mj_N h b := by show (if b = mj_Z h then n else mj_N h b) = _; rw [if_neg hb]
  unfold mr_en
  rw [e1, e2, e3, e4, e5]
theorem mj_nw_T {h : mj_H} {t n u : Nat} : mj_T (mj_nw h t n u) (mj_Z h) = t := by show (if mj_Z h = mj_Z h then t else _) = _; rw [if_pos rfl]
theorem mj_nw_N {h : mj_H} {t n u : Nat} : mj_N (mj_nw h t n u) (mj_Z h) = n := by show (if mj_Z h = mj_Z h then n else _) = _; rw [if_pos rfl]
theorem mj_nw_I {h : mj_H} {t n u : Nat} : mj_I (mj_nw h t n u) (mj_Z h) = fun _ => 0 := by funext i; simp [mj_I, mj_nw]
theorem mj_nw_R {h : mj_H} {t n u : Nat} : mj_R (mj_nw h t n u) (mj_Z h) = fun _ => 0 := by funext i; simp [mj_R, mj_nw]
theorem mj_nw_L {h : mj_H} {t n u : Nat} : mj_L (mj_nw h t n u) (mj_Z h) = fun _ => 0 := by funext i; simp [mj_L, mj_nw]
theorem mr_H_nw {X : mr_X} {xs : Nat → Int32} {L : Nat} {h : mj_H} {H H1 : Heap} {t n u : Nat} (q : mr_H X xs L h H) (ht : t < 11 ∨ (16 ≤ t ∧ t ≤ 23)) (hP : va_P (mr_D X) mj_cls (mr_ws X (mj_nw h t n u)) H1) : mr_H X xs L (mj_nw h t n u) H1 := by
  obtain ⟨q1, q2, q3, q4, q5, -⟩ := q
  have eT : ∀ b, b ≠ mj_Z h → mj_T (mj_nw h t n u) b = mj_T h b := fun b hb => by show (if b = mj_Z h then t else mj_T h b) = _; rw [if_neg hb]
  refine ⟨Nat.le_succ_of_le q1, fun a ha => ?_, fun a h1 h2 => ?_, fun a ha => ?_, fun a i h1 h2 => ?_, hP⟩
  · have ha : mj_Z h + 1 ≤ a := ha
    rw [eT a (by omega)]; exact q2 a (by omega)
  · have h2 : a < mj_Z h + 1 := h2
    by_cases e : a = mj_Z h
    · subst e; rw [mj_nw_T]; exact ht
    · rw [eT a e]; exact q3 a h1 (by omega)
  · have hb : a ≠ mj_Z h := by omega
    obtain ⟨r1, r2, r3, r4⟩ := q4 a ha
    refine ⟨by rw [eT a hb]; exact r1, ?_, fun i => ?_, fun i => ?_⟩
    · show (if a = mj_Z h then n else mj_N h a) = _; rw [if_neg hb]; exact r2
    · rw [← r3 i]; simp [mj_I, mj_nw, hb]
    · rw [← r4 i]; simp [mj_R, mj_nw, hb]
  · by_cases e : a = mj_Z h
    · subst e; rw [mj_nw_I]; rfl
    · rw [eT a e] at h2
      have := q5 a i h1 h2
      simpa [mj_I, mj_nw, e] using this
theorem mr_S_nw {X : mr_X} {xs : Nat → Int32} {L : Nat} {R : Room} {s : State} {y : Nat} {lc : List Value} {h : mj_H} {H H1 : Heap} {locs locs1 : List Loc} {cells slots : Nat} {ls : Array Slot} {t n u : Nat} (hS : mr_S X xs L R s y lc h H locs cells slots ls) (hu : mj_U h + (1 + u) ≤ mj_M) (h1 : mr_H X xs L (mj_nw h t n u) H1) (h2 : va_S (fun q => mr_B X ≤ q) s.heap H1 locs1) : mr_S X xs L R s y lc (mj_nw h t n u) H1 locs1 (cells + 1) (slots + u) ls := by
  obtain ⟨a1, a2, a3, -, -, a6, a7⟩ := hS
  have eU : mj_U (mj_nw h t n u) = mj_U h + (1 + u) := rfl
  refine ⟨by rw [eU]; exact hu, by rw [eU]; omega, by rw [eU]; omega, h1, h2, ?_, a7⟩
  show s.heap.size + (cells + 1) + 20 = mr_B X + (mj_Z h + 1)
  omega
theorem mr_room {R : Room} {u a cells slots : Nat} (hu : u + (1 + a) ≤ mj_M) (h1 : cells + (mj_M - u) ≤ R.cells) (h2 : slots + (mj_M - u) ≤ R.slots) : cells + 1 ≤ R.cells ∧ slots + a ≤ R.slots := by omega
theorem mj_acI : mj_has (.arrayClass .int) = true := by decide +kernel
theorem mj_acB : mj_has (.arrayClass .byte) = true := by decide +kernel
theorem mj_acC : mj_has (.arrayClass .char) = true := by decide +kernel
theorem mj_acL : mj_has (.arrayClass .long) = true := by decide +kernel
theorem mr_arrC {X : mr_X} {xs : Nat → Int32} {L : Nat} {p : Program} {R : Room} {s : State} {m : MethodId} {args : Array Value} {meth : Method} {c : Code} {d y : Nat} (C : mr_C X xs L p R s m meth c d y) {at' : ArrayType} (h : mj_at at' ≤ 19) : (Cond.arrayClass (newarray.typeOf at')).before args s = true := by
  cases at' with
  | int => exact mj_mv_use (w := .arrayClass .int) rfl (mr_has C mj_acI)
  | byte => exact mj_mv_use (w := .arrayClass .byte) rfl (mr_has C mj_acB)
  | char => exact mj_mv_use (w := .arrayClass .char) rfl (mr_has C mj_acC)
  | long => exact mj_mv_use (w := .arrayClass .long) rfl (mr_has C mj_acL)
  | _ => simp [mj_at] at h
theorem mr_newarray (at' : ArrayType) : mr_T (.newarray at') := by
  intro X xs L p l e R s m args below meth c d y Q pc H locs cells slots ls lc st h n j k S pc' lc' st' h' C hi hS hv hA kk
  obtain ⟨hn, hd⟩ := mj_dd hi rfl
  subst hn
  have h4 := mj_c4_ok hi
  have h19 : mj_at at' ≤ 19 := Nat.le_of_ble_eq_true h4
  simp only [mj_do] at hv
  split at hv
  · next z r =>
    cases hv
    obtain ⟨hz, hu⟩ : ¬ z < 0 ∧ mj_U h + (1 + z.toNatClampNeg) ≤ mj_M := hA
    have qH := hS.2.2.2.1
    obtain ⟨rc, rs⟩ := mr_room hu hS.2.1 hS.2.2.1
    have hzl : z.toNatClampNeg ≤ 600000 := by unfold mj_M at hu; omega
    have hK := C.2.1.2.1
    have go : ∀ (t : Nat) (ty : FieldType) (a0 : vp_A), mj_at at' = t → (16 ≤ t ∧ t ≤ 19) → newarray.typeOf at' = ty → (mr_tys X)[t - 16]? = some (mr_dA X t, ty) → (∀ cA : ClassId, va_RA s cA ty → va_RA s (mr_dA X t) ty → cA = mr_dA X t) → (∀ cA : ClassId, vp_cell cA a0 = arrV cA z.toNatClampNeg (fun _ => defaultValue ty)) → z.toNatClampNeg * componentBytes ty ≤ 536870912 →
        mr_en X (mj_nw h t z.toNatClampNeg z.toNatClampNeg) (mj_Z h) = .inl (mr_dA X t, a0) →
        W p l e R s m args below meth c H locs cells slots Q (F0 m pc ls (List.map (mr_v X) (.int z :: r))) := by
      intro t ty a0 hat ht hty htt hcA ha hby hen
      rw [hat] at kk
      refine va_newa C.1.1 C.1.2.1 (mr_arrC C h19) hty hK qH.2.2.2.2.2 mr_ws_D hS.2.2.2.2.1 (fun q hq => Nat.le_trans C.2.1.2.2.2 hq) ha hz rfl hby rc rs hd (fun q cA H1 hK1 hP1 hD1 hS1 => ?_)
      refine mr_Wz (fun hzz => ?_)
      have eq := mr_qx hS.2.2.2.2.2.1 qH.1 hzz hP1 hD1
      subst eq
      have hl := hK1.2 (mr_tys X).length (cA, ty) (by rw [List.getElem?_append_right (Nat.le_refl _)]; simp)
      have ec := hcA cA hl.2 (hK.2 _ _ htt).2
      subst ec
      have hP2 : va_P (mr_D X) mj_cls (mr_ws X (mj_nw h t z.toNatClampNeg z.toNatClampNeg)) H1 := by
        rw [← mr_ws_push (X := X) (h := h) qH.1 rfl (fun b hb => mr_en_nw hb), hen]; exact hP1
      have := kk _ _ _ _ _ (mr_S_nw hS hu (mr_H_nw qH (Or.inr ⟨ht.1, by omega⟩) hP2) hS1)
      rw [List.map_cons, mr_v_new qH.1] at this
      exact this
    have one : ∀ (ty : FieldType) (t : Nat) (cA : ClassId), va_RA s cA ty = (s.vm.findClass ("[" ++ ty.toString) = some cA) → va_RA s (mr_dA X t) ty = (s.vm.findClass ("[" ++ ty.toString) = some (mr_dA X t)) → va_RA s cA ty → va_RA s (mr_dA X t) ty → cA = mr_dA X t := by
      intro ty t cA e1 e2 g1 g2
      rw [e1] at g1
      rw [e2] at g2
      exact Option.some.inj (g1.symm.trans g2)
    cases at' with
    | int => exact go 16 .int (z.toNatClampNeg, .inl (fun _ => 0)) rfl (by omega) rfl rfl (fun cA => one .int 16 cA rfl rfl) (fun cA => rfl) (by show _ * 4 ≤ _; omega) (by rw [mr_en_int mj_nw_T (Or.inl rfl), mj_nw_N, mj_nw_I])
    | byte => exact go 17 .byte (z.toNatClampNeg, .inl (fun _ => 0)) rfl (by omega) rfl rfl (fun cA => one .byte 17 cA rfl rfl) (fun cA => rfl) (by show _ * 1 ≤ _; omega) (by rw [mr_en_int mj_nw_T (Or.inr (Or.inl rfl)), mj_nw_N, mj_nw_I])
    | char => exact go 18 .char (z.toNatClampNeg, .inl (fun _ => 0)) rfl (by omega) rfl rfl (fun cA => one .char 18 cA rfl rfl) (fun cA => rfl) (by show _ * 2 ≤ _; omega) (by rw [mr_en_int mj_nw_T (Or.inr (Or.inr rfl)), mj_nw_N, mj_nw_I])
    | long => exact go 19 .long (z.toNatClampNeg, .inr (.inl (fun _ => 0))) rfl (by omega) rfl rfl (fun cA => one .long 19 cA rfl rfl) (fun cA => rfl) (by show _ * 8 ≤ _; omega) (by rw [mr_en_lng mj_nw_T, mj_nw_N, mj_nw_L])
    | _ => simp [mj_at] at h19
  · cases hv
theorem mr_anewarray (t : Nat) : mr_T (.anewarray t) := by
  intro X xs L p l e R s m args below meth c d y Q pc H locs cells slots ls lc st h n j k S pc' lc' st' h' C hi hS hv hA kk
  obtain ⟨hn, hd⟩ := mj_dd hi rfl
  subst hn
  have hl := mj_lok_ok hi
  simp only [mj_lok, Bool.and_eq_true, decide_eq_true_eq] at hl
  obtain ⟨ht, hcl⟩ := hl
  simp only [mj_do] at hv
  split at hv
  · next z r =>
    cases hv
    obtain ⟨hz, hu⟩ : ¬ z < 0 ∧ mj_U h + (1 + z.toNatClampNeg) ≤ mj_M := hA
    have qH := hS.2.2.2.1
    obtain ⟨rc, rs⟩ := mr_room hu hS.2.1 hS.2.2.1
    have hzl : z.toNatClampNeg ≤ 600000 := by unfold mj_M at hu; omega
    have hK := C.2.1.2.1
    refine va_newq C.1.1 C.1.2.1 C.1.2.2.2.1 (mr_w C hcl) (C.2.1.2.2.1.2.2.2.2.2.2.2.2.2.2.2.1 t ht.1 ht.2) hK qH.2.2.2.2.2 mr_ws_D hS.2.2.2.2.1 (fun q hq => Nat.le_trans C.2.1.2.2.2 hq) hz rfl (by omega) rc rs hd (fun q cA H1 hK1 hP1 hD1 hS1 => ?_)
    refine mr_Wz (fun hzz => ?_)
    have eq := mr_qx hS.2.2.2.2.2.1 qH.1 hzz hP1 hD1
    subst eq
    have hl := (hK1.2 (mr_tys X).length (cA, .object (mj_AN t)) (by rw [List.getElem?_append_right (Nat.le_refl _)]; simp)).2
    have hl2 := (hK.2 _ _ (mr_tys_ref (X := X) (t := t) (by unfold mj_ra; omega))).2
    obtain ⟨_, _, _, _, _, f1⟩ := hl
    obtain ⟨_, _, _, _, _, f2⟩ := hl2
    have ec : cA = mr_dA X t := Option.some.inj (f1.symm.trans f2)
    subst ec
    have hP2 : va_P (mr_D X) mj_cls (mr_ws X (mj_nw h t z.toNatClampNeg z.toNatClampNeg)) H1 := by
      rw [← mr_ws_push (X := X) (h := h) qH.1 rfl (fun b hb => mr_en_nw hb), mr_en_ref mj_nw_T ht.1, mj_nw_N, mj_nw_R]
      exact hP1
    have := kk _ _ _ _ _ (mr_S_nw hS hu (mr_H_nw qH (Or.inr ⟨by omega, by omega⟩) hP2) hS1)
    rw [List.map_cons, mr_v_new qH.1] at this
    exact this
  · cases hv
theorem mj_nf_sl : ∀ t, t < 8 → mj_nf t = mj_sl t := by decide
theorem mj_ty_dec : ∀ t, t < 11 → ∀ k, k < mj_nf t → mj_rf t k = false → mj_ty t k = .int ∨ mj_ty t k = .boolean ∨ mj_ty t k = .byte := by decide +kernel
theorem mr_new (t : Nat) : mr_T (.new t) := by
  intro X xs L p l e R s m args below meth c d y Q pc H locs cells slots ls lc st h n j k S pc' lc' st' h' C hi hS hv hA kk
  obtain ⟨hn, hd⟩ := mj_dd hi rfl
  subst hn
  have hl := mj_lok_ok hi
  simp only [mj_lok, Bool.and_eq_true, decide_eq_true_eq] at hl
  obtain ⟨ht, hcl, hins, hini⟩ := hl
  have ht11 : t < 11 := by omega
  simp only [mj_do] at hv
  cases hv
  have hu : mj_U h + (1 + mj_sl t) ≤ mj_M := hA
  have qH := hS.2.2.2.1
  obtain ⟨rc, rs⟩ := mr_room hu hS.2.1 hS.2.2.1
  refine va_new C.1.1 C.1.2.1 (mr_ts C ht11) (fun _ z => z) (mj_ty t) (mj_tyok t ht11) C.1.2.2.2.1 (mr_w C hcl) (mr_w C hins) (mr_w C hini) C.2.1.2.1 qH.2.2.2.2.2 mr_ws_D hS.2.2.2.2.1 (fun q hq => Nat.le_trans C.2.1.2.2.2 hq) (mj_cls_at t ht11) (fs := mr_fs X (mj_nw h t 0 (mj_sl t)) (mj_Z h) t) (fun z hz => ?_) rc (by rw [mj_nf_sl t ht]; exact rs) hd (fun q H1 hP1 hD1 hS1 => ?_)
  · unfold vp_V
    rw [List.getD_eq_getElem?_getD]
    cases hr : mj_rf t z with
    | true =>
      rw [mr_fs_R hz hr, mj_nw_R]
      rcases mr_rf_ty ht11 hz hr with ⟨w, ew⟩ | ⟨w, ew⟩ <;> rw [ew] <;> rfl
    | false =>
      rw [mr_fs_I hz hr, mj_nw_I]
      rcases mj_ty_dec t ht11 z hz hr with ew | ew | ew <;> rw [ew] <;> rfl
  · refine mr_Wz (fun hzz => ?_)
    have eq := mr_qx hS.2.2.2.2.2.1 qH.1 hzz hP1 hD1
    subst eq
    have hP2 : va_P (mr_D X) mj_cls (mr_ws X (mj_nw h t 0 (mj_sl t))) H1 := by
      rw [← mr_ws_push (X := X) (h := h) qH.1 rfl (fun b hb => mr_en_nw hb), mr_en_obj mj_nw_T ht11]
      exact hP1
    have := kk _ _ _ _ _ (mr_S_nw hS hu (mr_H_nw qH (Or.inl ht11) hP2) hS1)
    rw [List.map_cons, mr_v_new qH.1, ← mj_nf_sl t ht] at this
    exact this
theorem mr_checkcast (t : Nat) : mr_T (.checkcast t) := by
  intro X xs L p l e R s m args below meth c d y Q pc H locs cells slots ls lc st h n j k S pc' lc' st' h' C hi hS hv hA kk
  obtain ⟨hn, hd⟩ := mj_dd hi rfl
  subst hn
  have hl := mj_lok_ok hi
  simp only [mj_lok, Bool.and_eq_true, decide_eq_true_eq] at hl
  obtain ⟨ht, hcl⟩ := hl
  simp only [mj_do] at hv
  split at hv
  · next a r =>
    cases hv
    obtain ⟨hT, ha⟩ : mj_T h a = t ∧ 20 ≤ a := hA
    have qH := hS.2.2.2.1
    have hK := C.2.1.2.1
    have k2 : W p l e R s m args below meth c H locs cells slots Q (F0 m (pc + 3) ls (mr_v X (.ref a) :: r.map (mr_v X))) := kk _ _ _ _ _ hS
    show W p l e R s m args below meth c H locs cells slots Q (F0 m pc ls (mr_v X (.ref a) :: r.map (mr_v X)))
    rw [mr_v_new ha] at k2 ⊢
    rcases ht with rfl | rfl | rfl
    · have he := qH.at ha (by omega)
      rw [mr_en_ref hT (by omega)] at he
      have hl2 := (hK.2 _ _ (mr_tys_ref (X := X) (t := 20) (Or.inl rfl))).2
      obtain ⟨_, _, _, _, _, f2⟩ := hl2
      exact va_castA C.1.1 C.1.2.1 C.1.2.2.2.1 (mr_w C hcl) qH.2.2.2.2.2 (a - 20) he f2 hd k2
    · have he := qH.at ha (by omega)
      rw [mr_en_int hT (Or.inr (Or.inl rfl))] at he
      have f2 : s.vm.findClass ("[" ++ (FieldType.byte).toString) = some (mr_dA X 17) := (hK.2 1 (mr_dA X 17, .byte) rfl).2
      exact va_castA C.1.1 C.1.2.1 C.1.2.2.2.1 (mr_w C hcl) qH.2.2.2.2.2 (a - 20) he f2 hd k2
    · have he := mr_at_obj qH ha hT (by omega)
      exact va_castS C.1.1 C.1.2.1 C.1.2.2.2.1 (mr_w C hcl) (hK.1 4 _ (mj_cls_at 4 (by omega))).2 (va_recv hK qH.2.2.2.2.2 (mj_cls_at 4 (by omega)) he) hd k2
  · cases hv
