/-! fields -/
def mj_c4 (y : Nat) (i : Instr) (j k : Nat) (ps : List Nat) : Bool := match i with
  | .getfield t => !(t == 2) || (k == 1 && mj_w (ps.getD 0 0) (.fieldLink (mj_mn y).cls j (mj_F 2 k).1 (mj_F 2 k).2.1 (mj_F 2 k).2.2.1))
  | .fload t => !(t == 2) || (k == 0 && mj_w (ps.getD 0 0) (.fieldLink (mj_mn y).cls j (mj_F 2 k).1 (mj_F 2 k).2.1 (mj_F 2 k).2.2.1))
  | .newarray t => Nat.ble (mj_at t) 19
  | .invokevirtual z => !(z == 901) || (if k = 7 then (mj_mn y).cls == "DotBook$Kind" else !((mj_mn y).cls == "DotBook$Kind"))
  | _ => true
def mj_ck4 (y : Nat) : Bool := (List.range (mj_sz y)).all fun pc => match mj_ins y pc with
  | none => true
  | some (i, _, j, k) => mj_c4 y i j k (mj_pq pc (mj_pl y))
set_option maxRecDepth 100000 in
theorem mj_ck4_0 : (List.range 47).all mj_ck4 = true := by decide +kernel
set_option maxRecDepth 100000 in
theorem mj_ck4_1 : ((List.range 43).map (· + 47)).all mj_ck4 = true := by decide +kernel
set_option maxRecDepth 100000 in
theorem mj_ck4_2 : ((List.range 31).map (· + 90)).all mj_ck4 = true := by decide +kernel
set_option maxRecDepth 100000 in
theorem mj_ck4_3 : ((List.range 27).map (· + 121)).all mj_ck4 = true := by decide +kernel
set_option maxRecDepth 100000 in
theorem mj_ck4_4 : ((List.range 21).map (· + 148)).all mj_ck4 = true := by decide +kernel
theorem mj_c4_ok {y pc : Nat} {i : Instr} {n j k : Nat} (h : mj_ins y pc = some (i, n, j, k)) : mj_c4 y i j k (mj_pq pc (mj_pl y)) = true := by
  obtain ⟨h1, h2⟩ := mj_ins_in h
  have q := List.all_eq_true.mp (mj_part mj_ck4_0 mj_ck4_1 mj_ck4_2 mj_ck4_3 mj_ck4_4 h1) pc (List.mem_range.mpr h2)
  rw [h] at q
  exact q
section
variable {X : mr_X} {xs : Nat → Int32} {L : Nat} {p : Program} {l : Launch} {e : Env} {R : Room} {s : State} {m : MethodId} {args : Array Value} {below : List Frame} {meth : Method} {c : Code} {d y : Nat} {Q : State → Prop} {H : Heap} {locs : List Loc} {cells slots : Nat} {h : mj_H}
theorem mr_Wz {g : JFrame} (k : H.size ≤ s.heap.size + cells → W p l e R s m args below meth c H locs cells slots Q g) : W p l e R s m args below meth c H locs cells slots Q g := fun T hT X => k (by rw [← hT]; exact X.heapSize) T hT X
theorem mr_w (C : mr_C X xs L p R s m meth c d y) {q : Nat} {w : Cond} (h : mj_w q w = true) : w.before args s = true := mj_mv_use (mj_w_ok h).2 (C.2.1.1 w (mj_w_ok h).1 (mj_w_ok h).2)
theorem mr_wN (C : mr_C X xs L p R s m meth c d y) {q : Nat} {w : Cond} (h : mj_w q w = true) : va_Nw w s := C.2.1.1 w (mj_w_ok h).1 (mj_w_ok h).2
theorem mr_ts (C : mr_C X xs L p R s m meth c d y) {t : Nat} (ht : t < 11) : ∀ w ∈ u_ws (mj_CN t) (mj_F t) (mj_nf t), w.before args s = true := by
  intro w hw
  have := List.all_eq_true.mp (mj_wsok t ht) w hw
  simp only [mj_has, Bool.and_eq_true, decide_eq_true_eq] at this
  exact mj_mv_use this.2 (C.2.1.1 w this.1 this.2)
end
def mr_fs (X : mr_X) (h : mj_H) (a t : Nat) : List Value := (List.range (mj_nf t)).map (fun k => bif mj_rf t k then mr_v X (.ref (mj_R h a k)) else .int (mj_I h a k))
theorem mr_en_obj {X : mr_X} {h : mj_H} {a t : Nat} (hT : mj_T h a = t) (ht : t < 11) : mr_en X h a = .inr (t, mr_fs X h a t) := by
  subst hT
  unfold mr_en
  rw [if_pos ht]; rfl
theorem mr_fs_I {X : mr_X} {h : mj_H} {a t k : Nat} (hk : k < mj_nf t) (hr : mj_rf t k = false) : (mr_fs X h a t)[k]? = some (.int (mj_I h a k)) := by
  unfold mr_fs
  rw [List.getElem?_map, List.getElem?_range hk]
  simp [hr]
theorem mr_fs_R {X : mr_X} {h : mj_H} {a t k : Nat} (hk : k < mj_nf t) (hr : mj_rf t k = true) : (mr_fs X h a t)[k]? = some (mr_v X (.ref (mj_R h a k))) := by
  unfold mr_fs
  rw [List.getElem?_map, List.getElem?_range hk]
  simp [hr]
theorem mr_fs_wI {X : mr_X} {h : mj_H} {a t k : Nat} {v : Int32} (hr : mj_rf t k = false) : mr_fs X (mj_wI h a k v) a t = (mr_fs X h a t).set k (.int v) := by
  apply List.ext_getElem?
  intro i
  rw [List.getElem?_set]
  unfold mr_fs
  simp only [List.getElem?_map, List.length_map, List.length_range]
  by_cases hi : k = i
  · subst hi
    rw [if_pos rfl]
    by_cases hl : k < mj_nf t
    · rw [if_pos hl, List.getElem?_range hl]
      simp [hr, mj_I, mj_wI]
    · rw [if_neg hl, List.getElem?_eq_none (by simp; omega)]; rfl
  · rw [if_neg hi]
    by_cases hl : i < mj_nf t
    · rw [List.getElem?_range hl]
      simp only [Option.map_some]
      congr 1
      have e1 : mj_I (mj_wI h a k v) a i = mj_I h a i := by simp [mj_I, mj_wI, Ne.symm hi]
      rw [e1]; rfl
    · rw [List.getElem?_eq_none (by simp; omega)]; rfl
theorem mr_fs_wR {X : mr_X} {h : mj_H} {a t k v : Nat} (hr : mj_rf t k = true) : mr_fs X (mj_wR h a k v) a t = (mr_fs X h a t).set k (mr_v X (.ref v)) := by
  apply List.ext_getElem?
  intro i
  rw [List.getElem?_set]
  unfold mr_fs
  simp only [List.getElem?_map, List.length_map, List.length_range]
  by_cases hi : k = i
  · subst hi
    rw [if_pos rfl]
    by_cases hl : k < mj_nf t
    · rw [if_pos hl, List.getElem?_range hl]
      simp [hr, mj_R, mj_wR]
    · rw [if_neg hl, List.getElem?_eq_none (by simp; omega)]; rfl
  · rw [if_neg hi]
    by_cases hl : i < mj_nf t
    · rw [List.getElem?_range hl]
      simp only [Option.map_some]
      congr 1
      have e1 : mj_R (mj_wR h a k v) a i = mj_R h a i := by simp [mj_R, mj_wR, Ne.symm hi]
      rw [e1]; rfl
    · rw [List.getElem?_eq_none (by simp; omega)]; rfl
theorem mr_en_wI {X : mr_X} {h : mj_H} {a k b : Nat} {v : Int32} (hb : b ≠ a) : mr_en X (mj_wI h a k v) b = mr_en X h b := by
  have e1 : mj_I (mj_wI h a k v) b = mj_I h b := by funext i; simp [mj_I, mj_wI, hb]
  unfold mr_en
  rw [e1]; rfl
theorem mr_en_wR {X : mr_X} {h : mj_H} {a k b v : Nat} (hb : b ≠ a) : mr_en X (mj_wR h a k v) b = mr_en X h b := by
  have e1 : mj_R (mj_wR h a k v) b = mj_R h b := by funext i; simp [mj_R, mj_wR, hb]
  unfold mr_en
  rw [e1]; rfl
theorem mr_en_wL {X : mr_X} {h : mj_H} {a k b : Nat} {v : Int64} (hb : b ≠ a) : mr_en X (mj_wL h a k v) b = mr_en X h b := by
  have e1 : mj_L (mj_wL h a k v) b = mj_L h b := by funext i; simp [mj_L, mj_wL, hb]
  unfold mr_en
  rw [e1]; rfl
theorem mr_H_wI {X : mr_X} {xs : Nat → Int32} {L : Nat} {h : mj_H} {H H1 : Heap} {a k : Nat} {v : Int32} (q : mr_H X xs L h H) (ha : 20 ≤ a) (hb : mj_T h a = 17 → mj_b v = v) (hP : va_P (mr_D X) mj_cls (mr_ws X (mj_wI h a k v)) H1) : mr_H X xs L (mj_wI h a k v) H1 := by
  obtain ⟨q1, q2, q3, q4, q5, -⟩ := q
  refine ⟨q1, q2, q3, fun b hb' => ?_, fun b i hb1 hb2 => ?_, hP⟩
  · obtain ⟨r1, r2, r3, r4⟩ := q4 b hb'
    refine ⟨r1, r2, fun i => ?_, r4⟩
    rw [← r3 i]
    have : b ≠ a := by omega
    simp [mj_I, mj_wI, this]
  · have hb2 : mj_T h b = 17 := hb2
    by_cases e : b = a
    · subst e
      by_cases e2 : i = k
      · subst e2; simp [mj_I, mj_wI, hb hb2]
      · simpa [mj_I, mj_wI, e2] using q5 b i hb1 hb2
    · simpa [mj_I, mj_wI, e] using q5 b i hb1 hb2
theorem mr_H_wR {X : mr_X} {xs : Nat → Int32} {L : Nat} {h : mj_H} {H H1 : Heap} {a k v : Nat} (q : mr_H X xs L h H) (ha : 20 ≤ a) (hP : va_P (mr_D X) mj_cls (mr_ws X (mj_wR h a k v)) H1) : mr_H X xs L (mj_wR h a k v) H1 := by
  obtain ⟨q1, q2, q3, q4, q5, -⟩ := q
  refine ⟨q1, q2, q3, fun b hb' => ?_, q5, hP⟩
  obtain ⟨r1, r2, r3, r4⟩ := q4 b hb'
  refine ⟨r1, r2, r3, fun i => ?_⟩
  rw [← r4 i]
  have : b ≠ a := by omega
  simp [mj_R, mj_wR, this]
theorem mr_H_wL {X : mr_X} {xs : Nat → Int32} {L : Nat} {h : mj_H} {H H1 : Heap} {a k : Nat} {v : Int64} (q : mr_H X xs L h H) (hP : va_P (mr_D X) mj_cls (mr_ws X (mj_wL h a k v)) H1) : mr_H X xs L (mj_wL h a k v) H1 := by
  obtain ⟨q1, q2, q3, q4, q5, -⟩ := q
  exact ⟨q1, q2, q3, q4, q5, hP⟩
theorem mr_S_h {X : mr_X} {xs : Nat → Int32} {L : Nat} {R : Room} {s : State} {y : Nat} {lc : List Value} {h h' : mj_H} {H H1 : Heap} {locs locs1 : List Loc} {cells slots : Nat} {ls : Array Slot} (hS : mr_S X xs L R s y lc h H locs cells slots ls) (hu : mj_U h' = mj_U h) (hz : mj_Z h' = mj_Z h) (h1 : mr_H X xs L h' H1) (h2 : va_S (fun q => mr_B X ≤ q) s.heap H1 locs1) : mr_S X xs L R s y lc h' H1 locs1 cells slots ls :=
  ⟨by rw [hu]; exact hS.1, by rw [hu]; exact hS.2.1, by rw [hu]; exact hS.2.2.1, h1, h2, by rw [hz]; exact hS.2.2.2.2.2.1, hS.2.2.2.2.2.2⟩
/-- a constant string is 3 or 5 -/
theorem mc_T_obj : ∀ a, a < 20 → mc_T a < 11 → a = 3 ∨ a = 5 := by decide
theorem mr_at_obj {X : mr_X} {xs : Nat → Int32} {L : Nat} {h : mj_H} {H : Heap} {a t : Nat} (q : mr_H X xs L h H) (ha : 20 ≤ a) (hT : mj_T h a = t) (ht : t < 11) : (mr_ws X h)[a - 20]? = some (mr_B X + (a - 20), .inr (t, mr_fs X h a t)) := by
  rw [q.at ha (by rw [hT]; omega), mr_en_obj hT ht]
theorem mr_get1 {X : mr_X} {xs : Nat → Int32} {L : Nat} {p : Program} {l : Launch} {e : Env} {R : Room} {s : State} {m : MethodId} {args : Array Value} {below : List Frame} {meth : Method} {c : Code} {d y : Nat} {Q : State → Prop} {pc : Nat} {H : Heap} {locs : List Loc} {cells slots : Nat} {ls : Array Slot} {h : mj_H} {a t k j : Nat} {ps : List Nat} {v : Value} {r : List Value}
    (C : mr_C X xs L p R s m meth c d y) (hd : decode (mj_by y) pc = .ok (.getfield j, 3)) (q : mr_H X xs L h H) (ha : 20 ≤ a) (hT : mj_T h a = t) (ht : t < 11) (hk : k < mj_nf t) (hf : mj_flk (mj_mn y).cls j t k ps = true) (hv : (mr_fs X h a t)[k]? = some v)
    (kk : W p l e R s m args below meth c H locs cells slots Q (F0 m (pc + 3) ls (v :: r))) : W p l e R s m args below meth c H locs cells slots Q (F0 m pc ls (mr_v X (.ref a) :: r)) := by
  have he := mr_at_obj q ha hT ht
  rw [mr_v_new ha]
  simp only [mj_flk, Bool.or_eq_true, Bool.and_eq_true] at hf
  rcases hf with hf | hf | ⟨hf, hf2⟩
  · exact va_get C.1.1 C.1.2.1 (mr_ts C ht) (fun _ z => z) C.1.2.2.2.1 C.2.1.2.1 q.2.2.2.2.2 (a - 20) he (mj_cls_at t ht) k hk (mr_w C hf) (fun _ z => z) hv hd kk
  · exact va_getN C.1.1 C.1.2.1 (mr_ts C ht) (fun _ z => z) C.1.2.2.2.1 C.2.1.2.1 q.2.2.2.2.2 (a - 20) he (mj_cls_at t ht) k hk (mr_w C hf) (fun _ z => z) hv hd kk
  · exact va_get C.1.1 C.1.2.1 (mr_ts C ht) (fun _ z => z) C.1.2.2.2.1 C.2.1.2.1 q.2.2.2.2.2 (a - 20) he (mj_cls_at t ht) k hk (mr_w C hf) (fun x9 h9 => u_same (mr_w (args := args) C hf2) x9 h9) hv hd kk
theorem mr_getfield (t : Nat) : mr_T (.getfield t) := by
  intro X xs L p l e R s m args below meth c d y Q pc H locs cells slots ls lc st h n j k S pc' lc' st' h' C hi hS hv hA kk
  obtain ⟨hn, hd⟩ := mj_dd hi rfl
  subst hn
  have hl := mj_lok_ok hi
  have h4 := mj_c4_ok hi
  simp only [mj_lok, Bool.and_eq_true, decide_eq_true_eq, beq_iff_eq] at hl
  obtain ⟨ht, hk, hr, hf⟩ := hl
  simp only [mj_do] at hv
  split at hv
  · next a r =>
    cases hv
    have hT : mj_T h a = t := hA
    have kk := kk _ _ _ _ _ hS
    have qH := hS.2.2.2.1
    show W p l e R s m args below meth c H locs cells slots Q (F0 m pc ls (mr_v X (.ref a) :: r.map (mr_v X)))
    rcases Nat.lt_or_ge a 20 with ha | ha
    · obtain ⟨r1, -, r3, -⟩ := qH.2.2.2.1 a ha
      have h35 := mc_T_obj a ha (by rw [← r1, hT]; exact ht)
      have ht2 : t = 2 := by rw [← hT, r1]; rcases h35 with rfl | rfl <;> rfl
      subst ht2
      simp only [mj_c4, beq_self_eq_true, Bool.not_true, Bool.false_or, Bool.and_eq_true, beq_iff_eq] at h4
      obtain ⟨hk1, h4⟩ := h4
      subst hk1
      have hE := ((C.2.1.2.2.1.2.2.1 a ha (by rw [← r1, hT])).2.1)
      have ev : mj_I h a 1 = 0 := by rw [r3 1]; rcases h35 with rfl | rfl <;> rfl
      rw [ev] at kk
      rw [mr_v_con (by omega) (by omega) ha]
      exact vk_getf C.1.1 C.1.2.1 hE hS.2.2.2.2.1 C.1.2.2.2.1 (mr_w C h4) (fun _ z => z) hd kk
    · exact mr_get1 C hd qH ha hT ht hk hf (mr_fs_I hk hr) kk
  · cases hv
theorem mr_fload (t : Nat) : mr_T (.fload t) := by
  intro X xs L p l e R s m args below meth c d y Q pc H locs cells slots ls lc st h n j k S pc' lc' st' h' C hi hS hv hA kk
  obtain ⟨hn, hd⟩ := mj_dd hi rfl
  subst hn
  have hl := mj_lok_ok hi
  have h4 := mj_c4_ok hi
  simp only [mj_lok, Bool.and_eq_true, decide_eq_true_eq, beq_iff_eq] at hl
  obtain ⟨ht, hk, hr, hf⟩ := hl
  simp only [mj_do] at hv
  split at hv
  · next a r =>
    cases hv
    have hT : mj_T h a = t := hA
    have k2 : W p l e R s m args below meth c H locs cells slots Q (F0 m (pc + 3) ls (mr_v X (.ref (mj_R h a k)) :: r.map (mr_v X))) := kk _ _ _ _ _ hS
    clear kk
    have qH := hS.2.2.2.1
    show W p l e R s m args below meth c H locs cells slots Q (F0 m pc ls (mr_v X (.ref a) :: r.map (mr_v X)))
    rcases Nat.lt_or_ge a 20 with ha | ha
    · obtain ⟨r1, -, -, r3⟩ := qH.2.2.2.1 a ha
      have h35 := mc_T_obj a ha (by rw [← r1, hT]; exact ht)
      have ht2 : t = 2 := by rw [← hT, r1]; rcases h35 with rfl | rfl <;> rfl
      subst ht2
      simp only [mj_c4, beq_self_eq_true, Bool.not_true, Bool.false_or, Bool.and_eq_true, beq_iff_eq] at h4
      obtain ⟨hk1, h4⟩ := h4
      subst hk1
      have hE := ((C.2.1.2.2.1.2.2.1 a ha (by rw [← r1, hT])).1)
      have ev : mj_R h a 0 = a + 1 := by rw [r3 0]; rcases h35 with rfl | rfl <;> rfl
      rw [ev, mr_v_con (by omega) (by omega) (by omega)] at k2
      rw [mr_v_con (by omega) (by omega) ha]
      exact vk_getf C.1.1 C.1.2.1 hE hS.2.2.2.2.1 C.1.2.2.2.1 (mr_w C h4) (fun _ z => z) hd k2
    · exact mr_get1 C hd qH ha hT ht hk hf (mr_fs_R hk hr) k2
  · cases hv
theorem mr_fs_len {X : mr_X} {h : mj_H} {a t : Nat} : (mr_fs X h a t).length = mj_nf t := by simp [mr_fs]
theorem mr_put1 {X : mr_X} {xs : Nat → Int32} {L : Nat} {p : Program} {l : Launch} {e : Env} {R : Room} {s : State} {m : MethodId} {args : Array Value} {below : List Frame} {meth : Method} {c : Code} {d y : Nat} {Q : State → Prop} {pc : Nat} {H : Heap} {locs : List Loc} {cells slots : Nat} {ls : Array Slot} {h : mj_H} {a t k j : Nat} {ps : List Nat} {v : Value} {r : List Value}
    (C : mr_C X xs L p R s m meth c d y) (hd : decode (mj_by y) pc = .ok (.putfield j, 3)) (q : mr_H X xs L h H) (hs : va_S (fun q => mr_B X ≤ q) s.heap H locs) (ha : 20 ≤ a) (hT : mj_T h a = t) (ht : t < 11) (hk : k < mj_nf t) (hf : mj_flkF y (mj_mn y).cls j t k ps = true) (hn : narrow (mj_ty t k) v = v) (hfit : fits (mj_ty t k) v = true)
    (kk : ∀ (H1 : Heap) (locs1 : List Loc), va_P (mr_D X) mj_cls ((mr_ws X h).set (a - 20) (mr_B X + (a - 20), .inr (t, (mr_fs X h a t).set k v))) H1 → va_S (fun q => mr_B X ≤ q) s.heap H1 locs1 → W p l e R s m args below meth c H1 locs1 cells slots Q (F0 m (pc + 3) ls r)) : W p l e R s m args below meth c H locs cells slots Q (F0 m pc ls (v :: mr_v X (.ref a) :: r)) := by
  have he := mr_at_obj q ha hT ht
  rw [mr_v_new ha]
  simp only [mj_flkF, mj_flk, Bool.or_eq_true, Bool.and_eq_true, beq_iff_eq] at hf
  obtain ⟨hf, hfin⟩ := hf
  rcases hfin with hfin | ⟨hA, hin, hdc⟩
  · rcases hf with hf | hf | ⟨hf, hf2⟩
    · exact va_put C.1.1 C.1.2.1 (mr_ts C ht) (fun _ z => z) (mj_ty t) (mj_tyok t ht) (mj_nmok t ht) C.1.2.2.2.1 C.2.1.2.1 q.2.2.2.2.2 mr_ws_D hs (a - 20) he (mj_cls_at t ht) k hk (mr_w C hf) (fun _ z => z) hfin (mj_tyok t ht k hk) hn hfit (by rw [mr_fs_len]; exact hk) hd (fun H1 locs1 w1 _ w3 => kk H1 locs1 w1 w3)
    · exact va_putN C.1.1 C.1.2.1 (mr_ts C ht) (fun _ z => z) (mj_ty t) (mj_tyok t ht) (mj_nmok t ht) C.1.2.2.2.1 C.2.1.2.1 q.2.2.2.2.2 mr_ws_D hs (a - 20) he (mj_cls_at t ht) k hk (mr_w C hf) (fun _ z => z) hfin (mj_tyok t ht k hk) hn hfit (by rw [mr_fs_len]; exact hk) hd (fun H1 locs1 w1 _ w3 => kk H1 locs1 w1 w3)
    · exact va_put C.1.1 C.1.2.1 (mr_ts C ht) (fun _ z => z) (mj_ty t) (mj_tyok t ht) (mj_nmok t ht) C.1.2.2.2.1 C.2.1.2.1 q.2.2.2.2.2 mr_ws_D hs (a - 20) he (mj_cls_at t ht) k hk (mr_w C hf) (fun x9 h9 => u_same (mr_w (args := args) C hf2) x9 h9) hfin (mj_tyok t ht k hk) hn hfit (by rw [mr_fs_len]; exact hk) hd (fun H1 locs1 w1 _ w3 => kk H1 locs1 w1 w3)
  · by_cases hfin : (mj_F t k).2.2.2 = false
    · exact va_put C.1.1 C.1.2.1 (mr_ts C ht) (fun _ z => z) (mj_ty t) (mj_tyok t ht) (mj_nmok t ht) C.1.2.2.2.1 C.2.1.2.1 q.2.2.2.2.2 mr_ws_D hs (a - 20) he (mj_cls_at t ht) k hk (mr_w C hA) (fun _ z => z) hfin (mj_tyok t ht k hk) hn hfit (by rw [mr_fs_len]; exact hk) hd (fun H1 locs1 w1 _ w3 => kk H1 locs1 w1 w3)
    · exact va_putF C.1.1 C.1.2.1 (mr_ts C ht) (fun _ z => z) (mj_ty t) (mj_tyok t ht) (mj_nmok t ht) C.1.2.2.2.1 C.2.1.2.1 q.2.2.2.2.2 mr_ws_D hs (a - 20) he (mj_cls_at t ht) k hk (mr_w C hA) (fun _ z => z) (by simpa using hfin) (by rw [C.1.2.2.2.2.2.2.1]; exact hin) hdc (mj_tyok t ht k hk) hn hfit (by rw [mr_fs_len]; exact hk) hd (fun H1 locs1 w1 _ w3 => kk H1 locs1 w1 w3)
theorem mr_putI {X : mr_X} {xs : Nat → Int32} {L : Nat} {p : Program} {l : Launch} {e : Env} {R : Room} {s : State} {m : MethodId} {args : Array Value} {below : List Frame} {meth : Method} {c : Code} {d y : Nat} {Q : State → Prop} {pc : Nat} {H : Heap} {locs : List Loc} {cells slots : Nat} {ls : Array Slot} {lc : List Value} {h : mj_H} {a t k j : Nat} {ps : List Nat} {v : Int32} {r : List Value}
    (C : mr_C X xs L p R s m meth c d y) (hd : decode (mj_by y) pc = .ok (.putfield j, 3)) (hS : mr_S X xs L R s y lc h H locs cells slots ls) (ha : 20 ≤ a) (hT : mj_T h a = t) (ht : t < 11) (hk : k < mj_nf t) (hr : mj_rf t k = false) (hf : mj_flkF y (mj_mn y).cls j t k ps = true) (hn : narrow (mj_ty t k) (.int v) = .int v) (hfit : fits (mj_ty t k) (.int v) = true)
    (kk : ∀ (H1 : Heap) (locs1 : List Loc), mr_S X xs L R s y lc (mj_wI h a k v) H1 locs1 cells slots ls → W p l e R s m args below meth c H1 locs1 cells slots Q (F0 m (pc + 3) ls r)) : W p l e R s m args below meth c H locs cells slots Q (F0 m pc ls (.int v :: mr_v X (.ref a) :: r)) := by
  refine mr_put1 C hd hS.2.2.2.1 hS.2.2.2.2.1 ha hT ht hk hf hn hfit (fun H1 locs1 w1 w2 => kk H1 locs1 (mr_S_h hS rfl rfl (mr_H_wI hS.2.2.2.1 ha (fun z => by omega) ?_) w2))
  rw [← mr_ws_set (X := X) (h := h) (h' := mj_wI h a k v) rfl ha (fun b hb => mr_en_wI hb), mr_en_obj (show mj_T (mj_wI h a k v) a = t from hT) ht, mr_fs_wI hr]
  exact w1
theorem mr_rf_ty {t k : Nat} (ht : t < 11) (hk : k < mj_nf t) : mj_rf t k = true → (∃ n, mj_ty t k = .object n) ∨ ∃ z, mj_ty t k = .array z := by
  intro hr
  have := mj_rfok t ht k hk
  rw [hr] at this
  split at this
  · next n e => exact Or.inl ⟨n, e⟩
  · next z e => exact Or.inr ⟨z, e⟩
  · cases this
theorem mr_rf_false {t k : Nat} (ht : t < 11) (hk : k < mj_nf t) (h : mj_ty t k = .int ∨ mj_ty t k = .boolean ∨ mj_ty t k = .byte) : mj_rf t k = false := by
  rw [mj_rfok t ht k hk]
  rcases h with h | h | h <;> rw [h]
theorem mr_putfield (t : Nat) : mr_T (.putfield t) := by
  intro X xs L p l e R s m args below meth c d y Q pc H locs cells slots ls lc st h n j k S pc' lc' st' h' C hi hS hv hA kk
  obtain ⟨hn, hd⟩ := mj_dd hi rfl
  subst hn
  have hl := mj_lok_ok hi
  simp only [mj_lok, Bool.and_eq_true, decide_eq_true_eq, beq_iff_eq] at hl
  obtain ⟨ht, hk, hr, hf⟩ := hl
  simp only [mj_do] at hv
  split at hv
  · next v a r =>
    cases hv
    obtain ⟨ha, hT⟩ : 20 ≤ a ∧ mj_T h a = t := hA
    exact mr_putI C hd hS ha hT ht hk (mr_rf_false ht hk (Or.inl hr)) hf (by rw [hr]; rfl) (by rw [hr]; rfl) (fun H1 locs1 w => kk _ _ _ _ _ w)
  · cases hv
theorem mr_lstore (t : Nat) : mr_T (.lstore t) := by
  intro X xs L p l e R s m args below meth c d y Q pc H locs cells slots ls lc st h n j k S pc' lc' st' h' C hi hS hv hA kk
  obtain ⟨hn, hd⟩ := mj_dd hi rfl
  subst hn
  have hl := mj_lok_ok hi
  simp only [mj_lok, Bool.and_eq_true, decide_eq_true_eq, beq_iff_eq, Bool.or_eq_true] at hl
  obtain ⟨ht, hk, hr, hf⟩ := hl
  simp only [mj_do] at hv
  split at hv
  · next v a r =>
    cases hv
    obtain ⟨ha, hT, h01⟩ : 20 ≤ a ∧ mj_T h a = t ∧ mj_01 v := hA
    refine mr_putI C hd hS ha hT ht hk (mr_rf_false ht hk (Or.inr hr)) hf ?_ ?_ (fun H1 locs1 w => kk _ _ _ _ _ w)
    · rcases hr with hr | hr <;> rw [hr] <;> rcases h01 with rfl | rfl <;> decide +kernel
    · rcases hr with hr | hr <;> rw [hr] <;> rcases h01 with rfl | rfl <;> decide +kernel
  · cases hv
theorem mr_fstore (t : Nat) : mr_T (.fstore t) := by
  intro X xs L p l e R s m args below meth c d y Q pc H locs cells slots ls lc st h n j k S pc' lc' st' h' C hi hS hv hA kk
  obtain ⟨hn, hd⟩ := mj_dd hi rfl
  subst hn
  have hl := mj_lok_ok hi
  simp only [mj_lok, Bool.and_eq_true, decide_eq_true_eq, beq_iff_eq] at hl
  obtain ⟨ht, hk, hr, hf⟩ := hl
  simp only [mj_do] at hv
  split at hv
  · next v a r =>
    cases hv
    obtain ⟨ha, hT⟩ : 20 ≤ a ∧ mj_T h a = t := hA
    refine mr_put1 C hd hS.2.2.2.1 hS.2.2.2.2.1 ha hT ht hk hf ?_ ?_ (fun H1 locs1 w1 w2 => kk _ _ _ _ _ (mr_S_h hS rfl rfl (mr_H_wR hS.2.2.2.1 ha ?_) w2))
    · show narrow _ (va_rf (mr_o X v)) = va_rf (mr_o X v)
      rcases mr_rf_ty ht hk hr with ⟨z, ez⟩ | ⟨z, ez⟩ <;> rw [ez] <;> cases mr_o X v <;> rfl
    · show fits _ (va_rf (mr_o X v)) = true
      rcases mr_rf_ty ht hk hr with ⟨z, ez⟩ | ⟨z, ez⟩ <;> rw [ez] <;> cases mr_o X v <;> rfl
    · rw [← mr_ws_set (X := X) (h := h) (h' := mj_wR h a k v) rfl ha (fun b hb => mr_en_wR hb), mr_en_obj (show mj_T (mj_wR h a k v) a = t from hT) ht, mr_fs_wR hr]
      exact w1
  · cases hv
theorem mr_getstatic (q : Nat) : mr_T (.getstatic q) := by
  intro X xs L p l e R s m args below meth c d y Q pc H locs cells slots ls lc st h n j k S pc' lc' st' h' C hi hS hv hA kk
  obtain ⟨hn, hd⟩ := mj_dd hi rfl
  subst hn
  have hl := mj_lok_ok hi
  simp only [mj_lok, Bool.and_eq_true, decide_eq_true_eq] at hl
  obtain ⟨hq, hf⟩ := hl
  simp only [mj_do] at hv
  cases hv
  exact va_gets C.1.1 C.1.2.1 (C.2.1.2.2.1.2.2.2.2.2.2.2.1 q hq) hS.2.2.2.2.1 C.1.2.2.2.1 (mr_w C hf) (fun _ z => z) hd (kk _ _ _ _ _ hS)
theorem mr_ldc (q : Nat) : mr_T (.ldc q) := by
  intro X xs L p l e R s m args below meth c d y Q pc H locs cells slots ls lc st h n j k S pc' lc' st' h' C hi hS hv hA kk
  obtain ⟨hn, hd⟩ := mj_dd hi rfl
  subst hn
  have hl := mj_lok_ok hi
  simp only [mj_lok] at hl
  simp only [mj_do] at hv
  cases hv
  have kk := kk _ _ _ _ _ hS
  have hown := C.1.2.2.2.1
  have K := C.2.1.2.2.1
  split at hl
  · simp only [Bool.and_eq_true, beq_iff_eq] at hl
    rw [hl.1] at hown
    rw [hl.2] at hd
    exact va_ldcS C.1.1 C.1.2.1 hown K.2.2.2.2.2.2.2.2.1 hd kk
  · simp only [Bool.and_eq_true, beq_iff_eq] at hl
    rw [hl.1] at hown
    rw [hl.2] at hd
    exact va_ldcS C.1.1 C.1.2.1 hown K.2.2.2.2.2.2.2.2.2.1 hd kk
  · exact va_ldcM C.1.1 C.1.2.1 hown (mr_w C hl) K.2.2.2.2.2.2.2.2.2.2.1 hd kk
  · exact lv_ldc C.1.1 C.1.2.1 hown (mr_w C hl) hd kk
  · exact lv_ldc C.1.1 C.1.2.1 hown (mr_w C hl) hd kk
  · cases hl
