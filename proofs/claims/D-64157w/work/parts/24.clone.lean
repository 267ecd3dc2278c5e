/-! clone and getClass -/
theorem mr_nmB {X : mr_X} {s : State} (hK : va_K (mr_D X) mj_cls (mr_tys X) s) : s.vm.findClass "[B" = some (mr_dA X 17) := (hK.2 1 _ rfl).2
theorem mr_nmK {X : mr_X} {s : State} (hK : va_K (mr_D X) mj_cls (mr_tys X) s) : s.vm.findClass "[LDotBook$Kind;" = some (mr_dA X 20) := va_nmO (hK.2 4 _ rfl).2 rfl
theorem mr_nmO {X : mr_X} {s : State} (hK : va_K (mr_D X) mj_cls (mr_tys X) s) : s.vm.findClass "[Ljava/lang/Object;" = some (mr_dA X 23) := va_nmO (hK.2 7 _ rfl).2 rfl
theorem mr_invokevirtual (z : Nat) : mr_T (.invokevirtual z) := by
  intro X xs L p l e R s m args below meth c d y Q pc H locs cells slots ls lc st h n j k S pc' lc' st' h' C hi hS hv hA kk
  obtain ⟨hn, hd⟩ := mj_dd hi rfl
  subst hn
  have hl := mj_lok_ok hi
  have h4 := mj_c4_ok hi
  have qH := hS.2.2.2.1
  have hK := C.2.1.2.1
  by_cases hz : z = 901
  · subst hz
    simp only [mj_lok, if_pos, Bool.and_eq_true] at hl
    obtain ⟨l1, l2, l3, l4, l5, l6⟩ := hl
    simp only [mj_c4, beq_self_eq_true, Bool.not_true, Bool.false_or] at h4
    simp only [mj_do, mj_n1, if_pos] at hv
    split at hv
    · next a r =>
      cases hb : Nat.ble r.length 8 with
      | false => rw [hb] at hv; cases hv
      | true =>
        rw [hb] at hv
        cases hv
        obtain ⟨ha, hu⟩ := hA
        have hsum := mr_sum8 (X := X) hb
        obtain ⟨rc, rs⟩ := mr_room hu hS.2.1 hS.2.2.1
        have hfr : 1 ≤ R.frames := by have := C.2.2.1; omega
        have hlo : ((r.map (mr_v X)).map fun v => v.category).sum + 14 ≤ R.locals := by have := C.2.2.2; omega
        by_cases hk : k = 7
        · rw [if_pos hk] at ha h4
          subst ha
          have ho : (mj_mn y).cls = "DotBook$Kind" := by simpa using h4
          rw [if_pos ho] at l1 l2 l5 l6
          obtain ⟨r1, r2, -, r4⟩ := qH.2.2.2.1 7 (by omega)
          have hN : mj_N h 7 = 4 := r2
          have hT7 : mj_T h 7 = 20 := r1
          obtain ⟨cell, c1, c2, c3, c4⟩ := C.2.1.2.2.1.2.2.2.2.2.1
          obtain ⟨cell', d1, d2, d3, d4, d5, d6, d7⟩ := C.2.1.2.2.1.2.2.2.2.1
          cases c1.symm.trans d1
          have hcellE : ({ cls := cell.cls, slots := cell.slots } : Cell) = vp_cell (mr_dA X 20) (mj_N h 7, .inr (.inr (.inr (.inr (fun i => mr_o X (mj_R h 7 i)))))) := by
            rw [hN]
            have es : cell.slots = (vp_cell (mr_dA X 20) (4, .inr (.inr (.inr (.inr (fun i => mr_o X (mj_R h 7 i))))))).slots := by
              apply Array.ext_getElem?
              intro i
              by_cases hi4 : i < 4
              · rw [d6 i hi4]
                show _ = (arrV (mr_dA X 20) 4 (fun i => va_rf (mr_o X (mj_R h 7 i)))).slots[i]?
                rw [arrV_read _ _ hi4, r4 i]
                show _ = some (va_rf (mr_o X (8 + i)))
                rw [mr_o_con (by omega) (by omega) (by omega)]; rfl
              · rw [Array.getElem?_eq_none (by omega)]
                show _ = (arrV (mr_dA X 20) 4 (fun i => va_rf (mr_o X (mj_R h 7 i)))).slots[i]?
                rw [Array.getElem?_eq_none (by rw [arrV_size]; omega)]
            rw [es, c2]; rfl
          have hfit : ∀ (i : Nat) (v : Value), cell.slots[i]? = some v → fits (.object "DotBook$Kind") v = true := by
            intro i v hv
            have hi4 : i < 4 := by rw [← c3]; exact (Array.getElem?_eq_some_iff.mp hv).1
            rw [d6 i hi4] at hv
            cases hv
            rfl
          obtain ⟨c0, t0', f1, f2, f3⟩ := Cond.castable_spec (mr_w (args := args) C l6)
          have hnm := mr_nmK hK
          cases hnm.symm.trans f1
          show W p l e R s m args below meth c H locs cells slots Q (F0 m pc ls (mr_v X (.ref 7) :: r.map (mr_v X)))
          rw [mr_v_con (by omega) (by omega) (by omega)]
          intro T hT XX
          have hB7 : ¬ mr_B X ≤ mr_ad X 7 := by omega
          have hcellT : T.heap[mr_ad X 7]? = some cell := by
            rw [hT, hS.2.2.2.2.1.2.1 _ (by have := C.2.1.2.2.2; omega) hB7]; exact c1
          obtain ⟨-, kA, hkA, comp, hkind⟩ := State.isArrayOf_alike XX.warmed.alike ((hK.2 4 _ rfl).1 0 (fun _ => .null))
          obtain ⟨-, kS, hkS, compS, hkindS⟩ := (hK.2 4 _ rfl).1 0 (fun _ => .null)
          have hHH : H.size = mr_B X + (mj_Z h - 20) := by
            have h1 := XX.heapSize
            rw [hT] at h1
            have h2 := mr_size_ge qH (Nat.le_trans C.2.1.2.2.2 hS.2.2.2.2.1.1)
            have h3 := hS.2.2.2.2.2.1
            have h4 := qH.1
            omega
          obtain ⟨vm', X', st⟩ := XX.cloneArray C.1.1 C.1.2.2.2.1 (mr_w C (by rw [ho] at l1 ⊢; exact l1)) (mr_w C l2) (mr_w C l3) (mr_w C l4) (mr_w C l5) (a := mr_ad X 7) (cell := cell) hcellT d2.1 d3 (by rw [c2]; exact hnm) f2 (by rw [c2]; exact f3)
            (fun i v hv => by
              rw [c2]
              have hk' : T.vm.classes[mr_dA X 20]? = some kA := hkA
              simpa [State.fitsSlot, State.slotType?, hk', hkind] using hfit i v hv)
            (g := F0 m pc ls (.ref (mr_ad X 7) :: r.map (mr_v X))) rfl (by rw [mr_ml C hS]) rfl (by rw [C.1.2.1]; exact hd) hfr (by show 2 * 0 + _ + 14 ≤ _; omega) rc (by rw [c3, ← hN]; exact rs) (hloader := by rw [c2]; exact Vm.clonesLoader_of_array hkS hkindS)
          rw [hcellE, c3, ← hN] at X'
          rw [hcellE] at st
          generalize hH1 : H.push (vp_cell (mr_dA X 20) (mj_N h 7, .inr (.inr (.inr (.inr (fun i => mr_o X (mj_R h 7 i))))))) = H1
          have z1 : H1.size = H.size + 1 := by rw [← hH1, Array.size_push]
          have e1 : H1[H.size]? = some (vp_cell (mr_dA X 20) (mj_N h 7, .inr (.inr (.inr (.inr (fun i => mr_o X (mj_R h 7 i))))))) := by rw [← hH1, Array.getElem?_push_size]
          have o1 : ∀ q : Nat, q < H.size → H1[q]? = H[q]? := fun q hq => by rw [← hH1, Array.getElem?_push, if_neg (Nat.ne_of_lt hq)]
          have hP2 : va_P (mr_D X) mj_cls (mr_ws X (mj_cl h 7)) H1 := by
            rw [← mr_ws_push (X := X) (h := h) qH.1 rfl (fun b hb => mr_en_cl hb), mr_en_ref (mj_cl_T.trans hT7) (by omega), mj_cl_N, mj_cl_R, ← hHH]
            refine (qH.2.2.2.2.2.kept (fun k y hy => o1 y.1 ((qH.2.2.2.2.2 k y hy).lt))).app (fun k y hy => ?_)
            have hz : k < 1 := (List.getElem?_eq_some_iff.mp hy).1
            rw [show k = 0 by omega] at hy
            cases hy
            exact e1
          have hS1 : va_S (fun q => mr_B X ≤ q) s.heap H1 locs := ⟨Nat.le_trans hS.2.2.2.2.1.1 (by omega), fun y h1 h2 => (o1 y (Nat.lt_of_lt_of_le h1 hS.2.2.2.2.1.1)).trans (hS.2.2.2.2.1.2.1 y h1 h2), hS.2.2.2.2.1.2.2⟩
          have k2 := kk _ _ _ _ _ (mr_S_cl hS hu (mr_H_cl qH (by omega) (fun z => by omega) hP2) hS1)
          rw [List.map_cons, mr_v_new qH.1, ← hHH] at k2
          obtain ⟨t, b1, b2⟩ := k2 ((T.setVm vm').pushCell (vp_cell (mr_dA X 20) (mj_N h 7, .inr (.inr (.inr (.inr (fun i => mr_o X (mj_R h 7 i)))))))) (by rw [← hH1, ← hT]; rfl) X'
          refine ⟨t, st t ?_, b2⟩
          rw [hT]
          exact b1
        · rw [if_neg hk] at ha h4
          obtain ⟨hT, ha⟩ := ha
          have ho : (mj_mn y).cls ≠ "DotBook$Kind" := by simpa using h4
          rw [if_neg ho] at l1 l2 l5 l6
          show W p l e R s m args below meth c H locs cells slots Q (F0 m pc ls (mr_v X (.ref a) :: r.map (mr_v X)))
          rw [mr_v_new ha]
          have hes := qH.at ha (by omega)
          rw [mr_en_int hT (Or.inr (Or.inl rfl))] at hes
          refine va_clone C.1.1 C.1.2.1 (mr_ml C hS) C.1.2.2.2.1 (mr_w C l1) (mr_w C l2) (mr_w C l3) (mr_w C l4) (mr_w C l5) (mr_wN C l6) hK qH.2.2.2.2.2 mr_ws_D hS.2.2.2.2.1 (fun q hq => Nat.le_trans C.2.1.2.2.2 hq) (a - 20) 1 hes rfl (mr_nmB hK) (fun i v hv => ?_) hfr hlo rc rs hd (fun q H1 hK1 hP1 hD1 hS1 => ?_)
          · have hi4 : i < mj_N h a := by
              have := (Array.getElem?_eq_some_iff.mp hv).1
              have e : (vp_cell (mr_dA X 17) (mj_N h a, .inl (mj_I h a))).slots.size = mj_N h a := arrV_size _ _ _
              omega
            have hv : (arrV (mr_dA X 17) (mj_N h a) (fun i => .int (mj_I h a i))).slots[i]? = some v := hv
            rw [arrV_read _ _ hi4] at hv
            cases hv
            exact mr_fitsb (qH.2.2.2.2.1 a i ha hT)
          · refine mr_Wz (fun hzz => ?_)
            have eq := mr_qx hS.2.2.2.2.2.1 qH.1 hzz hP1 hD1
            subst eq
            have hP2 : va_P (mr_D X) mj_cls (mr_ws X (mj_cl h a)) H1 := by
              rw [← mr_ws_push (X := X) (h := h) qH.1 rfl (fun b hb => mr_en_cl hb), mr_en_int (mj_cl_T.trans hT) (Or.inr (Or.inl rfl)), mj_cl_N, mj_cl_I]; exact hP1
            have := kk _ _ _ _ _ (mr_S_cl hS hu (mr_H_cl qH (by omega) (fun _ => ha) hP2) hS1)
            rw [List.map_cons, mr_v_new qH.1] at this
            exact this
    · cases hv
  · by_cases hz2 : z = 902
    · subst hz2
      simp only [mj_lok, if_neg hz, if_pos, Bool.and_eq_true] at hl
      obtain ⟨l1, l2, l3, l4, l5⟩ := hl
      simp only [mj_do, mj_n1, if_neg hz, if_pos] at hv
      split at hv
      · next a r =>
        cases hb : Nat.ble r.length 8 with
        | false => rw [hb] at hv; cases hv
        | true =>
          rw [hb] at hv
          cases hv
          obtain ⟨hT, ha⟩ := hA
          have hsum := mr_sum8 (X := X) hb
          show W p l e R s m args below meth c H locs cells slots Q (F0 m pc ls (mr_v X (.ref a) :: r.map (mr_v X)))
          rw [mr_v_new ha]
          have hes := qH.at ha (by omega)
          rw [mr_en_ref hT (by omega)] at hes
          have k2 := kk _ _ _ _ _ hS
          rw [List.map_cons, mr_v_con (by omega) (by omega) (by omega)] at k2
          refine va_getC C.1.1 C.1.2.1 (mr_ml C hS) C.1.2.2.2.1 (mr_w C l1) (mr_w C l2) (mr_w C l3) (mr_w C l4) (mr_w C l5) C.2.1.2.2.1.2.2.2.2.2.2.2.2.2.2.1 ⟨_, qH.2.2.2.2.2 _ _ hes, rfl, mr_nmO hK⟩ (by have := C.2.2.1; omega) (by have := C.2.2.2; omega) hd k2
      · cases hv
    · simp only [mj_do, mj_n1, if_neg hz, if_neg hz2] at hv
      cases hv
