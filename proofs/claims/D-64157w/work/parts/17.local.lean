/-! switches, constants, locals -/
theorem mj_sw_len {lo hi x : Int} {l : List Int} (hl : l.length = (hi - lo + 1).toNat) (h1 : ¬ x < lo) (h2 : ¬ hi < x) : (x - lo).toNat < l.length := by omega
theorem mr_tableswitch (df lo hi : Int) (offs : Array Int) : mr_T (.tableswitch df lo hi offs) := by
  intro X xs L p l e R s m args below meth c d y Q pc H locs cells slots ls lc st h n j k S pc' lc' st' h' C hi' hS hv hA kk
  have c3 := mj_c3_ok hi'
  have dd := (mj_dec_ok hi').2
  simp only [mj_c3, Bool.and_eq_true, decide_eq_true_eq] at c3
  obtain ⟨c1, c2, c4, c5⟩ := c3
  simp only [mj_rl] at dd
  simp only [mj_do] at hv
  split at hv
  · next x r =>
    cases hv
    have kk := kk _ _ _ _ _ hS
    unfold mj_sw at kk
    by_cases q : x.toInt < lo ∨ hi < x.toInt
    · rw [if_pos q] at kk
      exact lv_tableOut C.1.1 C.1.2.1 dd q (by omega) kk
    · rw [if_neg q] at kk
      have hlt := mj_sw_len c4 (fun z => q (Or.inl z)) (fun z => q (Or.inr z))
      have hg : offs.toList.getD (x.toInt - lo).toNat 0 = offs.toList[(x.toInt - lo).toNat] := by
        rw [List.getD_eq_getElem?_getD, List.getElem?_eq_getElem hlt]; rfl
      have hp : 0 ≤ offs.toList[(x.toInt - lo).toNat] := by
        have := List.all_eq_true.mp c2 _ (List.getElem_mem hlt)
        simpa using this
      refine lv_tableIn C.1.1 C.1.2.1 dd (fun z => q (Or.inl z)) (fun z => q (Or.inr z)) (off := offs.toList[(x.toInt - lo).toNat] - pc) ?_ ?_ kk
      · rw [List.getElem?_toArray, List.getElem?_map, List.getElem?_eq_getElem hlt]; rfl
      · rw [hg]; omega
  · cases hv
theorem mj_lk_off {x : Int} {d pc : Int} : ∀ (ps : List (Int × Int)), 0 ≤ d → (∀ q ∈ ps, 0 ≤ q.2) → pc + Op.lookupswitch.offset (ps.map (fun q => (q.1, q.2 - pc))) (d - pc) x = (mj_lk x d ps : Nat)
  | [], hd, _ => by
    show pc + (d - pc) = ((d.toNat : Nat) : Int)
    omega
  | (a, t) :: r, hd, h => by
    rw [List.map_cons]
    show pc + (if a = x then t - pc else Op.lookupswitch.offset (r.map (fun q => (q.1, q.2 - pc))) (d - pc) x) = ((if x = a then t.toNat else mj_lk x d r : Nat) : Int)
    by_cases q : a = x
    · rw [if_pos q, if_pos q.symm]
      have := h (a, t) List.mem_cons_self
      simp only at this
      omega
    · rw [if_neg q, if_neg (fun w => q w.symm)]
      exact mj_lk_off r hd (fun q hq => h q (List.mem_cons_of_mem _ hq))
theorem mj_zip_map {pc : Int} : ∀ (ps : List (Int × Int)), (ps.zip (ps.drop 1)).all (fun (a, next) => a.1 < next.1) = true → ((ps.map (fun q => (q.1, q.2 - pc))).zip ((ps.map (fun q => (q.1, q.2 - pc))).drop 1)).all (fun (a, next) => a.1 < next.1) = true
  | [], _ => rfl
  | [_], _ => rfl
  | a :: b :: r, h => by
    have h' : (decide (a.1 < b.1) && ((b :: r).zip ((b :: r).drop 1)).all (fun (a, next) => a.1 < next.1)) = true := h
    rw [Bool.and_eq_true] at h'
    have ih := mj_zip_map (pc := pc) (b :: r) h'.2
    show (decide (a.1 < b.1) && _) = true
    rw [Bool.and_eq_true]
    exact ⟨h'.1, ih⟩
theorem mr_lookupswitch (df : Int) (ps : Array (Int × Int)) : mr_T (.lookupswitch df ps) := by
  intro X xs L p l e R s m args below meth c d y Q pc H locs cells slots ls lc st h n j k S pc' lc' st' h' C hi' hS hv hA kk
  have c3 := mj_c3_ok hi'
  have dd := (mj_dec_ok hi').2
  simp only [mj_c3, Bool.and_eq_true, decide_eq_true_eq] at c3
  obtain ⟨c1, c2, c4⟩ := c3
  simp only [mj_rl] at dd
  simp only [mj_do] at hv
  split at hv
  · next x r =>
    cases hv
    have kk := kk _ _ _ _ _ hS
    have hp : ∀ q ∈ ps.toList, 0 ≤ q.2 := fun q hq => by
      have := List.all_eq_true.mp c2 q hq
      simpa using this
    exact lv_lookup C.1.1 C.1.2.1 dd (by exact mj_zip_map ps.toList c4) rfl (mj_lk_off ps.toList c1 hp) kk
  · cases hv
theorem mr_lo {X : mr_X} {ls : Array Slot} {lc : List Value} {n : Nat} (h : mr_L X ls lc n) (k : Nat) : (∀ x, mj_nth lc k = .int x → ls[k]? = some (.val (.int x))) ∧ (∀ a, mj_nth lc k = .ref a → ls[k]? = some (.val (va_rf (mr_o X a)))) := ⟨(h.2.2.2 k).1, (h.2.2.2 k).2.1⟩
theorem mr_iload (q : Nat) : mr_T (.iload q) := by
  intro X xs L p l e R s m args below meth c d y Q pc H locs cells slots ls lc st h n j k S pc' lc' st' h' C hi hS hv hA kk
  obtain ⟨hn, hd⟩ := mj_dd hi rfl
  subst hn
  simp only [mj_do, mj_lo1] at hv
  split at hv
  · next x eq => cases hv; exact lv_iload C.1.1 C.1.2.1 hd ((mr_lo hS.2.2.2.2.2.2 q).1 x eq) (kk _ _ _ _ _ hS)
  · cases hv
theorem mr_iload_n (q : Fin 4) : mr_T (.iload_n q) := by
  intro X xs L p l e R s m args below meth c d y Q pc H locs cells slots ls lc st h n j k S pc' lc' st' h' C hi hS hv hA kk
  obtain ⟨hn, hd⟩ := mj_dd hi rfl
  subst hn
  simp only [mj_do, mj_lo1] at hv
  split at hv
  · next x eq => cases hv; exact lv_iload_n C.1.1 C.1.2.1 hd rfl ((mr_lo hS.2.2.2.2.2.2 q.val).1 x eq) (kk _ _ _ _ _ hS)
  · cases hv
theorem mr_aload (q : Nat) : mr_T (.aload q) := by
  intro X xs L p l e R s m args below meth c d y Q pc H locs cells slots ls lc st h n j k S pc' lc' st' h' C hi hS hv hA kk
  obtain ⟨hn, hd⟩ := mj_dd hi rfl
  subst hn
  simp only [mj_do, mj_lo2] at hv
  split at hv
  · next x eq =>
    cases hv
    have hx := (mr_lo hS.2.2.2.2.2.2 q).2 x eq
    have kk : W p l e R s m args below meth c H locs cells slots Q (F0 m (pc + 2) ls (va_rf (mr_o X x) :: st.map (mr_v X))) := kk _ _ _ _ _ hS
    revert hx kk
    cases mr_o X x with
    | none => exact fun hx kk => lv_aloadN C.1.1 C.1.2.1 hd hx kk
    | some b => exact fun hx kk => lv_aload C.1.1 C.1.2.1 hd hx kk
  · cases hv
theorem mr_aload_n (q : Fin 4) : mr_T (.aload_n q) := by
  intro X xs L p l e R s m args below meth c d y Q pc H locs cells slots ls lc st h n j k S pc' lc' st' h' C hi hS hv hA kk
  obtain ⟨hn, hd⟩ := mj_dd hi rfl
  subst hn
  simp only [mj_do, mj_lo2] at hv
  split at hv
  · next x eq =>
    cases hv
    have hx := (mr_lo hS.2.2.2.2.2.2 q.val).2 x eq
    have kk : W p l e R s m args below meth c H locs cells slots Q (F0 m (pc + 1) ls (va_rf (mr_o X x) :: st.map (mr_v X))) := kk _ _ _ _ _ hS
    revert hx kk
    cases mr_o X x with
    | none => exact fun hx kk => lv_aload_nN C.1.1 C.1.2.1 hd rfl hx kk
    | some b => exact fun hx kk => lv_aload_n C.1.1 C.1.2.1 hd rfl hx kk
  · cases hv
/-- the locals as the kit's rows have them -/
def mr_lv (X : mr_X) (lc : List Value) : List (Nat × Value) := (List.range lc.length).filterMap (fun i => match mj_nth lc i with
  | .int x => some (i, .int x)
  | .ref a => some (i, mr_v X (.ref a))
  | _ => none)
theorem mj_nth_ge : ∀ {lc : List Value} {i : Nat}, lc.length ≤ i → mj_nth lc i = .retAddr 0
  | [], _, _ => by unfold mj_nth; rfl
  | _ :: l, 0, h => by simp at h
  | _ :: l, i + 1, h => by unfold mj_nth; exact mj_nth_ge (by simpa using h)
theorem mr_lv_in {X : mr_X} {lc : List Value} {i : Nat} : (∀ x, mj_nth lc i = .int x → (i, Value.int x) ∈ mr_lv X lc) ∧ (∀ a, mj_nth lc i = .ref a → (i, mr_v X (.ref a)) ∈ mr_lv X lc) := by
  have hlt : ∀ v, mj_nth lc i = v → v ≠ .retAddr 0 → i < lc.length := fun v e hv => by
    rcases Nat.lt_or_ge i lc.length with q | q
    · exact q
    · exact absurd (e.symm.trans (mj_nth_ge q)) hv
  refine ⟨fun x e => ?_, fun a e => ?_⟩
  · exact List.mem_filterMap.mpr ⟨i, List.mem_range.mpr (hlt _ e (by simp)), by rw [e]⟩
  · exact List.mem_filterMap.mpr ⟨i, List.mem_range.mpr (hlt _ e (by simp)), by rw [e]⟩
theorem mr_lv_has {X : mr_X} {ls : Array Slot} {lc : List Value} {n : Nat} (h : mr_L X ls lc n) : lv_has ls n (mr_lv X lc) := by
  obtain ⟨h1, h2, h3, h4⟩ := h
  refine ⟨h1, h2, fun q hq => ?_⟩
  obtain ⟨i, -, hi⟩ := List.mem_filterMap.mp hq
  split at hi
  · next x eq => cases hi; exact (h4 i).1 x eq
  · next a eq => cases hi; exact (h4 i).2.1 a eq
  · cases hi
theorem mr_L_store {X : mr_X} {ls ls' : Array Slot} {lc l : List Value} {n k : Nat} {v : Value} (h : mr_L X ls lc n) (hv : (∃ x, v = .int x) ∨ ∃ a, v = .ref a) (hs : mj_set lc k v = some l)
    (h' : lv_has ls' n ((k, mr_v X v) :: (mr_lv X lc).filter (fun q => !(q.1 == k) && !(q.1 + 1 == k && q.2.category == 2)))) : mr_L X ls' l n := by
  obtain ⟨a1, a2, a3⟩ := mj_set_ok hs
  obtain ⟨h1, h2, h3, h4⟩ := h
  obtain ⟨b1, b2, b3⟩ := h'
  refine ⟨b1, b2, a2.trans h3, fun i => ?_⟩
  rw [a3 i]
  by_cases q : i = k
  · rw [if_pos q]
    subst q
    have hk := b3 (i, mr_v X v) List.mem_cons_self
    refine ⟨fun x e => ?_, fun a e => ?_, fun x e => ?_, fun x e => ?_⟩
    · subst e; exact hk
    · subst e; exact hk
    · subst e; rcases hv with ⟨_, e⟩ | ⟨_, e⟩ <;> cases e
    · subst e; rcases hv with ⟨_, e⟩ | ⟨_, e⟩ <;> cases e
  · rw [if_neg q]
    refine ⟨fun x e => ?_, fun a e => ?_, (h4 i).2.2.1, (h4 i).2.2.2⟩
    · exact b3 (i, .int x) (List.mem_cons_of_mem _ (List.mem_filter.mpr ⟨mr_lv_in.1 x e, by simp [q, Value.category]⟩))
    · exact b3 (i, mr_v X (.ref a)) (List.mem_cons_of_mem _ (List.mem_filter.mpr ⟨mr_lv_in.2 a e, by simp [q, mr_cat]⟩))
theorem mr_S_lc {X : mr_X} {xs : Nat → Int32} {L : Nat} {R : Room} {s : State} {y : Nat} {lc lc' : List Value} {h : mj_H} {H : Heap} {locs : List Loc} {cells slots : Nat} {ls ls' : Array Slot} (hS : mr_S X xs L R s y lc h H locs cells slots ls) (hl : mr_L X ls' lc' (mj_ml y)) : mr_S X xs L R s y lc' h H locs cells slots ls' :=
  ⟨hS.1, hS.2.1, hS.2.2.1, hS.2.2.2.1, hS.2.2.2.2.1, hS.2.2.2.2.2.1, hl⟩
theorem mr_set_lt {X : mr_X} {ls : Array Slot} {lc l : List Value} {n k : Nat} {v : Value} (h : mr_L X ls lc n) (hs : mj_set lc k v = some l) : k < n := by
  rw [← h.2.2.1]; exact (mj_set_ok hs).1
theorem mr_istore (q : Nat) : mr_T (.istore q) := by
  intro X xs L p l e R s m args below meth c d y Q pc H locs cells slots ls lc st h n j k S pc' lc' st' h' C hi hS hv hA kk
  obtain ⟨hn, hd⟩ := mj_dd hi rfl
  subst hn
  simp only [mj_do, mj_st1] at hv
  split at hv
  · next x r =>
    split at hv
    · next l' eq =>
      cases hv
      have hl := hS.2.2.2.2.2.2
      exact lv_istore C.1.1 C.1.2.1 hd (mr_lv_has hl) (mr_set_lt hl eq) rfl (fun ls' h2 => kk _ _ _ _ _ (mr_S_lc hS (mr_L_store hl (Or.inl ⟨_, rfl⟩) eq h2)))
    · cases hv
  · cases hv
theorem mr_istore_n (q : Fin 4) : mr_T (.istore_n q) := by
  intro X xs L p l e R s m args below meth c d y Q pc H locs cells slots ls lc st h n j k S pc' lc' st' h' C hi hS hv hA kk
  obtain ⟨hn, hd⟩ := mj_dd hi rfl
  subst hn
  simp only [mj_do, mj_st1] at hv
  split at hv
  · next x r =>
    split at hv
    · next l' eq =>
      cases hv
      have hl := hS.2.2.2.2.2.2
      exact lv_istore_n C.1.1 C.1.2.1 hd rfl (mr_lv_has hl) (mr_set_lt hl eq) rfl (fun ls' h2 => kk _ _ _ _ _ (mr_S_lc hS (mr_L_store hl (Or.inl ⟨_, rfl⟩) eq h2)))
    · cases hv
  · cases hv
theorem mr_astore (q : Nat) : mr_T (.astore q) := by
  intro X xs L p l e R s m args below meth c d y Q pc H locs cells slots ls lc st h n j k S pc' lc' st' h' C hi hS hv hA kk
  obtain ⟨hn, hd⟩ := mj_dd hi rfl
  subst hn
  simp only [mj_do, mj_st2] at hv
  split at hv
  · next x r =>
    split at hv
    · next l' eq =>
      cases hv
      have hl := hS.2.2.2.2.2.2
      have kk : ∀ ls', lv_has ls' (mj_ml y) ((q, va_rf (mr_o X x)) :: (mr_lv X lc).filter (fun z => !(z.1 == q) && !(z.1 + 1 == q && z.2.category == 2))) → W p l e R s m args below meth c H locs cells slots Q (F0 m (pc + 2) ls' (st'.map (mr_v X))) := fun ls' h2 => kk _ _ _ _ _ (mr_S_lc hS (mr_L_store hl (Or.inr ⟨_, rfl⟩) eq h2))
      show W p l e R s m args below meth c H locs cells slots Q (F0 m pc ls (va_rf (mr_o X x) :: st'.map (mr_v X)))
      revert kk
      cases mr_o X x with
      | none => exact fun kk => lv_astoreN C.1.1 C.1.2.1 hd (mr_lv_has hl) (mr_set_lt hl eq) rfl kk
      | some b => exact fun kk => lv_astore C.1.1 C.1.2.1 hd (mr_lv_has hl) (mr_set_lt hl eq) rfl kk
    · cases hv
  · cases hv
theorem mr_astore_n (q : Fin 4) : mr_T (.astore_n q) := by
  intro X xs L p l e R s m args below meth c d y Q pc H locs cells slots ls lc st h n j k S pc' lc' st' h' C hi hS hv hA kk
  obtain ⟨hn, hd⟩ := mj_dd hi rfl
  subst hn
  simp only [mj_do, mj_st2] at hv
  split at hv
  · next x r =>
    split at hv
    · next l' eq =>
      cases hv
      have hl := hS.2.2.2.2.2.2
      have kk : ∀ ls', lv_has ls' (mj_ml y) ((q.val, va_rf (mr_o X x)) :: (mr_lv X lc).filter (fun z => !(z.1 == q.val) && !(z.1 + 1 == q.val && z.2.category == 2))) → W p l e R s m args below meth c H locs cells slots Q (F0 m (pc + 1) ls' (st'.map (mr_v X))) := fun ls' h2 => kk _ _ _ _ _ (mr_S_lc hS (mr_L_store hl (Or.inr ⟨_, rfl⟩) eq h2))
      show W p l e R s m args below meth c H locs cells slots Q (F0 m pc ls (va_rf (mr_o X x) :: st'.map (mr_v X)))
      revert kk
      cases mr_o X x with
      | none => exact fun kk => lv_astore_nN C.1.1 C.1.2.1 hd rfl (mr_lv_has hl) (mr_set_lt hl eq) rfl kk
      | some b => exact fun kk => lv_astore_n C.1.1 C.1.2.1 hd rfl (mr_lv_has hl) (mr_set_lt hl eq) rfl kk
    · cases hv
  · cases hv
theorem mr_inc {X : mr_X} {xs : Nat → Int32} {L : Nat} {p : Program} {l : Launch} {e : Env} {R : Room} {s : State} {m : MethodId} {args : Array Value} {below : List Frame} {meth : Method} {c : Code} {d y : Nat} {Q : State → Prop} {pc : Nat} {H : Heap} {locs : List Loc} {cells slots : Nat} {ls : Array Slot} {lc st : List Value} {h : mj_H} {q : Nat} {z : Int} {x w : Int32} {l' : List Value}
    (C : mr_C X xs L p R s m meth c d y) (hd : decode (mj_by y) pc = .ok (.iinc q z, 3)) (hS : mr_S X xs L R s y lc h H locs cells slots ls) (hx : mj_nth lc q = .int x) (hw : Int32.ofInt z = w) (hs : mj_set lc q (.int (x + w)) = some l')
    (kk : ∀ (ls' : Array Slot), mr_S X xs L R s y l' h H locs cells slots ls' → W p l e R s m args below meth c H locs cells slots Q (F0 m (pc + 3) ls' (st.map (mr_v X)))) : W p l e R s m args below meth c H locs cells slots Q (F0 m pc ls (st.map (mr_v X))) := by
  have hl := hS.2.2.2.2.2.2
  obtain ⟨i, hi⟩ := List.getElem?_of_mem (mr_lv_in (X := X).1 x hx)
  exact lv_iinc C.1.1 C.1.2.1 hd (mr_lv_has hl) hi (by rw [hw]) (mr_set_lt hl hs) rfl (fun ls' h2 => kk _ (mr_S_lc hS (mr_L_store hl (Or.inl ⟨_, rfl⟩) hs h2)))
theorem mr_iinc (q : Nat) (z : Int) : mr_T (.iinc q z) := by
  intro X xs L p l e R s m args below meth c d y Q pc H locs cells slots ls lc st h n j k S pc' lc' st' h' C hi hS hv hA kk
  have c3 := mj_c3_ok hi
  have dd := (mj_dec_ok hi).2
  simp only [mj_c3, Bool.and_eq_true, beq_iff_eq, decide_eq_true_eq] at c3
  obtain ⟨hn, hw⟩ := c3
  subst hn
  rw [show pc + 3 - pc = 3 by omega] at dd
  simp only [mj_do] at hv
  split at hv
  · next x hx =>
    split at hv
    · next l' eq => cases hv; exact mr_inc C dd hS hx hw eq (fun ls' h2 => kk _ _ _ _ _ h2)
    · cases hv
  · cases hv
theorem mr_multianewarray (q z : Nat) : mr_T (.multianewarray q z) := by
  intro X xs L p l e R s m args below meth c d y Q pc H locs cells slots ls lc st h n j k S pc' lc' st' h' C hi hS hv hA kk
  have c3 := mj_c3_ok hi
  have dd := (mj_dec_ok hi).2
  simp only [mj_c3, Bool.and_eq_true, beq_iff_eq, decide_eq_true_eq] at c3
  obtain ⟨hn, hw⟩ := c3
  subst hn
  rw [show pc + 3 - pc = 3 by omega] at dd
  simp only [mj_do] at hv
  split at hv
  · next x hx =>
    split at hv
    · next l' eq => cases hv; exact mr_inc C dd hS hx hw eq (fun ls' h2 => kk _ _ _ _ _ h2)
    · cases hv
  · cases hv
