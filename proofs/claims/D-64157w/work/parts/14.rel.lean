/-! THE SMALL MACHINE AND THE REAL ONE: the relation -/
/-- B: the heap's size at the law's entry; where the constants lie; the formatter; classes; array classes -/
abbrev mr_X : Type := Nat × (Nat → Nat) × Option Nat × va_G × (Nat → ClassId)
def mr_B (X : mr_X) : Nat := X.1
def mr_ad (X : mr_X) : Nat → Nat := X.2.1
def mr_si (X : mr_X) : Option Nat := X.2.2.1
def mr_D (X : mr_X) : va_G := X.2.2.2.1
def mr_dA (X : mr_X) : Nat → ClassId := X.2.2.2.2
def mr_o (X : mr_X) (n : Nat) : Option Nat := if n = 0 then none else if n = 15 then mr_si X else if n < 20 then some (mr_ad X n) else some (mr_B X + (n - 20))
def mr_v (X : mr_X) : Value → Value
  | .ref n => va_rf (mr_o X n)
  | v => v
theorem mr_o_new {X : mr_X} {n : Nat} (h : 20 ≤ n) : mr_o X n = some (mr_B X + (n - 20)) := by
  unfold mr_o
  rw [if_neg (by omega), if_neg (by omega), if_neg (by omega)]
theorem mr_v_new {X : mr_X} {n : Nat} (h : 20 ≤ n) : mr_v X (.ref n) = .ref (mr_B X + (n - 20)) := by
  show va_rf (mr_o X n) = _
  rw [mr_o_new h]; rfl
theorem mr_o_con {X : mr_X} {n : Nat} (h0 : n ≠ 0) (h1 : n ≠ 15) (h : n < 20) : mr_o X n = some (mr_ad X n) := by
  unfold mr_o
  rw [if_neg h0, if_neg h1, if_pos h]
theorem mr_v_con {X : mr_X} {n : Nat} (h0 : n ≠ 0) (h1 : n ≠ 15) (h : n < 20) : mr_v X (.ref n) = .ref (mr_ad X n) := by
  show va_rf (mr_o X n) = _
  rw [mr_o_con h0 h1 h]; rfl
/-- the constants: tag, length, contents -/
def mc_T : Nat → Nat
  | 1 => 16 | 2 => 16 | 3 => 2 | 4 => 17 | 5 => 2 | 6 => 17 | 7 => 20 | 8 => 11 | 9 => 11 | 10 => 11 | 11 => 11 | 12 => 23 | 13 => 17 | 14 => 17 | 15 => 12 | 16 => 12 | 17 => 16 | _ => 63
def mc_N (L : Nat) : Nat → Nat
  | 1 => 26 | 2 => 8 | 4 => 8 | 6 => 5 | 7 => 4 | 13 => 100 | 14 => 100 | 17 => L | _ => 0
def mc_lets : List Nat := [1, 3, 9, 25, 17, 11, 27, 19, 10, 26, 5, 7, 13, 29, 21, 15, 31, 23, 14, 30, 37, 39, 58, 45, 61, 53]
def mc_mrks : List Nat := [50, 2, 6, 18, 38, 22, 36, 4]
def mc_mtxt : List Nat := [46, 44, 59, 58, 63, 33, 45, 39]
def mc_ktxt : List Nat := [119, 98, 109, 101, 97]
def mc_I (xs : Nat → Int32) (a i : Nat) : Int32 := match a with
  | 1 => nI (mc_lets.getD i 0) | 2 => nI (mc_mrks.getD i 0) | 4 => nI (mc_mtxt.getD i 0) | 6 => nI (mc_ktxt.getD i 0) | 13 => nI (48 + i / 10) | 14 => nI (48 + i % 10) | 17 => xs i | _ => nI 0
def mc_R (a i : Nat) : Nat := match a with
  | 3 => if i = 0 then 4 else 0 | 5 => if i = 0 then 6 else 0 | 7 => 8 + i | _ => 0
/-- a cell of the heap -/
def mr_en (X : mr_X) (h : mj_H) (a : Nat) : va_E :=
  if mj_T h a < 11 then .inr (mj_T h a, (List.range (mj_nf (mj_T h a))).map (fun k => bif mj_rf (mj_T h a) k then mr_v X (.ref (mj_R h a k)) else .int (mj_I h a k)))
  else if mj_T h a = 19 then .inl (mr_dA X 19, (mj_N h a, .inr (.inl (mj_L h a))))
  else if mj_T h a < 20 then .inl (mr_dA X (mj_T h a), (mj_N h a, .inl (mj_I h a)))
  else .inl (mr_dA X (mj_T h a), (mj_N h a, .inr (.inr (.inr (.inr (fun i => mr_o X (mj_R h a i)))))))
def mr_ws (X : mr_X) (h : mj_H) : va_W := (List.range (mj_Z h - 20)).map (fun i => (mr_B X + i, mr_en X h (20 + i)))
theorem mr_ws_at {X : mr_X} {h : mj_H} {a : Nat} (h1 : 20 ≤ a) (h2 : a < mj_Z h) : (mr_ws X h)[a - 20]? = some (mr_B X + (a - 20), mr_en X h a) := by
  unfold mr_ws
  rw [List.getElem?_map, List.getElem?_range (by omega)]
  show some (mr_B X + (a - 20), mr_en X h (20 + (a - 20))) = _
  rw [Nat.add_sub_cancel' h1]
theorem mr_ws_D {X : mr_X} {h : mj_H} : va_D (fun q => mr_B X ≤ q) (mr_ws X h) := by
  have at' : ∀ (i : Nat) (q : Nat × va_E), (mr_ws X h)[i]? = some q → q.1 = mr_B X + i := by
    intro i q hq
    unfold mr_ws at hq
    rw [List.getElem?_map] at hq
    cases hr : (List.range (mj_Z h - 20))[i]? with
    | none => rw [hr] at hq; cases hq
    | some z =>
      rw [hr] at hq
      cases hq
      have := (List.getElem?_eq_some_iff.mp hr)
      obtain ⟨w, e⟩ := this
      simp at e
      simp [e]
  refine ⟨fun i j x z hx hz e => ?_, fun i x hx => ?_⟩
  · have a1 := at' i x hx
    have a2 := at' j z hz
    omega
  · have a1 := at' i x hx
    show mr_B X ≤ x.1
    omega
/-- a list of cells that differs at one place -/
theorem mr_ws_set {X : mr_X} {h h' : mj_H} {a : Nat} (hz : mj_Z h' = mj_Z h) (h1 : 20 ≤ a) (ho : ∀ b, b ≠ a → mr_en X h' b = mr_en X h b) : (mr_ws X h).set (a - 20) (mr_B X + (a - 20), mr_en X h' a) = mr_ws X h' := by
  apply List.ext_getElem?
  intro i
  rw [List.getElem?_set]
  unfold mr_ws
  rw [hz]
  by_cases hi : a - 20 = i
  · subst hi
    rw [if_pos rfl]
    simp only [List.length_map, List.length_range, List.getElem?_map]
    by_cases hl : a - 20 < mj_Z h - 20
    · rw [if_pos hl, List.getElem?_range hl]
      show _ = some (mr_B X + (a - 20), mr_en X h' (20 + (a - 20)))
      rw [Nat.add_sub_cancel' h1]
    · rw [if_neg hl, List.getElem?_eq_none (by simp; omega)]
      rfl
  · rw [if_neg hi]
    simp only [List.getElem?_map]
    by_cases hl : i < mj_Z h - 20
    · rw [List.getElem?_range hl]
      show some (mr_B X + i, mr_en X h (20 + i)) = some (mr_B X + i, mr_en X h' (20 + i))
      rw [ho (20 + i) (by omega)]
    · rw [List.getElem?_eq_none (by simp; omega)]
      rfl
theorem mr_ws_push {X : mr_X} {h h' : mj_H} (h0 : 20 ≤ mj_Z h) (hz : mj_Z h' = mj_Z h + 1) (ho : ∀ b, b ≠ mj_Z h → mr_en X h' b = mr_en X h b) : mr_ws X h ++ [(mr_B X + (mj_Z h - 20), mr_en X h' (mj_Z h))] = mr_ws X h' := by
  unfold mr_ws
  rw [hz, show mj_Z h + 1 - 20 = (mj_Z h - 20) + 1 by omega, List.range_succ, List.map_append]
  congr 1
  · apply List.map_congr_left
    intro i hi
    have hi := List.mem_range.mp hi
    rw [ho (20 + i) (by omega)]
  · simp only [List.map_cons, List.map_nil]
    rw [Nat.add_sub_cancel' h0]
def mr_tys (X : mr_X) : List (ClassId × FieldType) := [(mr_dA X 16, .int), (mr_dA X 17, .byte), (mr_dA X 18, .char), (mr_dA X 19, .long), (mr_dA X 20, .object "DotBook$Kind"), (mr_dA X 21, .object "DotBook$Rule"), (mr_dA X 22, .object "DotBook$Block"), (mr_dA X 23, .object "java/lang/Object")]
/-- the heaps agree -/
def mr_H (X : mr_X) (xs : Nat → Int32) (L : Nat) (h : mj_H) (H : Heap) : Prop :=
  20 ≤ mj_Z h ∧ (∀ a, mj_Z h ≤ a → mj_T h a = 63) ∧ (∀ a, 20 ≤ a → a < mj_Z h → mj_T h a < 11 ∨ (16 ≤ mj_T h a ∧ mj_T h a ≤ 23)) ∧
  (∀ a, a < 20 → mj_T h a = mc_T a ∧ mj_N h a = mc_N L a ∧ (∀ i, mj_I h a i = mc_I xs a i) ∧ (∀ i, mj_R h a i = mc_R a i)) ∧
  (∀ a i, 20 ≤ a → mj_T h a = 17 → mj_b (mj_I h a i) = mj_I h a i) ∧ va_P (mr_D X) mj_cls (mr_ws X h) H
theorem mr_H.lt {X : mr_X} {xs : Nat → Int32} {L : Nat} {h : mj_H} {H : Heap} (q : mr_H X xs L h H) {a : Nat} (ha : mj_T h a ≠ 63) : a < mj_Z h := by
  rcases Nat.lt_or_ge a (mj_Z h) with z | z
  · exact z
  · exact absurd (q.2.1 a z) ha
theorem mr_H.at {X : mr_X} {xs : Nat → Int32} {L : Nat} {h : mj_H} {H : Heap} (q : mr_H X xs L h H) {a : Nat} (h1 : 20 ≤ a) (ha : mj_T h a ≠ 63) : (mr_ws X h)[a - 20]? = some (mr_B X + (a - 20), mr_en X h a) := mr_ws_at h1 (q.lt ha)
/-- the locals agree -/
def mr_L (X : mr_X) (ls : Array Slot) (lc : List Value) (n : Nat) : Prop := ls.size = n ∧ lv_wf ls ∧ lc.length = n ∧ ∀ i, (∀ x, mj_nth lc i = .int x → ls[i]? = some (.val (.int x))) ∧ (∀ a, mj_nth lc i = .ref a → ls[i]? = some (.val (mr_v X (.ref a)))) ∧ (∀ x, mj_nth lc i ≠ .long x) ∧ ∀ x, mj_nth lc i ≠ .double x
/-- a static field's slot -/
def mt_LS (C n d : String) (A : Nat → Prop) (U : State) (H : Heap) : Prop := ∃ (c : ClassId) (k : Class) (i : Nat) (f : Field) (a : Nat) (cell : Cell), U.vm.findClass C = some c ∧ U.fieldFound? C n d = some (c, k, i, f) ∧ f.isStatic = true ∧ k.statics = some a ∧ H[a]? = some cell ∧ cell.vm.isStatics = true ∧ cell.cls = c ∧ f.slot < cell.slots.size ∧ k.staticTypes[f.slot]? = some f.type ∧ ¬ A a
theorem mt_LS.moved {C n d : String} {A : Nat → Prop} {u U : State} {H : Heap} (hvm : u.vm.Alike U.vm) (h : mt_LS C n d A u H) : mt_LS C n d A U H := by
  obtain ⟨c, k, i, f, a, cell, h0, h1, h2, h3, h4, h5, h6, h7, h8, h9⟩ := h
  obtain ⟨k', hi', he⟩ := State.fieldFound?_setVm hvm h1
  exact ⟨c, k', i, f, a, cell, by rw [hvm.findClass]; exact h0, hi', h2, by rw [he]; exact h3, h4, h5, h6, h7, by rw [he]; exact h8, h9⟩
theorem mt_LS.kept {C n d : String} {A : Nat → Prop} {U : State} {H H1 : Heap} (h : mt_LS C n d A U H) (hq : ∀ a : Nat, a < H.size → ¬ A a → H1[a]? = H[a]?) : mt_LS C n d A U H1 := by
  obtain ⟨c, k, i, f, a, cell, h0, h1, h2, h3, h4, h5, h6, h7, h8, h9⟩ := h
  exact ⟨c, k, i, f, a, cell, h0, h1, h2, h3, by rw [hq a (Array.getElem?_eq_some_iff.mp h4).1 h9]; exact h4, h5, h6, h7, h8, h9⟩
theorem mt_LS.use {C n d : String} {A : Nat → Prop} {s : State} {args : Array Value} (h : mt_LS C n d A s s.heap) : (Cond.laysStatic C n d).before args s = true := by
  obtain ⟨c, k, i, f, a, cell, h0, h1, h2, h3, h4, h5, h6, h7, h8, h9⟩ := h
  simp [Cond.before, Cond.holds, Cond.value, h0, h1, h2, h3, h4, h5, h6, h7, h8]
theorem mt_LS.of {C n d : String} {A : Nat → Prop} {s : State} {args : Array Value} (h : (Cond.laysStatic C n d).before args s = true) (hA : ∀ a : Nat, a < s.heap.size → ¬ A a) : mt_LS C n d A s s.heap := by
  obtain ⟨c, k, i, f, a, cell, h0, h1, h2, h3, h4, h5, h6, h7, h8⟩ := Cond.laysStatic_spec h
  exact ⟨c, k, i, f, a, cell, h0, h1, h2, h3, h4, h5, h6, h7, h8, hA a (Array.getElem?_eq_some_iff.mp h4).1⟩
/-- the constants and the tables' words -/
def mr_K (X : mr_X) (xs : Nat → Int32) (L : Nat) (s : State) : Prop :=
  (∀ a, a < 20 → mc_T a = 16 → va_T .int (mr_ad X a) (mc_N L a) (fun i => .int (mc_I xs a i)) (fun q => mr_B X ≤ q) s s.heap) ∧
  (∀ a, a < 20 → mc_T a = 17 → va_T .byte (mr_ad X a) (mc_N L a) (fun i => .int (mc_I xs a i)) (fun q => mr_B X ≤ q) s s.heap) ∧
  (∀ a, a < 20 → mc_T a = 2 → va_OF "java/lang/String" "value" "[B" (.ref (mr_ad X (a + 1))) (mr_ad X a) (fun q => mr_B X ≤ q) s s.heap ∧ va_OF "java/lang/String" "coder" "B" (.int 0) (mr_ad X a) (fun q => mr_B X ≤ q) s s.heap ∧ va_O "java/lang/String" (mr_ad X a) (fun q => mr_B X ≤ q) s s.heap) ∧
  (∀ a, a < 20 → mc_T a = 11 → va_O "DotBook$Kind" (mr_ad X a) (fun q => mr_B X ≤ q) s s.heap) ∧
  va_T (.object "DotBook$Kind") (mr_ad X 7) 4 (fun i => .ref (mr_ad X (8 + i))) (fun q => mr_B X ≤ q) s s.heap ∧
  (∃ cell : Cell, s.heap[mr_ad X 7]? = some cell ∧ cell.cls = mr_dA X 20 ∧ cell.slots.size = 4 ∧ mr_ad X 7 < mr_B X) ∧
  va_T (.object "java/lang/Object") (mr_ad X 12) 0 (fun _ => .null) (fun q => mr_B X ≤ q) s s.heap ∧
  (∀ q, q < 12 → va_Z (mj_stn q).1 (mj_stn q).2.1 (mj_stn q).2.2 (mr_v X (mj_sv q)) (fun q => mr_B X ≤ q) s s.heap) ∧
  vk_R "DotBook" 137 "wbmea" (mr_ad X 5) s ∧ vk_R "DotBook" 27 ".,;:?!-'" (mr_ad X 3) s ∧ va_Mi "[Ljava/lang/Object;" (mr_ad X 16) s ∧
  (∀ t, 20 ≤ t → t ≤ 23 → va_AO (mj_AN t) s) ∧
  (va_Zq "java/lang/Throwable" "UNASSIGNED_STACK" "[Ljava/lang/StackTraceElement;" (fun q => mr_B X ≤ q) s s.heap ∧ mt_LS "java/lang/Throwable" "UNASSIGNED_STACK" "[Ljava/lang/StackTraceElement;" (fun q => mr_B X ≤ q) s s.heap) ∧
  (va_Zq "java/lang/Throwable" "SUPPRESSED_SENTINEL" "Ljava/util/List;" (fun q => mr_B X ≤ q) s s.heap ∧ mt_LS "java/lang/Throwable" "SUPPRESSED_SENTINEL" "Ljava/util/List;" (fun q => mr_B X ≤ q) s s.heap) ∧
  va_Nc "java/lang/IllegalStateException" "java/lang/IllegalArgumentException" s ∧
  (∀ a b, 8 ≤ a → a ≤ 11 → 8 ≤ b → b ≤ 11 → mr_ad X a = mr_ad X b → a = b) ∧ (∀ a, a < 20 → a ≠ 16 → mr_ad X a < mr_B X)
def mr_G (X : mr_X) (xs : Nat → Int32) (L : Nat) (s : State) : Prop := (∀ w, w ∈ lw_tbl → mj_mv w = true → va_Nw w s) ∧ va_K (mr_D X) mj_cls (mr_tys X) s ∧ mr_K X xs L s ∧ mr_B X ≤ s.heap.size
theorem mr_G.moved {X : mr_X} {xs : Nat → Int32} {L : Nat} {s U : State} (g : mr_G X xs L s) (hW : s.WarmedH U.vm) (hz : s.heap.size ≤ U.heap.size) (hk : ∀ q : Nat, q < s.heap.size → ¬ mr_B X ≤ q → U.heap[q]? = s.heap[q]?) : mr_G X xs L U := by
  obtain ⟨g1, g2, g3, g4⟩ := g
  refine ⟨fun w h1 h2 => mj_mv_warm h2 hW (g1 w h1 h2), va_K.moved hW.alike g2, ?_, Nat.le_trans g4 hz⟩
  obtain ⟨k1, k2, k3, k4, k5, k6, k7, k8, k9, k10, k11, k12, k13, k14, k15, k16, k17⟩ := g3
  have hvm := hW.alike
  refine ⟨fun a h1 h2 => ((k1 a h1 h2).kept hk).moved hvm, fun a h1 h2 => ((k2 a h1 h2).kept hk).moved hvm, fun a h1 h2 => ?_, fun a h1 h2 => ((k4 a h1 h2).kept hk).moved hvm, (k5.kept hk).moved hvm, ?_, (k7.kept hk).moved hvm, fun q hq => ((k8 q hq).kept hk).moved hvm, k9.warm hW, k10.warm hW, k11.moved hvm, fun t h1 h2 => (k12 t h1 h2).moved hvm, ⟨(k13.1.kept hk).moved hvm, (k13.2.kept hk).moved hvm⟩, ⟨(k14.1.kept hk).moved hvm, (k14.2.kept hk).moved hvm⟩, k15.moved hvm, k16, k17⟩
  · obtain ⟨a1, a2, a3⟩ := k3 a h1 h2
    exact ⟨(a1.kept hk).moved hvm, (a2.kept hk).moved hvm, (a3.kept hk).moved hvm⟩
  · obtain ⟨cell, c1, c2, c3, c5⟩ := k6
    exact ⟨cell, by rw [hk _ (by omega) (by omega)]; exact c1, c2, c3, c5⟩
/-- a method's frame -/
def mr_F (y : Nat) (p : Program) (s : State) (m : MethodId) (meth : Method) (c : Code) : Prop :=
  p.tables.exec = Jvm.exec ∧ c.code = mj_by y ∧ c.maxLocals = mj_ml y ∧ s.vm.findClass (mj_mn y).cls = some m.cls ∧ meth.sig.returnType = mj_rt y ∧ meth.locks = false ∧ meth.name = (mj_mn y).name ∧ c.exceptionTable.toList.map (fun x => (x.startPc, x.endPc, x.handlerPc, x.catchType)) = mj_hi y
def mr_out (X : mr_X) : mj_O → Outcome
  | .inl v => .returned (v.map (mr_v X))
  | .inr a => .threw (mr_B X + (a - 20))
/-- how a method ends -/
def mr_Q (X : mr_X) (xs : Nat → Int32) (L : Nat) (R : Room) (s : State) (below : List Frame) (P : mj_P) (t : State) : Prop :=
  ∃ (o : mj_O) (h' : mj_H) (Lc : List Loc) (k n : Nat), t.status = .running ∧ Ended t below (mr_out X o) ∧ s.WarmedH t.vm ∧ s.sameButNew ({ t with vm := s.vm } : State) Lc k n ∧ (∀ q ∈ Lc, mr_B X ≤ q.base) ∧
    mj_U h' ≤ mj_M ∧ k + (mj_M - mj_U h') ≤ R.cells ∧ n + (mj_M - mj_U h') ≤ R.slots ∧ s.heap.size + k + 20 = mr_B X + mj_Z h' ∧ t.heap.size + 20 = mr_B X + mj_Z h' ∧ mr_H X xs L h' t.heap ∧ s.heap.size ≤ t.heap.size ∧ (∀ q : Nat, q < s.heap.size → ¬ mr_B X ≤ q → t.heap[q]? = s.heap[q]?) ∧
    (∀ a, o = .inr a → 20 ≤ a ∧ 8 ≤ mj_T h' a ∧ mj_T h' a ≤ 10) ∧ P o h'
/-- a point of a method -/
def mr_S (X : mr_X) (xs : Nat → Int32) (L : Nat) (R : Room) (s : State) (y : Nat) (lc : List Value) (h : mj_H) (H : Heap) (locs : List Loc) (cells slots : Nat) (ls : Array Slot) : Prop :=
  mj_U h ≤ mj_M ∧ cells + (mj_M - mj_U h) ≤ R.cells ∧ slots + (mj_M - mj_U h) ≤ R.slots ∧ mr_H X xs L h H ∧ va_S (fun q => mr_B X ≤ q) s.heap H locs ∧ s.heap.size + cells + 20 = mr_B X + mj_Z h ∧ mr_L X ls lc (mj_ml y)
def mr_C (X : mr_X) (xs : Nat → Int32) (L : Nat) (p : Program) (R : Room) (s : State) (m : MethodId) (meth : Method) (c : Code) (d y : Nat) : Prop := mr_F y p s m meth c ∧ mr_G X xs L s ∧ d + 8 ≤ R.frames ∧ 64 * d + 400 ≤ R.locals
/-- the real machine runs as the small one says -/
def mr_Z (X : mr_X) (xs : Nat → Int32) (L : Nat) (p : Program) (l : Launch) (e : Env) : mj_ZT := fun d y pc lc st h P =>
  ∀ (R : Room) (s : State) (m : MethodId) (args : Array Value) (below : List Frame) (meth : Method) (c : Code) (H : Heap) (locs : List Loc) (cells slots : Nat) (ls : Array Slot),
    mr_C X xs L p R s m meth c d y → mr_S X xs L R s y lc h H locs cells slots ls → W p l e R s m args below meth c H locs cells slots (mr_Q X xs L R s below P) (F0 m pc ls (st.map (mr_v X)))
