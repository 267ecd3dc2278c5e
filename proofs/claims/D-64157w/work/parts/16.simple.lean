/-! simple instructions, printed by gsimple.py -/
def mr_T (i : Instr) : Prop := ∀ (X : mr_X) (xs : Nat → Int32) (L : Nat) (p : Program) (l : Launch) (e : Env) (R : Room) (s : State) (m : MethodId) (args : Array Value) (below : List Frame) (meth : Method) (c : Code) (d y : Nat) (Q : State → Prop) (pc : Nat) (H : Heap) (locs : List Loc) (cells slots : Nat) (ls : Array Slot) (lc st : List Value) (h : mj_H) (n j k : Nat) (S : List Prop) (pc' : Nat) (lc' st' : List Value) (h' : mj_H),
  mr_C X xs L p R s m meth c d y → mj_ins y pc = some (i, n, j, k) → mr_S X xs L R s y lc h H locs cells slots ls → mj_do i n j k lc st h = some (S, pc', lc', st', h') → mj_all S →
  (∀ (H' : Heap) (locs' : List Loc) (cells' slots' : Nat) (ls' : Array Slot), mr_S X xs L R s y lc' h' H' locs' cells' slots' ls' → W p l e R s m args below meth c H' locs' cells' slots' Q (F0 m pc' ls' (st'.map (mr_v X)))) → W p l e R s m args below meth c H locs cells slots Q (F0 m pc ls (st.map (mr_v X)))
theorem mr_cat {X : mr_X} {a : Nat} : (mr_v X (.ref a)).category = 1 := by
  show (va_rf (mr_o X a)).category = 1
  cases mr_o X a <;> rfl

theorem mr_iadd : mr_T .iadd := by
  intro X xs L p l e R s m args below meth c d y Q pc H locs cells slots ls lc st h n j k S pc' lc' st' h' C hi hS hv hA kk
  obtain ⟨hn, hd⟩ := mj_dd hi rfl
  subst hn
  simp only [mj_do] at hv
  split at hv
  · cases hv
    exact lv_iadd C.1.1 C.1.2.1 hd (kk _ _ _ _ _ hS)
  · cases hv

theorem mr_isub : mr_T .isub := by
  intro X xs L p l e R s m args below meth c d y Q pc H locs cells slots ls lc st h n j k S pc' lc' st' h' C hi hS hv hA kk
  obtain ⟨hn, hd⟩ := mj_dd hi rfl
  subst hn
  simp only [mj_do] at hv
  split at hv
  · cases hv
    exact lv_isub C.1.1 C.1.2.1 hd (kk _ _ _ _ _ hS)
  · cases hv

theorem mr_imul : mr_T .imul := by
  intro X xs L p l e R s m args below meth c d y Q pc H locs cells slots ls lc st h n j k S pc' lc' st' h' C hi hS hv hA kk
  obtain ⟨hn, hd⟩ := mj_dd hi rfl
  subst hn
  simp only [mj_do] at hv
  split at hv
  · cases hv
    exact lv_imul C.1.1 C.1.2.1 hd (kk _ _ _ _ _ hS)
  · cases hv

theorem mr_iand : mr_T .iand := by
  intro X xs L p l e R s m args below meth c d y Q pc H locs cells slots ls lc st h n j k S pc' lc' st' h' C hi hS hv hA kk
  obtain ⟨hn, hd⟩ := mj_dd hi rfl
  subst hn
  simp only [mj_do] at hv
  split at hv
  · cases hv
    exact lv_iand C.1.1 C.1.2.1 hd (kk _ _ _ _ _ hS)
  · cases hv

theorem mr_ior : mr_T .ior := by
  intro X xs L p l e R s m args below meth c d y Q pc H locs cells slots ls lc st h n j k S pc' lc' st' h' C hi hS hv hA kk
  obtain ⟨hn, hd⟩ := mj_dd hi rfl
  subst hn
  simp only [mj_do] at hv
  split at hv
  · cases hv
    exact lv_ior C.1.1 C.1.2.1 hd (kk _ _ _ _ _ hS)
  · cases hv

theorem mr_ishl : mr_T .ishl := by
  intro X xs L p l e R s m args below meth c d y Q pc H locs cells slots ls lc st h n j k S pc' lc' st' h' C hi hS hv hA kk
  obtain ⟨hn, hd⟩ := mj_dd hi rfl
  subst hn
  simp only [mj_do] at hv
  split at hv
  · cases hv
    exact lv_ishl C.1.1 C.1.2.1 hd (kk _ _ _ _ _ hS)
  · cases hv

theorem mr_ishr : mr_T .ishr := by
  intro X xs L p l e R s m args below meth c d y Q pc H locs cells slots ls lc st h n j k S pc' lc' st' h' C hi hS hv hA kk
  obtain ⟨hn, hd⟩ := mj_dd hi rfl
  subst hn
  simp only [mj_do] at hv
  split at hv
  · cases hv
    exact lv_ishr C.1.1 C.1.2.1 hd (kk _ _ _ _ _ hS)
  · cases hv

theorem mr_idiv : mr_T .idiv := by
  intro X xs L p l e R s m args below meth c d y Q pc H locs cells slots ls lc st h n j k S pc' lc' st' h' C hi hS hv hA kk
  obtain ⟨hn, hd⟩ := mj_dd hi rfl
  subst hn
  simp only [mj_do] at hv
  split at hv
  · cases hv
    exact lv_idiv C.1.1 C.1.2.1 hd hA (kk _ _ _ _ _ hS)
  · cases hv

theorem mr_irem : mr_T .irem := by
  intro X xs L p l e R s m args below meth c d y Q pc H locs cells slots ls lc st h n j k S pc' lc' st' h' C hi hS hv hA kk
  obtain ⟨hn, hd⟩ := mj_dd hi rfl
  subst hn
  simp only [mj_do] at hv
  split at hv
  · cases hv
    exact lv_irem C.1.1 C.1.2.1 hd hA (kk _ _ _ _ _ hS)
  · cases hv

theorem mr_ineg : mr_T .ineg := by
  intro X xs L p l e R s m args below meth c d y Q pc H locs cells slots ls lc st h n j k S pc' lc' st' h' C hi hS hv hA kk
  obtain ⟨hn, hd⟩ := mj_dd hi rfl
  subst hn
  simp only [mj_do] at hv
  split at hv
  · cases hv
    exact lv_ineg C.1.1 C.1.2.1 hd (kk _ _ _ _ _ hS)
  · cases hv

theorem mr_i2b : mr_T .i2b := by
  intro X xs L p l e R s m args below meth c d y Q pc H locs cells slots ls lc st h n j k S pc' lc' st' h' C hi hS hv hA kk
  obtain ⟨hn, hd⟩ := mj_dd hi rfl
  subst hn
  simp only [mj_do] at hv
  split at hv
  · cases hv
    exact lv_i2b C.1.1 C.1.2.1 hd rfl (kk _ _ _ _ _ hS)
  · cases hv

theorem mr_i2c : mr_T .i2c := by
  intro X xs L p l e R s m args below meth c d y Q pc H locs cells slots ls lc st h n j k S pc' lc' st' h' C hi hS hv hA kk
  obtain ⟨hn, hd⟩ := mj_dd hi rfl
  subst hn
  simp only [mj_do] at hv
  split at hv
  · cases hv
    exact lv_i2c C.1.1 C.1.2.1 hd rfl (kk _ _ _ _ _ hS)
  · cases hv

theorem mr_i2l : mr_T .i2l := by
  intro X xs L p l e R s m args below meth c d y Q pc H locs cells slots ls lc st h n j k S pc' lc' st' h' C hi hS hv hA kk
  obtain ⟨hn, hd⟩ := mj_dd hi rfl
  subst hn
  simp only [mj_do] at hv
  split at hv
  · cases hv
    exact lv_i2l C.1.1 C.1.2.1 hd rfl (kk _ _ _ _ _ hS)
  · cases hv

theorem mr_lcmp : mr_T .lcmp := by
  intro X xs L p l e R s m args below meth c d y Q pc H locs cells slots ls lc st h n j k S pc' lc' st' h' C hi hS hv hA kk
  obtain ⟨hn, hd⟩ := mj_dd hi rfl
  subst hn
  simp only [mj_do] at hv
  split at hv
  · cases hv
    exact W.lcmp C.1.1 C.1.2.1 hd (kk _ _ _ _ _ hS)
  · cases hv

theorem mr_dup : mr_T .dup := by
  intro X xs L p l e R s m args below meth c d y Q pc H locs cells slots ls lc st h n j k S pc' lc' st' h' C hi hS hv hA kk
  obtain ⟨hn, hd⟩ := mj_dd hi rfl
  subst hn
  simp only [mj_do] at hv
  split at hv
  · cases hv
    exact lv_dup C.1.1 C.1.2.1 hd rfl (kk _ _ _ _ _ hS)
  · cases hv
    exact lv_dup C.1.1 C.1.2.1 hd mr_cat (kk _ _ _ _ _ hS)
  · cases hv

theorem mr_dup_x1 : mr_T .dup_x1 := by
  intro X xs L p l e R s m args below meth c d y Q pc H locs cells slots ls lc st h n j k S pc' lc' st' h' C hi hS hv hA kk
  obtain ⟨hn, hd⟩ := mj_dd hi rfl
  subst hn
  simp only [mj_do] at hv
  split at hv
  · cases hv
    exact lv_dup_x1 C.1.1 C.1.2.1 hd rfl mr_cat (kk _ _ _ _ _ hS)
  · cases hv
    exact lv_dup_x1 C.1.1 C.1.2.1 hd mr_cat mr_cat (kk _ _ _ _ _ hS)
  · cases hv

theorem mr_dup2 : mr_T .dup2 := by
  intro X xs L p l e R s m args below meth c d y Q pc H locs cells slots ls lc st h n j k S pc' lc' st' h' C hi hS hv hA kk
  obtain ⟨hn, hd⟩ := mj_dd hi rfl
  subst hn
  simp only [mj_do] at hv
  split at hv
  · cases hv
    exact lv_dup2_11 C.1.1 C.1.2.1 hd rfl mr_cat (kk _ _ _ _ _ hS)
  · cases hv

theorem mr_pop : mr_T .pop := by
  intro X xs L p l e R s m args below meth c d y Q pc H locs cells slots ls lc st h n j k S pc' lc' st' h' C hi hS hv hA kk
  obtain ⟨hn, hd⟩ := mj_dd hi rfl
  subst hn
  simp only [mj_do] at hv
  split at hv
  · cases hv
    exact lv_pop C.1.1 C.1.2.1 hd rfl (kk _ _ _ _ _ hS)
  · cases hv
    exact lv_pop C.1.1 C.1.2.1 hd mr_cat (kk _ _ _ _ _ hS)
  · cases hv

theorem mr_aconst_null : mr_T .aconst_null := by
  intro X xs L p l e R s m args below meth c d y Q pc H locs cells slots ls lc st h n j k S pc' lc' st' h' C hi hS hv hA kk
  obtain ⟨hn, hd⟩ := mj_dd hi rfl
  subst hn
  simp only [mj_do] at hv
  cases hv
  exact lv_null C.1.1 C.1.2.1 hd (kk _ _ _ _ _ hS)

theorem mr_dload (q : Nat) : mr_T (.dload q) := by
  intro X xs L p l e R s m args below meth c d y Q pc H locs cells slots ls lc st h n j k S pc' lc' st' h' C hi hS hv hA kk
  simp only [mj_do] at hv
  cases hv
  have c3 := mj_c3_ok hi
  have dd := (mj_dec_ok hi).2
  simp only [mj_c3, Bool.or_eq_true, Bool.and_eq_true, beq_iff_eq, decide_eq_true_eq] at c3
  simp only [mj_rl] at dd
  rcases c3 with ⟨e, v⟩ | ⟨e, v⟩ | ⟨e, v⟩
  · subst e
    rw [if_pos rfl, show pc + 1 - pc = 1 by omega] at dd
    exact lv_iconst C.1.1 C.1.2.1 dd v (kk _ _ _ _ _ hS)
  · subst e
    rw [if_neg (by omega), if_pos rfl, show pc + 2 - pc = 2 by omega] at dd
    exact lv_bipush C.1.1 C.1.2.1 dd v (kk _ _ _ _ _ hS)
  · subst e
    rw [if_neg (by omega), if_neg (by omega), show pc + 3 - pc = 3 by omega] at dd
    exact lv_sipush C.1.1 C.1.2.1 dd v (kk _ _ _ _ _ hS)

theorem mr_dstore (q : Nat) : mr_T (.dstore q) := by
  intro X xs L p l e R s m args below meth c d y Q pc H locs cells slots ls lc st h n j k S pc' lc' st' h' C hi hS hv hA kk
  simp only [mj_do] at hv
  cases hv
  have c3 := mj_c3_ok hi
  have dd := (mj_dec_ok hi).2
  simp only [mj_c3, Bool.or_eq_true, Bool.and_eq_true, beq_iff_eq, decide_eq_true_eq] at c3
  simp only [mj_rl] at dd
  rcases c3 with ⟨e, v⟩ | ⟨e, v⟩ | ⟨e, v⟩
  · subst e
    rw [if_pos rfl, show pc + 1 - pc = 1 by omega] at dd
    exact lv_iconst C.1.1 C.1.2.1 dd v (kk _ _ _ _ _ hS)
  · subst e
    rw [if_neg (by omega), if_pos rfl, show pc + 2 - pc = 2 by omega] at dd
    exact lv_bipush C.1.1 C.1.2.1 dd v (kk _ _ _ _ _ hS)
  · subst e
    rw [if_neg (by omega), if_neg (by omega), show pc + 3 - pc = 3 by omega] at dd
    exact lv_sipush C.1.1 C.1.2.1 dd v (kk _ _ _ _ _ hS)

theorem mr_ifCond (co : ClassFile.Cond) (t : Int) : mr_T (.ifCond co t) := by
  intro X xs L p l e R s m args below meth c d y Q pc H locs cells slots ls lc st h n j k S pc' lc' st' h' C hi hS hv hA kk
  obtain ⟨hn, hd⟩ := mj_dd hi rfl
  subst hn
  have ht : (pc : Int) + ((j : Int) - pc) = (j : Int) := by omega
  simp only [mj_do] at hv
  split at hv
  · cases hv
    have kk := kk _ _ _ _ _ hS
    cases co
    · simp only [mj_c0] at kk
      refine lv_if_eq C.1.1 C.1.2.1 hd ht (fun q => ?_) (fun q => ?_)
      · rw [if_pos q] at kk; exact kk
      · rw [if_neg q] at kk; exact kk
    · simp only [mj_c0] at kk
      refine lv_if_ne C.1.1 C.1.2.1 hd ht (fun q => ?_) (fun q => ?_)
      · rw [if_neg q] at kk; exact kk
      · rw [if_pos q] at kk; exact kk
    · simp only [mj_c0] at kk
      refine lv_if_lt C.1.1 C.1.2.1 hd ht (fun q => ?_) (fun q => ?_)
      · rw [if_pos q] at kk; exact kk
      · rw [if_neg q] at kk; exact kk
    · simp only [mj_c0] at kk
      refine lv_if_ge C.1.1 C.1.2.1 hd ht (fun q => ?_) (fun q => ?_)
      · rw [if_pos q] at kk; exact kk
      · rw [if_neg q] at kk; exact kk
    · simp only [mj_c0] at kk
      refine lv_if_gt C.1.1 C.1.2.1 hd ht (fun q => ?_) (fun q => ?_)
      · rw [if_pos q] at kk; exact kk
      · rw [if_neg q] at kk; exact kk
    · simp only [mj_c0] at kk
      refine lv_if_le C.1.1 C.1.2.1 hd ht (fun q => ?_) (fun q => ?_)
      · rw [if_pos q] at kk; exact kk
      · rw [if_neg q] at kk; exact kk
  · cases hv

theorem mr_if_icmp (co : ClassFile.Cond) (t : Int) : mr_T (.if_icmp co t) := by
  intro X xs L p l e R s m args below meth c d y Q pc H locs cells slots ls lc st h n j k S pc' lc' st' h' C hi hS hv hA kk
  obtain ⟨hn, hd⟩ := mj_dd hi rfl
  subst hn
  have ht : (pc : Int) + ((j : Int) - pc) = (j : Int) := by omega
  simp only [mj_do] at hv
  split at hv
  · cases hv
    have kk := kk _ _ _ _ _ hS
    cases co
    · simp only [mj_c2] at kk
      refine lv_icmp_eq C.1.1 C.1.2.1 hd ht (fun q => ?_) (fun q => ?_)
      · rw [if_pos q] at kk; exact kk
      · rw [if_neg q] at kk; exact kk
    · simp only [mj_c2] at kk
      refine lv_icmp_ne C.1.1 C.1.2.1 hd ht (fun q => ?_) (fun q => ?_)
      · rw [if_neg q] at kk; exact kk
      · rw [if_pos q] at kk; exact kk
    · simp only [mj_c2] at kk
      refine lv_icmp_lt C.1.1 C.1.2.1 hd ht (fun q => ?_) (fun q => ?_)
      · rw [if_pos q] at kk; exact kk
      · rw [if_neg q] at kk; exact kk
    · simp only [mj_c2] at kk
      refine lv_icmp_ge C.1.1 C.1.2.1 hd ht (fun q => ?_) (fun q => ?_)
      · rw [if_pos q] at kk; exact kk
      · rw [if_neg q] at kk; exact kk
    · simp only [mj_c2] at kk
      refine lv_icmp_gt C.1.1 C.1.2.1 hd ht (fun q => ?_) (fun q => ?_)
      · rw [if_pos q] at kk; exact kk
      · rw [if_neg q] at kk; exact kk
    · simp only [mj_c2] at kk
      refine lv_icmp_le C.1.1 C.1.2.1 hd ht (fun q => ?_) (fun q => ?_)
      · rw [if_pos q] at kk; exact kk
      · rw [if_neg q] at kk; exact kk
  · cases hv

theorem mr_goto (t : Int) : mr_T (.goto t) := by
  intro X xs L p l e R s m args below meth c d y Q pc H locs cells slots ls lc st h n j k S pc' lc' st' h' C hi hS hv hA kk
  obtain ⟨hn, hd⟩ := mj_dd hi rfl
  subst hn
  have ht : (pc : Int) + ((j : Int) - pc) = (j : Int) := by omega
  simp only [mj_do] at hv
  cases hv
  exact lv_goto C.1.1 C.1.2.1 hd ht (kk _ _ _ _ _ hS)
theorem mr_acx {X : mr_X} {xs : Nat → Int32} {L : Nat} {s : State} (K : mr_K X xs L s) {x z : Nat} (h : mj_ac x z) : mr_o X x = mr_o X z ↔ x = z := by
  obtain ⟨k1, k2, k3, k4, k5, k6, k7, k8, k9, k10, k11, k12, k13, k14, k15, k16, k17⟩ := K
  have far : ∀ a b, 20 ≤ a → b < 20 → b ≠ 15 → b ≠ 16 → mr_o X a ≠ mr_o X b := by
    intro a b ha hb q1 q2 e
    rw [mr_o_new ha] at e
    by_cases q0 : b = 0
    · subst q0; simp [mr_o] at e
    rw [mr_o_con q0 q1 hb] at e
    have := k17 b hb q2
    injection e with e
    omega
  refine ⟨fun e => ?_, fun e => by rw [e]⟩
  rcases h with h | ⟨h, h5, h6⟩ | ⟨h, h5, h6⟩ | ⟨h1, h2, h3, h4⟩
  · exact h
  · rcases Nat.lt_or_ge z 20 with hz | hz
    · exact absurd e (far x z h hz h5 h6)
    · rw [mr_o_new h, mr_o_new hz] at e
      injection e with e
      omega
  · rcases Nat.lt_or_ge x 20 with hz | hz
    · exact absurd e.symm (far z x h hz h5 h6)
    · rw [mr_o_new h, mr_o_new hz] at e
      injection e with e
      omega
  · rw [mr_o_con (by omega) (by omega) (by omega), mr_o_con (by omega) (by omega) (by omega)] at e
    injection e with e
    exact k16 x z h1 h2 h3 h4 e

theorem mr_if_acmp (co : ACond) (t : Int) : mr_T (.if_acmp co t) := by
  intro X xs L p l e R s m args below meth c d y Q pc H locs cells slots ls lc st h n j k S pc' lc' st' h' C hi hS hv hA kk
  obtain ⟨hn, hd⟩ := mj_dd hi rfl
  subst hn
  have ht : (pc : Int) + ((j : Int) - pc) = (j : Int) := by omega
  simp only [mj_do] at hv
  split at hv
  · next x z r =>
    cases co
    · simp only at hv
      cases hv
      have kk := kk _ _ _ _ _ hS
      have E := mr_acx C.2.1.2.2.1 (show mj_ac _ _ from hA)
      refine lv_acmp_eq C.1.1 C.1.2.1 hd ht (fun q => ?_) (fun q => ?_)
      · rw [if_pos (E.mp q)] at kk; exact kk
      · rw [if_neg (fun w => q (E.mpr w))] at kk; exact kk
    · simp only at hv
      cases hv
      have kk := kk _ _ _ _ _ hS
      have E := mr_acx C.2.1.2.2.1 (show mj_ac _ _ from hA)
      refine lv_acmp_ne C.1.1 C.1.2.1 hd ht (fun q => ?_) (fun q => ?_)
      · rw [if_neg (fun w => q (E.mpr w))] at kk; exact kk
      · rw [if_pos (E.mp q)] at kk; exact kk
  · cases hv
theorem mr_o_none {X : mr_X} {x : Nat} (h : mj_fitR x) : mr_o X x = none ↔ x = 0 := by
  unfold mj_fitR at h
  unfold mr_o
  by_cases q : x = 0
  · simp [q]
  · rw [if_neg q, if_neg h]
    split <;> simp [q]

theorem mr_ifnull (t : Int) : mr_T (.ifnull t) := by
  intro X xs L p l e R s m args below meth c d y Q pc H locs cells slots ls lc st h n j k S pc' lc' st' h' C hi hS hv hA kk
  obtain ⟨hn, hd⟩ := mj_dd hi rfl
  subst hn
  have ht : (pc : Int) + ((j : Int) - pc) = (j : Int) := by omega
  simp only [mj_do] at hv
  split at hv
  · next x r =>
    cases hv
    have kk := kk _ _ _ _ _ hS
    have E := mr_o_none (X := X) (show mj_fitR x from hA)
    show W p l e R s m args below meth c H locs cells slots Q (F0 m pc ls (va_rf (mr_o X x) :: _))
    cases ho : mr_o X x with
    | none =>
      rw [if_pos (E.mp ho)] at kk
      exact lv_ifnullN C.1.1 C.1.2.1 hd ht kk
    | some b =>
      rw [if_neg (fun w => by rw [E.mpr w] at ho; cases ho)] at kk
      exact lv_ifnull C.1.1 C.1.2.1 hd kk
  · cases hv

theorem mr_ifnonnull (t : Int) : mr_T (.ifnonnull t) := by
  intro X xs L p l e R s m args below meth c d y Q pc H locs cells slots ls lc st h n j k S pc' lc' st' h' C hi hS hv hA kk
  obtain ⟨hn, hd⟩ := mj_dd hi rfl
  subst hn
  have ht : (pc : Int) + ((j : Int) - pc) = (j : Int) := by omega
  simp only [mj_do] at hv
  split at hv
  · next x r =>
    cases hv
    have kk := kk _ _ _ _ _ hS
    have E := mr_o_none (X := X) (show mj_fitR x from hA)
    show W p l e R s m args below meth c H locs cells slots Q (F0 m pc ls (va_rf (mr_o X x) :: _))
    cases ho : mr_o X x with
    | none =>
      rw [if_pos (E.mp ho)] at kk
      exact lv_ifnonnullN C.1.1 C.1.2.1 hd kk
    | some b =>
      rw [if_neg (fun w => by rw [E.mpr w] at ho; cases ho)] at kk
      exact lv_ifnonnull C.1.1 C.1.2.1 hd ht kk
  · cases hv

