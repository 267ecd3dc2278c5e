/-! calls are resolved -/
def mj_asb (z : Nat) : MethodName := ⟨"java/lang/AbstractStringBuilder", (mj_mn z).name, (mj_mn z).desc⟩
def mj_c5 (y : Nat) (i : Instr) (j : Nat) (ps : List Nat) : Bool := match i with
  | .invokestatic z => !(z == 168)
  | .invokespecial z => Nat.ble 900 z || (!(z == 168) && (!((mj_mn z).name == "<init>") || ((mj_hi z == []) && decide (mj_rg z < 12))))
  | .invokevirtual z => Nat.ble 900 z || (!(z == 168) && (!(mj_w (ps.getD 0 0) (.methodLink (mj_mn y).cls j (mj_asb z))) || (decide (mj_mn z = mj_asb z) || decide (mj_mn (z - 1) = mj_asb z))))
  | .ireturn => match mj_rt y with
    | some .int => true
    | some .boolean => true
    | some .char => true
    | some .byte => true
    | _ => false
  | .areturn => match mj_rt y with
    | some (.object _) => true
    | some (.array _) => true
    | _ => false
  | .return_ => match mj_rt y with
    | none => true
    | _ => false
  | _ => true
def mj_ck5 (y : Nat) : Bool := (List.range (mj_sz y)).all fun pc => match mj_ins y pc with
  | none => true
  | some (i, _, j, _) => mj_c5 y i j (mj_pq pc (mj_pl y))
set_option maxRecDepth 100000 in
theorem mj_ck5_0 : (List.range 47).all mj_ck5 = true := by decide +kernel
set_option maxRecDepth 100000 in
theorem mj_ck5_1 : ((List.range 43).map (· + 47)).all mj_ck5 = true := by decide +kernel
set_option maxRecDepth 100000 in
theorem mj_ck5_2 : ((List.range 31).map (· + 90)).all mj_ck5 = true := by decide +kernel
set_option maxRecDepth 100000 in
theorem mj_ck5_3 : ((List.range 27).map (· + 121)).all mj_ck5 = true := by decide +kernel
set_option maxRecDepth 100000 in
theorem mj_ck5_4 : ((List.range 21).map (· + 148)).all mj_ck5 = true := by decide +kernel
theorem mj_c5_ok {y pc : Nat} {i : Instr} {n j k : Nat} (h : mj_ins y pc = some (i, n, j, k)) : mj_c5 y i j (mj_pq pc (mj_pl y)) = true := by
  obtain ⟨h1, h2⟩ := mj_ins_in h
  have q := List.all_eq_true.mp (mj_part mj_ck5_0 mj_ck5_1 mj_ck5_2 mj_ck5_3 mj_ck5_4 h1) pc (List.mem_range.mpr h2)
  rw [h] at q
  exact q
theorem mr_sig {X : mr_X} {xs : Nat → Int32} {L : Nat} {s : State} {z : Nat} {mk : MethodId} {methk : Method} (g : mr_G X xs L s) (hz : z < 168) (hn : s.methodNamed? (mj_mn z) = some mk) (hm : s.vm.method? mk = some methk) : parseMethodDescriptor (mj_mn z).desc = some methk.sig := by
  have hw : (mj_cw z).before #[] s = true := mj_mv_use (mj_cw_mv z) (g.1 _ (mj_cw_in hz) (mj_cw_mv z))
  unfold mj_cw at hw
  split at hw
  · obtain ⟨meth, c, h1, h2, h3, h4, h5, h6, h7, h8⟩ := Cond.code_spec hn hw
    cases hm.symm.trans h1
    exact h8
  · obtain ⟨m9, meth, c, hn9, h1, h2, h3, h4, h5, h6, h7, h8⟩ := Cond.codeWith_spec hw
    cases hn.symm.trans hn9
    cases hm.symm.trans h1
    exact h8
theorem mr_named {X : mr_X} {xs : Nat → Int32} {L : Nat} {s : State} {z : Nat} (g : mr_G X xs L s) (hz : z < 168) : ∃ (mk : MethodId) (methk : Method), s.methodNamed? (mj_mn z) = some mk ∧ s.vm.method? mk = some methk := by
  have hw : (mj_cw z).before #[] s = true := mj_mv_use (mj_cw_mv z) (g.1 _ (mj_cw_in hz) (mj_cw_mv z))
  unfold mj_cw at hw
  split at hw
  · cases hn : s.methodNamed? (mj_mn z) with
    | none => simp [Cond.before, Cond.holds, Cond.value, hn] at hw
    | some mk =>
      obtain ⟨meth, c, h1, -⟩ := Cond.code_spec hn hw
      exact ⟨mk, meth, rfl, h1⟩
  · obtain ⟨m9, meth, c, hn9, h1, -⟩ := Cond.codeWith_spec hw
    exact ⟨m9, meth, hn9, h1⟩
theorem mj_npar_ok {z n : Nat} (h : mj_npar z n = true) {sig : MethodDescriptor} (hs : parseMethodDescriptor (mj_mn z).desc = some sig) : sig.parameters.length = n := by
  unfold mj_npar at h
  rw [hs] at h
  simpa using h
theorem mj_notMH_ok {c : String} (h : mj_notMH c = true) : c ≠ "java/lang/invoke/MethodHandle" ∧ c ≠ "java/lang/invoke/VarHandle" := by
  simp only [mj_notMH, Bool.and_eq_true, Bool.not_eq_true', beq_eq_false_iff_ne] at h
  exact h
theorem mc_T_12 : ∀ a, a < 20 → mc_T a < 12 → (mc_T a = 2 ∨ mc_T a = 11) ∧ a ≠ 0 ∧ a ≠ 15 := by decide
section
variable {X : mr_X} {xs : Nat → Int32} {L : Nat} {p : Program} {l : Launch} {e : Env} {R : Room} {s : State} {m : MethodId} {args : Array Value} {below : List Frame} {meth : Method} {c : Code} {H : Heap} {locs : List Loc} {cells slots d y pc : Nat} {ls : Array Slot} {lc : List Value} {h : mj_H}
theorem mr_recv (G : mr_G X xs L s) (hS : mr_S X xs L R s y lc h H locs cells slots ls) {a t : Nat} (hT : mj_T h a = t) (ht : t < 12) : ∃ (b : Nat) (cell : Cell), mr_v X (.ref a) = .ref b ∧ H[b]? = some cell ∧ cell.vm.isStatics = false ∧ s.vm.findClass (mj_RN t) = some cell.cls := by
  have qH := hS.2.2.2.1
  rcases Nat.lt_or_ge a 20 with ha | ha
  · obtain ⟨r1, -⟩ := qH.2.2.2.1 a ha
    obtain ⟨h12, h0, h15⟩ := mc_T_12 a ha (by rw [← r1, hT]; exact ht)
    have htt : t = mc_T a := by rw [← hT, r1]
    rcases h12 with hc | hc
    · obtain ⟨cell, g1, g2, g3, -⟩ := (G.2.2.1.2.2.1 a ha hc).2.2.kept hS.2.2.2.2.1.2.1
      exact ⟨mr_ad X a, cell, mr_v_con h0 h15 ha, g1, g2, by rw [htt, hc]; exact g3⟩
    · obtain ⟨cell, g1, g2, g3, -⟩ := (G.2.2.1.2.2.2.1 a ha hc).kept hS.2.2.2.2.1.2.1
      exact ⟨mr_ad X a, cell, mr_v_con h0 h15 ha, g1, g2, by rw [htt, hc]; exact g3⟩
  · have h11 : t < 11 := by
      rcases qH.2.2.1 a ha (qH.lt (by omega)) with q | q
      · omega
      · omega
    obtain ⟨cell, g1, g2, g3⟩ := va_recv G.2.1 qH.2.2.2.2.2 (mj_cls_at t h11) (mr_at_obj qH ha hT h11)
    exact ⟨_, cell, mr_v_new ha, g1, g2, by unfold mj_RN; rw [if_neg (by omega)]; exact g3⟩
/-- what a resolved call gives -/
def mr_HC (X : mr_X) (p : Program) (l : Launch) (e : Env) (R : Room) (s : State) (m : MethodId) (args : Array Value) (below : List Frame) (meth : Method) (c : Code) (H : Heap) (locs : List Loc) (cells slots pc : Nat) (ls : Array Slot) (z : Nat) (as r st : List Value) : Prop :=
  ∀ T : State, T.heap = H → Stand p l e R s m args below meth c T locs cells slots → ∃ (vm₁ : Vm) (mk : MethodId), Stand p l e R s m args below meth c (T.setVm vm₁) locs cells slots ∧ (T.setVm vm₁).methodNamed? (mj_mn z) = some mk ∧
      ∀ target, Steps p.tables e below (doInvoke e ((T.setVm vm₁).setTop (F0 m pc ls (r.map (mr_v X)))) [] mk (as.map (mr_v X)).toArray).1 target → Steps p.tables e below (T.setTop (F0 m pc ls (st.map (mr_v X)))) target
theorem mr_res_static {z n j k : Nat} {as r st : List Value} (C : mr_C X xs L p R s m meth c d y) (hi : mj_ins y pc = some (.invokestatic z, n, j, k)) (h900 : ¬ z = 900) (hsp : mj_sp (mj_na z) [] st = some (as, r)) : z < 168 ∧ mr_HC X p l e R s m args below meth c H locs cells slots pc ls z as r st := by
  obtain ⟨hn, hd⟩ := mj_dd hi rfl
  have hl := mj_lok_ok hi
  have h5 := mj_c5_ok hi
  simp only [mj_lok, if_neg h900, Bool.and_eq_true, decide_eq_true_eq] at hl
  simp only [mj_c5, Bool.not_eq_true', beq_eq_false_iff_ne] at h5
  obtain ⟨l0, l1, l2, l3, l4, l5⟩ := hl
  have hz : z < 168 := by unfold mj_NM at l0; omega
  refine ⟨hz, ?_⟩
  obtain ⟨pre, e1, e2, e3⟩ := mj_sp_ok hsp
  rw [List.append_nil] at e3
  intro T hT X0
  obtain ⟨⟨hx, hb, hml, hown, -⟩, G, -⟩ := C
  have hstat : (Cond.static (mj_mn z)).before args s = true := mj_mv_use (mj_w_ok l2).2 (G.1 _ (mj_w_ok l2).1 (mj_w_ok l2).2)
  have hlink : (Cond.methodLink (mj_mn y).cls j (mj_mn z)).before args s = true := mj_mv_use (mj_w_ok l1).2 (G.1 _ (mj_w_ok l1).1 (mj_w_ok l1).2)
  have hini : (Cond.initialized (mj_mn z).cls).before args s = true := mj_mv_use (mj_w_ok l3).2 (G.1 _ (mj_w_ok l3).1 (mj_w_ok l3).2)
  obtain ⟨mk, methk, hnm, hm⟩ := mr_named G hz
  have hst := Cond.static_spec hnm hm hstat
  obtain ⟨kk, hkk, -⟩ := className_of_methodNamed hnm
  have hinit := Cond.initialized_spec (findClass_of_methodNamed hnm) hkk hini
  obtain ⟨vm₁, X₁, st1⟩ := X0.invokestatic hx hown hlink hnm hm hst hkk hinit (mj_notMH_ok l5) (g := F0 m pc ls (st.map (mr_v X))) rfl (argsL := as.map (mr_v X)) (rest := r.map (mr_v X)) (by rw [mj_npar_ok l4 (mr_sig G hz hnm hm), List.length_map, e3, List.length_reverse, e2]) (by show st.map (mr_v X) = _; rw [e1, e3]; simp) (by rw [hb]; exact hd)
  exact ⟨vm₁, mk, X₁, X₁.named hnm, fun target hs => st1 target (fun acts => by rw [doInvoke_state]; exact hs)⟩
theorem mr_wG (G : mr_G X xs L s) {q : Nat} {w : Cond} (h : mj_w q w = true) : w.before args s = true := mj_mv_use (mj_w_ok h).2 (G.1 w (mj_w_ok h).1 (mj_w_ok h).2)
theorem mj_spv {n : Nat} {st as r : List Value} {a : Nat} (h : mj_sp n [] st = some (.ref a :: as, r)) : as.length + 1 = n ∧ st.map (mr_v X) = (as.map (mr_v X)).reverse ++ mr_v X (.ref a) :: r.map (mr_v X) := by
  obtain ⟨pre, e1, e2, e3⟩ := mj_sp_ok h
  rw [List.append_nil] at e3
  have e4 : pre = as.reverse ++ [.ref a] := by
    have := congrArg List.reverse e3
    rw [List.reverse_reverse] at this
    rw [← this]; simp
  subst e4
  refine ⟨by rw [← e2]; simp, ?_⟩
  rw [e1]; simp
theorem mr_res_special {z n j k a : Nat} {as r st : List Value} (C : mr_C X xs L p R s m meth c d y) (hS : mr_S X xs L R s y lc h H locs cells slots ls) (hi : mj_ins y pc = some (.invokespecial z, n, j, k)) (h900 : ¬ 900 ≤ z) (hsp : mj_sp (mj_na z) [] st = some (.ref a :: as, r)) (hT : mj_T h a = mj_rg z) : z < 168 ∧ mr_HC X p l e R s m args below meth c H locs cells slots pc ls z (.ref a :: as) r st := by
  obtain ⟨hn, hd⟩ := mj_dd hi rfl
  have hl := mj_lok_ok hi
  have h5 := mj_c5_ok hi
  have h903 : ¬ z = 903 := by omega
  simp only [mj_lok, if_neg h903, Bool.and_eq_true, decide_eq_true_eq] at hl
  simp only [mj_c5, Bool.or_eq_true, Bool.and_eq_true, Bool.not_eq_true', beq_eq_false_iff_ne, beq_iff_eq, decide_eq_true_eq] at h5
  have h5 := h5.resolve_left (fun q => h900 (Nat.le_of_ble_eq_true q))
  obtain ⟨l0, l1, l2, l3, l4⟩ := hl
  have hz : z < 168 := by unfold mj_NM at l0; omega
  refine ⟨hz, ?_⟩
  obtain ⟨e1, e2⟩ := mj_spv (X := X) hsp
  intro T hT0 X0
  obtain ⟨⟨hx, hb, hml, hown, -⟩, G, -⟩ := id C
  obtain ⟨mk, methk, hnm, hm⟩ := mr_named G hz
  have hsg := mr_sig G hz hnm hm
  have hlen : ∀ sig, parseMethodDescriptor (mj_mn z).desc = some sig → (as.map (mr_v X)).length = sig.parameters.length := by
    intro sig hs
    rw [mj_npar_ok l1 hs, List.length_map]
    omega
  by_cases hin : (mj_mn z).name = "<init>"
  · rw [if_pos hin] at l4
    simp only [Bool.and_eq_true, Bool.or_eq_true, beq_iff_eq] at l4
    obtain ⟨q1, q2, q3⟩ := l4
    obtain ⟨hhi, h12⟩ : mj_hi z = [] ∧ mj_rg z < 12 := by
      rcases h5.2 with q | q
      · exact absurd hin q
      · exact q
    have hcode : (Cond.code (mj_mn z) (mj_by z) (mj_ml z) none).before args s = true := by
      have hw : (mj_cw z).before args s = true := mj_mv_use (mj_cw_mv z) (G.1 _ (mj_cw_in hz) (mj_cw_mv z))
      unfold mj_cw at hw
      rw [hhi, q3] at hw
      exact hw
    have hpl : e.platform.magicAccessors = ({} : Platform).magicAccessors := by rw [X0.admits.platform]
    obtain ⟨b, cell, hab, -⟩ := mr_recv G hS hT h12
    rw [hab] at e2
    rcases q1 with q1 | q1
    · obtain ⟨mk', methM, cM, kP, vm₁, hnamed, -, -, -, -, -, -, -, hW₁, hstep₁⟩ := Steps.initColdArgs (e := e) X0.here hx X0.warmed hpl hown hin (mj_notMH_ok l3) (mr_wG (args := args) G q1) (mr_wG (args := args) G q2) hcode (f := F0 m pc ls (st.map (mr_v X))) rfl (a := b) (argsL := as.map (mr_v X)) (rest := r.map (mr_v X)) hlen e2 (by rw [hb]; exact hd)
      cases hnm.symm.trans hnamed
      have X₁ := X0.noted hW₁
      exact ⟨vm₁, mk, X₁, X₁.named hnm, fun target hs => hstep₁ target (fun acts => by rw [doInvoke_state]; rw [List.map_cons, hab] at hs; exact hs)⟩
    · obtain ⟨mk', methM, cM, kP, vm₁, hnamed, -, -, -, -, -, -, -, hW₁, hstep₁⟩ := Steps.initColdArgsNest (e := e) X0.here hx X0.warmed hpl hown hin (mj_notMH_ok l3) (mr_wG (args := args) G q1) (mr_wG (args := args) G q2) hcode (f := F0 m pc ls (st.map (mr_v X))) rfl (a := b) (argsL := as.map (mr_v X)) (rest := r.map (mr_v X)) hlen e2 (by rw [hb]; exact hd)
      cases hnm.symm.trans hnamed
      have X₁ := X0.noted hW₁
      exact ⟨vm₁, mk, X₁, X₁.named hnm, fun target hs => hstep₁ target (fun acts => by rw [doInvoke_state]; rw [List.map_cons, hab] at hs; exact hs)⟩
  · rw [if_neg hin] at l4
    simp only [Bool.and_eq_true, decide_eq_true_eq] at l4
    obtain ⟨q1, q2, q3, q4, q5⟩ := l4
    obtain ⟨b, cell, hab, hcell, hobj, hcls⟩ := mr_recv G hS hT (by omega)
    rw [hab] at e2
    obtain ⟨kB, hkB, -⟩ := Vm.findClass_spec hcls
    obtain ⟨mk', methM, hnamed, hmethM, hstM, habM⟩ := Cond.instanceMethod_spec (mr_wG (args := args) G q4)
    cases hnm.symm.trans hnamed
    cases hm.symm.trans hmethM
    obtain ⟨ps, dk, kp, hps, hdk, hkp, hsuper, -, -, hnid⟩ := Cond.superclass_spec hown (mr_wG (args := args) G q3)
    have hpm : ps = mk.cls := Option.some.inj (hps.symm.trans (findClass_of_methodNamed hnm))
    have hsub : s.vm.isSubclass ps mk.cls = true := by rw [hpm]; simp [Vm.isSubclass, Vm.isSubclassAux]
    obtain ⟨vm₁, X₁, hstep₁⟩ := X0.invokespecialUp hx hown (mr_wG (args := args) G q1) (mr_wG (args := args) G q2) hnm hm hstM habM hin hdk hnid hps hsuper hsub (a := b) (cell := cell) (by rw [hT0]; exact hcell)
      (fun z h => by rw [h] at hobj; cases hobj) hkB (g := F0 m pc ls (st.map (mr_v X))) rfl (argsL := as.map (mr_v X)) (rest := r.map (mr_v X)) (hlen _ hsg) e2 (by rw [hb]; exact hd)
    exact ⟨vm₁, mk, X₁, X₁.named hnm, fun target hs => hstep₁ target (by rw [List.map_cons, hab] at hs; exact hs)⟩
theorem mr_res_virtual {z n j k a : Nat} {as r st : List Value} (C : mr_C X xs L p R s m meth c d y) (hS : mr_S X xs L R s y lc h H locs cells slots ls) (hi : mj_ins y pc = some (.invokevirtual z, n, j, k)) (h900 : ¬ 900 ≤ z) (hsp : mj_sp (mj_na z) [] st = some (.ref a :: as, r)) (hT : mj_T h a = mj_rg z) : z < 168 ∧ mr_HC X p l e R s m args below meth c H locs cells slots pc ls z (.ref a :: as) r st := by
  obtain ⟨hn, hd⟩ := mj_dd hi rfl
  have hl := mj_lok_ok hi
  have h5 := mj_c5_ok hi
  have h901 : ¬ z = 901 := by omega
  have h902 : ¬ z = 902 := by omega
  simp only [mj_lok, if_neg h901, if_neg h902, Bool.and_eq_true, Bool.or_eq_true, decide_eq_true_eq] at hl
  simp only [mj_c5, Bool.or_eq_true, Bool.and_eq_true, Bool.not_eq_true', beq_eq_false_iff_ne, decide_eq_true_eq] at h5
  have h5 := h5.resolve_left (fun q => h900 (Nat.le_of_ble_eq_true q))
  obtain ⟨l0, l1, l2, l3, l4, l5⟩ := hl
  have hz : z < 168 := by unfold mj_NM at l0; omega
  refine ⟨hz, ?_⟩
  obtain ⟨e1, e2⟩ := mj_spv (X := X) hsp
  intro T hT0 X0
  obtain ⟨⟨hx, hb, hml, hown, -⟩, G, -⟩ := id C
  obtain ⟨mk, methk, hnm, hm⟩ := mr_named G hz
  have hsg := mr_sig G hz hnm hm
  have hlen : ∀ sig, parseMethodDescriptor (mj_mn z).desc = some sig → (as.map (mr_v X)).length = sig.parameters.length := by
    intro sig hs
    rw [mj_npar_ok l1 hs, List.length_map]
    omega
  obtain ⟨b, cell, hab, hcell, hobj, hcls⟩ := mr_recv G hS hT l4
  rw [hab] at e2
  have hobj' : ∀ k, cell.vm ≠ .statics k := fun k h => by rw [h] at hobj; cases hobj
  rcases l5 with ⟨q1, q2, q3⟩ | ⟨q1, q2, q3, q4⟩ | ⟨q1, q2, q3, q4, q5⟩
  · obtain ⟨mk', methM, hnamed, hmethM, hstM, habM⟩ := Cond.instanceMethod_spec (mr_wG (args := args) G q3)
    cases hnm.symm.trans hnamed
    cases hm.symm.trans hmethM
    obtain ⟨c2, r2, m2, w1, w2, w3, w4, kP, hkP, hkPi⟩ := Cond.selects_spec (mr_wG (args := args) G q2)
    cases hcls.symm.trans w1
    cases (State.methodFound?_of_named hnm (mj_notMH_ok l3)).symm.trans w2
    cases hnm.symm.trans w3
    have hselP : selectMethod e.platform s.vm cell.cls mk = .method mk := by rw [Launch.admits_selectMethod X0.admits]; exact w4
    obtain ⟨vm₁, X₁, hstep₁⟩ := X0.invokevirtual hx hown (mr_wG (args := args) G q1) hnm hm hstM hkP hkPi (mj_notMH_ok l3) (a := b) (cell := cell) (by rw [hT0]; exact hcell) hobj' hselP hm habM hkP hkPi (g := F0 m pc ls (st.map (mr_v X))) rfl (argsL := as.map (mr_v X)) (rest := r.map (mr_v X)) (hlen _ hsg) e2 (by rw [hb]; exact hd)
    exact ⟨vm₁, mk, X₁, X₁.named hnm, fun target hs => hstep₁ target (fun acts => by rw [doInvoke_state]; rw [List.map_cons, hab] at hs; exact hs)⟩
  · obtain ⟨mk', methM, hnamed, hmethM, hstM, habM⟩ := Cond.instanceMethod_spec (mr_wG (args := args) G q3)
    cases hnm.symm.trans hnamed
    cases hm.symm.trans hmethM
    obtain ⟨cn, ck, r1, hcn, hck, hni, hf, hn1⟩ := Cond.sameMethod_found (mr_wG (args := args) G q4)
    have hcm : cn = mk.cls := Option.some.inj (hcn.symm.trans (findClass_of_methodNamed hnm))
    subst hcm
    have hselP : selectMethod e.platform s.vm cell.cls mk = .method mk := selectMethod_private hm (Cond.privateMethod_at (mr_wG (args := args) G q2) mk methk hnm hm)
    obtain ⟨vm₁, X₁, hstep₁⟩ := X0.invokevirtual hx hown (mr_wG (args := args) G q1) hnm hm hstM hck hni (mj_notMH_ok l3) (a := b) (cell := cell) (by rw [hT0]; exact hcell) hobj' hselP hm habM hck hni (g := F0 m pc ls (st.map (mr_v X))) rfl (argsL := as.map (mr_v X)) (rest := r.map (mr_v X)) (hlen _ hsg) e2 (by rw [hb]; exact hd)
    exact ⟨vm₁, mk, X₁, X₁.named hnm, fun target hs => hstep₁ target (fun acts => by rw [doInvoke_state]; rw [List.map_cons, hab] at hs; exact hs)⟩
  · have hw : ∃ w, w < 168 ∧ mj_mn w = mj_asb z := by
      rcases h5.2 with q | q | q
      · rw [show mj_w ((mj_pq pc (mj_pl y)).getD 0 0) (.methodLink (mj_mn y).cls j (mj_asb z)) = true from q1] at q; cases q
      · exact ⟨z, hz, q⟩
      · exact ⟨z - 1, by omega, q⟩
    obtain ⟨w, hw1, hw2⟩ := hw
    obtain ⟨r0, rr, hn0, hm0⟩ := mr_named G hw1
    have hs0 := mr_sig G hw1 hn0 hm0
    rw [hw2] at hn0 hs0
    obtain ⟨r0', rr', hn0', hm0', hst0, -⟩ := Cond.instanceMethod_spec (mr_wG (args := args) G q3)
    cases hn0.symm.trans hn0'
    cases hm0.symm.trans hm0'
    obtain ⟨mk', methM, hnamed, hmethM, hstM, habM⟩ := Cond.instanceMethod_spec (mr_wG (args := args) G q5)
    cases hnm.symm.trans hnamed
    cases hm.symm.trans hmethM
    obtain ⟨cn, ck, r1, hcn, hck, hni, hf, hn1⟩ := Cond.sameMethod_found (mr_wG (args := args) G q2)
    cases hn0.symm.trans hn1
    obtain ⟨c2, r2, m2, w1, w2, w3, w4, kP, hkP, hkPi⟩ := Cond.selects_spec (mr_wG (args := args) G q4)
    cases hcls.symm.trans w1
    cases hf.symm.trans w2
    cases hnm.symm.trans w3
    have hselP : selectMethod e.platform s.vm cell.cls r0 = .method mk := by rw [Launch.admits_selectMethod X0.admits]; exact w4
    obtain ⟨vm₁, X₁, hstep₁⟩ := X0.invokevirtualUp hx hown (x := mj_asb z) (mr_wG (args := args) G q1) (mr_wG (args := args) G q2) (by decide) hn0 hm0 hst0 (a := b) (cell := cell) (by rw [hT0]; exact hcell) hobj' hselP hm habM hkP hkPi (g := F0 m pc ls (st.map (mr_v X))) rfl (argsL := as.map (mr_v X)) (rest := r.map (mr_v X)) (hlen _ hs0) e2 (by rw [hb]; exact hd)
    exact ⟨vm₁, mk, X₁, X₁.named hnm, fun target hs => hstep₁ target (fun acts => by rw [doInvoke_state]; rw [List.map_cons, hab] at hs; exact hs)⟩
theorem mr_res_face {i1 i2 n j k a : Nat} {v1 v2 : Int32} {r : List Value} (C : mr_C X xs L p R s m meth c d y) (hS : mr_S X xs L R s y lc h H locs cells slots ls) (hi : mj_ins y pc = some (.invokeinterface i1 i2, n, j, k)) (hT : mj_T h a = 6 ∨ mj_T h a = 4) :
    mr_HC X p l e R s m args below meth c H locs cells slots pc ls (if mj_T h a = 6 then mj_yB else mj_yL) [.ref a, .int v2, .int v1] r (.int v1 :: .int v2 :: .ref a :: r) := by
  obtain ⟨hn, hd⟩ := mj_dd hi rfl
  have hl := mj_lok_ok hi
  simp only [mj_lok, Bool.and_eq_true] at hl
  obtain ⟨l0, l1, l2, a1, a2, a3, a4, a5, b1, b2, b3, b4, b5⟩ := hl
  intro T hT0 X0
  obtain ⟨⟨hx, hb, hml, hown, -⟩, G, -⟩ := id C
  obtain ⟨b, cell, hab, hcell, hobj, hcls⟩ := mr_recv G hS (a := a) rfl (by omega)
  have hobj' : ∀ k, cell.vm ≠ .statics k := fun k h => by rw [h] at hobj; cases hobj
  obtain ⟨r0, rr, hnr, hrm, hstR, hsigR⟩ := Cond.declares_spec (mr_wG (args := args) G l1)
  obtain ⟨cL, kL, r1, hcL, hkL, hiL, hfoundL, hn1⟩ := Cond.interfaceMethod_spec (mr_wG (args := args) G l2)
  cases hnr.symm.trans hn1
  have hr0cls : r0.cls = cL := Option.some.inj ((findClass_of_methodNamed hnr).symm.trans hcL)
  obtain ⟨hnameR, hdescR⟩ := name_of_methodNamed hnr hrm
  obtain ⟨kB, hkB, -⟩ := Vm.findClass_spec hcls
  have hlen : ∀ sig, parseMethodDescriptor mj_nPU.desc = some sig → ([Value.int v2, Value.int v1]).length = sig.parameters.length := by
    intro sig hs
    have : (parseMethodDescriptor "(II)V").map (fun d => d.parameters.length) = some 2 := by decide +kernel
    rw [show parseMethodDescriptor "(II)V" = some sig from hs] at this
    exact (Option.some.inj this).symm
  have go : ∀ (C0 : String) (z : Nat), mj_RN (mj_T h a) = C0 → (Cond.selects C0 mj_nPU (mj_mn z)).before args s = true → (Cond.instanceMethod (mj_mn z)).before args s = true → (Cond.publicMethod (mj_mn z)).before args s = true → (Cond.unhidden C0 "put" "(II)V").before args s = true → (Cond.castable C0 "DotBook$Sink").before args s = true →
      ∃ (vm₁ : Vm) (mk : MethodId), Stand p l e R s m args below meth c (T.setVm vm₁) locs cells slots ∧ (T.setVm vm₁).methodNamed? (mj_mn z) = some mk ∧
        ∀ target, Steps p.tables e below (doInvoke e ((T.setVm vm₁).setTop (F0 m pc ls (r.map (mr_v X)))) [] mk ([Value.ref a, .int v2, .int v1].map (mr_v X)).toArray).1 target → Steps p.tables e below (T.setTop (F0 m pc ls ((Value.int v1 :: .int v2 :: .ref a :: r).map (mr_v X)))) target := by
    intro C0 z hC0 s1 s2 s3 s4 s5
    rw [hC0] at hcls
    obtain ⟨mk, methM, hnamed, hmethM, -, habM⟩ := Cond.instanceMethod_spec s2
    obtain ⟨c2, r2, m2, q1, q2, q3, q4, -⟩ := Cond.selects_spec s1
    cases hcls.symm.trans q1
    cases hfoundL.symm.trans q2
    cases hnamed.symm.trans q3
    have hselP : selectMethod e.platform s.vm cell.cls r0 = .method mk := by rw [Launch.admits_selectMethod X0.admits]; exact q4
    have hpubM : hasFlag methM.accessFlags Acc.public_ = true := Cond.publicMethod_spec hnamed hmethM s3
    have hway : ((cell.cls :: s.vm.superclasses cell.cls).any fun k => (declaredIn s.vm rr.name rr.desc k).any fun (_, z) => z.isPrivate || z.isStatic) = false := by
      rw [hnameR, hdescR]; exact Cond.unhidden_spec hcls s4
    obtain ⟨c3, t3, w1, w2, w3⟩ := Cond.castable_spec s5
    cases hcls.symm.trans w1
    cases hcL.symm.trans w2
    obtain ⟨vm₁, X₁, hstep₁⟩ := X0.invokeinterface hx hown (mr_wG (args := args) G l0) hnr hrm hstR (by rw [hr0cls]; exact hkL) hiL (by decide) (a := b) (cell := cell) (kcell := kB) (by rw [hT0]; exact hcell)
      hobj' hkB (by rw [hr0cls]; exact w3) hselP hmethM hway hpubM habM (g := F0 m pc ls ((Value.int v1 :: .int v2 :: .ref a :: r).map (mr_v X))) rfl (argsL := [.int v2, .int v1]) (rest := r.map (mr_v X)) (hlen _ hsigR) (by show _ :: _ :: mr_v X (.ref a) :: _ = _; rw [hab]; rfl) (by rw [hb]; exact hd)
    exact ⟨vm₁, mk, X₁, X₁.named hnamed, fun target hs => hstep₁ target (fun acts => by rw [doInvoke_state]; rw [List.map_cons, hab] at hs; exact hs)⟩
  by_cases h6 : mj_T h a = 6
  · rw [if_pos h6]
    exact go "DotBook$Block" mj_yB (by rw [h6]; rfl) (mr_wG G a1) (mr_wG G a2) (mr_wG G a3) (mr_wG G a4) (mr_wG G a5)
  · rw [if_neg h6]
    have h4 : mj_T h a = 4 := hT.resolve_left h6
    exact go "DotBook$Line" mj_yL (by rw [h4]; rfl) (mr_wG G b1) (mr_wG G b2) (mr_wG G b3) (mr_wG G b4) (mr_wG G b5)
end
