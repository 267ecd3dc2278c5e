/-! calls -/
theorem mj_plain : ∀ z, z < 169 → plainFor (mj_mn z) = true := by decide +kernel
theorem mj_naml : ∀ z, z < 169 → mj_na z ≤ mj_ml z ∧ mj_ml z ≤ 20 := by decide +kernel
theorem mj_cw_mv (z : Nat) : mj_mv (mj_cw z) = true := by
  unfold mj_cw
  split <;> rfl
theorem mr_callee {X : mr_X} {xs : Nat → Int32} {L : Nat} {p : Program} {s U : State} {z : Nat} {mk : MethodId} (hx : p.tables.exec = Jvm.exec) (g : mr_G X xs L s) (hW : s.WarmedH U.vm) (hz : z < 168) (hn : U.methodNamed? (mj_mn z) = some mk) :
    ∃ (methk : Method) (ck : Code), U.vm.method? mk = some methk ∧ methk.code = some ck ∧ methk.locks = false ∧ U.plainMethod mk ∧ ∀ V : State, V.vm = U.vm → mr_F z p V mk methk ck := by
  have hpl : ∀ {methk : Method}, U.vm.method? mk = some methk → U.plainMethod mk := fun h => State.plainMethod.of_named (mj_plain z (by omega)) hn h
  have hw : (mj_cw z).before #[] U = true := mj_mv_use (mj_cw_mv z) (mj_mv_warm (mj_cw_mv z) hW (g.1 _ (mj_cw_in hz) (mj_cw_mv z)))
  unfold mj_cw at hw
  split at hw
  · next e =>
    obtain ⟨meth, c, h1, h2, h3, h4, h5, h6, h7, h8⟩ := Cond.code_spec hn hw
    refine ⟨meth, c, h1, h2, h6, hpl h1, fun V hV => ⟨hx, h3, h4, by rw [hV]; exact findClass_of_methodNamed hn, h5, h6, (name_of_methodNamed hn h1).1, ?_⟩⟩
    rw [e]
    have : c.exceptionTable.toList = [] := by simpa using h7
    rw [this]; rfl
  · obtain ⟨m9, meth, c, hn9, h1, h2, h3, h4, h5, h6, h7, h8⟩ := Cond.codeWith_spec hw
    cases hn.symm.trans hn9
    exact ⟨meth, c, h1, h2, h7, hpl h1, fun V hV => ⟨hx, h3, h4, by rw [hV]; exact findClass_of_methodNamed hn, h6, h7, (name_of_methodNamed hn h1).1, h5⟩⟩
theorem mr_a1_cat {X : mr_X} {v : Value} (h : mj_a1 v = true) : (mr_v X v).category = 1 := by
  cases v <;> first | rfl | exact mr_cat | (simp [mj_a1] at h)
theorem mr_sl {X : mr_X} : ∀ {as : List Value}, as.all mj_a1 = true → lg_sl (as.map (mr_v X)) = (as.map (mr_v X)).map Slot.val
  | [], _ => rfl
  | v :: as, h => by
    rw [List.all_cons, Bool.and_eq_true] at h
    have ih := mr_sl (X := X) (as := as) h.2
    show (if (mr_v X v).category = 2 then [Slot.val (mr_v X v), Slot.second] else [Slot.val (mr_v X v)]) ++ lg_sl (as.map (mr_v X)) = _
    rw [mr_a1_cat h.1, ih]; rfl
theorem mj_nth_app : ∀ {as : List Value} {k i : Nat}, mj_nth (as ++ List.replicate k (.retAddr 0)) i = (as[i]?).getD (.retAddr 0)
  | [], k, i => by
    simp only [List.nil_append, List.getElem?_nil, Option.getD_none]
    induction k generalizing i with
    | zero => unfold mj_nth; rfl
    | succ k ih =>
      cases i with
      | zero => rfl
      | succ i => exact ih i
  | v :: as, k, 0 => rfl
  | v :: as, k, i + 1 => mj_nth_app (as := as) (k := k) (i := i)
theorem mr_ent {X : mr_X} {z : Nat} {as : List Value} (hlen : as.length ≤ mj_ml z) (ha : as.all mj_a1 = true) : mr_L X ((lg_sl (as.map (mr_v X)) ++ List.replicate (mj_ml z - (lg_sl (as.map (mr_v X))).length) Slot.unset).toArray) (mj_ent z as) (mj_ml z) := by
  have hl : (lg_sl (as.map (mr_v X))).length = as.length := by rw [mr_sl ha]; simp
  have hh := lv_entry (as.map (mr_v X)) (n := mj_ml z) (by omega)
  refine ⟨hh.1, hh.2.1, by simp [mj_ent]; omega, fun i => ?_⟩
  unfold mj_ent
  rw [mj_nth_app]
  have at' : ∀ v, as[i]? = some v → ((lg_sl (as.map (mr_v X)) ++ List.replicate (mj_ml z - (lg_sl (as.map (mr_v X))).length) Slot.unset).toArray)[i]? = some (.val (mr_v X v)) := by
    intro v hv
    have hi : i < as.length := (List.getElem?_eq_some_iff.mp hv).1
    rw [List.getElem?_toArray, List.getElem?_append_left (by omega), mr_sl ha, List.getElem?_map, List.getElem?_map, hv]
    rfl
  have h1 : ∀ v, as[i]? = some v → mj_a1 v = true := fun v hv => List.all_eq_true.mp ha v (List.mem_of_getElem? hv)
  cases hv : as[i]? with
  | none =>
    rw [Option.getD_none]
    exact ⟨fun x q => (by cases q), fun a q => (by cases q), fun x q => (by cases q), fun x q => (by cases q)⟩
  | some v =>
    rw [Option.getD_some]
    refine ⟨fun x q => by rw [at' v hv, q]; rfl, fun a q => by rw [at' v hv, q], fun x q => ?_, fun x q => ?_⟩
    · have := h1 v hv; rw [q] at this; cases this
    · have := h1 v hv; rw [q] at this; cases this
theorem mr_size_ge {X : mr_X} {xs : Nat → Int32} {L : Nat} {h : mj_H} {H : Heap} (q : mr_H X xs L h H) (hB : mr_B X ≤ H.size) : mr_B X + mj_Z h ≤ H.size + 20 := by
  rcases Nat.lt_or_ge 20 (mj_Z h) with hz | hz
  · have := (q.2.2.2.2.2 _ _ (mr_ws_at (X := X) (h := h) (a := mj_Z h - 1) (by omega) (by omega))).lt
    simp only at this
    omega
  · omega
theorem mj_sp_ok : ∀ {n : Nat} {acc st as r : List Value}, mj_sp n acc st = some (as, r) → ∃ pre, st = pre ++ r ∧ pre.length = n ∧ as = pre.reverse ++ acc
  | 0, acc, st, as, r, h => by cases h; exact ⟨[], rfl, rfl, rfl⟩
  | n + 1, acc, [], as, r, h => by cases h
  | n + 1, acc, v :: st, as, r, h => by
    have h : mj_sp n (v :: acc) st = some (as, r) := h
    obtain ⟨pre, h1, h2, h3⟩ := mj_sp_ok h
    exact ⟨v :: pre, by rw [h1]; rfl, by simp [h2], by rw [h3]; simp⟩
theorem mr_hcov {y pc : Nat} {c : Code} (hy : y < 169) (ht : c.exceptionTable.toList.map (fun x => (x.startPc, x.endPc, x.handlerPc, x.catchType)) = mj_hi y) (h : mj_cov pc (mj_hd y) = false) : ∀ x ∈ c.exceptionTable.toList, covers x pc = false := by
  intro x hx
  have h1 : (x.startPc, x.endPc, x.handlerPc, x.catchType) ∈ mj_hi y := by rw [← ht]; exact List.mem_map.mpr ⟨x, hx, rfl⟩
  obtain ⟨i, hi⟩ := List.getElem?_of_mem h1
  have hlt : i < (mj_hd y).length := by rw [mj_hlen y hy]; exact (List.getElem?_eq_some_iff.mp hi).1
  have hz : ((mj_hd y).zip (mj_hi y))[i]? = some ((mj_hd y)[i], (x.startPc, x.endPc, x.handlerPc, x.catchType)) := by
    rw [List.getElem?_zip_eq_some]
    exact ⟨List.getElem?_eq_getElem hlt, hi⟩
  have hq := List.all_eq_true.mp (mj_hlk y hy) _ (List.mem_of_getElem? hz)
  simp only [Bool.and_eq_true, decide_eq_true_eq] at hq
  obtain ⟨-, -, ⟨e1, e2, -⟩, -⟩ := hq
  have hn := List.any_eq_false.mp h _ (List.getElem_mem hlt)
  simp only [decide_eq_true_eq] at hn
  simp only [covers]
  rw [← e1, ← e2]
  simp only [Bool.and_eq_false_iff, decide_eq_false_iff_not]
  omega
section
variable {X : mr_X} {xs : Nat → Int32} {L : Nat} {p : Program} {l : Launch} {e : Env} {R : Room} {s : State} {m : MethodId} {args : Array Value} {below : List Frame} {meth : Method} {c : Code} {H : Heap} {locs : List Loc} {cells slots y pc : Nat} {ls : Array Slot} {lc : List Value} {h : mj_H} {P Q : mj_P}
theorem mr_call {d z n len : Nat} {as r : List Value} {ig : Instr} {g0 : JFrame} (C : mr_C X xs L p R s m meth c (d + 1) y) (hy : y < 169) (hS : mr_S X xs L R s y lc h H locs cells slots ls) (hd : decode (mj_by y) pc = .ok (ig, len)) (hn : n = pc + len) (hz : z < 168) (has : as.all mj_a1 = true) (hlen : as.length = mj_na z) (hr : Nat.ble r.length 8 = true)
    (hcall : ∀ T : State, T.heap = H → Stand p l e R s m args below meth c T locs cells slots → ∃ (vm₁ : Vm) (mk : MethodId), Stand p l e R s m args below meth c (T.setVm vm₁) locs cells slots ∧ (T.setVm vm₁).methodNamed? (mj_mn z) = some mk ∧
      ∀ target, Steps p.tables e below (doInvoke e ((T.setVm vm₁).setTop (F0 m pc ls (r.map (mr_v X)))) [] mk (as.map (mr_v X)).toArray).1 target → Steps p.tables e below (T.setTop g0) target)
    (k1 : mr_Z X xs L p l e d z 0 (mj_ent z as) [] h Q) (k2 : ∀ v h', Q (.inl v) h' → mr_Z X xs L p l e (d + 1) y n lc (v.toList ++ r) h' P)
    (k3 : ∀ a h', Q (.inr a) h' → (∃ hp, mj_hf pc (mj_T h' a) (mj_hd y) = some (some hp) ∧ mr_Z X xs L p l e (d + 1) y hp lc [.ref a] h' P) ∨ (mj_hf pc (mj_T h' a) (mj_hd y) = some none ∧ P (.inr a) h')) :
    W p l e R s m args below meth c H locs cells slots (mr_Q X xs L R s below P) g0 := by
  intro T hT X0
  obtain ⟨vm₁, mk, X₁, hnm, st⟩ := hcall T hT X0
  obtain ⟨⟨hx, hb, hml, hown, hret, hlocks, hname, hexc⟩, G, hfr, hlo⟩ := id C
  obtain ⟨sU, sc, ss, sH, sS, sE, sL⟩ := id hS
  obtain ⟨methk, ck, hmk, hck, hlk, hpk, F⟩ := mr_callee hx G X₁.warmed hz hnm
  have hsum := mr_sum8 (X := X) hr
  have hna := mj_naml z (by omega)
  have hckl : ck.maxLocals = mj_ml z := (F _ rfl).2.2.1
  have hdg : decode c.code pc = .ok (ig, len) := by rw [hb]; exact hd
  have hHs : H.size ≤ s.heap.size + cells := by rw [← hT]; exact X0.heapSize
  have hHB : mr_B X ≤ H.size := Nat.le_trans G.2.2.2 sS.1
  have hHex : H.size + 20 = mr_B X + mj_Z h := by have := mr_size_ge sH hHB; omega
  obtain ⟨Y₀, hin⟩ := X₁.into (g := F0 m pc ls (r.map (mr_v X))) rfl (by show ls.size = c.maxLocals; rw [hml]; exact sL.1) hdg (as.map (mr_v X)).toArray (R' := { frames := R.frames - 1, cells := mj_M - mj_U h, slots := mj_M - mj_U h, locals := R.locals - 64 }) hmk hck hlk hpk (by show R.frames - 1 + 1 ≤ _; omega) (by show 2 * 0 + ((r.map (mr_v X)).map (fun v => v.category)).sum + (ck.maxLocals + 11) + (R.locals - 64) ≤ R.locals; rw [hckl]; omega) sc ss
  have hcall' : ((T.setVm vm₁).calling (F0 m pc ls (r.map (mr_v X))) mk (as.map (mr_v X)).toArray).heap = H := hT
  have hheap : (((T.setVm vm₁).setTop (F0 m pc ls (r.map (mr_v X)))).pushFrame (.java (entryFrame mk (as.map (mr_v X)).toArray ck.maxLocals))).heap = H := hT
  have W1 := k1 { frames := R.frames - 1, cells := mj_M - mj_U h, slots := mj_M - mj_U h, locals := R.locals - 64 } ((T.setVm vm₁).calling (F0 m pc ls (r.map (mr_v X))) mk (as.map (mr_v X)).toArray) mk (as.map (mr_v X)).toArray (.java (F0 m pc ls (r.map (mr_v X))) :: below) methk ck H [] 0 0 _
    ⟨F _ rfl, G.moved X₁.warmed (by rw [hcall']; exact sS.1) (fun q h1 h2 => by rw [hcall']; exact sS.2.1 q h1 h2), by show d + 8 ≤ R.frames - 1; omega, by show 64 * d + 400 ≤ R.locals - 64; omega⟩
    ⟨sU, by show 0 + _ ≤ mj_M - mj_U h; omega, by show 0 + _ ≤ mj_M - mj_U h; omega, sH, by rw [hcall']; exact va_S.rf, by rw [hcall']; omega, mr_ent (by omega) has⟩
  obtain ⟨t, st1, o, h', Lc, kc, nc, hrun, hend, hWt, hsame, hLc, hU', hc', hs', hex1, hex2, hH', hsz', hold', hthr, hP⟩ := W1 _ hheap Y₀
  rw [hcall'] at hex1 hsz' hold'
  have hcc : kc + (mj_M - mj_U h') ≤ mj_M - mj_U h := hc'
  have hss : nc + (mj_M - mj_U h') ≤ mj_M - mj_U h := hs'
  have hstep : Steps p.tables e below (doInvoke e ((T.setVm vm₁).setTop (F0 m pc ls (r.map (mr_v X)))) [] mk (as.map (mr_v X)).toArray).1 t := by
    rw [hin [], lg_entry_eq, hckl]
    rw [hckl, lg_entry_eq] at st1
    exact mt_weaken (mid := [.java (F0 m pc ls (r.map (mr_v X)))]) st1
  have newS : ∀ (T' : State), T'.heap = t.heap → mr_S X xs L R s y lc h' T'.heap (locs ++ Lc) (cells + kc) (slots + nc) ls := by
    intro T' hT'
    rw [hT']
    refine ⟨hU', by omega, by omega, hH', ⟨Nat.le_trans sS.1 hsz', fun q h1 h2 => ?_, fun q hq => ?_⟩, by omega, sL⟩
    · rw [hold' q (Nat.lt_of_lt_of_le h1 sS.1) h2]; exact sS.2.1 q h1 h2
    · rcases List.mem_append.mp hq with hq | hq
      · exact sS.2.2 q hq
      · exact hLc q hq
  cases o with
  | inl v =>
    obtain ⟨T', X', hW', hB', ht⟩ := X₁.outOf (g := F0 m pc ls (r.map (mr_v X))) rfl hdg hend hWt hsame
    have hth : T'.heap = t.heap := by rw [ht]; rfl
    obtain ⟨t2, s2, q2⟩ := k2 v h' hP R s m args below meth c T'.heap (locs ++ Lc) (cells + kc) (slots + nc) ls C (newS T' hth) T' rfl X'
    refine ⟨t2, st _ (hstep.trans ?_), q2⟩
    rw [ht]
    subst hn
    have hst : (v.toList ++ r).map (mr_v X) = (v.map (mr_v X)).toList ++ r.map (mr_v X) := by cases v <;> rfl
    rw [hst] at s2
    exact s2
  | inr a =>
    obtain ⟨ha20, hT8, hT10⟩ := hthr a rfl
    obtain ⟨T', X', hW', hB', ht⟩ := X₁.outOfThrown (g := F0 m pc ls (r.map (mr_v X))) rfl hend hWt hsame
    have hth : T'.heap = t.heap := by rw [ht]; rfl
    have hS' := newS T' hth
    rcases k3 a h' hP with ⟨hp, hhf, kk⟩ | ⟨hhf, hPx⟩
    · have hcov : mj_cov pc (mj_hd y) = true := by
        cases hcv : mj_cov pc (mj_hd y) with
        | true => rfl
        | false => unfold mj_hf at hhf; rw [hcv] at hhf; cases hhf
      unfold mj_hf at hhf
      rw [hcov] at hhf
      have hhg : mj_hg pc (mj_T h' a) (mj_hd y) = some (some hp) := hhf
      have he := mr_at_obj (t := mj_T h' a) hH' ha20 rfl (by omega)
      obtain ⟨_, r1, cell, g1, g2, g3, -⟩ := hH'.2.2.2.2.2 _ _ he
      have g1 : T'.heap[mr_B X + (a - 20)]? = some cell := by rw [hth]; exact g1
      have hpl : e.platform.magicAccessors = ({} : Platform).magicAccessors := by rw [X'.admits.platform]
      obtain ⟨v', hw', hq⟩ := mt_go (y := y) (S0 := (T'.setTop (F0 m pc ls (r.map (mr_v X)))).pushFrame (.throwing (mr_B X + (a - 20)))) hpl hown G (g := F0 m pc ls (r.map (mr_v X))) rfl (x := mr_B X + (a - 20)) g1 g3 (t := mj_T h' a) (hp := hp) ⟨hT8, hT10⟩ g2 c.exceptionTable.toList (mj_hd y)
        (by rw [mj_hlen y hy, ← hexc, List.length_map]) (by rw [hexc]; exact mj_hlk y hy) hhg T'.vm X'.warmed
      have hfinds : mt_Finds e ((T'.setTop (F0 m pc ls (r.map (mr_v X)))).pushFrame (.throwing (mr_B X + (a - 20)))) (F0 m pc ls (r.map (mr_v X))) (mr_B X + (a - 20)) hp v' := by
        intro Qh E dd acts
        rw [W.findHandler_eq (meth := meth) (code := c) X'.method' X'.code]
        exact hq Qh E dd acts
      have X'' := X'.noted hw'
      obtain ⟨t2, s2, q2⟩ := kk R s m args below meth c T'.heap (locs ++ Lc) (cells + kc) (slots + nc) ls C hS' (T'.setVm v') rfl X''
      refine ⟨t2, st _ (hstep.trans ?_), q2⟩
      rw [ht]
      refine mt_caught X'.here hfinds ?_
      rw [List.map_cons, mr_v_new ha20] at s2
      exact s2
    · have hcov : mj_cov pc (mj_hd y) = false := by
        cases hcv : mj_cov pc (mj_hd y) with
        | false => rfl
        | true =>
          exfalso
          unfold mj_hf at hhf
          rw [hcv] at hhf
          have hhf : mj_hg pc (mj_T h' a) (mj_hd y) = some none := hhf
          revert hhf
          generalize mj_hd y = l
          induction l with
          | nil => intro q; cases q
          | cons q l ih =>
            obtain ⟨a1, b1, c1, u1⟩ := q
            intro w
            unfold mj_hg at w
            split at w
            · split at w
              · cases w
              · split at w
                · exact ih w
                · cases w
            · exact ih w
      obtain ⟨l1, l2, l3, l4, l5⟩ := X'.leaveThrown (mr_B X + (a - 20)) (g := F0 m pc ls (r.map (mr_v X))) rfl rfl rfl (mr_hcov hy hexc hcov) hlocks
      refine ⟨_, st _ (hstep.trans (by rw [ht]; exact l1)), .inr a, h', locs ++ Lc, cells + kc, slots + nc, l2, l3, l4, l5, ?_, hU', by omega, by omega, by omega, ?_, ?_, ?_, ?_, fun b hb => by cases hb; exact ⟨ha20, hT8, hT10⟩, hPx⟩
      · intro q hq
        exact hS'.2.2.2.2.1.2.2 q hq
      · show T'.heap.size + 20 = _; rw [hth]; exact hex2
      · show mr_H X xs L h' T'.heap; rw [hth]; exact hH'
      · exact hS'.2.2.2.2.1.1
      · exact hS'.2.2.2.2.1.2.1
end
