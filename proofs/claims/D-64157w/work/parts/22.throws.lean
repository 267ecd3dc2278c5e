/-! an exception is caught in a method whose catch type may not be resolved yet -/
theorem mt_go_cold {e : Env} {s : State} {f : JFrame} {a : Addr} {Q : Handler → Pre} {E : CtlPost} {d : Bool} {acts : List Action} {x : ExceptionTableEntry} {t : List ExceptionTableEntry} {c : ClassId} {vm' : Vm} {cell : Cell} (hx : covers x f.pc = true) (h0 : x.catchType ≠ 0)
    (hg : (Jvm.resolveClass f.method.cls x.catchType).Gives e.toSetting s.vm (.ok c) vm') (hr : vm'.classReady f.method.cls x.catchType c) (hsz : vm'.classes.size ≤ s.vm.classes.size) (hcell : s.heap[a]? = some cell) (hobj : ∀ k, cell.vm ≠ .statics k)
    (hk : ∃ k, vm'.classes[cell.cls]? = some k) (hc : ∃ k, vm'.classes[c]? = some k) :
    wp (findHandler.go f a (x :: t)) Q E e d acts s ↔ wp (findHandler.go f a (x :: t)) Q E e d acts (s.setVm vm') := by
  obtain ⟨ha, ht⟩ := hg.op (op := VmOp.resolveClass f.method.cls x.catchType) rfl
  rw [W.findHandler_go_class (s := s.setVm vm') hx h0 hr hcell hobj hk hc]
  simp only [covers] at hx
  cases hfit : vm'.assignable cell.cls c <;>
    simp [findHandler.go, hx, h0, ha, ht, hsz, hcell, hobj, hk, hc, hfit, VmOp.dirties, VmOp.acts]
/-- what the search gives, and the tables behind it -/
def mt_Finds (e : Env) (s : State) (f : JFrame) (a : Addr) (pc : Nat) (vm' : Vm) : Prop := ∀ (Q : Handler → Pre) (E : CtlPost) (d : Bool) (acts : List Action), wp (findHandler f a) Q E e d acts s ↔ Q (.found pc) d acts (s.setVm vm')
theorem mt_catch {e : Env} {s : State} {a : Addr} {f : JFrame} {r : List Frame} {pc : Nat} {vm' : Vm} (hfind : mt_Finds e s f a pc vm') :
    (stepThrowing e s a (.java f :: r)).Is ((s.setVm vm').setFrames (.java { f with pc := pc, stack := [.ref a] } :: r)) [] := by
  simp only [stepThrowing, searchFrame, vmDo]
  generalize hr : Sem.go _ e false [] s = res
  obtain ⟨as, rfl, ha⟩ := Sem.eq_ok_of hr (a := Handler.found pc) (s' := s.setVm vm') (acts' := []) (by simp [hfind _ _ _ _])
  exact ⟨rfl, ha⟩
theorem mt_caught {tb : Tables} {e : Env} {s target : State} {g : JFrame} {c : Code} {below : List Frame} {a : Addr} {vm' : Vm} (h : At s g.method c below) {pc : Nat} (hfind : mt_Finds e ((s.setTop g).pushFrame (.throwing a)) g a pc vm')
    (hrest : Steps tb e below ((s.setVm vm').setTop { g with pc := pc, stack := [.ref a] }) target) : Steps tb e below ((s.setTop g).pushFrame (.throwing a)) target := by
  obtain ⟨hgo, hw⟩ := h.throwing a
  refine Steps.head hgo hw ?_
  rw [stepThread_throwing (frames_entered h.top _), (mt_catch (s := (s.setTop g).pushFrame (.throwing a)) hfind).1]
  obtain ⟨g₀, hg⟩ := Option.isSome_iff_exists.mp h.top
  obtain ⟨r, hr⟩ := State.topJava?_eq_some.mp hg
  have hr' : (s.setVm vm').frames = .java g₀ :: r := hr
  rw [State.setTop_of_frames _ hr'] at hrest
  have e1 : ((s.setTop g).pushFrame (.throwing a)).setVm vm' = ((s.setVm vm').setTop g).pushFrame (.throwing a) := rfl
  rw [e1, State.pushFrame, State.setFrames_setFrames, State.setTop_of_frames _ hr', State.setFrames_setFrames]
  have e2 : s.frames.tail = r := by rw [hr]; rfl
  rw [e2]
  exact hrest
theorem mt_weaken {tb : Tables} {e : Env} {mid below : List Frame} {a b : State} (h : Steps tb e (mid ++ below) a b) : Steps tb e below a b := by
  obtain ⟨n, hn, w⟩ := h
  exact ⟨n, hn, fun k hk => (w k hk).weaken⟩
theorem mj_hlk : ∀ y, y < 169 → ((mj_hd y).zip (mj_hi y)).all (fun q => mj_has (.classLink (mj_mn y).cls q.2.2.2.2 (mj_CN q.1.2.2.2)) && (decide (8 ≤ q.1.2.2.2 ∧ q.1.2.2.2 ≤ 10) && (decide (q.1.1 = q.2.1 ∧ q.1.2.1 = q.2.2.1 ∧ q.1.2.2.1 = q.2.2.2.1) && !(q.2.2.2.2 == 0)))) = true := by decide +kernel
theorem mj_hlen : ∀ y, y < 169 → (mj_hd y).length = (mj_hi y).length := by decide +kernel
theorem mj_casts : mj_has (.castable "java/lang/IllegalArgumentException" "java/lang/IllegalArgumentException") = true ∧ mj_has (.castable "java/lang/IllegalStateException" "java/lang/IllegalStateException") = true ∧ mj_has (.castable "java/lang/IndexOutOfBoundsException" "java/lang/IndexOutOfBoundsException") = true := by decide +kernel
theorem mr_hasG {X : mr_X} {xs : Nat → Int32} {L : Nat} {s : State} (G : mr_G X xs L s) {w : Cond} (h : mj_has w = true) : va_Nw w s := by
  simp only [mj_has, Bool.and_eq_true, decide_eq_true_eq] at h
  exact G.1 w h.1 h.2
/-- an exception's class can be assigned to itself -/
theorem mr_self {X : mr_X} {xs : Nat → Int32} {L : Nat} {s : State} (G : mr_G X xs L s) {t : Nat} (ht : 8 ≤ t ∧ t ≤ 10) : s.vm.assignable ((mr_D X).1 t) ((mr_D X).1 t) = true := by
  have go : ∀ {t : Nat}, t < 11 → mj_has (.castable (mj_CN t) (mj_CN t)) = true → s.vm.assignable ((mr_D X).1 t) ((mr_D X).1 t) = true := by
    intro t h11 hh
    obtain ⟨c1, c2, g1, g2, g3⟩ := Cond.castable_spec (mr_hasG G hh)
    have hk := (G.2.1.1 t _ (mj_cls_at t h11)).2.1
    cases hk.symm.trans g1
    cases hk.symm.trans g2
    exact g3
  rcases (show t = 8 ∨ t = 9 ∨ t = 10 by omega) with rfl | rfl | rfl
  · exact go (by omega) mj_casts.1
  · exact go (by omega) mj_casts.2.1
  · exact go (by omega) mj_casts.2.2
section
variable {X : mr_X} {xs : Nat → Int32} {L : Nat} {p : Program} {l : Launch} {e : Env} {R : Room} {s : State} {m : MethodId} {args : Array Value} {below : List Frame} {meth : Method} {c : Code} {T : State} {locs : List Loc} {cells slots y : Nat}
theorem mt_go (hpl : e.platform.magicAccessors = ({} : Platform).magicAccessors) (hown : s.vm.findClass (mj_mn y).cls = some m.cls) (G : mr_G X xs L s) {S0 : State} {g : JFrame} (hg : g.method = m) {x : Addr} {cell : Cell} (hcell : S0.heap[x]? = some cell) (hvm : cell.vm = .none) {t hp : Nat} (ht : 8 ≤ t ∧ t ≤ 10) (hcls : cell.cls = (mr_D X).1 t) :
    ∀ (tb : List ExceptionTableEntry) (hd : List (Nat × Nat × Nat × Nat)), tb.length = hd.length → (hd.zip (tb.map (fun x => (x.startPc, x.endPc, x.handlerPc, x.catchType)))).all (fun q => mj_has (.classLink (mj_mn y).cls q.2.2.2.2 (mj_CN q.1.2.2.2)) && (decide (8 ≤ q.1.2.2.2 ∧ q.1.2.2.2 ≤ 10) && (decide (q.1.1 = q.2.1 ∧ q.1.2.1 = q.2.2.1 ∧ q.1.2.2.1 = q.2.2.2.1) && !(q.2.2.2.2 == 0)))) = true → mj_hg g.pc t hd = some (some hp) →
      ∀ v : Vm, s.WarmedH v → ∃ v' : Vm, s.WarmedH v' ∧ ∀ (Q : Handler → Pre) (E : CtlPost) (d : Bool) (acts : List Action), wp (findHandler.go g x tb) Q E e d acts (S0.setVm v) ↔ Q (.found hp) d acts (S0.setVm v')
  | [], [], _, _, h, _, _ => by cases h
  | [], _ :: _, hl, _, _, _, _ => by simp at hl
  | _ :: _, [], hl, _, _, _, _ => by simp at hl
  | en :: tb, (a, b, hp', u) :: hd, hl, hc, hh, v, hW => by
    rw [List.map_cons, List.zip_cons_cons, List.all_cons, Bool.and_eq_true] at hc
    obtain ⟨hc1, hc2⟩ := hc
    simp only [Bool.and_eq_true, decide_eq_true_eq, Bool.not_eq_true', beq_eq_false_iff_ne] at hc1
    obtain ⟨w1, hu, ⟨e1, e2, e3⟩, h0⟩ := hc1
    have hl' : tb.length = hd.length := by simpa using hl
    unfold mj_hg at hh
    by_cases hcov : a ≤ g.pc ∧ g.pc < b
    · rw [if_pos hcov] at hh
      have hx : covers en g.pc = true := by simp only [covers]; rw [← e1, ← e2]; simp [hcov]
      have hown' : s.vm.findClass (mj_mn y).cls = some g.method.cls := by rw [hg]; exact hown
      obtain ⟨cc, hfcc, hcl⟩ := Cond.classLink_spec hown' (mr_hasG G w1) e.platform hpl
      have hcu := (G.2.1.1 u _ (mj_cls_at u (by omega))).2
      cases hcu.1.symm.trans hfcc
      obtain ⟨hg₁, hwarm₁, hready₁⟩ := State.classEntry (e := e) (vm₀ := v) hW hcl
      generalize hv1 : v.noted g.method.cls en.catchType (.cls ((mr_D X).1 u)) = v1 at hg₁ hwarm₁ hready₁
      have hsz : v1.classes.size ≤ v.classes.size := by
        have a1 := hwarm₁.alike.2.1
        have a2 := hW.alike.2.1
        omega
      have hk1 : ∃ k, v1.classes[cell.cls]? = some k := by
        obtain ⟨-, kC, hkC, -⟩ := (G.2.1.1 t _ (mj_cls_at t (by omega))).2
        obtain ⟨k', hk', -⟩ := hwarm₁.alike.2.2 _ _ hkC
        exact ⟨k', by rw [hcls]; exact hk'⟩
      have hk2 : ∃ k, v1.classes[(mr_D X).1 u]? = some k := by
        obtain ⟨-, kC, hkC, -⟩ := hcu
        obtain ⟨k', hk', -⟩ := hwarm₁.alike.2.2 _ _ hkC
        exact ⟨k', hk'⟩
      have hobj : ∀ k, cell.vm ≠ .statics k := fun k q => by rw [hvm] at q; cases q
      by_cases hut : u = t
      · rw [if_pos hut] at hh
        cases hh
        refine ⟨v1, hwarm₁, fun Q E d acts => ?_⟩
        rw [mt_go_cold (s := S0.setVm v) hx h0 hg₁ hready₁ hsz hcell hobj hk1 hk2]
        show wp _ _ _ _ _ _ (S0.setVm v1) ↔ _
        rw [W.findHandler_go_class (s := S0.setVm v1) hx h0 hready₁ hcell hobj hk1 hk2]
        have hfit : v1.assignable cell.cls ((mr_D X).1 u) = true := by
          rw [hcls, hut, hwarm₁.alike.assignable]; exact mr_self G ht
        rw [if_pos (show (S0.setVm v1).vm.assignable cell.cls ((mr_D X).1 u) = true from hfit), ← e3]
      · rw [if_neg hut] at hh
        by_cases h98 : t = 9 ∧ u = 8
        · rw [if_pos h98] at hh
          obtain ⟨v', hw', hq⟩ := mt_go hpl hown G hg hcell hvm ht hcls tb hd hl' hc2 hh v1 hwarm₁
          refine ⟨v', hw', fun Q E d acts => ?_⟩
          rw [mt_go_cold (s := S0.setVm v) hx h0 hg₁ hready₁ hsz hcell hobj hk1 hk2]
          show wp _ _ _ _ _ _ (S0.setVm v1) ↔ _
          rw [W.findHandler_go_class (s := S0.setVm v1) hx h0 hready₁ hcell hobj hk1 hk2]
          have hfit : v1.assignable cell.cls ((mr_D X).1 u) = false := by
            obtain ⟨rfl, rfl⟩ := h98
            rw [hcls, hwarm₁.alike.assignable]
            obtain ⟨n1, n2, f1, f2, f3⟩ := G.2.2.1.2.2.2.2.2.2.2.2.2.2.2.2.2.2.1
            have i1 := (G.2.1.1 9 _ (mj_cls_at 9 (by omega))).2.1
            have i2 := (G.2.1.1 8 _ (mj_cls_at 8 (by omega))).2.1
            cases i1.symm.trans f1
            cases i2.symm.trans f2
            exact f3
          rw [if_neg (show ¬ (S0.setVm v1).vm.assignable cell.cls ((mr_D X).1 u) = true from by show ¬ v1.assignable _ _ = true; rw [hfit]; decide)]
          exact hq Q E d acts
        · rw [if_neg h98] at hh; cases hh
    · rw [if_neg hcov] at hh
      have hx : covers en g.pc = false := by
        simp only [covers]
        rw [← e1, ← e2]
        simp only [Bool.and_eq_false_iff, decide_eq_false_iff_not]
        omega
      obtain ⟨v', hw', hq⟩ := mt_go hpl hown G hg hcell hvm ht hcls tb hd hl' hc2 hh v hW
      refine ⟨v', hw', fun Q E d acts => ?_⟩
      rw [W.findHandler_go_skip hx]
      exact hq Q E d acts
end
