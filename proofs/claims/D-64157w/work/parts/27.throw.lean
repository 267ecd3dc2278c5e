/-! an exception is made and thrown -/
theorem mt_restart {p : Program} {l : Launch} {e : Env} {R R' : Room} {s : State} {m : MethodId} {args : Array Value} {below : List Frame} {meth : Method} {c : Code} {T : State} {locs : List Loc} {cells slots : Nat} (X : Stand p l e R s m args below meth c T locs cells slots) (hf : R'.frames ≤ R.frames) (hl : R'.locals ≤ R.locals) (hc : cells + R'.cells ≤ R.cells) (hs : slots + R'.slots ≤ R.slots) :
    Stand p l e R' (T.setFrames (.invoking m args :: below)) m args below meth c T [] 0 0 := by
  obtain ⟨g₀, hg₀⟩ := X.frames_eq
  have hcur : T.cur < T.threads.size := State.cur_lt_of_top X.here.top
  have hF : (T.setFrames (.invoking m args :: below)).frames = .invoking m args :: below := State.frames_setFrames _ hcur
  have hm : (T.setFrames (.invoking m args :: below)).vm.method? m = some meth := X.method'
  have hroom : (T.setFrames (.invoking m args :: below)).hasRoom e.platform R' = true := by
    obtain ⟨r1, r2, r3, r4⟩ := State.hasRoom_stack X.room
    have r5 := State.hasRoom_real X.room
    have h := X.room
    simp only [State.hasRoom, Bool.and_eq_true, decide_eq_true_eq] at h
    rw [State.localsInUse_invoking X.frames X.method X.code] at r3 r4 r5
    rw [X.frames, List.length_cons] at r1 r2
    have hU := State.localsInUse_invoking hF hm X.code
    have h1 := X.heapSize
    have h2 := X.used
    have h3 := X.book
    simp only [State.hasRoom, Bool.and_eq_true, decide_eq_true_eq, hF, hU, List.length_cons, State.stackLimits_setFrames, State.stackBytes_setFrames, X.limits, X.bytes]
    refine ⟨⟨⟨⟨by omega, by omega, by omega, by omega, by omega, h.1.1.1.2.2.2.2.2⟩, ?_⟩, ?_⟩, h3⟩
    · have := h.1.1.2
      show T.heap.size + R'.cells ≤ _
      omega
    · have := h.1.2
      show T.slotsUsed + R'.slots ≤ _
      omega
  have hhears : (T.setFrames (.invoking m args :: below)).hears m below = true := by
    have h := X.hears
    unfold State.hears at h ⊢
    split at h
    · next g r =>
      have e1 : (T.setFrames (.invoking m args :: .java g :: r)).code? g.method = s.code? g.method := by
        rw [State.code?_eq, State.code?_eq]
        show (T.vm.method? g.method).bind _ = _
        rw [X.warmed.alike.method?]
      simp only [e1]
      exact h
    · rfl
    · rfl
    · next h1 h2 h3 =>
      show (T.vm.method? m).any _ = true
      rw [X.warmed.alike.method?]
      exact h
  obtain ⟨x, hx, -⟩ := State.frames_cons hg₀
  refine ⟨X.admits, X.cas, X.clock, hF, hroom, hhears, hm, X.code, X.here, X.tail, State.WarmedH.refl _, ?_, ?_, ?_⟩
  · rw [State.stackLimits_setFrames]
  · rw [State.stackBytes_setFrames]
  · have hcur' : (T.setFrames (.invoking m args :: below)).cur < (T.setFrames (.invoking m args :: below)).threads.size := State.cur_lt_of_frames hF
    obtain ⟨x', hx', -⟩ := State.frames_cons hF
    have h := (State.sameButNew.refl (T.setFrames (.invoking m args :: below)) hx').setFrames T.frames hcur'
    rw [State.setFrames_setFrames, State.setFrames_self hx] at h
    exact h
theorem mt_noLocs {s t : State} {cells slots : Nat} (h : s.sameButNew t [] cells slots) {q : Nat} (hq : q < s.heap.size) : t.heap[q]? = s.heap[q]? := by
  obtain ⟨c, hc⟩ : ∃ c, s.heap[q]? = some c := ⟨_, Array.getElem?_eq_getElem hq⟩
  obtain ⟨c', h1, h2, h3, h4⟩ := h.2.2.2.2.2 q c hc
  rw [h1, hc]
  have : c'.slots = c.slots := Array.ext_getElem? (fun i => h4 i (by simp))
  rw [h2, this]
def mj_exn : List String := ["java/lang/RuntimeException", "java/lang/Exception"]
def mj_isR (w : Cond) : Bool := (decide (w = .isRef (.static "java/lang/Throwable" "UNASSIGNED_STACK" "[Ljava/lang/StackTraceElement;")) || decide (w = .isRef (.static "java/lang/Throwable" "SUPPRESSED_SENTINEL" "Ljava/util/List;"))) ||
  (decide (w = .laysStatic "java/lang/Throwable" "UNASSIGNED_STACK" "[Ljava/lang/StackTraceElement;") || decide (w = .laysStatic "java/lang/Throwable" "SUPPRESSED_SENTINEL" "Ljava/util/List;"))
def mj_exi : Nat → Nat
  | 8 => 112 | 9 => 119 | _ => 233
theorem mj_own8 : (Bundle.ownAtoms0 "DotBook" 112 (mj_CN 8) mj_exn).all (fun w => mj_isR w || mj_has w) = true := by decide +kernel
theorem mj_own9 : (Bundle.ownAtoms0 "DotBook" 119 (mj_CN 9) mj_exn).all (fun w => mj_isR w || mj_has w) = true := by decide +kernel
theorem mj_own10 : (Bundle.ownAtoms0 "DotBook" 233 (mj_CN 10) mj_exn).all (fun w => mj_isR w || mj_has w) = true := by decide +kernel
theorem mj_own {t : Nat} (h8 : 8 ≤ t) (h10 : t ≤ 10) : (Bundle.ownAtoms0 "DotBook" (mj_exi t) (mj_CN t) mj_exn).all (fun w => mj_isR w || mj_has w) = true := by
  rcases (show t = 8 ∨ t = 9 ∨ t = 10 by omega) with rfl | rfl | rfl
  · exact mj_own8
  · exact mj_own9
  · exact mj_own10
theorem mj_exf : ∀ t, t < 11 → 8 ≤ t → Bundle.fit (mj_CN t) = true := by decide +kernel
theorem mt_isRef {C n d : String} {A : Nat → Prop} {s : State} {args : Array Value} (h : va_Zq C n d A s s.heap) : (Cond.isRef (.static C n d)).before args s = true := by
  rcases h with ⟨cf, kf, fi, f, a, cell, h1, h2, h3, h4, h5, h6, h7, h8⟩ | ⟨t, cf, kf, fi, f, a, cell, h1, h2, h3, h4, h5, h6, h7, h8⟩
  · simp [Cond.before, Cond.holds, Cond.value, Term.eval, State.fieldNamed?, h1, h2, h4, h5, h6, h7]
  · simp [Cond.before, Cond.holds, Cond.value, Term.eval, State.fieldNamed?, h1, h2, h4, h5, h6, h7]
section
variable {X : mr_X} {xs : Nat → Int32} {L : Nat} {p : Program} {l : Launch} {e : Env} {R : Room} {s : State} {m : MethodId} {args : Array Value} {below : List Frame} {meth : Method} {c : Code} {H : Heap} {locs : List Loc} {cells slots d y pc : Nat} {ls : Array Slot} {lc : List Value} {h : mj_H} {P : mj_P}
theorem mr_atoms (G : mr_G X xs L s) {t : Nat} (h8 : 8 ≤ t) (h10 : t ≤ 10) : ∀ w ∈ Bundle.ownAtoms0 "DotBook" (mj_exi t) (mj_CN t) mj_exn, w.before args s = true := by
  intro w hw
  have q := List.all_eq_true.mp (mj_own h8 h10) w hw
  rw [Bool.or_eq_true] at q
  rcases q with q | q
  · simp only [mj_isR, Bool.or_eq_true, decide_eq_true_eq] at q
    rcases q with (q | q) | (q | q)
    · subst q
      exact mt_isRef G.2.2.1.2.2.2.2.2.2.2.2.2.2.2.2.1.1
    · subst q
      exact mt_isRef G.2.2.1.2.2.2.2.2.2.2.2.2.2.2.2.2.1.1
    · subst q
      exact G.2.2.1.2.2.2.2.2.2.2.2.2.2.2.2.1.2.use
    · subst q
      exact G.2.2.1.2.2.2.2.2.2.2.2.2.2.2.2.2.1.2.use
  · have := mr_hasG G q
    simp only [mj_has, Bool.and_eq_true, decide_eq_true_eq] at q
    exact mj_mv_use q.2 this
theorem mr_throwW (htr : e.platform.stackTraces = false) (C : mr_C X xs L p R s m meth c d y) (hS : mr_S X xs L R s y lc h H locs cells slots ls) {st : List Value} {S : List Prop} {t : Nat} (hv : mj_thw y pc st h = some (S, t)) (hA : mj_all S) (hP : P (.inr (mj_Z h)) (mj_nw h t 0 6)) : W p l e R s m args below meth c H locs cells slots (mr_Q X xs L R s below P) (F0 m pc ls (st.map (mr_v X))) := by
  obtain ⟨⟨hx, hb, hml, hown, hret, hlocks, hname, hexc⟩, G, hfr, hlo⟩ := id C
  obtain ⟨sU, sc, ss, sH, sS, sE, sL⟩ := id hS
  unfold mj_thw at hv
  split at hv
  · next q n j k hi =>
    cases hble : Nat.ble st.length 8 with
    | false => rw [hble] at hv; cases hv
    | true =>
      rw [hble] at hv
      cases hv
      have hu : mj_U h + 7 ≤ mj_M := hA
      have hl := mj_lok_ok hi
      simp only [mj_lok, Bool.and_eq_true, decide_eq_true_eq, beq_iff_eq] at hl
      obtain ⟨l0, ⟨h8, h10⟩, l1, l2, l3, d1, d2, d3, hhi, hq⟩ := hl
      generalize ht : q.toNat / 65536 = t at *
      have hic : q.toNat % 65536 = mj_exi t := by
        rcases (show t = 8 ∨ t = 9 ∨ t = 10 by omega) with rfl | rfl | rfl <;> simpa [mj_exi] using hq
      obtain ⟨hn, hd⟩ := mj_dd hi rfl
      have hsum := mr_sum8 (X := X) hble
      intro T hT X0
      have hHB : mr_B X ≤ H.size := Nat.le_trans G.2.2.2 sS.1
      have hge := mr_size_ge sH hHB
      have hHs : H.size ≤ s.heap.size + cells := by rw [← hT]; exact X0.heapSize
      have h20 := sH.1
      have hHex : H.size = mr_B X + (mj_Z h - 20) := by omega
      have X1 := mt_restart (R' := { frames := R.frames, cells := 1, slots := 6, locals := R.locals }) X0 (Nat.le_refl _) (Nat.le_refl _) (by show cells + 1 ≤ _; omega) (by show slots + 6 ≤ _; omega)
      generalize hs' : T.setFrames (.invoking m args :: below) = s' at X1
      have hheap' : s'.heap = H := by rw [← hs']; exact hT
      have hvm' : s'.vm = T.vm := by rw [← hs']; rfl
      have hW' : s.WarmedH s'.vm := by rw [hvm']; exact X0.warmed
      have G' : mr_G X xs L s' := G.moved hW' (by rw [hheap']; exact sS.1) (fun q h1 h2 => by rw [hheap']; exact sS.2.1 q h1 h2)
      have hown' : s'.vm.findClass "DotBook" = some m.cls := by rw [hvm', X0.warmed.alike.findClass, ← l0]; exact hown
      have hcu := (G'.2.1.1 t _ (mj_cls_at t (by omega))).2
      have hout : ∀ (pc : Nat), ∀ x ∈ c.exceptionTable.toList, covers x pc = false := by
        intro pc x hx
        have : c.exceptionTable.toList = [] := by
          have := hexc
          rw [hhi] at this
          exact List.map_eq_nil_iff.mp this
        rw [this] at hx
        cases hx
      have key : W p l e { frames := R.frames, cells := 1, slots := 6, locals := R.locals } s' m args below meth c H [] 0 0 (fun U => U.status = .running ∧ Ended U below (.threw H.size) ∧ s'.WarmedH U.vm ∧ s'.sameButNew ({ U with vm := s'.vm } : State) [] 1 6 ∧ ∃ ce : Cell, U.heap[H.size]? = some ce ∧ ce.cls = (mr_D X).1 t ∧ ce.vm = .none) (F0 m pc ls (st.map (mr_v X))) := by
        refine W.newcK (n := 6) hx hb hown' (by rw [l0] at l1; exact mr_wG (args := args) G' l1) (mr_wG (args := args) G' l2) (mr_wG (args := args) G' l3) rfl hd (Nat.le_refl _) (Nat.le_refl _) hcu.1 rfl (fun H1 kC hkC e1 z1 o1 => ?_)
        refine lv_dup hx hb d1 rfl ?_
        intro W0 hW0 X2
        obtain ⟨U, u1, u2, u3, u4, u5, ce, u6, u7⟩ := X2.ctorThrow0 hx htr (cls := mj_CN t) (names := mj_exn) hown' (mj_exf t (by omega) h8) (by decide +kernel) (mr_atoms G' h8 h10) (fun x hx => by cases hx) (a := H.size) hcu.1 hkC (by rw [hW0]; exact e1) (by rw [hheap']; exact Nat.le_refl _)
          (g := F0 m (pc + 3 + 1) ls (.ref H.size :: .ref H.size :: st.map (mr_v X))) rfl (by show ls.size = c.maxLocals; rw [hml]; exact sL.1) rfl rfl (rest := st.map (mr_v X)) rfl (by rw [hb, ← hic]; exact d2) (by rw [hb]; exact d3) (hout _) (by show 2 + 3 < R.frames; omega) (by show 2 * 0 + (1 + ((st.map (mr_v X)).map (fun v => v.category)).sum) + (13 * (2 + 1) + 41) ≤ R.locals; omega) hlocks
        exact ⟨U, u1, u2, u3, u4, u5, ce, u6, Option.some.inj (u7.cls.symm.trans hcu.1), u7.vm⟩
      obtain ⟨U, u1, u2, u3, u4, u5, ce, u6, u7, u8⟩ := key T hT X1
      have o1 : ∀ q : Nat, q < H.size → U.heap[q]? = H[q]? := fun q hq => by
        have := mt_noLocs u5 (q := q) (by rw [hheap']; exact hq)
        rw [hheap'] at this
        exact this
      have hz1 : U.heap.size ≤ H.size + 1 := by
        have := u5.2.2.1
        rw [hheap'] at this
        exact this
      have hz2 : H.size < U.heap.size := (Array.getElem?_eq_some_iff.mp u6).1
      have hsame : s.sameButNew ({ U with vm := s.vm } : State) (locs ++ []) (cells + 1) (slots + 6) := by
        have a1 := X0.same.setFrames (.invoking m args :: below) X0.cur
        have a2 : (T.setVm s.vm).setFrames (.invoking m args :: below) = s'.setVm s.vm := by rw [← hs']; rfl
        rw [a2] at a1
        refine a1.trans ⟨?_, u5.2⟩
        have := congrArg (fun z => State.setVm z s.vm) u5.1
        exact this
      rw [List.append_nil] at hsame
      refine ⟨U, u1, .inr (mj_Z h), mj_nw h t 0 6, locs, cells + 1, slots + 6, u2, ?_, State.WarmedH.trans hW' u4, hsame, sS.2.2, ?_, ?_, ?_, ?_, ?_, ?_, ?_, ?_, ?_, hP⟩
      · rw [hHex] at u3; exact u3
      · show mj_U h + (1 + 6) ≤ mj_M; omega
      · show cells + 1 + (mj_M - (mj_U h + (1 + 6))) ≤ R.cells; omega
      · show slots + 6 + (mj_M - (mj_U h + (1 + 6))) ≤ R.slots; omega
      · show s.heap.size + (cells + 1) + 20 = mr_B X + (mj_Z h + 1); omega
      · show U.heap.size + 20 = mr_B X + (mj_Z h + 1); omega
      · refine mr_H_nw sH (Or.inl (by omega)) ?_
        rw [← mr_ws_push (X := X) (h := h) h20 rfl (fun b hb => mr_en_nw hb), mr_en_obj mj_nw_T (by omega), ← hHex]
        refine (sH.2.2.2.2.2.kept (fun k y hy => o1 y.1 ((sH.2.2.2.2.2 k y hy).lt))).app (fun k y hy => ?_)
        have hz : k < 1 := (List.getElem?_eq_some_iff.mp hy).1
        rw [show k = 0 by omega] at hy
        cases hy
        refine ⟨_, mj_cls_at t (by omega), ce, u6, u7, u8, fun k hk => ?_⟩
        exfalso
        have hk : k < mj_nf t := hk
        rcases (show t = 8 ∨ t = 9 ∨ t = 10 by omega) with rfl | rfl | rfl <;> exact absurd hk (Nat.not_lt_zero _)
      · exact Nat.le_trans sS.1 (Nat.le_of_lt hz2)
      · intro q h1 h2
        rw [o1 q (Nat.lt_of_lt_of_le h1 sS.1)]
        exact sS.2.1 q h1 h2
      · intro a ha
        cases ha
        rw [mj_nw_T]
        exact ⟨h20, h8, h10⟩
  · cases hv
end
