/-! THE SMALL MACHINE'S STEPS, and 'Ends': the least relation that is closed under them -/
def mj_stp (y pc : Nat) (lc st : List Value) (h : mj_H) : Option mj_X := match mj_ins y pc with
  | some (i, n, j, k) => mj_do i n j k lc st h
  | none => none
/-- so many values off the stack, in order -/
def mj_sp : Nat → List Value → List Value → Option (List Value × List Value)
  | 0, acc, st => some (acc, st)
  | n + 1, acc, v :: st => mj_sp n (v :: acc) st
  | _ + 1, _, [] => none
def mj_a1 : Value → Bool
  | .int _ => true
  | .ref _ => true
  | _ => false
abbrev mj_Y : Type := List Prop × Nat × List Value × List Value × Nat
def mj_cv (z n : Nat) (st : List Value) (h : mj_H) : Option mj_Y := match mj_sp (mj_na z) [] st with
  | some (.ref a :: as, r) => bif Nat.ble r.length 8 && as.all mj_a1 then some ([mj_T h a = mj_rg z], z, .ref a :: as, r, n) else none
  | _ => none
/-- a call: what must hold; the method, its arguments, what stays on the stack, where it goes on -/
def mj_cal (y pc : Nat) (st : List Value) (h : mj_H) : Option mj_Y := match mj_ins y pc with
  | some (.invokestatic z, n, _, _) => bif Nat.ble 900 z then none else (match mj_sp (mj_na z) [] st with
    | some (as, r) => bif Nat.ble r.length 8 && as.all mj_a1 then some ([], z, as, r, n) else none
    | none => none)
  | some (.invokespecial z, n, _, _) => bif Nat.ble 900 z then none else mj_cv z n st h
  | some (.invokevirtual z, n, _, _) => bif Nat.ble 900 z then none else mj_cv z n st h
  | some (.invokeinterface _ _, n, _, _) => match st with
    | .int v1 :: .int v2 :: .ref a :: r => bif Nat.ble r.length 8 then some ([mj_T h a = 6 ∨ mj_T h a = 4], if mj_T h a = 6 then mj_yB else mj_yL, [.ref a, .int v2, .int v1], r, n) else none
    | _ => none
  | _ => none
/-- a value that may be handed back under a type -/
def mj_fr (t : Option FieldType) (v : Int32) : List Prop := match t with
  | some .boolean => [mj_01 v]
  | some .char => [mj_c v = v]
  | some .byte => [mj_b v = v]
  | _ => []
def mj_ret (y pc : Nat) (st : List Value) : Option (List Prop × Option Value) := match mj_ins y pc with
  | some (.ireturn, _, _, _) => match st with
    | [.int v] => some (mj_fr (mj_rt y) v, some (.int v))
    | _ => none
  | some (.areturn, _, _, _) => match st with
    | [.ref v] => some ([mj_fitR v], some (.ref v))
    | _ => none
  | some (.return_, _, _, _) => match st with
    | [] => some ([], none)
    | _ => none
  | _ => none
/-- a new exception is thrown out of the method -/
def mj_thw (y pc : Nat) (st : List Value) (h : mj_H) : Option (List Prop × Nat) := match mj_ins y pc with
  | some (.jsr q, _, _, _) => bif Nat.ble st.length 8 then some ([mj_U h + 7 ≤ mj_M], q.toNat / 65536) else none
  | _ => none
def mj_cov (pc : Nat) (l : List (Nat × Nat × Nat × Nat)) : Bool := l.any fun q => decide (q.1 ≤ pc ∧ pc < q.2.1)
def mj_hg (pc t : Nat) : List (Nat × Nat × Nat × Nat) → Option (Option Nat)
  | [] => none
  | (a, b, hp, u) :: r => if a ≤ pc ∧ pc < b then (if u = t then some (some hp) else if t = 9 ∧ u = 8 then mj_hg pc t r else none) else mj_hg pc t r
/-- the handler at pc of an exception with the tag t -/
def mj_hf (pc t : Nat) (l : List (Nat × Nat × Nat × Nat)) : Option (Option Nat) := bif mj_cov pc l then mj_hg pc t l else some none
abbrev mj_O : Type := Option Value ⊕ Nat
abbrev mj_P : Type := mj_O → mj_H → Prop
abbrev mj_ZT : Type := Nat → Nat → Nat → List Value → List Value → mj_H → mj_P → Prop
def mj_ent (y : Nat) (as : List Value) : List Value := as ++ List.replicate (mj_ml y - as.length) (.retAddr 0)
def mj_Step (Z : mj_ZT) (d y pc : Nat) (lc st : List Value) (h : mj_H) (P : mj_P) : Prop :=
  (∃ (S : List Prop) (pc' : Nat) (lc' st' : List Value) (h' : mj_H), mj_stp y pc lc st h = some (S, pc', lc', st', h') ∧ mj_all S ∧ Z d y pc' lc' st' h' P) ∨
  (∃ (S : List Prop) (v : Option Value), mj_ret y pc st = some (S, v) ∧ mj_all S ∧ P (.inl v) h) ∨
  (∃ (S : List Prop) (t : Nat), mj_thw y pc st h = some (S, t) ∧ mj_all S ∧ P (.inr (mj_Z h)) (mj_nw h t 0 6)) ∨
  (∃ (S : List Prop) (z : Nat) (as r : List Value) (pc' d' : Nat) (Q : mj_P), mj_cal y pc st h = some (S, z, as, r, pc') ∧ mj_all S ∧ d = d' + 1 ∧ Z d' z 0 (mj_ent z as) [] h Q ∧
    (∀ v h', Q (.inl v) h' → Z d y pc' lc (v.toList ++ r) h' P) ∧
    (∀ a h', Q (.inr a) h' → (∃ hp, mj_hf pc (mj_T h' a) (mj_hd y) = some (some hp) ∧ Z d y hp lc [.ref a] h' P) ∨ (mj_hf pc (mj_T h' a) (mj_hd y) = some none ∧ P (.inr a) h')))
def Ends (d y pc : Nat) (lc st : List Value) (h : mj_H) (P : mj_P) : Prop := ∀ Z : mj_ZT, (∀ d y pc lc st h P, mj_Step Z d y pc lc st h P → Z d y pc lc st h P) → Z d y pc lc st h P
theorem mj_mono {Z1 Z2 : mj_ZT} (hz : ∀ d y pc lc st h P, Z1 d y pc lc st h P → Z2 d y pc lc st h P) {d y pc : Nat} {lc st : List Value} {h : mj_H} {P : mj_P} (k : mj_Step Z1 d y pc lc st h P) : mj_Step Z2 d y pc lc st h P := by
  rcases k with ⟨S, pc', lc', st', h', e, s, z⟩ | k | k | ⟨S, z, as, r, pc', d', Q, e, s, hd, k1, k2, k3⟩
  · exact Or.inl ⟨S, pc', lc', st', h', e, s, hz _ _ _ _ _ _ _ z⟩
  · exact Or.inr (Or.inl k)
  · exact Or.inr (Or.inr (Or.inl k))
  · refine Or.inr (Or.inr (Or.inr ⟨S, z, as, r, pc', d', Q, e, s, hd, hz _ _ _ _ _ _ _ k1, fun v h' q => hz _ _ _ _ _ _ _ (k2 v h' q), fun a h' q => ?_⟩))
    rcases k3 a h' q with ⟨hp, q1, q2⟩ | q2
    · exact Or.inl ⟨hp, q1, hz _ _ _ _ _ _ _ q2⟩
    · exact Or.inr q2
theorem Ends.of {d y pc : Nat} {lc st : List Value} {h : mj_H} {P : mj_P} (k : mj_Step Ends d y pc lc st h P) : Ends d y pc lc st h P := by
  intro Z hZ
  exact hZ _ _ _ _ _ _ _ (mj_mono (fun d y pc lc st h P q => q Z hZ) k)
theorem Ends.ind {Z : mj_ZT} (hZ : ∀ d y pc lc st h P, mj_Step Z d y pc lc st h P → Z d y pc lc st h P) {d y pc : Nat} {lc st : List Value} {h : mj_H} {P : mj_P} (k : Ends d y pc lc st h P) : Z d y pc lc st h P := k Z hZ
theorem Ends.mono {d y pc : Nat} {lc st : List Value} {h : mj_H} {P P' : mj_P} (k : Ends d y pc lc st h P) (hp : ∀ o h', P o h' → P' o h') : Ends d y pc lc st h P' := by
  refine Ends.ind (Z := fun d y pc lc st h P => ∀ P', (∀ o h', P o h' → P' o h') → Ends d y pc lc st h P') ?_ k P' hp
  intro d y pc lc st h P k P' hp
  rcases k with ⟨S, pc', lc', st', h', e, s, z⟩ | ⟨S, v, e, s, q⟩ | ⟨S, t, e, s, q⟩ | ⟨S, z, as, r, pc', d', Q, e, s, hd, k1, k2, k3⟩
  · exact Ends.of (Or.inl ⟨S, pc', lc', st', h', e, s, z P' hp⟩)
  · exact Ends.of (Or.inr (Or.inl ⟨S, v, e, s, hp _ _ q⟩))
  · exact Ends.of (Or.inr (Or.inr (Or.inl ⟨S, t, e, s, hp _ _ q⟩)))
  · refine Ends.of (Or.inr (Or.inr (Or.inr ⟨S, z, as, r, pc', d', Q, e, s, hd, k1 Q (fun _ _ q => q), fun v h' q => k2 v h' q P' hp, fun a h' q => ?_⟩)))
    rcases k3 a h' q with ⟨hp', q1, q2⟩ | ⟨q1, q2⟩
    · exact Or.inl ⟨hp', q1, q2 P' hp⟩
    · exact Or.inr ⟨q1, hp _ _ q2⟩
theorem mj_all_cons {a : Prop} {r : List Prop} : mj_all (a :: r) ↔ a ∧ mj_all r := by
  cases r with
  | nil => exact ⟨fun h => ⟨h, trivial⟩, fun h => h.1⟩
  | cons b r => exact Iff.rfl
theorem mj_all_app {a b : List Prop} : mj_all (a ++ b) ↔ mj_all a ∧ mj_all b := by
  induction a with
  | nil => exact ⟨fun h => ⟨trivial, h⟩, fun h => h.2⟩
  | cons x r ih => rw [List.cons_append, mj_all_cons, mj_all_cons, ih, and_assoc]
abbrev mj_and : List Prop → Prop → Prop
  | [], P => P
  | a :: r, P => a ∧ mj_and r P
theorem mj_and_all {P : Prop} : ∀ {S : List Prop}, mj_and S P → mj_all S ∧ P
  | [], h => ⟨trivial, h⟩
  | _ :: _, h => ⟨mj_all_cons.mpr ⟨h.1, (mj_and_all h.2).1⟩, (mj_and_all h.2).2⟩
/-- k instructions on end -/
def mj_run : Nat → Nat → Nat → List Value → List Value → mj_H → Option (Prop × Nat × List Value × List Value × mj_H)
  | 0, _, pc, lc, st, h => some (True, pc, lc, st, h)
  | k + 1, y, pc, lc, st, h => match mj_stp y pc lc st h with
    | some (S, pc', lc', st', h') => match mj_run k y pc' lc' st' h' with
      | some (S2, q) => some (mj_and S S2, q)
      | none => none
    | none => none
theorem E_run {d y : Nat} {P : mj_P} : ∀ (k : Nat) {pc : Nat} {lc st : List Value} {h : mj_H} {S : Prop} {pc' : Nat} {lc' st' : List Value} {h' : mj_H}, mj_run k y pc lc st h = some (S, pc', lc', st', h') → S → Ends d y pc' lc' st' h' P → Ends d y pc lc st h P := by
  intro k
  induction k with
  | zero =>
    intro pc lc st h S pc' lc' st' h' e _ q
    cases e
    exact q
  | succ k ih =>
    intro pc lc st h S pc' lc' st' h' e s q
    unfold mj_run at e
    split at e
    · next S1 pc1 lc1 st1 h1 e1 =>
      split at e
      · next S2 q2 e2 =>
        cases e
        obtain ⟨s1, s2⟩ := mj_and_all s
        exact Ends.of (Or.inl ⟨S1, pc1, lc1, st1, h1, e1, s1, ih e2 s2 q⟩)
      · cases e
    · cases e
theorem E_ret {d y pc : Nat} {lc st : List Value} {h : mj_H} {P : mj_P} {S : List Prop} {v : Option Value} (e : mj_ret y pc st = some (S, v)) (s : mj_all S) (q : P (.inl v) h) : Ends d y pc lc st h P := Ends.of (Or.inr (Or.inl ⟨S, v, e, s, q⟩))
theorem E_thw {d y pc : Nat} {lc st : List Value} {h : mj_H} {P : mj_P} {S : List Prop} {t : Nat} (e : mj_thw y pc st h = some (S, t)) (s : mj_all S) (q : P (.inr (mj_Z h)) (mj_nw h t 0 6)) : Ends d y pc lc st h P := Ends.of (Or.inr (Or.inr (Or.inl ⟨S, t, e, s, q⟩)))
/-- a call of a method that returns -/
theorem E_cal {d y pc : Nat} {lc st : List Value} {h : mj_H} {P Q : mj_P} {S : List Prop} {z pc' : Nat} {as r : List Value} (e : mj_cal y pc st h = some (S, z, as, r, pc')) (s : mj_all S) (hd : 0 < d) (k1 : Ends (d - 1) z 0 (mj_ent z as) [] h (fun o h' => ∃ v, o = .inl v ∧ Q o h'))
    (k2 : ∀ v h', Q (.inl v) h' → Ends d y pc' lc (v.toList ++ r) h' P) : Ends d y pc lc st h P :=
  Ends.of (Or.inr (Or.inr (Or.inr ⟨S, z, as, r, pc', d - 1, _, e, s, by omega, k1, fun v h' q => by obtain ⟨w, e, q⟩ := q; cases e; exact k2 v h' q, fun a h' q => by obtain ⟨w, e, q⟩ := q; cases e⟩)))
/-- a call of a method that may throw; no handler covers it -/
theorem E_calX {d y pc : Nat} {lc st : List Value} {h : mj_H} {P Q : mj_P} {S : List Prop} {z pc' : Nat} {as r : List Value} (e : mj_cal y pc st h = some (S, z, as, r, pc')) (s : mj_all S) (hd : 0 < d) (k1 : Ends (d - 1) z 0 (mj_ent z as) [] h Q)
    (k2 : ∀ v h', Q (.inl v) h' → Ends d y pc' lc (v.toList ++ r) h' P) (k3 : ∀ a h', Q (.inr a) h' → (∃ hp, mj_hf pc (mj_T h' a) (mj_hd y) = some (some hp) ∧ Ends d y hp lc [.ref a] h' P) ∨ (mj_hf pc (mj_T h' a) (mj_hd y) = some none ∧ P (.inr a) h')) : Ends d y pc lc st h P :=
  Ends.of (Or.inr (Or.inr (Or.inr ⟨S, z, as, r, pc', d - 1, _, e, s, by omega, k1, k2, k3⟩)))
theorem E_if {d y : Nat} {lc st : List Value} {h : mj_H} {P : mj_P} {c : Prop} [Decidable c] {t f : Nat} (kt : c → Ends d y t lc st h P) (kf : ¬ c → Ends d y f lc st h P) : Ends d y (if c then t else f) lc st h P := by
  by_cases q : c
  · rw [if_pos q]; exact kt q
  · rw [if_neg q]; exact kf q
