/-! PURE PART: rows on 'Ends', no program of the real machine from here on -/
theorem Ends.up {d d' y pc : Nat} {lc st : List Value} {h : mj_H} {P : mj_P} (k : Ends d y pc lc st h P) (hd : d ≤ d') : Ends d' y pc lc st h P := by
  refine Ends.ind (Z := fun d y pc lc st h P => ∀ d', d ≤ d' → Ends d' y pc lc st h P) ?_ k d' hd
  intro d y pc lc st h P k d' hd
  rcases k with ⟨S, pc', lc', st', h', e, s, z⟩ | k | k | ⟨S, z, as, r, pc', d0, Q, e, s, hd0, k1, k2, k3⟩
  · exact Ends.of (Or.inl ⟨S, pc', lc', st', h', e, s, z d' hd⟩)
  · exact Ends.of (Or.inr (Or.inl k))
  · exact Ends.of (Or.inr (Or.inr (Or.inl k)))
  · refine Ends.of (Or.inr (Or.inr (Or.inr ⟨S, z, as, r, pc', d' - 1, Q, e, s, by omega, k1 (d' - 1) (by omega), fun v h' q => k2 v h' q d' hd, fun a h' q => ?_⟩)))
    rcases k3 a h' q with ⟨hp, q1, q2⟩ | q
    · exact Or.inl ⟨hp, q1, q2 d' hd⟩
    · exact Or.inr q
/-- a method hands back v and leaves the heap as it is -/
abbrev Gv (k z : Nat) (as : List Value) (h : mj_H) (v : Option Value) : Prop := Ends k z 0 (mj_ent z as) [] h (fun o h' => o = .inl v ∧ h' = h)
/-- a method ends without an exception -/
abbrev Rt (k z : Nat) (as : List Value) (h : mj_H) (Q : Option Value → mj_H → Prop) : Prop := Ends k z 0 (mj_ent z as) [] h (fun o h' => ∃ v, o = .inl v ∧ Q v h')
section
variable {k d y pc z pc' : Nat} {lc st as r : List Value} {h : mj_H} {P : mj_P} {S : List Prop}
theorem E_gv {v : Option Value} (q : Gv k z as h v) (e : mj_cal y pc st h = some (S, z, as, r, pc')) (s : mj_all S) (hk : k < d) (k2 : Ends d y pc' lc (v.toList ++ r) h P) : Ends d y pc lc st h P :=
  Ends.of (Or.inr (Or.inr (Or.inr ⟨S, z, as, r, pc', d - 1, _, e, s, by omega, q.up (by omega), fun v' h' q => by obtain ⟨e9, e8⟩ := q; cases e9; rw [e8]; exact k2, fun a h' q => by cases q.1⟩)))
theorem E_rt {Q : Option Value → mj_H → Prop} (q : Rt k z as h Q) (e : mj_cal y pc st h = some (S, z, as, r, pc')) (s : mj_all S) (hk : k < d) (k2 : ∀ v h', Q v h' → Ends d y pc' lc (v.toList ++ r) h' P) : Ends d y pc lc st h P :=
  Ends.of (Or.inr (Or.inr (Or.inr ⟨S, z, as, r, pc', d - 1, _, e, s, by omega, q.up (by omega), fun v' h' q => by obtain ⟨w, e, q⟩ := q; cases e; exact k2 _ _ q, fun a h' q => by obtain ⟨w, e, -⟩ := q; cases e⟩)))
theorem E_xt {Q : mj_P} (q : Ends k z 0 (mj_ent z as) [] h Q) (e : mj_cal y pc st h = some (S, z, as, r, pc')) (s : mj_all S) (hk : k < d) (k2 : ∀ v h', Q (.inl v) h' → Ends d y pc' lc (v.toList ++ r) h' P)
    (k3 : ∀ a h', Q (.inr a) h' → (∃ hp, mj_hf pc (mj_T h' a) (mj_hd y) = some (some hp) ∧ Ends d y hp lc [.ref a] h' P) ∨ (mj_hf pc (mj_T h' a) (mj_hd y) = some none ∧ P (.inr a) h')) : Ends d y pc lc st h P :=
  Ends.of (Or.inr (Or.inr (Or.inr ⟨S, z, as, r, pc', d - 1, _, e, s, by omega, q.up (by omega), k2, k3⟩)))
variable {t f : Nat}
theorem E_lt {a b : Nat} (kt : a < b → Ends d y t lc st h P) (kf : b ≤ a → Ends d y f lc st h P) (ha : a < 2 ^ 31 := by omega) (hb : b < 2 ^ 31 := by omega) : Ends d y (if nI a < nI b then t else f) lc st h P :=
  E_if (fun q => kt ((nI_ltI ha hb).mp q)) (fun q => kf (Nat.not_lt.mp (fun w => q ((nI_ltI ha hb).mpr w))))
theorem E_le {a b : Nat} (kt : a ≤ b → Ends d y t lc st h P) (kf : b < a → Ends d y f lc st h P) (ha : a < 2 ^ 31 := by omega) (hb : b < 2 ^ 31 := by omega) : Ends d y (if nI a ≤ nI b then t else f) lc st h P :=
  E_if (fun q => kt ((nI_leI ha hb).mp q)) (fun q => kf (Nat.not_le.mp (fun w => q ((nI_leI ha hb).mpr w))))
theorem E_eq {a b : Nat} (kt : a = b → Ends d y t lc st h P) (kf : a ≠ b → Ends d y f lc st h P) (ha : a < 2 ^ 31 := by omega) (hb : b < 2 ^ 31 := by omega) : Ends d y (if nI a = nI b then t else f) lc st h P :=
  E_if (fun q => kt ((nI_eq ha hb).mp q)) (fun q => kf (fun w => q ((nI_eq ha hb).mpr w)))
theorem E_eq0 {a : Nat} (kt : a = 0 → Ends d y t lc st h P) (kf : a ≠ 0 → Ends d y f lc st h P) (ha : a < 2 ^ 31 := by omega) : Ends d y (if nI a = 0 then t else f) lc st h P :=
  E_if (fun q => kt ((nI_eq ha (by omega)).mp (q.trans nI_0.symm))) (fun q => kf (fun w => q (by rw [w]; exact nI_0)))
theorem E_lt0 {a : Nat} (kf : Ends d y f lc st h P) (ha : a < 2 ^ 31 := by omega) : Ends d y (if nI a < 0 then t else f) lc st h P := by
  rw [if_neg (nI_pos ha)]; exact kf
theorem E_ge0 {a : Nat} (kt : Ends d y t lc st h P) (ha : a < 2 ^ 31 := by omega) : Ends d y (if 0 ≤ nI a then t else f) lc st h P := by
  rw [if_pos (nI_pos' ha)]; exact kt
theorem E_gt0 {a : Nat} (kt : 0 < a → Ends d y t lc st h P) (kf : a = 0 → Ends d y f lc st h P) (ha : a < 2 ^ 31 := by omega) : Ends d y (if 0 < nI a then t else f) lc st h P := by
  rcases Nat.eq_zero_or_pos a with q | q
  · subst q
    rw [if_neg (by decide)]
    exact kf rfl
  · rw [if_pos (by have := (nI_ltI (a := 0) (b := a) (by omega) ha).mpr q; rw [nI_0] at this; exact this)]
    exact kt q
theorem E_le0 {a : Nat} (kt : a = 0 → Ends d y t lc st h P) (kf : 0 < a → Ends d y f lc st h P) (ha : a < 2 ^ 31 := by omega) : Ends d y (if nI a ≤ 0 then t else f) lc st h P := by
  rcases Nat.eq_zero_or_pos a with q | q
  · subst q
    rw [if_pos (by decide)]
    exact kt rfl
  · rw [if_neg (nI_nle q ha)]
    exact kf q
theorem E_tt {c : Prop} [Decidable c] (q : c) (kt : Ends d y t lc st h P) : Ends d y (if c then t else f) lc st h P := by rw [if_pos q]; exact kt
theorem E_ff {c : Prop} [Decidable c] (q : ¬ c) (kf : Ends d y f lc st h P) : Ends d y (if c then t else f) lc st h P := by rw [if_neg q]; exact kf
end
/-- true and false as Java's ints -/
def bI (b : Bool) : Int32 := nI (bif b then 1 else 0)
theorem bI_t : bI true = nI 1 := rfl
theorem bI_f : bI false = nI 0 := rfl
theorem bI_01 (b : Bool) : mj_01 (bI b) := by cases b; exact Or.inl rfl; exact Or.inr rfl
theorem E_b {d y t f : Nat} {lc st : List Value} {h : mj_H} {P : mj_P} {b : Bool} (kt : b = true → Ends d y t lc st h P) (kf : b = false → Ends d y f lc st h P) : Ends d y (if bI b = 0 then f else t) lc st h P := by
  cases b with
  | true => rw [if_neg (by decide)]; exact kt rfl
  | false => rw [if_pos (by decide)]; exact kf rfl
/-! reads behind writes -/
section
variable {h : mj_H} {a k x i t n u : Nat} {v : Int32} {w : Nat} {q : Int64}
theorem I_wI : mj_I (mj_wI h a k v) x i = if x = a ∧ i = k then v else mj_I h x i := rfl
theorem I_wR : mj_I (mj_wR h a k w) x i = mj_I h x i := rfl
theorem I_wL : mj_I (mj_wL h a k q) x i = mj_I h x i := rfl
theorem I_nw : mj_I (mj_nw h t n u) x i = if x = mj_Z h then 0 else mj_I h x i := rfl
theorem I_cl : mj_I (mj_cl h a) x i = if x = mj_Z h then mj_I h a i else mj_I h x i := rfl
theorem I_cp {s sp d dp m : Nat} : mj_I (mj_cp h s sp d dp m) x i = if x = d ∧ dp ≤ i ∧ i < dp + m then mj_I h s (sp + (i - dp)) else mj_I h x i := rfl
theorem R_wI : mj_R (mj_wI h a k v) x i = mj_R h x i := rfl
theorem R_wR : mj_R (mj_wR h a k w) x i = if x = a ∧ i = k then w else mj_R h x i := rfl
theorem R_wL : mj_R (mj_wL h a k q) x i = mj_R h x i := rfl
theorem R_nw : mj_R (mj_nw h t n u) x i = if x = mj_Z h then 0 else mj_R h x i := rfl
theorem R_cl : mj_R (mj_cl h a) x i = if x = mj_Z h then mj_R h a i else mj_R h x i := rfl
theorem R_cp {s sp d dp m : Nat} : mj_R (mj_cp h s sp d dp m) x i = if x = d ∧ dp ≤ i ∧ i < dp + m then mj_R h s (sp + (i - dp)) else mj_R h x i := rfl
theorem L_wI : mj_L (mj_wI h a k v) x i = mj_L h x i := rfl
theorem L_wR : mj_L (mj_wR h a k w) x i = mj_L h x i := rfl
theorem L_wL : mj_L (mj_wL h a k q) x i = if x = a ∧ i = k then q else mj_L h x i := rfl
theorem L_nw : mj_L (mj_nw h t n u) x i = if x = mj_Z h then 0 else mj_L h x i := rfl
theorem L_cl : mj_L (mj_cl h a) x i = if x = mj_Z h then mj_L h a i else mj_L h x i := rfl
theorem L_cp {s sp d dp m : Nat} : mj_L (mj_cp h s sp d dp m) x i = mj_L h x i := rfl
theorem T_wI : mj_T (mj_wI h a k v) x = mj_T h x := rfl
theorem T_wR : mj_T (mj_wR h a k w) x = mj_T h x := rfl
theorem T_wL : mj_T (mj_wL h a k q) x = mj_T h x := rfl
theorem T_nw : mj_T (mj_nw h t n u) x = if x = mj_Z h then t else mj_T h x := rfl
theorem T_cl : mj_T (mj_cl h a) x = if x = mj_Z h then mj_T h a else mj_T h x := rfl
theorem T_cp {s sp d dp m : Nat} : mj_T (mj_cp h s sp d dp m) x = mj_T h x := rfl
theorem N_wI : mj_N (mj_wI h a k v) x = mj_N h x := rfl
theorem N_wR : mj_N (mj_wR h a k w) x = mj_N h x := rfl
theorem N_wL : mj_N (mj_wL h a k q) x = mj_N h x := rfl
theorem N_nw : mj_N (mj_nw h t n u) x = if x = mj_Z h then n else mj_N h x := rfl
theorem N_cl : mj_N (mj_cl h a) x = if x = mj_Z h then mj_N h a else mj_N h x := rfl
theorem N_cp {s sp d dp m : Nat} : mj_N (mj_cp h s sp d dp m) x = mj_N h x := rfl
theorem Z_wI : mj_Z (mj_wI h a k v) = mj_Z h := rfl
theorem Z_wR : mj_Z (mj_wR h a k w) = mj_Z h := rfl
theorem Z_wL : mj_Z (mj_wL h a k q) = mj_Z h := rfl
theorem Z_nw : mj_Z (mj_nw h t n u) = mj_Z h + 1 := rfl
theorem Z_cl : mj_Z (mj_cl h a) = mj_Z h + 1 := rfl
theorem Z_cp {s sp d dp m : Nat} : mj_Z (mj_cp h s sp d dp m) = mj_Z h := rfl
theorem U_wI : mj_U (mj_wI h a k v) = mj_U h := rfl
theorem U_wR : mj_U (mj_wR h a k w) = mj_U h := rfl
theorem U_wL : mj_U (mj_wL h a k q) = mj_U h := rfl
theorem U_nw : mj_U (mj_nw h t n u) = mj_U h + (1 + u) := rfl
theorem U_cl : mj_U (mj_cl h a) = mj_U h + (1 + mj_N h a) := rfl
theorem U_cp {s sp d dp m : Nat} : mj_U (mj_cp h s sp d dp m) = mj_U h := rfl
end
/-- h' agrees with h on what was there, but for the contents of the places in S -/
def Eqo (S : Nat → Prop) (h h' : mj_H) : Prop := mj_Z h ≤ mj_Z h' ∧ ∀ a, a < mj_Z h → mj_T h' a = mj_T h a ∧ mj_N h' a = mj_N h a ∧ (¬ S a → mj_I h' a = mj_I h a ∧ mj_R h' a = mj_R h a ∧ mj_L h' a = mj_L h a)
section
variable {S S' : Nat → Prop} {h h1 h2 : mj_H} {a k : Nat}
theorem Eqo.rf : Eqo S h h := ⟨Nat.le_refl _, fun _ _ => ⟨rfl, rfl, fun _ => ⟨rfl, rfl, rfl⟩⟩⟩
theorem Eqo.tr (q : Eqo S h h1) (q2 : Eqo S h1 h2) : Eqo S h h2 := ⟨Nat.le_trans q.1 q2.1, fun a ha => by
  obtain ⟨a1, a2, a3⟩ := q.2 a ha
  obtain ⟨b1, b2, b3⟩ := q2.2 a (Nat.lt_of_lt_of_le ha q.1)
  exact ⟨b1.trans a1, b2.trans a2, fun w => ⟨(b3 w).1.trans (a3 w).1, (b3 w).2.1.trans (a3 w).2.1, (b3 w).2.2.trans (a3 w).2.2⟩⟩⟩
theorem Eqo.mn (q : Eqo S h h1) (w : ∀ a, a < mj_Z h → S a → S' a) : Eqo S' h h1 := ⟨q.1, fun a ha => ⟨(q.2 a ha).1, (q.2 a ha).2.1, fun n => (q.2 a ha).2.2 (fun z => n (w a ha z))⟩⟩
theorem Eqo.wI {v : Int32} (w : a < mj_Z h → S a) : Eqo S h (mj_wI h a k v) := ⟨Nat.le_refl _, fun b hb => ⟨rfl, rfl, fun n => ⟨by funext i; rw [I_wI, if_neg]; rintro ⟨rfl, -⟩; exact n (w hb), rfl, rfl⟩⟩⟩
theorem Eqo.wR {v : Nat} (w : a < mj_Z h → S a) : Eqo S h (mj_wR h a k v) := ⟨Nat.le_refl _, fun b hb => ⟨rfl, rfl, fun n => ⟨rfl, by funext i; rw [R_wR, if_neg]; rintro ⟨rfl, -⟩; exact n (w hb), rfl⟩⟩⟩
theorem Eqo.wL {v : Int64} (w : a < mj_Z h → S a) : Eqo S h (mj_wL h a k v) := ⟨Nat.le_refl _, fun b hb => ⟨rfl, rfl, fun n => ⟨rfl, rfl, by funext i; rw [L_wL, if_neg]; rintro ⟨rfl, -⟩; exact n (w hb)⟩⟩⟩
theorem Eqo.nw {t n u : Nat} : Eqo S h (mj_nw h t n u) := ⟨Nat.le_succ _, fun b hb => by
  have hn : b ≠ mj_Z h := Nat.ne_of_lt hb
  exact ⟨by rw [T_nw, if_neg hn], by rw [N_nw, if_neg hn], fun _ => ⟨by funext i; rw [I_nw, if_neg hn], by funext i; rw [R_nw, if_neg hn], by funext i; rw [L_nw, if_neg hn]⟩⟩⟩
theorem Eqo.cl : Eqo S h (mj_cl h a) := ⟨Nat.le_succ _, fun b hb => by
  have hn : b ≠ mj_Z h := Nat.ne_of_lt hb
  exact ⟨by rw [T_cl, if_neg hn], by rw [N_cl, if_neg hn], fun _ => ⟨by funext i; rw [I_cl, if_neg hn], by funext i; rw [R_cl, if_neg hn], by funext i; rw [L_cl, if_neg hn]⟩⟩⟩
theorem Eqo.cp {s sp dp n : Nat} (w : a < mj_Z h → S a) : Eqo S h (mj_cp h s sp a dp n) := ⟨Nat.le_refl _, fun b hb => ⟨rfl, rfl, fun m => ⟨by funext i; rw [I_cp, if_neg]; rintro ⟨rfl, -⟩; exact m (w hb), by funext i; rw [R_cp, if_neg]; rintro ⟨rfl, -⟩; exact m (w hb), rfl⟩⟩⟩
theorem Eqo.T (q : Eqo S h h1) (ha : a < mj_Z h) : mj_T h1 a = mj_T h a := (q.2 a ha).1
theorem Eqo.N (q : Eqo S h h1) (ha : a < mj_Z h) : mj_N h1 a = mj_N h a := (q.2 a ha).2.1
theorem Eqo.I (q : Eqo S h h1) (ha : a < mj_Z h) (n : ¬ S a) : mj_I h1 a k = mj_I h a k := by rw [((q.2 a ha).2.2 n).1]
theorem Eqo.R (q : Eqo S h h1) (ha : a < mj_Z h) (n : ¬ S a) : mj_R h1 a k = mj_R h a k := by rw [((q.2 a ha).2.2 n).2.1]
theorem Eqo.L (q : Eqo S h h1) (ha : a < mj_Z h) (n : ¬ S a) : mj_L h1 a k = mj_L h a k := by rw [((q.2 a ha).2.2 n).2.2]
end
/-! the twin's small methods -/
def sm (c : Nat) : Bool := decide (97 ≤ c ∧ c ≤ 122)
theorem m_isSmall {h : mj_H} {c : Nat} (hc : c < 65536) : Gv 0 52 [.ref 31, .int (nI c)] h (some (.int (bI (sm c)))) := by
  refine E_run 3 rfl trivial (E_lt (fun q => ?_) (fun q => ?_))
  · refine E_run 1 rfl trivial (E_ret rfl (Or.inl rfl) ⟨?_, rfl⟩)
    rw [show sm c = false from decide_eq_false (by omega)]; rfl
  · refine E_run 3 rfl trivial (E_lt (fun q2 => ?_) (fun q2 => ?_))
    · refine E_run 1 rfl trivial (E_ret rfl (Or.inl rfl) ⟨?_, rfl⟩)
      rw [show sm c = false from decide_eq_false (by omega)]; rfl
    · refine E_run 2 rfl trivial (E_ret rfl (Or.inr rfl) ⟨?_, rfl⟩)
      rw [show sm c = true from decide_eq_true (by omega)]; rfl
