/-! a method returns -/
section
variable {X : mr_X} {xs : Nat → Int32} {L : Nat} {p : Program} {l : Launch} {e : Env} {R : Room} {s : State} {m : MethodId} {args : Array Value} {below : List Frame} {meth : Method} {c : Code} {H : Heap} {locs : List Loc} {cells slots d y pc : Nat} {ls : Array Slot} {lc : List Value} {h : mj_H} {P : mj_P}
theorem W.monoQ {Q Q' : State → Prop} {g : JFrame} (hq : ∀ t, Q t → Q' t) (w : W p l e R s m args below meth c H locs cells slots Q g) : W p l e R s m args below meth c H locs cells slots Q' g := by
  intro T hT X0
  obtain ⟨t, a, b⟩ := w T hT X0
  exact ⟨t, a, hq t b⟩
theorem mr_retQ (C : mr_C X xs L p R s m meth c d y) (hS : mr_S X xs L R s y lc h H locs cells slots ls) {v : Option Value} (hP : P (.inl v) h) (hz : H.size ≤ s.heap.size + cells) : ∀ t, MQ below (fun _ _ o t => o = .returned (v.map (mr_v X)) ∧ t.heap = H) args s cells slots (fun q => mr_B X ≤ q) t → mr_Q X xs L R s below P t := by
  rintro t ⟨o, h1, h2, ⟨ho, hH⟩, Lc, ⟨_, hW, hf⟩, hLc⟩
  subst ho
  obtain ⟨sU, sc, ss, sH, sS, sE, sL⟩ := id hS
  have hHB : mr_B X ≤ H.size := Nat.le_trans C.2.1.2.2.2 sS.1
  have hge := mr_size_ge sH hHB
  have h20 := sH.1
  refine ⟨.inl v, h, Lc, cells, slots, h1, h2, hW, hf, hLc, sU, sc, ss, by omega, by rw [hH]; omega, by rw [hH]; exact sH, by rw [hH]; exact sS.1, by rw [hH]; exact sS.2.1, fun a q => (by cases q), hP⟩
theorem mr_retW (C : mr_C X xs L p R s m meth c d y) (hS : mr_S X xs L R s y lc h H locs cells slots ls) {st : List Value} {S : List Prop} {v : Option Value} (hv : mj_ret y pc st = some (S, v)) (hA : mj_all S) (hP : P (.inl v) h) : W p l e R s m args below meth c H locs cells slots (mr_Q X xs L R s below P) (F0 m pc ls (st.map (mr_v X))) := by
  refine mr_Wz (fun hz => W.monoQ (mr_retQ (args := args) C hS hP hz) ?_)
  obtain ⟨⟨hx, hb, hml, hown, hret, hlocks, -⟩, G, -⟩ := id C
  have hf : ∀ q ∈ locs, mr_B X ≤ q.base := hS.2.2.2.2.1.2.2
  unfold mj_ret at hv
  split at hv
  · next n j k hi =>
    obtain ⟨hn, hd⟩ := mj_dd hi rfl
    have h5 := mj_c5_ok hi
    split at hv
    · next v' =>
      cases hv
      cases hr : mj_rt y with
      | none => simp [mj_c5, hr] at h5
      | some ty =>
        have hnar : narrow ty (.int v') = .int v' := by
          rw [hr] at hA
          cases ty with
          | int => rfl
          | boolean =>
            rcases hA with q | q
            · rw [q]; decide
            · rw [q]; decide
          | char =>
            have q : mj_c v' = v' := hA
            rw [← q]; exact pk_nc v'
          | byte =>
            have q : mj_b v' = v' := hA
            rw [← q]; exact pk_nb v'
          | _ => simp [mj_c5, hr] at h5
        exact W.zret hx hb (hret.trans hr) hnar (fun t ht _ => ⟨rfl, ht⟩) hf hd hlocks
    · cases hv
  · next n j k hi =>
    obtain ⟨hn, hd⟩ := mj_dd hi rfl
    have h5 := mj_c5_ok hi
    split at hv
    · next v' =>
      cases hv
      cases hr : mj_rt y with
      | none => simp [mj_c5, hr] at h5
      | some ty =>
        have hrt : (∃ n, ty = .object n) ∨ ∃ t, ty = .array t := by
          cases ty with
          | object n => exact Or.inl ⟨n, rfl⟩
          | array t => exact Or.inr ⟨t, rfl⟩
          | _ => simp [mj_c5, hr] at h5
        refine W.aret hx hb (hret.trans hr) hrt ?_ (fun t ht _ => ⟨rfl, ht⟩) hf hd hlocks
        show va_rf (mr_o X v') = _ ∨ ∃ a, va_rf (mr_o X v') = .ref a
        cases mr_o X v' with
        | none => exact Or.inl rfl
        | some b => exact Or.inr ⟨b, rfl⟩
    · cases hv
  · next n j k hi =>
    obtain ⟨hn, hd⟩ := mj_dd hi rfl
    have h5 := mj_c5_ok hi
    split at hv
    · cases hv
      cases hr : mj_rt y with
      | some ty => simp [mj_c5, hr] at h5
      | none => exact W.vret hx hb (hret.trans hr) (fun t ht _ => ⟨rfl, ht⟩) hf hd hlocks
    · cases hv
  · cases hv
end
