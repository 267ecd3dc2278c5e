theorem pure_law {L : Nat} {xs : Nat → Int32} (hL : L ≤ 194) : Ends 100 168 0 (mj_ent 168 [.ref 17]) [] (me_h xs L) (fun o _ => o = .inl (some (.int 1))) := by
  sorry
