set_option maxRecDepth 100000 in
theorem mj_law_600 : mj_ck1r 168 600 60 = true := by decide +kernel
set_option maxRecDepth 100000 in
theorem mj_law_660 : mj_ck1r 168 660 60 = true := by decide +kernel
set_option maxRecDepth 100000 in
theorem mj_law_720 : mj_ck1r 168 720 16 = true := by decide +kernel
theorem mj_lawA_60 : mj_ck1r 168 0 60 = true := mj_law_0
theorem mj_lawA_120 : mj_ck1r 168 0 120 = true := mj_ck1r_app (a := 0) (n := 60) (m := 60) mj_lawA_60 (by rw [Nat.zero_add]; exact mj_law_60)
theorem mj_lawA_180 : mj_ck1r 168 0 180 = true := mj_ck1r_app (a := 0) (n := 120) (m := 60) mj_lawA_120 (by rw [Nat.zero_add]; exact mj_law_120)
theorem mj_lawA_240 : mj_ck1r 168 0 240 = true := mj_ck1r_app (a := 0) (n := 180) (m := 60) mj_lawA_180 (by rw [Nat.zero_add]; exact mj_law_180)
theorem mj_lawA_300 : mj_ck1r 168 0 300 = true := mj_ck1r_app (a := 0) (n := 240) (m := 60) mj_lawA_240 (by rw [Nat.zero_add]; exact mj_law_240)
theorem mj_lawA_360 : mj_ck1r 168 0 360 = true := mj_ck1r_app (a := 0) (n := 300) (m := 60) mj_lawA_300 (by rw [Nat.zero_add]; exact mj_law_300)
theorem mj_lawA_420 : mj_ck1r 168 0 420 = true := mj_ck1r_app (a := 0) (n := 360) (m := 60) mj_lawA_360 (by rw [Nat.zero_add]; exact mj_law_360)
theorem mj_lawA_480 : mj_ck1r 168 0 480 = true := mj_ck1r_app (a := 0) (n := 420) (m := 60) mj_lawA_420 (by rw [Nat.zero_add]; exact mj_law_420)
theorem mj_lawA_540 : mj_ck1r 168 0 540 = true := mj_ck1r_app (a := 0) (n := 480) (m := 60) mj_lawA_480 (by rw [Nat.zero_add]; exact mj_law_480)
theorem mj_lawA_600 : mj_ck1r 168 0 600 = true := mj_ck1r_app (a := 0) (n := 540) (m := 60) mj_lawA_540 (by rw [Nat.zero_add]; exact mj_law_540)
theorem mj_lawA_660 : mj_ck1r 168 0 660 = true := mj_ck1r_app (a := 0) (n := 600) (m := 60) mj_lawA_600 (by rw [Nat.zero_add]; exact mj_law_600)
theorem mj_lawA_720 : mj_ck1r 168 0 720 = true := mj_ck1r_app (a := 0) (n := 660) (m := 60) mj_lawA_660 (by rw [Nat.zero_add]; exact mj_law_660)
theorem mj_lawA_736 : mj_ck1r 168 0 736 = true := mj_ck1r_app (a := 0) (n := 720) (m := 16) mj_lawA_720 (by rw [Nat.zero_add]; exact mj_law_720)
theorem mj_ck1_law : mj_ck1 168 = true := mj_ck1_of mj_lawA_736 (by decide +kernel)
theorem mj_ck1_4 : ((List.range 21).map (· + 148)).all mj_ck1 = true := by
  rw [show (List.range 21) = List.range 20 ++ [20] from rfl, List.map_append, List.all_append, mj_ck1_4a]
  simpa using mj_ck1_law
