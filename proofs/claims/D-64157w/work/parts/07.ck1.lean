/-! THE PROGRAM IS CHECKED against the class files' bytes -/
set_option maxRecDepth 100000 in
theorem mj_ck1_0 : (List.range 47).all mj_ck1 = true := by decide +kernel
set_option maxRecDepth 100000 in
theorem mj_ck1_1 : ((List.range 43).map (· + 47)).all mj_ck1 = true := by decide +kernel
set_option maxRecDepth 100000 in
theorem mj_ck1_2 : ((List.range 31).map (· + 90)).all mj_ck1 = true := by decide +kernel
