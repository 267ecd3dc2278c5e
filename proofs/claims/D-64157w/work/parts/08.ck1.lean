set_option maxRecDepth 100000 in
theorem mj_ck1_3 : ((List.range 27).map (· + 121)).all mj_ck1 = true := by decide +kernel
set_option maxRecDepth 100000 in
theorem mj_ck1_4a : ((List.range 20).map (· + 148)).all mj_ck1 = true := by decide +kernel
