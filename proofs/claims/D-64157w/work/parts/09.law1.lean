set_option maxRecDepth 100000 in
theorem mj_law_0 : mj_ck1r 168 0 60 = true := by decide +kernel
set_option maxRecDepth 100000 in
theorem mj_law_60 : mj_ck1r 168 60 60 = true := by decide +kernel
set_option maxRecDepth 100000 in
theorem mj_law_120 : mj_ck1r 168 120 60 = true := by decide +kernel
set_option maxRecDepth 100000 in
theorem mj_law_180 : mj_ck1r 168 180 60 = true := by decide +kernel
set_option maxRecDepth 100000 in
theorem mj_law_240 : mj_ck1r 168 240 60 = true := by decide +kernel
