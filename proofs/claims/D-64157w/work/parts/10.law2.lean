set_option maxRecDepth 100000 in
theorem mj_law_300 : mj_ck1r 168 300 60 = true := by decide +kernel
set_option maxRecDepth 100000 in
theorem mj_law_360 : mj_ck1r 168 360 60 = true := by decide +kernel
set_option maxRecDepth 100000 in
theorem mj_law_420 : mj_ck1r 168 420 60 = true := by decide +kernel
set_option maxRecDepth 100000 in
theorem mj_law_480 : mj_ck1r 168 480 60 = true := by decide +kernel
set_option maxRecDepth 100000 in
theorem mj_law_540 : mj_ck1r 168 540 60 = true := by decide +kernel
