/-! Every instruction is what AI takes it for: some methods. -/
set_option maxRecDepth 1000000 in
theorem ck_all_285 : ((List.range 9).all fun k => ck_m1 (k + 285)) = true := by sorry
set_option maxRecDepth 1000000 in
theorem ck_all_294 : ((List.range 12).all fun k => ck_m1 (k + 294)) = true := by sorry
