/-! Every instruction is what AI takes it for: some methods. -/
set_option maxRecDepth 1000000 in
theorem ck_all_319 : ((List.range 5).all fun k => ck_m1 (k + 319)) = true := by sorry
set_option maxRecDepth 1000000 in
theorem ck_all_324 : ((List.range 12).all fun k => ck_m1 (k + 324)) = true := by sorry
