/-! Every instruction is what AI takes it for: some methods. -/
set_option maxRecDepth 1000000 in
theorem ck_all_75 : ((List.range 6).all fun k => ck_m1 (k + 75)) = true := by sorry
set_option maxRecDepth 1000000 in
theorem ck_all_81 : ((List.range 11).all fun k => ck_m1 (k + 81)) = true := by sorry
