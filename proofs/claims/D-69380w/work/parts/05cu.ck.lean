/-! Every instruction is what AI takes it for: some methods. -/
set_option maxRecDepth 1000000 in
theorem ck_all_306 : ((List.range 10).all fun k => ck_m1 (k + 306)) = true := by sorry
set_option maxRecDepth 1000000 in
theorem ck_all_316 : ((List.range 3).all fun k => ck_m1 (k + 316)) = true := by sorry
