/-! Every instruction is what AI takes it for: some methods. -/
set_option maxRecDepth 1000000 in
theorem ck_all_273 : ((List.range 7).all fun k => ck_m1 (k + 273)) = true := by sorry
set_option maxRecDepth 1000000 in
theorem ck_all_280 : ((List.range 5).all fun k => ck_m1 (k + 280)) = true := by sorry
