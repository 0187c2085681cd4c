/-! Every instruction is what AI takes it for: some methods. -/
set_option maxRecDepth 1000000 in
theorem ck_all_131 : ((List.range 2).all fun k => ck_m1 (k + 131)) = true := by sorry
set_option maxRecDepth 1000000 in
theorem ck_all_133 : ((List.range 2).all fun k => ck_m1 (k + 133)) = true := by sorry
