/-! Every instruction is what AI takes it for: some methods. -/
set_option maxRecDepth 1000000 in
theorem ck_all_129 : ((List.range 1).all fun k => ck_m1 (k + 129)) = true := by sorry
set_option maxRecDepth 1000000 in
theorem ck_all_130 : ((List.range 1).all fun k => ck_m1 (k + 130)) = true := by sorry
