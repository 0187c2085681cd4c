/-! Every instruction is what AI takes it for: some methods. -/
set_option maxRecDepth 1000000 in
theorem ck_all_125 : ((List.range 1).all fun k => ck_m1 (k + 125)) = true := by sorry
set_option maxRecDepth 1000000 in
theorem ck_all_126 : ((List.range 2).all fun k => ck_m1 (k + 126)) = true := by sorry
