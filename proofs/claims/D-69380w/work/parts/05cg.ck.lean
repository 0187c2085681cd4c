/-! Every instruction is what AI takes it for: some methods. -/
set_option maxRecDepth 1000000 in
theorem ck_all_101 : ((List.range 3).all fun k => ck_m1 (k + 101)) = true := by sorry
set_option maxRecDepth 1000000 in
theorem ck_all_104 : ((List.range 9).all fun k => ck_m1 (k + 104)) = true := by sorry
