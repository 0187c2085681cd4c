/-! Every instruction is what AI takes it for: some methods. -/
set_option maxRecDepth 1000000 in
theorem ck_all_92 : ((List.range 5).all fun k => ck_m1 (k + 92)) = true := by sorry
set_option maxRecDepth 1000000 in
theorem ck_all_97 : ((List.range 4).all fun k => ck_m1 (k + 97)) = true := by sorry
