/-! Every instruction is what AI takes it for: some methods. -/
set_option maxRecDepth 1000000 in
theorem ck_all_20 : ((List.range 10).all fun k => ck_m1 (k + 20)) = true := by sorry
set_option maxRecDepth 1000000 in
theorem ck_all_30 : ((List.range 11).all fun k => ck_m1 (k + 30)) = true := by sorry
