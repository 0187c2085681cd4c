/-! Every instruction is what AI takes it for: some methods. -/
set_option maxRecDepth 1000000 in
theorem ck_all_41 : ((List.range 19).all fun k => ck_m1 (k + 41)) = true := by sorry
set_option maxRecDepth 1000000 in
theorem ck_all_60 : ((List.range 15).all fun k => ck_m1 (k + 60)) = true := by sorry
