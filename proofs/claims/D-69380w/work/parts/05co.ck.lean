/-! Every instruction is what AI takes it for: some methods. -/
set_option maxRecDepth 1000000 in
theorem ck_all_135 : ((List.range 2).all fun k => ck_m1 (k + 135)) = true := by sorry
set_option maxRecDepth 1000000 in
theorem ck_all_137 : ((List.range 23).all fun k => ck_m1 (k + 137)) = true := by sorry
