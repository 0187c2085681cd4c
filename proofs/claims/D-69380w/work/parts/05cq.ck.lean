/-! Every instruction is what AI takes it for: some methods. -/
set_option maxRecDepth 1000000 in
theorem ck_all_208 : ((List.range 24).all fun k => ck_m1 (k + 208)) = true := by sorry
set_option maxRecDepth 1000000 in
theorem ck_all_232 : ((List.range 23).all fun k => ck_m1 (k + 232)) = true := by sorry
