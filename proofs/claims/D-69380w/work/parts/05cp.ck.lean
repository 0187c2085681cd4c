/-! Every instruction is what AI takes it for: some methods. -/
set_option maxRecDepth 1000000 in
theorem ck_all_160 : ((List.range 24).all fun k => ck_m1 (k + 160)) = true := by sorry
set_option maxRecDepth 1000000 in
theorem ck_all_184 : ((List.range 24).all fun k => ck_m1 (k + 184)) = true := by sorry
