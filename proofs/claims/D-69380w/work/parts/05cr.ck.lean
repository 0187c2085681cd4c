/-! Every instruction is what AI takes it for: some methods. -/
set_option maxRecDepth 1000000 in
theorem ck_all_255 : ((List.range 10).all fun k => ck_m1 (k + 255)) = true := by sorry
set_option maxRecDepth 1000000 in
theorem ck_all_265 : ((List.range 8).all fun k => ck_m1 (k + 265)) = true := by sorry
