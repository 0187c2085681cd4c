/-! Every instruction is what AI takes it for: some methods. -/
set_option maxRecDepth 1000000 in
theorem ck_all_1 : ((List.range 11).all fun k => ck_m1 (k + 1)) = true := by sorry
set_option maxRecDepth 1000000 in
theorem ck_all_12_0 : (((ac_all 12).drop 0).take 166).all (ck_p 12) = true := by sorry
