/-! Every instruction is what AI takes it for: some methods. -/
set_option maxRecDepth 1000000 in
theorem ck_all_120_119 : ((ac_all 120).drop 119).all (ck_p 120) = true := by sorry
set_option maxRecDepth 1000000 in
theorem ck_all_121 : ((List.range 1).all fun k => ck_m1 (k + 121)) = true := by sorry
set_option maxRecDepth 1000000 in
theorem ck_all_122 : ((List.range 3).all fun k => ck_m1 (k + 122)) = true := by sorry
