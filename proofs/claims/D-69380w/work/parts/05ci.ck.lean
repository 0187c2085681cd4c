/-! Every instruction is what AI takes it for: some methods. -/
set_option maxRecDepth 1000000 in
theorem ck_all_117_216 : ((ac_all 117).drop 216).all (ck_p 117) = true := by sorry
set_option maxRecDepth 1000000 in
theorem ck_all_118 : ((List.range 2).all fun k => ck_m1 (k + 118)) = true := by sorry
set_option maxRecDepth 1000000 in
theorem ck_all_120_0 : (((ac_all 120).drop 0).take 119).all (ck_p 120) = true := by sorry
