/-! Every instruction is what AI takes it for: some methods. -/
set_option maxRecDepth 1000000 in
theorem ck_all_12_166 : (((ac_all 12).drop 166).take 74).all (ck_p 12) = true := by sorry
set_option maxRecDepth 1000000 in
theorem ck_all_12_240 : ((ac_all 12).drop 240).all (ck_p 12) = true := by sorry
set_option maxRecDepth 1000000 in
theorem ck_all_13 : ((List.range 7).all fun k => ck_m1 (k + 13)) = true := by sorry
