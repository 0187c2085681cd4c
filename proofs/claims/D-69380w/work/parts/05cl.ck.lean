/-! Every instruction is what AI takes it for: some methods. -/
set_option maxRecDepth 1000000 in
theorem ck_all_128_0 : (((ac_all 128).drop 0).take 155).all (ck_p 128) = true := by sorry
set_option maxRecDepth 1000000 in
theorem ck_all_128_155 : (((ac_all 128).drop 155).take 74).all (ck_p 128) = true := by sorry
set_option maxRecDepth 1000000 in
theorem ck_all_128_229 : ((ac_all 128).drop 229).all (ck_p 128) = true := by sorry
