/-! Every instruction is what AI takes it for: some methods. -/
set_option maxRecDepth 1000000 in
theorem ck_all_113 : ((List.range 4).all fun k => ck_m1 (k + 113)) = true := by sorry
set_option maxRecDepth 1000000 in
theorem ck_all_117_0 : (((ac_all 117).drop 0).take 140).all (ck_p 117) = true := by sorry
set_option maxRecDepth 1000000 in
theorem ck_all_117_140 : (((ac_all 117).drop 140).take 76).all (ck_p 117) = true := by sorry
