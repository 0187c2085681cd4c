/-! The words of methods. -/
set_option maxRecDepth 1000000 in
theorem cy_all_2 : ((List.range 25).all fun k => ck_y (k + 2)) = true := by sorry
set_option maxRecDepth 1000000 in
theorem cy_all_27 : ((List.range 25).all fun k => ck_y (k + 27)) = true := by sorry
set_option maxRecDepth 1000000 in
theorem cy_all_52 : ((List.range 25).all fun k => ck_y (k + 52)) = true := by sorry
set_option maxRecDepth 1000000 in
theorem cy_all_77 : ((List.range 25).all fun k => ck_y (k + 77)) = true := by sorry
