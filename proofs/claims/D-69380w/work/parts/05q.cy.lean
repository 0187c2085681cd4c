/-! The words of methods. -/
set_option maxRecDepth 1000000 in
theorem cy_all_202 : ((List.range 25).all fun k => ck_y (k + 202)) = true := by sorry
set_option maxRecDepth 1000000 in
theorem cy_all_227 : ((List.range 25).all fun k => ck_y (k + 227)) = true := by sorry
set_option maxRecDepth 1000000 in
theorem cy_all_252 : ((List.range 25).all fun k => ck_y (k + 252)) = true := by sorry
set_option maxRecDepth 1000000 in
theorem cy_all_277 : ((List.range 25).all fun k => ck_y (k + 277)) = true := by sorry
