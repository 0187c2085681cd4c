/-! The words of methods. -/
set_option maxRecDepth 1000000 in
theorem cy_all_102 : ((List.range 25).all fun k => ck_y (k + 102)) = true := by sorry
set_option maxRecDepth 1000000 in
theorem cy_all_127 : ((List.range 25).all fun k => ck_y (k + 127)) = true := by sorry
set_option maxRecDepth 1000000 in
theorem cy_all_152 : ((List.range 25).all fun k => ck_y (k + 152)) = true := by sorry
set_option maxRecDepth 1000000 in
theorem cy_all_177 : ((List.range 25).all fun k => ck_y (k + 177)) = true := by sorry
