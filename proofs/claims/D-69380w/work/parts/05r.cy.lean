/-! The words of methods. -/
set_option maxRecDepth 1000000 in
theorem cy_all_302 : ((List.range 25).all fun k => ck_y (k + 302)) = true := by sorry
set_option maxRecDepth 1000000 in
theorem cy_all_327 : ((List.range 9).all fun k => ck_y (k + 327)) = true := by sorry
