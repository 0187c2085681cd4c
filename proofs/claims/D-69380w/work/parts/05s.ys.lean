theorem ck_ys {n : Nat} (h0 : 1 < n) (h1 : n < 336) : ck_y n = true := by
  rcases Nat.lt_or_ge n 27 with q | q
  · have := List.all_eq_true.mp cy_all_2 (n - 2) (List.mem_range.mpr (by omega))
    rw [show n - 2 + 2 = n by omega] at this
    exact this
  rcases Nat.lt_or_ge n 52 with q | q
  · have := List.all_eq_true.mp cy_all_27 (n - 27) (List.mem_range.mpr (by omega))
    rw [show n - 27 + 27 = n by omega] at this
    exact this
  rcases Nat.lt_or_ge n 77 with q | q
  · have := List.all_eq_true.mp cy_all_52 (n - 52) (List.mem_range.mpr (by omega))
    rw [show n - 52 + 52 = n by omega] at this
    exact this
  rcases Nat.lt_or_ge n 102 with q | q
  · have := List.all_eq_true.mp cy_all_77 (n - 77) (List.mem_range.mpr (by omega))
    rw [show n - 77 + 77 = n by omega] at this
    exact this
  rcases Nat.lt_or_ge n 127 with q | q
  · have := List.all_eq_true.mp cy_all_102 (n - 102) (List.mem_range.mpr (by omega))
    rw [show n - 102 + 102 = n by omega] at this
    exact this
  rcases Nat.lt_or_ge n 152 with q | q
  · have := List.all_eq_true.mp cy_all_127 (n - 127) (List.mem_range.mpr (by omega))
    rw [show n - 127 + 127 = n by omega] at this
    exact this
  rcases Nat.lt_or_ge n 177 with q | q
  · have := List.all_eq_true.mp cy_all_152 (n - 152) (List.mem_range.mpr (by omega))
    rw [show n - 152 + 152 = n by omega] at this
    exact this
  rcases Nat.lt_or_ge n 202 with q | q
  · have := List.all_eq_true.mp cy_all_177 (n - 177) (List.mem_range.mpr (by omega))
    rw [show n - 177 + 177 = n by omega] at this
    exact this
  rcases Nat.lt_or_ge n 227 with q | q
  · have := List.all_eq_true.mp cy_all_202 (n - 202) (List.mem_range.mpr (by omega))
    rw [show n - 202 + 202 = n by omega] at this
    exact this
  rcases Nat.lt_or_ge n 252 with q | q
  · have := List.all_eq_true.mp cy_all_227 (n - 227) (List.mem_range.mpr (by omega))
    rw [show n - 227 + 227 = n by omega] at this
    exact this
  rcases Nat.lt_or_ge n 277 with q | q
  · have := List.all_eq_true.mp cy_all_252 (n - 252) (List.mem_range.mpr (by omega))
    rw [show n - 252 + 252 = n by omega] at this
    exact this
  rcases Nat.lt_or_ge n 302 with q | q
  · have := List.all_eq_true.mp cy_all_277 (n - 277) (List.mem_range.mpr (by omega))
    rw [show n - 277 + 277 = n by omega] at this
    exact this
  rcases Nat.lt_or_ge n 327 with q | q
  · have := List.all_eq_true.mp cy_all_302 (n - 302) (List.mem_range.mpr (by omega))
    rw [show n - 302 + 302 = n by omega] at this
    exact this
  rcases Nat.lt_or_ge n 336 with q | q
  · have := List.all_eq_true.mp cy_all_327 (n - 327) (List.mem_range.mpr (by omega))
    rw [show n - 327 + 327 = n by omega] at this
    exact this
  omega
