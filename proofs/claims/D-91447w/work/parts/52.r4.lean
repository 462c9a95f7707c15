/-! ROWS checked (printed by tools/rws.py) -/
set_option maxRecDepth 100000
theorem R_78 : (vP 78).all (rowB 78) = true := by
  show (vc_78_0 ++ (vc_78_1 ++ (vc_78_2 ++ (vc_78_3)))).all (rowB 78) = true
  simp only [List.all_append, Bool.and_eq_true]
  exact ⟨R_78_0, R_78_1, R_78_2, R_78_3⟩
theorem R_162 : (vP 162).all (rowB 162) = true := by
  show (vc_162_0 ++ (vc_162_1 ++ (vc_162_2 ++ (vc_162_3)))).all (rowB 162) = true
  simp only [List.all_append, Bool.and_eq_true]
  exact ⟨R_162_0, R_162_1, R_162_2, R_162_3⟩
theorem R_366_8 : vc_366_8.all (rowB 366) = true := by decide +kernel
theorem R_366_9 : vc_366_9.all (rowB 366) = true := by decide +kernel
theorem R_366_10 : vc_366_10.all (rowB 366) = true := by decide +kernel
theorem R_366_11 : vc_366_11.all (rowB 366) = true := by decide +kernel
theorem R_366_12 : vc_366_12.all (rowB 366) = true := by decide +kernel
theorem R_366_13 : vc_366_13.all (rowB 366) = true := by decide +kernel
theorem R_366_14 : vc_366_14.all (rowB 366) = true := by decide +kernel
theorem R_366_15 : vc_366_15.all (rowB 366) = true := by decide +kernel
theorem R_366_16 : vc_366_16.all (rowB 366) = true := by decide +kernel
theorem R_366 : (vP 366).all (rowB 366) = true := by
  show (vc_366_0 ++ (vc_366_1 ++ (vc_366_2 ++ (vc_366_3 ++ (vc_366_4 ++ (vc_366_5 ++ (vc_366_6 ++ (vc_366_7 ++ (vc_366_8 ++ (vc_366_9 ++ (vc_366_10 ++ (vc_366_11 ++ (vc_366_12 ++ (vc_366_13 ++ (vc_366_14 ++ (vc_366_15 ++ (vc_366_16))))))))))))))))).all (rowB 366) = true
  simp only [List.all_append, Bool.and_eq_true]
  exact ⟨R_366_0, R_366_1, R_366_2, R_366_3, R_366_4, R_366_5, R_366_6, R_366_7, R_366_8, R_366_9, R_366_10, R_366_11, R_366_12, R_366_13, R_366_14, R_366_15, R_366_16⟩
