/-! ROWS checked (printed by tools/rws.py) -/
set_option maxRecDepth 100000
theorem R_78_0 : vc_78_0.all (rowB 78) = true := by decide +kernel
theorem R_78_1 : vc_78_1.all (rowB 78) = true := by decide +kernel
theorem R_78_2 : vc_78_2.all (rowB 78) = true := by decide +kernel
theorem R_78_3 : vc_78_3.all (rowB 78) = true := by decide +kernel
theorem R_162_0 : vc_162_0.all (rowB 162) = true := by decide +kernel
theorem R_162_1 : vc_162_1.all (rowB 162) = true := by decide +kernel
theorem R_162_2 : vc_162_2.all (rowB 162) = true := by decide +kernel
theorem R_162_3 : vc_162_3.all (rowB 162) = true := by decide +kernel
theorem R_366_0 : vc_366_0.all (rowB 366) = true := by decide +kernel
theorem R_366_1 : vc_366_1.all (rowB 366) = true := by decide +kernel
theorem R_366_2 : vc_366_2.all (rowB 366) = true := by decide +kernel
theorem R_366_3 : vc_366_3.all (rowB 366) = true := by decide +kernel
theorem R_366_4 : vc_366_4.all (rowB 366) = true := by decide +kernel
theorem R_366_5 : vc_366_5.all (rowB 366) = true := by decide +kernel
theorem R_366_6 : vc_366_6.all (rowB 366) = true := by decide +kernel
theorem R_366_7 : vc_366_7.all (rowB 366) = true := by decide +kernel
