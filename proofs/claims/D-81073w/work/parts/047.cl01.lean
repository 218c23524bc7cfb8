/-! the law's own blocks are what the bytes say -/
set_option maxRecDepth 100000
theorem cl_16 : chB lkT 0 801 bk_0_16 = true := by decide +kernel
theorem cl_17 : chB lkT 0 876 bk_0_17 = true := by decide +kernel
theorem cl_18 : chB lkT 0 919 bk_0_18 = true := by decide +kernel
theorem cl_19 : chB lkT 0 952 bk_0_19 = true := by decide +kernel
theorem cl_20 : chB lkT 0 985 bk_0_20 = true := by decide +kernel
theorem cl_21 : chB lkT 0 1029 bk_0_21 = true := by decide +kernel
theorem cl_22 : chB lkT 0 1116 bk_0_22 = true := by decide +kernel
theorem cl_23 : chB lkT 0 1169 bk_0_23 = true := by decide +kernel
theorem cl_24 : chB lkT 0 1202 bk_0_24 = true := by decide +kernel
theorem cl_25 : chB lkT 0 1215 bk_0_25 = true := by decide +kernel
theorem cl_26 : chB lkT 0 1258 bk_0_26 = true := by decide +kernel
theorem cl_27 : chB lkT 0 1301 bk_0_27 = true := by decide +kernel
theorem cl_28 : chB lkT 0 1344 bk_0_28 = true := by decide +kernel
theorem cl_29 : chB lkT 0 1377 bk_0_29 = true := by decide +kernel
theorem cl_30 : chB lkT 0 1400 bk_0_30 = true := by decide +kernel
theorem cl_31 : chB lkT 0 1423 bk_0_31 = true := by decide +kernel
