/-! the law's own blocks are what the bytes say -/
set_option maxRecDepth 100000
theorem cl_0 : chB lkT 0 0 bk_0_0 = true := by decide +kernel
theorem cl_1 : chB lkT 0 18 bk_0_1 = true := by decide +kernel
theorem cl_2 : chB lkT 0 288 bk_0_2 = true := by decide +kernel
theorem cl_3 : chB lkT 0 351 bk_0_3 = true := by decide +kernel
theorem cl_4 : chB lkT 0 374 bk_0_4 = true := by decide +kernel
theorem cl_5 : chB lkT 0 397 bk_0_5 = true := by decide +kernel
theorem cl_6 : chB lkT 0 430 bk_0_6 = true := by decide +kernel
theorem cl_7 : chB lkT 0 453 bk_0_7 = true := by decide +kernel
theorem cl_8 : chB lkT 0 486 bk_0_8 = true := by decide +kernel
theorem cl_9 : chB lkT 0 549 bk_0_9 = true := by decide +kernel
theorem cl_10 : chB lkT 0 582 bk_0_10 = true := by decide +kernel
theorem cl_11 : chB lkT 0 615 bk_0_11 = true := by decide +kernel
theorem cl_12 : chB lkT 0 658 bk_0_12 = true := by decide +kernel
theorem cl_13 : chB lkT 0 692 bk_0_13 = true := by decide +kernel
theorem cl_14 : chB lkT 0 745 bk_0_14 = true := by decide +kernel
theorem cl_15 : chB lkT 0 778 bk_0_15 = true := by decide +kernel
