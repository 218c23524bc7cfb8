/-! the law's own blocks are what the bytes say -/
set_option maxRecDepth 100000
theorem cl_32 : chB lkT 0 1456 bk_0_32 = true := by decide +kernel
theorem cl_33 : chB lkT 0 1489 bk_0_33 = true := by decide +kernel
theorem cl_34 : chB lkT 0 1532 bk_0_34 = true := by decide +kernel
theorem cl_35 : chB lkT 0 1575 bk_0_35 = true := by decide +kernel
theorem cl_36 : chB lkT 0 1608 bk_0_36 = true := by decide +kernel
theorem cl_37 : chB lkT 0 1641 bk_0_37 = true := by decide +kernel
theorem cl_38 : chB lkT 0 1694 bk_0_38 = true := by decide +kernel
theorem cl_39 : chB lkT 0 1737 bk_0_39 = true := by decide +kernel
theorem cl_40 : chB lkT 0 1770 bk_0_40 = true := by decide +kernel
theorem cl_41 : chB lkT 0 1803 bk_0_41 = true := by decide +kernel
theorem cl_42 : chB lkT 0 1836 bk_0_42 = true := by decide +kernel
theorem cl_43 : chB lkT 0 1837 bk_0_43 = true := by decide +kernel
theorem cl_44 : chB lkT 0 1873 bk_0_44 = true := by decide +kernel
theorem cl_45 : chB lkT 0 1874 bk_0_45 = true := by decide +kernel
theorem cl_46 : chB lkT 0 1882 bk_0_46 = true := by decide +kernel
theorem cl_47 : chB lkT 0 1915 bk_0_47 = true := by decide +kernel
