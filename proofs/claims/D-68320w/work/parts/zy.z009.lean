/-! contracts of methods, printed by gen/snd.py -/
set_option maxRecDepth 100000
set_option maxHeartbeats 4000000
theorem drX34_init_765 : decode prog_51_method_1_code 765 = .ok (.invokespecial 23, 3) := by decide +kernel
theorem drX34_init_771 : decode prog_51_method_1_code 771 = .ok (.new 26, 3) := by decide +kernel
theorem drX34_init_777 : decode prog_51_method_1_code 777 = .ok (.invokespecial 28, 3) := by decide +kernel
theorem drX34_init_780 : decode prog_51_method_1_code 780 = .ok (.invokevirtual 31, 3) := by decide +kernel
theorem drX34_init_784 : decode prog_51_method_1_code 784 = .ok (.new 35, 3) := by decide +kernel
theorem drX34_init_794 : decode prog_51_method_1_code 794 = .ok (.invokespecial 37, 3) := by decide +kernel
theorem kkX34_init_14 : fe_chk prog_51_method_1_code (Option.none : Option Jvm.ClassFile.FieldType) 13 ((cX34_init.drop 560).take 40) [765, 771, 777, 780, 784, 794] = true := by decide +kernel
theorem drX34_init_797 : decode prog_51_method_1_code 797 = .ok (.invokevirtual 31, 3) := by decide +kernel
theorem drX34_init_801 : decode prog_51_method_1_code 801 = .ok (.new 35, 3) := by decide +kernel
theorem drX34_init_811 : decode prog_51_method_1_code 811 = .ok (.invokespecial 37, 3) := by decide +kernel
theorem drX34_init_814 : decode prog_51_method_1_code 814 = .ok (.invokevirtual 31, 3) := by decide +kernel
theorem drX34_init_818 : decode prog_51_method_1_code 818 = .ok (.new 35, 3) := by decide +kernel
theorem drX34_init_827 : decode prog_51_method_1_code 827 = .ok (.invokespecial 37, 3) := by decide +kernel
theorem drX34_init_830 : decode prog_51_method_1_code 830 = .ok (.invokevirtual 31, 3) := by decide +kernel
theorem drX34_init_834 : decode prog_51_method_1_code 834 = .ok (.new 35, 3) := by decide +kernel
theorem drX34_init_844 : decode prog_51_method_1_code 844 = .ok (.invokespecial 37, 3) := by decide +kernel
theorem drX34_init_847 : decode prog_51_method_1_code 847 = .ok (.invokevirtual 31, 3) := by decide +kernel
theorem drX34_init_851 : decode prog_51_method_1_code 851 = .ok (.new 35, 3) := by decide +kernel
theorem drX34_init_863 : decode prog_51_method_1_code 863 = .ok (.invokespecial 37, 3) := by decide +kernel
theorem kkX34_init_15 : fe_chk prog_51_method_1_code (Option.none : Option Jvm.ClassFile.FieldType) 13 ((cX34_init.drop 600).take 40) [797, 801, 811, 814, 818, 827, 830, 834, 844, 847, 851, 863] = true := by decide +kernel
