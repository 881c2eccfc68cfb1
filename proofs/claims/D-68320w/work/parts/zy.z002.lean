/-! contracts of methods, printed by gen/snd.py -/
set_option maxRecDepth 100000
set_option maxHeartbeats 4000000
theorem drX34_init_1 : decode prog_51_method_1_code 1 = .ok (.invokespecial 3, 3) := by decide +kernel
theorem drX34_init_7 : decode prog_51_method_1_code 7 = .ok (.anewarray 11, 3) := by decide +kernel
theorem drX34_init_10 : decode prog_51_method_1_code 10 = .ok (.putfield 13, 3) := by decide +kernel
theorem drX34_init_15 : decode prog_51_method_1_code 15 = .ok (.putfield 17, 3) := by decide +kernel
theorem drX34_init_18 : decode prog_51_method_1_code 18 = .ok (.new 21, 3) := by decide +kernel
theorem drX34_init_24 : decode prog_51_method_1_code 24 = .ok (.newarray .int, 2) := by decide +kernel
theorem drX34_init_52 : decode prog_51_method_1_code 52 = .ok (.invokespecial 23, 3) := by decide +kernel
theorem kkX34_init_0 : fe_chk prog_51_method_1_code (Option.none : Option Jvm.ClassFile.FieldType) 13 ((cX34_init.drop 0).take 40) [1, 7, 10, 15, 18, 24, 52] = true := by decide +kernel
theorem drX34_init_56 : decode prog_51_method_1_code 56 = .ok (.new 21, 3) := by decide +kernel
theorem drX34_init_62 : decode prog_51_method_1_code 62 = .ok (.newarray .int, 2) := by decide +kernel
theorem drX34_init_90 : decode prog_51_method_1_code 90 = .ok (.invokespecial 23, 3) := by decide +kernel
theorem drX34_init_94 : decode prog_51_method_1_code 94 = .ok (.new 21, 3) := by decide +kernel
theorem drX34_init_100 : decode prog_51_method_1_code 100 = .ok (.newarray .int, 2) := by decide +kernel
theorem kkX34_init_1 : fe_chk prog_51_method_1_code (Option.none : Option Jvm.ClassFile.FieldType) 13 ((cX34_init.drop 40).take 40) [56, 62, 90, 94, 100] = true := by decide +kernel
