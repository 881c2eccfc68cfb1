/-! contracts of methods, printed by gen/snd.py -/
set_option maxRecDepth 100000
set_option maxHeartbeats 4000000
theorem drX34_init_335 : decode prog_51_method_1_code 335 = .ok (.invokespecial 23, 3) := by decide +kernel
theorem drX34_init_340 : decode prog_51_method_1_code 340 = .ok (.new 21, 3) := by decide +kernel
theorem drX34_init_346 : decode prog_51_method_1_code 346 = .ok (.newarray .int, 2) := by decide +kernel
theorem kkX34_init_6 : fe_chk prog_51_method_1_code (Option.none : Option Jvm.ClassFile.FieldType) 13 ((cX34_init.drop 240).take 40) [335, 340, 346] = true := by decide +kernel
theorem drX34_init_376 : decode prog_51_method_1_code 376 = .ok (.invokespecial 23, 3) := by decide +kernel
theorem drX34_init_381 : decode prog_51_method_1_code 381 = .ok (.new 21, 3) := by decide +kernel
theorem drX34_init_387 : decode prog_51_method_1_code 387 = .ok (.newarray .int, 2) := by decide +kernel
theorem kkX34_init_7 : fe_chk prog_51_method_1_code (Option.none : Option Jvm.ClassFile.FieldType) 13 ((cX34_init.drop 280).take 40) [376, 381, 387] = true := by decide +kernel
