/-! contracts of methods, printed by gen/snd.py -/
set_option maxRecDepth 100000
set_option maxHeartbeats 4000000
theorem drX34_init_537 : decode prog_51_method_1_code 537 = .ok (.invokespecial 23, 3) := by decide +kernel
theorem drX34_init_542 : decode prog_51_method_1_code 542 = .ok (.new 21, 3) := by decide +kernel
theorem drX34_init_548 : decode prog_51_method_1_code 548 = .ok (.newarray .int, 2) := by decide +kernel
theorem kkX34_init_10 : fe_chk prog_51_method_1_code (Option.none : Option Jvm.ClassFile.FieldType) 13 ((cX34_init.drop 400).take 40) [537, 542, 548] = true := by decide +kernel
theorem kkX34_init_11 : fe_chk prog_51_method_1_code (Option.none : Option Jvm.ClassFile.FieldType) 13 ((cX34_init.drop 440).take 40) [] = true := by decide +kernel
