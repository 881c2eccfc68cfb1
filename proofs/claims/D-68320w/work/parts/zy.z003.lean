/-! contracts of methods, printed by gen/snd.py -/
set_option maxRecDepth 100000
set_option maxHeartbeats 4000000
theorem drX34_init_129 : decode prog_51_method_1_code 129 = .ok (.invokespecial 23, 3) := by decide +kernel
theorem drX34_init_133 : decode prog_51_method_1_code 133 = .ok (.new 21, 3) := by decide +kernel
theorem drX34_init_139 : decode prog_51_method_1_code 139 = .ok (.newarray .int, 2) := by decide +kernel
theorem kkX34_init_2 : fe_chk prog_51_method_1_code (Option.none : Option Jvm.ClassFile.FieldType) 13 ((cX34_init.drop 80).take 40) [129, 133, 139] = true := by decide +kernel
theorem drX34_init_184 : decode prog_51_method_1_code 184 = .ok (.invokespecial 23, 3) := by decide +kernel
theorem drX34_init_189 : decode prog_51_method_1_code 189 = .ok (.new 21, 3) := by decide +kernel
theorem drX34_init_195 : decode prog_51_method_1_code 195 = .ok (.newarray .int, 2) := by decide +kernel
theorem kkX34_init_3 : fe_chk prog_51_method_1_code (Option.none : Option Jvm.ClassFile.FieldType) 13 ((cX34_init.drop 120).take 40) [184, 189, 195] = true := by decide +kernel
