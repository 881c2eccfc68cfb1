/-! contracts of methods, printed by gen/snd.py -/
set_option maxRecDepth 100000
set_option maxHeartbeats 4000000
theorem drX34_init_239 : decode prog_51_method_1_code 239 = .ok (.invokespecial 23, 3) := by decide +kernel
theorem drX34_init_244 : decode prog_51_method_1_code 244 = .ok (.new 21, 3) := by decide +kernel
theorem drX34_init_250 : decode prog_51_method_1_code 250 = .ok (.newarray .int, 2) := by decide +kernel
theorem kkX34_init_4 : fe_chk prog_51_method_1_code (Option.none : Option Jvm.ClassFile.FieldType) 13 ((cX34_init.drop 160).take 40) [239, 244, 250] = true := by decide +kernel
theorem drX34_init_294 : decode prog_51_method_1_code 294 = .ok (.invokespecial 23, 3) := by decide +kernel
theorem drX34_init_299 : decode prog_51_method_1_code 299 = .ok (.new 21, 3) := by decide +kernel
theorem drX34_init_305 : decode prog_51_method_1_code 305 = .ok (.newarray .int, 2) := by decide +kernel
theorem kkX34_init_5 : fe_chk prog_51_method_1_code (Option.none : Option Jvm.ClassFile.FieldType) 13 ((cX34_init.drop 200).take 40) [294, 299, 305] = true := by decide +kernel
