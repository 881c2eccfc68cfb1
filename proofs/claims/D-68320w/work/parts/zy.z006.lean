/-! contracts of methods, printed by gen/snd.py -/
set_option maxRecDepth 100000
set_option maxHeartbeats 4000000
theorem drX34_init_448 : decode prog_51_method_1_code 448 = .ok (.invokespecial 23, 3) := by decide +kernel
theorem drX34_init_453 : decode prog_51_method_1_code 453 = .ok (.new 21, 3) := by decide +kernel
theorem drX34_init_459 : decode prog_51_method_1_code 459 = .ok (.newarray .int, 2) := by decide +kernel
theorem kkX34_init_8 : fe_chk prog_51_method_1_code (Option.none : Option Jvm.ClassFile.FieldType) 13 ((cX34_init.drop 320).take 40) [448, 453, 459] = true := by decide +kernel
theorem kkX34_init_9 : fe_chk prog_51_method_1_code (Option.none : Option Jvm.ClassFile.FieldType) 13 ((cX34_init.drop 360).take 40) [] = true := by decide +kernel
