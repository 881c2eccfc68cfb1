/-! contracts of methods, printed by gen/snd.py -/
set_option maxRecDepth 100000
set_option maxHeartbeats 4000000
theorem drX34_init_677 : decode prog_51_method_1_code 677 = .ok (.invokespecial 23, 3) := by decide +kernel
theorem drX34_init_682 : decode prog_51_method_1_code 682 = .ok (.new 21, 3) := by decide +kernel
theorem kkX34_init_12 : fe_chk prog_51_method_1_code (Option.none : Option Jvm.ClassFile.FieldType) 13 ((cX34_init.drop 480).take 40) [677, 682] = true := by decide +kernel
theorem drX34_init_688 : decode prog_51_method_1_code 688 = .ok (.newarray .int, 2) := by decide +kernel
theorem kkX34_init_13 : fe_chk prog_51_method_1_code (Option.none : Option Jvm.ClassFile.FieldType) 13 ((cX34_init.drop 520).take 40) [688] = true := by decide +kernel
