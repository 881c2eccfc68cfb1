/-! contracts of methods, printed by gen/snd.py -/
set_option maxRecDepth 100000
set_option maxHeartbeats 4000000
theorem drX34_init_1023 : decode prog_51_method_1_code 1023 = .ok (.invokespecial 42, 3) := by decide +kernel
theorem drX34_init_1026 : decode prog_51_method_1_code 1026 = .ok (.invokevirtual 31, 3) := by decide +kernel
theorem drX34_init_1030 : decode prog_51_method_1_code 1030 = .ok (.new 61, 3) := by decide +kernel
theorem drX34_init_1041 : decode prog_51_method_1_code 1041 = .ok (.invokespecial 63, 3) := by decide +kernel
theorem drX34_init_1044 : decode prog_51_method_1_code 1044 = .ok (.invokevirtual 31, 3) := by decide +kernel
theorem drX34_init_1048 : decode prog_51_method_1_code 1048 = .ok (.new 61, 3) := by decide +kernel
theorem drX34_init_1058 : decode prog_51_method_1_code 1058 = .ok (.invokespecial 63, 3) := by decide +kernel
theorem drX34_init_1061 : decode prog_51_method_1_code 1061 = .ok (.invokevirtual 31, 3) := by decide +kernel
theorem drX34_init_1065 : decode prog_51_method_1_code 1065 = .ok (.new 61, 3) := by decide +kernel
theorem drX34_init_1075 : decode prog_51_method_1_code 1075 = .ok (.invokespecial 63, 3) := by decide +kernel
theorem drX34_init_1078 : decode prog_51_method_1_code 1078 = .ok (.invokevirtual 31, 3) := by decide +kernel
theorem kkX34_init_18 : fe_chk prog_51_method_1_code (Option.none : Option Jvm.ClassFile.FieldType) 13 ((cX34_init.drop 720).take 40) [1023, 1026, 1030, 1041, 1044, 1048, 1058, 1061, 1065, 1075, 1078] = true := by decide +kernel
theorem drX34_init_1082 : decode prog_51_method_1_code 1082 = .ok (.new 64, 3) := by decide +kernel
theorem drX34_init_1086 : decode prog_51_method_1_code 1086 = .ok (.invokespecial 66, 3) := by decide +kernel
theorem drX34_init_1089 : decode prog_51_method_1_code 1089 = .ok (.invokevirtual 31, 3) := by decide +kernel
theorem drX34_init_1093 : decode prog_51_method_1_code 1093 = .ok (.new 61, 3) := by decide +kernel
theorem drX34_init_1104 : decode prog_51_method_1_code 1104 = .ok (.invokespecial 63, 3) := by decide +kernel
theorem drX34_init_1107 : decode prog_51_method_1_code 1107 = .ok (.invokevirtual 31, 3) := by decide +kernel
theorem drX34_init_1111 : decode prog_51_method_1_code 1111 = .ok (.new 61, 3) := by decide +kernel
theorem drX34_init_1123 : decode prog_51_method_1_code 1123 = .ok (.invokespecial 63, 3) := by decide +kernel
theorem drX34_init_1126 : decode prog_51_method_1_code 1126 = .ok (.invokevirtual 31, 3) := by decide +kernel
theorem drX34_init_1130 : decode prog_51_method_1_code 1130 = .ok (.new 61, 3) := by decide +kernel
theorem drX34_init_1142 : decode prog_51_method_1_code 1142 = .ok (.invokespecial 63, 3) := by decide +kernel
theorem drX34_init_1145 : decode prog_51_method_1_code 1145 = .ok (.invokevirtual 31, 3) := by decide +kernel
theorem kkX34_init_19 : fe_chk prog_51_method_1_code (Option.none : Option Jvm.ClassFile.FieldType) 13 (cX34_init.drop 760) [1082, 1086, 1089, 1093, 1104, 1107, 1111, 1123, 1126, 1130, 1142, 1145] = true := by decide +kernel
