/-! contracts of methods, printed by gen/snd.py -/
set_option maxRecDepth 100000
set_option maxHeartbeats 4000000
theorem drX34_init_866 : decode prog_51_method_1_code 866 = .ok (.invokevirtual 31, 3) := by decide +kernel
theorem drX34_init_870 : decode prog_51_method_1_code 870 = .ok (.new 35, 3) := by decide +kernel
theorem drX34_init_881 : decode prog_51_method_1_code 881 = .ok (.invokespecial 37, 3) := by decide +kernel
theorem drX34_init_884 : decode prog_51_method_1_code 884 = .ok (.invokevirtual 31, 3) := by decide +kernel
theorem drX34_init_888 : decode prog_51_method_1_code 888 = .ok (.new 40, 3) := by decide +kernel
theorem drX34_init_899 : decode prog_51_method_1_code 899 = .ok (.invokespecial 42, 3) := by decide +kernel
theorem drX34_init_902 : decode prog_51_method_1_code 902 = .ok (.invokevirtual 31, 3) := by decide +kernel
theorem drX34_init_906 : decode prog_51_method_1_code 906 = .ok (.new 40, 3) := by decide +kernel
theorem drX34_init_917 : decode prog_51_method_1_code 917 = .ok (.invokespecial 42, 3) := by decide +kernel
theorem drX34_init_920 : decode prog_51_method_1_code 920 = .ok (.invokevirtual 31, 3) := by decide +kernel
theorem drX34_init_924 : decode prog_51_method_1_code 924 = .ok (.new 40, 3) := by decide +kernel
theorem kkX34_init_16 : fe_chk prog_51_method_1_code (Option.none : Option Jvm.ClassFile.FieldType) 13 ((cX34_init.drop 640).take 40) [866, 870, 881, 884, 888, 899, 902, 906, 917, 920, 924] = true := by decide +kernel
theorem drX34_init_935 : decode prog_51_method_1_code 935 = .ok (.invokespecial 42, 3) := by decide +kernel
theorem drX34_init_938 : decode prog_51_method_1_code 938 = .ok (.invokevirtual 31, 3) := by decide +kernel
theorem drX34_init_942 : decode prog_51_method_1_code 942 = .ok (.new 45, 3) := by decide +kernel
theorem drX34_init_949 : decode prog_51_method_1_code 949 = .ok (.invokespecial 47, 3) := by decide +kernel
theorem drX34_init_952 : decode prog_51_method_1_code 952 = .ok (.invokevirtual 31, 3) := by decide +kernel
theorem drX34_init_956 : decode prog_51_method_1_code 956 = .ok (.new 50, 3) := by decide +kernel
theorem drX34_init_962 : decode prog_51_method_1_code 962 = .ok (.invokespecial 52, 3) := by decide +kernel
theorem drX34_init_965 : decode prog_51_method_1_code 965 = .ok (.invokevirtual 31, 3) := by decide +kernel
theorem drX34_init_969 : decode prog_51_method_1_code 969 = .ok (.new 53, 3) := by decide +kernel
theorem drX34_init_975 : decode prog_51_method_1_code 975 = .ok (.invokespecial 55, 3) := by decide +kernel
theorem drX34_init_978 : decode prog_51_method_1_code 978 = .ok (.invokevirtual 31, 3) := by decide +kernel
theorem drX34_init_982 : decode prog_51_method_1_code 982 = .ok (.new 56, 3) := by decide +kernel
theorem drX34_init_990 : decode prog_51_method_1_code 990 = .ok (.invokespecial 58, 3) := by decide +kernel
theorem drX34_init_993 : decode prog_51_method_1_code 993 = .ok (.invokevirtual 31, 3) := by decide +kernel
theorem drX34_init_997 : decode prog_51_method_1_code 997 = .ok (.new 56, 3) := by decide +kernel
theorem drX34_init_1005 : decode prog_51_method_1_code 1005 = .ok (.invokespecial 58, 3) := by decide +kernel
theorem drX34_init_1008 : decode prog_51_method_1_code 1008 = .ok (.invokevirtual 31, 3) := by decide +kernel
theorem drX34_init_1012 : decode prog_51_method_1_code 1012 = .ok (.new 40, 3) := by decide +kernel
theorem kkX34_init_17 : fe_chk prog_51_method_1_code (Option.none : Option Jvm.ClassFile.FieldType) 13 ((cX34_init.drop 680).take 40) [935, 938, 942, 949, 952, 956, 962, 965, 969, 975, 978, 982, 990, 993, 997, 1005, 1008, 1012] = true := by decide +kernel
