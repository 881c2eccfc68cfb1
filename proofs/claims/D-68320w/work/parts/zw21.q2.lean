/-! words of the tables by their places, out of the printed names -/
set_option maxRecDepth 100000
theorem q4710 : (Jvm.Cond.fieldLink "BoardMachineModel$Signals" (137 : Nat) "BoardMachineModel$Signals" "emptied" "Z") ∈ lw_all := lw_g (lw_at lw_m19 80 rfl) rfl
theorem q4711 : (Jvm.Cond.fieldLink "BoardMachineModel$Signals" (42 : Nat) "BoardMachineModel$Signals" "came" "[I") ∈ lw_all := lw_g (lw_at lw_m19 81 rfl) rfl
theorem q4712 : (Jvm.Cond.fieldLink "BoardMachineModel$Signals" (134 : Nat) "BoardMachineModel$Signals" "many" "I") ∈ lw_all := lw_g (lw_at lw_m19 82 rfl) rfl
theorem q4713 : (Jvm.Cond.fieldLink "BoardMachineModel$Signals" (45 : Nat) "BoardMachineModel$Signals" "out" "[I") ∈ lw_all := lw_g (lw_at lw_m19 83 rfl) rfl
theorem q4714 : (Jvm.Cond.fieldLink "BoardMachineModel$Signals" (168 : Nat) "BoardMachineModel$Signals" "sent" "J") ∈ lw_all := lw_g (lw_at lw_m19 84 rfl) rfl
theorem q4715 : (Jvm.Cond.fieldLink "BoardMachineModel$Signals" (95 : Nat) "BoardMachineModel$Signals" "breaches" "J") ∈ lw_all := lw_g (lw_at lw_m19 85 rfl) rfl
theorem q4716 : (Jvm.Cond.fieldLinkNest "BoardMachineModel" (547 : Nat) "BoardMachineModel$Signals" "breaches" "J" "BoardMachineModel") ∈ lw_tbl := lw_at lw_m19 86 rfl
theorem q4717 : (Jvm.Cond.lays "BoardMachineModel$Signals" "BoardMachineModel$Signals" "thrown" "I") ∈ lw_all := lw_g (lw_at lw_m19 87 rfl) rfl
theorem q4718 : (Jvm.Cond.soleField "BoardMachineModel$Signals" "thrown") ∈ lw_all := lw_g (lw_at lw_m19 88 rfl) rfl
theorem q4719 : (Jvm.Cond.laysFinal "BoardMachineModel$Signals" "BoardMachineModel$Signals" "processors" "I") ∈ lw_all := lw_g (lw_at lw_m19 89 rfl) rfl
theorem q4720 : (Jvm.Cond.soleField "BoardMachineModel$Signals" "processors") ∈ lw_all := lw_g (lw_at lw_m19 90 rfl) rfl
theorem q4721 : (Jvm.Cond.laysFinal "BoardMachineModel$Signals" "BoardMachineModel$Signals" "soft" "[Z") ∈ lw_all := lw_g (lw_at lw_m19 91 rfl) rfl
theorem q4722 : (Jvm.Cond.soleField "BoardMachineModel$Signals" "soft") ∈ lw_all := lw_g (lw_at lw_m19 92 rfl) rfl
theorem q4723 : (Jvm.Cond.laysFinal "BoardMachineModel$Signals" "BoardMachineModel$Signals" "compares" "[J") ∈ lw_all := lw_g (lw_at lw_m19 93 rfl) rfl
theorem q4724 : (Jvm.Cond.soleField "BoardMachineModel$Signals" "compares") ∈ lw_all := lw_g (lw_at lw_m19 94 rfl) rfl
theorem q4725 : (Jvm.Cond.lays "BoardMachineModel$Signals" "BoardMachineModel$Signals" "time" "J") ∈ lw_all := lw_g (lw_at lw_m19 95 rfl) rfl
theorem q4726 : (Jvm.Cond.soleField "BoardMachineModel$Signals" "time") ∈ lw_all := lw_g (lw_at lw_m19 96 rfl) rfl
theorem q4727 : (Jvm.Cond.laysFinal "BoardMachineModel$Signals" "BoardMachineModel$Signals" "signals" "[Z") ∈ lw_all := lw_g (lw_at lw_m19 97 rfl) rfl
theorem q4728 : (Jvm.Cond.soleField "BoardMachineModel$Signals" "signals") ∈ lw_all := lw_g (lw_at lw_m19 98 rfl) rfl
theorem q4729 : (Jvm.Cond.laysFinal "BoardMachineModel$Signals" "BoardMachineModel$Signals" "waits" "[Z") ∈ lw_all := lw_g (lw_at lw_m19 99 rfl) rfl
theorem q4730 : (Jvm.Cond.soleField "BoardMachineModel$Signals" "waits") ∈ lw_all := lw_g (lw_at lw_m19 100 rfl) rfl
theorem q4731 : (Jvm.Cond.laysFinal "BoardMachineModel$Signals" "BoardMachineModel$Signals" "served" "[Z") ∈ lw_all := lw_g (lw_at lw_m19 101 rfl) rfl
theorem q4732 : (Jvm.Cond.soleField "BoardMachineModel$Signals" "served") ∈ lw_all := lw_g (lw_at lw_m19 102 rfl) rfl
theorem q4733 : (Jvm.Cond.laysFinal "BoardMachineModel$Signals" "BoardMachineModel$Signals" "priorities" "[I") ∈ lw_all := lw_g (lw_at lw_m19 103 rfl) rfl
theorem q4734 : (Jvm.Cond.soleField "BoardMachineModel$Signals" "priorities") ∈ lw_all := lw_g (lw_at lw_m19 104 rfl) rfl
theorem q4735 : (Jvm.Cond.laysFinal "BoardMachineModel$Signals" "BoardMachineModel$Signals" "enabled" "[I") ∈ lw_all := lw_g (lw_at lw_m19 105 rfl) rfl
theorem q4736 : (Jvm.Cond.soleField "BoardMachineModel$Signals" "enabled") ∈ lw_all := lw_g (lw_at lw_m19 106 rfl) rfl
theorem q4737 : (Jvm.Cond.laysFinal "BoardMachineModel$Signals" "BoardMachineModel$Signals" "thresholds" "[I") ∈ lw_all := lw_g (lw_at lw_m19 107 rfl) rfl
theorem q4738 : (Jvm.Cond.soleField "BoardMachineModel$Signals" "thresholds") ∈ lw_all := lw_g (lw_at lw_m19 108 rfl) rfl
theorem q4739 : (Jvm.Cond.laysFinal "BoardMachineModel$Signals" "BoardMachineModel$Signals" "registers" "[I") ∈ lw_all := lw_g (lw_at lw_m19 109 rfl) rfl
theorem q4740 : (Jvm.Cond.soleField "BoardMachineModel$Signals" "registers") ∈ lw_all := lw_g (lw_at lw_m19 110 rfl) rfl
theorem q4741 : (Jvm.Cond.laysFinal "BoardMachineModel$Signals" "BoardMachineModel$Signals" "others" "[I") ∈ lw_all := lw_g (lw_at lw_m19 111 rfl) rfl
theorem q4742 : (Jvm.Cond.soleField "BoardMachineModel$Signals" "others") ∈ lw_all := lw_g (lw_at lw_m19 112 rfl) rfl
theorem q4743 : (Jvm.Cond.lays "BoardMachineModel$Signals" "BoardMachineModel$Signals" "queueBit" "Z") ∈ lw_all := lw_g (lw_at lw_m19 113 rfl) rfl
theorem q4744 : (Jvm.Cond.soleField "BoardMachineModel$Signals" "queueBit") ∈ lw_all := lw_g (lw_at lw_m19 114 rfl) rfl
theorem q4745 : (Jvm.Cond.lays "BoardMachineModel$Signals" "BoardMachineModel$Signals" "overrun" "Z") ∈ lw_all := lw_g (lw_at lw_m19 115 rfl) rfl
theorem q4746 : (Jvm.Cond.soleField "BoardMachineModel$Signals" "overrun") ∈ lw_all := lw_g (lw_at lw_m19 116 rfl) rfl
theorem q4747 : (Jvm.Cond.lays "BoardMachineModel$Signals" "BoardMachineModel$Signals" "emptied" "Z") ∈ lw_all := lw_g (lw_at lw_m19 117 rfl) rfl
theorem q4748 : (Jvm.Cond.soleField "BoardMachineModel$Signals" "emptied") ∈ lw_all := lw_g (lw_at lw_m19 118 rfl) rfl
theorem q4749 : (Jvm.Cond.laysFinal "BoardMachineModel$Signals" "BoardMachineModel$Signals" "came" "[I") ∈ lw_all := lw_g (lw_at lw_m19 119 rfl) rfl
theorem q4750 : (Jvm.Cond.soleField "BoardMachineModel$Signals" "came") ∈ lw_all := lw_g (lw_at lw_m19 120 rfl) rfl
theorem q4751 : (Jvm.Cond.lays "BoardMachineModel$Signals" "BoardMachineModel$Signals" "many" "I") ∈ lw_all := lw_g (lw_at lw_m19 121 rfl) rfl
theorem q4752 : (Jvm.Cond.soleField "BoardMachineModel$Signals" "many") ∈ lw_all := lw_g (lw_at lw_m19 122 rfl) rfl
theorem q4753 : (Jvm.Cond.laysFinal "BoardMachineModel$Signals" "BoardMachineModel$Signals" "out" "[I") ∈ lw_all := lw_g (lw_at lw_m19 123 rfl) rfl
theorem q4754 : (Jvm.Cond.soleField "BoardMachineModel$Signals" "out") ∈ lw_all := lw_g (lw_at lw_m19 124 rfl) rfl
theorem q4755 : (Jvm.Cond.lays "BoardMachineModel$Signals" "BoardMachineModel$Signals" "sent" "J") ∈ lw_all := lw_g (lw_at lw_m19 125 rfl) rfl
theorem q4756 : (Jvm.Cond.soleField "BoardMachineModel$Signals" "sent") ∈ lw_all := lw_g (lw_at lw_m19 126 rfl) rfl
theorem q4757 : (Jvm.Cond.lays "BoardMachineModel$Signals" "BoardMachineModel$Signals" "breaches" "J") ∈ lw_all := lw_g (lw_at lw_m19 127 rfl) rfl
theorem q4758 : (Jvm.Cond.soleField "BoardMachineModel$Signals" "breaches") ∈ lw_all := lw_g (lw_at lw_m19 128 rfl) rfl
theorem q4759 : (Jvm.Cond.superclass "BoardMachineModel$Signals" "java/lang/Object") ∈ lw_all := lw_g (lw_at lw_m19 129 rfl) rfl
theorem q4760 : (Jvm.Cond.classLink "BoardMachineModel" (94 : Nat) "BoardMachineModel$Tree") ∈ lw_all := lw_g (lw_at lw_m19 130 rfl) rfl
theorem q4761 : (Jvm.Cond.instantiable "BoardMachineModel$Tree" (7 : Nat)) ∈ lw_all := lw_g (lw_at lw_m19 131 rfl) rfl
theorem q4762 : (Jvm.Cond.methodLink "BoardMachineModel" (96 : Nat) ({ cls := "BoardMachineModel$Tree", name := "<init>", desc := "(I)V" } : Jvm.MethodName)) ∈ lw_all := lw_g (lw_at lw_m19 132 rfl) rfl
theorem q4763 : (Jvm.Cond.instanceMethod ({ cls := "BoardMachineModel$Tree", name := "<init>", desc := "(I)V" } : Jvm.MethodName)) ∈ lw_all := lw_g (lw_at lw_m19 133 rfl) rfl
theorem q4764 : (Jvm.Cond.code ({ cls := "BoardMachineModel$Tree", name := "<init>", desc := "(I)V" } : Jvm.MethodName) prog_119_method_1_code (2 : Nat) (Option.none : Option Jvm.ClassFile.FieldType)) ∈ lw_all := lw_g (lw_at lw_m19 134 rfl) rfl
theorem q4765 : (Jvm.Cond.methodLink "BoardMachineModel$Tree" (1 : Nat) ({ cls := "java/lang/Object", name := "<init>", desc := "()V" } : Jvm.MethodName)) ∈ lw_all := lw_g (lw_at lw_m19 135 rfl) rfl
theorem q4766 : (Jvm.Cond.methodLink "BoardMachineModel$Tree" (19 : Nat) ({ cls := "BoardMachineModel$Tree", name := "machine", desc := "(I)V" } : Jvm.MethodName)) ∈ lw_all := lw_g (lw_at lw_m19 136 rfl) rfl
theorem q4767 : (Jvm.Cond.privateMethod ({ cls := "BoardMachineModel$Tree", name := "machine", desc := "(I)V" } : Jvm.MethodName)) ∈ lw_tbl := lw_at lw_m19 137 rfl
theorem q4768 : (Jvm.Cond.instanceMethod ({ cls := "BoardMachineModel$Tree", name := "machine", desc := "(I)V" } : Jvm.MethodName)) ∈ lw_all := lw_g (lw_at lw_m19 138 rfl) rfl
theorem q4769 : (Jvm.Cond.code ({ cls := "BoardMachineModel$Tree", name := "machine", desc := "(I)V" } : Jvm.MethodName) prog_119_method_20_code (3 : Nat) (Option.none : Option Jvm.ClassFile.FieldType)) ∈ lw_all := lw_g (lw_at lw_m19 139 rfl) rfl
theorem q4770 : (Jvm.Cond.stringRef "BoardMachineModel$Tree" (195 : Nat) "") ∈ lw_tbl := lw_at lw_m19 140 rfl
theorem q4771 : (Jvm.Cond.methodLink "BoardMachineModel$Tree" (98 : Nat) ({ cls := "BoardMachineModel$Tree", name := "node", desc := "(Ljava/lang/String;)V" } : Jvm.MethodName)) ∈ lw_all := lw_g (lw_at lw_m19 141 rfl) rfl
theorem q4772 : (Jvm.Cond.privateMethod ({ cls := "BoardMachineModel$Tree", name := "node", desc := "(Ljava/lang/String;)V" } : Jvm.MethodName)) ∈ lw_tbl := lw_at lw_m19 142 rfl
theorem q4773 : (Jvm.Cond.instanceMethod ({ cls := "BoardMachineModel$Tree", name := "node", desc := "(Ljava/lang/String;)V" } : Jvm.MethodName)) ∈ lw_all := lw_g (lw_at lw_m19 143 rfl) rfl
theorem q4774 : (Jvm.Cond.code ({ cls := "BoardMachineModel$Tree", name := "node", desc := "(Ljava/lang/String;)V" } : Jvm.MethodName) prog_119_method_6_code (2 : Nat) (Option.none : Option Jvm.ClassFile.FieldType)) ∈ lw_all := lw_g (lw_at lw_m19 144 rfl) rfl
theorem q4775 : (Jvm.Cond.methodLink "BoardMachineModel$Tree" (30 : Nat) ({ cls := "BoardMachineModel$Tree", name := "four", desc := "(J)V" } : Jvm.MethodName)) ∈ lw_all := lw_g (lw_at lw_m19 145 rfl) rfl
theorem q4776 : (Jvm.Cond.privateMethod ({ cls := "BoardMachineModel$Tree", name := "four", desc := "(J)V" } : Jvm.MethodName)) ∈ lw_tbl := lw_at lw_m19 146 rfl
theorem q4777 : (Jvm.Cond.instanceMethod ({ cls := "BoardMachineModel$Tree", name := "four", desc := "(J)V" } : Jvm.MethodName)) ∈ lw_all := lw_g (lw_at lw_m19 147 rfl) rfl
theorem q4778 : (Jvm.Cond.code ({ cls := "BoardMachineModel$Tree", name := "four", desc := "(J)V" } : Jvm.MethodName) prog_119_method_2_code (4 : Nat) (Option.none : Option Jvm.ClassFile.FieldType)) ∈ lw_all := lw_g (lw_at lw_m19 148 rfl) rfl
theorem q4779 : (Jvm.Cond.methodLink "BoardMachineModel$Tree" (44 : Nat) ({ cls := "BoardMachineModel$Tree", name := "characters", desc := "(Ljava/lang/String;)V" } : Jvm.MethodName)) ∈ lw_all := lw_g (lw_at lw_m19 149 rfl) rfl
theorem q4780 : (Jvm.Cond.privateMethod ({ cls := "BoardMachineModel$Tree", name := "characters", desc := "(Ljava/lang/String;)V" } : Jvm.MethodName)) ∈ lw_tbl := lw_at lw_m19 150 rfl
theorem q4781 : (Jvm.Cond.instanceMethod ({ cls := "BoardMachineModel$Tree", name := "characters", desc := "(Ljava/lang/String;)V" } : Jvm.MethodName)) ∈ lw_all := lw_g (lw_at lw_m19 151 rfl) rfl
theorem q4782 : (Jvm.Cond.code ({ cls := "BoardMachineModel$Tree", name := "characters", desc := "(Ljava/lang/String;)V" } : Jvm.MethodName) prog_119_method_4_code (3 : Nat) (Option.none : Option Jvm.ClassFile.FieldType)) ∈ lw_all := lw_g (lw_at lw_m19 152 rfl) rfl
theorem q4783 : (Jvm.Cond.methodLink "BoardMachineModel$Tree" (34 : Nat) ({ cls := "java/lang/String", name := "length", desc := "()I" } : Jvm.MethodName)) ∈ lw_all := lw_g (lw_at lw_m19 153 rfl) rfl
theorem q4784 : (Jvm.Cond.methodLink "BoardMachineModel$Tree" (40 : Nat) ({ cls := "java/lang/String", name := "charAt", desc := "(I)C" } : Jvm.MethodName)) ∈ lw_all := lw_g (lw_at lw_m19 154 rfl) rfl
theorem q4785 : (Jvm.Cond.methodLink "BoardMachineModel$Tree" (48 : Nat) ({ cls := "BoardMachineModel$Tree", name := "fillUp", desc := "()V" } : Jvm.MethodName)) ∈ lw_all := lw_g (lw_at lw_m19 155 rfl) rfl
theorem q4786 : (Jvm.Cond.privateMethod ({ cls := "BoardMachineModel$Tree", name := "fillUp", desc := "()V" } : Jvm.MethodName)) ∈ lw_tbl := lw_at lw_m19 156 rfl
theorem q4787 : (Jvm.Cond.instanceMethod ({ cls := "BoardMachineModel$Tree", name := "fillUp", desc := "()V" } : Jvm.MethodName)) ∈ lw_all := lw_g (lw_at lw_m19 157 rfl) rfl
theorem q4788 : (Jvm.Cond.code ({ cls := "BoardMachineModel$Tree", name := "fillUp", desc := "()V" } : Jvm.MethodName) prog_119_method_5_code (1 : Nat) (Option.none : Option Jvm.ClassFile.FieldType)) ∈ lw_all := lw_g (lw_at lw_m19 158 rfl) rfl
theorem q4789 : (Jvm.Cond.methodLink "BoardMachineModel$Tree" (197 : Nat) ({ cls := "BoardMachineModel$Tree", name := "cells", desc := "(II)V" } : Jvm.MethodName)) ∈ lw_all := lw_g (lw_at lw_m19 159 rfl) rfl
theorem q4790 : (Jvm.Cond.privateMethod ({ cls := "BoardMachineModel$Tree", name := "cells", desc := "(II)V" } : Jvm.MethodName)) ∈ lw_tbl := lw_at lw_m19 160 rfl
theorem q4791 : (Jvm.Cond.instanceMethod ({ cls := "BoardMachineModel$Tree", name := "cells", desc := "(II)V" } : Jvm.MethodName)) ∈ lw_all := lw_g (lw_at lw_m19 161 rfl) rfl
theorem q4792 : (Jvm.Cond.code ({ cls := "BoardMachineModel$Tree", name := "cells", desc := "(II)V" } : Jvm.MethodName) prog_119_method_17_code (3 : Nat) (Option.none : Option Jvm.ClassFile.FieldType)) ∈ lw_all := lw_g (lw_at lw_m19 162 rfl) rfl
theorem q4793 : (Jvm.Cond.stringRef "BoardMachineModel$Tree" (82 : Nat) "#address-cells") ∈ lw_tbl := lw_at lw_m19 163 rfl
theorem q4794 : (Jvm.Cond.methodLink "BoardMachineModel$Tree" (84 : Nat) ({ cls := "BoardMachineModel$Tree", name := "number", desc := "(Ljava/lang/String;J)V" } : Jvm.MethodName)) ∈ lw_all := lw_g (lw_at lw_m19 164 rfl) rfl
theorem q4795 : (Jvm.Cond.privateMethod ({ cls := "BoardMachineModel$Tree", name := "number", desc := "(Ljava/lang/String;J)V" } : Jvm.MethodName)) ∈ lw_tbl := lw_at lw_m19 165 rfl
theorem q4796 : (Jvm.Cond.instanceMethod ({ cls := "BoardMachineModel$Tree", name := "number", desc := "(Ljava/lang/String;J)V" } : Jvm.MethodName)) ∈ lw_all := lw_g (lw_at lw_m19 166 rfl) rfl
theorem q4797 : (Jvm.Cond.code ({ cls := "BoardMachineModel$Tree", name := "number", desc := "(Ljava/lang/String;J)V" } : Jvm.MethodName) prog_119_method_12_code (4 : Nat) (Option.none : Option Jvm.ClassFile.FieldType)) ∈ lw_all := lw_g (lw_at lw_m19 167 rfl) rfl
theorem q4798 : (Jvm.Cond.methodLink "BoardMachineModel$Tree" (69 : Nat) ({ cls := "BoardMachineModel$Tree", name := "open", desc := "(Ljava/lang/String;)V" } : Jvm.MethodName)) ∈ lw_all := lw_g (lw_at lw_m19 168 rfl) rfl
theorem q4799 : (Jvm.Cond.privateMethod ({ cls := "BoardMachineModel$Tree", name := "open", desc := "(Ljava/lang/String;)V" } : Jvm.MethodName)) ∈ lw_tbl := lw_at lw_m19 169 rfl
theorem q4800 : (Jvm.Cond.instanceMethod ({ cls := "BoardMachineModel$Tree", name := "open", desc := "(Ljava/lang/String;)V" } : Jvm.MethodName)) ∈ lw_all := lw_g (lw_at lw_m19 170 rfl) rfl
theorem q4801 : (Jvm.Cond.code ({ cls := "BoardMachineModel$Tree", name := "open", desc := "(Ljava/lang/String;)V" } : Jvm.MethodName) prog_119_method_10_code (2 : Nat) (Option.none : Option Jvm.ClassFile.FieldType)) ∈ lw_all := lw_g (lw_at lw_m19 171 rfl) rfl
theorem q4802 : (Jvm.Cond.constantLong "BoardMachineModel$Tree" (60 : Nat) (3 : Int64)) ∈ lw_all := lw_g (lw_at lw_m19 172 rfl) rfl
theorem q4803 : (Jvm.Cond.methodLink "BoardMachineModel$Tree" (65 : Nat) ({ cls := "BoardMachineModel$Tree", name := "placeOf", desc := "(Ljava/lang/String;)I" } : Jvm.MethodName)) ∈ lw_all := lw_g (lw_at lw_m19 173 rfl) rfl
theorem q4804 : (Jvm.Cond.privateMethod ({ cls := "BoardMachineModel$Tree", name := "placeOf", desc := "(Ljava/lang/String;)I" } : Jvm.MethodName)) ∈ lw_tbl := lw_at lw_m19 174 rfl
theorem q4805 : (Jvm.Cond.instanceMethod ({ cls := "BoardMachineModel$Tree", name := "placeOf", desc := "(Ljava/lang/String;)I" } : Jvm.MethodName)) ∈ lw_all := lw_g (lw_at lw_m19 175 rfl) rfl
theorem q4806 : (Jvm.Cond.code ({ cls := "BoardMachineModel$Tree", name := "placeOf", desc := "(Ljava/lang/String;)I" } : Jvm.MethodName) prog_119_method_9_code (4 : Nat) (Option.some Jvm.ClassFile.FieldType.int)) ∈ lw_all := lw_g (lw_at lw_m19 176 rfl) rfl
theorem q4807 : (Jvm.Cond.methodLink "BoardMachineModel$Tree" (56 : Nat) ({ cls := "BoardMachineModel$Tree", name := "isAt", desc := "(Ljava/lang/String;I)Z" } : Jvm.MethodName)) ∈ lw_all := lw_g (lw_at lw_m19 177 rfl) rfl
theorem q4808 : (Jvm.Cond.privateMethod ({ cls := "BoardMachineModel$Tree", name := "isAt", desc := "(Ljava/lang/String;I)Z" } : Jvm.MethodName)) ∈ lw_tbl := lw_at lw_m19 178 rfl
theorem q4809 : (Jvm.Cond.instanceMethod ({ cls := "BoardMachineModel$Tree", name := "isAt", desc := "(Ljava/lang/String;I)Z" } : Jvm.MethodName)) ∈ lw_all := lw_g (lw_at lw_m19 179 rfl) rfl
theorem q4810 : (Jvm.Cond.code ({ cls := "BoardMachineModel$Tree", name := "isAt", desc := "(Ljava/lang/String;I)Z" } : Jvm.MethodName) prog_119_method_8_code (5 : Nat) (Option.some Jvm.ClassFile.FieldType.boolean)) ∈ lw_all := lw_g (lw_at lw_m19 180 rfl) rfl
theorem q4811 : (Jvm.Cond.methodLink "BoardMachineModel$Tree" (72 : Nat) ({ cls := "BoardMachineModel$Tree", name := "close", desc := "()V" } : Jvm.MethodName)) ∈ lw_all := lw_g (lw_at lw_m19 181 rfl) rfl
theorem q4812 : (Jvm.Cond.privateMethod ({ cls := "BoardMachineModel$Tree", name := "close", desc := "()V" } : Jvm.MethodName)) ∈ lw_tbl := lw_at lw_m19 182 rfl
theorem q4813 : (Jvm.Cond.instanceMethod ({ cls := "BoardMachineModel$Tree", name := "close", desc := "()V" } : Jvm.MethodName)) ∈ lw_all := lw_g (lw_at lw_m19 183 rfl) rfl
theorem q4814 : (Jvm.Cond.code ({ cls := "BoardMachineModel$Tree", name := "close", desc := "()V" } : Jvm.MethodName) prog_119_method_11_code (2 : Nat) (Option.none : Option Jvm.ClassFile.FieldType)) ∈ lw_all := lw_g (lw_at lw_m19 184 rfl) rfl
theorem q4815 : (Jvm.Cond.stringRef "BoardMachineModel$Tree" (88 : Nat) "#size-cells") ∈ lw_tbl := lw_at lw_m19 185 rfl
theorem q4816 : (Jvm.Cond.stringRef "BoardMachineModel$Tree" (113 : Nat) "compatible") ∈ lw_tbl := lw_at lw_m19 186 rfl
theorem q4817 : (Jvm.Cond.stringRef "BoardMachineModel$Tree" (201 : Nat) "whole,board") ∈ lw_tbl := lw_at lw_m19 187 rfl
theorem q4818 : (Jvm.Cond.methodLink "BoardMachineModel$Tree" (105 : Nat) ({ cls := "BoardMachineModel$Tree", name := "text", desc := "(Ljava/lang/String;Ljava/lang/String;)V" } : Jvm.MethodName)) ∈ lw_all := lw_g (lw_at lw_m19 188 rfl) rfl
theorem q4819 : (Jvm.Cond.privateMethod ({ cls := "BoardMachineModel$Tree", name := "text", desc := "(Ljava/lang/String;Ljava/lang/String;)V" } : Jvm.MethodName)) ∈ lw_tbl := lw_at lw_m19 189 rfl
theorem q4820 : (Jvm.Cond.instanceMethod ({ cls := "BoardMachineModel$Tree", name := "text", desc := "(Ljava/lang/String;Ljava/lang/String;)V" } : Jvm.MethodName)) ∈ lw_all := lw_g (lw_at lw_m19 190 rfl) rfl
theorem q4821 : (Jvm.Cond.code ({ cls := "BoardMachineModel$Tree", name := "text", desc := "(Ljava/lang/String;Ljava/lang/String;)V" } : Jvm.MethodName) prog_119_method_13_code (3 : Nat) (Option.none : Option Jvm.ClassFile.FieldType)) ∈ lw_all := lw_g (lw_at lw_m19 191 rfl) rfl
theorem q4822 : (Jvm.Cond.stringRef "BoardMachineModel$Tree" (203 : Nat) "model") ∈ lw_tbl := lw_at lw_m19 192 rfl
theorem q4823 : (Jvm.Cond.stringRef "BoardMachineModel$Tree" (205 : Nat) "board") ∈ lw_tbl := lw_at lw_m19 193 rfl
theorem q4824 : (Jvm.Cond.stringRef "BoardMachineModel$Tree" (207 : Nat) "chosen") ∈ lw_tbl := lw_at lw_m19 194 rfl
theorem q4825 : (Jvm.Cond.stringRef "BoardMachineModel$Tree" (209 : Nat) "stdout-path") ∈ lw_tbl := lw_at lw_m19 195 rfl
theorem q4826 : (Jvm.Cond.stringRef "BoardMachineModel$Tree" (211 : Nat) "/soc/serial@10000000") ∈ lw_tbl := lw_at lw_m19 196 rfl
theorem q4827 : (Jvm.Cond.methodLink "BoardMachineModel$Tree" (136 : Nat) ({ cls := "BoardMachineModel$Tree", name := "done", desc := "()V" } : Jvm.MethodName)) ∈ lw_all := lw_g (lw_at lw_m19 197 rfl) rfl
theorem q4828 : (Jvm.Cond.privateMethod ({ cls := "BoardMachineModel$Tree", name := "done", desc := "()V" } : Jvm.MethodName)) ∈ lw_tbl := lw_at lw_m19 198 rfl
theorem q4829 : (Jvm.Cond.instanceMethod ({ cls := "BoardMachineModel$Tree", name := "done", desc := "()V" } : Jvm.MethodName)) ∈ lw_all := lw_g (lw_at lw_m19 199 rfl) rfl
theorem q4830 : (Jvm.Cond.code ({ cls := "BoardMachineModel$Tree", name := "done", desc := "()V" } : Jvm.MethodName) prog_119_method_7_code (1 : Nat) (Option.none : Option Jvm.ClassFile.FieldType)) ∈ lw_all := lw_g (lw_at lw_m19 200 rfl) rfl
theorem q4831 : (Jvm.Cond.constantLong "BoardMachineModel$Tree" (51 : Nat) (2 : Int64)) ∈ lw_all := lw_g (lw_at lw_m19 201 rfl) rfl
theorem q4832 : (Jvm.Cond.stringRef "BoardMachineModel$Tree" (213 : Nat) "cpus") ∈ lw_tbl := lw_at lw_m19 202 rfl
theorem q4833 : (Jvm.Cond.stringRef "BoardMachineModel$Tree" (215 : Nat) "timebase-frequency") ∈ lw_tbl := lw_at lw_m19 203 rfl
theorem q4834 : (Jvm.Cond.constantLong "BoardMachineModel$Tree" (217 : Nat) (10000000 : Int64)) ∈ lw_all := lw_g (lw_at lw_m19 204 rfl) rfl
theorem q4835 : (Jvm.Cond.methodLink "BoardMachineModel$Tree" (219 : Nat) ({ cls := "BoardMachineModel$Tree", name := "processor", desc := "(I)V" } : Jvm.MethodName)) ∈ lw_all := lw_g (lw_at lw_m19 205 rfl) rfl
theorem q4836 : (Jvm.Cond.privateMethod ({ cls := "BoardMachineModel$Tree", name := "processor", desc := "(I)V" } : Jvm.MethodName)) ∈ lw_tbl := lw_at lw_m19 206 rfl
theorem q4837 : (Jvm.Cond.instanceMethod ({ cls := "BoardMachineModel$Tree", name := "processor", desc := "(I)V" } : Jvm.MethodName)) ∈ lw_all := lw_g (lw_at lw_m19 207 rfl) rfl
theorem q4838 : (Jvm.Cond.code ({ cls := "BoardMachineModel$Tree", name := "processor", desc := "(I)V" } : Jvm.MethodName) prog_119_method_18_code (2 : Nat) (Option.none : Option Jvm.ClassFile.FieldType)) ∈ lw_all := lw_g (lw_at lw_m19 208 rfl) rfl
theorem q4839 : (Jvm.Cond.stringRef "BoardMachineModel$Tree" (90 : Nat) "cpu@0") ∈ lw_tbl := lw_at lw_m19 209 rfl
theorem q4840 : (Jvm.Cond.stringRef "BoardMachineModel$Tree" (92 : Nat) "cpu@1") ∈ lw_tbl := lw_at lw_m19 210 rfl
theorem q4841 : (Jvm.Cond.stringRef "BoardMachineModel$Tree" (94 : Nat) "cpu@2") ∈ lw_tbl := lw_at lw_m19 211 rfl
theorem q4842 : (Jvm.Cond.stringRef "BoardMachineModel$Tree" (96 : Nat) "cpu@3") ∈ lw_tbl := lw_at lw_m19 212 rfl
theorem q4843 : (Jvm.Cond.stringRef "BoardMachineModel$Tree" (101 : Nat) "device_type") ∈ lw_tbl := lw_at lw_m19 213 rfl
theorem q4844 : (Jvm.Cond.stringRef "BoardMachineModel$Tree" (103 : Nat) "cpu") ∈ lw_tbl := lw_at lw_m19 214 rfl
theorem q4845 : (Jvm.Cond.stringRef "BoardMachineModel$Tree" (75 : Nat) "reg") ∈ lw_tbl := lw_at lw_m19 215 rfl
theorem q4846 : (Jvm.Cond.stringRef "BoardMachineModel$Tree" (109 : Nat) "status") ∈ lw_tbl := lw_at lw_m19 216 rfl
theorem q4847 : (Jvm.Cond.stringRef "BoardMachineModel$Tree" (111 : Nat) "okay") ∈ lw_tbl := lw_at lw_m19 217 rfl
theorem q4848 : (Jvm.Cond.stringRef "BoardMachineModel$Tree" (115 : Nat) "whole,core") ∈ lw_tbl := lw_at lw_m19 218 rfl
theorem q4849 : (Jvm.Cond.stringRef "BoardMachineModel$Tree" (117 : Nat) "isa") ∈ lw_tbl := lw_at lw_m19 219 rfl
theorem q4850 : (Jvm.Cond.stringRef "BoardMachineModel$Tree" (119 : Nat) "w64") ∈ lw_tbl := lw_at lw_m19 220 rfl
theorem q4851 : (Jvm.Cond.stringRef "BoardMachineModel$Tree" (121 : Nat) "mmu-type") ∈ lw_tbl := lw_at lw_m19 221 rfl
theorem q4852 : (Jvm.Cond.stringRef "BoardMachineModel$Tree" (123 : Nat) "three,four") ∈ lw_tbl := lw_at lw_m19 222 rfl
theorem q4853 : (Jvm.Cond.stringRef "BoardMachineModel$Tree" (125 : Nat) "interrupt-controller") ∈ lw_tbl := lw_at lw_m19 223 rfl
theorem q4854 : (Jvm.Cond.stringRef "BoardMachineModel$Tree" (127 : Nat) "#interrupt-cells") ∈ lw_tbl := lw_at lw_m19 224 rfl
theorem q4855 : (Jvm.Cond.methodLink "BoardMachineModel$Tree" (129 : Nat) ({ cls := "BoardMachineModel$Tree", name := "nothing", desc := "(Ljava/lang/String;)V" } : Jvm.MethodName)) ∈ lw_all := lw_g (lw_at lw_m19 225 rfl) rfl
theorem q4856 : (Jvm.Cond.privateMethod ({ cls := "BoardMachineModel$Tree", name := "nothing", desc := "(Ljava/lang/String;)V" } : Jvm.MethodName)) ∈ lw_tbl := lw_at lw_m19 226 rfl
theorem q4857 : (Jvm.Cond.instanceMethod ({ cls := "BoardMachineModel$Tree", name := "nothing", desc := "(Ljava/lang/String;)V" } : Jvm.MethodName)) ∈ lw_all := lw_g (lw_at lw_m19 227 rfl) rfl
theorem q4858 : (Jvm.Cond.code ({ cls := "BoardMachineModel$Tree", name := "nothing", desc := "(Ljava/lang/String;)V" } : Jvm.MethodName) prog_119_method_14_code (2 : Nat) (Option.none : Option Jvm.ClassFile.FieldType)) ∈ lw_all := lw_g (lw_at lw_m19 228 rfl) rfl
theorem q4859 : (Jvm.Cond.stringRef "BoardMachineModel$Tree" (132 : Nat) "whole,lines") ∈ lw_tbl := lw_at lw_m19 229 rfl
theorem q4860 : (Jvm.Cond.stringRef "BoardMachineModel$Tree" (134 : Nat) "phandle") ∈ lw_tbl := lw_at lw_m19 230 rfl
theorem q4861 : (Jvm.Cond.stringRef "BoardMachineModel$Tree" (222 : Nat) "memory@80000000") ∈ lw_tbl := lw_at lw_m19 231 rfl
theorem q4862 : (Jvm.Cond.stringRef "BoardMachineModel$Tree" (224 : Nat) "memory") ∈ lw_tbl := lw_at lw_m19 232 rfl
theorem q4863 : (Jvm.Cond.constantLong "BoardMachineModel$Tree" (226 : Nat) (2147483648 : Int64)) ∈ lw_all := lw_g (lw_at lw_m19 233 rfl) rfl
theorem q4864 : (Jvm.Cond.constantLong "BoardMachineModel$Tree" (169 : Nat) (4194304 : Int64)) ∈ lw_all := lw_g (lw_at lw_m19 234 rfl) rfl
theorem q4865 : (Jvm.Cond.methodLink "BoardMachineModel$Tree" (147 : Nat) ({ cls := "BoardMachineModel$Tree", name := "region", desc := "(JJ)V" } : Jvm.MethodName)) ∈ lw_all := lw_g (lw_at lw_m19 235 rfl) rfl
theorem q4866 : (Jvm.Cond.privateMethod ({ cls := "BoardMachineModel$Tree", name := "region", desc := "(JJ)V" } : Jvm.MethodName)) ∈ lw_tbl := lw_at lw_m19 236 rfl
theorem q4867 : (Jvm.Cond.instanceMethod ({ cls := "BoardMachineModel$Tree", name := "region", desc := "(JJ)V" } : Jvm.MethodName)) ∈ lw_all := lw_g (lw_at lw_m19 237 rfl) rfl
theorem q4868 : (Jvm.Cond.code ({ cls := "BoardMachineModel$Tree", name := "region", desc := "(JJ)V" } : Jvm.MethodName) prog_119_method_15_code (5 : Nat) (Option.none : Option Jvm.ClassFile.FieldType)) ∈ lw_all := lw_g (lw_at lw_m19 238 rfl) rfl
theorem q4869 : (Jvm.Cond.methodLink "BoardMachineModel$Tree" (77 : Nat) ({ cls := "BoardMachineModel$Tree", name := "eight", desc := "(J)V" } : Jvm.MethodName)) ∈ lw_all := lw_g (lw_at lw_m19 239 rfl) rfl
theorem q4870 : (Jvm.Cond.privateMethod ({ cls := "BoardMachineModel$Tree", name := "eight", desc := "(J)V" } : Jvm.MethodName)) ∈ lw_tbl := lw_at lw_m20 0 rfl
theorem q4871 : (Jvm.Cond.instanceMethod ({ cls := "BoardMachineModel$Tree", name := "eight", desc := "(J)V" } : Jvm.MethodName)) ∈ lw_all := lw_g (lw_at lw_m20 1 rfl) rfl
theorem q4872 : (Jvm.Cond.code ({ cls := "BoardMachineModel$Tree", name := "eight", desc := "(J)V" } : Jvm.MethodName) prog_119_method_3_code (3 : Nat) (Option.none : Option Jvm.ClassFile.FieldType)) ∈ lw_all := lw_g (lw_at lw_m20 2 rfl) rfl
theorem q4873 : (Jvm.Cond.stringRef "BoardMachineModel$Tree" (228 : Nat) "soc") ∈ lw_tbl := lw_at lw_m20 3 rfl
theorem q4874 : (Jvm.Cond.stringRef "BoardMachineModel$Tree" (230 : Nat) "simple-bus") ∈ lw_tbl := lw_at lw_m20 4 rfl
theorem q4875 : (Jvm.Cond.stringRef "BoardMachineModel$Tree" (232 : Nat) "ranges") ∈ lw_tbl := lw_at lw_m20 5 rfl
theorem q4876 : (Jvm.Cond.methodLink "BoardMachineModel$Tree" (234 : Nat) ({ cls := "BoardMachineModel$Tree", name := "devices", desc := "(I)V" } : Jvm.MethodName)) ∈ lw_all := lw_g (lw_at lw_m20 6 rfl) rfl
theorem q4877 : (Jvm.Cond.privateMethod ({ cls := "BoardMachineModel$Tree", name := "devices", desc := "(I)V" } : Jvm.MethodName)) ∈ lw_tbl := lw_at lw_m20 7 rfl
theorem q4878 : (Jvm.Cond.instanceMethod ({ cls := "BoardMachineModel$Tree", name := "devices", desc := "(I)V" } : Jvm.MethodName)) ∈ lw_all := lw_g (lw_at lw_m20 8 rfl) rfl
theorem q4879 : (Jvm.Cond.code ({ cls := "BoardMachineModel$Tree", name := "devices", desc := "(I)V" } : Jvm.MethodName) prog_119_method_19_code (3 : Nat) (Option.none : Option Jvm.ClassFile.FieldType)) ∈ lw_all := lw_g (lw_at lw_m20 9 rfl) rfl
theorem q4880 : (Jvm.Cond.stringRef "BoardMachineModel$Tree" (139 : Nat) "end@100000") ∈ lw_tbl := lw_at lw_m20 10 rfl
theorem q4881 : (Jvm.Cond.stringRef "BoardMachineModel$Tree" (141 : Nat) "whole,end") ∈ lw_tbl := lw_at lw_m20 11 rfl
theorem q4882 : (Jvm.Cond.constantLong "BoardMachineModel$Tree" (143 : Nat) (1048576 : Int64)) ∈ lw_all := lw_g (lw_at lw_m20 12 rfl) rfl
theorem q4883 : (Jvm.Cond.constantLong "BoardMachineModel$Tree" (145 : Nat) (4096 : Int64)) ∈ lw_all := lw_g (lw_at lw_m20 13 rfl) rfl
theorem q4884 : (Jvm.Cond.stringRef "BoardMachineModel$Tree" (151 : Nat) "timer@2000000") ∈ lw_tbl := lw_at lw_m20 14 rfl
theorem q4885 : (Jvm.Cond.stringRef "BoardMachineModel$Tree" (153 : Nat) "whole,timer") ∈ lw_tbl := lw_at lw_m20 15 rfl
theorem q4886 : (Jvm.Cond.methodLink "BoardMachineModel$Tree" (155 : Nat) ({ cls := "BoardMachineModel$Tree", name := "lines", desc := "(III)V" } : Jvm.MethodName)) ∈ lw_all := lw_g (lw_at lw_m20 16 rfl) rfl
theorem q4887 : (Jvm.Cond.privateMethod ({ cls := "BoardMachineModel$Tree", name := "lines", desc := "(III)V" } : Jvm.MethodName)) ∈ lw_tbl := lw_at lw_m20 17 rfl
theorem q4888 : (Jvm.Cond.instanceMethod ({ cls := "BoardMachineModel$Tree", name := "lines", desc := "(III)V" } : Jvm.MethodName)) ∈ lw_all := lw_g (lw_at lw_m20 18 rfl) rfl
theorem q4889 : (Jvm.Cond.code ({ cls := "BoardMachineModel$Tree", name := "lines", desc := "(III)V" } : Jvm.MethodName) prog_119_method_16_code (5 : Nat) (Option.none : Option Jvm.ClassFile.FieldType)) ∈ lw_all := lw_g (lw_at lw_m20 19 rfl) rfl
theorem q4890 : (Jvm.Cond.stringRef "BoardMachineModel$Tree" (80 : Nat) "interrupts-extended") ∈ lw_tbl := lw_at lw_m20 20 rfl
theorem q4891 : (Jvm.Cond.constantLong "BoardMachineModel$Tree" (159 : Nat) (33554432 : Int64)) ∈ lw_all := lw_g (lw_at lw_m20 21 rfl) rfl
theorem q4892 : (Jvm.Cond.constantLong "BoardMachineModel$Tree" (161 : Nat) (65536 : Int64)) ∈ lw_all := lw_g (lw_at lw_m20 22 rfl) rfl
theorem q4893 : (Jvm.Cond.stringRef "BoardMachineModel$Tree" (163 : Nat) "interrupt-controller@c000000") ∈ lw_tbl := lw_at lw_m20 23 rfl
theorem q4894 : (Jvm.Cond.stringRef "BoardMachineModel$Tree" (165 : Nat) "whole,controller") ∈ lw_tbl := lw_at lw_m20 24 rfl
theorem q4895 : (Jvm.Cond.constantLong "BoardMachineModel$Tree" (167 : Nat) (201326592 : Int64)) ∈ lw_all := lw_g (lw_at lw_m20 25 rfl) rfl
theorem q4896 : (Jvm.Cond.stringRef "BoardMachineModel$Tree" (171 : Nat) "sources") ∈ lw_tbl := lw_at lw_m20 26 rfl
theorem q4897 : (Jvm.Cond.constantLong "BoardMachineModel$Tree" (173 : Nat) (31 : Int64)) ∈ lw_all := lw_g (lw_at lw_m20 27 rfl) rfl
theorem q4898 : (Jvm.Cond.stringRef "BoardMachineModel$Tree" (175 : Nat) "serial@10000000") ∈ lw_tbl := lw_at lw_m20 28 rfl
theorem q4899 : (Jvm.Cond.stringRef "BoardMachineModel$Tree" (177 : Nat) "whole,serial") ∈ lw_tbl := lw_at lw_m20 29 rfl
theorem q4900 : (Jvm.Cond.constantLong "BoardMachineModel$Tree" (179 : Nat) (268435456 : Int64)) ∈ lw_all := lw_g (lw_at lw_m20 30 rfl) rfl
theorem q4901 : (Jvm.Cond.constantLong "BoardMachineModel$Tree" (181 : Nat) (256 : Int64)) ∈ lw_all := lw_g (lw_at lw_m20 31 rfl) rfl
theorem q4902 : (Jvm.Cond.stringRef "BoardMachineModel$Tree" (183 : Nat) "interrupts") ∈ lw_tbl := lw_at lw_m20 32 rfl
theorem q4903 : (Jvm.Cond.constantLong "BoardMachineModel$Tree" (185 : Nat) (10 : Int64)) ∈ lw_all := lw_g (lw_at lw_m20 33 rfl) rfl
theorem q4904 : (Jvm.Cond.stringRef "BoardMachineModel$Tree" (187 : Nat) "interrupt-parent") ∈ lw_tbl := lw_at lw_m20 34 rfl
theorem q4905 : (Jvm.Cond.stringRef "BoardMachineModel$Tree" (189 : Nat) "block@10001000") ∈ lw_tbl := lw_at lw_m20 35 rfl
theorem q4906 : (Jvm.Cond.stringRef "BoardMachineModel$Tree" (191 : Nat) "whole,block") ∈ lw_tbl := lw_at lw_m20 36 rfl
theorem q4907 : (Jvm.Cond.constantLong "BoardMachineModel$Tree" (193 : Nat) (268439552 : Int64)) ∈ lw_all := lw_g (lw_at lw_m20 37 rfl) rfl
theorem q4908 : (Jvm.Cond.constantLong "BoardMachineModel$Tree" (237 : Nat) (9 : Int64)) ∈ lw_all := lw_g (lw_at lw_m20 38 rfl) rfl
theorem q4909 : (Jvm.Cond.methodLink "BoardMachineModel$Tree" (23 : Nat) ({ cls := "BoardMachineModel$Tree", name := "join", desc := "()V" } : Jvm.MethodName)) ∈ lw_all := lw_g (lw_at lw_m20 39 rfl) rfl
theorem q4910 : (Jvm.Cond.privateMethod ({ cls := "BoardMachineModel$Tree", name := "join", desc := "()V" } : Jvm.MethodName)) ∈ lw_tbl := lw_at lw_m20 40 rfl
theorem q4911 : (Jvm.Cond.instanceMethod ({ cls := "BoardMachineModel$Tree", name := "join", desc := "()V" } : Jvm.MethodName)) ∈ lw_all := lw_g (lw_at lw_m20 41 rfl) rfl
theorem q4912 : (Jvm.Cond.code ({ cls := "BoardMachineModel$Tree", name := "join", desc := "()V" } : Jvm.MethodName) prog_119_method_22_code (2 : Nat) (Option.none : Option Jvm.ClassFile.FieldType)) ∈ lw_all := lw_g (lw_at lw_m20 42 rfl) rfl
theorem q4913 : (Jvm.Cond.constantLong "BoardMachineModel$Tree" (242 : Nat) (3490578157 : Int64)) ∈ lw_all := lw_g (lw_at lw_m20 43 rfl) rfl
theorem q4914 : (Jvm.Cond.methodLink "BoardMachineModel$Tree" (244 : Nat) ({ cls := "BoardMachineModel$Tree", name := "head", desc := "(J)V" } : Jvm.MethodName)) ∈ lw_all := lw_g (lw_at lw_m20 44 rfl) rfl
theorem q4915 : (Jvm.Cond.privateMethod ({ cls := "BoardMachineModel$Tree", name := "head", desc := "(J)V" } : Jvm.MethodName)) ∈ lw_tbl := lw_at lw_m20 45 rfl
theorem q4916 : (Jvm.Cond.instanceMethod ({ cls := "BoardMachineModel$Tree", name := "head", desc := "(J)V" } : Jvm.MethodName)) ∈ lw_all := lw_g (lw_at lw_m20 46 rfl) rfl
theorem q4917 : (Jvm.Cond.code ({ cls := "BoardMachineModel$Tree", name := "head", desc := "(J)V" } : Jvm.MethodName) prog_119_method_21_code (4 : Nat) (Option.none : Option Jvm.ClassFile.FieldType)) ∈ lw_all := lw_g (lw_at lw_m20 47 rfl) rfl
theorem q4918 : (Jvm.Cond.constantLong "BoardMachineModel$Tree" (247 : Nat) (56 : Int64)) ∈ lw_all := lw_g (lw_at lw_m20 48 rfl) rfl
theorem q4919 : (Jvm.Cond.constantLong "BoardMachineModel$Tree" (249 : Nat) (40 : Int64)) ∈ lw_all := lw_g (lw_at lw_m20 49 rfl) rfl
theorem q4920 : (Jvm.Cond.constantLong "BoardMachineModel$Tree" (251 : Nat) (17 : Int64)) ∈ lw_all := lw_g (lw_at lw_m20 50 rfl) rfl
theorem q4921 : (Jvm.Cond.constantLong "BoardMachineModel$Tree" (253 : Nat) (16 : Int64)) ∈ lw_all := lw_g (lw_at lw_m20 51 rfl) rfl
theorem q4922 : (Jvm.Cond.fieldLink "BoardMachineModel$Tree" (7 : Nat) "BoardMachineModel$Tree" "all" "[I") ∈ lw_all := lw_g (lw_at lw_m20 52 rfl) rfl
theorem q4923 : (Jvm.Cond.fieldLinkNest "BoardMachineModel" (196 : Nat) "BoardMachineModel$Tree" "all" "[I" "BoardMachineModel") ∈ lw_tbl := lw_at lw_m20 53 rfl
theorem q4924 : (Jvm.Cond.fieldLinkNest "BoardMachineModel" (191 : Nat) "BoardMachineModel$Tree" "total" "I" "BoardMachineModel") ∈ lw_tbl := lw_at lw_m20 54 rfl
theorem q4925 : (Jvm.Cond.fieldLink "BoardMachineModel$Tree" (239 : Nat) "BoardMachineModel$Tree" "total" "I") ∈ lw_all := lw_g (lw_at lw_m20 55 rfl) rfl
theorem q4926 : (Jvm.Cond.fieldLink "BoardMachineModel$Tree" (13 : Nat) "BoardMachineModel$Tree" "structure" "[I") ∈ lw_all := lw_g (lw_at lw_m20 56 rfl) rfl
theorem q4927 : (Jvm.Cond.fieldLink "BoardMachineModel$Tree" (26 : Nat) "BoardMachineModel$Tree" "size" "I") ∈ lw_all := lw_g (lw_at lw_m20 57 rfl) rfl
theorem q4928 : (Jvm.Cond.fieldLink "BoardMachineModel$Tree" (16 : Nat) "BoardMachineModel$Tree" "names" "[I") ∈ lw_all := lw_g (lw_at lw_m20 58 rfl) rfl
theorem q4929 : (Jvm.Cond.fieldLink "BoardMachineModel$Tree" (53 : Nat) "BoardMachineModel$Tree" "nameSize" "I") ∈ lw_all := lw_g (lw_at lw_m20 59 rfl) rfl
theorem q4930 : (Jvm.Cond.fieldLink "BoardMachineModel$Tree" (62 : Nat) "BoardMachineModel$Tree" "lengthAt" "I") ∈ lw_all := lw_g (lw_at lw_m20 60 rfl) rfl
theorem q4931 : (Jvm.Cond.laysFinal "BoardMachineModel$Tree" "BoardMachineModel$Tree" "all" "[I") ∈ lw_all := lw_g (lw_at lw_m20 61 rfl) rfl
theorem q4932 : (Jvm.Cond.soleField "BoardMachineModel$Tree" "all") ∈ lw_all := lw_g (lw_at lw_m20 62 rfl) rfl
theorem q4933 : (Jvm.Cond.lays "BoardMachineModel$Tree" "BoardMachineModel$Tree" "total" "I") ∈ lw_all := lw_g (lw_at lw_m20 63 rfl) rfl
theorem q4934 : (Jvm.Cond.soleField "BoardMachineModel$Tree" "total") ∈ lw_all := lw_g (lw_at lw_m20 64 rfl) rfl
theorem q4935 : (Jvm.Cond.laysFinal "BoardMachineModel$Tree" "BoardMachineModel$Tree" "structure" "[I") ∈ lw_all := lw_g (lw_at lw_m20 65 rfl) rfl
theorem q4936 : (Jvm.Cond.soleField "BoardMachineModel$Tree" "structure") ∈ lw_all := lw_g (lw_at lw_m20 66 rfl) rfl
theorem q4937 : (Jvm.Cond.lays "BoardMachineModel$Tree" "BoardMachineModel$Tree" "size" "I") ∈ lw_all := lw_g (lw_at lw_m20 67 rfl) rfl
theorem q4938 : (Jvm.Cond.soleField "BoardMachineModel$Tree" "size") ∈ lw_all := lw_g (lw_at lw_m20 68 rfl) rfl
theorem q4939 : (Jvm.Cond.laysFinal "BoardMachineModel$Tree" "BoardMachineModel$Tree" "names" "[I") ∈ lw_all := lw_g (lw_at lw_m20 69 rfl) rfl
theorem q4940 : (Jvm.Cond.soleField "BoardMachineModel$Tree" "names") ∈ lw_all := lw_g (lw_at lw_m20 70 rfl) rfl
theorem q4941 : (Jvm.Cond.lays "BoardMachineModel$Tree" "BoardMachineModel$Tree" "nameSize" "I") ∈ lw_all := lw_g (lw_at lw_m20 71 rfl) rfl
theorem q4942 : (Jvm.Cond.soleField "BoardMachineModel$Tree" "nameSize") ∈ lw_all := lw_g (lw_at lw_m20 72 rfl) rfl
theorem q4943 : (Jvm.Cond.lays "BoardMachineModel$Tree" "BoardMachineModel$Tree" "lengthAt" "I") ∈ lw_all := lw_g (lw_at lw_m20 73 rfl) rfl
theorem q4944 : (Jvm.Cond.soleField "BoardMachineModel$Tree" "lengthAt") ∈ lw_all := lw_g (lw_at lw_m20 74 rfl) rfl
theorem q4945 : (Jvm.Cond.superclass "BoardMachineModel$Tree" "java/lang/Object") ∈ lw_all := lw_g (lw_at lw_m20 75 rfl) rfl
theorem q4946 : (Jvm.Cond.instantiable "BoardMachineModel$Core" (13 : Nat)) ∈ lw_all := lw_g (lw_at lw_m20 76 rfl) rfl
theorem q4947 : (Jvm.Cond.methodLink "BoardMachineModel" (101 : Nat) ({ cls := "BoardMachineModel$Core", name := "<init>", desc := "()V" } : Jvm.MethodName)) ∈ lw_all := lw_g (lw_at lw_m20 77 rfl) rfl
theorem q4948 : (Jvm.Cond.instanceMethod ({ cls := "BoardMachineModel$Core", name := "<init>", desc := "()V" } : Jvm.MethodName)) ∈ lw_all := lw_g (lw_at lw_m20 78 rfl) rfl
theorem q4949 : (Jvm.Cond.code ({ cls := "BoardMachineModel$Core", name := "<init>", desc := "()V" } : Jvm.MethodName) prog_113_method_1_code (1 : Nat) (Option.none : Option Jvm.ClassFile.FieldType)) ∈ lw_all := lw_g (lw_at lw_m20 79 rfl) rfl
theorem q4950 : (Jvm.Cond.methodLink "BoardMachineModel$Core" (1 : Nat) ({ cls := "java/lang/Object", name := "<init>", desc := "()V" } : Jvm.MethodName)) ∈ lw_all := lw_g (lw_at lw_m20 80 rfl) rfl
theorem q4951 : (Jvm.Cond.fieldLink "BoardMachineModel$Core" (24 : Nat) "BoardMachineModel$Core" "thrown" "I") ∈ lw_all := lw_g (lw_at lw_m20 81 rfl) rfl
theorem q4952 : (Jvm.Cond.fieldLink "BoardMachineModel$Core" (7 : Nat) "BoardMachineModel$Core" "registers" "[J") ∈ lw_all := lw_g (lw_at lw_m20 82 rfl) rfl
theorem q4953 : (Jvm.Cond.fieldLink "BoardMachineModel$Core" (20 : Nat) "BoardMachineModel$Core" "counter" "J") ∈ lw_all := lw_g (lw_at lw_m20 83 rfl) rfl
theorem q4954 : (Jvm.Cond.fieldLink "BoardMachineModel$Core" (35 : Nat) "BoardMachineModel$Core" "finished" "J") ∈ lw_all := lw_g (lw_at lw_m20 84 rfl) rfl
theorem q4955 : (Jvm.Cond.fieldLink "BoardMachineModel$Core" (38 : Nat) "BoardMachineModel$Core" "word" "I") ∈ lw_all := lw_g (lw_at lw_m20 85 rfl) rfl
theorem q4956 : (Jvm.Cond.fieldLink "BoardMachineModel$Core" (75 : Nat) "BoardMachineModel$Core" "length" "I") ∈ lw_all := lw_g (lw_at lw_m20 86 rfl) rfl
theorem q4957 : (Jvm.Cond.fieldLink "BoardMachineModel$Core" (81 : Nat) "BoardMachineModel$Core" "x" "J") ∈ lw_all := lw_g (lw_at lw_m20 87 rfl) rfl
theorem q4958 : (Jvm.Cond.fieldLink "BoardMachineModel$Core" (84 : Nat) "BoardMachineModel$Core" "y" "J") ∈ lw_all := lw_g (lw_at lw_m20 88 rfl) rfl
theorem q4959 : (Jvm.Cond.fieldLink "BoardMachineModel$Core" (13 : Nat) "BoardMachineModel$Core" "waits" "I") ∈ lw_all := lw_g (lw_at lw_m20 89 rfl) rfl
theorem q4960 : (Jvm.Cond.fieldLink "BoardMachineModel$Core" (78 : Nat) "BoardMachineModel$Core" "waitLength" "I") ∈ lw_all := lw_g (lw_at lw_m20 90 rfl) rfl
theorem q4961 : (Jvm.Cond.fieldLink "BoardMachineModel$Core" (17 : Nat) "BoardMachineModel$Core" "numbers" "[J") ∈ lw_all := lw_g (lw_at lw_m20 91 rfl) rfl
theorem q4962 : (Jvm.Cond.fieldLink "BoardMachineModel$Core" (63 : Nat) "BoardMachineModel$Core" "quotient" "J") ∈ lw_all := lw_g (lw_at lw_m20 92 rfl) rfl
theorem q4963 : (Jvm.Cond.fieldLink "BoardMachineModel$Core" (66 : Nat) "BoardMachineModel$Core" "rest" "J") ∈ lw_all := lw_g (lw_at lw_m20 93 rfl) rfl
theorem q4964 : (Jvm.Cond.lays "BoardMachineModel$Core" "BoardMachineModel$Core" "thrown" "I") ∈ lw_all := lw_g (lw_at lw_m20 94 rfl) rfl
theorem q4965 : (Jvm.Cond.soleField "BoardMachineModel$Core" "thrown") ∈ lw_all := lw_g (lw_at lw_m20 95 rfl) rfl
theorem q4966 : (Jvm.Cond.laysFinal "BoardMachineModel$Core" "BoardMachineModel$Core" "registers" "[J") ∈ lw_all := lw_g (lw_at lw_m20 96 rfl) rfl
theorem q4967 : (Jvm.Cond.soleField "BoardMachineModel$Core" "registers") ∈ lw_all := lw_g (lw_at lw_m20 97 rfl) rfl
theorem q4968 : (Jvm.Cond.lays "BoardMachineModel$Core" "BoardMachineModel$Core" "counter" "J") ∈ lw_all := lw_g (lw_at lw_m20 98 rfl) rfl
theorem q4969 : (Jvm.Cond.soleField "BoardMachineModel$Core" "counter") ∈ lw_all := lw_g (lw_at lw_m20 99 rfl) rfl
theorem q4970 : (Jvm.Cond.lays "BoardMachineModel$Core" "BoardMachineModel$Core" "finished" "J") ∈ lw_all := lw_g (lw_at lw_m20 100 rfl) rfl
theorem q4971 : (Jvm.Cond.soleField "BoardMachineModel$Core" "finished") ∈ lw_all := lw_g (lw_at lw_m20 101 rfl) rfl
theorem q4972 : (Jvm.Cond.lays "BoardMachineModel$Core" "BoardMachineModel$Core" "word" "I") ∈ lw_all := lw_g (lw_at lw_m20 102 rfl) rfl
theorem q4973 : (Jvm.Cond.soleField "BoardMachineModel$Core" "word") ∈ lw_all := lw_g (lw_at lw_m20 103 rfl) rfl
theorem q4974 : (Jvm.Cond.lays "BoardMachineModel$Core" "BoardMachineModel$Core" "length" "I") ∈ lw_all := lw_g (lw_at lw_m20 104 rfl) rfl
theorem q4975 : (Jvm.Cond.soleField "BoardMachineModel$Core" "length") ∈ lw_all := lw_g (lw_at lw_m20 105 rfl) rfl
theorem q4976 : (Jvm.Cond.lays "BoardMachineModel$Core" "BoardMachineModel$Core" "x" "J") ∈ lw_all := lw_g (lw_at lw_m20 106 rfl) rfl
theorem q4977 : (Jvm.Cond.soleField "BoardMachineModel$Core" "x") ∈ lw_all := lw_g (lw_at lw_m20 107 rfl) rfl
theorem q4978 : (Jvm.Cond.lays "BoardMachineModel$Core" "BoardMachineModel$Core" "y" "J") ∈ lw_all := lw_g (lw_at lw_m20 108 rfl) rfl
theorem q4979 : (Jvm.Cond.soleField "BoardMachineModel$Core" "y") ∈ lw_all := lw_g (lw_at lw_m20 109 rfl) rfl
theorem q4980 : (Jvm.Cond.lays "BoardMachineModel$Core" "BoardMachineModel$Core" "waits" "I") ∈ lw_all := lw_g (lw_at lw_m20 110 rfl) rfl
theorem q4981 : (Jvm.Cond.soleField "BoardMachineModel$Core" "waits") ∈ lw_all := lw_g (lw_at lw_m20 111 rfl) rfl
theorem q4982 : (Jvm.Cond.lays "BoardMachineModel$Core" "BoardMachineModel$Core" "waitLength" "I") ∈ lw_all := lw_g (lw_at lw_m20 112 rfl) rfl
theorem q4983 : (Jvm.Cond.soleField "BoardMachineModel$Core" "waitLength") ∈ lw_all := lw_g (lw_at lw_m20 113 rfl) rfl
theorem q4984 : (Jvm.Cond.laysFinal "BoardMachineModel$Core" "BoardMachineModel$Core" "numbers" "[J") ∈ lw_all := lw_g (lw_at lw_m20 114 rfl) rfl
theorem q4985 : (Jvm.Cond.soleField "BoardMachineModel$Core" "numbers") ∈ lw_all := lw_g (lw_at lw_m20 115 rfl) rfl
theorem q4986 : (Jvm.Cond.lays "BoardMachineModel$Core" "BoardMachineModel$Core" "quotient" "J") ∈ lw_all := lw_g (lw_at lw_m20 116 rfl) rfl
theorem q4987 : (Jvm.Cond.soleField "BoardMachineModel$Core" "quotient") ∈ lw_all := lw_g (lw_at lw_m20 117 rfl) rfl
theorem q4988 : (Jvm.Cond.lays "BoardMachineModel$Core" "BoardMachineModel$Core" "rest" "J") ∈ lw_all := lw_g (lw_at lw_m20 118 rfl) rfl
theorem q4989 : (Jvm.Cond.soleField "BoardMachineModel$Core" "rest") ∈ lw_all := lw_g (lw_at lw_m20 119 rfl) rfl
theorem q4990 : (Jvm.Cond.superclass "BoardMachineModel$Core" "java/lang/Object") ∈ lw_all := lw_g (lw_at lw_m20 120 rfl) rfl
theorem q4991 : (Jvm.Cond.instantiable "BoardMachineModel$Floats" (20 : Nat)) ∈ lw_all := lw_g (lw_at lw_m20 121 rfl) rfl
theorem q4992 : (Jvm.Cond.methodLink "BoardMachineModel" (102 : Nat) ({ cls := "BoardMachineModel$Floats", name := "<init>", desc := "()V" } : Jvm.MethodName)) ∈ lw_all := lw_g (lw_at lw_m20 122 rfl) rfl
theorem q4993 : (Jvm.Cond.instanceMethod ({ cls := "BoardMachineModel$Floats", name := "<init>", desc := "()V" } : Jvm.MethodName)) ∈ lw_all := lw_g (lw_at lw_m20 123 rfl) rfl
theorem q4994 : (Jvm.Cond.code ({ cls := "BoardMachineModel$Floats", name := "<init>", desc := "()V" } : Jvm.MethodName) prog_115_method_1_code (1 : Nat) (Option.none : Option Jvm.ClassFile.FieldType)) ∈ lw_all := lw_g (lw_at lw_m20 124 rfl) rfl
theorem q4995 : (Jvm.Cond.methodLink "BoardMachineModel$Floats" (1 : Nat) ({ cls := "java/lang/Object", name := "<init>", desc := "()V" } : Jvm.MethodName)) ∈ lw_all := lw_g (lw_at lw_m20 125 rfl) rfl
theorem q4996 : (Jvm.Cond.fieldLink "BoardMachineModel$Floats" (56 : Nat) "BoardMachineModel$Floats" "code" "I") ∈ lw_all := lw_g (lw_at lw_m20 126 rfl) rfl
theorem q4997 : (Jvm.Cond.fieldLink "BoardMachineModel$Floats" (7 : Nat) "BoardMachineModel$Floats" "held" "[J") ∈ lw_all := lw_g (lw_at lw_m20 127 rfl) rfl
theorem q4998 : (Jvm.Cond.fieldLink "BoardMachineModel$Floats" (41 : Nat) "BoardMachineModel$Floats" "flags" "I") ∈ lw_all := lw_g (lw_at lw_m20 128 rfl) rfl
theorem q4999 : (Jvm.Cond.fieldLink "BoardMachineModel$Floats" (45 : Nat) "BoardMachineModel$Floats" "mode" "I") ∈ lw_all := lw_g (lw_at lw_m20 129 rfl) rfl
theorem q5000 : (Jvm.Cond.fieldLink "BoardMachineModel$Floats" (48 : Nat) "BoardMachineModel$Floats" "value" "J") ∈ lw_all := lw_g (lw_at lw_m20 130 rfl) rfl
theorem q5001 : (Jvm.Cond.fieldLink "BoardMachineModel$Floats" (52 : Nat) "BoardMachineModel$Floats" "written" "Z") ∈ lw_all := lw_g (lw_at lw_m20 131 rfl) rfl
theorem q5002 : (Jvm.Cond.fieldLink "BoardMachineModel$Floats" (13 : Nat) "BoardMachineModel$Floats" "fractions" "[I") ∈ lw_all := lw_g (lw_at lw_m20 132 rfl) rfl
theorem q5003 : (Jvm.Cond.fieldLink "BoardMachineModel$Floats" (17 : Nat) "BoardMachineModel$Floats" "shifts" "[I") ∈ lw_all := lw_g (lw_at lw_m20 133 rfl) rfl
theorem q5004 : (Jvm.Cond.fieldLink "BoardMachineModel$Floats" (20 : Nat) "BoardMachineModel$Floats" "greatest" "[I") ∈ lw_all := lw_g (lw_at lw_m20 134 rfl) rfl
theorem q5005 : (Jvm.Cond.fieldLink "BoardMachineModel$Floats" (23 : Nat) "BoardMachineModel$Floats" "kind" "[I") ∈ lw_all := lw_g (lw_at lw_m20 135 rfl) rfl
theorem q5006 : (Jvm.Cond.fieldLink "BoardMachineModel$Floats" (26 : Nat) "BoardMachineModel$Floats" "sign" "[I") ∈ lw_all := lw_g (lw_at lw_m20 136 rfl) rfl
theorem q5007 : (Jvm.Cond.fieldLink "BoardMachineModel$Floats" (29 : Nat) "BoardMachineModel$Floats" "size" "[J") ∈ lw_all := lw_g (lw_at lw_m20 137 rfl) rfl
theorem q5008 : (Jvm.Cond.fieldLink "BoardMachineModel$Floats" (32 : Nat) "BoardMachineModel$Floats" "power" "[I") ∈ lw_all := lw_g (lw_at lw_m20 138 rfl) rfl
theorem q5009 : (Jvm.Cond.fieldLink "BoardMachineModel$Floats" (35 : Nat) "BoardMachineModel$Floats" "one" "[I") ∈ lw_all := lw_g (lw_at lw_m20 139 rfl) rfl
theorem q5010 : (Jvm.Cond.fieldLink "BoardMachineModel$Floats" (38 : Nat) "BoardMachineModel$Floats" "two" "[I") ∈ lw_all := lw_g (lw_at lw_m20 140 rfl) rfl
theorem q5011 : (Jvm.Cond.fieldLink "BoardMachineModel$Floats" (80 : Nat) "BoardMachineModel$Floats" "more" "Z") ∈ lw_all := lw_g (lw_at lw_m20 141 rfl) rfl
theorem q5012 : (Jvm.Cond.fieldLink "BoardMachineModel$Floats" (86 : Nat) "BoardMachineModel$Floats" "minus" "I") ∈ lw_all := lw_g (lw_at lw_m20 142 rfl) rfl
theorem q5013 : (Jvm.Cond.fieldLink "BoardMachineModel$Floats" (72 : Nat) "BoardMachineModel$Floats" "scale" "I") ∈ lw_all := lw_g (lw_at lw_m20 143 rfl) rfl
theorem q5014 : (Jvm.Cond.fieldLink "BoardMachineModel$Floats" (75 : Nat) "BoardMachineModel$Floats" "units" "J") ∈ lw_all := lw_g (lw_at lw_m20 144 rfl) rfl
theorem q5015 : (Jvm.Cond.fieldLink "BoardMachineModel$Floats" (83 : Nat) "BoardMachineModel$Floats" "lost" "Z") ∈ lw_all := lw_g (lw_at lw_m20 145 rfl) rfl
theorem q5016 : (Jvm.Cond.lays "BoardMachineModel$Floats" "BoardMachineModel$Floats" "code" "I") ∈ lw_all := lw_g (lw_at lw_m20 146 rfl) rfl
theorem q5017 : (Jvm.Cond.soleField "BoardMachineModel$Floats" "code") ∈ lw_all := lw_g (lw_at lw_m20 147 rfl) rfl
theorem q5018 : (Jvm.Cond.laysFinal "BoardMachineModel$Floats" "BoardMachineModel$Floats" "held" "[J") ∈ lw_all := lw_g (lw_at lw_m20 148 rfl) rfl
theorem q5019 : (Jvm.Cond.soleField "BoardMachineModel$Floats" "held") ∈ lw_all := lw_g (lw_at lw_m20 149 rfl) rfl
theorem q5020 : (Jvm.Cond.lays "BoardMachineModel$Floats" "BoardMachineModel$Floats" "flags" "I") ∈ lw_all := lw_g (lw_at lw_m20 150 rfl) rfl
theorem q5021 : (Jvm.Cond.soleField "BoardMachineModel$Floats" "flags") ∈ lw_all := lw_g (lw_at lw_m20 151 rfl) rfl
theorem q5022 : (Jvm.Cond.lays "BoardMachineModel$Floats" "BoardMachineModel$Floats" "mode" "I") ∈ lw_all := lw_g (lw_at lw_m20 152 rfl) rfl
theorem q5023 : (Jvm.Cond.soleField "BoardMachineModel$Floats" "mode") ∈ lw_all := lw_g (lw_at lw_m20 153 rfl) rfl
theorem q5024 : (Jvm.Cond.lays "BoardMachineModel$Floats" "BoardMachineModel$Floats" "value" "J") ∈ lw_all := lw_g (lw_at lw_m20 154 rfl) rfl
theorem q5025 : (Jvm.Cond.soleField "BoardMachineModel$Floats" "value") ∈ lw_all := lw_g (lw_at lw_m20 155 rfl) rfl
theorem q5026 : (Jvm.Cond.lays "BoardMachineModel$Floats" "BoardMachineModel$Floats" "written" "Z") ∈ lw_all := lw_g (lw_at lw_m20 156 rfl) rfl
theorem q5027 : (Jvm.Cond.soleField "BoardMachineModel$Floats" "written") ∈ lw_all := lw_g (lw_at lw_m20 157 rfl) rfl
theorem q5028 : (Jvm.Cond.laysFinal "BoardMachineModel$Floats" "BoardMachineModel$Floats" "fractions" "[I") ∈ lw_all := lw_g (lw_at lw_m20 158 rfl) rfl
theorem q5029 : (Jvm.Cond.soleField "BoardMachineModel$Floats" "fractions") ∈ lw_all := lw_g (lw_at lw_m20 159 rfl) rfl
theorem q5030 : (Jvm.Cond.laysFinal "BoardMachineModel$Floats" "BoardMachineModel$Floats" "shifts" "[I") ∈ lw_all := lw_g (lw_at lw_m20 160 rfl) rfl
theorem q5031 : (Jvm.Cond.soleField "BoardMachineModel$Floats" "shifts") ∈ lw_all := lw_g (lw_at lw_m20 161 rfl) rfl
theorem q5032 : (Jvm.Cond.laysFinal "BoardMachineModel$Floats" "BoardMachineModel$Floats" "greatest" "[I") ∈ lw_all := lw_g (lw_at lw_m20 162 rfl) rfl
theorem q5033 : (Jvm.Cond.soleField "BoardMachineModel$Floats" "greatest") ∈ lw_all := lw_g (lw_at lw_m20 163 rfl) rfl
theorem q5034 : (Jvm.Cond.laysFinal "BoardMachineModel$Floats" "BoardMachineModel$Floats" "kind" "[I") ∈ lw_all := lw_g (lw_at lw_m20 164 rfl) rfl
theorem q5035 : (Jvm.Cond.soleField "BoardMachineModel$Floats" "kind") ∈ lw_all := lw_g (lw_at lw_m20 165 rfl) rfl
theorem q5036 : (Jvm.Cond.laysFinal "BoardMachineModel$Floats" "BoardMachineModel$Floats" "sign" "[I") ∈ lw_all := lw_g (lw_at lw_m20 166 rfl) rfl
theorem q5037 : (Jvm.Cond.soleField "BoardMachineModel$Floats" "sign") ∈ lw_all := lw_g (lw_at lw_m20 167 rfl) rfl
theorem q5038 : (Jvm.Cond.laysFinal "BoardMachineModel$Floats" "BoardMachineModel$Floats" "size" "[J") ∈ lw_all := lw_g (lw_at lw_m20 168 rfl) rfl
theorem q5039 : (Jvm.Cond.soleField "BoardMachineModel$Floats" "size") ∈ lw_all := lw_g (lw_at lw_m20 169 rfl) rfl
theorem q5040 : (Jvm.Cond.laysFinal "BoardMachineModel$Floats" "BoardMachineModel$Floats" "power" "[I") ∈ lw_all := lw_g (lw_at lw_m20 170 rfl) rfl
theorem q5041 : (Jvm.Cond.soleField "BoardMachineModel$Floats" "power") ∈ lw_all := lw_g (lw_at lw_m20 171 rfl) rfl
theorem q5042 : (Jvm.Cond.laysFinal "BoardMachineModel$Floats" "BoardMachineModel$Floats" "one" "[I") ∈ lw_all := lw_g (lw_at lw_m20 172 rfl) rfl
theorem q5043 : (Jvm.Cond.soleField "BoardMachineModel$Floats" "one") ∈ lw_all := lw_g (lw_at lw_m20 173 rfl) rfl
theorem q5044 : (Jvm.Cond.laysFinal "BoardMachineModel$Floats" "BoardMachineModel$Floats" "two" "[I") ∈ lw_all := lw_g (lw_at lw_m20 174 rfl) rfl
theorem q5045 : (Jvm.Cond.soleField "BoardMachineModel$Floats" "two") ∈ lw_all := lw_g (lw_at lw_m20 175 rfl) rfl
theorem q5046 : (Jvm.Cond.lays "BoardMachineModel$Floats" "BoardMachineModel$Floats" "more" "Z") ∈ lw_all := lw_g (lw_at lw_m20 176 rfl) rfl
theorem q5047 : (Jvm.Cond.soleField "BoardMachineModel$Floats" "more") ∈ lw_all := lw_g (lw_at lw_m20 177 rfl) rfl
theorem q5048 : (Jvm.Cond.lays "BoardMachineModel$Floats" "BoardMachineModel$Floats" "minus" "I") ∈ lw_all := lw_g (lw_at lw_m20 178 rfl) rfl
theorem q5049 : (Jvm.Cond.soleField "BoardMachineModel$Floats" "minus") ∈ lw_all := lw_g (lw_at lw_m20 179 rfl) rfl
theorem q5050 : (Jvm.Cond.lays "BoardMachineModel$Floats" "BoardMachineModel$Floats" "scale" "I") ∈ lw_all := lw_g (lw_at lw_m20 180 rfl) rfl
theorem q5051 : (Jvm.Cond.soleField "BoardMachineModel$Floats" "scale") ∈ lw_all := lw_g (lw_at lw_m20 181 rfl) rfl
theorem q5052 : (Jvm.Cond.lays "BoardMachineModel$Floats" "BoardMachineModel$Floats" "units" "J") ∈ lw_all := lw_g (lw_at lw_m20 182 rfl) rfl
theorem q5053 : (Jvm.Cond.soleField "BoardMachineModel$Floats" "units") ∈ lw_all := lw_g (lw_at lw_m20 183 rfl) rfl
theorem q5054 : (Jvm.Cond.lays "BoardMachineModel$Floats" "BoardMachineModel$Floats" "lost" "Z") ∈ lw_all := lw_g (lw_at lw_m20 184 rfl) rfl
theorem q5055 : (Jvm.Cond.soleField "BoardMachineModel$Floats" "lost") ∈ lw_all := lw_g (lw_at lw_m20 185 rfl) rfl
theorem q5056 : (Jvm.Cond.superclass "BoardMachineModel$Floats" "java/lang/Object") ∈ lw_all := lw_g (lw_at lw_m20 186 rfl) rfl
theorem q5057 : (Jvm.Cond.instantiable "BoardMachineModel$Desk" (8 : Nat)) ∈ lw_all := lw_g (lw_at lw_m20 187 rfl) rfl
theorem q5058 : (Jvm.Cond.methodLink "BoardMachineModel" (103 : Nat) ({ cls := "BoardMachineModel$Desk", name := "<init>", desc := "(I)V" } : Jvm.MethodName)) ∈ lw_all := lw_g (lw_at lw_m20 188 rfl) rfl
theorem q5059 : (Jvm.Cond.instanceMethod ({ cls := "BoardMachineModel$Desk", name := "<init>", desc := "(I)V" } : Jvm.MethodName)) ∈ lw_all := lw_g (lw_at lw_m20 189 rfl) rfl
theorem q5060 : (Jvm.Cond.code ({ cls := "BoardMachineModel$Desk", name := "<init>", desc := "(I)V" } : Jvm.MethodName) prog_114_method_1_code (2 : Nat) (Option.none : Option Jvm.ClassFile.FieldType)) ∈ lw_all := lw_g (lw_at lw_m20 190 rfl) rfl
theorem q5061 : (Jvm.Cond.methodLink "BoardMachineModel$Desk" (1 : Nat) ({ cls := "java/lang/Object", name := "<init>", desc := "()V" } : Jvm.MethodName)) ∈ lw_all := lw_g (lw_at lw_m20 191 rfl) rfl
theorem q5062 : (Jvm.Cond.fieldLink "BoardMachineModel$Desk" (31 : Nat) "BoardMachineModel$Desk" "thrown" "I") ∈ lw_all := lw_g (lw_at lw_m20 192 rfl) rfl
theorem q5063 : (Jvm.Cond.fieldLink "BoardMachineModel$Desk" (21 : Nat) "BoardMachineModel$Desk" "processor" "I") ∈ lw_all := lw_g (lw_at lw_m20 193 rfl) rfl
theorem q5064 : (Jvm.Cond.fieldLink "BoardMachineModel$Desk" (7 : Nat) "BoardMachineModel$Desk" "mode" "I") ∈ lw_all := lw_g (lw_at lw_m20 194 rfl) rfl
theorem q5065 : (Jvm.Cond.fieldLink "BoardMachineModel$Desk" (13 : Nat) "BoardMachineModel$Desk" "held" "[J") ∈ lw_all := lw_g (lw_at lw_m20 195 rfl) rfl
theorem q5066 : (Jvm.Cond.fieldLink "BoardMachineModel$Desk" (17 : Nat) "BoardMachineModel$Desk" "lines" "[Z") ∈ lw_all := lw_g (lw_at lw_m20 196 rfl) rfl
theorem q5067 : (Jvm.Cond.fieldLink "BoardMachineModel$Desk" (70 : Nat) "BoardMachineModel$Desk" "time" "J") ∈ lw_all := lw_g (lw_at lw_m20 197 rfl) rfl
theorem q5068 : (Jvm.Cond.fieldLink "BoardMachineModel$Desk" (24 : Nat) "BoardMachineModel$Desk" "had" "J") ∈ lw_all := lw_g (lw_at lw_m20 198 rfl) rfl
theorem q5069 : (Jvm.Cond.fieldLink "BoardMachineModel$Desk" (28 : Nat) "BoardMachineModel$Desk" "place" "J") ∈ lw_all := lw_g (lw_at lw_m20 199 rfl) rfl
theorem q5070 : (Jvm.Cond.lays "BoardMachineModel$Desk" "BoardMachineModel$Desk" "thrown" "I") ∈ lw_all := lw_g (lw_at lw_m20 200 rfl) rfl
theorem q5071 : (Jvm.Cond.soleField "BoardMachineModel$Desk" "thrown") ∈ lw_all := lw_g (lw_at lw_m20 201 rfl) rfl
theorem q5072 : (Jvm.Cond.laysFinal "BoardMachineModel$Desk" "BoardMachineModel$Desk" "processor" "I") ∈ lw_all := lw_g (lw_at lw_m20 202 rfl) rfl
theorem q5073 : (Jvm.Cond.soleField "BoardMachineModel$Desk" "processor") ∈ lw_all := lw_g (lw_at lw_m20 203 rfl) rfl
theorem q5074 : (Jvm.Cond.lays "BoardMachineModel$Desk" "BoardMachineModel$Desk" "mode" "I") ∈ lw_all := lw_g (lw_at lw_m20 204 rfl) rfl
theorem q5075 : (Jvm.Cond.soleField "BoardMachineModel$Desk" "mode") ∈ lw_all := lw_g (lw_at lw_m20 205 rfl) rfl
theorem q5076 : (Jvm.Cond.laysFinal "BoardMachineModel$Desk" "BoardMachineModel$Desk" "held" "[J") ∈ lw_all := lw_g (lw_at lw_m20 206 rfl) rfl
theorem q5077 : (Jvm.Cond.soleField "BoardMachineModel$Desk" "held") ∈ lw_all := lw_g (lw_at lw_m20 207 rfl) rfl
theorem q5078 : (Jvm.Cond.laysFinal "BoardMachineModel$Desk" "BoardMachineModel$Desk" "lines" "[Z") ∈ lw_all := lw_g (lw_at lw_m20 208 rfl) rfl
theorem q5079 : (Jvm.Cond.soleField "BoardMachineModel$Desk" "lines") ∈ lw_all := lw_g (lw_at lw_m20 209 rfl) rfl
theorem q5080 : (Jvm.Cond.lays "BoardMachineModel$Desk" "BoardMachineModel$Desk" "time" "J") ∈ lw_all := lw_g (lw_at lw_m20 210 rfl) rfl
theorem q5081 : (Jvm.Cond.soleField "BoardMachineModel$Desk" "time") ∈ lw_all := lw_g (lw_at lw_m20 211 rfl) rfl
theorem q5082 : (Jvm.Cond.lays "BoardMachineModel$Desk" "BoardMachineModel$Desk" "had" "J") ∈ lw_all := lw_g (lw_at lw_m20 212 rfl) rfl
theorem q5083 : (Jvm.Cond.soleField "BoardMachineModel$Desk" "had") ∈ lw_all := lw_g (lw_at lw_m20 213 rfl) rfl
theorem q5084 : (Jvm.Cond.lays "BoardMachineModel$Desk" "BoardMachineModel$Desk" "place" "J") ∈ lw_all := lw_g (lw_at lw_m20 214 rfl) rfl
theorem q5085 : (Jvm.Cond.soleField "BoardMachineModel$Desk" "place") ∈ lw_all := lw_g (lw_at lw_m20 215 rfl) rfl
theorem q5086 : (Jvm.Cond.superclass "BoardMachineModel$Desk" "java/lang/Object") ∈ lw_all := lw_g (lw_at lw_m20 216 rfl) rfl
theorem q5087 : (Jvm.Cond.instantiable "BoardMachineModel$Walk" (9 : Nat)) ∈ lw_all := lw_g (lw_at lw_m20 217 rfl) rfl
theorem q5088 : (Jvm.Cond.methodLink "BoardMachineModel" (104 : Nat) ({ cls := "BoardMachineModel$Walk", name := "<init>", desc := "(LBoardMachineModel$Ram;)V" } : Jvm.MethodName)) ∈ lw_all := lw_g (lw_at lw_m20 218 rfl) rfl
theorem q5089 : (Jvm.Cond.instanceMethod ({ cls := "BoardMachineModel$Walk", name := "<init>", desc := "(LBoardMachineModel$Ram;)V" } : Jvm.MethodName)) ∈ lw_all := lw_g (lw_at lw_m20 219 rfl) rfl
theorem q5090 : (Jvm.Cond.code ({ cls := "BoardMachineModel$Walk", name := "<init>", desc := "(LBoardMachineModel$Ram;)V" } : Jvm.MethodName) prog_120_method_1_code (2 : Nat) (Option.none : Option Jvm.ClassFile.FieldType)) ∈ lw_all := lw_g (lw_at lw_m20 220 rfl) rfl
theorem q5091 : (Jvm.Cond.methodLink "BoardMachineModel$Walk" (1 : Nat) ({ cls := "java/lang/Object", name := "<init>", desc := "()V" } : Jvm.MethodName)) ∈ lw_all := lw_g (lw_at lw_m20 221 rfl) rfl
theorem q5092 : (Jvm.Cond.fieldLink "BoardMachineModel$Walk" (21 : Nat) "BoardMachineModel$Walk" "code" "I") ∈ lw_all := lw_g (lw_at lw_m20 222 rfl) rfl
theorem q5093 : (Jvm.Cond.fieldLink "BoardMachineModel$Walk" (17 : Nat) "BoardMachineModel$Walk" "ram" "LBoardMachineModel$Ram;") ∈ lw_all := lw_g (lw_at lw_m20 223 rfl) rfl
theorem q5094 : (Jvm.Cond.fieldLink "BoardMachineModel$Walk" (25 : Nat) "BoardMachineModel$Walk" "table" "J") ∈ lw_all := lw_g (lw_at lw_m20 224 rfl) rfl
theorem q5095 : (Jvm.Cond.fieldLink "BoardMachineModel$Walk" (37 : Nat) "BoardMachineModel$Walk" "sum" "Z") ∈ lw_all := lw_g (lw_at lw_m20 225 rfl) rfl
theorem q5096 : (Jvm.Cond.fieldLink "BoardMachineModel$Walk" (41 : Nat) "BoardMachineModel$Walk" "mxr" "Z") ∈ lw_all := lw_g (lw_at lw_m20 226 rfl) rfl
theorem q5097 : (Jvm.Cond.fieldLink "BoardMachineModel$Walk" (7 : Nat) "BoardMachineModel$Walk" "configs" "[I") ∈ lw_all := lw_g (lw_at lw_m20 227 rfl) rfl
theorem q5098 : (Jvm.Cond.fieldLink "BoardMachineModel$Walk" (13 : Nat) "BoardMachineModel$Walk" "numbers" "[J") ∈ lw_all := lw_g (lw_at lw_m20 228 rfl) rfl
theorem q5099 : (Jvm.Cond.fieldLink "BoardMachineModel$Walk" (56 : Nat) "BoardMachineModel$Walk" "from" "J") ∈ lw_all := lw_g (lw_at lw_m20 229 rfl) rfl
theorem q5100 : (Jvm.Cond.fieldLink "BoardMachineModel$Walk" (59 : Nat) "BoardMachineModel$Walk" "to" "J") ∈ lw_all := lw_g (lw_at lw_m20 230 rfl) rfl
theorem q5101 : (Jvm.Cond.lays "BoardMachineModel$Walk" "BoardMachineModel$Walk" "code" "I") ∈ lw_all := lw_g (lw_at lw_m20 231 rfl) rfl
theorem q5102 : (Jvm.Cond.soleField "BoardMachineModel$Walk" "code") ∈ lw_all := lw_g (lw_at lw_m20 232 rfl) rfl
theorem q5103 : (Jvm.Cond.laysFinal "BoardMachineModel$Walk" "BoardMachineModel$Walk" "ram" "LBoardMachineModel$Ram;") ∈ lw_all := lw_g (lw_at lw_m20 233 rfl) rfl
theorem q5104 : (Jvm.Cond.soleField "BoardMachineModel$Walk" "ram") ∈ lw_all := lw_g (lw_at lw_m20 234 rfl) rfl
theorem q5105 : (Jvm.Cond.lays "BoardMachineModel$Walk" "BoardMachineModel$Walk" "table" "J") ∈ lw_all := lw_g (lw_at lw_m20 235 rfl) rfl
theorem q5106 : (Jvm.Cond.soleField "BoardMachineModel$Walk" "table") ∈ lw_all := lw_g (lw_at lw_m20 236 rfl) rfl
theorem q5107 : (Jvm.Cond.lays "BoardMachineModel$Walk" "BoardMachineModel$Walk" "sum" "Z") ∈ lw_all := lw_g (lw_at lw_m20 237 rfl) rfl
theorem q5108 : (Jvm.Cond.soleField "BoardMachineModel$Walk" "sum") ∈ lw_all := lw_g (lw_at lw_m20 238 rfl) rfl
theorem q5109 : (Jvm.Cond.lays "BoardMachineModel$Walk" "BoardMachineModel$Walk" "mxr" "Z") ∈ lw_all := lw_g (lw_at lw_m20 239 rfl) rfl
theorem q5110 : (Jvm.Cond.soleField "BoardMachineModel$Walk" "mxr") ∈ lw_all := lw_g (lw_at lw_m21 0 rfl) rfl
theorem q5111 : (Jvm.Cond.laysFinal "BoardMachineModel$Walk" "BoardMachineModel$Walk" "configs" "[I") ∈ lw_all := lw_g (lw_at lw_m21 1 rfl) rfl
theorem q5112 : (Jvm.Cond.soleField "BoardMachineModel$Walk" "configs") ∈ lw_all := lw_g (lw_at lw_m21 2 rfl) rfl
theorem q5113 : (Jvm.Cond.laysFinal "BoardMachineModel$Walk" "BoardMachineModel$Walk" "numbers" "[J") ∈ lw_all := lw_g (lw_at lw_m21 3 rfl) rfl
theorem q5114 : (Jvm.Cond.soleField "BoardMachineModel$Walk" "numbers") ∈ lw_all := lw_g (lw_at lw_m21 4 rfl) rfl
theorem q5115 : (Jvm.Cond.lays "BoardMachineModel$Walk" "BoardMachineModel$Walk" "from" "J") ∈ lw_all := lw_g (lw_at lw_m21 5 rfl) rfl
theorem q5116 : (Jvm.Cond.soleField "BoardMachineModel$Walk" "from") ∈ lw_all := lw_g (lw_at lw_m21 6 rfl) rfl
theorem q5117 : (Jvm.Cond.lays "BoardMachineModel$Walk" "BoardMachineModel$Walk" "to" "J") ∈ lw_all := lw_g (lw_at lw_m21 7 rfl) rfl
theorem q5118 : (Jvm.Cond.soleField "BoardMachineModel$Walk" "to") ∈ lw_all := lw_g (lw_at lw_m21 8 rfl) rfl
theorem q5119 : (Jvm.Cond.superclass "BoardMachineModel$Walk" "java/lang/Object") ∈ lw_all := lw_g (lw_at lw_m21 9 rfl) rfl
theorem q5120 : (Jvm.Cond.methodLink "BoardMachineModel" (105 : Nat) ({ cls := "BoardMachineModel", name := "begin", desc := "()I" } : Jvm.MethodName)) ∈ lw_all := lw_g (lw_at lw_m21 10 rfl) rfl
theorem q5121 : (Jvm.Cond.privateMethod ({ cls := "BoardMachineModel", name := "begin", desc := "()I" } : Jvm.MethodName)) ∈ lw_tbl := lw_at lw_m21 11 rfl
theorem q5122 : (Jvm.Cond.instanceMethod ({ cls := "BoardMachineModel", name := "begin", desc := "()I" } : Jvm.MethodName)) ∈ lw_all := lw_g (lw_at lw_m21 12 rfl) rfl
theorem q5123 : (Jvm.Cond.code ({ cls := "BoardMachineModel", name := "begin", desc := "()I" } : Jvm.MethodName) prog_111_method_14_code (2 : Nat) (Option.some Jvm.ClassFile.FieldType.int)) ∈ lw_all := lw_g (lw_at lw_m21 13 rfl) rfl
theorem q5124 : (Jvm.Cond.methodLink "BoardMachineModel" (180 : Nat) ({ cls := "BoardMachineModel$Core", name := "reset", desc := "(J)V" } : Jvm.MethodName)) ∈ lw_all := lw_g (lw_at lw_m21 14 rfl) rfl
theorem q5125 : (Jvm.Cond.instanceMethod ({ cls := "BoardMachineModel$Core", name := "reset", desc := "(J)V" } : Jvm.MethodName)) ∈ lw_all := lw_g (lw_at lw_m21 15 rfl) rfl
theorem q5126 : (Jvm.Cond.selects "BoardMachineModel$Core" ({ cls := "BoardMachineModel$Core", name := "reset", desc := "(J)V" } : Jvm.MethodName) ({ cls := "BoardMachineModel$Core", name := "reset", desc := "(J)V" } : Jvm.MethodName)) ∈ lw_all := lw_g (lw_at lw_m21 16 rfl) rfl
theorem q5127 : (Jvm.Cond.code ({ cls := "BoardMachineModel$Core", name := "reset", desc := "(J)V" } : Jvm.MethodName) prog_113_method_2_code (4 : Nat) (Option.none : Option Jvm.ClassFile.FieldType)) ∈ lw_all := lw_g (lw_at lw_m21 17 rfl) rfl
theorem q5128 : (Jvm.Cond.methodLink "BoardMachineModel" (184 : Nat) ({ cls := "BoardMachineModel$Floats", name := "reset", desc := "()V" } : Jvm.MethodName)) ∈ lw_all := lw_g (lw_at lw_m21 18 rfl) rfl
theorem q5129 : (Jvm.Cond.instanceMethod ({ cls := "BoardMachineModel$Floats", name := "reset", desc := "()V" } : Jvm.MethodName)) ∈ lw_all := lw_g (lw_at lw_m21 19 rfl) rfl
theorem q5130 : (Jvm.Cond.selects "BoardMachineModel$Floats" ({ cls := "BoardMachineModel$Floats", name := "reset", desc := "()V" } : Jvm.MethodName) ({ cls := "BoardMachineModel$Floats", name := "reset", desc := "()V" } : Jvm.MethodName)) ∈ lw_all := lw_g (lw_at lw_m21 20 rfl) rfl
theorem q5131 : (Jvm.Cond.code ({ cls := "BoardMachineModel$Floats", name := "reset", desc := "()V" } : Jvm.MethodName) prog_115_method_2_code (2 : Nat) (Option.none : Option Jvm.ClassFile.FieldType)) ∈ lw_all := lw_g (lw_at lw_m21 21 rfl) rfl
theorem q5132 : (Jvm.Cond.methodLink "BoardMachineModel" (186 : Nat) ({ cls := "BoardMachineModel$Desk", name := "reset", desc := "()V" } : Jvm.MethodName)) ∈ lw_all := lw_g (lw_at lw_m21 22 rfl) rfl
theorem q5133 : (Jvm.Cond.instanceMethod ({ cls := "BoardMachineModel$Desk", name := "reset", desc := "()V" } : Jvm.MethodName)) ∈ lw_all := lw_g (lw_at lw_m21 23 rfl) rfl
theorem q5134 : (Jvm.Cond.selects "BoardMachineModel$Desk" ({ cls := "BoardMachineModel$Desk", name := "reset", desc := "()V" } : Jvm.MethodName) ({ cls := "BoardMachineModel$Desk", name := "reset", desc := "()V" } : Jvm.MethodName)) ∈ lw_all := lw_g (lw_at lw_m21 24 rfl) rfl
theorem q5135 : (Jvm.Cond.code ({ cls := "BoardMachineModel$Desk", name := "reset", desc := "()V" } : Jvm.MethodName) prog_114_method_2_code (2 : Nat) (Option.none : Option Jvm.ClassFile.FieldType)) ∈ lw_all := lw_g (lw_at lw_m21 25 rfl) rfl
theorem q5136 : (Jvm.Cond.methodLink "BoardMachineModel" (187 : Nat) ({ cls := "BoardMachineModel$Walk", name := "reset", desc := "()V" } : Jvm.MethodName)) ∈ lw_all := lw_g (lw_at lw_m21 26 rfl) rfl
theorem q5137 : (Jvm.Cond.instanceMethod ({ cls := "BoardMachineModel$Walk", name := "reset", desc := "()V" } : Jvm.MethodName)) ∈ lw_all := lw_g (lw_at lw_m21 27 rfl) rfl
theorem q5138 : (Jvm.Cond.selects "BoardMachineModel$Walk" ({ cls := "BoardMachineModel$Walk", name := "reset", desc := "()V" } : Jvm.MethodName) ({ cls := "BoardMachineModel$Walk", name := "reset", desc := "()V" } : Jvm.MethodName)) ∈ lw_all := lw_g (lw_at lw_m21 28 rfl) rfl
theorem q5139 : (Jvm.Cond.code ({ cls := "BoardMachineModel$Walk", name := "reset", desc := "()V" } : Jvm.MethodName) prog_120_method_2_code (2 : Nat) (Option.none : Option Jvm.ClassFile.FieldType)) ∈ lw_all := lw_g (lw_at lw_m21 29 rfl) rfl
theorem q5140 : (Jvm.Cond.methodLinkNest "BoardMachineModel" (188 : Nat) ({ cls := "BoardMachineModel$Ram", name := "drop", desc := "(I)V" } : Jvm.MethodName) "BoardMachineModel") ∈ lw_tbl := lw_at lw_m21 30 rfl
theorem q5141 : (Jvm.Cond.privateMethod ({ cls := "BoardMachineModel$Ram", name := "drop", desc := "(I)V" } : Jvm.MethodName)) ∈ lw_tbl := lw_at lw_m21 31 rfl
theorem q5142 : (Jvm.Cond.instanceMethod ({ cls := "BoardMachineModel$Ram", name := "drop", desc := "(I)V" } : Jvm.MethodName)) ∈ lw_all := lw_g (lw_at lw_m21 32 rfl) rfl
theorem q5143 : (Jvm.Cond.code ({ cls := "BoardMachineModel$Ram", name := "drop", desc := "(I)V" } : Jvm.MethodName) prog_117_method_8_code (2 : Nat) (Option.none : Option Jvm.ClassFile.FieldType)) ∈ lw_all := lw_g (lw_at lw_m21 33 rfl) rfl
theorem q5144 : (Jvm.Cond.constantLong "BoardMachineModel" (194 : Nat) (2151669760 : Int64)) ∈ lw_all := lw_g (lw_at lw_m21 34 rfl) rfl
theorem q5145 : (Jvm.Cond.methodLinkNest "BoardMachineModel" (154 : Nat) ({ cls := "BoardMachineModel$Ram", name := "put", desc := "(JI)V" } : Jvm.MethodName) "BoardMachineModel") ∈ lw_tbl := lw_at lw_m21 35 rfl
theorem q5146 : (Jvm.Cond.privateMethod ({ cls := "BoardMachineModel$Ram", name := "put", desc := "(JI)V" } : Jvm.MethodName)) ∈ lw_tbl := lw_at lw_m21 36 rfl
theorem q5147 : (Jvm.Cond.instanceMethod ({ cls := "BoardMachineModel$Ram", name := "put", desc := "(JI)V" } : Jvm.MethodName)) ∈ lw_all := lw_g (lw_at lw_m21 37 rfl) rfl
theorem q5148 : (Jvm.Cond.code ({ cls := "BoardMachineModel$Ram", name := "put", desc := "(JI)V" } : Jvm.MethodName) prog_117_method_5_code (7 : Nat) (Option.none : Option Jvm.ClassFile.FieldType)) ∈ lw_all := lw_g (lw_at lw_m21 38 rfl) rfl
theorem q5149 : (Jvm.Cond.constantLong "BoardMachineModel$Ram" (27 : Nat) (2147483648 : Int64)) ∈ lw_all := lw_g (lw_at lw_m21 39 rfl) rfl
theorem q5150 : (Jvm.Cond.constantLong "BoardMachineModel$Ram" (35 : Nat) (255 : Int64)) ∈ lw_all := lw_g (lw_at lw_m21 40 rfl) rfl
theorem q5151 : (Jvm.Cond.constantLong "BoardMachineModel$Ram" (37 : Nat) (-1 : Int64)) ∈ lw_all := lw_g (lw_at lw_m21 41 rfl) rfl
theorem q5152 : (Jvm.Cond.constantLong "BoardMachineModel$Ram" (39 : Nat) (8 : Int64)) ∈ lw_all := lw_g (lw_at lw_m21 42 rfl) rfl
theorem q5153 : (Jvm.Cond.methodLink "BoardMachineModel" (199 : Nat) ({ cls := "BoardMachineModel$Core", name := "set", desc := "(IJ)V" } : Jvm.MethodName)) ∈ lw_all := lw_g (lw_at lw_m21 43 rfl) rfl
theorem q5154 : (Jvm.Cond.instanceMethod ({ cls := "BoardMachineModel$Core", name := "set", desc := "(IJ)V" } : Jvm.MethodName)) ∈ lw_all := lw_g (lw_at lw_m21 44 rfl) rfl
theorem q5155 : (Jvm.Cond.selects "BoardMachineModel$Core" ({ cls := "BoardMachineModel$Core", name := "set", desc := "(IJ)V" } : Jvm.MethodName) ({ cls := "BoardMachineModel$Core", name := "set", desc := "(IJ)V" } : Jvm.MethodName)) ∈ lw_all := lw_g (lw_at lw_m21 45 rfl) rfl
theorem q5156 : (Jvm.Cond.code ({ cls := "BoardMachineModel$Core", name := "set", desc := "(IJ)V" } : Jvm.MethodName) prog_113_method_7_code (4 : Nat) (Option.none : Option Jvm.ClassFile.FieldType)) ∈ lw_all := lw_g (lw_at lw_m21 46 rfl) rfl
theorem q5157 : (Jvm.Cond.methodLink "BoardMachineModel$Core" (27 : Nat) ({ cls := "BoardMachineModel$Core", name := "isRegister", desc := "(I)Z" } : Jvm.MethodName)) ∈ lw_all := lw_g (lw_at lw_m21 47 rfl) rfl
theorem q5158 : (Jvm.Cond.static ({ cls := "BoardMachineModel$Core", name := "isRegister", desc := "(I)Z" } : Jvm.MethodName)) ∈ lw_all := lw_g (lw_at lw_m21 48 rfl) rfl
theorem q5159 : (Jvm.Cond.code ({ cls := "BoardMachineModel$Core", name := "isRegister", desc := "(I)Z" } : Jvm.MethodName) prog_113_method_4_code (1 : Nat) (Option.some Jvm.ClassFile.FieldType.boolean)) ∈ lw_all := lw_g (lw_at lw_m21 49 rfl) rfl
theorem q5160 : (Jvm.Cond.methodLink "BoardMachineModel$Core" (31 : Nat) ({ cls := "BoardMachineModel$Core", name := "put", desc := "(IJ)V" } : Jvm.MethodName)) ∈ lw_all := lw_g (lw_at lw_m21 50 rfl) rfl
theorem q5161 : (Jvm.Cond.privateMethod ({ cls := "BoardMachineModel$Core", name := "put", desc := "(IJ)V" } : Jvm.MethodName)) ∈ lw_tbl := lw_at lw_m21 51 rfl
theorem q5162 : (Jvm.Cond.instanceMethod ({ cls := "BoardMachineModel$Core", name := "put", desc := "(IJ)V" } : Jvm.MethodName)) ∈ lw_all := lw_g (lw_at lw_m21 52 rfl) rfl
theorem q5163 : (Jvm.Cond.code ({ cls := "BoardMachineModel$Core", name := "put", desc := "(IJ)V" } : Jvm.MethodName) prog_113_method_6_code (4 : Nat) (Option.none : Option Jvm.ClassFile.FieldType)) ∈ lw_all := lw_g (lw_at lw_m21 53 rfl) rfl
theorem q5164 : (Jvm.Cond.fieldLink "BoardMachineModel" (109 : Nat) "BoardMachineModel" "thrown" "I") ∈ lw_all := lw_g (lw_at lw_m21 54 rfl) rfl
theorem q5165 : (Jvm.Cond.fieldLink "BoardMachineModel" (82 : Nat) "BoardMachineModel" "processors" "I") ∈ lw_all := lw_g (lw_at lw_m21 55 rfl) rfl
theorem q5166 : (Jvm.Cond.fieldLink "BoardMachineModel" (10 : Nat) "BoardMachineModel" "ram" "LBoardMachineModel$Ram;") ∈ lw_all := lw_g (lw_at lw_m21 56 rfl) rfl
theorem q5167 : (Jvm.Cond.fieldLink "BoardMachineModel" (19 : Nat) "BoardMachineModel" "halves" "LBoardMachineModel$Halves;") ∈ lw_all := lw_g (lw_at lw_m21 57 rfl) rfl
theorem q5168 : (Jvm.Cond.fieldLink "BoardMachineModel" (28 : Nat) "BoardMachineModel" "block" "LBoardMachineModel$Block;") ∈ lw_all := lw_g (lw_at lw_m21 58 rfl) rfl
theorem q5169 : (Jvm.Cond.fieldLink "BoardMachineModel" (90 : Nat) "BoardMachineModel" "signals" "LBoardMachineModel$Signals;") ∈ lw_all := lw_g (lw_at lw_m21 59 rfl) rfl
theorem q5170 : (Jvm.Cond.fieldLink "BoardMachineModel" (97 : Nat) "BoardMachineModel" "tree" "LBoardMachineModel$Tree;") ∈ lw_all := lw_g (lw_at lw_m21 60 rfl) rfl
theorem q5171 : (Jvm.Cond.fieldLink "BoardMachineModel" (34 : Nat) "BoardMachineModel" "cores" "[LBoardMachineModel$Core;") ∈ lw_all := lw_g (lw_at lw_m21 61 rfl) rfl
theorem q5172 : (Jvm.Cond.fieldLink "BoardMachineModel" (40 : Nat) "BoardMachineModel" "floats" "[LBoardMachineModel$Floats;") ∈ lw_all := lw_g (lw_at lw_m21 62 rfl) rfl
theorem q5173 : (Jvm.Cond.fieldLink "BoardMachineModel" (46 : Nat) "BoardMachineModel" "desks" "[LBoardMachineModel$Desk;") ∈ lw_all := lw_g (lw_at lw_m21 63 rfl) rfl
theorem q5174 : (Jvm.Cond.fieldLink "BoardMachineModel" (52 : Nat) "BoardMachineModel" "walks" "[LBoardMachineModel$Walk;") ∈ lw_all := lw_g (lw_at lw_m21 64 rfl) rfl
theorem q5175 : (Jvm.Cond.fieldLink "BoardMachineModel" (56 : Nat) "BoardMachineModel" "parked" "[Z") ∈ lw_all := lw_g (lw_at lw_m21 65 rfl) rfl
theorem q5176 : (Jvm.Cond.fieldLink "BoardMachineModel" (61 : Nat) "BoardMachineModel" "tape" "[I") ∈ lw_all := lw_g (lw_at lw_m21 66 rfl) rfl
theorem q5177 : (Jvm.Cond.fieldLink "BoardMachineModel" (112 : Nat) "BoardMachineModel" "taped" "I") ∈ lw_all := lw_g (lw_at lw_m21 67 rfl) rfl
theorem q5178 : (Jvm.Cond.fieldLink "BoardMachineModel" (65 : Nat) "BoardMachineModel" "input" "[I") ∈ lw_all := lw_g (lw_at lw_m21 68 rfl) rfl
theorem q5179 : (Jvm.Cond.fieldLink "BoardMachineModel" (161 : Nat) "BoardMachineModel" "inputFrom" "I") ∈ lw_all := lw_g (lw_at lw_m21 69 rfl) rfl
theorem q5180 : (Jvm.Cond.fieldLink "BoardMachineModel" (158 : Nat) "BoardMachineModel" "inputMany" "I") ∈ lw_all := lw_g (lw_at lw_m21 70 rfl) rfl
theorem q5181 : (Jvm.Cond.fieldLink "BoardMachineModel" (70 : Nat) "BoardMachineModel" "entry" "J") ∈ lw_all := lw_g (lw_at lw_m21 71 rfl) rfl
theorem q5182 : (Jvm.Cond.fieldLink "BoardMachineModel" (505 : Nat) "BoardMachineModel" "rounds" "J") ∈ lw_all := lw_g (lw_at lw_m21 72 rfl) rfl
theorem q5183 : (Jvm.Cond.fieldLink "BoardMachineModel" (74 : Nat) "BoardMachineModel" "code" "I") ∈ lw_all := lw_g (lw_at lw_m21 73 rfl) rfl
theorem q5184 : (Jvm.Cond.fieldLink "BoardMachineModel" (352 : Nat) "BoardMachineModel" "breaches" "J") ∈ lw_all := lw_g (lw_at lw_m21 74 rfl) rfl
theorem q5185 : (Jvm.Cond.fieldLink "BoardMachineModel" (320 : Nat) "BoardMachineModel" "word" "I") ∈ lw_all := lw_g (lw_at lw_m21 75 rfl) rfl
theorem q5186 : (Jvm.Cond.fieldLink "BoardMachineModel" (314 : Nat) "BoardMachineModel" "length" "I") ∈ lw_all := lw_g (lw_at lw_m21 76 rfl) rfl
theorem q5187 : (Jvm.Cond.fieldLink "BoardMachineModel" (269 : Nat) "BoardMachineModel" "raw" "J") ∈ lw_all := lw_g (lw_at lw_m21 77 rfl) rfl
theorem q5188 : (Jvm.Cond.fieldLink "BoardMachineModel" (263 : Nat) "BoardMachineModel" "cause" "I") ∈ lw_all := lw_g (lw_at lw_m21 78 rfl) rfl
theorem q5189 : (Jvm.Cond.fieldLink "BoardMachineModel" (266 : Nat) "BoardMachineModel" "value" "J") ∈ lw_all := lw_g (lw_at lw_m21 79 rfl) rfl
theorem q5190 : (Jvm.Cond.fieldLink "BoardMachineModel" (331 : Nat) "BoardMachineModel" "whole" "Z") ∈ lw_all := lw_g (lw_at lw_m21 80 rfl) rfl
theorem q5191 : (Jvm.Cond.fieldLink "BoardMachineModel" (78 : Nat) "BoardMachineModel" "places" "[J") ∈ lw_all := lw_g (lw_at lw_m21 81 rfl) rfl
theorem q5192 : (Jvm.Cond.lays "BoardMachineModel" "BoardMachineModel" "thrown" "I") ∈ lw_all := lw_g (lw_at lw_m21 82 rfl) rfl
theorem q5193 : (Jvm.Cond.soleField "BoardMachineModel" "thrown") ∈ lw_all := lw_g (lw_at lw_m21 83 rfl) rfl
theorem q5194 : (Jvm.Cond.laysFinal "BoardMachineModel" "BoardMachineModel" "processors" "I") ∈ lw_all := lw_g (lw_at lw_m21 84 rfl) rfl
theorem q5195 : (Jvm.Cond.soleField "BoardMachineModel" "processors") ∈ lw_all := lw_g (lw_at lw_m21 85 rfl) rfl
theorem q5196 : (Jvm.Cond.laysFinal "BoardMachineModel" "BoardMachineModel" "ram" "LBoardMachineModel$Ram;") ∈ lw_all := lw_g (lw_at lw_m21 86 rfl) rfl
theorem q5197 : (Jvm.Cond.soleField "BoardMachineModel" "ram") ∈ lw_all := lw_g (lw_at lw_m21 87 rfl) rfl
theorem q5198 : (Jvm.Cond.laysFinal "BoardMachineModel" "BoardMachineModel" "halves" "LBoardMachineModel$Halves;") ∈ lw_all := lw_g (lw_at lw_m21 88 rfl) rfl
theorem q5199 : (Jvm.Cond.soleField "BoardMachineModel" "halves") ∈ lw_all := lw_g (lw_at lw_m21 89 rfl) rfl
theorem q5200 : (Jvm.Cond.laysFinal "BoardMachineModel" "BoardMachineModel" "block" "LBoardMachineModel$Block;") ∈ lw_all := lw_g (lw_at lw_m21 90 rfl) rfl
theorem q5201 : (Jvm.Cond.soleField "BoardMachineModel" "block") ∈ lw_all := lw_g (lw_at lw_m21 91 rfl) rfl
theorem q5202 : (Jvm.Cond.laysFinal "BoardMachineModel" "BoardMachineModel" "signals" "LBoardMachineModel$Signals;") ∈ lw_all := lw_g (lw_at lw_m21 92 rfl) rfl
theorem q5203 : (Jvm.Cond.soleField "BoardMachineModel" "signals") ∈ lw_all := lw_g (lw_at lw_m21 93 rfl) rfl
theorem q5204 : (Jvm.Cond.laysFinal "BoardMachineModel" "BoardMachineModel" "tree" "LBoardMachineModel$Tree;") ∈ lw_all := lw_g (lw_at lw_m21 94 rfl) rfl
theorem q5205 : (Jvm.Cond.soleField "BoardMachineModel" "tree") ∈ lw_all := lw_g (lw_at lw_m21 95 rfl) rfl
theorem q5206 : (Jvm.Cond.laysFinal "BoardMachineModel" "BoardMachineModel" "cores" "[LBoardMachineModel$Core;") ∈ lw_all := lw_g (lw_at lw_m21 96 rfl) rfl
theorem q5207 : (Jvm.Cond.soleField "BoardMachineModel" "cores") ∈ lw_all := lw_g (lw_at lw_m21 97 rfl) rfl
theorem q5208 : (Jvm.Cond.laysFinal "BoardMachineModel" "BoardMachineModel" "floats" "[LBoardMachineModel$Floats;") ∈ lw_all := lw_g (lw_at lw_m21 98 rfl) rfl
theorem q5209 : (Jvm.Cond.soleField "BoardMachineModel" "floats") ∈ lw_all := lw_g (lw_at lw_m21 99 rfl) rfl
theorem q5210 : (Jvm.Cond.laysFinal "BoardMachineModel" "BoardMachineModel" "desks" "[LBoardMachineModel$Desk;") ∈ lw_all := lw_g (lw_at lw_m21 100 rfl) rfl
theorem q5211 : (Jvm.Cond.soleField "BoardMachineModel" "desks") ∈ lw_all := lw_g (lw_at lw_m21 101 rfl) rfl
theorem q5212 : (Jvm.Cond.laysFinal "BoardMachineModel" "BoardMachineModel" "walks" "[LBoardMachineModel$Walk;") ∈ lw_all := lw_g (lw_at lw_m21 102 rfl) rfl
theorem q5213 : (Jvm.Cond.soleField "BoardMachineModel" "walks") ∈ lw_all := lw_g (lw_at lw_m21 103 rfl) rfl
theorem q5214 : (Jvm.Cond.laysFinal "BoardMachineModel" "BoardMachineModel" "parked" "[Z") ∈ lw_all := lw_g (lw_at lw_m21 104 rfl) rfl
theorem q5215 : (Jvm.Cond.soleField "BoardMachineModel" "parked") ∈ lw_all := lw_g (lw_at lw_m21 105 rfl) rfl
theorem q5216 : (Jvm.Cond.laysFinal "BoardMachineModel" "BoardMachineModel" "tape" "[I") ∈ lw_all := lw_g (lw_at lw_m21 106 rfl) rfl
theorem q5217 : (Jvm.Cond.soleField "BoardMachineModel" "tape") ∈ lw_all := lw_g (lw_at lw_m21 107 rfl) rfl
theorem q5218 : (Jvm.Cond.lays "BoardMachineModel" "BoardMachineModel" "taped" "I") ∈ lw_all := lw_g (lw_at lw_m21 108 rfl) rfl
theorem q5219 : (Jvm.Cond.soleField "BoardMachineModel" "taped") ∈ lw_all := lw_g (lw_at lw_m21 109 rfl) rfl
theorem q5220 : (Jvm.Cond.laysFinal "BoardMachineModel" "BoardMachineModel" "input" "[I") ∈ lw_all := lw_g (lw_at lw_m21 110 rfl) rfl
theorem q5221 : (Jvm.Cond.soleField "BoardMachineModel" "input") ∈ lw_all := lw_g (lw_at lw_m21 111 rfl) rfl
theorem q5222 : (Jvm.Cond.lays "BoardMachineModel" "BoardMachineModel" "inputFrom" "I") ∈ lw_all := lw_g (lw_at lw_m21 112 rfl) rfl
theorem q5223 : (Jvm.Cond.soleField "BoardMachineModel" "inputFrom") ∈ lw_all := lw_g (lw_at lw_m21 113 rfl) rfl
theorem q5224 : (Jvm.Cond.lays "BoardMachineModel" "BoardMachineModel" "inputMany" "I") ∈ lw_all := lw_g (lw_at lw_m21 114 rfl) rfl
theorem q5225 : (Jvm.Cond.soleField "BoardMachineModel" "inputMany") ∈ lw_all := lw_g (lw_at lw_m21 115 rfl) rfl
theorem q5226 : (Jvm.Cond.lays "BoardMachineModel" "BoardMachineModel" "entry" "J") ∈ lw_all := lw_g (lw_at lw_m21 116 rfl) rfl
theorem q5227 : (Jvm.Cond.soleField "BoardMachineModel" "entry") ∈ lw_all := lw_g (lw_at lw_m21 117 rfl) rfl
theorem q5228 : (Jvm.Cond.lays "BoardMachineModel" "BoardMachineModel" "rounds" "J") ∈ lw_all := lw_g (lw_at lw_m21 118 rfl) rfl
theorem q5229 : (Jvm.Cond.soleField "BoardMachineModel" "rounds") ∈ lw_all := lw_g (lw_at lw_m21 119 rfl) rfl
theorem q5230 : (Jvm.Cond.lays "BoardMachineModel" "BoardMachineModel" "code" "I") ∈ lw_all := lw_g (lw_at lw_m21 120 rfl) rfl
theorem q5231 : (Jvm.Cond.soleField "BoardMachineModel" "code") ∈ lw_all := lw_g (lw_at lw_m21 121 rfl) rfl
theorem q5232 : (Jvm.Cond.lays "BoardMachineModel" "BoardMachineModel" "breaches" "J") ∈ lw_all := lw_g (lw_at lw_m21 122 rfl) rfl
theorem q5233 : (Jvm.Cond.soleField "BoardMachineModel" "breaches") ∈ lw_all := lw_g (lw_at lw_m21 123 rfl) rfl
theorem q5234 : (Jvm.Cond.lays "BoardMachineModel" "BoardMachineModel" "word" "I") ∈ lw_all := lw_g (lw_at lw_m21 124 rfl) rfl
theorem q5235 : (Jvm.Cond.soleField "BoardMachineModel" "word") ∈ lw_all := lw_g (lw_at lw_m21 125 rfl) rfl
theorem q5236 : (Jvm.Cond.lays "BoardMachineModel" "BoardMachineModel" "length" "I") ∈ lw_all := lw_g (lw_at lw_m21 126 rfl) rfl
theorem q5237 : (Jvm.Cond.soleField "BoardMachineModel" "length") ∈ lw_all := lw_g (lw_at lw_m21 127 rfl) rfl
theorem q5238 : (Jvm.Cond.lays "BoardMachineModel" "BoardMachineModel" "raw" "J") ∈ lw_all := lw_g (lw_at lw_m21 128 rfl) rfl
theorem q5239 : (Jvm.Cond.soleField "BoardMachineModel" "raw") ∈ lw_all := lw_g (lw_at lw_m21 129 rfl) rfl
theorem q5240 : (Jvm.Cond.lays "BoardMachineModel" "BoardMachineModel" "cause" "I") ∈ lw_all := lw_g (lw_at lw_m21 130 rfl) rfl
theorem q5241 : (Jvm.Cond.soleField "BoardMachineModel" "cause") ∈ lw_all := lw_g (lw_at lw_m21 131 rfl) rfl
theorem q5242 : (Jvm.Cond.lays "BoardMachineModel" "BoardMachineModel" "value" "J") ∈ lw_all := lw_g (lw_at lw_m21 132 rfl) rfl
theorem q5243 : (Jvm.Cond.soleField "BoardMachineModel" "value") ∈ lw_all := lw_g (lw_at lw_m21 133 rfl) rfl
theorem q5244 : (Jvm.Cond.lays "BoardMachineModel" "BoardMachineModel" "whole" "Z") ∈ lw_all := lw_g (lw_at lw_m21 134 rfl) rfl
theorem q5245 : (Jvm.Cond.soleField "BoardMachineModel" "whole") ∈ lw_all := lw_g (lw_at lw_m21 135 rfl) rfl
theorem q5246 : (Jvm.Cond.laysFinal "BoardMachineModel" "BoardMachineModel" "places" "[J") ∈ lw_all := lw_g (lw_at lw_m21 136 rfl) rfl
theorem q5247 : (Jvm.Cond.soleField "BoardMachineModel" "places") ∈ lw_all := lw_g (lw_at lw_m21 137 rfl) rfl
theorem q5248 : (Jvm.Cond.superclass "BoardMachineModel" "java/lang/Object") ∈ lw_all := lw_g (lw_at lw_m21 138 rfl) rfl
theorem q5249 : (Jvm.Cond.methodLink "BoardMachineLaw" (74 : Nat) ({ cls := "BoardMachineModel", name := "thrown", desc := "()I" } : Jvm.MethodName)) ∈ lw_all := lw_g (lw_at lw_m21 139 rfl) rfl
theorem q5250 : (Jvm.Cond.instanceMethod ({ cls := "BoardMachineModel", name := "thrown", desc := "()I" } : Jvm.MethodName)) ∈ lw_all := lw_g (lw_at lw_m21 140 rfl) rfl
theorem q5251 : (Jvm.Cond.selects "BoardMachineModel" ({ cls := "BoardMachineModel", name := "thrown", desc := "()I" } : Jvm.MethodName) ({ cls := "BoardMachineModel", name := "thrown", desc := "()I" } : Jvm.MethodName)) ∈ lw_all := lw_g (lw_at lw_m21 141 rfl) rfl
theorem q5252 : (Jvm.Cond.code ({ cls := "BoardMachineModel", name := "thrown", desc := "()I" } : Jvm.MethodName) prog_111_method_2_code (1 : Nat) (Option.some Jvm.ClassFile.FieldType.int)) ∈ lw_all := lw_g (lw_at lw_m21 142 rfl) rfl
theorem q5253 : (Jvm.Cond.methodLink "BoardMachineLaw" (73 : Nat) ({ cls := "BoardMachineModel", name := "feed", desc := "(IIIII)I" } : Jvm.MethodName)) ∈ lw_all := lw_g (lw_at lw_m21 143 rfl) rfl
theorem q5254 : (Jvm.Cond.instanceMethod ({ cls := "BoardMachineModel", name := "feed", desc := "(IIIII)I" } : Jvm.MethodName)) ∈ lw_all := lw_g (lw_at lw_m21 144 rfl) rfl
theorem q5255 : (Jvm.Cond.selects "BoardMachineModel" ({ cls := "BoardMachineModel", name := "feed", desc := "(IIIII)I" } : Jvm.MethodName) ({ cls := "BoardMachineModel", name := "feed", desc := "(IIIII)I" } : Jvm.MethodName)) ∈ lw_all := lw_g (lw_at lw_m21 145 rfl) rfl
theorem q5256 : (Jvm.Cond.code ({ cls := "BoardMachineModel", name := "feed", desc := "(IIIII)I" } : Jvm.MethodName) prog_111_method_3_code (8 : Nat) (Option.some Jvm.ClassFile.FieldType.int)) ∈ lw_all := lw_g (lw_at lw_m21 146 rfl) rfl
theorem q5257 : (Jvm.Cond.methodLink "BoardMachineLaw" (81 : Nat) ({ cls := "BoardMachineModel", name := "end", desc := "(I)V" } : Jvm.MethodName)) ∈ lw_all := lw_g (lw_at lw_m21 147 rfl) rfl
theorem q5258 : (Jvm.Cond.instanceMethod ({ cls := "BoardMachineModel", name := "end", desc := "(I)V" } : Jvm.MethodName)) ∈ lw_all := lw_g (lw_at lw_m21 148 rfl) rfl
theorem q5259 : (Jvm.Cond.selects "BoardMachineModel" ({ cls := "BoardMachineModel", name := "end", desc := "(I)V" } : Jvm.MethodName) ({ cls := "BoardMachineModel", name := "end", desc := "(I)V" } : Jvm.MethodName)) ∈ lw_all := lw_g (lw_at lw_m21 149 rfl) rfl
theorem q5260 : (Jvm.Cond.code ({ cls := "BoardMachineModel", name := "end", desc := "(I)V" } : Jvm.MethodName) prog_111_method_4_code (2 : Nat) (Option.none : Option Jvm.ClassFile.FieldType)) ∈ lw_all := lw_g (lw_at lw_m21 150 rfl) rfl
theorem q5261 : (Jvm.Cond.methodLink "BoardMachineLaw" (87 : Nat) ({ cls := "BoardMachineModel", name := "load", desc := "(IJ)I" } : Jvm.MethodName)) ∈ lw_all := lw_g (lw_at lw_m21 151 rfl) rfl
theorem q5262 : (Jvm.Cond.instanceMethod ({ cls := "BoardMachineModel", name := "load", desc := "(IJ)I" } : Jvm.MethodName)) ∈ lw_all := lw_g (lw_at lw_m21 152 rfl) rfl
theorem q5263 : (Jvm.Cond.selects "BoardMachineModel" ({ cls := "BoardMachineModel", name := "load", desc := "(IJ)I" } : Jvm.MethodName) ({ cls := "BoardMachineModel", name := "load", desc := "(IJ)I" } : Jvm.MethodName)) ∈ lw_all := lw_g (lw_at lw_m21 153 rfl) rfl
theorem q5264 : (Jvm.Cond.code ({ cls := "BoardMachineModel", name := "load", desc := "(IJ)I" } : Jvm.MethodName) prog_111_method_13_code (8 : Nat) (Option.some Jvm.ClassFile.FieldType.int)) ∈ lw_all := lw_g (lw_at lw_m21 154 rfl) rfl
theorem q5265 : (Jvm.Cond.methodLinkNest "BoardMachineModel" (126 : Nat) ({ cls := "BoardMachineModel$Ram", name := "areBytes", desc := "(JJ)Z" } : Jvm.MethodName) "BoardMachineModel") ∈ lw_tbl := lw_at lw_m21 155 rfl
theorem q5266 : (Jvm.Cond.static ({ cls := "BoardMachineModel$Ram", name := "areBytes", desc := "(JJ)Z" } : Jvm.MethodName)) ∈ lw_all := lw_g (lw_at lw_m21 156 rfl) rfl
theorem q5267 : (Jvm.Cond.code ({ cls := "BoardMachineModel$Ram", name := "areBytes", desc := "(JJ)Z" } : Jvm.MethodName) prog_117_method_3_code (4 : Nat) (Option.some Jvm.ClassFile.FieldType.boolean)) ∈ lw_all := lw_g (lw_at lw_m21 157 rfl) rfl
theorem q5268 : (Jvm.Cond.methodLink "BoardMachineModel$Ram" (31 : Nat) ({ cls := "BoardMachineModel$Ram", name := "isByte", desc := "(J)Z" } : Jvm.MethodName)) ∈ lw_all := lw_g (lw_at lw_m21 158 rfl) rfl
theorem q5269 : (Jvm.Cond.static ({ cls := "BoardMachineModel$Ram", name := "isByte", desc := "(J)Z" } : Jvm.MethodName)) ∈ lw_all := lw_g (lw_at lw_m21 159 rfl) rfl
theorem q5270 : (Jvm.Cond.code ({ cls := "BoardMachineModel$Ram", name := "isByte", desc := "(J)Z" } : Jvm.MethodName) prog_117_method_2_code (2 : Nat) (Option.some Jvm.ClassFile.FieldType.boolean)) ∈ lw_all := lw_g (lw_at lw_m21 160 rfl) rfl
theorem q5271 : (Jvm.Cond.constantLong "BoardMachineModel$Ram" (29 : Nat) (2151677952 : Int64)) ∈ lw_all := lw_g (lw_at lw_m21 161 rfl) rfl
theorem q5272 : (Jvm.Cond.constantLong "BoardMachineModel" (164 : Nat) (2048 : Int64)) ∈ lw_all := lw_g (lw_at lw_m21 162 rfl) rfl
theorem q5273 : (Jvm.Cond.constantLong "BoardMachineModel" (166 : Nat) (512 : Int64)) ∈ lw_all := lw_g (lw_at lw_m21 163 rfl) rfl
theorem q5274 : (Jvm.Cond.constantLong "BoardMachineModel" (168 : Nat) (1048576 : Int64)) ∈ lw_all := lw_g (lw_at lw_m21 164 rfl) rfl
theorem q5275 : (Jvm.Cond.methodLink "BoardMachineModel" (170 : Nat) ({ cls := "BoardMachineModel", name := "loadImage", desc := "()I" } : Jvm.MethodName)) ∈ lw_all := lw_g (lw_at lw_m21 165 rfl) rfl
theorem q5276 : (Jvm.Cond.privateMethod ({ cls := "BoardMachineModel", name := "loadImage", desc := "()I" } : Jvm.MethodName)) ∈ lw_tbl := lw_at lw_m21 166 rfl
theorem q5277 : (Jvm.Cond.instanceMethod ({ cls := "BoardMachineModel", name := "loadImage", desc := "()I" } : Jvm.MethodName)) ∈ lw_all := lw_g (lw_at lw_m21 167 rfl) rfl
theorem q5278 : (Jvm.Cond.code ({ cls := "BoardMachineModel", name := "loadImage", desc := "()I" } : Jvm.MethodName) prog_111_method_11_code (14 : Nat) (Option.some Jvm.ClassFile.FieldType.int)) ∈ lw_all := lw_g (lw_at lw_m21 168 rfl) rfl
theorem q5279 : (Jvm.Cond.methodLink "BoardMachineModel" (151 : Nat) ({ cls := "BoardMachineModel", name := "imageFault", desc := "()I" } : Jvm.MethodName)) ∈ lw_all := lw_g (lw_at lw_m21 169 rfl) rfl
theorem q5280 : (Jvm.Cond.privateMethod ({ cls := "BoardMachineModel", name := "imageFault", desc := "()I" } : Jvm.MethodName)) ∈ lw_tbl := lw_at lw_m21 170 rfl
theorem q5281 : (Jvm.Cond.instanceMethod ({ cls := "BoardMachineModel", name := "imageFault", desc := "()I" } : Jvm.MethodName)) ∈ lw_all := lw_g (lw_at lw_m21 171 rfl) rfl
theorem q5282 : (Jvm.Cond.code ({ cls := "BoardMachineModel", name := "imageFault", desc := "()I" } : Jvm.MethodName) prog_111_method_10_code (8 : Nat) (Option.some Jvm.ClassFile.FieldType.int)) ∈ lw_all := lw_g (lw_at lw_m21 172 rfl) rfl
theorem q5283 : (Jvm.Cond.methodLink "BoardMachineModel" (129 : Nat) ({ cls := "BoardMachineModel", name := "begins", desc := "()Z" } : Jvm.MethodName)) ∈ lw_all := lw_g (lw_at lw_m21 173 rfl) rfl
theorem q5284 : (Jvm.Cond.privateMethod ({ cls := "BoardMachineModel", name := "begins", desc := "()Z" } : Jvm.MethodName)) ∈ lw_tbl := lw_at lw_m21 174 rfl
theorem q5285 : (Jvm.Cond.instanceMethod ({ cls := "BoardMachineModel", name := "begins", desc := "()Z" } : Jvm.MethodName)) ∈ lw_all := lw_g (lw_at lw_m21 175 rfl) rfl
theorem q5286 : (Jvm.Cond.code ({ cls := "BoardMachineModel", name := "begins", desc := "()Z" } : Jvm.MethodName) prog_111_method_8_code (1 : Nat) (Option.some Jvm.ClassFile.FieldType.boolean)) ∈ lw_all := lw_g (lw_at lw_m21 176 rfl) rfl
theorem q5287 : (Jvm.Cond.methodLink "BoardMachineModel" (115 : Nat) ({ cls := "BoardMachineModel", name := "number", desc := "(II)J" } : Jvm.MethodName)) ∈ lw_all := lw_g (lw_at lw_m21 177 rfl) rfl
theorem q5288 : (Jvm.Cond.privateMethod ({ cls := "BoardMachineModel", name := "number", desc := "(II)J" } : Jvm.MethodName)) ∈ lw_tbl := lw_at lw_m21 178 rfl
theorem q5289 : (Jvm.Cond.instanceMethod ({ cls := "BoardMachineModel", name := "number", desc := "(II)J" } : Jvm.MethodName)) ∈ lw_all := lw_g (lw_at lw_m21 179 rfl) rfl
theorem q5290 : (Jvm.Cond.code ({ cls := "BoardMachineModel", name := "number", desc := "(II)J" } : Jvm.MethodName) prog_111_method_5_code (6 : Nat) (Option.some Jvm.ClassFile.FieldType.long)) ∈ lw_all := lw_g (lw_at lw_m21 180 rfl) rfl
theorem q5291 : (Jvm.Cond.constantLong "BoardMachineModel" (133 : Nat) (2 : Int64)) ∈ lw_all := lw_g (lw_at lw_m21 181 rfl) rfl
theorem q5292 : (Jvm.Cond.constantLong "BoardMachineModel" (135 : Nat) (243 : Int64)) ∈ lw_all := lw_g (lw_at lw_m21 182 rfl) rfl
theorem q5293 : (Jvm.Cond.constantLong "BoardMachineModel" (137 : Nat) (64 : Int64)) ∈ lw_all := lw_g (lw_at lw_m21 183 rfl) rfl
theorem q5294 : (Jvm.Cond.constantLong "BoardMachineModel" (139 : Nat) (56 : Int64)) ∈ lw_all := lw_g (lw_at lw_m21 184 rfl) rfl
theorem q5295 : (Jvm.Cond.constantLong "BoardMachineModel" (141 : Nat) (16 : Int64)) ∈ lw_all := lw_g (lw_at lw_m21 185 rfl) rfl
theorem q5296 : (Jvm.Cond.methodLink "BoardMachineModel" (119 : Nat) ({ cls := "BoardMachineModel", name := "isOnTape", desc := "(JJ)Z" } : Jvm.MethodName)) ∈ lw_all := lw_g (lw_at lw_m21 186 rfl) rfl
theorem q5297 : (Jvm.Cond.privateMethod ({ cls := "BoardMachineModel", name := "isOnTape", desc := "(JJ)Z" } : Jvm.MethodName)) ∈ lw_tbl := lw_at lw_m21 187 rfl
theorem q5298 : (Jvm.Cond.instanceMethod ({ cls := "BoardMachineModel", name := "isOnTape", desc := "(JJ)Z" } : Jvm.MethodName)) ∈ lw_all := lw_g (lw_at lw_m21 188 rfl) rfl
theorem q5299 : (Jvm.Cond.code ({ cls := "BoardMachineModel", name := "isOnTape", desc := "(JJ)Z" } : Jvm.MethodName) prog_111_method_6_code (5 : Nat) (Option.some Jvm.ClassFile.FieldType.boolean)) ∈ lw_all := lw_g (lw_at lw_m21 189 rfl) rfl
theorem q5300 : (Jvm.Cond.methodLink "BoardMachineModel" (143 : Nat) ({ cls := "BoardMachineModel", name := "partFault", desc := "(II)I" } : Jvm.MethodName)) ∈ lw_all := lw_g (lw_at lw_m21 190 rfl) rfl
theorem q5301 : (Jvm.Cond.privateMethod ({ cls := "BoardMachineModel", name := "partFault", desc := "(II)I" } : Jvm.MethodName)) ∈ lw_tbl := lw_at lw_m21 191 rfl
theorem q5302 : (Jvm.Cond.instanceMethod ({ cls := "BoardMachineModel", name := "partFault", desc := "(II)I" } : Jvm.MethodName)) ∈ lw_all := lw_g (lw_at lw_m21 192 rfl) rfl
theorem q5303 : (Jvm.Cond.code ({ cls := "BoardMachineModel", name := "partFault", desc := "(II)I" } : Jvm.MethodName) prog_111_method_9_code (16 : Nat) (Option.some Jvm.ClassFile.FieldType.int)) ∈ lw_all := lw_g (lw_at lw_m21 193 rfl) rfl
theorem q5304 : (Jvm.Cond.methodLink "BoardMachineModel" (123 : Nat) ({ cls := "BoardMachineModel", name := "isAbove", desc := "(JJ)Z" } : Jvm.MethodName)) ∈ lw_all := lw_g (lw_at lw_m21 194 rfl) rfl
theorem q5305 : (Jvm.Cond.static ({ cls := "BoardMachineModel", name := "isAbove", desc := "(JJ)Z" } : Jvm.MethodName)) ∈ lw_all := lw_g (lw_at lw_m21 195 rfl) rfl
theorem q5306 : (Jvm.Cond.code ({ cls := "BoardMachineModel", name := "isAbove", desc := "(JJ)Z" } : Jvm.MethodName) prog_111_method_7_code (4 : Nat) (Option.some Jvm.ClassFile.FieldType.boolean)) ∈ lw_all := lw_g (lw_at lw_m21 196 rfl) rfl
theorem q5307 : (Jvm.Cond.methodLinkNest "BoardMachineModel" (147 : Nat) ({ cls := "BoardMachineModel$Ram", name := "isByte", desc := "(J)Z" } : Jvm.MethodName) "BoardMachineModel") ∈ lw_tbl := lw_at lw_m21 197 rfl
theorem q5308 : (Jvm.Cond.methodLink "BoardMachineModel" (173 : Nat) ({ cls := "BoardMachineModel", name := "loadInput", desc := "()I" } : Jvm.MethodName)) ∈ lw_all := lw_g (lw_at lw_m21 198 rfl) rfl
theorem q5309 : (Jvm.Cond.privateMethod ({ cls := "BoardMachineModel", name := "loadInput", desc := "()I" } : Jvm.MethodName)) ∈ lw_tbl := lw_at lw_m21 199 rfl
theorem q5310 : (Jvm.Cond.instanceMethod ({ cls := "BoardMachineModel", name := "loadInput", desc := "()I" } : Jvm.MethodName)) ∈ lw_all := lw_g (lw_at lw_m21 200 rfl) rfl
theorem q5311 : (Jvm.Cond.code ({ cls := "BoardMachineModel", name := "loadInput", desc := "()I" } : Jvm.MethodName) prog_111_method_12_code (2 : Nat) (Option.some Jvm.ClassFile.FieldType.int)) ∈ lw_all := lw_g (lw_at lw_m21 201 rfl) rfl
theorem q5312 : (Jvm.Cond.methodLink "BoardMachineModel" (176 : Nat) ({ cls := "BoardMachineModel$Block", name := "setDisk", desc := "(II)V" } : Jvm.MethodName)) ∈ lw_all := lw_g (lw_at lw_m21 202 rfl) rfl
theorem q5313 : (Jvm.Cond.instanceMethod ({ cls := "BoardMachineModel$Block", name := "setDisk", desc := "(II)V" } : Jvm.MethodName)) ∈ lw_all := lw_g (lw_at lw_m21 203 rfl) rfl
theorem q5314 : (Jvm.Cond.selects "BoardMachineModel$Block" ({ cls := "BoardMachineModel$Block", name := "setDisk", desc := "(II)V" } : Jvm.MethodName) ({ cls := "BoardMachineModel$Block", name := "setDisk", desc := "(II)V" } : Jvm.MethodName)) ∈ lw_all := lw_g (lw_at lw_m21 204 rfl) rfl
theorem q5315 : (Jvm.Cond.code ({ cls := "BoardMachineModel$Block", name := "setDisk", desc := "(II)V" } : Jvm.MethodName) prog_112_method_10_code (3 : Nat) (Option.none : Option Jvm.ClassFile.FieldType)) ∈ lw_all := lw_g (lw_at lw_m21 205 rfl) rfl
theorem q5316 : (Jvm.Cond.methodLink "BoardMachineModel$Block" (61 : Nat) ({ cls := "BoardMachineModel$Block", name := "noPlace", desc := "(I)Z" } : Jvm.MethodName)) ∈ lw_all := lw_g (lw_at lw_m21 206 rfl) rfl
theorem q5317 : (Jvm.Cond.privateMethod ({ cls := "BoardMachineModel$Block", name := "noPlace", desc := "(I)Z" } : Jvm.MethodName)) ∈ lw_tbl := lw_at lw_m21 207 rfl
theorem q5318 : (Jvm.Cond.instanceMethod ({ cls := "BoardMachineModel$Block", name := "noPlace", desc := "(I)Z" } : Jvm.MethodName)) ∈ lw_all := lw_g (lw_at lw_m21 208 rfl) rfl
theorem q5319 : (Jvm.Cond.code ({ cls := "BoardMachineModel$Block", name := "noPlace", desc := "(I)Z" } : Jvm.MethodName) prog_112_method_8_code (2 : Nat) (Option.some Jvm.ClassFile.FieldType.boolean)) ∈ lw_all := lw_g (lw_at lw_m21 209 rfl) rfl
theorem q5320 : (Jvm.Cond.methodLink "BoardMachineModel$Block" (69 : Nat) ({ cls := "BoardMachineModel$Block", name := "putByte", desc := "([JII)V" } : Jvm.MethodName)) ∈ lw_all := lw_g (lw_at lw_m21 210 rfl) rfl
theorem q5321 : (Jvm.Cond.static ({ cls := "BoardMachineModel$Block", name := "putByte", desc := "([JII)V" } : Jvm.MethodName)) ∈ lw_all := lw_g (lw_at lw_m21 211 rfl) rfl
theorem q5322 : (Jvm.Cond.code ({ cls := "BoardMachineModel$Block", name := "putByte", desc := "([JII)V" } : Jvm.MethodName) prog_112_method_4_code (4 : Nat) (Option.none : Option Jvm.ClassFile.FieldType)) ∈ lw_all := lw_g (lw_at lw_m21 212 rfl) rfl
theorem q5323 : (Jvm.Cond.constantLong "BoardMachineModel$Block" (41 : Nat) (255 : Int64)) ∈ lw_all := lw_g (lw_at lw_m21 213 rfl) rfl
theorem q5324 : (Jvm.Cond.constantLong "BoardMachineModel$Block" (43 : Nat) (-1 : Int64)) ∈ lw_all := lw_g (lw_at lw_m21 214 rfl) rfl
theorem q5325 : (Jvm.Cond.methodLink "BoardMachineLaw" (91 : Nat) ({ cls := "BoardMachineModel", name := "start", desc := "()I" } : Jvm.MethodName)) ∈ lw_all := lw_g (lw_at lw_m21 215 rfl) rfl
theorem q5326 : (Jvm.Cond.instanceMethod ({ cls := "BoardMachineModel", name := "start", desc := "()I" } : Jvm.MethodName)) ∈ lw_all := lw_g (lw_at lw_m21 216 rfl) rfl
theorem q5327 : (Jvm.Cond.selects "BoardMachineModel" ({ cls := "BoardMachineModel", name := "start", desc := "()I" } : Jvm.MethodName) ({ cls := "BoardMachineModel", name := "start", desc := "()I" } : Jvm.MethodName)) ∈ lw_all := lw_g (lw_at lw_m21 217 rfl) rfl
theorem q5328 : (Jvm.Cond.code ({ cls := "BoardMachineModel", name := "start", desc := "()I" } : Jvm.MethodName) prog_111_method_15_code (1 : Nat) (Option.some Jvm.ClassFile.FieldType.int)) ∈ lw_all := lw_g (lw_at lw_m21 218 rfl) rfl
theorem q5329 : (Jvm.Cond.methodLink "BoardMachineLaw" (95 : Nat) ({ cls := "BoardMachineModel", name := "run", desc := "(I)I" } : Jvm.MethodName)) ∈ lw_all := lw_g (lw_at lw_m21 219 rfl) rfl
theorem q5330 : (Jvm.Cond.instanceMethod ({ cls := "BoardMachineModel", name := "run", desc := "(I)I" } : Jvm.MethodName)) ∈ lw_all := lw_g (lw_at lw_m21 220 rfl) rfl
theorem q5331 : (Jvm.Cond.selects "BoardMachineModel" ({ cls := "BoardMachineModel", name := "run", desc := "(I)I" } : Jvm.MethodName) ({ cls := "BoardMachineModel", name := "run", desc := "(I)I" } : Jvm.MethodName)) ∈ lw_all := lw_g (lw_at lw_m21 221 rfl) rfl
theorem q5332 : (Jvm.Cond.code ({ cls := "BoardMachineModel", name := "run", desc := "(I)I" } : Jvm.MethodName) prog_111_method_42_code (3 : Nat) (Option.some Jvm.ClassFile.FieldType.int)) ∈ lw_all := lw_g (lw_at lw_m21 222 rfl) rfl
theorem q5333 : (Jvm.Cond.methodLink "BoardMachineModel" (519 : Nat) ({ cls := "BoardMachineModel", name := "round", desc := "()V" } : Jvm.MethodName)) ∈ lw_all := lw_g (lw_at lw_m21 223 rfl) rfl
theorem q5334 : (Jvm.Cond.privateMethod ({ cls := "BoardMachineModel", name := "round", desc := "()V" } : Jvm.MethodName)) ∈ lw_tbl := lw_at lw_m21 224 rfl
theorem q5335 : (Jvm.Cond.instanceMethod ({ cls := "BoardMachineModel", name := "round", desc := "()V" } : Jvm.MethodName)) ∈ lw_all := lw_g (lw_at lw_m21 225 rfl) rfl
theorem q5336 : (Jvm.Cond.code ({ cls := "BoardMachineModel", name := "round", desc := "()V" } : Jvm.MethodName) prog_111_method_41_code (2 : Nat) (Option.none : Option Jvm.ClassFile.FieldType)) ∈ lw_all := lw_g (lw_at lw_m21 226 rfl) rfl
theorem q5337 : (Jvm.Cond.methodLink "BoardMachineModel" (499 : Nat) ({ cls := "BoardMachineModel", name := "step", desc := "(I)V" } : Jvm.MethodName)) ∈ lw_all := lw_g (lw_at lw_m21 227 rfl) rfl
theorem q5338 : (Jvm.Cond.privateMethod ({ cls := "BoardMachineModel", name := "step", desc := "(I)V" } : Jvm.MethodName)) ∈ lw_tbl := lw_at lw_m21 228 rfl
theorem q5339 : (Jvm.Cond.instanceMethod ({ cls := "BoardMachineModel", name := "step", desc := "(I)V" } : Jvm.MethodName)) ∈ lw_all := lw_g (lw_at lw_m21 229 rfl) rfl
theorem q5340 : (Jvm.Cond.code ({ cls := "BoardMachineModel", name := "step", desc := "(I)V" } : Jvm.MethodName) prog_111_method_39_code (5 : Nat) (Option.none : Option Jvm.ClassFile.FieldType)) ∈ lw_all := lw_g (lw_at lw_m21 230 rfl) rfl
theorem q5341 : (Jvm.Cond.methodLink "BoardMachineModel" (472 : Nat) ({ cls := "BoardMachineModel", name := "tell", desc := "(I)V" } : Jvm.MethodName)) ∈ lw_all := lw_g (lw_at lw_m21 231 rfl) rfl
theorem q5342 : (Jvm.Cond.privateMethod ({ cls := "BoardMachineModel", name := "tell", desc := "(I)V" } : Jvm.MethodName)) ∈ lw_tbl := lw_at lw_m21 232 rfl
theorem q5343 : (Jvm.Cond.instanceMethod ({ cls := "BoardMachineModel", name := "tell", desc := "(I)V" } : Jvm.MethodName)) ∈ lw_all := lw_g (lw_at lw_m21 233 rfl) rfl
theorem q5344 : (Jvm.Cond.code ({ cls := "BoardMachineModel", name := "tell", desc := "(I)V" } : Jvm.MethodName) prog_111_method_23_code (5 : Nat) (Option.none : Option Jvm.ClassFile.FieldType)) ∈ lw_all := lw_g (lw_at lw_m21 234 rfl) rfl
theorem q5345 : (Jvm.Cond.methodLink "BoardMachineModel" (276 : Nat) ({ cls := "BoardMachineModel$Signals", name := "line", desc := "(II)Z" } : Jvm.MethodName)) ∈ lw_all := lw_g (lw_at lw_m21 235 rfl) rfl
theorem q5346 : (Jvm.Cond.instanceMethod ({ cls := "BoardMachineModel$Signals", name := "line", desc := "(II)Z" } : Jvm.MethodName)) ∈ lw_all := lw_g (lw_at lw_m21 236 rfl) rfl
theorem q5347 : (Jvm.Cond.selects "BoardMachineModel$Signals" ({ cls := "BoardMachineModel$Signals", name := "line", desc := "(II)Z" } : Jvm.MethodName) ({ cls := "BoardMachineModel$Signals", name := "line", desc := "(II)Z" } : Jvm.MethodName)) ∈ lw_all := lw_g (lw_at lw_m21 237 rfl) rfl
theorem q5348 : (Jvm.Cond.code ({ cls := "BoardMachineModel$Signals", name := "line", desc := "(II)Z" } : Jvm.MethodName) prog_118_method_38_code (3 : Nat) (Option.some Jvm.ClassFile.FieldType.boolean)) ∈ lw_all := lw_g (lw_at lw_m21 238 rfl) rfl
theorem q5349 : (Jvm.Cond.methodLink "BoardMachineModel$Signals" (207 : Nat) ({ cls := "BoardMachineModel$Signals", name := "isLess", desc := "(JJ)Z" } : Jvm.MethodName)) ∈ lw_all := lw_g (lw_at lw_m21 239 rfl) rfl
theorem q5350 : (Jvm.Cond.static ({ cls := "BoardMachineModel$Signals", name := "isLess", desc := "(JJ)Z" } : Jvm.MethodName)) ∈ lw_all := lw_g (lw_at lw_m22 0 rfl) rfl
theorem q5351 : (Jvm.Cond.code ({ cls := "BoardMachineModel$Signals", name := "isLess", desc := "(JJ)Z" } : Jvm.MethodName) prog_118_method_4_code (4 : Nat) (Option.some Jvm.ClassFile.FieldType.boolean)) ∈ lw_all := lw_g (lw_at lw_m22 1 rfl) rfl
theorem q5352 : (Jvm.Cond.methodLink "BoardMachineModel$Signals" (211 : Nat) ({ cls := "BoardMachineModel$Signals", name := "above", desc := "(I)Z" } : Jvm.MethodName)) ∈ lw_all := lw_g (lw_at lw_m22 2 rfl) rfl
theorem q5353 : (Jvm.Cond.privateMethod ({ cls := "BoardMachineModel$Signals", name := "above", desc := "(I)Z" } : Jvm.MethodName)) ∈ lw_tbl := lw_at lw_m22 3 rfl
theorem q5354 : (Jvm.Cond.instanceMethod ({ cls := "BoardMachineModel$Signals", name := "above", desc := "(I)Z" } : Jvm.MethodName)) ∈ lw_all := lw_g (lw_at lw_m22 4 rfl) rfl
theorem q5355 : (Jvm.Cond.code ({ cls := "BoardMachineModel$Signals", name := "above", desc := "(I)Z" } : Jvm.MethodName) prog_118_method_37_code (4 : Nat) (Option.some Jvm.ClassFile.FieldType.boolean)) ∈ lw_all := lw_g (lw_at lw_m22 5 rfl) rfl
theorem q5356 : (Jvm.Cond.methodLink "BoardMachineModel$Signals" (87 : Nat) ({ cls := "BoardMachineModel$Signals", name := "enables", desc := "(II)Z" } : Jvm.MethodName)) ∈ lw_all := lw_g (lw_at lw_m22 6 rfl) rfl
theorem q5357 : (Jvm.Cond.privateMethod ({ cls := "BoardMachineModel$Signals", name := "enables", desc := "(II)Z" } : Jvm.MethodName)) ∈ lw_tbl := lw_at lw_m22 7 rfl
theorem q5358 : (Jvm.Cond.instanceMethod ({ cls := "BoardMachineModel$Signals", name := "enables", desc := "(II)Z" } : Jvm.MethodName)) ∈ lw_all := lw_g (lw_at lw_m22 8 rfl) rfl
theorem q5359 : (Jvm.Cond.code ({ cls := "BoardMachineModel$Signals", name := "enables", desc := "(II)Z" } : Jvm.MethodName) prog_118_method_11_code (3 : Nat) (Option.some Jvm.ClassFile.FieldType.boolean)) ∈ lw_all := lw_g (lw_at lw_m22 9 rfl) rfl
theorem q5360 : (Jvm.Cond.methodLink "BoardMachineModel" (279 : Nat) ({ cls := "BoardMachineModel$Desk", name := "line", desc := "(IZ)V" } : Jvm.MethodName)) ∈ lw_all := lw_g (lw_at lw_m22 10 rfl) rfl
theorem q5361 : (Jvm.Cond.instanceMethod ({ cls := "BoardMachineModel$Desk", name := "line", desc := "(IZ)V" } : Jvm.MethodName)) ∈ lw_all := lw_g (lw_at lw_m22 11 rfl) rfl
theorem q5362 : (Jvm.Cond.selects "BoardMachineModel$Desk" ({ cls := "BoardMachineModel$Desk", name := "line", desc := "(IZ)V" } : Jvm.MethodName) ({ cls := "BoardMachineModel$Desk", name := "line", desc := "(IZ)V" } : Jvm.MethodName)) ∈ lw_all := lw_g (lw_at lw_m22 12 rfl) rfl
theorem q5363 : (Jvm.Cond.code ({ cls := "BoardMachineModel$Desk", name := "line", desc := "(IZ)V" } : Jvm.MethodName) prog_114_method_32_code (3 : Nat) (Option.none : Option Jvm.ClassFile.FieldType)) ∈ lw_all := lw_g (lw_at lw_m22 13 rfl) rfl
theorem q5364 : (Jvm.Cond.methodLink "BoardMachineModel" (284 : Nat) ({ cls := "BoardMachineModel$Desk", name := "time", desc := "(J)V" } : Jvm.MethodName)) ∈ lw_all := lw_g (lw_at lw_m22 14 rfl) rfl
theorem q5365 : (Jvm.Cond.instanceMethod ({ cls := "BoardMachineModel$Desk", name := "time", desc := "(J)V" } : Jvm.MethodName)) ∈ lw_all := lw_g (lw_at lw_m22 15 rfl) rfl
theorem q5366 : (Jvm.Cond.selects "BoardMachineModel$Desk" ({ cls := "BoardMachineModel$Desk", name := "time", desc := "(J)V" } : Jvm.MethodName) ({ cls := "BoardMachineModel$Desk", name := "time", desc := "(J)V" } : Jvm.MethodName)) ∈ lw_all := lw_g (lw_at lw_m22 16 rfl) rfl
theorem q5367 : (Jvm.Cond.code ({ cls := "BoardMachineModel$Desk", name := "time", desc := "(J)V" } : Jvm.MethodName) prog_114_method_37_code (3 : Nat) (Option.none : Option Jvm.ClassFile.FieldType)) ∈ lw_all := lw_g (lw_at lw_m22 17 rfl) rfl
theorem q5368 : (Jvm.Cond.methodLink "BoardMachineModel" (286 : Nat) ({ cls := "BoardMachineModel$Desk", name := "peek", desc := "(I)J" } : Jvm.MethodName)) ∈ lw_all := lw_g (lw_at lw_m22 18 rfl) rfl
theorem q5369 : (Jvm.Cond.instanceMethod ({ cls := "BoardMachineModel$Desk", name := "peek", desc := "(I)J" } : Jvm.MethodName)) ∈ lw_all := lw_g (lw_at lw_m22 19 rfl) rfl
theorem q5370 : (Jvm.Cond.selects "BoardMachineModel$Desk" ({ cls := "BoardMachineModel$Desk", name := "peek", desc := "(I)J" } : Jvm.MethodName) ({ cls := "BoardMachineModel$Desk", name := "peek", desc := "(I)J" } : Jvm.MethodName)) ∈ lw_all := lw_g (lw_at lw_m22 20 rfl) rfl
theorem q5371 : (Jvm.Cond.code ({ cls := "BoardMachineModel$Desk", name := "peek", desc := "(I)J" } : Jvm.MethodName) prog_114_method_16_code (2 : Nat) (Option.some Jvm.ClassFile.FieldType.long)) ∈ lw_all := lw_g (lw_at lw_m22 21 rfl) rfl
theorem q5372 : (Jvm.Cond.methodLink "BoardMachineModel$Desk" (76 : Nat) ({ cls := "BoardMachineModel$Desk", name := "shown", desc := "(I)J" } : Jvm.MethodName)) ∈ lw_all := lw_g (lw_at lw_m22 22 rfl) rfl
theorem q5373 : (Jvm.Cond.privateMethod ({ cls := "BoardMachineModel$Desk", name := "shown", desc := "(I)J" } : Jvm.MethodName)) ∈ lw_tbl := lw_at lw_m22 23 rfl
theorem q5374 : (Jvm.Cond.instanceMethod ({ cls := "BoardMachineModel$Desk", name := "shown", desc := "(I)J" } : Jvm.MethodName)) ∈ lw_all := lw_g (lw_at lw_m22 24 rfl) rfl
theorem q5375 : (Jvm.Cond.code ({ cls := "BoardMachineModel$Desk", name := "shown", desc := "(I)J" } : Jvm.MethodName) prog_114_method_15_code (4 : Nat) (Option.some Jvm.ClassFile.FieldType.long)) ∈ lw_all := lw_g (lw_at lw_m22 25 rfl) rfl
theorem q5376 : (Jvm.Cond.methodLink "BoardMachineModel$Desk" (51 : Nat) ({ cls := "BoardMachineModel$Desk", name := "floating", desc := "()I" } : Jvm.MethodName)) ∈ lw_all := lw_g (lw_at lw_m22 26 rfl) rfl
theorem q5377 : (Jvm.Cond.privateMethod ({ cls := "BoardMachineModel$Desk", name := "floating", desc := "()I" } : Jvm.MethodName)) ∈ lw_tbl := lw_at lw_m22 27 rfl
theorem q5378 : (Jvm.Cond.instanceMethod ({ cls := "BoardMachineModel$Desk", name := "floating", desc := "()I" } : Jvm.MethodName)) ∈ lw_all := lw_g (lw_at lw_m22 28 rfl) rfl
theorem q5379 : (Jvm.Cond.code ({ cls := "BoardMachineModel$Desk", name := "floating", desc := "()I" } : Jvm.MethodName) prog_114_method_7_code (1 : Nat) (Option.some Jvm.ClassFile.FieldType.int)) ∈ lw_all := lw_g (lw_at lw_m22 29 rfl) rfl
theorem q5380 : (Jvm.Cond.methodLink "BoardMachineModel$Desk" (36 : Nat) ({ cls := "BoardMachineModel$Desk", name := "status", desc := "(I)I" } : Jvm.MethodName)) ∈ lw_all := lw_g (lw_at lw_m22 30 rfl) rfl
theorem q5381 : (Jvm.Cond.privateMethod ({ cls := "BoardMachineModel$Desk", name := "status", desc := "(I)I" } : Jvm.MethodName)) ∈ lw_tbl := lw_at lw_m22 31 rfl
theorem q5382 : (Jvm.Cond.instanceMethod ({ cls := "BoardMachineModel$Desk", name := "status", desc := "(I)I" } : Jvm.MethodName)) ∈ lw_all := lw_g (lw_at lw_m22 32 rfl) rfl
theorem q5383 : (Jvm.Cond.code ({ cls := "BoardMachineModel$Desk", name := "status", desc := "(I)I" } : Jvm.MethodName) prog_114_method_4_code (2 : Nat) (Option.some Jvm.ClassFile.FieldType.int)) ∈ lw_all := lw_g (lw_at lw_m22 33 rfl) rfl
theorem q5384 : (Jvm.Cond.constantLong "BoardMachineModel$Desk" (54 : Nat) (-9223372036854775808 : Int64)) ∈ lw_all := lw_g (lw_at lw_m22 34 rfl) rfl
theorem q5385 : (Jvm.Cond.constantLong "BoardMachineModel$Desk" (56 : Nat) (42949672960 : Int64)) ∈ lw_all := lw_g (lw_at lw_m22 35 rfl) rfl
theorem q5386 : (Jvm.Cond.methodLink "BoardMachineModel$Desk" (58 : Nat) ({ cls := "BoardMachineModel$Desk", name := "statusSeen", desc := "(Z)J" } : Jvm.MethodName)) ∈ lw_all := lw_g (lw_at lw_m22 36 rfl) rfl
theorem q5387 : (Jvm.Cond.static ({ cls := "BoardMachineModel$Desk", name := "statusSeen", desc := "(Z)J" } : Jvm.MethodName)) ∈ lw_all := lw_g (lw_at lw_m22 37 rfl) rfl
theorem q5388 : (Jvm.Cond.code ({ cls := "BoardMachineModel$Desk", name := "statusSeen", desc := "(Z)J" } : Jvm.MethodName) prog_114_method_14_code (6 : Nat) (Option.some Jvm.ClassFile.FieldType.long)) ∈ lw_all := lw_g (lw_at lw_m22 38 rfl) rfl
theorem q5389 : (Jvm.Cond.constantLong "BoardMachineModel$Desk" (62 : Nat) (8589934592 : Int64)) ∈ lw_all := lw_g (lw_at lw_m22 39 rfl) rfl
theorem q5390 : (Jvm.Cond.constantLong "BoardMachineModel$Desk" (64 : Nat) (-9223372036853460691 : Int64)) ∈ lw_all := lw_g (lw_at lw_m22 40 rfl) rfl
theorem q5391 : (Jvm.Cond.methodLink "BoardMachineModel$Desk" (66 : Nat) ({ cls := "BoardMachineModel$Desk", name := "lineBits", desc := "()J" } : Jvm.MethodName)) ∈ lw_all := lw_g (lw_at lw_m22 41 rfl) rfl
theorem q5392 : (Jvm.Cond.privateMethod ({ cls := "BoardMachineModel$Desk", name := "lineBits", desc := "()J" } : Jvm.MethodName)) ∈ lw_tbl := lw_at lw_m22 42 rfl
theorem q5393 : (Jvm.Cond.instanceMethod ({ cls := "BoardMachineModel$Desk", name := "lineBits", desc := "()J" } : Jvm.MethodName)) ∈ lw_all := lw_g (lw_at lw_m22 43 rfl) rfl
theorem q5394 : (Jvm.Cond.code ({ cls := "BoardMachineModel$Desk", name := "lineBits", desc := "()J" } : Jvm.MethodName) prog_114_method_13_code (4 : Nat) (Option.some Jvm.ClassFile.FieldType.long)) ∈ lw_all := lw_g (lw_at lw_m22 44 rfl) rfl
theorem q5395 : (Jvm.Cond.methodLink "BoardMachineModel$Desk" (73 : Nat) ({ cls := "BoardMachineModel$Desk", name := "isThere", desc := "(I)Z" } : Jvm.MethodName)) ∈ lw_all := lw_g (lw_at lw_m22 45 rfl) rfl
theorem q5396 : (Jvm.Cond.static ({ cls := "BoardMachineModel$Desk", name := "isThere", desc := "(I)Z" } : Jvm.MethodName)) ∈ lw_all := lw_g (lw_at lw_m22 46 rfl) rfl
theorem q5397 : (Jvm.Cond.code ({ cls := "BoardMachineModel$Desk", name := "isThere", desc := "(I)Z" } : Jvm.MethodName) prog_114_method_12_code (3 : Nat) (Option.some Jvm.ClassFile.FieldType.boolean)) ∈ lw_all := lw_g (lw_at lw_m22 47 rfl) rfl
theorem q5398 : (Jvm.Cond.methodLink "BoardMachineModel$Desk" (44 : Nat) ({ cls := "BoardMachineModel$Desk", name := "isCount", desc := "(I)Z" } : Jvm.MethodName)) ∈ lw_all := lw_g (lw_at lw_m22 48 rfl) rfl
theorem q5399 : (Jvm.Cond.static ({ cls := "BoardMachineModel$Desk", name := "isCount", desc := "(I)Z" } : Jvm.MethodName)) ∈ lw_all := lw_g (lw_at lw_m22 49 rfl) rfl
theorem q5400 : (Jvm.Cond.code ({ cls := "BoardMachineModel$Desk", name := "isCount", desc := "(I)Z" } : Jvm.MethodName) prog_114_method_11_code (1 : Nat) (Option.some Jvm.ClassFile.FieldType.boolean)) ∈ lw_all := lw_g (lw_at lw_m22 50 rfl) rfl
theorem q5401 : (Jvm.Cond.methodLink "BoardMachineModel$Desk" (48 : Nat) ({ cls := "BoardMachineModel$Desk", name := "isElsewhere", desc := "(I)Z" } : Jvm.MethodName)) ∈ lw_all := lw_g (lw_at lw_m22 51 rfl) rfl
theorem q5402 : (Jvm.Cond.static ({ cls := "BoardMachineModel$Desk", name := "isElsewhere", desc := "(I)Z" } : Jvm.MethodName)) ∈ lw_all := lw_g (lw_at lw_m22 52 rfl) rfl
theorem q5403 : (Jvm.Cond.code ({ cls := "BoardMachineModel$Desk", name := "isElsewhere", desc := "(I)Z" } : Jvm.MethodName) prog_114_method_10_code (1 : Nat) (Option.some Jvm.ClassFile.FieldType.boolean)) ∈ lw_all := lw_g (lw_at lw_m22 53 rfl) rfl
theorem q5404 : (Jvm.Cond.methodLink "BoardMachineModel" (289 : Nat) ({ cls := "BoardMachineModel$Walk", name := "setTable", desc := "(J)V" } : Jvm.MethodName)) ∈ lw_all := lw_g (lw_at lw_m22 54 rfl) rfl
theorem q5405 : (Jvm.Cond.instanceMethod ({ cls := "BoardMachineModel$Walk", name := "setTable", desc := "(J)V" } : Jvm.MethodName)) ∈ lw_all := lw_g (lw_at lw_m22 55 rfl) rfl
theorem q5406 : (Jvm.Cond.selects "BoardMachineModel$Walk" ({ cls := "BoardMachineModel$Walk", name := "setTable", desc := "(J)V" } : Jvm.MethodName) ({ cls := "BoardMachineModel$Walk", name := "setTable", desc := "(J)V" } : Jvm.MethodName)) ∈ lw_all := lw_g (lw_at lw_m22 56 rfl) rfl
theorem q5407 : (Jvm.Cond.code ({ cls := "BoardMachineModel$Walk", name := "setTable", desc := "(J)V" } : Jvm.MethodName) prog_120_method_6_code (5 : Nat) (Option.none : Option Jvm.ClassFile.FieldType)) ∈ lw_all := lw_g (lw_at lw_m22 57 rfl) rfl
theorem q5408 : (Jvm.Cond.methodLink "BoardMachineModel$Walk" (29 : Nat) ({ cls := "BoardMachineModel$Walk", name := "sortOf", desc := "(J)J" } : Jvm.MethodName)) ∈ lw_all := lw_g (lw_at lw_m22 58 rfl) rfl
theorem q5409 : (Jvm.Cond.static ({ cls := "BoardMachineModel$Walk", name := "sortOf", desc := "(J)J" } : Jvm.MethodName)) ∈ lw_all := lw_g (lw_at lw_m22 59 rfl) rfl
theorem q5410 : (Jvm.Cond.code ({ cls := "BoardMachineModel$Walk", name := "sortOf", desc := "(J)J" } : Jvm.MethodName) prog_120_method_4_code (2 : Nat) (Option.some Jvm.ClassFile.FieldType.long)) ∈ lw_all := lw_g (lw_at lw_m22 60 rfl) rfl
theorem q5411 : (Jvm.Cond.constantLong "BoardMachineModel$Walk" (33 : Nat) (8 : Int64)) ∈ lw_all := lw_g (lw_at lw_m22 61 rfl) rfl
theorem q5412 : (Jvm.Cond.constantLong "BoardMachineModel$Walk" (35 : Nat) (9 : Int64)) ∈ lw_all := lw_g (lw_at lw_m22 62 rfl) rfl
theorem q5413 : (Jvm.Cond.methodLink "BoardMachineModel" (292 : Nat) ({ cls := "BoardMachineModel$Walk", name := "rights", desc := "(ZZ)V" } : Jvm.MethodName)) ∈ lw_all := lw_g (lw_at lw_m22 63 rfl) rfl
theorem q5414 : (Jvm.Cond.instanceMethod ({ cls := "BoardMachineModel$Walk", name := "rights", desc := "(ZZ)V" } : Jvm.MethodName)) ∈ lw_all := lw_g (lw_at lw_m22 64 rfl) rfl
theorem q5415 : (Jvm.Cond.selects "BoardMachineModel$Walk" ({ cls := "BoardMachineModel$Walk", name := "rights", desc := "(ZZ)V" } : Jvm.MethodName) ({ cls := "BoardMachineModel$Walk", name := "rights", desc := "(ZZ)V" } : Jvm.MethodName)) ∈ lw_all := lw_g (lw_at lw_m22 65 rfl) rfl
theorem q5416 : (Jvm.Cond.code ({ cls := "BoardMachineModel$Walk", name := "rights", desc := "(ZZ)V" } : Jvm.MethodName) prog_120_method_7_code (3 : Nat) (Option.none : Option Jvm.ClassFile.FieldType)) ∈ lw_all := lw_g (lw_at lw_m22 66 rfl) rfl
theorem q5417 : (Jvm.Cond.methodLink "BoardMachineModel" (475 : Nat) ({ cls := "BoardMachineModel$Desk", name := "wakes", desc := "()Z" } : Jvm.MethodName)) ∈ lw_all := lw_g (lw_at lw_m22 67 rfl) rfl
theorem q5418 : (Jvm.Cond.instanceMethod ({ cls := "BoardMachineModel$Desk", name := "wakes", desc := "()Z" } : Jvm.MethodName)) ∈ lw_all := lw_g (lw_at lw_m22 68 rfl) rfl
theorem q5419 : (Jvm.Cond.selects "BoardMachineModel$Desk" ({ cls := "BoardMachineModel$Desk", name := "wakes", desc := "()Z" } : Jvm.MethodName) ({ cls := "BoardMachineModel$Desk", name := "wakes", desc := "()Z" } : Jvm.MethodName)) ∈ lw_all := lw_g (lw_at lw_m22 69 rfl) rfl
theorem q5420 : (Jvm.Cond.code ({ cls := "BoardMachineModel$Desk", name := "wakes", desc := "()Z" } : Jvm.MethodName) prog_114_method_31_code (1 : Nat) (Option.some Jvm.ClassFile.FieldType.boolean)) ∈ lw_all := lw_g (lw_at lw_m22 70 rfl) rfl
theorem q5421 : (Jvm.Cond.methodLink "BoardMachineModel" (478 : Nat) ({ cls := "BoardMachineModel$Desk", name := "taken", desc := "()I" } : Jvm.MethodName)) ∈ lw_all := lw_g (lw_at lw_m22 71 rfl) rfl
theorem q5422 : (Jvm.Cond.instanceMethod ({ cls := "BoardMachineModel$Desk", name := "taken", desc := "()I" } : Jvm.MethodName)) ∈ lw_all := lw_g (lw_at lw_m22 72 rfl) rfl
theorem q5423 : (Jvm.Cond.selects "BoardMachineModel$Desk" ({ cls := "BoardMachineModel$Desk", name := "taken", desc := "()I" } : Jvm.MethodName) ({ cls := "BoardMachineModel$Desk", name := "taken", desc := "()I" } : Jvm.MethodName)) ∈ lw_all := lw_g (lw_at lw_m22 73 rfl) rfl
theorem q5424 : (Jvm.Cond.code ({ cls := "BoardMachineModel$Desk", name := "taken", desc := "()I" } : Jvm.MethodName) prog_114_method_30_code (2 : Nat) (Option.some Jvm.ClassFile.FieldType.int)) ∈ lw_all := lw_g (lw_at lw_m22 74 rfl) rfl
theorem q5425 : (Jvm.Cond.methodLink "BoardMachineModel$Desk" (136 : Nat) ({ cls := "BoardMachineModel$Desk", name := "first", desc := "(Z)I" } : Jvm.MethodName)) ∈ lw_all := lw_g (lw_at lw_m22 75 rfl) rfl
theorem q5426 : (Jvm.Cond.privateMethod ({ cls := "BoardMachineModel$Desk", name := "first", desc := "(Z)I" } : Jvm.MethodName)) ∈ lw_tbl := lw_at lw_m22 76 rfl
theorem q5427 : (Jvm.Cond.instanceMethod ({ cls := "BoardMachineModel$Desk", name := "first", desc := "(Z)I" } : Jvm.MethodName)) ∈ lw_all := lw_g (lw_at lw_m22 77 rfl) rfl
theorem q5428 : (Jvm.Cond.code ({ cls := "BoardMachineModel$Desk", name := "first", desc := "(Z)I" } : Jvm.MethodName) prog_114_method_29_code (4 : Nat) (Option.some Jvm.ClassFile.FieldType.int)) ∈ lw_all := lw_g (lw_at lw_m22 78 rfl) rfl
theorem q5429 : (Jvm.Cond.methodLink "BoardMachineModel$Desk" (133 : Nat) ({ cls := "BoardMachineModel$Desk", name := "mayBe", desc := "(IZ)Z" } : Jvm.MethodName)) ∈ lw_all := lw_g (lw_at lw_m22 79 rfl) rfl
theorem q5430 : (Jvm.Cond.privateMethod ({ cls := "BoardMachineModel$Desk", name := "mayBe", desc := "(IZ)Z" } : Jvm.MethodName)) ∈ lw_tbl := lw_at lw_m22 80 rfl
theorem q5431 : (Jvm.Cond.instanceMethod ({ cls := "BoardMachineModel$Desk", name := "mayBe", desc := "(IZ)Z" } : Jvm.MethodName)) ∈ lw_all := lw_g (lw_at lw_m22 81 rfl) rfl
theorem q5432 : (Jvm.Cond.code ({ cls := "BoardMachineModel$Desk", name := "mayBe", desc := "(IZ)Z" } : Jvm.MethodName) prog_114_method_28_code (5 : Nat) (Option.some Jvm.ClassFile.FieldType.boolean)) ∈ lw_all := lw_g (lw_at lw_m22 82 rfl) rfl
theorem q5433 : (Jvm.Cond.methodLink "BoardMachineModel$Desk" (130 : Nat) ({ cls := "BoardMachineModel$Desk", name := "isPending", desc := "(I)Z" } : Jvm.MethodName)) ∈ lw_all := lw_g (lw_at lw_m22 83 rfl) rfl
theorem q5434 : (Jvm.Cond.privateMethod ({ cls := "BoardMachineModel$Desk", name := "isPending", desc := "(I)Z" } : Jvm.MethodName)) ∈ lw_tbl := lw_at lw_m22 84 rfl
theorem q5435 : (Jvm.Cond.instanceMethod ({ cls := "BoardMachineModel$Desk", name := "isPending", desc := "(I)Z" } : Jvm.MethodName)) ∈ lw_all := lw_g (lw_at lw_m22 85 rfl) rfl
theorem q5436 : (Jvm.Cond.code ({ cls := "BoardMachineModel$Desk", name := "isPending", desc := "(I)Z" } : Jvm.MethodName) prog_114_method_27_code (2 : Nat) (Option.some Jvm.ClassFile.FieldType.boolean)) ∈ lw_all := lw_g (lw_at lw_m22 86 rfl) rfl
theorem q5437 : (Jvm.Cond.methodLink "BoardMachineModel" (306 : Nat) ({ cls := "BoardMachineModel$Core", name := "counter", desc := "()J" } : Jvm.MethodName)) ∈ lw_all := lw_g (lw_at lw_m22 87 rfl) rfl
theorem q5438 : (Jvm.Cond.instanceMethod ({ cls := "BoardMachineModel$Core", name := "counter", desc := "()J" } : Jvm.MethodName)) ∈ lw_all := lw_g (lw_at lw_m22 88 rfl) rfl
theorem q5439 : (Jvm.Cond.selects "BoardMachineModel$Core" ({ cls := "BoardMachineModel$Core", name := "counter", desc := "()J" } : Jvm.MethodName) ({ cls := "BoardMachineModel$Core", name := "counter", desc := "()J" } : Jvm.MethodName)) ∈ lw_all := lw_g (lw_at lw_m22 89 rfl) rfl
theorem q5440 : (Jvm.Cond.code ({ cls := "BoardMachineModel$Core", name := "counter", desc := "()J" } : Jvm.MethodName) prog_113_method_8_code (1 : Nat) (Option.some Jvm.ClassFile.FieldType.long)) ∈ lw_all := lw_g (lw_at lw_m22 90 rfl) rfl
theorem q5441 : (Jvm.Cond.methodLink "BoardMachineModel" (481 : Nat) ({ cls := "BoardMachineModel$Desk", name := "trap", desc := "(ZIJJ)J" } : Jvm.MethodName)) ∈ lw_all := lw_g (lw_at lw_m22 91 rfl) rfl
theorem q5442 : (Jvm.Cond.instanceMethod ({ cls := "BoardMachineModel$Desk", name := "trap", desc := "(ZIJJ)J" } : Jvm.MethodName)) ∈ lw_all := lw_g (lw_at lw_m22 92 rfl) rfl
theorem q5443 : (Jvm.Cond.selects "BoardMachineModel$Desk" ({ cls := "BoardMachineModel$Desk", name := "trap", desc := "(ZIJJ)J" } : Jvm.MethodName) ({ cls := "BoardMachineModel$Desk", name := "trap", desc := "(ZIJJ)J" } : Jvm.MethodName)) ∈ lw_all := lw_g (lw_at lw_m22 93 rfl) rfl
theorem q5444 : (Jvm.Cond.code ({ cls := "BoardMachineModel$Desk", name := "trap", desc := "(ZIJJ)J" } : Jvm.MethodName) prog_114_method_24_code (11 : Nat) (Option.some Jvm.ClassFile.FieldType.long)) ∈ lw_all := lw_g (lw_at lw_m22 94 rfl) rfl
theorem q5445 : (Jvm.Cond.constantLong "BoardMachineModel$Desk" (102 : Nat) (-2 : Int64)) ∈ lw_all := lw_g (lw_at lw_m22 95 rfl) rfl
theorem q5446 : (Jvm.Cond.methodLink "BoardMachineModel$Desk" (84 : Nat) ({ cls := "BoardMachineModel$Desk", name := "put", desc := "(II)V" } : Jvm.MethodName)) ∈ lw_all := lw_g (lw_at lw_m22 96 rfl) rfl
theorem q5447 : (Jvm.Cond.privateMethod ({ cls := "BoardMachineModel$Desk", name := "put", desc := "(II)V" } : Jvm.MethodName)) ∈ lw_tbl := lw_at lw_m22 97 rfl
theorem q5448 : (Jvm.Cond.instanceMethod ({ cls := "BoardMachineModel$Desk", name := "put", desc := "(II)V" } : Jvm.MethodName)) ∈ lw_all := lw_g (lw_at lw_m22 98 rfl) rfl
theorem q5449 : (Jvm.Cond.code ({ cls := "BoardMachineModel$Desk", name := "put", desc := "(II)V" } : Jvm.MethodName) prog_114_method_5_code (3 : Nat) (Option.none : Option Jvm.ClassFile.FieldType)) ∈ lw_all := lw_g (lw_at lw_m22 99 rfl) rfl
theorem q5450 : (Jvm.Cond.constantLong "BoardMachineModel$Desk" (34 : Nat) (-1 : Int64)) ∈ lw_all := lw_g (lw_at lw_m22 100 rfl) rfl
theorem q5451 : (Jvm.Cond.methodLink "BoardMachineModel$Desk" (126 : Nat) ({ cls := "BoardMachineModel$Desk", name := "beginning", desc := "(JZI)J" } : Jvm.MethodName)) ∈ lw_all := lw_g (lw_at lw_m22 101 rfl) rfl
theorem q5452 : (Jvm.Cond.static ({ cls := "BoardMachineModel$Desk", name := "beginning", desc := "(JZI)J" } : Jvm.MethodName)) ∈ lw_all := lw_g (lw_at lw_m22 102 rfl) rfl
theorem q5453 : (Jvm.Cond.code ({ cls := "BoardMachineModel$Desk", name := "beginning", desc := "(JZI)J" } : Jvm.MethodName) prog_114_method_23_code (6 : Nat) (Option.some Jvm.ClassFile.FieldType.long)) ∈ lw_all := lw_g (lw_at lw_m22 103 rfl) rfl
theorem q5454 : (Jvm.Cond.constantLong "BoardMachineModel$Desk" (122 : Nat) (-4 : Int64)) ∈ lw_all := lw_g (lw_at lw_m22 104 rfl) rfl
theorem q5455 : (Jvm.Cond.constantLong "BoardMachineModel$Desk" (124 : Nat) (4 : Int64)) ∈ lw_all := lw_g (lw_at lw_m22 105 rfl) rfl
theorem q5456 : (Jvm.Cond.methodLink "BoardMachineModel" (446 : Nat) ({ cls := "BoardMachineModel$Core", name := "jump", desc := "(J)V" } : Jvm.MethodName)) ∈ lw_all := lw_g (lw_at lw_m22 106 rfl) rfl
theorem q5457 : (Jvm.Cond.instanceMethod ({ cls := "BoardMachineModel$Core", name := "jump", desc := "(J)V" } : Jvm.MethodName)) ∈ lw_all := lw_g (lw_at lw_m22 107 rfl) rfl
theorem q5458 : (Jvm.Cond.selects "BoardMachineModel$Core" ({ cls := "BoardMachineModel$Core", name := "jump", desc := "(J)V" } : Jvm.MethodName) ({ cls := "BoardMachineModel$Core", name := "jump", desc := "(J)V" } : Jvm.MethodName)) ∈ lw_all := lw_g (lw_at lw_m22 108 rfl) rfl
theorem q5459 : (Jvm.Cond.code ({ cls := "BoardMachineModel$Core", name := "jump", desc := "(J)V" } : Jvm.MethodName) prog_113_method_9_code (3 : Nat) (Option.none : Option Jvm.ClassFile.FieldType)) ∈ lw_all := lw_g (lw_at lw_m22 109 rfl) rfl
theorem q5460 : (Jvm.Cond.methodLink "BoardMachineModel" (485 : Nat) ({ cls := "BoardMachineModel", name := "fetch", desc := "(I)Z" } : Jvm.MethodName)) ∈ lw_all := lw_g (lw_at lw_m22 110 rfl) rfl
theorem q5461 : (Jvm.Cond.privateMethod ({ cls := "BoardMachineModel", name := "fetch", desc := "(I)Z" } : Jvm.MethodName)) ∈ lw_tbl := lw_at lw_m22 111 rfl
theorem q5462 : (Jvm.Cond.instanceMethod ({ cls := "BoardMachineModel", name := "fetch", desc := "(I)Z" } : Jvm.MethodName)) ∈ lw_all := lw_g (lw_at lw_m22 112 rfl) rfl
theorem q5463 : (Jvm.Cond.code ({ cls := "BoardMachineModel", name := "fetch", desc := "(I)Z" } : Jvm.MethodName) prog_111_method_25_code (6 : Nat) (Option.some Jvm.ClassFile.FieldType.boolean)) ∈ lw_all := lw_g (lw_at lw_m22 113 rfl) rfl
theorem q5464 : (Jvm.Cond.methodLink "BoardMachineModel" (310 : Nat) ({ cls := "BoardMachineModel", name := "half", desc := "(IJ)I" } : Jvm.MethodName)) ∈ lw_all := lw_g (lw_at lw_m22 114 rfl) rfl
theorem q5465 : (Jvm.Cond.privateMethod ({ cls := "BoardMachineModel", name := "half", desc := "(IJ)I" } : Jvm.MethodName)) ∈ lw_tbl := lw_at lw_m22 115 rfl
theorem q5466 : (Jvm.Cond.instanceMethod ({ cls := "BoardMachineModel", name := "half", desc := "(IJ)I" } : Jvm.MethodName)) ∈ lw_all := lw_g (lw_at lw_m22 116 rfl) rfl
theorem q5467 : (Jvm.Cond.code ({ cls := "BoardMachineModel", name := "half", desc := "(IJ)I" } : Jvm.MethodName) prog_111_method_24_code (7 : Nat) (Option.some Jvm.ClassFile.FieldType.int)) ∈ lw_all := lw_g (lw_at lw_m22 117 rfl) rfl
theorem q5468 : (Jvm.Cond.methodLink "BoardMachineModel" (296 : Nat) ({ cls := "BoardMachineModel$Desk", name := "mode", desc := "()I" } : Jvm.MethodName)) ∈ lw_all := lw_g (lw_at lw_m22 118 rfl) rfl
theorem q5469 : (Jvm.Cond.instanceMethod ({ cls := "BoardMachineModel$Desk", name := "mode", desc := "()I" } : Jvm.MethodName)) ∈ lw_all := lw_g (lw_at lw_m22 119 rfl) rfl
theorem q5470 : (Jvm.Cond.selects "BoardMachineModel$Desk" ({ cls := "BoardMachineModel$Desk", name := "mode", desc := "()I" } : Jvm.MethodName) ({ cls := "BoardMachineModel$Desk", name := "mode", desc := "()I" } : Jvm.MethodName)) ∈ lw_all := lw_g (lw_at lw_m22 120 rfl) rfl
theorem q5471 : (Jvm.Cond.code ({ cls := "BoardMachineModel$Desk", name := "mode", desc := "()I" } : Jvm.MethodName) prog_114_method_8_code (1 : Nat) (Option.some Jvm.ClassFile.FieldType.int)) ∈ lw_all := lw_g (lw_at lw_m22 121 rfl) rfl
theorem q5472 : (Jvm.Cond.methodLink "BoardMachineModel" (299 : Nat) ({ cls := "BoardMachineModel$Walk", name := "find", desc := "(JIII)J" } : Jvm.MethodName)) ∈ lw_all := lw_g (lw_at lw_m22 122 rfl) rfl
theorem q5473 : (Jvm.Cond.instanceMethod ({ cls := "BoardMachineModel$Walk", name := "find", desc := "(JIII)J" } : Jvm.MethodName)) ∈ lw_all := lw_g (lw_at lw_m22 123 rfl) rfl
theorem q5474 : (Jvm.Cond.selects "BoardMachineModel$Walk" ({ cls := "BoardMachineModel$Walk", name := "find", desc := "(JIII)J" } : Jvm.MethodName) ({ cls := "BoardMachineModel$Walk", name := "find", desc := "(JIII)J" } : Jvm.MethodName)) ∈ lw_all := lw_g (lw_at lw_m22 124 rfl) rfl
theorem q5475 : (Jvm.Cond.code ({ cls := "BoardMachineModel$Walk", name := "find", desc := "(JIII)J" } : Jvm.MethodName) prog_120_method_28_code (9 : Nat) (Option.some Jvm.ClassFile.FieldType.long)) ∈ lw_all := lw_g (lw_at lw_m22 125 rfl) rfl
theorem q5476 : (Jvm.Cond.methodLink "BoardMachineModel$Walk" (76 : Nat) ({ cls := "BoardMachineModel$Walk", name := "isAccess", desc := "(III)Z" } : Jvm.MethodName)) ∈ lw_all := lw_g (lw_at lw_m22 126 rfl) rfl
theorem q5477 : (Jvm.Cond.static ({ cls := "BoardMachineModel$Walk", name := "isAccess", desc := "(III)Z" } : Jvm.MethodName)) ∈ lw_all := lw_g (lw_at lw_m22 127 rfl) rfl
theorem q5478 : (Jvm.Cond.code ({ cls := "BoardMachineModel$Walk", name := "isAccess", desc := "(III)Z" } : Jvm.MethodName) prog_120_method_17_code (4 : Nat) (Option.some Jvm.ClassFile.FieldType.boolean)) ∈ lw_all := lw_g (lw_at lw_m22 128 rfl) rfl
theorem q5479 : (Jvm.Cond.methodLink "BoardMachineModel$Walk" (80 : Nat) ({ cls := "BoardMachineModel$Walk", name := "isWithin", desc := "(JI)Z" } : Jvm.MethodName)) ∈ lw_all := lw_g (lw_at lw_m22 129 rfl) rfl
theorem q5480 : (Jvm.Cond.static ({ cls := "BoardMachineModel$Walk", name := "isWithin", desc := "(JI)Z" } : Jvm.MethodName)) ∈ lw_all := lw_g (lw_at lw_m22 130 rfl) rfl
theorem q5481 : (Jvm.Cond.code ({ cls := "BoardMachineModel$Walk", name := "isWithin", desc := "(JI)Z" } : Jvm.MethodName) prog_120_method_18_code (3 : Nat) (Option.some Jvm.ClassFile.FieldType.boolean)) ∈ lw_all := lw_g (lw_at lw_m22 131 rfl) rfl
theorem q5482 : (Jvm.Cond.constantLong "BoardMachineModel$Walk" (72 : Nat) (4095 : Int64)) ∈ lw_all := lw_g (lw_at lw_m22 132 rfl) rfl
theorem q5483 : (Jvm.Cond.constantLong "BoardMachineModel$Walk" (74 : Nat) (4096 : Int64)) ∈ lw_all := lw_g (lw_at lw_m22 133 rfl) rfl
theorem q5484 : (Jvm.Cond.methodLink "BoardMachineModel$Walk" (117 : Nat) ({ cls := "BoardMachineModel$Walk", name := "accessFault", desc := "(I)J" } : Jvm.MethodName)) ∈ lw_all := lw_g (lw_at lw_m22 134 rfl) rfl
theorem q5485 : (Jvm.Cond.static ({ cls := "BoardMachineModel$Walk", name := "accessFault", desc := "(I)J" } : Jvm.MethodName)) ∈ lw_all := lw_g (lw_at lw_m22 135 rfl) rfl
theorem q5486 : (Jvm.Cond.code ({ cls := "BoardMachineModel$Walk", name := "accessFault", desc := "(I)J" } : Jvm.MethodName) prog_120_method_20_code (1 : Nat) (Option.some Jvm.ClassFile.FieldType.long)) ∈ lw_all := lw_g (lw_at lw_m22 136 rfl) rfl
theorem q5487 : (Jvm.Cond.constantLong "BoardMachineModel$Walk" (88 : Nat) (-1 : Int64)) ∈ lw_all := lw_g (lw_at lw_m22 137 rfl) rfl
theorem q5488 : (Jvm.Cond.constantLong "BoardMachineModel$Walk" (90 : Nat) (-5 : Int64)) ∈ lw_all := lw_g (lw_at lw_m22 138 rfl) rfl
theorem q5489 : (Jvm.Cond.constantLong "BoardMachineModel$Walk" (92 : Nat) (-7 : Int64)) ∈ lw_all := lw_g (lw_at lw_m22 139 rfl) rfl
theorem q5490 : (Jvm.Cond.methodLink "BoardMachineModel$Walk" (147 : Nat) ({ cls := "BoardMachineModel$Walk", name := "walk", desc := "(JII)J" } : Jvm.MethodName)) ∈ lw_all := lw_g (lw_at lw_m22 140 rfl) rfl
theorem q5491 : (Jvm.Cond.privateMethod ({ cls := "BoardMachineModel$Walk", name := "walk", desc := "(JII)J" } : Jvm.MethodName)) ∈ lw_tbl := lw_at lw_m22 141 rfl
theorem q5492 : (Jvm.Cond.instanceMethod ({ cls := "BoardMachineModel$Walk", name := "walk", desc := "(JII)J" } : Jvm.MethodName)) ∈ lw_all := lw_g (lw_at lw_m22 142 rfl) rfl
theorem q5493 : (Jvm.Cond.code ({ cls := "BoardMachineModel$Walk", name := "walk", desc := "(JII)J" } : Jvm.MethodName) prog_120_method_26_code (15 : Nat) (Option.some Jvm.ClassFile.FieldType.long)) ∈ lw_all := lw_g (lw_at lw_m22 143 rfl) rfl
theorem q5494 : (Jvm.Cond.methodLink "BoardMachineModel$Walk" (105 : Nat) ({ cls := "BoardMachineModel$Walk", name := "pageFault", desc := "(I)J" } : Jvm.MethodName)) ∈ lw_all := lw_g (lw_at lw_m22 144 rfl) rfl
theorem q5495 : (Jvm.Cond.static ({ cls := "BoardMachineModel$Walk", name := "pageFault", desc := "(I)J" } : Jvm.MethodName)) ∈ lw_all := lw_g (lw_at lw_m22 145 rfl) rfl
theorem q5496 : (Jvm.Cond.code ({ cls := "BoardMachineModel$Walk", name := "pageFault", desc := "(I)J" } : Jvm.MethodName) prog_120_method_21_code (1 : Nat) (Option.some Jvm.ClassFile.FieldType.long)) ∈ lw_all := lw_g (lw_at lw_m22 146 rfl) rfl
theorem q5497 : (Jvm.Cond.constantLong "BoardMachineModel$Walk" (94 : Nat) (-12 : Int64)) ∈ lw_all := lw_g (lw_at lw_m22 147 rfl) rfl
theorem q5498 : (Jvm.Cond.constantLong "BoardMachineModel$Walk" (96 : Nat) (-13 : Int64)) ∈ lw_all := lw_g (lw_at lw_m22 148 rfl) rfl
theorem q5499 : (Jvm.Cond.constantLong "BoardMachineModel$Walk" (98 : Nat) (-15 : Int64)) ∈ lw_all := lw_g (lw_at lw_m22 149 rfl) rfl
theorem q5500 : (Jvm.Cond.constantLong "BoardMachineModel$Walk" (100 : Nat) (17592186044415 : Int64)) ∈ lw_all := lw_g (lw_at lw_m22 150 rfl) rfl
theorem q5501 : (Jvm.Cond.constantLong "BoardMachineModel$Walk" (109 : Nat) (511 : Int64)) ∈ lw_all := lw_g (lw_at lw_m22 151 rfl) rfl
theorem q5502 : (Jvm.Cond.methodLinkNest "BoardMachineModel$Walk" (111 : Nat) ({ cls := "BoardMachineModel$Ram", name := "areBytes", desc := "(JJ)Z" } : Jvm.MethodName) "BoardMachineModel") ∈ lw_tbl := lw_at lw_m22 152 rfl
theorem q5503 : (Jvm.Cond.methodLink "BoardMachineModel$Walk" (84 : Nat) ({ cls := "BoardMachineModel$Walk", name := "isLet", desc := "(JIII)Z" } : Jvm.MethodName)) ∈ lw_all := lw_g (lw_at lw_m22 153 rfl) rfl
theorem q5504 : (Jvm.Cond.privateMethod ({ cls := "BoardMachineModel$Walk", name := "isLet", desc := "(JIII)Z" } : Jvm.MethodName)) ∈ lw_tbl := lw_at lw_m22 154 rfl
theorem q5505 : (Jvm.Cond.instanceMethod ({ cls := "BoardMachineModel$Walk", name := "isLet", desc := "(JIII)Z" } : Jvm.MethodName)) ∈ lw_all := lw_g (lw_at lw_m22 155 rfl) rfl
theorem q5506 : (Jvm.Cond.code ({ cls := "BoardMachineModel$Walk", name := "isLet", desc := "(JIII)Z" } : Jvm.MethodName) prog_120_method_15_code (9 : Nat) (Option.some Jvm.ClassFile.FieldType.boolean)) ∈ lw_all := lw_g (lw_at lw_m22 156 rfl) rfl
theorem q5507 : (Jvm.Cond.methodLink "BoardMachineModel$Walk" (68 : Nat) ({ cls := "BoardMachineModel$Walk", name := "cover", desc := "(I)V" } : Jvm.MethodName)) ∈ lw_all := lw_g (lw_at lw_m22 157 rfl) rfl
theorem q5508 : (Jvm.Cond.privateMethod ({ cls := "BoardMachineModel$Walk", name := "cover", desc := "(I)V" } : Jvm.MethodName)) ∈ lw_tbl := lw_at lw_m22 158 rfl
theorem q5509 : (Jvm.Cond.instanceMethod ({ cls := "BoardMachineModel$Walk", name := "cover", desc := "(I)V" } : Jvm.MethodName)) ∈ lw_all := lw_g (lw_at lw_m22 159 rfl) rfl
theorem q5510 : (Jvm.Cond.code ({ cls := "BoardMachineModel$Walk", name := "cover", desc := "(I)V" } : Jvm.MethodName) prog_120_method_14_code (9 : Nat) (Option.none : Option Jvm.ClassFile.FieldType)) ∈ lw_all := lw_g (lw_at lw_m22 160 rfl) rfl
theorem q5511 : (Jvm.Cond.methodLink "BoardMachineModel$Walk" (50 : Nat) ({ cls := "BoardMachineModel$Walk", name := "kind", desc := "(I)I" } : Jvm.MethodName)) ∈ lw_all := lw_g (lw_at lw_m22 161 rfl) rfl
theorem q5512 : (Jvm.Cond.privateMethod ({ cls := "BoardMachineModel$Walk", name := "kind", desc := "(I)I" } : Jvm.MethodName)) ∈ lw_tbl := lw_at lw_m22 162 rfl
theorem q5513 : (Jvm.Cond.instanceMethod ({ cls := "BoardMachineModel$Walk", name := "kind", desc := "(I)I" } : Jvm.MethodName)) ∈ lw_all := lw_g (lw_at lw_m22 163 rfl) rfl
theorem q5514 : (Jvm.Cond.code ({ cls := "BoardMachineModel$Walk", name := "kind", desc := "(I)I" } : Jvm.MethodName) prog_120_method_9_code (2 : Nat) (Option.some Jvm.ClassFile.FieldType.int)) ∈ lw_all := lw_g (lw_at lw_m22 164 rfl) rfl
theorem q5515 : (Jvm.Cond.constantLong "BoardMachineModel$Walk" (62 : Nat) (4 : Int64)) ∈ lw_all := lw_g (lw_at lw_m22 165 rfl) rfl
theorem q5516 : (Jvm.Cond.constantLong "BoardMachineModel$Walk" (64 : Nat) (18014398509481984 : Int64)) ∈ lw_all := lw_g (lw_at lw_m22 166 rfl) rfl
theorem q5517 : (Jvm.Cond.constantLong "BoardMachineModel$Walk" (66 : Nat) (2 : Int64)) ∈ lw_all := lw_g (lw_at lw_m22 167 rfl) rfl
theorem q5518 : (Jvm.Cond.methodLink "BoardMachineModel$Walk" (46 : Nat) ({ cls := "BoardMachineModel$Walk", name := "has", desc := "(II)Z" } : Jvm.MethodName)) ∈ lw_all := lw_g (lw_at lw_m22 168 rfl) rfl
theorem q5519 : (Jvm.Cond.privateMethod ({ cls := "BoardMachineModel$Walk", name := "has", desc := "(II)Z" } : Jvm.MethodName)) ∈ lw_tbl := lw_at lw_m22 169 rfl
theorem q5520 : (Jvm.Cond.instanceMethod ({ cls := "BoardMachineModel$Walk", name := "has", desc := "(II)Z" } : Jvm.MethodName)) ∈ lw_all := lw_g (lw_at lw_m22 170 rfl) rfl
theorem q5521 : (Jvm.Cond.code ({ cls := "BoardMachineModel$Walk", name := "has", desc := "(II)Z" } : Jvm.MethodName) prog_120_method_8_code (3 : Nat) (Option.some Jvm.ClassFile.FieldType.boolean)) ∈ lw_all := lw_g (lw_at lw_m22 171 rfl) rfl
theorem q5522 : (Jvm.Cond.methodLinkNest "BoardMachineModel$Walk" (120 : Nat) ({ cls := "BoardMachineModel$Ram", name := "number", desc := "(JI)J" } : Jvm.MethodName) "BoardMachineModel") ∈ lw_tbl := lw_at lw_m22 172 rfl
theorem q5523 : (Jvm.Cond.privateMethod ({ cls := "BoardMachineModel$Ram", name := "number", desc := "(JI)J" } : Jvm.MethodName)) ∈ lw_tbl := lw_at lw_m22 173 rfl
theorem q5524 : (Jvm.Cond.instanceMethod ({ cls := "BoardMachineModel$Ram", name := "number", desc := "(JI)J" } : Jvm.MethodName)) ∈ lw_all := lw_g (lw_at lw_m22 174 rfl) rfl
theorem q5525 : (Jvm.Cond.code ({ cls := "BoardMachineModel$Ram", name := "number", desc := "(JI)J" } : Jvm.MethodName) prog_117_method_6_code (7 : Nat) (Option.some Jvm.ClassFile.FieldType.long)) ∈ lw_all := lw_g (lw_at lw_m22 175 rfl) rfl
theorem q5526 : (Jvm.Cond.constantLong "BoardMachineModel$Ram" (41 : Nat) (256 : Int64)) ∈ lw_all := lw_g (lw_at lw_m22 176 rfl) rfl
theorem q5527 : (Jvm.Cond.methodLink "BoardMachineModel$Ram" (43 : Nat) ({ cls := "BoardMachineModel$Ram", name := "get", desc := "(J)I" } : Jvm.MethodName)) ∈ lw_all := lw_g (lw_at lw_m22 177 rfl) rfl
theorem q5528 : (Jvm.Cond.privateMethod ({ cls := "BoardMachineModel$Ram", name := "get", desc := "(J)I" } : Jvm.MethodName)) ∈ lw_tbl := lw_at lw_m22 178 rfl
theorem q5529 : (Jvm.Cond.instanceMethod ({ cls := "BoardMachineModel$Ram", name := "get", desc := "(J)I" } : Jvm.MethodName)) ∈ lw_all := lw_g (lw_at lw_m22 179 rfl) rfl
theorem q5530 : (Jvm.Cond.code ({ cls := "BoardMachineModel$Ram", name := "get", desc := "(J)I" } : Jvm.MethodName) prog_117_method_4_code (4 : Nat) (Option.some Jvm.ClassFile.FieldType.int)) ∈ lw_all := lw_g (lw_at lw_m22 180 rfl) rfl
theorem q5531 : (Jvm.Cond.methodLink "BoardMachineModel$Walk" (124 : Nat) ({ cls := "BoardMachineModel$Walk", name := "isBroken", desc := "(J)Z" } : Jvm.MethodName)) ∈ lw_all := lw_g (lw_at lw_m22 181 rfl) rfl
theorem q5532 : (Jvm.Cond.static ({ cls := "BoardMachineModel$Walk", name := "isBroken", desc := "(J)Z" } : Jvm.MethodName)) ∈ lw_all := lw_g (lw_at lw_m22 182 rfl) rfl
theorem q5533 : (Jvm.Cond.code ({ cls := "BoardMachineModel$Walk", name := "isBroken", desc := "(J)Z" } : Jvm.MethodName) prog_120_method_24_code (2 : Nat) (Option.some Jvm.ClassFile.FieldType.boolean)) ∈ lw_all := lw_g (lw_at lw_m22 183 rfl) rfl
theorem q5534 : (Jvm.Cond.methodLink "BoardMachineModel$Walk" (102 : Nat) ({ cls := "BoardMachineModel$Walk", name := "bit", desc := "(JI)Z" } : Jvm.MethodName)) ∈ lw_all := lw_g (lw_at lw_m22 184 rfl) rfl
theorem q5535 : (Jvm.Cond.static ({ cls := "BoardMachineModel$Walk", name := "bit", desc := "(JI)Z" } : Jvm.MethodName)) ∈ lw_all := lw_g (lw_at lw_m22 185 rfl) rfl
theorem q5536 : (Jvm.Cond.code ({ cls := "BoardMachineModel$Walk", name := "bit", desc := "(JI)Z" } : Jvm.MethodName) prog_120_method_22_code (3 : Nat) (Option.some Jvm.ClassFile.FieldType.boolean)) ∈ lw_all := lw_g (lw_at lw_m22 186 rfl) rfl
theorem q5537 : (Jvm.Cond.methodLink "BoardMachineModel$Walk" (128 : Nat) ({ cls := "BoardMachineModel$Walk", name := "last", desc := "(JIIJI)J" } : Jvm.MethodName)) ∈ lw_all := lw_g (lw_at lw_m22 187 rfl) rfl
theorem q5538 : (Jvm.Cond.privateMethod ({ cls := "BoardMachineModel$Walk", name := "last", desc := "(JIIJI)J" } : Jvm.MethodName)) ∈ lw_tbl := lw_at lw_m22 188 rfl
theorem q5539 : (Jvm.Cond.instanceMethod ({ cls := "BoardMachineModel$Walk", name := "last", desc := "(JIIJI)J" } : Jvm.MethodName)) ∈ lw_all := lw_g (lw_at lw_m22 189 rfl) rfl
theorem q5540 : (Jvm.Cond.code ({ cls := "BoardMachineModel$Walk", name := "last", desc := "(JIIJI)J" } : Jvm.MethodName) prog_120_method_27_code (12 : Nat) (Option.some Jvm.ClassFile.FieldType.long)) ∈ lw_all := lw_g (lw_at lw_m22 190 rfl) rfl
theorem q5541 : (Jvm.Cond.methodLink "BoardMachineModel$Walk" (132 : Nat) ({ cls := "BoardMachineModel$Walk", name := "numberIn", desc := "(J)J" } : Jvm.MethodName)) ∈ lw_all := lw_g (lw_at lw_m22 191 rfl) rfl
theorem q5542 : (Jvm.Cond.static ({ cls := "BoardMachineModel$Walk", name := "numberIn", desc := "(J)J" } : Jvm.MethodName)) ∈ lw_all := lw_g (lw_at lw_m22 192 rfl) rfl
theorem q5543 : (Jvm.Cond.code ({ cls := "BoardMachineModel$Walk", name := "numberIn", desc := "(J)J" } : Jvm.MethodName) prog_120_method_23_code (2 : Nat) (Option.some Jvm.ClassFile.FieldType.long)) ∈ lw_all := lw_g (lw_at lw_m22 193 rfl) rfl
theorem q5544 : (Jvm.Cond.methodLink "BoardMachineModel$Walk" (135 : Nat) ({ cls := "BoardMachineModel$Walk", name := "refuses", desc := "(JII)Z" } : Jvm.MethodName)) ∈ lw_all := lw_g (lw_at lw_m22 194 rfl) rfl
theorem q5545 : (Jvm.Cond.privateMethod ({ cls := "BoardMachineModel$Walk", name := "refuses", desc := "(JII)Z" } : Jvm.MethodName)) ∈ lw_tbl := lw_at lw_m22 195 rfl
theorem q5546 : (Jvm.Cond.instanceMethod ({ cls := "BoardMachineModel$Walk", name := "refuses", desc := "(JII)Z" } : Jvm.MethodName)) ∈ lw_all := lw_g (lw_at lw_m22 196 rfl) rfl
theorem q5547 : (Jvm.Cond.code ({ cls := "BoardMachineModel$Walk", name := "refuses", desc := "(JII)Z" } : Jvm.MethodName) prog_120_method_25_code (6 : Nat) (Option.some Jvm.ClassFile.FieldType.boolean)) ∈ lw_all := lw_g (lw_at lw_m22 197 rfl) rfl
theorem q5548 : (Jvm.Cond.constantLong "BoardMachineModel$Walk" (139 : Nat) (192 : Int64)) ∈ lw_all := lw_g (lw_at lw_m22 198 rfl) rfl
theorem q5549 : (Jvm.Cond.constantLong "BoardMachineModel$Walk" (141 : Nat) (64 : Int64)) ∈ lw_all := lw_g (lw_at lw_m22 199 rfl) rfl
theorem q5550 : (Jvm.Cond.methodLinkNest "BoardMachineModel$Walk" (143 : Nat) ({ cls := "BoardMachineModel$Ram", name := "keep", desc := "(JIJ)V" } : Jvm.MethodName) "BoardMachineModel") ∈ lw_tbl := lw_at lw_m22 200 rfl
theorem q5551 : (Jvm.Cond.privateMethod ({ cls := "BoardMachineModel$Ram", name := "keep", desc := "(JIJ)V" } : Jvm.MethodName)) ∈ lw_tbl := lw_at lw_m22 201 rfl
theorem q5552 : (Jvm.Cond.instanceMethod ({ cls := "BoardMachineModel$Ram", name := "keep", desc := "(JIJ)V" } : Jvm.MethodName)) ∈ lw_all := lw_g (lw_at lw_m22 202 rfl) rfl
theorem q5553 : (Jvm.Cond.code ({ cls := "BoardMachineModel$Ram", name := "keep", desc := "(JIJ)V" } : Jvm.MethodName) prog_117_method_7_code (7 : Nat) (Option.none : Option Jvm.ClassFile.FieldType)) ∈ lw_all := lw_g (lw_at lw_m22 203 rfl) rfl
theorem q5554 : (Jvm.Cond.methodLink "BoardMachineModel$Ram" (47 : Nat) ({ cls := "BoardMachineModel$Ram", name := "put", desc := "(JI)V" } : Jvm.MethodName)) ∈ lw_all := lw_g (lw_at lw_m22 204 rfl) rfl
theorem q5555 : (Jvm.Cond.methodLink "BoardMachineModel" (272 : Nat) ({ cls := "BoardMachineModel", name := "fail", desc := "(IJ)Z" } : Jvm.MethodName)) ∈ lw_all := lw_g (lw_at lw_m22 205 rfl) rfl
theorem q5556 : (Jvm.Cond.privateMethod ({ cls := "BoardMachineModel", name := "fail", desc := "(IJ)Z" } : Jvm.MethodName)) ∈ lw_tbl := lw_at lw_m22 206 rfl
theorem q5557 : (Jvm.Cond.instanceMethod ({ cls := "BoardMachineModel", name := "fail", desc := "(IJ)Z" } : Jvm.MethodName)) ∈ lw_all := lw_g (lw_at lw_m22 207 rfl) rfl
theorem q5558 : (Jvm.Cond.code ({ cls := "BoardMachineModel", name := "fail", desc := "(IJ)Z" } : Jvm.MethodName) prog_111_method_21_code (4 : Nat) (Option.some Jvm.ClassFile.FieldType.boolean)) ∈ lw_all := lw_g (lw_at lw_m22 208 rfl) rfl
theorem q5559 : (Jvm.Cond.methodLinkNest "BoardMachineModel" (303 : Nat) ({ cls := "BoardMachineModel$Ram", name := "number", desc := "(JI)J" } : Jvm.MethodName) "BoardMachineModel") ∈ lw_tbl := lw_at lw_m22 209 rfl
theorem q5560 : (Jvm.Cond.methodLink "BoardMachineModel" (317 : Nat) ({ cls := "BoardMachineModel$Halves", name := "expand", desc := "(I)I" } : Jvm.MethodName)) ∈ lw_all := lw_g (lw_at lw_m22 210 rfl) rfl
theorem q5561 : (Jvm.Cond.instanceMethod ({ cls := "BoardMachineModel$Halves", name := "expand", desc := "(I)I" } : Jvm.MethodName)) ∈ lw_all := lw_g (lw_at lw_m22 211 rfl) rfl
theorem q5562 : (Jvm.Cond.selects "BoardMachineModel$Halves" ({ cls := "BoardMachineModel$Halves", name := "expand", desc := "(I)I" } : Jvm.MethodName) ({ cls := "BoardMachineModel$Halves", name := "expand", desc := "(I)I" } : Jvm.MethodName)) ∈ lw_all := lw_g (lw_at lw_m22 212 rfl) rfl
theorem q5563 : (Jvm.Cond.code ({ cls := "BoardMachineModel$Halves", name := "expand", desc := "(I)I" } : Jvm.MethodName) prog_116_method_21_code (2 : Nat) (Option.some Jvm.ClassFile.FieldType.int)) ∈ lw_all := lw_g (lw_at lw_m22 213 rfl) rfl
theorem q5564 : (Jvm.Cond.constant "BoardMachineModel$Halves" (76 : Nat) (65535 : Int32)) ∈ lw_all := lw_g (lw_at lw_m22 214 rfl) rfl
theorem q5565 : (Jvm.Cond.methodLink "BoardMachineModel$Halves" (77 : Nat) ({ cls := "BoardMachineModel$Halves", name := "wordOf", desc := "(I)I" } : Jvm.MethodName)) ∈ lw_all := lw_g (lw_at lw_m22 215 rfl) rfl
theorem q5566 : (Jvm.Cond.privateMethod ({ cls := "BoardMachineModel$Halves", name := "wordOf", desc := "(I)I" } : Jvm.MethodName)) ∈ lw_tbl := lw_at lw_m22 216 rfl
theorem q5567 : (Jvm.Cond.instanceMethod ({ cls := "BoardMachineModel$Halves", name := "wordOf", desc := "(I)I" } : Jvm.MethodName)) ∈ lw_all := lw_g (lw_at lw_m22 217 rfl) rfl
theorem q5568 : (Jvm.Cond.code ({ cls := "BoardMachineModel$Halves", name := "wordOf", desc := "(I)I" } : Jvm.MethodName) prog_116_method_20_code (2 : Nat) (Option.some Jvm.ClassFile.FieldType.int)) ∈ lw_all := lw_g (lw_at lw_m22 218 rfl) rfl
theorem q5569 : (Jvm.Cond.methodLink "BoardMachineModel$Halves" (67 : Nat) ({ cls := "BoardMachineModel$Halves", name := "quadrant0", desc := "()I" } : Jvm.MethodName)) ∈ lw_all := lw_g (lw_at lw_m22 219 rfl) rfl
theorem q5570 : (Jvm.Cond.privateMethod ({ cls := "BoardMachineModel$Halves", name := "quadrant0", desc := "()I" } : Jvm.MethodName)) ∈ lw_tbl := lw_at lw_m22 220 rfl
theorem q5571 : (Jvm.Cond.instanceMethod ({ cls := "BoardMachineModel$Halves", name := "quadrant0", desc := "()I" } : Jvm.MethodName)) ∈ lw_all := lw_g (lw_at lw_m22 221 rfl) rfl
theorem q5572 : (Jvm.Cond.code ({ cls := "BoardMachineModel$Halves", name := "quadrant0", desc := "()I" } : Jvm.MethodName) prog_116_method_14_code (4 : Nat) (Option.some Jvm.ClassFile.FieldType.int)) ∈ lw_all := lw_g (lw_at lw_m22 222 rfl) rfl
theorem q5573 : (Jvm.Cond.methodLink "BoardMachineModel$Halves" (27 : Nat) ({ cls := "BoardMachineModel$Halves", name := "bits", desc := "(II)I" } : Jvm.MethodName)) ∈ lw_all := lw_g (lw_at lw_m22 223 rfl) rfl
theorem q5574 : (Jvm.Cond.privateMethod ({ cls := "BoardMachineModel$Halves", name := "bits", desc := "(II)I" } : Jvm.MethodName)) ∈ lw_tbl := lw_at lw_m22 224 rfl
theorem q5575 : (Jvm.Cond.instanceMethod ({ cls := "BoardMachineModel$Halves", name := "bits", desc := "(II)I" } : Jvm.MethodName)) ∈ lw_all := lw_g (lw_at lw_m22 225 rfl) rfl
theorem q5576 : (Jvm.Cond.code ({ cls := "BoardMachineModel$Halves", name := "bits", desc := "(II)I" } : Jvm.MethodName) prog_116_method_3_code (5 : Nat) (Option.some Jvm.ClassFile.FieldType.int)) ∈ lw_all := lw_g (lw_at lw_m22 226 rfl) rfl
theorem q5577 : (Jvm.Cond.methodLink "BoardMachineModel$Halves" (18 : Nat) ({ cls := "BoardMachineModel$Halves", name := "wordI", desc := "(IIIII)I" } : Jvm.MethodName)) ∈ lw_all := lw_g (lw_at lw_m22 227 rfl) rfl
theorem q5578 : (Jvm.Cond.static ({ cls := "BoardMachineModel$Halves", name := "wordI", desc := "(IIIII)I" } : Jvm.MethodName)) ∈ lw_all := lw_g (lw_at lw_m22 228 rfl) rfl
theorem q5579 : (Jvm.Cond.code ({ cls := "BoardMachineModel$Halves", name := "wordI", desc := "(IIIII)I" } : Jvm.MethodName) prog_116_method_5_code (5 : Nat) (Option.some Jvm.ClassFile.FieldType.int)) ∈ lw_all := lw_g (lw_at lw_m22 229 rfl) rfl
theorem q5580 : (Jvm.Cond.constant "BoardMachineModel$Halves" (16 : Nat) (32768 : Int32)) ∈ lw_all := lw_g (lw_at lw_m22 230 rfl) rfl
theorem q5581 : (Jvm.Cond.constant "BoardMachineModel$Halves" (17 : Nat) (1048576 : Int32)) ∈ lw_all := lw_g (lw_at lw_m22 231 rfl) rfl
theorem q5582 : (Jvm.Cond.methodLink "BoardMachineModel$Halves" (35 : Nat) ({ cls := "BoardMachineModel$Halves", name := "eights", desc := "()I" } : Jvm.MethodName)) ∈ lw_all := lw_g (lw_at lw_m22 232 rfl) rfl
theorem q5583 : (Jvm.Cond.privateMethod ({ cls := "BoardMachineModel$Halves", name := "eights", desc := "()I" } : Jvm.MethodName)) ∈ lw_tbl := lw_at lw_m22 233 rfl
theorem q5584 : (Jvm.Cond.instanceMethod ({ cls := "BoardMachineModel$Halves", name := "eights", desc := "()I" } : Jvm.MethodName)) ∈ lw_all := lw_g (lw_at lw_m22 234 rfl) rfl
theorem q5585 : (Jvm.Cond.code ({ cls := "BoardMachineModel$Halves", name := "eights", desc := "()I" } : Jvm.MethodName) prog_116_method_12_code (1 : Nat) (Option.some Jvm.ClassFile.FieldType.int)) ∈ lw_all := lw_g (lw_at lw_m22 235 rfl) rfl
theorem q5586 : (Jvm.Cond.methodLink "BoardMachineModel$Halves" (38 : Nat) ({ cls := "BoardMachineModel$Halves", name := "fours", desc := "()I" } : Jvm.MethodName)) ∈ lw_all := lw_g (lw_at lw_m22 236 rfl) rfl
theorem q5587 : (Jvm.Cond.privateMethod ({ cls := "BoardMachineModel$Halves", name := "fours", desc := "()I" } : Jvm.MethodName)) ∈ lw_tbl := lw_at lw_m22 237 rfl
theorem q5588 : (Jvm.Cond.instanceMethod ({ cls := "BoardMachineModel$Halves", name := "fours", desc := "()I" } : Jvm.MethodName)) ∈ lw_all := lw_g (lw_at lw_m22 238 rfl) rfl
theorem q5589 : (Jvm.Cond.code ({ cls := "BoardMachineModel$Halves", name := "fours", desc := "()I" } : Jvm.MethodName) prog_116_method_13_code (1 : Nat) (Option.some Jvm.ClassFile.FieldType.int)) ∈ lw_all := lw_g (lw_at lw_m22 239 rfl) rfl
theorem q5590 : (Jvm.Cond.methodLink "BoardMachineModel$Halves" (41 : Nat) ({ cls := "BoardMachineModel$Halves", name := "wordS", desc := "(IIIII)I" } : Jvm.MethodName)) ∈ lw_all := lw_g (lw_at lw_m23 0 rfl) rfl
theorem q5591 : (Jvm.Cond.static ({ cls := "BoardMachineModel$Halves", name := "wordS", desc := "(IIIII)I" } : Jvm.MethodName)) ∈ lw_all := lw_g (lw_at lw_m23 1 rfl) rfl
theorem q5592 : (Jvm.Cond.code ({ cls := "BoardMachineModel$Halves", name := "wordS", desc := "(IIIII)I" } : Jvm.MethodName) prog_116_method_7_code (5 : Nat) (Option.some Jvm.ClassFile.FieldType.int)) ∈ lw_all := lw_g (lw_at lw_m23 2 rfl) rfl
theorem q5593 : (Jvm.Cond.constant "BoardMachineModel$Halves" (22 : Nat) (33554432 : Int32)) ∈ lw_all := lw_g (lw_at lw_m23 3 rfl) rfl
theorem q5594 : (Jvm.Cond.methodLink "BoardMachineModel$Halves" (70 : Nat) ({ cls := "BoardMachineModel$Halves", name := "quadrant1", desc := "()I" } : Jvm.MethodName)) ∈ lw_all := lw_g (lw_at lw_m23 4 rfl) rfl
theorem q5595 : (Jvm.Cond.privateMethod ({ cls := "BoardMachineModel$Halves", name := "quadrant1", desc := "()I" } : Jvm.MethodName)) ∈ lw_tbl := lw_at lw_m23 5 rfl
theorem q5596 : (Jvm.Cond.instanceMethod ({ cls := "BoardMachineModel$Halves", name := "quadrant1", desc := "()I" } : Jvm.MethodName)) ∈ lw_all := lw_g (lw_at lw_m23 6 rfl) rfl
theorem q5597 : (Jvm.Cond.code ({ cls := "BoardMachineModel$Halves", name := "quadrant1", desc := "()I" } : Jvm.MethodName) prog_116_method_17_code (3 : Nat) (Option.some Jvm.ClassFile.FieldType.int)) ∈ lw_all := lw_g (lw_at lw_m23 7 rfl) rfl
theorem q5598 : (Jvm.Cond.methodLink "BoardMachineModel$Halves" (44 : Nat) ({ cls := "BoardMachineModel$Halves", name := "signed", desc := "()I" } : Jvm.MethodName)) ∈ lw_all := lw_g (lw_at lw_m23 8 rfl) rfl
theorem q5599 : (Jvm.Cond.privateMethod ({ cls := "BoardMachineModel$Halves", name := "signed", desc := "()I" } : Jvm.MethodName)) ∈ lw_tbl := lw_at lw_m23 9 rfl
theorem q5600 : (Jvm.Cond.instanceMethod ({ cls := "BoardMachineModel$Halves", name := "signed", desc := "()I" } : Jvm.MethodName)) ∈ lw_all := lw_g (lw_at lw_m23 10 rfl) rfl
theorem q5601 : (Jvm.Cond.code ({ cls := "BoardMachineModel$Halves", name := "signed", desc := "()I" } : Jvm.MethodName) prog_116_method_11_code (1 : Nat) (Option.some Jvm.ClassFile.FieldType.int)) ∈ lw_all := lw_g (lw_at lw_m23 11 rfl) rfl
theorem q5602 : (Jvm.Cond.methodLink "BoardMachineModel$Halves" (31 : Nat) ({ cls := "BoardMachineModel$Halves", name := "plain", desc := "()I" } : Jvm.MethodName)) ∈ lw_all := lw_g (lw_at lw_m23 12 rfl) rfl
theorem q5603 : (Jvm.Cond.privateMethod ({ cls := "BoardMachineModel$Halves", name := "plain", desc := "()I" } : Jvm.MethodName)) ∈ lw_tbl := lw_at lw_m23 13 rfl
theorem q5604 : (Jvm.Cond.instanceMethod ({ cls := "BoardMachineModel$Halves", name := "plain", desc := "()I" } : Jvm.MethodName)) ∈ lw_all := lw_g (lw_at lw_m23 14 rfl) rfl
theorem q5605 : (Jvm.Cond.code ({ cls := "BoardMachineModel$Halves", name := "plain", desc := "()I" } : Jvm.MethodName) prog_116_method_10_code (1 : Nat) (Option.some Jvm.ClassFile.FieldType.int)) ∈ lw_all := lw_g (lw_at lw_m23 15 rfl) rfl
theorem q5606 : (Jvm.Cond.methodLink "BoardMachineModel$Halves" (51 : Nat) ({ cls := "BoardMachineModel$Halves", name := "upper", desc := "(I)I" } : Jvm.MethodName)) ∈ lw_all := lw_g (lw_at lw_m23 16 rfl) rfl
theorem q5607 : (Jvm.Cond.privateMethod ({ cls := "BoardMachineModel$Halves", name := "upper", desc := "(I)I" } : Jvm.MethodName)) ∈ lw_tbl := lw_at lw_m23 17 rfl
theorem q5608 : (Jvm.Cond.instanceMethod ({ cls := "BoardMachineModel$Halves", name := "upper", desc := "(I)I" } : Jvm.MethodName)) ∈ lw_all := lw_g (lw_at lw_m23 18 rfl) rfl
theorem q5609 : (Jvm.Cond.code ({ cls := "BoardMachineModel$Halves", name := "upper", desc := "(I)I" } : Jvm.MethodName) prog_116_method_16_code (3 : Nat) (Option.some Jvm.ClassFile.FieldType.int)) ∈ lw_all := lw_g (lw_at lw_m23 19 rfl) rfl
theorem q5610 : (Jvm.Cond.methodLink "BoardMachineModel$Halves" (55 : Nat) ({ cls := "BoardMachineModel$Halves", name := "arithmetic", desc := "()I" } : Jvm.MethodName)) ∈ lw_all := lw_g (lw_at lw_m23 20 rfl) rfl
theorem q5611 : (Jvm.Cond.privateMethod ({ cls := "BoardMachineModel$Halves", name := "arithmetic", desc := "()I" } : Jvm.MethodName)) ∈ lw_tbl := lw_at lw_m23 21 rfl
theorem q5612 : (Jvm.Cond.instanceMethod ({ cls := "BoardMachineModel$Halves", name := "arithmetic", desc := "()I" } : Jvm.MethodName)) ∈ lw_all := lw_g (lw_at lw_m23 22 rfl) rfl
theorem q5613 : (Jvm.Cond.code ({ cls := "BoardMachineModel$Halves", name := "arithmetic", desc := "()I" } : Jvm.MethodName) prog_116_method_15_code (4 : Nat) (Option.some Jvm.ClassFile.FieldType.int)) ∈ lw_all := lw_g (lw_at lw_m23 23 rfl) rfl
theorem q5614 : (Jvm.Cond.methodLink "BoardMachineModel$Halves" (47 : Nat) ({ cls := "BoardMachineModel$Halves", name := "wordR", desc := "(IIIIII)I" } : Jvm.MethodName)) ∈ lw_all := lw_g (lw_at lw_m23 24 rfl) rfl
theorem q5615 : (Jvm.Cond.static ({ cls := "BoardMachineModel$Halves", name := "wordR", desc := "(IIIIII)I" } : Jvm.MethodName)) ∈ lw_all := lw_g (lw_at lw_m23 25 rfl) rfl
theorem q5616 : (Jvm.Cond.code ({ cls := "BoardMachineModel$Halves", name := "wordR", desc := "(IIIIII)I" } : Jvm.MethodName) prog_116_method_6_code (6 : Nat) (Option.some Jvm.ClassFile.FieldType.int)) ∈ lw_all := lw_g (lw_at lw_m23 26 rfl) rfl
theorem q5617 : (Jvm.Cond.methodLink "BoardMachineModel$Halves" (58 : Nat) ({ cls := "BoardMachineModel$Halves", name := "wordJ", desc := "(I)I" } : Jvm.MethodName)) ∈ lw_all := lw_g (lw_at lw_m23 27 rfl) rfl
theorem q5618 : (Jvm.Cond.static ({ cls := "BoardMachineModel$Halves", name := "wordJ", desc := "(I)I" } : Jvm.MethodName)) ∈ lw_all := lw_g (lw_at lw_m23 28 rfl) rfl
theorem q5619 : (Jvm.Cond.code ({ cls := "BoardMachineModel$Halves", name := "wordJ", desc := "(I)I" } : Jvm.MethodName) prog_116_method_9_code (3 : Nat) (Option.some Jvm.ClassFile.FieldType.int)) ∈ lw_all := lw_g (lw_at lw_m23 29 rfl) rfl
theorem q5620 : (Jvm.Cond.methodLink "BoardMachineModel$Halves" (23 : Nat) ({ cls := "BoardMachineModel$Halves", name := "bit", desc := "(III)I" } : Jvm.MethodName)) ∈ lw_all := lw_g (lw_at lw_m23 30 rfl) rfl
theorem q5621 : (Jvm.Cond.static ({ cls := "BoardMachineModel$Halves", name := "bit", desc := "(III)I" } : Jvm.MethodName)) ∈ lw_all := lw_g (lw_at lw_m23 31 rfl) rfl
theorem q5622 : (Jvm.Cond.code ({ cls := "BoardMachineModel$Halves", name := "bit", desc := "(III)I" } : Jvm.MethodName) prog_116_method_4_code (3 : Nat) (Option.some Jvm.ClassFile.FieldType.int)) ∈ lw_all := lw_g (lw_at lw_m23 32 rfl) rfl
theorem q5623 : (Jvm.Cond.methodLink "BoardMachineModel$Halves" (61 : Nat) ({ cls := "BoardMachineModel$Halves", name := "wordB", desc := "(III)I" } : Jvm.MethodName)) ∈ lw_all := lw_g (lw_at lw_m23 33 rfl) rfl
theorem q5624 : (Jvm.Cond.static ({ cls := "BoardMachineModel$Halves", name := "wordB", desc := "(III)I" } : Jvm.MethodName)) ∈ lw_all := lw_g (lw_at lw_m23 34 rfl) rfl
theorem q5625 : (Jvm.Cond.code ({ cls := "BoardMachineModel$Halves", name := "wordB", desc := "(III)I" } : Jvm.MethodName) prog_116_method_8_code (5 : Nat) (Option.some Jvm.ClassFile.FieldType.int)) ∈ lw_all := lw_g (lw_at lw_m23 35 rfl) rfl
theorem q5626 : (Jvm.Cond.methodLink "BoardMachineModel$Halves" (73 : Nat) ({ cls := "BoardMachineModel$Halves", name := "quadrant2", desc := "()I" } : Jvm.MethodName)) ∈ lw_all := lw_g (lw_at lw_m23 36 rfl) rfl
theorem q5627 : (Jvm.Cond.privateMethod ({ cls := "BoardMachineModel$Halves", name := "quadrant2", desc := "()I" } : Jvm.MethodName)) ∈ lw_tbl := lw_at lw_m23 37 rfl
theorem q5628 : (Jvm.Cond.instanceMethod ({ cls := "BoardMachineModel$Halves", name := "quadrant2", desc := "()I" } : Jvm.MethodName)) ∈ lw_all := lw_g (lw_at lw_m23 38 rfl) rfl
theorem q5629 : (Jvm.Cond.code ({ cls := "BoardMachineModel$Halves", name := "quadrant2", desc := "()I" } : Jvm.MethodName) prog_116_method_19_code (5 : Nat) (Option.some Jvm.ClassFile.FieldType.int)) ∈ lw_all := lw_g (lw_at lw_m23 39 rfl) rfl
theorem q5630 : (Jvm.Cond.methodLink "BoardMachineModel$Halves" (64 : Nat) ({ cls := "BoardMachineModel$Halves", name := "jumps", desc := "(II)I" } : Jvm.MethodName)) ∈ lw_all := lw_g (lw_at lw_m23 40 rfl) rfl
theorem q5631 : (Jvm.Cond.privateMethod ({ cls := "BoardMachineModel$Halves", name := "jumps", desc := "(II)I" } : Jvm.MethodName)) ∈ lw_tbl := lw_at lw_m23 41 rfl
theorem q5632 : (Jvm.Cond.instanceMethod ({ cls := "BoardMachineModel$Halves", name := "jumps", desc := "(II)I" } : Jvm.MethodName)) ∈ lw_all := lw_g (lw_at lw_m23 42 rfl) rfl
theorem q5633 : (Jvm.Cond.code ({ cls := "BoardMachineModel$Halves", name := "jumps", desc := "(II)I" } : Jvm.MethodName) prog_116_method_18_code (3 : Nat) (Option.some Jvm.ClassFile.FieldType.int)) ∈ lw_all := lw_g (lw_at lw_m23 43 rfl) rfl
theorem q5634 : (Jvm.Cond.methodLink "BoardMachineModel" (323 : Nat) ({ cls := "BoardMachineModel", name := "illegal", desc := "()Z" } : Jvm.MethodName)) ∈ lw_all := lw_g (lw_at lw_m23 44 rfl) rfl
theorem q5635 : (Jvm.Cond.privateMethod ({ cls := "BoardMachineModel", name := "illegal", desc := "()Z" } : Jvm.MethodName)) ∈ lw_tbl := lw_at lw_m23 45 rfl
theorem q5636 : (Jvm.Cond.instanceMethod ({ cls := "BoardMachineModel", name := "illegal", desc := "()Z" } : Jvm.MethodName)) ∈ lw_all := lw_g (lw_at lw_m23 46 rfl) rfl
theorem q5637 : (Jvm.Cond.code ({ cls := "BoardMachineModel", name := "illegal", desc := "()Z" } : Jvm.MethodName) prog_111_method_22_code (1 : Nat) (Option.some Jvm.ClassFile.FieldType.boolean)) ∈ lw_all := lw_g (lw_at lw_m23 47 rfl) rfl
theorem q5638 : (Jvm.Cond.constantLong "BoardMachineModel" (242 : Nat) (4294967295 : Int64)) ∈ lw_all := lw_g (lw_at lw_m23 48 rfl) rfl
theorem q5639 : (Jvm.Cond.methodLink "BoardMachineModel" (488 : Nat) ({ cls := "BoardMachineModel", name := "carries", desc := "(I)Z" } : Jvm.MethodName)) ∈ lw_all := lw_g (lw_at lw_m23 49 rfl) rfl
theorem q5640 : (Jvm.Cond.privateMethod ({ cls := "BoardMachineModel", name := "carries", desc := "(I)Z" } : Jvm.MethodName)) ∈ lw_tbl := lw_at lw_m23 50 rfl
theorem q5641 : (Jvm.Cond.instanceMethod ({ cls := "BoardMachineModel", name := "carries", desc := "(I)Z" } : Jvm.MethodName)) ∈ lw_all := lw_g (lw_at lw_m23 51 rfl) rfl
theorem q5642 : (Jvm.Cond.code ({ cls := "BoardMachineModel", name := "carries", desc := "(I)Z" } : Jvm.MethodName) prog_111_method_38_code (12 : Nat) (Option.some Jvm.ClassFile.FieldType.boolean)) ∈ lw_all := lw_g (lw_at lw_m23 52 rfl) rfl
theorem q5643 : (Jvm.Cond.methodLink "BoardMachineModel" (456 : Nat) ({ cls := "BoardMachineModel$Core", name := "run", desc := "(II)I" } : Jvm.MethodName)) ∈ lw_all := lw_g (lw_at lw_m23 53 rfl) rfl
theorem q5644 : (Jvm.Cond.instanceMethod ({ cls := "BoardMachineModel$Core", name := "run", desc := "(II)I" } : Jvm.MethodName)) ∈ lw_all := lw_g (lw_at lw_m23 54 rfl) rfl
theorem q5645 : (Jvm.Cond.selects "BoardMachineModel$Core" ({ cls := "BoardMachineModel$Core", name := "run", desc := "(II)I" } : Jvm.MethodName) ({ cls := "BoardMachineModel$Core", name := "run", desc := "(II)I" } : Jvm.MethodName)) ∈ lw_all := lw_g (lw_at lw_m23 55 rfl) rfl
theorem q5646 : (Jvm.Cond.code ({ cls := "BoardMachineModel$Core", name := "run", desc := "(II)I" } : Jvm.MethodName) prog_113_method_38_code (9 : Nat) (Option.some Jvm.ClassFile.FieldType.int)) ∈ lw_all := lw_g (lw_at lw_m23 56 rfl) rfl
theorem q5647 : (Jvm.Cond.methodLink "BoardMachineModel$Core" (47 : Nat) ({ cls := "BoardMachineModel$Core", name := "bits", desc := "(II)I" } : Jvm.MethodName)) ∈ lw_all := lw_g (lw_at lw_m23 57 rfl) rfl
theorem q5648 : (Jvm.Cond.privateMethod ({ cls := "BoardMachineModel$Core", name := "bits", desc := "(II)I" } : Jvm.MethodName)) ∈ lw_tbl := lw_at lw_m23 58 rfl
theorem q5649 : (Jvm.Cond.instanceMethod ({ cls := "BoardMachineModel$Core", name := "bits", desc := "(II)I" } : Jvm.MethodName)) ∈ lw_all := lw_g (lw_at lw_m23 59 rfl) rfl
theorem q5650 : (Jvm.Cond.code ({ cls := "BoardMachineModel$Core", name := "bits", desc := "(II)I" } : Jvm.MethodName) prog_113_method_11_code (5 : Nat) (Option.some Jvm.ClassFile.FieldType.int)) ∈ lw_all := lw_g (lw_at lw_m23 60 rfl) rfl
theorem q5651 : (Jvm.Cond.methodLink "BoardMachineModel$Core" (155 : Nat) ({ cls := "BoardMachineModel$Core", name := "immediateU", desc := "()J" } : Jvm.MethodName)) ∈ lw_all := lw_g (lw_at lw_m23 61 rfl) rfl
theorem q5652 : (Jvm.Cond.privateMethod ({ cls := "BoardMachineModel$Core", name := "immediateU", desc := "()J" } : Jvm.MethodName)) ∈ lw_tbl := lw_at lw_m23 62 rfl
theorem q5653 : (Jvm.Cond.instanceMethod ({ cls := "BoardMachineModel$Core", name := "immediateU", desc := "()J" } : Jvm.MethodName)) ∈ lw_all := lw_g (lw_at lw_m23 63 rfl) rfl
theorem q5654 : (Jvm.Cond.code ({ cls := "BoardMachineModel$Core", name := "immediateU", desc := "()J" } : Jvm.MethodName) prog_113_method_16_code (1 : Nat) (Option.some Jvm.ClassFile.FieldType.long)) ∈ lw_all := lw_g (lw_at lw_m23 64 rfl) rfl
theorem q5655 : (Jvm.Cond.constantLong "BoardMachineModel$Core" (53 : Nat) (2147483648 : Int64)) ∈ lw_all := lw_g (lw_at lw_m23 65 rfl) rfl
theorem q5656 : (Jvm.Cond.methodLink "BoardMachineModel$Core" (43 : Nat) ({ cls := "BoardMachineModel$Core", name := "sign", desc := "(J)J" } : Jvm.MethodName)) ∈ lw_all := lw_g (lw_at lw_m23 66 rfl) rfl
theorem q5657 : (Jvm.Cond.privateMethod ({ cls := "BoardMachineModel$Core", name := "sign", desc := "(J)J" } : Jvm.MethodName)) ∈ lw_tbl := lw_at lw_m23 67 rfl
theorem q5658 : (Jvm.Cond.instanceMethod ({ cls := "BoardMachineModel$Core", name := "sign", desc := "(J)J" } : Jvm.MethodName)) ∈ lw_all := lw_g (lw_at lw_m23 68 rfl) rfl
theorem q5659 : (Jvm.Cond.code ({ cls := "BoardMachineModel$Core", name := "sign", desc := "(J)J" } : Jvm.MethodName) prog_113_method_12_code (3 : Nat) (Option.some Jvm.ClassFile.FieldType.long)) ∈ lw_all := lw_g (lw_at lw_m23 69 rfl) rfl
theorem q5660 : (Jvm.Cond.constantLong "BoardMachineModel$Core" (51 : Nat) (4096 : Int64)) ∈ lw_all := lw_g (lw_at lw_m23 70 rfl) rfl
theorem q5661 : (Jvm.Cond.methodLink "BoardMachineModel$Core" (106 : Nat) ({ cls := "BoardMachineModel$Core", name := "done", desc := "(IJ)I" } : Jvm.MethodName)) ∈ lw_all := lw_g (lw_at lw_m23 71 rfl) rfl
theorem q5662 : (Jvm.Cond.privateMethod ({ cls := "BoardMachineModel$Core", name := "done", desc := "(IJ)I" } : Jvm.MethodName)) ∈ lw_tbl := lw_at lw_m23 72 rfl
theorem q5663 : (Jvm.Cond.instanceMethod ({ cls := "BoardMachineModel$Core", name := "done", desc := "(IJ)I" } : Jvm.MethodName)) ∈ lw_all := lw_g (lw_at lw_m23 73 rfl) rfl
theorem q5664 : (Jvm.Cond.code ({ cls := "BoardMachineModel$Core", name := "done", desc := "(IJ)I" } : Jvm.MethodName) prog_113_method_22_code (4 : Nat) (Option.some Jvm.ClassFile.FieldType.int)) ∈ lw_all := lw_g (lw_at lw_m23 74 rfl) rfl
theorem q5665 : (Jvm.Cond.methodLink "BoardMachineModel$Core" (158 : Nat) ({ cls := "BoardMachineModel$Core", name := "immediateJ", desc := "()J" } : Jvm.MethodName)) ∈ lw_all := lw_g (lw_at lw_m23 75 rfl) rfl
theorem q5666 : (Jvm.Cond.privateMethod ({ cls := "BoardMachineModel$Core", name := "immediateJ", desc := "()J" } : Jvm.MethodName)) ∈ lw_tbl := lw_at lw_m23 76 rfl
theorem q5667 : (Jvm.Cond.instanceMethod ({ cls := "BoardMachineModel$Core", name := "immediateJ", desc := "()J" } : Jvm.MethodName)) ∈ lw_all := lw_g (lw_at lw_m23 77 rfl) rfl
theorem q5668 : (Jvm.Cond.code ({ cls := "BoardMachineModel$Core", name := "immediateJ", desc := "()J" } : Jvm.MethodName) prog_113_method_17_code (1 : Nat) (Option.some Jvm.ClassFile.FieldType.long)) ∈ lw_all := lw_g (lw_at lw_m23 78 rfl) rfl
theorem q5669 : (Jvm.Cond.constantLong "BoardMachineModel$Core" (55 : Nat) (1048576 : Int64)) ∈ lw_all := lw_g (lw_at lw_m23 79 rfl) rfl
theorem q5670 : (Jvm.Cond.methodLink "BoardMachineModel$Core" (91 : Nat) ({ cls := "BoardMachineModel$Core", name := "go", desc := "(J)I" } : Jvm.MethodName)) ∈ lw_all := lw_g (lw_at lw_m23 80 rfl) rfl
theorem q5671 : (Jvm.Cond.privateMethod ({ cls := "BoardMachineModel$Core", name := "go", desc := "(J)I" } : Jvm.MethodName)) ∈ lw_tbl := lw_at lw_m23 81 rfl
theorem q5672 : (Jvm.Cond.instanceMethod ({ cls := "BoardMachineModel$Core", name := "go", desc := "(J)I" } : Jvm.MethodName)) ∈ lw_all := lw_g (lw_at lw_m23 82 rfl) rfl
theorem q5673 : (Jvm.Cond.code ({ cls := "BoardMachineModel$Core", name := "go", desc := "(J)I" } : Jvm.MethodName) prog_113_method_23_code (3 : Nat) (Option.some Jvm.ClassFile.FieldType.int)) ∈ lw_all := lw_g (lw_at lw_m23 83 rfl) rfl
theorem q5674 : (Jvm.Cond.methodLink "BoardMachineModel$Core" (99 : Nat) ({ cls := "BoardMachineModel$Core", name := "immediateI", desc := "()J" } : Jvm.MethodName)) ∈ lw_all := lw_g (lw_at lw_m23 84 rfl) rfl
theorem q5675 : (Jvm.Cond.privateMethod ({ cls := "BoardMachineModel$Core", name := "immediateI", desc := "()J" } : Jvm.MethodName)) ∈ lw_tbl := lw_at lw_m23 85 rfl
theorem q5676 : (Jvm.Cond.instanceMethod ({ cls := "BoardMachineModel$Core", name := "immediateI", desc := "()J" } : Jvm.MethodName)) ∈ lw_all := lw_g (lw_at lw_m23 86 rfl) rfl
theorem q5677 : (Jvm.Cond.code ({ cls := "BoardMachineModel$Core", name := "immediateI", desc := "()J" } : Jvm.MethodName) prog_113_method_13_code (1 : Nat) (Option.some Jvm.ClassFile.FieldType.long)) ∈ lw_all := lw_g (lw_at lw_m23 87 rfl) rfl
theorem q5678 : (Jvm.Cond.constantLong "BoardMachineModel$Core" (41 : Nat) (2048 : Int64)) ∈ lw_all := lw_g (lw_at lw_m23 88 rfl) rfl
theorem q5679 : (Jvm.Cond.methodLink "BoardMachineModel$Core" (161 : Nat) ({ cls := "BoardMachineModel$Core", name := "branch", desc := "(I)I" } : Jvm.MethodName)) ∈ lw_all := lw_g (lw_at lw_m23 89 rfl) rfl
theorem q5680 : (Jvm.Cond.privateMethod ({ cls := "BoardMachineModel$Core", name := "branch", desc := "(I)I" } : Jvm.MethodName)) ∈ lw_tbl := lw_at lw_m23 90 rfl
theorem q5681 : (Jvm.Cond.instanceMethod ({ cls := "BoardMachineModel$Core", name := "branch", desc := "(I)I" } : Jvm.MethodName)) ∈ lw_all := lw_g (lw_at lw_m23 91 rfl) rfl
theorem q5682 : (Jvm.Cond.code ({ cls := "BoardMachineModel$Core", name := "branch", desc := "(I)I" } : Jvm.MethodName) prog_113_method_26_code (4 : Nat) (Option.some Jvm.ClassFile.FieldType.int)) ∈ lw_all := lw_g (lw_at lw_m23 92 rfl) rfl
theorem q5683 : (Jvm.Cond.methodLink "BoardMachineModel$Core" (59 : Nat) ({ cls := "BoardMachineModel$Core", name := "isLess", desc := "(JJ)Z" } : Jvm.MethodName)) ∈ lw_all := lw_g (lw_at lw_m23 93 rfl) rfl
theorem q5684 : (Jvm.Cond.static ({ cls := "BoardMachineModel$Core", name := "isLess", desc := "(JJ)Z" } : Jvm.MethodName)) ∈ lw_all := lw_g (lw_at lw_m23 94 rfl) rfl
theorem q5685 : (Jvm.Cond.code ({ cls := "BoardMachineModel$Core", name := "isLess", desc := "(JJ)Z" } : Jvm.MethodName) prog_113_method_18_code (4 : Nat) (Option.some Jvm.ClassFile.FieldType.boolean)) ∈ lw_all := lw_g (lw_at lw_m23 95 rfl) rfl
theorem q5686 : (Jvm.Cond.methodLink "BoardMachineModel$Core" (87 : Nat) ({ cls := "BoardMachineModel$Core", name := "immediateB", desc := "()J" } : Jvm.MethodName)) ∈ lw_all := lw_g (lw_at lw_m23 96 rfl) rfl
theorem q5687 : (Jvm.Cond.privateMethod ({ cls := "BoardMachineModel$Core", name := "immediateB", desc := "()J" } : Jvm.MethodName)) ∈ lw_tbl := lw_at lw_m23 97 rfl
theorem q5688 : (Jvm.Cond.instanceMethod ({ cls := "BoardMachineModel$Core", name := "immediateB", desc := "()J" } : Jvm.MethodName)) ∈ lw_all := lw_g (lw_at lw_m23 98 rfl) rfl
theorem q5689 : (Jvm.Cond.code ({ cls := "BoardMachineModel$Core", name := "immediateB", desc := "()J" } : Jvm.MethodName) prog_113_method_15_code (1 : Nat) (Option.some Jvm.ClassFile.FieldType.long)) ∈ lw_all := lw_g (lw_at lw_m23 99 rfl) rfl
theorem q5690 : (Jvm.Cond.methodLink "BoardMachineModel$Core" (165 : Nat) ({ cls := "BoardMachineModel$Core", name := "withImmediate", desc := "(II)I" } : Jvm.MethodName)) ∈ lw_all := lw_g (lw_at lw_m23 100 rfl) rfl
theorem q5691 : (Jvm.Cond.privateMethod ({ cls := "BoardMachineModel$Core", name := "withImmediate", desc := "(II)I" } : Jvm.MethodName)) ∈ lw_tbl := lw_at lw_m23 101 rfl
theorem q5692 : (Jvm.Cond.instanceMethod ({ cls := "BoardMachineModel$Core", name := "withImmediate", desc := "(II)I" } : Jvm.MethodName)) ∈ lw_all := lw_g (lw_at lw_m23 102 rfl) rfl
theorem q5693 : (Jvm.Cond.code ({ cls := "BoardMachineModel$Core", name := "withImmediate", desc := "(II)I" } : Jvm.MethodName) prog_113_method_28_code (5 : Nat) (Option.some Jvm.ClassFile.FieldType.int)) ∈ lw_all := lw_g (lw_at lw_m23 103 rfl) rfl
theorem q5694 : (Jvm.Cond.methodLink "BoardMachineModel$Core" (102 : Nat) ({ cls := "BoardMachineModel$Core", name := "plain", desc := "(IJJI)J" } : Jvm.MethodName)) ∈ lw_all := lw_g (lw_at lw_m23 104 rfl) rfl
theorem q5695 : (Jvm.Cond.static ({ cls := "BoardMachineModel$Core", name := "plain", desc := "(IJJI)J" } : Jvm.MethodName)) ∈ lw_all := lw_g (lw_at lw_m23 105 rfl) rfl
theorem q5696 : (Jvm.Cond.code ({ cls := "BoardMachineModel$Core", name := "plain", desc := "(IJJI)J" } : Jvm.MethodName) prog_113_method_27_code (6 : Nat) (Option.some Jvm.ClassFile.FieldType.long)) ∈ lw_all := lw_g (lw_at lw_m23 106 rfl) rfl
theorem q5697 : (Jvm.Cond.methodLink "BoardMachineModel$Core" (95 : Nat) ({ cls := "BoardMachineModel$Core", name := "truth", desc := "(Z)J" } : Jvm.MethodName)) ∈ lw_all := lw_g (lw_at lw_m23 107 rfl) rfl
theorem q5698 : (Jvm.Cond.static ({ cls := "BoardMachineModel$Core", name := "truth", desc := "(Z)J" } : Jvm.MethodName)) ∈ lw_all := lw_g (lw_at lw_m23 108 rfl) rfl
theorem q5699 : (Jvm.Cond.code ({ cls := "BoardMachineModel$Core", name := "truth", desc := "(Z)J" } : Jvm.MethodName) prog_113_method_25_code (1 : Nat) (Option.some Jvm.ClassFile.FieldType.long)) ∈ lw_all := lw_g (lw_at lw_m23 109 rfl) rfl
theorem q5700 : (Jvm.Cond.methodLink "BoardMachineModel$Core" (168 : Nat) ({ cls := "BoardMachineModel$Core", name := "withRegister", desc := "(III)I" } : Jvm.MethodName)) ∈ lw_all := lw_g (lw_at lw_m23 110 rfl) rfl
theorem q5701 : (Jvm.Cond.privateMethod ({ cls := "BoardMachineModel$Core", name := "withRegister", desc := "(III)I" } : Jvm.MethodName)) ∈ lw_tbl := lw_at lw_m23 111 rfl
theorem q5702 : (Jvm.Cond.instanceMethod ({ cls := "BoardMachineModel$Core", name := "withRegister", desc := "(III)I" } : Jvm.MethodName)) ∈ lw_all := lw_g (lw_at lw_m23 112 rfl) rfl
theorem q5703 : (Jvm.Cond.code ({ cls := "BoardMachineModel$Core", name := "withRegister", desc := "(III)I" } : Jvm.MethodName) prog_113_method_30_code (5 : Nat) (Option.some Jvm.ClassFile.FieldType.int)) ∈ lw_all := lw_g (lw_at lw_m23 113 rfl) rfl
theorem q5704 : (Jvm.Cond.constantLong "BoardMachineModel$Core" (118 : Nat) (63 : Int64)) ∈ lw_all := lw_g (lw_at lw_m23 114 rfl) rfl
theorem q5705 : (Jvm.Cond.methodLink "BoardMachineModel$Core" (120 : Nat) ({ cls := "BoardMachineModel$Core", name := "product", desc := "(I)J" } : Jvm.MethodName)) ∈ lw_all := lw_g (lw_at lw_m23 115 rfl) rfl
theorem q5706 : (Jvm.Cond.privateMethod ({ cls := "BoardMachineModel$Core", name := "product", desc := "(I)J" } : Jvm.MethodName)) ∈ lw_tbl := lw_at lw_m23 116 rfl
theorem q5707 : (Jvm.Cond.instanceMethod ({ cls := "BoardMachineModel$Core", name := "product", desc := "(I)J" } : Jvm.MethodName)) ∈ lw_all := lw_g (lw_at lw_m23 117 rfl) rfl
theorem q5708 : (Jvm.Cond.code ({ cls := "BoardMachineModel$Core", name := "product", desc := "(I)J" } : Jvm.MethodName) prog_113_method_29_code (2 : Nat) (Option.some Jvm.ClassFile.FieldType.long)) ∈ lw_all := lw_g (lw_at lw_m23 118 rfl) rfl
theorem q5709 : (Jvm.Cond.methodLink "BoardMachineModel$Core" (110 : Nat) ({ cls := "BoardMachineModel$Core", name := "upper", desc := "(JJ)J" } : Jvm.MethodName)) ∈ lw_all := lw_g (lw_at lw_m23 119 rfl) rfl
theorem q5710 : (Jvm.Cond.static ({ cls := "BoardMachineModel$Core", name := "upper", desc := "(JJ)J" } : Jvm.MethodName)) ∈ lw_all := lw_g (lw_at lw_m23 120 rfl) rfl
theorem q5711 : (Jvm.Cond.code ({ cls := "BoardMachineModel$Core", name := "upper", desc := "(JJ)J" } : Jvm.MethodName) prog_113_method_19_code (11 : Nat) (Option.some Jvm.ClassFile.FieldType.long)) ∈ lw_all := lw_g (lw_at lw_m23 121 rfl) rfl
theorem q5712 : (Jvm.Cond.constantLong "BoardMachineModel$Core" (57 : Nat) (2 : Int64)) ∈ lw_all := lw_g (lw_at lw_m23 122 rfl) rfl
theorem q5713 : (Jvm.Cond.methodLink "BoardMachineModel$Core" (114 : Nat) ({ cls := "BoardMachineModel$Core", name := "divideAll", desc := "(JJZ)V" } : Jvm.MethodName)) ∈ lw_all := lw_g (lw_at lw_m23 123 rfl) rfl
theorem q5714 : (Jvm.Cond.privateMethod ({ cls := "BoardMachineModel$Core", name := "divideAll", desc := "(JJZ)V" } : Jvm.MethodName)) ∈ lw_tbl := lw_at lw_m23 124 rfl
theorem q5715 : (Jvm.Cond.instanceMethod ({ cls := "BoardMachineModel$Core", name := "divideAll", desc := "(JJZ)V" } : Jvm.MethodName)) ∈ lw_all := lw_g (lw_at lw_m23 125 rfl) rfl
theorem q5716 : (Jvm.Cond.code ({ cls := "BoardMachineModel$Core", name := "divideAll", desc := "(JJZ)V" } : Jvm.MethodName) prog_113_method_21_code (8 : Nat) (Option.none : Option Jvm.ClassFile.FieldType)) ∈ lw_all := lw_g (lw_at lw_m23 126 rfl) rfl
theorem q5717 : (Jvm.Cond.constantLong "BoardMachineModel$Core" (69 : Nat) (-1 : Int64)) ∈ lw_all := lw_g (lw_at lw_m23 127 rfl) rfl
theorem q5718 : (Jvm.Cond.methodLink "BoardMachineModel$Core" (71 : Nat) ({ cls := "BoardMachineModel$Core", name := "divide", desc := "(JJ)V" } : Jvm.MethodName)) ∈ lw_all := lw_g (lw_at lw_m23 128 rfl) rfl
theorem q5719 : (Jvm.Cond.privateMethod ({ cls := "BoardMachineModel$Core", name := "divide", desc := "(JJ)V" } : Jvm.MethodName)) ∈ lw_tbl := lw_at lw_m23 129 rfl
theorem q5720 : (Jvm.Cond.instanceMethod ({ cls := "BoardMachineModel$Core", name := "divide", desc := "(JJ)V" } : Jvm.MethodName)) ∈ lw_all := lw_g (lw_at lw_m23 130 rfl) rfl
theorem q5721 : (Jvm.Cond.code ({ cls := "BoardMachineModel$Core", name := "divide", desc := "(JJ)V" } : Jvm.MethodName) prog_113_method_20_code (7 : Nat) (Option.none : Option Jvm.ClassFile.FieldType)) ∈ lw_all := lw_g (lw_at lw_m23 131 rfl) rfl
theorem q5722 : (Jvm.Cond.methodLink "BoardMachineModel$Core" (172 : Nat) ({ cls := "BoardMachineModel$Core", name := "intImmediate", desc := "(III)I" } : Jvm.MethodName)) ∈ lw_all := lw_g (lw_at lw_m23 132 rfl) rfl
theorem q5723 : (Jvm.Cond.privateMethod ({ cls := "BoardMachineModel$Core", name := "intImmediate", desc := "(III)I" } : Jvm.MethodName)) ∈ lw_tbl := lw_at lw_m23 133 rfl
theorem q5724 : (Jvm.Cond.instanceMethod ({ cls := "BoardMachineModel$Core", name := "intImmediate", desc := "(III)I" } : Jvm.MethodName)) ∈ lw_all := lw_g (lw_at lw_m23 134 rfl) rfl
theorem q5725 : (Jvm.Cond.code ({ cls := "BoardMachineModel$Core", name := "intImmediate", desc := "(III)I" } : Jvm.MethodName) prog_113_method_31_code (5 : Nat) (Option.some Jvm.ClassFile.FieldType.int)) ∈ lw_all := lw_g (lw_at lw_m23 135 rfl) rfl
theorem q5726 : (Jvm.Cond.methodLink "BoardMachineModel$Core" (175 : Nat) ({ cls := "BoardMachineModel$Core", name := "intRegister", desc := "(III)I" } : Jvm.MethodName)) ∈ lw_all := lw_g (lw_at lw_m23 136 rfl) rfl
theorem q5727 : (Jvm.Cond.privateMethod ({ cls := "BoardMachineModel$Core", name := "intRegister", desc := "(III)I" } : Jvm.MethodName)) ∈ lw_tbl := lw_at lw_m23 137 rfl
theorem q5728 : (Jvm.Cond.instanceMethod ({ cls := "BoardMachineModel$Core", name := "intRegister", desc := "(III)I" } : Jvm.MethodName)) ∈ lw_all := lw_g (lw_at lw_m23 138 rfl) rfl
theorem q5729 : (Jvm.Cond.code ({ cls := "BoardMachineModel$Core", name := "intRegister", desc := "(III)I" } : Jvm.MethodName) prog_113_method_33_code (5 : Nat) (Option.some Jvm.ClassFile.FieldType.int)) ∈ lw_all := lw_g (lw_at lw_m23 139 rfl) rfl
theorem q5730 : (Jvm.Cond.constantLong "BoardMachineModel$Core" (126 : Nat) (31 : Int64)) ∈ lw_all := lw_g (lw_at lw_m23 140 rfl) rfl
theorem q5731 : (Jvm.Cond.methodLink "BoardMachineModel$Core" (128 : Nat) ({ cls := "BoardMachineModel$Core", name := "intProduct", desc := "(II)I" } : Jvm.MethodName)) ∈ lw_all := lw_g (lw_at lw_m23 141 rfl) rfl
theorem q5732 : (Jvm.Cond.privateMethod ({ cls := "BoardMachineModel$Core", name := "intProduct", desc := "(II)I" } : Jvm.MethodName)) ∈ lw_tbl := lw_at lw_m23 142 rfl
theorem q5733 : (Jvm.Cond.instanceMethod ({ cls := "BoardMachineModel$Core", name := "intProduct", desc := "(II)I" } : Jvm.MethodName)) ∈ lw_all := lw_g (lw_at lw_m23 143 rfl) rfl
theorem q5734 : (Jvm.Cond.code ({ cls := "BoardMachineModel$Core", name := "intProduct", desc := "(II)I" } : Jvm.MethodName) prog_113_method_32_code (4 : Nat) (Option.some Jvm.ClassFile.FieldType.int)) ∈ lw_all := lw_g (lw_at lw_m23 144 rfl) rfl
theorem q5735 : (Jvm.Cond.constantLong "BoardMachineModel$Core" (124 : Nat) (4294967295 : Int64)) ∈ lw_all := lw_g (lw_at lw_m23 145 rfl) rfl
theorem q5736 : (Jvm.Cond.methodLink "BoardMachineModel$Core" (178 : Nat) ({ cls := "BoardMachineModel$Core", name := "others", desc := "(III)I" } : Jvm.MethodName)) ∈ lw_all := lw_g (lw_at lw_m23 146 rfl) rfl
theorem q5737 : (Jvm.Cond.privateMethod ({ cls := "BoardMachineModel$Core", name := "others", desc := "(III)I" } : Jvm.MethodName)) ∈ lw_tbl := lw_at lw_m23 147 rfl
theorem q5738 : (Jvm.Cond.instanceMethod ({ cls := "BoardMachineModel$Core", name := "others", desc := "(III)I" } : Jvm.MethodName)) ∈ lw_all := lw_g (lw_at lw_m23 148 rfl) rfl
theorem q5739 : (Jvm.Cond.code ({ cls := "BoardMachineModel$Core", name := "others", desc := "(III)I" } : Jvm.MethodName) prog_113_method_37_code (4 : Nat) (Option.some Jvm.ClassFile.FieldType.int)) ∈ lw_all := lw_g (lw_at lw_m23 149 rfl) rfl
theorem q5740 : (Jvm.Cond.methodLink "BoardMachineModel$Core" (135 : Nat) ({ cls := "BoardMachineModel$Core", name := "power", desc := "(I)J" } : Jvm.MethodName)) ∈ lw_all := lw_g (lw_at lw_m23 150 rfl) rfl
theorem q5741 : (Jvm.Cond.static ({ cls := "BoardMachineModel$Core", name := "power", desc := "(I)J" } : Jvm.MethodName)) ∈ lw_all := lw_g (lw_at lw_m23 151 rfl) rfl
theorem q5742 : (Jvm.Cond.code ({ cls := "BoardMachineModel$Core", name := "power", desc := "(I)J" } : Jvm.MethodName) prog_113_method_34_code (1 : Nat) (Option.some Jvm.ClassFile.FieldType.long)) ∈ lw_all := lw_g (lw_at lw_m23 152 rfl) rfl
theorem q5743 : (Jvm.Cond.constantLong "BoardMachineModel$Core" (131 : Nat) (4 : Int64)) ∈ lw_all := lw_g (lw_at lw_m23 153 rfl) rfl
theorem q5744 : (Jvm.Cond.constantLong "BoardMachineModel$Core" (133 : Nat) (8 : Int64)) ∈ lw_all := lw_g (lw_at lw_m23 154 rfl) rfl
theorem q5745 : (Jvm.Cond.methodLink "BoardMachineModel$Core" (138 : Nat) ({ cls := "BoardMachineModel$Core", name := "want", desc := "(IJJJJI)I" } : Jvm.MethodName)) ∈ lw_all := lw_g (lw_at lw_m23 155 rfl) rfl
theorem q5746 : (Jvm.Cond.privateMethod ({ cls := "BoardMachineModel$Core", name := "want", desc := "(IJJJJI)I" } : Jvm.MethodName)) ∈ lw_tbl := lw_at lw_m23 156 rfl
theorem q5747 : (Jvm.Cond.instanceMethod ({ cls := "BoardMachineModel$Core", name := "want", desc := "(IJJJJI)I" } : Jvm.MethodName)) ∈ lw_all := lw_g (lw_at lw_m23 157 rfl) rfl
theorem q5748 : (Jvm.Cond.code ({ cls := "BoardMachineModel$Core", name := "want", desc := "(IJJJJI)I" } : Jvm.MethodName) prog_113_method_24_code (11 : Nat) (Option.some Jvm.ClassFile.FieldType.int)) ∈ lw_all := lw_g (lw_at lw_m23 158 rfl) rfl
theorem q5749 : (Jvm.Cond.methodLink "BoardMachineModel$Core" (142 : Nat) ({ cls := "BoardMachineModel$Core", name := "immediateS", desc := "()J" } : Jvm.MethodName)) ∈ lw_all := lw_g (lw_at lw_m23 159 rfl) rfl
theorem q5750 : (Jvm.Cond.privateMethod ({ cls := "BoardMachineModel$Core", name := "immediateS", desc := "()J" } : Jvm.MethodName)) ∈ lw_tbl := lw_at lw_m23 160 rfl
theorem q5751 : (Jvm.Cond.instanceMethod ({ cls := "BoardMachineModel$Core", name := "immediateS", desc := "()J" } : Jvm.MethodName)) ∈ lw_all := lw_g (lw_at lw_m23 161 rfl) rfl
theorem q5752 : (Jvm.Cond.code ({ cls := "BoardMachineModel$Core", name := "immediateS", desc := "()J" } : Jvm.MethodName) prog_113_method_14_code (1 : Nat) (Option.some Jvm.ClassFile.FieldType.long)) ∈ lw_all := lw_g (lw_at lw_m23 162 rfl) rfl
theorem q5753 : (Jvm.Cond.methodLink "BoardMachineModel$Core" (145 : Nat) ({ cls := "BoardMachineModel$Core", name := "atomic", desc := "(II)I" } : Jvm.MethodName)) ∈ lw_all := lw_g (lw_at lw_m23 163 rfl) rfl
theorem q5754 : (Jvm.Cond.privateMethod ({ cls := "BoardMachineModel$Core", name := "atomic", desc := "(II)I" } : Jvm.MethodName)) ∈ lw_tbl := lw_at lw_m23 164 rfl
theorem q5755 : (Jvm.Cond.instanceMethod ({ cls := "BoardMachineModel$Core", name := "atomic", desc := "(II)I" } : Jvm.MethodName)) ∈ lw_all := lw_g (lw_at lw_m23 165 rfl) rfl
theorem q5756 : (Jvm.Cond.code ({ cls := "BoardMachineModel$Core", name := "atomic", desc := "(II)I" } : Jvm.MethodName) prog_113_method_35_code (5 : Nat) (Option.some Jvm.ClassFile.FieldType.int)) ∈ lw_all := lw_g (lw_at lw_m23 166 rfl) rfl
theorem q5757 : (Jvm.Cond.constantLong "BoardMachineModel$Core" (148 : Nat) (7 : Int64)) ∈ lw_all := lw_g (lw_at lw_m23 167 rfl) rfl
theorem q5758 : (Jvm.Cond.constantLong "BoardMachineModel$Core" (150 : Nat) (39 : Int64)) ∈ lw_all := lw_g (lw_at lw_m23 168 rfl) rfl
theorem q5759 : (Jvm.Cond.methodLink "BoardMachineModel$Core" (152 : Nat) ({ cls := "BoardMachineModel$Core", name := "control", desc := "(II)I" } : Jvm.MethodName)) ∈ lw_all := lw_g (lw_at lw_m23 169 rfl) rfl
theorem q5760 : (Jvm.Cond.privateMethod ({ cls := "BoardMachineModel$Core", name := "control", desc := "(II)I" } : Jvm.MethodName)) ∈ lw_tbl := lw_at lw_m23 170 rfl
theorem q5761 : (Jvm.Cond.instanceMethod ({ cls := "BoardMachineModel$Core", name := "control", desc := "(II)I" } : Jvm.MethodName)) ∈ lw_all := lw_g (lw_at lw_m23 171 rfl) rfl
theorem q5762 : (Jvm.Cond.code ({ cls := "BoardMachineModel$Core", name := "control", desc := "(II)I" } : Jvm.MethodName) prog_113_method_36_code (3 : Nat) (Option.some Jvm.ClassFile.FieldType.int)) ∈ lw_all := lw_g (lw_at lw_m23 172 rfl) rfl
theorem q5763 : (Jvm.Cond.methodLink "BoardMachineModel" (385 : Nat) ({ cls := "BoardMachineModel$Core", name := "wanted", desc := "(I)J" } : Jvm.MethodName)) ∈ lw_all := lw_g (lw_at lw_m23 173 rfl) rfl
theorem q5764 : (Jvm.Cond.instanceMethod ({ cls := "BoardMachineModel$Core", name := "wanted", desc := "(I)J" } : Jvm.MethodName)) ∈ lw_all := lw_g (lw_at lw_m23 174 rfl) rfl
theorem q5765 : (Jvm.Cond.selects "BoardMachineModel$Core" ({ cls := "BoardMachineModel$Core", name := "wanted", desc := "(I)J" } : Jvm.MethodName) ({ cls := "BoardMachineModel$Core", name := "wanted", desc := "(I)J" } : Jvm.MethodName)) ∈ lw_all := lw_g (lw_at lw_m23 175 rfl) rfl
theorem q5766 : (Jvm.Cond.code ({ cls := "BoardMachineModel$Core", name := "wanted", desc := "(I)J" } : Jvm.MethodName) prog_113_method_39_code (2 : Nat) (Option.some Jvm.ClassFile.FieldType.long)) ∈ lw_all := lw_g (lw_at lw_m23 176 rfl) rfl
theorem q5767 : (Jvm.Cond.methodLink "BoardMachineModel" (355 : Nat) ({ cls := "BoardMachineModel", name := "finds", desc := "(IJII)Z" } : Jvm.MethodName)) ∈ lw_all := lw_g (lw_at lw_m23 177 rfl) rfl
theorem q5768 : (Jvm.Cond.privateMethod ({ cls := "BoardMachineModel", name := "finds", desc := "(IJII)Z" } : Jvm.MethodName)) ∈ lw_tbl := lw_at lw_m23 178 rfl
theorem q5769 : (Jvm.Cond.instanceMethod ({ cls := "BoardMachineModel", name := "finds", desc := "(IJII)Z" } : Jvm.MethodName)) ∈ lw_all := lw_g (lw_at lw_m23 179 rfl) rfl
theorem q5770 : (Jvm.Cond.code ({ cls := "BoardMachineModel", name := "finds", desc := "(IJII)Z" } : Jvm.MethodName) prog_111_method_26_code (10 : Nat) (Option.some Jvm.ClassFile.FieldType.boolean)) ∈ lw_all := lw_g (lw_at lw_m23 180 rfl) rfl
theorem q5771 : (Jvm.Cond.methodLink "BoardMachineModel" (326 : Nat) ({ cls := "BoardMachineModel$Desk", name := "dataMode", desc := "()I" } : Jvm.MethodName)) ∈ lw_all := lw_g (lw_at lw_m23 181 rfl) rfl
theorem q5772 : (Jvm.Cond.instanceMethod ({ cls := "BoardMachineModel$Desk", name := "dataMode", desc := "()I" } : Jvm.MethodName)) ∈ lw_all := lw_g (lw_at lw_m23 182 rfl) rfl
theorem q5773 : (Jvm.Cond.selects "BoardMachineModel$Desk" ({ cls := "BoardMachineModel$Desk", name := "dataMode", desc := "()I" } : Jvm.MethodName) ({ cls := "BoardMachineModel$Desk", name := "dataMode", desc := "()I" } : Jvm.MethodName)) ∈ lw_all := lw_g (lw_at lw_m23 183 rfl) rfl
theorem q5774 : (Jvm.Cond.code ({ cls := "BoardMachineModel$Desk", name := "dataMode", desc := "()I" } : Jvm.MethodName) prog_114_method_9_code (1 : Nat) (Option.some Jvm.ClassFile.FieldType.int)) ∈ lw_all := lw_g (lw_at lw_m23 184 rfl) rfl
theorem q5775 : (Jvm.Cond.methodLink "BoardMachineModel$Desk" (40 : Nat) ({ cls := "BoardMachineModel$Desk", name := "below", desc := "()I" } : Jvm.MethodName)) ∈ lw_all := lw_g (lw_at lw_m23 185 rfl) rfl
theorem q5776 : (Jvm.Cond.privateMethod ({ cls := "BoardMachineModel$Desk", name := "below", desc := "()I" } : Jvm.MethodName)) ∈ lw_tbl := lw_at lw_m23 186 rfl
theorem q5777 : (Jvm.Cond.instanceMethod ({ cls := "BoardMachineModel$Desk", name := "below", desc := "()I" } : Jvm.MethodName)) ∈ lw_all := lw_g (lw_at lw_m23 187 rfl) rfl
theorem q5778 : (Jvm.Cond.code ({ cls := "BoardMachineModel$Desk", name := "below", desc := "()I" } : Jvm.MethodName) prog_114_method_6_code (1 : Nat) (Option.some Jvm.ClassFile.FieldType.int)) ∈ lw_all := lw_g (lw_at lw_m23 188 rfl) rfl
theorem q5779 : (Jvm.Cond.constantLong "BoardMachineModel" (329 : Nat) (4095 : Int64)) ∈ lw_all := lw_g (lw_at lw_m23 189 rfl) rfl
theorem q5780 : (Jvm.Cond.constantLong "BoardMachineModel" (207 : Nat) (4096 : Int64)) ∈ lw_all := lw_g (lw_at lw_m23 190 rfl) rfl
theorem q5781 : (Jvm.Cond.methodLink "BoardMachineModel" (227 : Nat) ({ cls := "BoardMachineModel", name := "windowOf", desc := "(JI)I" } : Jvm.MethodName)) ∈ lw_all := lw_g (lw_at lw_m23 191 rfl) rfl
theorem q5782 : (Jvm.Cond.static ({ cls := "BoardMachineModel", name := "windowOf", desc := "(JI)I" } : Jvm.MethodName)) ∈ lw_all := lw_g (lw_at lw_m23 192 rfl) rfl
theorem q5783 : (Jvm.Cond.code ({ cls := "BoardMachineModel", name := "windowOf", desc := "(JI)I" } : Jvm.MethodName) prog_111_method_16_code (4 : Nat) (Option.some Jvm.ClassFile.FieldType.int)) ∈ lw_all := lw_g (lw_at lw_m23 193 rfl) rfl
theorem q5784 : (Jvm.Cond.methodLink "BoardMachineModel" (203 : Nat) ({ cls := "BoardMachineModel", name := "baseOf", desc := "(I)J" } : Jvm.MethodName)) ∈ lw_all := lw_g (lw_at lw_m23 194 rfl) rfl
theorem q5785 : (Jvm.Cond.static ({ cls := "BoardMachineModel", name := "baseOf", desc := "(I)J" } : Jvm.MethodName)) ∈ lw_all := lw_g (lw_at lw_m23 195 rfl) rfl
theorem q5786 : (Jvm.Cond.code ({ cls := "BoardMachineModel", name := "baseOf", desc := "(I)J" } : Jvm.MethodName) prog_111_method_17_code (1 : Nat) (Option.some Jvm.ClassFile.FieldType.long)) ∈ lw_all := lw_g (lw_at lw_m23 196 rfl) rfl
theorem q5787 : (Jvm.Cond.constantLong "BoardMachineModel" (215 : Nat) (33554432 : Int64)) ∈ lw_all := lw_g (lw_at lw_m23 197 rfl) rfl
theorem q5788 : (Jvm.Cond.constantLong "BoardMachineModel" (217 : Nat) (201326592 : Int64)) ∈ lw_all := lw_g (lw_at lw_m23 198 rfl) rfl
theorem q5789 : (Jvm.Cond.constantLong "BoardMachineModel" (219 : Nat) (268435456 : Int64)) ∈ lw_all := lw_g (lw_at lw_m23 199 rfl) rfl
theorem q5790 : (Jvm.Cond.constantLong "BoardMachineModel" (221 : Nat) (268439552 : Int64)) ∈ lw_all := lw_g (lw_at lw_m23 200 rfl) rfl
theorem q5791 : (Jvm.Cond.constantLong "BoardMachineModel" (209 : Nat) (65536 : Int64)) ∈ lw_all := lw_g (lw_at lw_m23 201 rfl) rfl
theorem q5792 : (Jvm.Cond.constantLong "BoardMachineModel" (211 : Nat) (4194304 : Int64)) ∈ lw_all := lw_g (lw_at lw_m23 202 rfl) rfl
theorem q5793 : (Jvm.Cond.constantLong "BoardMachineModel" (213 : Nat) (256 : Int64)) ∈ lw_all := lw_g (lw_at lw_m23 203 rfl) rfl
theorem q5794 : (Jvm.Cond.methodLink "BoardMachineModel" (380 : Nat) ({ cls := "BoardMachineModel", name := "get", desc := "(I)J" } : Jvm.MethodName)) ∈ lw_all := lw_g (lw_at lw_m23 204 rfl) rfl
theorem q5795 : (Jvm.Cond.privateMethod ({ cls := "BoardMachineModel", name := "get", desc := "(I)J" } : Jvm.MethodName)) ∈ lw_tbl := lw_at lw_m23 205 rfl
theorem q5796 : (Jvm.Cond.instanceMethod ({ cls := "BoardMachineModel", name := "get", desc := "(I)J" } : Jvm.MethodName)) ∈ lw_all := lw_g (lw_at lw_m23 206 rfl) rfl
theorem q5797 : (Jvm.Cond.code ({ cls := "BoardMachineModel", name := "get", desc := "(I)J" } : Jvm.MethodName) prog_111_method_27_code (5 : Nat) (Option.some Jvm.ClassFile.FieldType.long)) ∈ lw_all := lw_g (lw_at lw_m23 207 rfl) rfl
theorem q5798 : (Jvm.Cond.methodLink "BoardMachineModel" (335 : Nat) ({ cls := "BoardMachineModel", name := "readWindow", desc := "(JI)J" } : Jvm.MethodName)) ∈ lw_all := lw_g (lw_at lw_m23 208 rfl) rfl
theorem q5799 : (Jvm.Cond.privateMethod ({ cls := "BoardMachineModel", name := "readWindow", desc := "(JI)J" } : Jvm.MethodName)) ∈ lw_tbl := lw_at lw_m23 209 rfl
theorem q5800 : (Jvm.Cond.instanceMethod ({ cls := "BoardMachineModel", name := "readWindow", desc := "(JI)J" } : Jvm.MethodName)) ∈ lw_all := lw_g (lw_at lw_m23 210 rfl) rfl
theorem q5801 : (Jvm.Cond.code ({ cls := "BoardMachineModel", name := "readWindow", desc := "(JI)J" } : Jvm.MethodName) prog_111_method_19_code (7 : Nat) (Option.some Jvm.ClassFile.FieldType.long)) ∈ lw_all := lw_g (lw_at lw_m23 211 rfl) rfl
theorem q5802 : (Jvm.Cond.methodLink "BoardMachineModel" (231 : Nat) ({ cls := "BoardMachineModel$Signals", name := "read", desc := "(IJI)J" } : Jvm.MethodName)) ∈ lw_all := lw_g (lw_at lw_m23 212 rfl) rfl
theorem q5803 : (Jvm.Cond.instanceMethod ({ cls := "BoardMachineModel$Signals", name := "read", desc := "(IJI)J" } : Jvm.MethodName)) ∈ lw_all := lw_g (lw_at lw_m23 213 rfl) rfl
theorem q5804 : (Jvm.Cond.selects "BoardMachineModel$Signals" ({ cls := "BoardMachineModel$Signals", name := "read", desc := "(IJI)J" } : Jvm.MethodName) ({ cls := "BoardMachineModel$Signals", name := "read", desc := "(IJI)J" } : Jvm.MethodName)) ∈ lw_all := lw_g (lw_at lw_m23 214 rfl) rfl
theorem q5805 : (Jvm.Cond.code ({ cls := "BoardMachineModel$Signals", name := "read", desc := "(IJI)J" } : Jvm.MethodName) prog_118_method_31_code (7 : Nat) (Option.some Jvm.ClassFile.FieldType.long)) ∈ lw_all := lw_g (lw_at lw_m23 215 rfl) rfl
theorem q5806 : (Jvm.Cond.methodLink "BoardMachineModel$Signals" (175 : Nat) ({ cls := "BoardMachineModel$Signals", name := "isProper", desc := "(IJI)Z" } : Jvm.MethodName)) ∈ lw_all := lw_g (lw_at lw_m23 216 rfl) rfl
theorem q5807 : (Jvm.Cond.static ({ cls := "BoardMachineModel$Signals", name := "isProper", desc := "(IJI)Z" } : Jvm.MethodName)) ∈ lw_all := lw_g (lw_at lw_m23 217 rfl) rfl
theorem q5808 : (Jvm.Cond.code ({ cls := "BoardMachineModel$Signals", name := "isProper", desc := "(IJI)Z" } : Jvm.MethodName) prog_118_method_30_code (4 : Nat) (Option.some Jvm.ClassFile.FieldType.boolean)) ∈ lw_all := lw_g (lw_at lw_m23 218 rfl) rfl
theorem q5809 : (Jvm.Cond.methodLink "BoardMachineModel$Signals" (179 : Nat) ({ cls := "BoardMachineModel$Signals", name := "readTimer", desc := "(JI)J" } : Jvm.MethodName)) ∈ lw_all := lw_g (lw_at lw_m23 219 rfl) rfl
theorem q5810 : (Jvm.Cond.privateMethod ({ cls := "BoardMachineModel$Signals", name := "readTimer", desc := "(JI)J" } : Jvm.MethodName)) ∈ lw_tbl := lw_at lw_m23 220 rfl
theorem q5811 : (Jvm.Cond.instanceMethod ({ cls := "BoardMachineModel$Signals", name := "readTimer", desc := "(JI)J" } : Jvm.MethodName)) ∈ lw_all := lw_g (lw_at lw_m23 221 rfl) rfl
theorem q5812 : (Jvm.Cond.code ({ cls := "BoardMachineModel$Signals", name := "readTimer", desc := "(JI)J" } : Jvm.MethodName) prog_118_method_8_code (5 : Nat) (Option.some Jvm.ClassFile.FieldType.long)) ∈ lw_all := lw_g (lw_at lw_m23 222 rfl) rfl
theorem q5813 : (Jvm.Cond.constantLong "BoardMachineModel$Signals" (69 : Nat) (4 : Int64)) ∈ lw_all := lw_g (lw_at lw_m23 223 rfl) rfl
theorem q5814 : (Jvm.Cond.methodLink "BoardMachineModel$Signals" (71 : Nat) ({ cls := "BoardMachineModel$Signals", name := "eightAt", desc := "(J)I" } : Jvm.MethodName)) ∈ lw_all := lw_g (lw_at lw_m23 224 rfl) rfl
theorem q5815 : (Jvm.Cond.privateMethod ({ cls := "BoardMachineModel$Signals", name := "eightAt", desc := "(J)I" } : Jvm.MethodName)) ∈ lw_tbl := lw_at lw_m23 225 rfl
theorem q5816 : (Jvm.Cond.instanceMethod ({ cls := "BoardMachineModel$Signals", name := "eightAt", desc := "(J)I" } : Jvm.MethodName)) ∈ lw_all := lw_g (lw_at lw_m23 226 rfl) rfl
theorem q5817 : (Jvm.Cond.code ({ cls := "BoardMachineModel$Signals", name := "eightAt", desc := "(J)I" } : Jvm.MethodName) prog_118_method_5_code (3 : Nat) (Option.some Jvm.ClassFile.FieldType.int)) ∈ lw_all := lw_g (lw_at lw_m23 227 rfl) rfl
theorem q5818 : (Jvm.Cond.constantLong "BoardMachineModel$Signals" (57 : Nat) (49144 : Int64)) ∈ lw_all := lw_g (lw_at lw_m23 228 rfl) rfl
theorem q5819 : (Jvm.Cond.constantLong "BoardMachineModel$Signals" (59 : Nat) (49152 : Int64)) ∈ lw_all := lw_g (lw_at lw_m23 229 rfl) rfl
theorem q5820 : (Jvm.Cond.constantLong "BoardMachineModel$Signals" (61 : Nat) (16384 : Int64)) ∈ lw_all := lw_g (lw_at lw_m23 230 rfl) rfl
theorem q5821 : (Jvm.Cond.constantLong "BoardMachineModel$Signals" (63 : Nat) (8 : Int64)) ∈ lw_all := lw_g (lw_at lw_m23 231 rfl) rfl
theorem q5822 : (Jvm.Cond.methodLink "BoardMachineModel$Signals" (75 : Nat) ({ cls := "BoardMachineModel$Signals", name := "eight", desc := "(I)J" } : Jvm.MethodName)) ∈ lw_all := lw_g (lw_at lw_m23 232 rfl) rfl
theorem q5823 : (Jvm.Cond.privateMethod ({ cls := "BoardMachineModel$Signals", name := "eight", desc := "(I)J" } : Jvm.MethodName)) ∈ lw_tbl := lw_at lw_m23 233 rfl
theorem q5824 : (Jvm.Cond.instanceMethod ({ cls := "BoardMachineModel$Signals", name := "eight", desc := "(I)J" } : Jvm.MethodName)) ∈ lw_all := lw_g (lw_at lw_m23 234 rfl) rfl
theorem q5825 : (Jvm.Cond.code ({ cls := "BoardMachineModel$Signals", name := "eight", desc := "(I)J" } : Jvm.MethodName) prog_118_method_6_code (2 : Nat) (Option.some Jvm.ClassFile.FieldType.long)) ∈ lw_all := lw_g (lw_at lw_m23 235 rfl) rfl
theorem q5826 : (Jvm.Cond.constantLong "BoardMachineModel$Signals" (79 : Nat) (4294967295 : Int64)) ∈ lw_all := lw_g (lw_at lw_m23 236 rfl) rfl
theorem q5827 : (Jvm.Cond.methodLink "BoardMachineModel$Signals" (183 : Nat) ({ cls := "BoardMachineModel$Signals", name := "readController", desc := "(J)J" } : Jvm.MethodName)) ∈ lw_all := lw_g (lw_at lw_m23 237 rfl) rfl
theorem q5828 : (Jvm.Cond.privateMethod ({ cls := "BoardMachineModel$Signals", name := "readController", desc := "(J)J" } : Jvm.MethodName)) ∈ lw_tbl := lw_at lw_m23 238 rfl
theorem q5829 : (Jvm.Cond.instanceMethod ({ cls := "BoardMachineModel$Signals", name := "readController", desc := "(J)J" } : Jvm.MethodName)) ∈ lw_all := lw_g (lw_at lw_m23 239 rfl) rfl
theorem q5830 : (Jvm.Cond.code ({ cls := "BoardMachineModel$Signals", name := "readController", desc := "(J)J" } : Jvm.MethodName) prog_118_method_16_code (4 : Nat) (Option.some Jvm.ClassFile.FieldType.long)) ∈ lw_all := lw_g (lw_at lw_m24 0 rfl) rfl
theorem q5831 : (Jvm.Cond.constantLong "BoardMachineModel$Signals" (100 : Nat) (4096 : Int64)) ∈ lw_all := lw_g (lw_at lw_m24 1 rfl) rfl
theorem q5832 : (Jvm.Cond.methodLink "BoardMachineModel$Signals" (102 : Nat) ({ cls := "BoardMachineModel$Signals", name := "waiting", desc := "()J" } : Jvm.MethodName)) ∈ lw_all := lw_g (lw_at lw_m24 2 rfl) rfl
theorem q5833 : (Jvm.Cond.privateMethod ({ cls := "BoardMachineModel$Signals", name := "waiting", desc := "()J" } : Jvm.MethodName)) ∈ lw_tbl := lw_at lw_m24 3 rfl
theorem q5834 : (Jvm.Cond.instanceMethod ({ cls := "BoardMachineModel$Signals", name := "waiting", desc := "()J" } : Jvm.MethodName)) ∈ lw_all := lw_g (lw_at lw_m24 4 rfl) rfl
theorem q5835 : (Jvm.Cond.code ({ cls := "BoardMachineModel$Signals", name := "waiting", desc := "()J" } : Jvm.MethodName) prog_118_method_15_code (4 : Nat) (Option.some Jvm.ClassFile.FieldType.long)) ∈ lw_all := lw_g (lw_at lw_m24 5 rfl) rfl
theorem q5836 : (Jvm.Cond.constantLong "BoardMachineModel$Signals" (106 : Nat) (128 : Int64)) ∈ lw_all := lw_g (lw_at lw_m24 6 rfl) rfl
theorem q5837 : (Jvm.Cond.constantLong "BoardMachineModel$Signals" (108 : Nat) (8192 : Int64)) ∈ lw_all := lw_g (lw_at lw_m24 7 rfl) rfl
theorem q5838 : (Jvm.Cond.methodLink "BoardMachineModel$Signals" (110 : Nat) ({ cls := "BoardMachineModel$Signals", name := "contextAt", desc := "(JJJ)I" } : Jvm.MethodName)) ∈ lw_all := lw_g (lw_at lw_m24 8 rfl) rfl
theorem q5839 : (Jvm.Cond.privateMethod ({ cls := "BoardMachineModel$Signals", name := "contextAt", desc := "(JJJ)I" } : Jvm.MethodName)) ∈ lw_tbl := lw_at lw_m24 9 rfl
theorem q5840 : (Jvm.Cond.instanceMethod ({ cls := "BoardMachineModel$Signals", name := "contextAt", desc := "(JJJ)I" } : Jvm.MethodName)) ∈ lw_all := lw_g (lw_at lw_m24 10 rfl) rfl
theorem q5841 : (Jvm.Cond.code ({ cls := "BoardMachineModel$Signals", name := "contextAt", desc := "(JJJ)I" } : Jvm.MethodName) prog_118_method_14_code (8 : Nat) (Option.some Jvm.ClassFile.FieldType.int)) ∈ lw_all := lw_g (lw_at lw_m24 11 rfl) rfl
theorem q5842 : (Jvm.Cond.constantLong "BoardMachineModel$Signals" (98 : Nat) (2 : Int64)) ∈ lw_all := lw_g (lw_at lw_m24 12 rfl) rfl
theorem q5843 : (Jvm.Cond.constantLong "BoardMachineModel$Signals" (114 : Nat) (2097152 : Int64)) ∈ lw_all := lw_g (lw_at lw_m24 13 rfl) rfl
theorem q5844 : (Jvm.Cond.constantLong "BoardMachineModel$Signals" (116 : Nat) (2097156 : Int64)) ∈ lw_all := lw_g (lw_at lw_m24 14 rfl) rfl
theorem q5845 : (Jvm.Cond.methodLink "BoardMachineModel$Signals" (118 : Nat) ({ cls := "BoardMachineModel$Signals", name := "claim", desc := "(I)J" } : Jvm.MethodName)) ∈ lw_all := lw_g (lw_at lw_m24 15 rfl) rfl
theorem q5846 : (Jvm.Cond.privateMethod ({ cls := "BoardMachineModel$Signals", name := "claim", desc := "(I)J" } : Jvm.MethodName)) ∈ lw_tbl := lw_at lw_m24 16 rfl
theorem q5847 : (Jvm.Cond.instanceMethod ({ cls := "BoardMachineModel$Signals", name := "claim", desc := "(I)J" } : Jvm.MethodName)) ∈ lw_all := lw_g (lw_at lw_m24 17 rfl) rfl
theorem q5848 : (Jvm.Cond.code ({ cls := "BoardMachineModel$Signals", name := "claim", desc := "(I)J" } : Jvm.MethodName) prog_118_method_13_code (3 : Nat) (Option.some Jvm.ClassFile.FieldType.long)) ∈ lw_all := lw_g (lw_at lw_m24 18 rfl) rfl
theorem q5849 : (Jvm.Cond.methodLink "BoardMachineModel$Signals" (91 : Nat) ({ cls := "BoardMachineModel$Signals", name := "best", desc := "(I)I" } : Jvm.MethodName)) ∈ lw_all := lw_g (lw_at lw_m24 19 rfl) rfl
theorem q5850 : (Jvm.Cond.privateMethod ({ cls := "BoardMachineModel$Signals", name := "best", desc := "(I)I" } : Jvm.MethodName)) ∈ lw_tbl := lw_at lw_m24 20 rfl
theorem q5851 : (Jvm.Cond.instanceMethod ({ cls := "BoardMachineModel$Signals", name := "best", desc := "(I)I" } : Jvm.MethodName)) ∈ lw_all := lw_g (lw_at lw_m24 21 rfl) rfl
theorem q5852 : (Jvm.Cond.code ({ cls := "BoardMachineModel$Signals", name := "best", desc := "(I)I" } : Jvm.MethodName) prog_118_method_12_code (5 : Nat) (Option.some Jvm.ClassFile.FieldType.int)) ∈ lw_all := lw_g (lw_at lw_m24 22 rfl) rfl
theorem q5853 : (Jvm.Cond.methodLink "BoardMachineModel$Signals" (187 : Nat) ({ cls := "BoardMachineModel$Signals", name := "readSerial", desc := "(I)J" } : Jvm.MethodName)) ∈ lw_all := lw_g (lw_at lw_m24 23 rfl) rfl
theorem q5854 : (Jvm.Cond.privateMethod ({ cls := "BoardMachineModel$Signals", name := "readSerial", desc := "(I)J" } : Jvm.MethodName)) ∈ lw_tbl := lw_at lw_m24 24 rfl
theorem q5855 : (Jvm.Cond.instanceMethod ({ cls := "BoardMachineModel$Signals", name := "readSerial", desc := "(I)J" } : Jvm.MethodName)) ∈ lw_all := lw_g (lw_at lw_m24 25 rfl) rfl
theorem q5856 : (Jvm.Cond.code ({ cls := "BoardMachineModel$Signals", name := "readSerial", desc := "(I)J" } : Jvm.MethodName) prog_118_method_26_code (2 : Nat) (Option.some Jvm.ClassFile.FieldType.long)) ∈ lw_all := lw_g (lw_at lw_m24 26 rfl) rfl
theorem q5857 : (Jvm.Cond.methodLink "BoardMachineModel$Signals" (127 : Nat) ({ cls := "BoardMachineModel$Signals", name := "hasBit", desc := "(II)Z" } : Jvm.MethodName)) ∈ lw_all := lw_g (lw_at lw_m24 27 rfl) rfl
theorem q5858 : (Jvm.Cond.privateMethod ({ cls := "BoardMachineModel$Signals", name := "hasBit", desc := "(II)Z" } : Jvm.MethodName)) ∈ lw_tbl := lw_at lw_m24 28 rfl
theorem q5859 : (Jvm.Cond.instanceMethod ({ cls := "BoardMachineModel$Signals", name := "hasBit", desc := "(II)Z" } : Jvm.MethodName)) ∈ lw_all := lw_g (lw_at lw_m24 29 rfl) rfl
theorem q5860 : (Jvm.Cond.code ({ cls := "BoardMachineModel$Signals", name := "hasBit", desc := "(II)Z" } : Jvm.MethodName) prog_118_method_18_code (3 : Nat) (Option.some Jvm.ClassFile.FieldType.boolean)) ∈ lw_all := lw_g (lw_at lw_m24 30 rfl) rfl
theorem q5861 : (Jvm.Cond.methodLink "BoardMachineModel$Signals" (150 : Nat) ({ cls := "BoardMachineModel$Signals", name := "takeOut", desc := "()I" } : Jvm.MethodName)) ∈ lw_all := lw_g (lw_at lw_m24 31 rfl) rfl
theorem q5862 : (Jvm.Cond.privateMethod ({ cls := "BoardMachineModel$Signals", name := "takeOut", desc := "()I" } : Jvm.MethodName)) ∈ lw_tbl := lw_at lw_m24 32 rfl
theorem q5863 : (Jvm.Cond.instanceMethod ({ cls := "BoardMachineModel$Signals", name := "takeOut", desc := "()I" } : Jvm.MethodName)) ∈ lw_all := lw_g (lw_at lw_m24 33 rfl) rfl
theorem q5864 : (Jvm.Cond.code ({ cls := "BoardMachineModel$Signals", name := "takeOut", desc := "()I" } : Jvm.MethodName) prog_118_method_22_code (3 : Nat) (Option.some Jvm.ClassFile.FieldType.int)) ∈ lw_all := lw_g (lw_at lw_m24 34 rfl) rfl
theorem q5865 : (Jvm.Cond.methodLink "BoardMachineModel$Signals" (153 : Nat) ({ cls := "BoardMachineModel$Signals", name := "readCause", desc := "()I" } : Jvm.MethodName)) ∈ lw_all := lw_g (lw_at lw_m24 35 rfl) rfl
theorem q5866 : (Jvm.Cond.privateMethod ({ cls := "BoardMachineModel$Signals", name := "readCause", desc := "()I" } : Jvm.MethodName)) ∈ lw_tbl := lw_at lw_m24 36 rfl
theorem q5867 : (Jvm.Cond.instanceMethod ({ cls := "BoardMachineModel$Signals", name := "readCause", desc := "()I" } : Jvm.MethodName)) ∈ lw_all := lw_g (lw_at lw_m24 37 rfl) rfl
theorem q5868 : (Jvm.Cond.code ({ cls := "BoardMachineModel$Signals", name := "readCause", desc := "()I" } : Jvm.MethodName) prog_118_method_24_code (2 : Nat) (Option.some Jvm.ClassFile.FieldType.int)) ∈ lw_all := lw_g (lw_at lw_m24 38 rfl) rfl
theorem q5869 : (Jvm.Cond.methodLink "BoardMachineModel$Signals" (147 : Nat) ({ cls := "BoardMachineModel$Signals", name := "cause", desc := "()I" } : Jvm.MethodName)) ∈ lw_all := lw_g (lw_at lw_m24 39 rfl) rfl
theorem q5870 : (Jvm.Cond.privateMethod ({ cls := "BoardMachineModel$Signals", name := "cause", desc := "()I" } : Jvm.MethodName)) ∈ lw_tbl := lw_at lw_m24 40 rfl
theorem q5871 : (Jvm.Cond.instanceMethod ({ cls := "BoardMachineModel$Signals", name := "cause", desc := "()I" } : Jvm.MethodName)) ∈ lw_all := lw_g (lw_at lw_m24 41 rfl) rfl
theorem q5872 : (Jvm.Cond.code ({ cls := "BoardMachineModel$Signals", name := "cause", desc := "()I" } : Jvm.MethodName) prog_118_method_19_code (1 : Nat) (Option.some Jvm.ClassFile.FieldType.int)) ∈ lw_all := lw_g (lw_at lw_m24 42 rfl) rfl
theorem q5873 : (Jvm.Cond.methodLink "BoardMachineModel$Signals" (156 : Nat) ({ cls := "BoardMachineModel$Signals", name := "readState", desc := "()I" } : Jvm.MethodName)) ∈ lw_all := lw_g (lw_at lw_m24 43 rfl) rfl
theorem q5874 : (Jvm.Cond.privateMethod ({ cls := "BoardMachineModel$Signals", name := "readState", desc := "()I" } : Jvm.MethodName)) ∈ lw_tbl := lw_at lw_m24 44 rfl
theorem q5875 : (Jvm.Cond.instanceMethod ({ cls := "BoardMachineModel$Signals", name := "readState", desc := "()I" } : Jvm.MethodName)) ∈ lw_all := lw_g (lw_at lw_m24 45 rfl) rfl
theorem q5876 : (Jvm.Cond.code ({ cls := "BoardMachineModel$Signals", name := "readState", desc := "()I" } : Jvm.MethodName) prog_118_method_25_code (2 : Nat) (Option.some Jvm.ClassFile.FieldType.int)) ∈ lw_all := lw_g (lw_at lw_m24 46 rfl) rfl
theorem q5877 : (Jvm.Cond.methodLink "BoardMachineModel$Signals" (159 : Nat) ({ cls := "BoardMachineModel$Signals", name := "looped", desc := "()I" } : Jvm.MethodName)) ∈ lw_all := lw_g (lw_at lw_m24 47 rfl) rfl
theorem q5878 : (Jvm.Cond.privateMethod ({ cls := "BoardMachineModel$Signals", name := "looped", desc := "()I" } : Jvm.MethodName)) ∈ lw_tbl := lw_at lw_m24 48 rfl
theorem q5879 : (Jvm.Cond.instanceMethod ({ cls := "BoardMachineModel$Signals", name := "looped", desc := "()I" } : Jvm.MethodName)) ∈ lw_all := lw_g (lw_at lw_m24 49 rfl) rfl
theorem q5880 : (Jvm.Cond.code ({ cls := "BoardMachineModel$Signals", name := "looped", desc := "()I" } : Jvm.MethodName) prog_118_method_23_code (2 : Nat) (Option.some Jvm.ClassFile.FieldType.int)) ∈ lw_all := lw_g (lw_at lw_m24 50 rfl) rfl
theorem q5881 : (Jvm.Cond.constantLong "BoardMachineModel$Signals" (162 : Nat) (176 : Int64)) ∈ lw_all := lw_g (lw_at lw_m24 51 rfl) rfl
theorem q5882 : (Jvm.Cond.methodLink "BoardMachineModel$Signals" (190 : Nat) ({ cls := "BoardMachineModel$Signals", name := "settle", desc := "()V" } : Jvm.MethodName)) ∈ lw_all := lw_g (lw_at lw_m24 52 rfl) rfl
theorem q5883 : (Jvm.Cond.privateMethod ({ cls := "BoardMachineModel$Signals", name := "settle", desc := "()V" } : Jvm.MethodName)) ∈ lw_tbl := lw_at lw_m24 53 rfl
theorem q5884 : (Jvm.Cond.instanceMethod ({ cls := "BoardMachineModel$Signals", name := "settle", desc := "()V" } : Jvm.MethodName)) ∈ lw_all := lw_g (lw_at lw_m24 54 rfl) rfl
theorem q5885 : (Jvm.Cond.code ({ cls := "BoardMachineModel$Signals", name := "settle", desc := "()V" } : Jvm.MethodName) prog_118_method_29_code (2 : Nat) (Option.none : Option Jvm.ClassFile.FieldType)) ∈ lw_all := lw_g (lw_at lw_m24 55 rfl) rfl
theorem q5886 : (Jvm.Cond.methodLink "BoardMachineModel" (235 : Nat) ({ cls := "BoardMachineModel", name := "isDiskRegister", desc := "(JI)Z" } : Jvm.MethodName)) ∈ lw_all := lw_g (lw_at lw_m24 56 rfl) rfl
theorem q5887 : (Jvm.Cond.static ({ cls := "BoardMachineModel", name := "isDiskRegister", desc := "(JI)Z" } : Jvm.MethodName)) ∈ lw_all := lw_g (lw_at lw_m24 57 rfl) rfl
theorem q5888 : (Jvm.Cond.code ({ cls := "BoardMachineModel", name := "isDiskRegister", desc := "(JI)Z" } : Jvm.MethodName) prog_111_method_18_code (3 : Nat) (Option.some Jvm.ClassFile.FieldType.boolean)) ∈ lw_all := lw_g (lw_at lw_m24 58 rfl) rfl
theorem q5889 : (Jvm.Cond.constantLong "BoardMachineModel" (223 : Nat) (4 : Int64)) ∈ lw_all := lw_g (lw_at lw_m24 59 rfl) rfl
theorem q5890 : (Jvm.Cond.constantLong "BoardMachineModel" (225 : Nat) (508 : Int64)) ∈ lw_all := lw_g (lw_at lw_m24 60 rfl) rfl
theorem q5891 : (Jvm.Cond.methodLink "BoardMachineModel" (239 : Nat) ({ cls := "BoardMachineModel$Block", name := "read", desc := "(I)I" } : Jvm.MethodName)) ∈ lw_all := lw_g (lw_at lw_m24 61 rfl) rfl
theorem q5892 : (Jvm.Cond.instanceMethod ({ cls := "BoardMachineModel$Block", name := "read", desc := "(I)I" } : Jvm.MethodName)) ∈ lw_all := lw_g (lw_at lw_m24 62 rfl) rfl
theorem q5893 : (Jvm.Cond.selects "BoardMachineModel$Block" ({ cls := "BoardMachineModel$Block", name := "read", desc := "(I)I" } : Jvm.MethodName) ({ cls := "BoardMachineModel$Block", name := "read", desc := "(I)I" } : Jvm.MethodName)) ∈ lw_all := lw_g (lw_at lw_m24 63 rfl) rfl
theorem q5894 : (Jvm.Cond.code ({ cls := "BoardMachineModel$Block", name := "read", desc := "(I)I" } : Jvm.MethodName) prog_112_method_12_code (2 : Nat) (Option.some Jvm.ClassFile.FieldType.int)) ∈ lw_all := lw_g (lw_at lw_m24 64 rfl) rfl
theorem q5895 : (Jvm.Cond.methodLink "BoardMachineModel$Block" (73 : Nat) ({ cls := "BoardMachineModel$Block", name := "noOffset", desc := "(I)Z" } : Jvm.MethodName)) ∈ lw_all := lw_g (lw_at lw_m24 65 rfl) rfl
theorem q5896 : (Jvm.Cond.privateMethod ({ cls := "BoardMachineModel$Block", name := "noOffset", desc := "(I)Z" } : Jvm.MethodName)) ∈ lw_tbl := lw_at lw_m24 66 rfl
theorem q5897 : (Jvm.Cond.instanceMethod ({ cls := "BoardMachineModel$Block", name := "noOffset", desc := "(I)Z" } : Jvm.MethodName)) ∈ lw_all := lw_g (lw_at lw_m24 67 rfl) rfl
theorem q5898 : (Jvm.Cond.code ({ cls := "BoardMachineModel$Block", name := "noOffset", desc := "(I)Z" } : Jvm.MethodName) prog_112_method_11_code (2 : Nat) (Option.some Jvm.ClassFile.FieldType.boolean)) ∈ lw_all := lw_g (lw_at lw_m24 68 rfl) rfl
theorem q5899 : (Jvm.Cond.constant "BoardMachineModel$Block" (76 : Nat) (1953655158 : Int32)) ∈ lw_all := lw_g (lw_at lw_m24 69 rfl) rfl
theorem q5900 : (Jvm.Cond.methodLinkNest "BoardMachineModel" (338 : Nat) ({ cls := "BoardMachineModel$Ram", name := "get", desc := "(J)I" } : Jvm.MethodName) "BoardMachineModel") ∈ lw_tbl := lw_at lw_m24 70 rfl
theorem q5901 : (Jvm.Cond.methodLink "BoardMachineModel" (364 : Nat) ({ cls := "BoardMachineModel$Core", name := "finish", desc := "(ZJ)I" } : Jvm.MethodName)) ∈ lw_all := lw_g (lw_at lw_m24 71 rfl) rfl
theorem q5902 : (Jvm.Cond.instanceMethod ({ cls := "BoardMachineModel$Core", name := "finish", desc := "(ZJ)I" } : Jvm.MethodName)) ∈ lw_all := lw_g (lw_at lw_m24 72 rfl) rfl
theorem q5903 : (Jvm.Cond.selects "BoardMachineModel$Core" ({ cls := "BoardMachineModel$Core", name := "finish", desc := "(ZJ)I" } : Jvm.MethodName) ({ cls := "BoardMachineModel$Core", name := "finish", desc := "(ZJ)I" } : Jvm.MethodName)) ∈ lw_all := lw_g (lw_at lw_m24 73 rfl) rfl
theorem q5904 : (Jvm.Cond.code ({ cls := "BoardMachineModel$Core", name := "finish", desc := "(ZJ)I" } : Jvm.MethodName) prog_113_method_41_code (5 : Nat) (Option.some Jvm.ClassFile.FieldType.int)) ∈ lw_all := lw_g (lw_at lw_m24 74 rfl) rfl
theorem q5905 : (Jvm.Cond.methodLink "BoardMachineModel$Core" (183 : Nat) ({ cls := "BoardMachineModel$Core", name := "loaded", desc := "(J)J" } : Jvm.MethodName)) ∈ lw_all := lw_g (lw_at lw_m24 75 rfl) rfl
theorem q5906 : (Jvm.Cond.privateMethod ({ cls := "BoardMachineModel$Core", name := "loaded", desc := "(J)J" } : Jvm.MethodName)) ∈ lw_tbl := lw_at lw_m24 76 rfl
theorem q5907 : (Jvm.Cond.instanceMethod ({ cls := "BoardMachineModel$Core", name := "loaded", desc := "(J)J" } : Jvm.MethodName)) ∈ lw_all := lw_g (lw_at lw_m24 77 rfl) rfl
theorem q5908 : (Jvm.Cond.code ({ cls := "BoardMachineModel$Core", name := "loaded", desc := "(J)J" } : Jvm.MethodName) prog_113_method_40_code (9 : Nat) (Option.some Jvm.ClassFile.FieldType.long)) ∈ lw_all := lw_g (lw_at lw_m24 78 rfl) rfl
theorem q5909 : (Jvm.Cond.constantLong "BoardMachineModel$Core" (181 : Nat) (64 : Int64)) ∈ lw_all := lw_g (lw_at lw_m24 79 rfl) rfl
theorem q5910 : (Jvm.Cond.methodLink "BoardMachineModel" (376 : Nat) ({ cls := "BoardMachineModel", name := "store", desc := "(IJIJ)Z" } : Jvm.MethodName)) ∈ lw_all := lw_g (lw_at lw_m24 80 rfl) rfl
theorem q5911 : (Jvm.Cond.privateMethod ({ cls := "BoardMachineModel", name := "store", desc := "(IJIJ)Z" } : Jvm.MethodName)) ∈ lw_tbl := lw_at lw_m24 81 rfl
theorem q5912 : (Jvm.Cond.instanceMethod ({ cls := "BoardMachineModel", name := "store", desc := "(IJIJ)Z" } : Jvm.MethodName)) ∈ lw_all := lw_g (lw_at lw_m24 82 rfl) rfl
theorem q5913 : (Jvm.Cond.code ({ cls := "BoardMachineModel", name := "store", desc := "(IJIJ)Z" } : Jvm.MethodName) prog_111_method_30_code (7 : Nat) (Option.some Jvm.ClassFile.FieldType.boolean)) ∈ lw_all := lw_g (lw_at lw_m24 83 rfl) rfl
theorem q5914 : (Jvm.Cond.methodLink "BoardMachineModel" (359 : Nat) ({ cls := "BoardMachineModel", name := "watch", desc := "(II)V" } : Jvm.MethodName)) ∈ lw_all := lw_g (lw_at lw_m24 84 rfl) rfl
theorem q5915 : (Jvm.Cond.privateMethod ({ cls := "BoardMachineModel", name := "watch", desc := "(II)V" } : Jvm.MethodName)) ∈ lw_tbl := lw_at lw_m24 85 rfl
theorem q5916 : (Jvm.Cond.instanceMethod ({ cls := "BoardMachineModel", name := "watch", desc := "(II)V" } : Jvm.MethodName)) ∈ lw_all := lw_g (lw_at lw_m24 86 rfl) rfl
theorem q5917 : (Jvm.Cond.code ({ cls := "BoardMachineModel", name := "watch", desc := "(II)V" } : Jvm.MethodName) prog_111_method_29_code (6 : Nat) (Option.none : Option Jvm.ClassFile.FieldType)) ∈ lw_all := lw_g (lw_at lw_m24 87 rfl) rfl
theorem q5918 : (Jvm.Cond.methodLinkNest "BoardMachineModel" (349 : Nat) ({ cls := "BoardMachineModel$Walk", name := "isOpen", desc := "(J)Z" } : Jvm.MethodName) "BoardMachineModel") ∈ lw_tbl := lw_at lw_m24 88 rfl
theorem q5919 : (Jvm.Cond.privateMethod ({ cls := "BoardMachineModel$Walk", name := "isOpen", desc := "(J)Z" } : Jvm.MethodName)) ∈ lw_tbl := lw_at lw_m24 89 rfl
theorem q5920 : (Jvm.Cond.instanceMethod ({ cls := "BoardMachineModel$Walk", name := "isOpen", desc := "(J)Z" } : Jvm.MethodName)) ∈ lw_all := lw_g (lw_at lw_m24 90 rfl) rfl
theorem q5921 : (Jvm.Cond.code ({ cls := "BoardMachineModel$Walk", name := "isOpen", desc := "(J)Z" } : Jvm.MethodName) prog_120_method_16_code (4 : Nat) (Option.some Jvm.ClassFile.FieldType.boolean)) ∈ lw_all := lw_g (lw_at lw_m24 91 rfl) rfl
theorem q5922 : (Jvm.Cond.methodLink "BoardMachineModel" (362 : Nat) ({ cls := "BoardMachineModel", name := "put", desc := "(IJ)V" } : Jvm.MethodName)) ∈ lw_all := lw_g (lw_at lw_m24 92 rfl) rfl
theorem q5923 : (Jvm.Cond.privateMethod ({ cls := "BoardMachineModel", name := "put", desc := "(IJ)V" } : Jvm.MethodName)) ∈ lw_tbl := lw_at lw_m24 93 rfl
theorem q5924 : (Jvm.Cond.instanceMethod ({ cls := "BoardMachineModel", name := "put", desc := "(IJ)V" } : Jvm.MethodName)) ∈ lw_all := lw_g (lw_at lw_m24 94 rfl) rfl
theorem q5925 : (Jvm.Cond.code ({ cls := "BoardMachineModel", name := "put", desc := "(IJ)V" } : Jvm.MethodName) prog_111_method_28_code (5 : Nat) (Option.none : Option Jvm.ClassFile.FieldType)) ∈ lw_all := lw_g (lw_at lw_m24 95 rfl) rfl
theorem q5926 : (Jvm.Cond.methodLinkNest "BoardMachineModel" (342 : Nat) ({ cls := "BoardMachineModel$Ram", name := "keep", desc := "(JIJ)V" } : Jvm.MethodName) "BoardMachineModel") ∈ lw_tbl := lw_at lw_m24 96 rfl
theorem q5927 : (Jvm.Cond.methodLink "BoardMachineModel" (346 : Nat) ({ cls := "BoardMachineModel", name := "writeWindow", desc := "(JIJ)V" } : Jvm.MethodName)) ∈ lw_all := lw_g (lw_at lw_m24 97 rfl) rfl
theorem q5928 : (Jvm.Cond.privateMethod ({ cls := "BoardMachineModel", name := "writeWindow", desc := "(JIJ)V" } : Jvm.MethodName)) ∈ lw_tbl := lw_at lw_m24 98 rfl
theorem q5929 : (Jvm.Cond.instanceMethod ({ cls := "BoardMachineModel", name := "writeWindow", desc := "(JIJ)V" } : Jvm.MethodName)) ∈ lw_all := lw_g (lw_at lw_m24 99 rfl) rfl
theorem q5930 : (Jvm.Cond.code ({ cls := "BoardMachineModel", name := "writeWindow", desc := "(JIJ)V" } : Jvm.MethodName) prog_111_method_20_code (11 : Nat) (Option.none : Option Jvm.ClassFile.FieldType)) ∈ lw_all := lw_g (lw_at lw_m24 100 rfl) rfl
theorem q5931 : (Jvm.Cond.methodLink "BoardMachineModel" (244 : Nat) ({ cls := "BoardMachineModel$Signals", name := "write", desc := "(IJIJ)V" } : Jvm.MethodName)) ∈ lw_all := lw_g (lw_at lw_m24 101 rfl) rfl
theorem q5932 : (Jvm.Cond.instanceMethod ({ cls := "BoardMachineModel$Signals", name := "write", desc := "(IJIJ)V" } : Jvm.MethodName)) ∈ lw_all := lw_g (lw_at lw_m24 102 rfl) rfl
theorem q5933 : (Jvm.Cond.selects "BoardMachineModel$Signals" ({ cls := "BoardMachineModel$Signals", name := "write", desc := "(IJIJ)V" } : Jvm.MethodName) ({ cls := "BoardMachineModel$Signals", name := "write", desc := "(IJIJ)V" } : Jvm.MethodName)) ∈ lw_all := lw_g (lw_at lw_m24 103 rfl) rfl
theorem q5934 : (Jvm.Cond.code ({ cls := "BoardMachineModel$Signals", name := "write", desc := "(IJIJ)V" } : Jvm.MethodName) prog_118_method_32_code (7 : Nat) (Option.none : Option Jvm.ClassFile.FieldType)) ∈ lw_all := lw_g (lw_at lw_m24 104 rfl) rfl
theorem q5935 : (Jvm.Cond.methodLink "BoardMachineModel$Signals" (193 : Nat) ({ cls := "BoardMachineModel$Signals", name := "writeTimer", desc := "(JIJ)V" } : Jvm.MethodName)) ∈ lw_all := lw_g (lw_at lw_m24 105 rfl) rfl
theorem q5936 : (Jvm.Cond.privateMethod ({ cls := "BoardMachineModel$Signals", name := "writeTimer", desc := "(JIJ)V" } : Jvm.MethodName)) ∈ lw_tbl := lw_at lw_m24 106 rfl
theorem q5937 : (Jvm.Cond.instanceMethod ({ cls := "BoardMachineModel$Signals", name := "writeTimer", desc := "(JIJ)V" } : Jvm.MethodName)) ∈ lw_all := lw_g (lw_at lw_m24 107 rfl) rfl
theorem q5938 : (Jvm.Cond.code ({ cls := "BoardMachineModel$Signals", name := "writeTimer", desc := "(JIJ)V" } : Jvm.MethodName) prog_118_method_9_code (11 : Nat) (Option.none : Option Jvm.ClassFile.FieldType)) ∈ lw_all := lw_g (lw_at lw_m24 108 rfl) rfl
theorem q5939 : (Jvm.Cond.methodLink "BoardMachineModel$Signals" (81 : Nat) ({ cls := "BoardMachineModel$Signals", name := "setEight", desc := "(IJ)V" } : Jvm.MethodName)) ∈ lw_all := lw_g (lw_at lw_m24 109 rfl) rfl
theorem q5940 : (Jvm.Cond.privateMethod ({ cls := "BoardMachineModel$Signals", name := "setEight", desc := "(IJ)V" } : Jvm.MethodName)) ∈ lw_tbl := lw_at lw_m24 110 rfl
theorem q5941 : (Jvm.Cond.instanceMethod ({ cls := "BoardMachineModel$Signals", name := "setEight", desc := "(IJ)V" } : Jvm.MethodName)) ∈ lw_all := lw_g (lw_at lw_m24 111 rfl) rfl
theorem q5942 : (Jvm.Cond.code ({ cls := "BoardMachineModel$Signals", name := "setEight", desc := "(IJ)V" } : Jvm.MethodName) prog_118_method_7_code (4 : Nat) (Option.none : Option Jvm.ClassFile.FieldType)) ∈ lw_all := lw_g (lw_at lw_m24 112 rfl) rfl
theorem q5943 : (Jvm.Cond.methodLink "BoardMachineModel$Signals" (197 : Nat) ({ cls := "BoardMachineModel$Signals", name := "writeController", desc := "(JJ)V" } : Jvm.MethodName)) ∈ lw_all := lw_g (lw_at lw_m24 113 rfl) rfl
theorem q5944 : (Jvm.Cond.privateMethod ({ cls := "BoardMachineModel$Signals", name := "writeController", desc := "(JJ)V" } : Jvm.MethodName)) ∈ lw_tbl := lw_at lw_m24 114 rfl
theorem q5945 : (Jvm.Cond.instanceMethod ({ cls := "BoardMachineModel$Signals", name := "writeController", desc := "(JJ)V" } : Jvm.MethodName)) ∈ lw_all := lw_g (lw_at lw_m24 115 rfl) rfl
theorem q5946 : (Jvm.Cond.code ({ cls := "BoardMachineModel$Signals", name := "writeController", desc := "(JJ)V" } : Jvm.MethodName) prog_118_method_17_code (8 : Nat) (Option.none : Option Jvm.ClassFile.FieldType)) ∈ lw_all := lw_g (lw_at lw_m24 116 rfl) rfl
theorem q5947 : (Jvm.Cond.methodLink "BoardMachineModel$Signals" (121 : Nat) ({ cls := "BoardMachineModel$Signals", name := "isSource", desc := "(J)Z" } : Jvm.MethodName)) ∈ lw_all := lw_g (lw_at lw_m24 117 rfl) rfl
theorem q5948 : (Jvm.Cond.static ({ cls := "BoardMachineModel$Signals", name := "isSource", desc := "(J)Z" } : Jvm.MethodName)) ∈ lw_all := lw_g (lw_at lw_m24 118 rfl) rfl
theorem q5949 : (Jvm.Cond.code ({ cls := "BoardMachineModel$Signals", name := "isSource", desc := "(J)Z" } : Jvm.MethodName) prog_118_method_10_code (2 : Nat) (Option.some Jvm.ClassFile.FieldType.boolean)) ∈ lw_all := lw_g (lw_at lw_m24 119 rfl) rfl
theorem q5950 : (Jvm.Cond.constantLong "BoardMachineModel$Signals" (85 : Nat) (32 : Int64)) ∈ lw_all := lw_g (lw_at lw_m24 120 rfl) rfl
theorem q5951 : (Jvm.Cond.constantLong "BoardMachineModel$Signals" (125 : Nat) (7 : Int64)) ∈ lw_all := lw_g (lw_at lw_m24 121 rfl) rfl
theorem q5952 : (Jvm.Cond.constantLong "BoardMachineModel$Signals" (201 : Nat) (255 : Int64)) ∈ lw_all := lw_g (lw_at lw_m24 122 rfl) rfl
theorem q5953 : (Jvm.Cond.methodLink "BoardMachineModel$Signals" (203 : Nat) ({ cls := "BoardMachineModel$Signals", name := "writeSerial", desc := "(II)V" } : Jvm.MethodName)) ∈ lw_all := lw_g (lw_at lw_m24 123 rfl) rfl
theorem q5954 : (Jvm.Cond.privateMethod ({ cls := "BoardMachineModel$Signals", name := "writeSerial", desc := "(II)V" } : Jvm.MethodName)) ∈ lw_tbl := lw_at lw_m24 124 rfl
theorem q5955 : (Jvm.Cond.instanceMethod ({ cls := "BoardMachineModel$Signals", name := "writeSerial", desc := "(II)V" } : Jvm.MethodName)) ∈ lw_all := lw_g (lw_at lw_m24 125 rfl) rfl
theorem q5956 : (Jvm.Cond.code ({ cls := "BoardMachineModel$Signals", name := "writeSerial", desc := "(II)V" } : Jvm.MethodName) prog_118_method_28_code (4 : Nat) (Option.none : Option Jvm.ClassFile.FieldType)) ∈ lw_all := lw_g (lw_at lw_m24 126 rfl) rfl
theorem q5957 : (Jvm.Cond.methodLink "BoardMachineModel$Signals" (171 : Nat) ({ cls := "BoardMachineModel$Signals", name := "send", desc := "(I)V" } : Jvm.MethodName)) ∈ lw_all := lw_g (lw_at lw_m24 127 rfl) rfl
theorem q5958 : (Jvm.Cond.privateMethod ({ cls := "BoardMachineModel$Signals", name := "send", desc := "(I)V" } : Jvm.MethodName)) ∈ lw_tbl := lw_at lw_m24 128 rfl
theorem q5959 : (Jvm.Cond.instanceMethod ({ cls := "BoardMachineModel$Signals", name := "send", desc := "(I)V" } : Jvm.MethodName)) ∈ lw_all := lw_g (lw_at lw_m24 129 rfl) rfl
theorem q5960 : (Jvm.Cond.code ({ cls := "BoardMachineModel$Signals", name := "send", desc := "(I)V" } : Jvm.MethodName) prog_118_method_27_code (2 : Nat) (Option.none : Option Jvm.ClassFile.FieldType)) ∈ lw_all := lw_g (lw_at lw_m24 130 rfl) rfl
theorem q5961 : (Jvm.Cond.methodLink "BoardMachineModel$Signals" (164 : Nat) ({ cls := "BoardMachineModel$Signals", name := "takeIn", desc := "(I)Z" } : Jvm.MethodName)) ∈ lw_all := lw_g (lw_at lw_m24 131 rfl) rfl
theorem q5962 : (Jvm.Cond.privateMethod ({ cls := "BoardMachineModel$Signals", name := "takeIn", desc := "(I)Z" } : Jvm.MethodName)) ∈ lw_tbl := lw_at lw_m24 132 rfl
theorem q5963 : (Jvm.Cond.instanceMethod ({ cls := "BoardMachineModel$Signals", name := "takeIn", desc := "(I)Z" } : Jvm.MethodName)) ∈ lw_all := lw_g (lw_at lw_m24 133 rfl) rfl
theorem q5964 : (Jvm.Cond.code ({ cls := "BoardMachineModel$Signals", name := "takeIn", desc := "(I)Z" } : Jvm.MethodName) prog_118_method_21_code (2 : Nat) (Option.some Jvm.ClassFile.FieldType.boolean)) ∈ lw_all := lw_g (lw_at lw_m24 134 rfl) rfl
theorem q5965 : (Jvm.Cond.methodLink "BoardMachineModel$Signals" (143 : Nat) ({ cls := "BoardMachineModel$Signals", name := "space", desc := "()I" } : Jvm.MethodName)) ∈ lw_all := lw_g (lw_at lw_m24 135 rfl) rfl
theorem q5966 : (Jvm.Cond.privateMethod ({ cls := "BoardMachineModel$Signals", name := "space", desc := "()I" } : Jvm.MethodName)) ∈ lw_tbl := lw_at lw_m24 136 rfl
theorem q5967 : (Jvm.Cond.instanceMethod ({ cls := "BoardMachineModel$Signals", name := "space", desc := "()I" } : Jvm.MethodName)) ∈ lw_all := lw_g (lw_at lw_m24 137 rfl) rfl
theorem q5968 : (Jvm.Cond.code ({ cls := "BoardMachineModel$Signals", name := "space", desc := "()I" } : Jvm.MethodName) prog_118_method_20_code (1 : Nat) (Option.some Jvm.ClassFile.FieldType.int)) ∈ lw_all := lw_g (lw_at lw_m24 138 rfl) rfl
theorem q5969 : (Jvm.Cond.methodLink "BoardMachineModel" (248 : Nat) ({ cls := "BoardMachineModel$Block", name := "write", desc := "(II)V" } : Jvm.MethodName)) ∈ lw_all := lw_g (lw_at lw_m24 139 rfl) rfl
theorem q5970 : (Jvm.Cond.instanceMethod ({ cls := "BoardMachineModel$Block", name := "write", desc := "(II)V" } : Jvm.MethodName)) ∈ lw_all := lw_g (lw_at lw_m24 140 rfl) rfl
theorem q5971 : (Jvm.Cond.selects "BoardMachineModel$Block" ({ cls := "BoardMachineModel$Block", name := "write", desc := "(II)V" } : Jvm.MethodName) ({ cls := "BoardMachineModel$Block", name := "write", desc := "(II)V" } : Jvm.MethodName)) ∈ lw_all := lw_g (lw_at lw_m24 141 rfl) rfl
theorem q5972 : (Jvm.Cond.code ({ cls := "BoardMachineModel$Block", name := "write", desc := "(II)V" } : Jvm.MethodName) prog_112_method_15_code (3 : Nat) (Option.none : Option Jvm.ClassFile.FieldType)) ∈ lw_all := lw_g (lw_at lw_m24 142 rfl) rfl
theorem q5973 : (Jvm.Cond.methodLink "BoardMachineModel$Block" (101 : Nat) ({ cls := "BoardMachineModel$Block", name := "setQueue", desc := "(II)V" } : Jvm.MethodName)) ∈ lw_all := lw_g (lw_at lw_m24 143 rfl) rfl
theorem q5974 : (Jvm.Cond.privateMethod ({ cls := "BoardMachineModel$Block", name := "setQueue", desc := "(II)V" } : Jvm.MethodName)) ∈ lw_tbl := lw_at lw_m24 144 rfl
theorem q5975 : (Jvm.Cond.instanceMethod ({ cls := "BoardMachineModel$Block", name := "setQueue", desc := "(II)V" } : Jvm.MethodName)) ∈ lw_all := lw_g (lw_at lw_m24 145 rfl) rfl
theorem q5976 : (Jvm.Cond.code ({ cls := "BoardMachineModel$Block", name := "setQueue", desc := "(II)V" } : Jvm.MethodName) prog_112_method_14_code (8 : Nat) (Option.none : Option Jvm.ClassFile.FieldType)) ∈ lw_all := lw_g (lw_at lw_m24 146 rfl) rfl
theorem q5977 : (Jvm.Cond.constantLong "BoardMachineModel$Block" (99 : Nat) (4294967295 : Int64)) ∈ lw_all := lw_g (lw_at lw_m24 147 rfl) rfl
theorem q5978 : (Jvm.Cond.methodLink "BoardMachineModel$Block" (105 : Nat) ({ cls := "BoardMachineModel$Block", name := "work", desc := "()V" } : Jvm.MethodName)) ∈ lw_all := lw_g (lw_at lw_m24 148 rfl) rfl
theorem q5979 : (Jvm.Cond.privateMethod ({ cls := "BoardMachineModel$Block", name := "work", desc := "()V" } : Jvm.MethodName)) ∈ lw_tbl := lw_at lw_m24 149 rfl
theorem q5980 : (Jvm.Cond.instanceMethod ({ cls := "BoardMachineModel$Block", name := "work", desc := "()V" } : Jvm.MethodName)) ∈ lw_all := lw_g (lw_at lw_m24 150 rfl) rfl
theorem q5981 : (Jvm.Cond.code ({ cls := "BoardMachineModel$Block", name := "work", desc := "()V" } : Jvm.MethodName) prog_112_method_26_code (7 : Nat) (Option.none : Option Jvm.ClassFile.FieldType)) ∈ lw_all := lw_g (lw_at lw_m24 151 rfl) rfl
theorem q5982 : (Jvm.Cond.constantLong "BoardMachineModel$Block" (178 : Nat) (4 : Int64)) ∈ lw_all := lw_g (lw_at lw_m24 152 rfl) rfl
theorem q5983 : (Jvm.Cond.methodLink "BoardMachineModel$Block" (122 : Nat) ({ cls := "BoardMachineModel$Block", name := "isThere", desc := "(JJ)Z" } : Jvm.MethodName)) ∈ lw_all := lw_g (lw_at lw_m24 153 rfl) rfl
theorem q5984 : (Jvm.Cond.static ({ cls := "BoardMachineModel$Block", name := "isThere", desc := "(JJ)Z" } : Jvm.MethodName)) ∈ lw_all := lw_g (lw_at lw_m24 154 rfl) rfl
theorem q5985 : (Jvm.Cond.code ({ cls := "BoardMachineModel$Block", name := "isThere", desc := "(JJ)Z" } : Jvm.MethodName) prog_112_method_5_code (4 : Nat) (Option.some Jvm.ClassFile.FieldType.boolean)) ∈ lw_all := lw_g (lw_at lw_m24 155 rfl) rfl
theorem q5986 : (Jvm.Cond.methodLinkNest "BoardMachineModel$Block" (45 : Nat) ({ cls := "BoardMachineModel$Ram", name := "areBytes", desc := "(JJ)Z" } : Jvm.MethodName) "BoardMachineModel") ∈ lw_tbl := lw_at lw_m24 156 rfl
theorem q5987 : (Jvm.Cond.methodLink "BoardMachineModel$Block" (182 : Nat) ({ cls := "BoardMachineModel$Block", name := "breakDown", desc := "()V" } : Jvm.MethodName)) ∈ lw_all := lw_g (lw_at lw_m24 157 rfl) rfl
theorem q5988 : (Jvm.Cond.privateMethod ({ cls := "BoardMachineModel$Block", name := "breakDown", desc := "()V" } : Jvm.MethodName)) ∈ lw_tbl := lw_at lw_m24 158 rfl
theorem q5989 : (Jvm.Cond.instanceMethod ({ cls := "BoardMachineModel$Block", name := "breakDown", desc := "()V" } : Jvm.MethodName)) ∈ lw_all := lw_g (lw_at lw_m24 159 rfl) rfl
theorem q5990 : (Jvm.Cond.code ({ cls := "BoardMachineModel$Block", name := "breakDown", desc := "()V" } : Jvm.MethodName) prog_112_method_25_code (1 : Nat) (Option.none : Option Jvm.ClassFile.FieldType)) ∈ lw_all := lw_g (lw_at lw_m24 160 rfl) rfl
theorem q5991 : (Jvm.Cond.methodLink "BoardMachineModel$Block" (127 : Nat) ({ cls := "BoardMachineModel$Block", name := "number", desc := "(JI)J" } : Jvm.MethodName)) ∈ lw_all := lw_g (lw_at lw_m24 161 rfl) rfl
theorem q5992 : (Jvm.Cond.privateMethod ({ cls := "BoardMachineModel$Block", name := "number", desc := "(JI)J" } : Jvm.MethodName)) ∈ lw_tbl := lw_at lw_m24 162 rfl
theorem q5993 : (Jvm.Cond.instanceMethod ({ cls := "BoardMachineModel$Block", name := "number", desc := "(JI)J" } : Jvm.MethodName)) ∈ lw_all := lw_g (lw_at lw_m24 163 rfl) rfl
theorem q5994 : (Jvm.Cond.code ({ cls := "BoardMachineModel$Block", name := "number", desc := "(JI)J" } : Jvm.MethodName) prog_112_method_6_code (7 : Nat) (Option.some Jvm.ClassFile.FieldType.long)) ∈ lw_all := lw_g (lw_at lw_m24 164 rfl) rfl
theorem q5995 : (Jvm.Cond.constantLong "BoardMachineModel$Block" (51 : Nat) (256 : Int64)) ∈ lw_all := lw_g (lw_at lw_m24 165 rfl) rfl
theorem q5996 : (Jvm.Cond.methodLinkNest "BoardMachineModel$Block" (53 : Nat) ({ cls := "BoardMachineModel$Ram", name := "get", desc := "(J)I" } : Jvm.MethodName) "BoardMachineModel") ∈ lw_tbl := lw_at lw_m24 166 rfl
theorem q5997 : (Jvm.Cond.constantLong "BoardMachineModel$Block" (170 : Nat) (2 : Int64)) ∈ lw_all := lw_g (lw_at lw_m24 167 rfl) rfl
theorem q5998 : (Jvm.Cond.constant "BoardMachineModel$Block" (185 : Nat) (65535 : Int32)) ∈ lw_all := lw_g (lw_at lw_m24 168 rfl) rfl
theorem q5999 : (Jvm.Cond.methodLink "BoardMachineModel$Block" (186 : Nat) ({ cls := "BoardMachineModel$Block", name := "oneMore", desc := "()Z" } : Jvm.MethodName)) ∈ lw_all := lw_g (lw_at lw_m24 169 rfl) rfl
theorem q6000 : (Jvm.Cond.privateMethod ({ cls := "BoardMachineModel$Block", name := "oneMore", desc := "()Z" } : Jvm.MethodName)) ∈ lw_tbl := lw_at lw_m24 170 rfl
theorem q6001 : (Jvm.Cond.instanceMethod ({ cls := "BoardMachineModel$Block", name := "oneMore", desc := "()Z" } : Jvm.MethodName)) ∈ lw_all := lw_g (lw_at lw_m24 171 rfl) rfl
theorem q6002 : (Jvm.Cond.code ({ cls := "BoardMachineModel$Block", name := "oneMore", desc := "()Z" } : Jvm.MethodName) prog_112_method_27_code (8 : Nat) (Option.some Jvm.ClassFile.FieldType.boolean)) ∈ lw_all := lw_g (lw_at lw_m24 172 rfl) rfl
theorem q6003 : (Jvm.Cond.constantLong "BoardMachineModel$Block" (131 : Nat) (8 : Int64)) ∈ lw_all := lw_g (lw_at lw_m24 173 rfl) rfl
theorem q6004 : (Jvm.Cond.methodLink "BoardMachineModel$Block" (190 : Nat) ({ cls := "BoardMachineModel$Block", name := "gather", desc := "(I)Z" } : Jvm.MethodName)) ∈ lw_all := lw_g (lw_at lw_m24 174 rfl) rfl
theorem q6005 : (Jvm.Cond.privateMethod ({ cls := "BoardMachineModel$Block", name := "gather", desc := "(I)Z" } : Jvm.MethodName)) ∈ lw_tbl := lw_at lw_m24 175 rfl
theorem q6006 : (Jvm.Cond.instanceMethod ({ cls := "BoardMachineModel$Block", name := "gather", desc := "(I)Z" } : Jvm.MethodName)) ∈ lw_all := lw_g (lw_at lw_m24 176 rfl) rfl
theorem q6007 : (Jvm.Cond.code ({ cls := "BoardMachineModel$Block", name := "gather", desc := "(I)Z" } : Jvm.MethodName) prog_112_method_19_code (8 : Nat) (Option.some Jvm.ClassFile.FieldType.boolean)) ∈ lw_all := lw_g (lw_at lw_m24 177 rfl) rfl
theorem q6008 : (Jvm.Cond.constantLong "BoardMachineModel$Block" (120 : Nat) (16 : Int64)) ∈ lw_all := lw_g (lw_at lw_m24 178 rfl) rfl
theorem q6009 : (Jvm.Cond.constantLong "BoardMachineModel$Block" (125 : Nat) (12 : Int64)) ∈ lw_all := lw_g (lw_at lw_m24 179 rfl) rfl
theorem q6010 : (Jvm.Cond.constantLong "BoardMachineModel$Block" (133 : Nat) (14 : Int64)) ∈ lw_all := lw_g (lw_at lw_m24 180 rfl) rfl
theorem q6011 : (Jvm.Cond.methodLink "BoardMachineModel$Block" (193 : Nat) ({ cls := "BoardMachineModel$Block", name := "request", desc := "()J" } : Jvm.MethodName)) ∈ lw_all := lw_g (lw_at lw_m24 181 rfl) rfl
theorem q6012 : (Jvm.Cond.privateMethod ({ cls := "BoardMachineModel$Block", name := "request", desc := "()J" } : Jvm.MethodName)) ∈ lw_tbl := lw_at lw_m24 182 rfl
theorem q6013 : (Jvm.Cond.instanceMethod ({ cls := "BoardMachineModel$Block", name := "request", desc := "()J" } : Jvm.MethodName)) ∈ lw_all := lw_g (lw_at lw_m24 183 rfl) rfl
theorem q6014 : (Jvm.Cond.code ({ cls := "BoardMachineModel$Block", name := "request", desc := "()J" } : Jvm.MethodName) prog_112_method_24_code (14 : Nat) (Option.some Jvm.ClassFile.FieldType.long)) ∈ lw_all := lw_g (lw_at lw_m24 184 rfl) rfl
theorem q6015 : (Jvm.Cond.methodLink "BoardMachineModel$Block" (146 : Nat) ({ cls := "BoardMachineModel$Block", name := "data", desc := "(Z)J" } : Jvm.MethodName)) ∈ lw_all := lw_g (lw_at lw_m24 185 rfl) rfl
theorem q6016 : (Jvm.Cond.privateMethod ({ cls := "BoardMachineModel$Block", name := "data", desc := "(Z)J" } : Jvm.MethodName)) ∈ lw_tbl := lw_at lw_m24 186 rfl
theorem q6017 : (Jvm.Cond.instanceMethod ({ cls := "BoardMachineModel$Block", name := "data", desc := "(Z)J" } : Jvm.MethodName)) ∈ lw_all := lw_g (lw_at lw_m24 187 rfl) rfl
theorem q6018 : (Jvm.Cond.code ({ cls := "BoardMachineModel$Block", name := "data", desc := "(Z)J" } : Jvm.MethodName) prog_112_method_20_code (5 : Nat) (Option.some Jvm.ClassFile.FieldType.long)) ∈ lw_all := lw_g (lw_at lw_m24 188 rfl) rfl
theorem q6019 : (Jvm.Cond.methodLink "BoardMachineModel$Block" (150 : Nat) ({ cls := "BoardMachineModel$Block", name := "areSectors", desc := "(JJ)Z" } : Jvm.MethodName)) ∈ lw_all := lw_g (lw_at lw_m24 189 rfl) rfl
theorem q6020 : (Jvm.Cond.privateMethod ({ cls := "BoardMachineModel$Block", name := "areSectors", desc := "(JJ)Z" } : Jvm.MethodName)) ∈ lw_tbl := lw_at lw_m24 190 rfl
theorem q6021 : (Jvm.Cond.instanceMethod ({ cls := "BoardMachineModel$Block", name := "areSectors", desc := "(JJ)Z" } : Jvm.MethodName)) ∈ lw_all := lw_g (lw_at lw_m24 191 rfl) rfl
theorem q6022 : (Jvm.Cond.code ({ cls := "BoardMachineModel$Block", name := "areSectors", desc := "(JJ)Z" } : Jvm.MethodName) prog_112_method_23_code (5 : Nat) (Option.some Jvm.ClassFile.FieldType.boolean)) ∈ lw_all := lw_g (lw_at lw_m24 192 rfl) rfl
theorem q6023 : (Jvm.Cond.constantLong "BoardMachineModel$Block" (142 : Nat) (32768 : Int64)) ∈ lw_all := lw_g (lw_at lw_m24 193 rfl) rfl
theorem q6024 : (Jvm.Cond.constantLong "BoardMachineModel$Block" (144 : Nat) (512 : Int64)) ∈ lw_all := lw_g (lw_at lw_m24 194 rfl) rfl
theorem q6025 : (Jvm.Cond.methodLink "BoardMachineModel$Block" (153 : Nat) ({ cls := "BoardMachineModel$Block", name := "beginData", desc := "(Z)V" } : Jvm.MethodName)) ∈ lw_all := lw_g (lw_at lw_m24 195 rfl) rfl
theorem q6026 : (Jvm.Cond.privateMethod ({ cls := "BoardMachineModel$Block", name := "beginData", desc := "(Z)V" } : Jvm.MethodName)) ∈ lw_tbl := lw_at lw_m24 196 rfl
theorem q6027 : (Jvm.Cond.instanceMethod ({ cls := "BoardMachineModel$Block", name := "beginData", desc := "(Z)V" } : Jvm.MethodName)) ∈ lw_all := lw_g (lw_at lw_m24 197 rfl) rfl
theorem q6028 : (Jvm.Cond.code ({ cls := "BoardMachineModel$Block", name := "beginData", desc := "(Z)V" } : Jvm.MethodName) prog_112_method_21_code (2 : Nat) (Option.none : Option Jvm.ClassFile.FieldType)) ∈ lw_all := lw_g (lw_at lw_m24 198 rfl) rfl
theorem q6029 : (Jvm.Cond.methodLink "BoardMachineModel$Block" (157 : Nat) ({ cls := "BoardMachineModel$Block", name := "nextByte", desc := "()J" } : Jvm.MethodName)) ∈ lw_all := lw_g (lw_at lw_m24 199 rfl) rfl
theorem q6030 : (Jvm.Cond.privateMethod ({ cls := "BoardMachineModel$Block", name := "nextByte", desc := "()J" } : Jvm.MethodName)) ∈ lw_tbl := lw_at lw_m24 200 rfl
theorem q6031 : (Jvm.Cond.instanceMethod ({ cls := "BoardMachineModel$Block", name := "nextByte", desc := "()J" } : Jvm.MethodName)) ∈ lw_all := lw_g (lw_at lw_m24 201 rfl) rfl
theorem q6032 : (Jvm.Cond.code ({ cls := "BoardMachineModel$Block", name := "nextByte", desc := "()J" } : Jvm.MethodName) prog_112_method_22_code (1 : Nat) (Option.some Jvm.ClassFile.FieldType.long)) ∈ lw_all := lw_g (lw_at lw_m24 202 rfl) rfl
theorem q6033 : (Jvm.Cond.methodLink "BoardMachineModel$Block" (65 : Nat) ({ cls := "BoardMachineModel$Block", name := "byteOf", desc := "([JI)I" } : Jvm.MethodName)) ∈ lw_all := lw_g (lw_at lw_m24 203 rfl) rfl
theorem q6034 : (Jvm.Cond.static ({ cls := "BoardMachineModel$Block", name := "byteOf", desc := "([JI)I" } : Jvm.MethodName)) ∈ lw_all := lw_g (lw_at lw_m24 204 rfl) rfl
theorem q6035 : (Jvm.Cond.code ({ cls := "BoardMachineModel$Block", name := "byteOf", desc := "([JI)I" } : Jvm.MethodName) prog_112_method_3_code (2 : Nat) (Option.some Jvm.ClassFile.FieldType.int)) ∈ lw_all := lw_g (lw_at lw_m24 205 rfl) rfl
theorem q6036 : (Jvm.Cond.methodLink "BoardMachineModel$Block" (161 : Nat) ({ cls := "BoardMachineModel$Block", name := "put", desc := "(JIJ)V" } : Jvm.MethodName)) ∈ lw_all := lw_g (lw_at lw_m24 206 rfl) rfl
theorem q6037 : (Jvm.Cond.privateMethod ({ cls := "BoardMachineModel$Block", name := "put", desc := "(JIJ)V" } : Jvm.MethodName)) ∈ lw_tbl := lw_at lw_m24 207 rfl
theorem q6038 : (Jvm.Cond.instanceMethod ({ cls := "BoardMachineModel$Block", name := "put", desc := "(JIJ)V" } : Jvm.MethodName)) ∈ lw_all := lw_g (lw_at lw_m24 208 rfl) rfl
theorem q6039 : (Jvm.Cond.code ({ cls := "BoardMachineModel$Block", name := "put", desc := "(JIJ)V" } : Jvm.MethodName) prog_112_method_7_code (7 : Nat) (Option.none : Option Jvm.ClassFile.FieldType)) ∈ lw_all := lw_g (lw_at lw_m24 209 rfl) rfl
theorem q6040 : (Jvm.Cond.methodLinkNest "BoardMachineModel$Block" (57 : Nat) ({ cls := "BoardMachineModel$Ram", name := "put", desc := "(JI)V" } : Jvm.MethodName) "BoardMachineModel") ∈ lw_tbl := lw_at lw_m24 210 rfl
theorem q6041 : (Jvm.Cond.constantLong "BoardMachineModel$Block" (164 : Nat) (20 : Int64)) ∈ lw_all := lw_g (lw_at lw_m24 211 rfl) rfl
theorem q6042 : (Jvm.Cond.constantLong "BoardMachineModel$Block" (166 : Nat) (98 : Int64)) ∈ lw_all := lw_g (lw_at lw_m24 212 rfl) rfl
theorem q6043 : (Jvm.Cond.constantLong "BoardMachineModel$Block" (168 : Nat) (108 : Int64)) ∈ lw_all := lw_g (lw_at lw_m24 213 rfl) rfl
theorem q6044 : (Jvm.Cond.constantLong "BoardMachineModel$Block" (172 : Nat) (111 : Int64)) ∈ lw_all := lw_g (lw_at lw_m24 214 rfl) rfl
theorem q6045 : (Jvm.Cond.constantLong "BoardMachineModel$Block" (174 : Nat) (3 : Int64)) ∈ lw_all := lw_g (lw_at lw_m24 215 rfl) rfl
theorem q6046 : (Jvm.Cond.constantLong "BoardMachineModel$Block" (176 : Nat) (99 : Int64)) ∈ lw_all := lw_g (lw_at lw_m24 216 rfl) rfl
theorem q6047 : (Jvm.Cond.constantLong "BoardMachineModel$Block" (180 : Nat) (107 : Int64)) ∈ lw_all := lw_g (lw_at lw_m24 217 rfl) rfl
theorem q6048 : (Jvm.Cond.constant "BoardMachineModel$Block" (196 : Nat) (65536 : Int32)) ∈ lw_all := lw_g (lw_at lw_m24 218 rfl) rfl
theorem q6049 : (Jvm.Cond.methodLink "BoardMachineModel$Block" (108 : Nat) ({ cls := "BoardMachineModel$Block", name := "begin", desc := "()V" } : Jvm.MethodName)) ∈ lw_all := lw_g (lw_at lw_m24 219 rfl) rfl
theorem q6050 : (Jvm.Cond.privateMethod ({ cls := "BoardMachineModel$Block", name := "begin", desc := "()V" } : Jvm.MethodName)) ∈ lw_tbl := lw_at lw_m24 220 rfl
theorem q6051 : (Jvm.Cond.instanceMethod ({ cls := "BoardMachineModel$Block", name := "begin", desc := "()V" } : Jvm.MethodName)) ∈ lw_all := lw_g (lw_at lw_m24 221 rfl) rfl
theorem q6052 : (Jvm.Cond.code ({ cls := "BoardMachineModel$Block", name := "begin", desc := "()V" } : Jvm.MethodName) prog_112_method_13_code (2 : Nat) (Option.none : Option Jvm.ClassFile.FieldType)) ∈ lw_all := lw_g (lw_at lw_m24 222 rfl) rfl
theorem q6053 : (Jvm.Cond.methodLink "BoardMachineModel" (250 : Nat) ({ cls := "BoardMachineModel$Block", name := "line", desc := "()Z" } : Jvm.MethodName)) ∈ lw_all := lw_g (lw_at lw_m24 223 rfl) rfl
theorem q6054 : (Jvm.Cond.instanceMethod ({ cls := "BoardMachineModel$Block", name := "line", desc := "()Z" } : Jvm.MethodName)) ∈ lw_all := lw_g (lw_at lw_m24 224 rfl) rfl
theorem q6055 : (Jvm.Cond.selects "BoardMachineModel$Block" ({ cls := "BoardMachineModel$Block", name := "line", desc := "()Z" } : Jvm.MethodName) ({ cls := "BoardMachineModel$Block", name := "line", desc := "()Z" } : Jvm.MethodName)) ∈ lw_all := lw_g (lw_at lw_m24 225 rfl) rfl
theorem q6056 : (Jvm.Cond.code ({ cls := "BoardMachineModel$Block", name := "line", desc := "()Z" } : Jvm.MethodName) prog_112_method_16_code (1 : Nat) (Option.some Jvm.ClassFile.FieldType.boolean)) ∈ lw_all := lw_g (lw_at lw_m24 226 rfl) rfl
theorem q6057 : (Jvm.Cond.methodLink "BoardMachineModel" (253 : Nat) ({ cls := "BoardMachineModel$Signals", name := "signal", desc := "(IZ)V" } : Jvm.MethodName)) ∈ lw_all := lw_g (lw_at lw_m24 227 rfl) rfl
theorem q6058 : (Jvm.Cond.instanceMethod ({ cls := "BoardMachineModel$Signals", name := "signal", desc := "(IZ)V" } : Jvm.MethodName)) ∈ lw_all := lw_g (lw_at lw_m24 228 rfl) rfl
theorem q6059 : (Jvm.Cond.selects "BoardMachineModel$Signals" ({ cls := "BoardMachineModel$Signals", name := "signal", desc := "(IZ)V" } : Jvm.MethodName) ({ cls := "BoardMachineModel$Signals", name := "signal", desc := "(IZ)V" } : Jvm.MethodName)) ∈ lw_all := lw_g (lw_at lw_m24 229 rfl) rfl
theorem q6060 : (Jvm.Cond.code ({ cls := "BoardMachineModel$Signals", name := "signal", desc := "(IZ)V" } : Jvm.MethodName) prog_118_method_33_code (3 : Nat) (Option.none : Option Jvm.ClassFile.FieldType)) ∈ lw_all := lw_g (lw_at lw_m24 230 rfl) rfl
theorem q6061 : (Jvm.Cond.constantLong "BoardMachineModel" (257 : Nat) (65535 : Int64)) ∈ lw_all := lw_g (lw_at lw_m24 231 rfl) rfl
theorem q6062 : (Jvm.Cond.constantLong "BoardMachineModel" (259 : Nat) (21845 : Int64)) ∈ lw_all := lw_g (lw_at lw_m24 232 rfl) rfl
theorem q6063 : (Jvm.Cond.constantLong "BoardMachineModel" (261 : Nat) (13107 : Int64)) ∈ lw_all := lw_g (lw_at lw_m24 233 rfl) rfl
theorem q6064 : (Jvm.Cond.methodLink "BoardMachineModel" (458 : Nat) ({ cls := "BoardMachineModel", name := "atomic", desc := "(IJIIJ)Z" } : Jvm.MethodName)) ∈ lw_all := lw_g (lw_at lw_m24 234 rfl) rfl
theorem q6065 : (Jvm.Cond.privateMethod ({ cls := "BoardMachineModel", name := "atomic", desc := "(IJIIJ)Z" } : Jvm.MethodName)) ∈ lw_tbl := lw_at lw_m24 235 rfl
theorem q6066 : (Jvm.Cond.instanceMethod ({ cls := "BoardMachineModel", name := "atomic", desc := "(IJIIJ)Z" } : Jvm.MethodName)) ∈ lw_all := lw_g (lw_at lw_m24 236 rfl) rfl
theorem q6067 : (Jvm.Cond.code ({ cls := "BoardMachineModel", name := "atomic", desc := "(IJIIJ)Z" } : Jvm.MethodName) prog_111_method_31_code (10 : Nat) (Option.some Jvm.ClassFile.FieldType.boolean)) ∈ lw_all := lw_g (lw_at lw_m24 237 rfl) rfl
theorem q6068 : (Jvm.Cond.methodLinkNest "BoardMachineModel" (368 : Nat) ({ cls := "BoardMachineModel$Ram", name := "atomic", desc := "(IIJIJ)J" } : Jvm.MethodName) "BoardMachineModel") ∈ lw_tbl := lw_at lw_m24 238 rfl
theorem q6069 : (Jvm.Cond.privateMethod ({ cls := "BoardMachineModel$Ram", name := "atomic", desc := "(IIJIJ)J" } : Jvm.MethodName)) ∈ lw_tbl := lw_at lw_m24 239 rfl
theorem q6070 : (Jvm.Cond.instanceMethod ({ cls := "BoardMachineModel$Ram", name := "atomic", desc := "(IIJIJ)J" } : Jvm.MethodName)) ∈ lw_all := lw_g (lw_at lw_m25 0 rfl) rfl
theorem q6071 : (Jvm.Cond.code ({ cls := "BoardMachineModel$Ram", name := "atomic", desc := "(IIJIJ)J" } : Jvm.MethodName) prog_117_method_12_code (11 : Nat) (Option.some Jvm.ClassFile.FieldType.long)) ∈ lw_all := lw_g (lw_at lw_m25 1 rfl) rfl
theorem q6072 : (Jvm.Cond.methodLink "BoardMachineModel$Ram" (55 : Nat) ({ cls := "BoardMachineModel$Ram", name := "number", desc := "(JI)J" } : Jvm.MethodName)) ∈ lw_all := lw_g (lw_at lw_m25 2 rfl) rfl
theorem q6073 : (Jvm.Cond.methodLink "BoardMachineModel$Ram" (59 : Nat) ({ cls := "BoardMachineModel$Ram", name := "signed", desc := "(JI)J" } : Jvm.MethodName)) ∈ lw_all := lw_g (lw_at lw_m25 3 rfl) rfl
theorem q6074 : (Jvm.Cond.static ({ cls := "BoardMachineModel$Ram", name := "signed", desc := "(JI)J" } : Jvm.MethodName)) ∈ lw_all := lw_g (lw_at lw_m25 4 rfl) rfl
theorem q6075 : (Jvm.Cond.code ({ cls := "BoardMachineModel$Ram", name := "signed", desc := "(JI)J" } : Jvm.MethodName) prog_117_method_9_code (3 : Nat) (Option.some Jvm.ClassFile.FieldType.long)) ∈ lw_all := lw_g (lw_at lw_m25 5 rfl) rfl
theorem q6076 : (Jvm.Cond.methodLink "BoardMachineModel$Ram" (62 : Nat) ({ cls := "BoardMachineModel$Ram", name := "changed", desc := "(IJJ)J" } : Jvm.MethodName)) ∈ lw_all := lw_g (lw_at lw_m25 6 rfl) rfl
theorem q6077 : (Jvm.Cond.static ({ cls := "BoardMachineModel$Ram", name := "changed", desc := "(IJJ)J" } : Jvm.MethodName)) ∈ lw_all := lw_g (lw_at lw_m25 7 rfl) rfl
theorem q6078 : (Jvm.Cond.code ({ cls := "BoardMachineModel$Ram", name := "changed", desc := "(IJJ)J" } : Jvm.MethodName) prog_117_method_11_code (5 : Nat) (Option.some Jvm.ClassFile.FieldType.long)) ∈ lw_all := lw_g (lw_at lw_m25 8 rfl) rfl
theorem q6079 : (Jvm.Cond.methodLink "BoardMachineModel$Ram" (51 : Nat) ({ cls := "BoardMachineModel$Ram", name := "isLess", desc := "(JJ)Z" } : Jvm.MethodName)) ∈ lw_all := lw_g (lw_at lw_m25 9 rfl) rfl
theorem q6080 : (Jvm.Cond.static ({ cls := "BoardMachineModel$Ram", name := "isLess", desc := "(JJ)Z" } : Jvm.MethodName)) ∈ lw_all := lw_g (lw_at lw_m25 10 rfl) rfl
theorem q6081 : (Jvm.Cond.code ({ cls := "BoardMachineModel$Ram", name := "isLess", desc := "(JJ)Z" } : Jvm.MethodName) prog_117_method_10_code (4 : Nat) (Option.some Jvm.ClassFile.FieldType.boolean)) ∈ lw_all := lw_g (lw_at lw_m25 11 rfl) rfl
theorem q6082 : (Jvm.Cond.methodLink "BoardMachineModel$Ram" (66 : Nat) ({ cls := "BoardMachineModel$Ram", name := "keep", desc := "(JIJ)V" } : Jvm.MethodName)) ∈ lw_all := lw_g (lw_at lw_m25 12 rfl) rfl
theorem q6083 : (Jvm.Cond.methodLink "BoardMachineModel" (461 : Nat) ({ cls := "BoardMachineModel", name := "floating", desc := "(IJIII)Z" } : Jvm.MethodName)) ∈ lw_all := lw_g (lw_at lw_m25 13 rfl) rfl
theorem q6084 : (Jvm.Cond.privateMethod ({ cls := "BoardMachineModel", name := "floating", desc := "(IJIII)Z" } : Jvm.MethodName)) ∈ lw_tbl := lw_at lw_m25 14 rfl
theorem q6085 : (Jvm.Cond.instanceMethod ({ cls := "BoardMachineModel", name := "floating", desc := "(IJIII)Z" } : Jvm.MethodName)) ∈ lw_all := lw_g (lw_at lw_m25 15 rfl) rfl
theorem q6086 : (Jvm.Cond.code ({ cls := "BoardMachineModel", name := "floating", desc := "(IJIII)Z" } : Jvm.MethodName) prog_111_method_32_code (10 : Nat) (Option.some Jvm.ClassFile.FieldType.boolean)) ∈ lw_all := lw_g (lw_at lw_m25 16 rfl) rfl
theorem q6087 : (Jvm.Cond.methodLink "BoardMachineModel" (372 : Nat) ({ cls := "BoardMachineModel$Desk", name := "floats", desc := "()Z" } : Jvm.MethodName)) ∈ lw_all := lw_g (lw_at lw_m25 17 rfl) rfl
theorem q6088 : (Jvm.Cond.instanceMethod ({ cls := "BoardMachineModel$Desk", name := "floats", desc := "()Z" } : Jvm.MethodName)) ∈ lw_all := lw_g (lw_at lw_m25 18 rfl) rfl
theorem q6089 : (Jvm.Cond.selects "BoardMachineModel$Desk" ({ cls := "BoardMachineModel$Desk", name := "floats", desc := "()Z" } : Jvm.MethodName) ({ cls := "BoardMachineModel$Desk", name := "floats", desc := "()Z" } : Jvm.MethodName)) ∈ lw_all := lw_g (lw_at lw_m25 19 rfl) rfl
theorem q6090 : (Jvm.Cond.code ({ cls := "BoardMachineModel$Desk", name := "floats", desc := "()Z" } : Jvm.MethodName) prog_114_method_34_code (1 : Nat) (Option.some Jvm.ClassFile.FieldType.boolean)) ∈ lw_all := lw_g (lw_at lw_m25 20 rfl) rfl
theorem q6091 : (Jvm.Cond.methodLink "BoardMachineModel" (374 : Nat) ({ cls := "BoardMachineModel$Floats", name := "get", desc := "(I)J" } : Jvm.MethodName)) ∈ lw_all := lw_g (lw_at lw_m25 21 rfl) rfl
theorem q6092 : (Jvm.Cond.instanceMethod ({ cls := "BoardMachineModel$Floats", name := "get", desc := "(I)J" } : Jvm.MethodName)) ∈ lw_all := lw_g (lw_at lw_m25 22 rfl) rfl
theorem q6093 : (Jvm.Cond.selects "BoardMachineModel$Floats" ({ cls := "BoardMachineModel$Floats", name := "get", desc := "(I)J" } : Jvm.MethodName) ({ cls := "BoardMachineModel$Floats", name := "get", desc := "(I)J" } : Jvm.MethodName)) ∈ lw_all := lw_g (lw_at lw_m25 23 rfl) rfl
theorem q6094 : (Jvm.Cond.code ({ cls := "BoardMachineModel$Floats", name := "get", desc := "(I)J" } : Jvm.MethodName) prog_115_method_50_code (2 : Nat) (Option.some Jvm.ClassFile.FieldType.long)) ∈ lw_all := lw_g (lw_at lw_m25 24 rfl) rfl
theorem q6095 : (Jvm.Cond.methodLink "BoardMachineModel$Floats" (263 : Nat) ({ cls := "BoardMachineModel$Floats", name := "isNo", desc := "(I)Z" } : Jvm.MethodName)) ∈ lw_all := lw_g (lw_at lw_m25 25 rfl) rfl
theorem q6096 : (Jvm.Cond.privateMethod ({ cls := "BoardMachineModel$Floats", name := "isNo", desc := "(I)Z" } : Jvm.MethodName)) ∈ lw_tbl := lw_at lw_m25 26 rfl
theorem q6097 : (Jvm.Cond.instanceMethod ({ cls := "BoardMachineModel$Floats", name := "isNo", desc := "(I)Z" } : Jvm.MethodName)) ∈ lw_all := lw_g (lw_at lw_m25 27 rfl) rfl
theorem q6098 : (Jvm.Cond.code ({ cls := "BoardMachineModel$Floats", name := "isNo", desc := "(I)Z" } : Jvm.MethodName) prog_115_method_49_code (2 : Nat) (Option.some Jvm.ClassFile.FieldType.boolean)) ∈ lw_all := lw_g (lw_at lw_m25 28 rfl) rfl
theorem q6099 : (Jvm.Cond.methodLink "BoardMachineModel" (381 : Nat) ({ cls := "BoardMachineModel$Floats", name := "box", desc := "(II)V" } : Jvm.MethodName)) ∈ lw_all := lw_g (lw_at lw_m25 29 rfl) rfl
theorem q6100 : (Jvm.Cond.instanceMethod ({ cls := "BoardMachineModel$Floats", name := "box", desc := "(II)V" } : Jvm.MethodName)) ∈ lw_all := lw_g (lw_at lw_m25 30 rfl) rfl
theorem q6101 : (Jvm.Cond.selects "BoardMachineModel$Floats" ({ cls := "BoardMachineModel$Floats", name := "box", desc := "(II)V" } : Jvm.MethodName) ({ cls := "BoardMachineModel$Floats", name := "box", desc := "(II)V" } : Jvm.MethodName)) ∈ lw_all := lw_g (lw_at lw_m25 31 rfl) rfl
theorem q6102 : (Jvm.Cond.code ({ cls := "BoardMachineModel$Floats", name := "box", desc := "(II)V" } : Jvm.MethodName) prog_115_method_52_code (3 : Nat) (Option.none : Option Jvm.ClassFile.FieldType)) ∈ lw_all := lw_g (lw_at lw_m25 32 rfl) rfl
theorem q6103 : (Jvm.Cond.constantLong "BoardMachineModel$Floats" (109 : Nat) (4294967295 : Int64)) ∈ lw_all := lw_g (lw_at lw_m25 33 rfl) rfl
theorem q6104 : (Jvm.Cond.methodLink "BoardMachineModel$Floats" (193 : Nat) ({ cls := "BoardMachineModel$Floats", name := "write", desc := "(IJI)I" } : Jvm.MethodName)) ∈ lw_all := lw_g (lw_at lw_m25 34 rfl) rfl
theorem q6105 : (Jvm.Cond.privateMethod ({ cls := "BoardMachineModel$Floats", name := "write", desc := "(IJI)I" } : Jvm.MethodName)) ∈ lw_tbl := lw_at lw_m25 35 rfl
theorem q6106 : (Jvm.Cond.instanceMethod ({ cls := "BoardMachineModel$Floats", name := "write", desc := "(IJI)I" } : Jvm.MethodName)) ∈ lw_all := lw_g (lw_at lw_m25 36 rfl) rfl
theorem q6107 : (Jvm.Cond.code ({ cls := "BoardMachineModel$Floats", name := "write", desc := "(IJI)I" } : Jvm.MethodName) prog_115_method_20_code (5 : Nat) (Option.some Jvm.ClassFile.FieldType.int)) ∈ lw_all := lw_g (lw_at lw_m25 37 rfl) rfl
theorem q6108 : (Jvm.Cond.constantLong "BoardMachineModel$Floats" (119 : Nat) (-4294967296 : Int64)) ∈ lw_all := lw_g (lw_at lw_m25 38 rfl) rfl
theorem q6109 : (Jvm.Cond.methodLink "BoardMachineModel" (384 : Nat) ({ cls := "BoardMachineModel$Floats", name := "set", desc := "(IJ)V" } : Jvm.MethodName)) ∈ lw_all := lw_g (lw_at lw_m25 39 rfl) rfl
theorem q6110 : (Jvm.Cond.instanceMethod ({ cls := "BoardMachineModel$Floats", name := "set", desc := "(IJ)V" } : Jvm.MethodName)) ∈ lw_all := lw_g (lw_at lw_m25 40 rfl) rfl
theorem q6111 : (Jvm.Cond.selects "BoardMachineModel$Floats" ({ cls := "BoardMachineModel$Floats", name := "set", desc := "(IJ)V" } : Jvm.MethodName) ({ cls := "BoardMachineModel$Floats", name := "set", desc := "(IJ)V" } : Jvm.MethodName)) ∈ lw_all := lw_g (lw_at lw_m25 41 rfl) rfl
theorem q6112 : (Jvm.Cond.code ({ cls := "BoardMachineModel$Floats", name := "set", desc := "(IJ)V" } : Jvm.MethodName) prog_115_method_51_code (4 : Nat) (Option.none : Option Jvm.ClassFile.FieldType)) ∈ lw_all := lw_g (lw_at lw_m25 42 rfl) rfl
theorem q6113 : (Jvm.Cond.methodLink "BoardMachineModel" (388 : Nat) ({ cls := "BoardMachineModel$Floats", name := "run", desc := "(IJ)I" } : Jvm.MethodName)) ∈ lw_all := lw_g (lw_at lw_m25 43 rfl) rfl
theorem q6114 : (Jvm.Cond.instanceMethod ({ cls := "BoardMachineModel$Floats", name := "run", desc := "(IJ)I" } : Jvm.MethodName)) ∈ lw_all := lw_g (lw_at lw_m25 44 rfl) rfl
theorem q6115 : (Jvm.Cond.selects "BoardMachineModel$Floats" ({ cls := "BoardMachineModel$Floats", name := "run", desc := "(IJ)I" } : Jvm.MethodName) ({ cls := "BoardMachineModel$Floats", name := "run", desc := "(IJ)I" } : Jvm.MethodName)) ∈ lw_all := lw_g (lw_at lw_m25 45 rfl) rfl
theorem q6116 : (Jvm.Cond.code ({ cls := "BoardMachineModel$Floats", name := "run", desc := "(IJ)I" } : Jvm.MethodName) prog_115_method_45_code (12 : Nat) (Option.some Jvm.ClassFile.FieldType.int)) ∈ lw_all := lw_g (lw_at lw_m25 46 rfl) rfl
theorem q6117 : (Jvm.Cond.methodLink "BoardMachineModel$Floats" (209 : Nat) ({ cls := "BoardMachineModel$Floats", name := "field", desc := "(III)I" } : Jvm.MethodName)) ∈ lw_all := lw_g (lw_at lw_m25 47 rfl) rfl
theorem q6118 : (Jvm.Cond.static ({ cls := "BoardMachineModel$Floats", name := "field", desc := "(III)I" } : Jvm.MethodName)) ∈ lw_all := lw_g (lw_at lw_m25 48 rfl) rfl
theorem q6119 : (Jvm.Cond.code ({ cls := "BoardMachineModel$Floats", name := "field", desc := "(III)I" } : Jvm.MethodName) prog_115_method_44_code (3 : Nat) (Option.some Jvm.ClassFile.FieldType.int)) ∈ lw_all := lw_g (lw_at lw_m25 49 rfl) rfl
theorem q6120 : (Jvm.Cond.methodLink "BoardMachineModel$Floats" (213 : Nat) ({ cls := "BoardMachineModel$Floats", name := "read", desc := "(III)V" } : Jvm.MethodName)) ∈ lw_all := lw_g (lw_at lw_m25 50 rfl) rfl
theorem q6121 : (Jvm.Cond.privateMethod ({ cls := "BoardMachineModel$Floats", name := "read", desc := "(III)V" } : Jvm.MethodName)) ∈ lw_tbl := lw_at lw_m25 51 rfl
theorem q6122 : (Jvm.Cond.instanceMethod ({ cls := "BoardMachineModel$Floats", name := "read", desc := "(III)V" } : Jvm.MethodName)) ∈ lw_all := lw_g (lw_at lw_m25 52 rfl) rfl
theorem q6123 : (Jvm.Cond.code ({ cls := "BoardMachineModel$Floats", name := "read", desc := "(III)V" } : Jvm.MethodName) prog_115_method_19_code (11 : Nat) (Option.none : Option Jvm.ClassFile.FieldType)) ∈ lw_all := lw_g (lw_at lw_m25 53 rfl) rfl
theorem q6124 : (Jvm.Cond.methodLink "BoardMachineModel$Floats" (115 : Nat) ({ cls := "BoardMachineModel$Floats", name := "bitsOf", desc := "(II)J" } : Jvm.MethodName)) ∈ lw_all := lw_g (lw_at lw_m25 54 rfl) rfl
theorem q6125 : (Jvm.Cond.privateMethod ({ cls := "BoardMachineModel$Floats", name := "bitsOf", desc := "(II)J" } : Jvm.MethodName)) ∈ lw_tbl := lw_at lw_m25 55 rfl
theorem q6126 : (Jvm.Cond.instanceMethod ({ cls := "BoardMachineModel$Floats", name := "bitsOf", desc := "(II)J" } : Jvm.MethodName)) ∈ lw_all := lw_g (lw_at lw_m25 56 rfl) rfl
theorem q6127 : (Jvm.Cond.code ({ cls := "BoardMachineModel$Floats", name := "bitsOf", desc := "(II)J" } : Jvm.MethodName) prog_115_method_18_code (3 : Nat) (Option.some Jvm.ClassFile.FieldType.long)) ∈ lw_all := lw_g (lw_at lw_m25 57 rfl) rfl
theorem q6128 : (Jvm.Cond.methodLink "BoardMachineModel$Floats" (111 : Nat) ({ cls := "BoardMachineModel$Floats", name := "quiet", desc := "(I)J" } : Jvm.MethodName)) ∈ lw_all := lw_g (lw_at lw_m25 58 rfl) rfl
theorem q6129 : (Jvm.Cond.static ({ cls := "BoardMachineModel$Floats", name := "quiet", desc := "(I)J" } : Jvm.MethodName)) ∈ lw_all := lw_g (lw_at lw_m25 59 rfl) rfl
theorem q6130 : (Jvm.Cond.code ({ cls := "BoardMachineModel$Floats", name := "quiet", desc := "(I)J" } : Jvm.MethodName) prog_115_method_17_code (1 : Nat) (Option.some Jvm.ClassFile.FieldType.long)) ∈ lw_all := lw_g (lw_at lw_m25 60 rfl) rfl
theorem q6131 : (Jvm.Cond.constantLong "BoardMachineModel$Floats" (105 : Nat) (9221120237041090560 : Int64)) ∈ lw_all := lw_g (lw_at lw_m25 61 rfl) rfl
theorem q6132 : (Jvm.Cond.constantLong "BoardMachineModel$Floats" (107 : Nat) (2143289344 : Int64)) ∈ lw_all := lw_g (lw_at lw_m25 62 rfl) rfl
theorem q6133 : (Jvm.Cond.methodLink "BoardMachineModel$Floats" (217 : Nat) ({ cls := "BoardMachineModel$Floats", name := "fused", desc := "(IIII)J" } : Jvm.MethodName)) ∈ lw_all := lw_g (lw_at lw_m25 63 rfl) rfl
theorem q6134 : (Jvm.Cond.privateMethod ({ cls := "BoardMachineModel$Floats", name := "fused", desc := "(IIII)J" } : Jvm.MethodName)) ∈ lw_tbl := lw_at lw_m25 64 rfl
theorem q6135 : (Jvm.Cond.instanceMethod ({ cls := "BoardMachineModel$Floats", name := "fused", desc := "(IIII)J" } : Jvm.MethodName)) ∈ lw_all := lw_g (lw_at lw_m25 65 rfl) rfl
theorem q6136 : (Jvm.Cond.code ({ cls := "BoardMachineModel$Floats", name := "fused", desc := "(IIII)J" } : Jvm.MethodName) prog_115_method_30_code (12 : Nat) (Option.some Jvm.ClassFile.FieldType.long)) ∈ lw_all := lw_g (lw_at lw_m25 66 rfl) rfl
theorem q6137 : (Jvm.Cond.methodLink "BoardMachineModel$Floats" (127 : Nat) ({ cls := "BoardMachineModel$Floats", name := "invalid", desc := "(I)J" } : Jvm.MethodName)) ∈ lw_all := lw_g (lw_at lw_m25 67 rfl) rfl
theorem q6138 : (Jvm.Cond.privateMethod ({ cls := "BoardMachineModel$Floats", name := "invalid", desc := "(I)J" } : Jvm.MethodName)) ∈ lw_tbl := lw_at lw_m25 68 rfl
theorem q6139 : (Jvm.Cond.instanceMethod ({ cls := "BoardMachineModel$Floats", name := "invalid", desc := "(I)J" } : Jvm.MethodName)) ∈ lw_all := lw_g (lw_at lw_m25 69 rfl) rfl
theorem q6140 : (Jvm.Cond.code ({ cls := "BoardMachineModel$Floats", name := "invalid", desc := "(I)J" } : Jvm.MethodName) prog_115_method_23_code (2 : Nat) (Option.some Jvm.ClassFile.FieldType.long)) ∈ lw_all := lw_g (lw_at lw_m25 70 rfl) rfl
theorem q6141 : (Jvm.Cond.methodLink "BoardMachineModel$Floats" (97 : Nat) ({ cls := "BoardMachineModel$Floats", name := "raiseFlags", desc := "(I)V" } : Jvm.MethodName)) ∈ lw_all := lw_g (lw_at lw_m25 71 rfl) rfl
theorem q6142 : (Jvm.Cond.privateMethod ({ cls := "BoardMachineModel$Floats", name := "raiseFlags", desc := "(I)V" } : Jvm.MethodName)) ∈ lw_tbl := lw_at lw_m25 72 rfl
theorem q6143 : (Jvm.Cond.instanceMethod ({ cls := "BoardMachineModel$Floats", name := "raiseFlags", desc := "(I)V" } : Jvm.MethodName)) ∈ lw_all := lw_g (lw_at lw_m25 73 rfl) rfl
theorem q6144 : (Jvm.Cond.code ({ cls := "BoardMachineModel$Floats", name := "raiseFlags", desc := "(I)V" } : Jvm.MethodName) prog_115_method_14_code (2 : Nat) (Option.none : Option Jvm.ClassFile.FieldType)) ∈ lw_all := lw_g (lw_at lw_m25 74 rfl) rfl
theorem q6145 : (Jvm.Cond.methodLink "BoardMachineModel$Floats" (152 : Nat) ({ cls := "BoardMachineModel$Floats", name := "none", desc := "(II)J" } : Jvm.MethodName)) ∈ lw_all := lw_g (lw_at lw_m25 75 rfl) rfl
theorem q6146 : (Jvm.Cond.privateMethod ({ cls := "BoardMachineModel$Floats", name := "none", desc := "(II)J" } : Jvm.MethodName)) ∈ lw_tbl := lw_at lw_m25 76 rfl
theorem q6147 : (Jvm.Cond.instanceMethod ({ cls := "BoardMachineModel$Floats", name := "none", desc := "(II)J" } : Jvm.MethodName)) ∈ lw_all := lw_g (lw_at lw_m25 77 rfl) rfl
theorem q6148 : (Jvm.Cond.code ({ cls := "BoardMachineModel$Floats", name := "none", desc := "(II)J" } : Jvm.MethodName) prog_115_method_24_code (6 : Nat) (Option.some Jvm.ClassFile.FieldType.long)) ∈ lw_all := lw_g (lw_at lw_m25 78 rfl) rfl
theorem q6149 : (Jvm.Cond.methodLink "BoardMachineModel$Floats" (121 : Nat) ({ cls := "BoardMachineModel$Floats", name := "isNone", desc := "(I)Z" } : Jvm.MethodName)) ∈ lw_all := lw_g (lw_at lw_m25 79 rfl) rfl
theorem q6150 : (Jvm.Cond.privateMethod ({ cls := "BoardMachineModel$Floats", name := "isNone", desc := "(I)Z" } : Jvm.MethodName)) ∈ lw_tbl := lw_at lw_m25 80 rfl
theorem q6151 : (Jvm.Cond.instanceMethod ({ cls := "BoardMachineModel$Floats", name := "isNone", desc := "(I)Z" } : Jvm.MethodName)) ∈ lw_all := lw_g (lw_at lw_m25 81 rfl) rfl
theorem q6152 : (Jvm.Cond.code ({ cls := "BoardMachineModel$Floats", name := "isNone", desc := "(I)Z" } : Jvm.MethodName) prog_115_method_22_code (2 : Nat) (Option.some Jvm.ClassFile.FieldType.boolean)) ∈ lw_all := lw_g (lw_at lw_m25 82 rfl) rfl
theorem q6153 : (Jvm.Cond.constantLong "BoardMachineModel$Floats" (125 : Nat) (-1 : Int64)) ∈ lw_all := lw_g (lw_at lw_m25 83 rfl) rfl
theorem q6154 : (Jvm.Cond.methodLink "BoardMachineModel$Floats" (155 : Nat) ({ cls := "BoardMachineModel$Floats", name := "infiniteSum", desc := "(ZIZII)J" } : Jvm.MethodName)) ∈ lw_all := lw_g (lw_at lw_m25 84 rfl) rfl
theorem q6155 : (Jvm.Cond.privateMethod ({ cls := "BoardMachineModel$Floats", name := "infiniteSum", desc := "(ZIZII)J" } : Jvm.MethodName)) ∈ lw_tbl := lw_at lw_m25 85 rfl
theorem q6156 : (Jvm.Cond.instanceMethod ({ cls := "BoardMachineModel$Floats", name := "infiniteSum", desc := "(ZIZII)J" } : Jvm.MethodName)) ∈ lw_all := lw_g (lw_at lw_m25 86 rfl) rfl
theorem q6157 : (Jvm.Cond.code ({ cls := "BoardMachineModel$Floats", name := "infiniteSum", desc := "(ZIZII)J" } : Jvm.MethodName) prog_115_method_27_code (6 : Nat) (Option.some Jvm.ClassFile.FieldType.long)) ∈ lw_all := lw_g (lw_at lw_m25 87 rfl) rfl
theorem q6158 : (Jvm.Cond.methodLink "BoardMachineModel$Floats" (101 : Nat) ({ cls := "BoardMachineModel$Floats", name := "pack", desc := "(IJJI)J" } : Jvm.MethodName)) ∈ lw_all := lw_g (lw_at lw_m25 88 rfl) rfl
theorem q6159 : (Jvm.Cond.static ({ cls := "BoardMachineModel$Floats", name := "pack", desc := "(IJJI)J" } : Jvm.MethodName)) ∈ lw_all := lw_g (lw_at lw_m25 89 rfl) rfl
theorem q6160 : (Jvm.Cond.code ({ cls := "BoardMachineModel$Floats", name := "pack", desc := "(IJJI)J" } : Jvm.MethodName) prog_115_method_15_code (8 : Nat) (Option.some Jvm.ClassFile.FieldType.long)) ∈ lw_all := lw_g (lw_at lw_m25 90 rfl) rfl
theorem q6161 : (Jvm.Cond.methodLink "BoardMachineModel$Floats" (163 : Nat) ({ cls := "BoardMachineModel$Floats", name := "multiply", desc := "([IJJ)V" } : Jvm.MethodName)) ∈ lw_all := lw_g (lw_at lw_m25 91 rfl) rfl
theorem q6162 : (Jvm.Cond.static ({ cls := "BoardMachineModel$Floats", name := "multiply", desc := "([IJJ)V" } : Jvm.MethodName)) ∈ lw_all := lw_g (lw_at lw_m25 92 rfl) rfl
theorem q6163 : (Jvm.Cond.code ({ cls := "BoardMachineModel$Floats", name := "multiply", desc := "([IJJ)V" } : Jvm.MethodName) prog_115_method_7_code (11 : Nat) (Option.none : Option Jvm.ClassFile.FieldType)) ∈ lw_all := lw_g (lw_at lw_m25 93 rfl) rfl
theorem q6164 : (Jvm.Cond.methodLink "BoardMachineModel$Floats" (60 : Nat) ({ cls := "BoardMachineModel$Floats", name := "put", desc := "([IJ)V" } : Jvm.MethodName)) ∈ lw_all := lw_g (lw_at lw_m25 94 rfl) rfl
theorem q6165 : (Jvm.Cond.static ({ cls := "BoardMachineModel$Floats", name := "put", desc := "([IJ)V" } : Jvm.MethodName)) ∈ lw_all := lw_g (lw_at lw_m25 95 rfl) rfl
theorem q6166 : (Jvm.Cond.code ({ cls := "BoardMachineModel$Floats", name := "put", desc := "([IJ)V" } : Jvm.MethodName) prog_115_method_4_code (4 : Nat) (Option.none : Option Jvm.ClassFile.FieldType)) ∈ lw_all := lw_g (lw_at lw_m25 96 rfl) rfl
theorem q6167 : (Jvm.Cond.constant "BoardMachineModel$Floats" (59 : Nat) (65535 : Int32)) ∈ lw_all := lw_g (lw_at lw_m25 97 rfl) rfl
theorem q6168 : (Jvm.Cond.methodLink "BoardMachineModel$Floats" (64 : Nat) ({ cls := "BoardMachineModel$Floats", name := "digit", desc := "(JI)I" } : Jvm.MethodName)) ∈ lw_all := lw_g (lw_at lw_m25 98 rfl) rfl
theorem q6169 : (Jvm.Cond.static ({ cls := "BoardMachineModel$Floats", name := "digit", desc := "(JI)I" } : Jvm.MethodName)) ∈ lw_all := lw_g (lw_at lw_m25 99 rfl) rfl
theorem q6170 : (Jvm.Cond.code ({ cls := "BoardMachineModel$Floats", name := "digit", desc := "(JI)I" } : Jvm.MethodName) prog_115_method_6_code (3 : Nat) (Option.some Jvm.ClassFile.FieldType.int)) ∈ lw_all := lw_g (lw_at lw_m25 100 rfl) rfl
theorem q6171 : (Jvm.Cond.methodLink "BoardMachineModel$Floats" (159 : Nat) ({ cls := "BoardMachineModel$Floats", name := "sum", desc := "(IIIIII)J" } : Jvm.MethodName)) ∈ lw_all := lw_g (lw_at lw_m25 101 rfl) rfl
theorem q6172 : (Jvm.Cond.privateMethod ({ cls := "BoardMachineModel$Floats", name := "sum", desc := "(IIIIII)J" } : Jvm.MethodName)) ∈ lw_tbl := lw_at lw_m25 102 rfl
theorem q6173 : (Jvm.Cond.instanceMethod ({ cls := "BoardMachineModel$Floats", name := "sum", desc := "(IIIIII)J" } : Jvm.MethodName)) ∈ lw_all := lw_g (lw_at lw_m25 103 rfl) rfl
theorem q6174 : (Jvm.Cond.code ({ cls := "BoardMachineModel$Floats", name := "sum", desc := "(IIIIII)J" } : Jvm.MethodName) prog_115_method_26_code (9 : Nat) (Option.some Jvm.ClassFile.FieldType.long)) ∈ lw_all := lw_g (lw_at lw_m25 104 rfl) rfl
theorem q6175 : (Jvm.Cond.methodLink "BoardMachineModel$Floats" (89 : Nat) ({ cls := "BoardMachineModel$Floats", name := "length", desc := "([I)I" } : Jvm.MethodName)) ∈ lw_all := lw_g (lw_at lw_m25 105 rfl) rfl
theorem q6176 : (Jvm.Cond.static ({ cls := "BoardMachineModel$Floats", name := "length", desc := "([I)I" } : Jvm.MethodName)) ∈ lw_all := lw_g (lw_at lw_m25 106 rfl) rfl
theorem q6177 : (Jvm.Cond.code ({ cls := "BoardMachineModel$Floats", name := "length", desc := "([I)I" } : Jvm.MethodName) prog_115_method_12_code (2 : Nat) (Option.some Jvm.ClassFile.FieldType.int)) ∈ lw_all := lw_g (lw_at lw_m25 107 rfl) rfl
theorem q6178 : (Jvm.Cond.methodLink "BoardMachineModel$Floats" (68 : Nat) ({ cls := "BoardMachineModel$Floats", name := "bit", desc := "([II)Z" } : Jvm.MethodName)) ∈ lw_all := lw_g (lw_at lw_m25 108 rfl) rfl
theorem q6179 : (Jvm.Cond.static ({ cls := "BoardMachineModel$Floats", name := "bit", desc := "([II)Z" } : Jvm.MethodName)) ∈ lw_all := lw_g (lw_at lw_m25 109 rfl) rfl
theorem q6180 : (Jvm.Cond.code ({ cls := "BoardMachineModel$Floats", name := "bit", desc := "([II)Z" } : Jvm.MethodName) prog_115_method_11_code (2 : Nat) (Option.some Jvm.ClassFile.FieldType.boolean)) ∈ lw_all := lw_g (lw_at lw_m25 110 rfl) rfl
theorem q6181 : (Jvm.Cond.methodLink "BoardMachineModel$Floats" (130 : Nat) ({ cls := "BoardMachineModel$Floats", name := "zero", desc := "(II)J" } : Jvm.MethodName)) ∈ lw_all := lw_g (lw_at lw_m25 111 rfl) rfl
theorem q6182 : (Jvm.Cond.privateMethod ({ cls := "BoardMachineModel$Floats", name := "zero", desc := "(II)J" } : Jvm.MethodName)) ∈ lw_tbl := lw_at lw_m25 112 rfl
theorem q6183 : (Jvm.Cond.instanceMethod ({ cls := "BoardMachineModel$Floats", name := "zero", desc := "(II)J" } : Jvm.MethodName)) ∈ lw_all := lw_g (lw_at lw_m25 113 rfl) rfl
theorem q6184 : (Jvm.Cond.code ({ cls := "BoardMachineModel$Floats", name := "zero", desc := "(II)J" } : Jvm.MethodName) prog_115_method_25_code (3 : Nat) (Option.some Jvm.ClassFile.FieldType.long)) ∈ lw_all := lw_g (lw_at lw_m25 114 rfl) rfl
theorem q6185 : (Jvm.Cond.methodLink "BoardMachineModel$Floats" (133 : Nat) ({ cls := "BoardMachineModel$Floats", name := "raise", desc := "([II)V" } : Jvm.MethodName)) ∈ lw_all := lw_g (lw_at lw_m25 115 rfl) rfl
theorem q6186 : (Jvm.Cond.static ({ cls := "BoardMachineModel$Floats", name := "raise", desc := "([II)V" } : Jvm.MethodName)) ∈ lw_all := lw_g (lw_at lw_m25 116 rfl) rfl
theorem q6187 : (Jvm.Cond.code ({ cls := "BoardMachineModel$Floats", name := "raise", desc := "([II)V" } : Jvm.MethodName) prog_115_method_5_code (8 : Nat) (Option.none : Option Jvm.ClassFile.FieldType)) ∈ lw_all := lw_g (lw_at lw_m25 117 rfl) rfl
theorem q6188 : (Jvm.Cond.methodLink "BoardMachineModel$Floats" (137 : Nat) ({ cls := "BoardMachineModel$Floats", name := "compare", desc := "([I[I)I" } : Jvm.MethodName)) ∈ lw_all := lw_g (lw_at lw_m25 118 rfl) rfl
theorem q6189 : (Jvm.Cond.static ({ cls := "BoardMachineModel$Floats", name := "compare", desc := "([I[I)I" } : Jvm.MethodName)) ∈ lw_all := lw_g (lw_at lw_m25 119 rfl) rfl
theorem q6190 : (Jvm.Cond.code ({ cls := "BoardMachineModel$Floats", name := "compare", desc := "([I[I)I" } : Jvm.MethodName) prog_115_method_8_code (3 : Nat) (Option.some Jvm.ClassFile.FieldType.int)) ∈ lw_all := lw_g (lw_at lw_m25 120 rfl) rfl
theorem q6191 : (Jvm.Cond.methodLink "BoardMachineModel$Floats" (141 : Nat) ({ cls := "BoardMachineModel$Floats", name := "add", desc := "([I[I)V" } : Jvm.MethodName)) ∈ lw_all := lw_g (lw_at lw_m25 121 rfl) rfl
theorem q6192 : (Jvm.Cond.static ({ cls := "BoardMachineModel$Floats", name := "add", desc := "([I[I)V" } : Jvm.MethodName)) ∈ lw_all := lw_g (lw_at lw_m25 122 rfl) rfl
theorem q6193 : (Jvm.Cond.code ({ cls := "BoardMachineModel$Floats", name := "add", desc := "([I[I)V" } : Jvm.MethodName) prog_115_method_9_code (5 : Nat) (Option.none : Option Jvm.ClassFile.FieldType)) ∈ lw_all := lw_g (lw_at lw_m25 123 rfl) rfl
theorem q6194 : (Jvm.Cond.methodLink "BoardMachineModel$Floats" (145 : Nat) ({ cls := "BoardMachineModel$Floats", name := "subtract", desc := "([I[I[I)V" } : Jvm.MethodName)) ∈ lw_all := lw_g (lw_at lw_m25 124 rfl) rfl
theorem q6195 : (Jvm.Cond.static ({ cls := "BoardMachineModel$Floats", name := "subtract", desc := "([I[I[I)V" } : Jvm.MethodName)) ∈ lw_all := lw_g (lw_at lw_m25 125 rfl) rfl
theorem q6196 : (Jvm.Cond.code ({ cls := "BoardMachineModel$Floats", name := "subtract", desc := "([I[I[I)V" } : Jvm.MethodName) prog_115_method_10_code (6 : Nat) (Option.none : Option Jvm.ClassFile.FieldType)) ∈ lw_all := lw_g (lw_at lw_m25 126 rfl) rfl
theorem q6197 : (Jvm.Cond.methodLink "BoardMachineModel$Floats" (149 : Nat) ({ cls := "BoardMachineModel$Floats", name := "rounded", desc := "(II)J" } : Jvm.MethodName)) ∈ lw_all := lw_g (lw_at lw_m25 127 rfl) rfl
theorem q6198 : (Jvm.Cond.privateMethod ({ cls := "BoardMachineModel$Floats", name := "rounded", desc := "(II)J" } : Jvm.MethodName)) ∈ lw_tbl := lw_at lw_m25 128 rfl
theorem q6199 : (Jvm.Cond.instanceMethod ({ cls := "BoardMachineModel$Floats", name := "rounded", desc := "(II)J" } : Jvm.MethodName)) ∈ lw_all := lw_g (lw_at lw_m25 129 rfl) rfl
theorem q6200 : (Jvm.Cond.code ({ cls := "BoardMachineModel$Floats", name := "rounded", desc := "(II)J" } : Jvm.MethodName) prog_115_method_16_code (10 : Nat) (Option.some Jvm.ClassFile.FieldType.long)) ∈ lw_all := lw_g (lw_at lw_m25 130 rfl) rfl
theorem q6201 : (Jvm.Cond.methodLink "BoardMachineModel$Floats" (93 : Nat) ({ cls := "BoardMachineModel$Floats", name := "roundTo", desc := "(II)V" } : Jvm.MethodName)) ∈ lw_all := lw_g (lw_at lw_m25 131 rfl) rfl
theorem q6202 : (Jvm.Cond.privateMethod ({ cls := "BoardMachineModel$Floats", name := "roundTo", desc := "(II)V" } : Jvm.MethodName)) ∈ lw_tbl := lw_at lw_m25 132 rfl
theorem q6203 : (Jvm.Cond.instanceMethod ({ cls := "BoardMachineModel$Floats", name := "roundTo", desc := "(II)V" } : Jvm.MethodName)) ∈ lw_all := lw_g (lw_at lw_m25 133 rfl) rfl
theorem q6204 : (Jvm.Cond.code ({ cls := "BoardMachineModel$Floats", name := "roundTo", desc := "(II)V" } : Jvm.MethodName) prog_115_method_13_code (7 : Nat) (Option.none : Option Jvm.ClassFile.FieldType)) ∈ lw_all := lw_g (lw_at lw_m25 134 rfl) rfl
theorem q6205 : (Jvm.Cond.constantLong "BoardMachineModel$Floats" (78 : Nat) (2 : Int64)) ∈ lw_all := lw_g (lw_at lw_m25 135 rfl) rfl
theorem q6206 : (Jvm.Cond.methodLink "BoardMachineModel$Floats" (221 : Nat) ({ cls := "BoardMachineModel$Floats", name := "arithmetic", desc := "(IIIIIIJ)I" } : Jvm.MethodName)) ∈ lw_all := lw_g (lw_at lw_m25 136 rfl) rfl
theorem q6207 : (Jvm.Cond.privateMethod ({ cls := "BoardMachineModel$Floats", name := "arithmetic", desc := "(IIIIIIJ)I" } : Jvm.MethodName)) ∈ lw_tbl := lw_at lw_m25 137 rfl
theorem q6208 : (Jvm.Cond.instanceMethod ({ cls := "BoardMachineModel$Floats", name := "arithmetic", desc := "(IIIIIIJ)I" } : Jvm.MethodName)) ∈ lw_all := lw_g (lw_at lw_m25 138 rfl) rfl
theorem q6209 : (Jvm.Cond.code ({ cls := "BoardMachineModel$Floats", name := "arithmetic", desc := "(IIIIIIJ)I" } : Jvm.MethodName) prog_115_method_46_code (9 : Nat) (Option.some Jvm.ClassFile.FieldType.int)) ∈ lw_all := lw_g (lw_at lw_m25 139 rfl) rfl
theorem q6210 : (Jvm.Cond.methodLink "BoardMachineModel$Floats" (228 : Nat) ({ cls := "BoardMachineModel$Floats", name := "added", desc := "(III)J" } : Jvm.MethodName)) ∈ lw_all := lw_g (lw_at lw_m25 140 rfl) rfl
theorem q6211 : (Jvm.Cond.privateMethod ({ cls := "BoardMachineModel$Floats", name := "added", desc := "(III)J" } : Jvm.MethodName)) ∈ lw_tbl := lw_at lw_m25 141 rfl
theorem q6212 : (Jvm.Cond.instanceMethod ({ cls := "BoardMachineModel$Floats", name := "added", desc := "(III)J" } : Jvm.MethodName)) ∈ lw_all := lw_g (lw_at lw_m25 142 rfl) rfl
theorem q6213 : (Jvm.Cond.code ({ cls := "BoardMachineModel$Floats", name := "added", desc := "(III)J" } : Jvm.MethodName) prog_115_method_28_code (9 : Nat) (Option.some Jvm.ClassFile.FieldType.long)) ∈ lw_all := lw_g (lw_at lw_m25 143 rfl) rfl
theorem q6214 : (Jvm.Cond.methodLink "BoardMachineModel$Floats" (232 : Nat) ({ cls := "BoardMachineModel$Floats", name := "multiplied", desc := "(II)J" } : Jvm.MethodName)) ∈ lw_all := lw_g (lw_at lw_m25 144 rfl) rfl
theorem q6215 : (Jvm.Cond.privateMethod ({ cls := "BoardMachineModel$Floats", name := "multiplied", desc := "(II)J" } : Jvm.MethodName)) ∈ lw_tbl := lw_at lw_m25 145 rfl
theorem q6216 : (Jvm.Cond.instanceMethod ({ cls := "BoardMachineModel$Floats", name := "multiplied", desc := "(II)J" } : Jvm.MethodName)) ∈ lw_all := lw_g (lw_at lw_m25 146 rfl) rfl
theorem q6217 : (Jvm.Cond.code ({ cls := "BoardMachineModel$Floats", name := "multiplied", desc := "(II)J" } : Jvm.MethodName) prog_115_method_29_code (8 : Nat) (Option.some Jvm.ClassFile.FieldType.long)) ∈ lw_all := lw_g (lw_at lw_m25 147 rfl) rfl
theorem q6218 : (Jvm.Cond.methodLink "BoardMachineModel$Floats" (235 : Nat) ({ cls := "BoardMachineModel$Floats", name := "divided", desc := "(II)J" } : Jvm.MethodName)) ∈ lw_all := lw_g (lw_at lw_m25 148 rfl) rfl
theorem q6219 : (Jvm.Cond.privateMethod ({ cls := "BoardMachineModel$Floats", name := "divided", desc := "(II)J" } : Jvm.MethodName)) ∈ lw_tbl := lw_at lw_m25 149 rfl
theorem q6220 : (Jvm.Cond.instanceMethod ({ cls := "BoardMachineModel$Floats", name := "divided", desc := "(II)J" } : Jvm.MethodName)) ∈ lw_all := lw_g (lw_at lw_m25 150 rfl) rfl
theorem q6221 : (Jvm.Cond.code ({ cls := "BoardMachineModel$Floats", name := "divided", desc := "(II)J" } : Jvm.MethodName) prog_115_method_31_code (9 : Nat) (Option.some Jvm.ClassFile.FieldType.long)) ∈ lw_all := lw_g (lw_at lw_m25 151 rfl) rfl
theorem q6222 : (Jvm.Cond.methodLink "BoardMachineModel$Floats" (238 : Nat) ({ cls := "BoardMachineModel$Floats", name := "root", desc := "(II)J" } : Jvm.MethodName)) ∈ lw_all := lw_g (lw_at lw_m25 152 rfl) rfl
theorem q6223 : (Jvm.Cond.privateMethod ({ cls := "BoardMachineModel$Floats", name := "root", desc := "(II)J" } : Jvm.MethodName)) ∈ lw_tbl := lw_at lw_m25 153 rfl
theorem q6224 : (Jvm.Cond.instanceMethod ({ cls := "BoardMachineModel$Floats", name := "root", desc := "(II)J" } : Jvm.MethodName)) ∈ lw_all := lw_g (lw_at lw_m25 154 rfl) rfl
theorem q6225 : (Jvm.Cond.code ({ cls := "BoardMachineModel$Floats", name := "root", desc := "(II)J" } : Jvm.MethodName) prog_115_method_32_code (14 : Nat) (Option.some Jvm.ClassFile.FieldType.long)) ∈ lw_all := lw_g (lw_at lw_m25 155 rfl) rfl
theorem q6226 : (Jvm.Cond.constantLong "BoardMachineModel$Floats" (167 : Nat) (4 : Int64)) ∈ lw_all := lw_g (lw_at lw_m25 156 rfl) rfl
theorem q6227 : (Jvm.Cond.methodLink "BoardMachineModel$Floats" (241 : Nat) ({ cls := "BoardMachineModel$Floats", name := "other", desc := "(II)J" } : Jvm.MethodName)) ∈ lw_all := lw_g (lw_at lw_m25 157 rfl) rfl
theorem q6228 : (Jvm.Cond.privateMethod ({ cls := "BoardMachineModel$Floats", name := "other", desc := "(II)J" } : Jvm.MethodName)) ∈ lw_tbl := lw_at lw_m25 158 rfl
theorem q6229 : (Jvm.Cond.instanceMethod ({ cls := "BoardMachineModel$Floats", name := "other", desc := "(II)J" } : Jvm.MethodName)) ∈ lw_all := lw_g (lw_at lw_m25 159 rfl) rfl
theorem q6230 : (Jvm.Cond.code ({ cls := "BoardMachineModel$Floats", name := "other", desc := "(II)J" } : Jvm.MethodName) prog_115_method_33_code (5 : Nat) (Option.some Jvm.ClassFile.FieldType.long)) ∈ lw_all := lw_g (lw_at lw_m25 160 rfl) rfl
theorem q6231 : (Jvm.Cond.methodLink "BoardMachineModel$Floats" (244 : Nat) ({ cls := "BoardMachineModel$Floats", name := "toInteger", desc := "(II)J" } : Jvm.MethodName)) ∈ lw_all := lw_g (lw_at lw_m25 161 rfl) rfl
theorem q6232 : (Jvm.Cond.privateMethod ({ cls := "BoardMachineModel$Floats", name := "toInteger", desc := "(II)J" } : Jvm.MethodName)) ∈ lw_tbl := lw_at lw_m25 162 rfl
theorem q6233 : (Jvm.Cond.instanceMethod ({ cls := "BoardMachineModel$Floats", name := "toInteger", desc := "(II)J" } : Jvm.MethodName)) ∈ lw_all := lw_g (lw_at lw_m25 163 rfl) rfl
theorem q6234 : (Jvm.Cond.code ({ cls := "BoardMachineModel$Floats", name := "toInteger", desc := "(II)J" } : Jvm.MethodName) prog_115_method_38_code (8 : Nat) (Option.some Jvm.ClassFile.FieldType.long)) ∈ lw_all := lw_g (lw_at lw_m25 164 rfl) rfl
theorem q6235 : (Jvm.Cond.methodLink "BoardMachineModel$Floats" (187 : Nat) ({ cls := "BoardMachineModel$Floats", name := "beyond", desc := "(ZI)J" } : Jvm.MethodName)) ∈ lw_all := lw_g (lw_at lw_m25 165 rfl) rfl
theorem q6236 : (Jvm.Cond.privateMethod ({ cls := "BoardMachineModel$Floats", name := "beyond", desc := "(ZI)J" } : Jvm.MethodName)) ∈ lw_tbl := lw_at lw_m25 166 rfl
theorem q6237 : (Jvm.Cond.instanceMethod ({ cls := "BoardMachineModel$Floats", name := "beyond", desc := "(ZI)J" } : Jvm.MethodName)) ∈ lw_all := lw_g (lw_at lw_m25 167 rfl) rfl
theorem q6238 : (Jvm.Cond.code ({ cls := "BoardMachineModel$Floats", name := "beyond", desc := "(ZI)J" } : Jvm.MethodName) prog_115_method_37_code (3 : Nat) (Option.some Jvm.ClassFile.FieldType.long)) ∈ lw_all := lw_g (lw_at lw_m25 168 rfl) rfl
theorem q6239 : (Jvm.Cond.methodLink "BoardMachineModel$Floats" (177 : Nat) ({ cls := "BoardMachineModel$Floats", name := "fewest", desc := "(I)J" } : Jvm.MethodName)) ∈ lw_all := lw_g (lw_at lw_m25 169 rfl) rfl
theorem q6240 : (Jvm.Cond.static ({ cls := "BoardMachineModel$Floats", name := "fewest", desc := "(I)J" } : Jvm.MethodName)) ∈ lw_all := lw_g (lw_at lw_m25 170 rfl) rfl
theorem q6241 : (Jvm.Cond.code ({ cls := "BoardMachineModel$Floats", name := "fewest", desc := "(I)J" } : Jvm.MethodName) prog_115_method_36_code (1 : Nat) (Option.some Jvm.ClassFile.FieldType.long)) ∈ lw_all := lw_g (lw_at lw_m25 171 rfl) rfl
theorem q6242 : (Jvm.Cond.constantLong "BoardMachineModel$Floats" (173 : Nat) (-2147483648 : Int64)) ∈ lw_all := lw_g (lw_at lw_m25 172 rfl) rfl
theorem q6243 : (Jvm.Cond.constantLong "BoardMachineModel$Floats" (175 : Nat) (-9223372036854775808 : Int64)) ∈ lw_all := lw_g (lw_at lw_m25 173 rfl) rfl
theorem q6244 : (Jvm.Cond.methodLink "BoardMachineModel$Floats" (180 : Nat) ({ cls := "BoardMachineModel$Floats", name := "most", desc := "(I)J" } : Jvm.MethodName)) ∈ lw_all := lw_g (lw_at lw_m25 174 rfl) rfl
theorem q6245 : (Jvm.Cond.static ({ cls := "BoardMachineModel$Floats", name := "most", desc := "(I)J" } : Jvm.MethodName)) ∈ lw_all := lw_g (lw_at lw_m25 175 rfl) rfl
theorem q6246 : (Jvm.Cond.code ({ cls := "BoardMachineModel$Floats", name := "most", desc := "(I)J" } : Jvm.MethodName) prog_115_method_35_code (1 : Nat) (Option.some Jvm.ClassFile.FieldType.long)) ∈ lw_all := lw_g (lw_at lw_m25 176 rfl) rfl
theorem q6247 : (Jvm.Cond.constantLong "BoardMachineModel$Floats" (169 : Nat) (2147483647 : Int64)) ∈ lw_all := lw_g (lw_at lw_m25 177 rfl) rfl
theorem q6248 : (Jvm.Cond.constantLong "BoardMachineModel$Floats" (171 : Nat) (9223372036854775807 : Int64)) ∈ lw_all := lw_g (lw_at lw_m25 178 rfl) rfl
theorem q6249 : (Jvm.Cond.methodLink "BoardMachineModel$Floats" (183 : Nat) ({ cls := "BoardMachineModel$Floats", name := "shown", desc := "(JI)J" } : Jvm.MethodName)) ∈ lw_all := lw_g (lw_at lw_m25 179 rfl) rfl
theorem q6250 : (Jvm.Cond.static ({ cls := "BoardMachineModel$Floats", name := "shown", desc := "(JI)J" } : Jvm.MethodName)) ∈ lw_all := lw_g (lw_at lw_m25 180 rfl) rfl
theorem q6251 : (Jvm.Cond.code ({ cls := "BoardMachineModel$Floats", name := "shown", desc := "(JI)J" } : Jvm.MethodName) prog_115_method_34_code (3 : Nat) (Option.some Jvm.ClassFile.FieldType.long)) ∈ lw_all := lw_g (lw_at lw_m25 181 rfl) rfl
theorem q6252 : (Jvm.Cond.constantLong "BoardMachineModel$Floats" (191 : Nat) (2147483648 : Int64)) ∈ lw_all := lw_g (lw_at lw_m25 182 rfl) rfl
theorem q6253 : (Jvm.Cond.methodLink "BoardMachineModel$Floats" (201 : Nat) ({ cls := "BoardMachineModel$Floats", name := "tell", desc := "(J)I" } : Jvm.MethodName)) ∈ lw_all := lw_g (lw_at lw_m25 183 rfl) rfl
theorem q6254 : (Jvm.Cond.privateMethod ({ cls := "BoardMachineModel$Floats", name := "tell", desc := "(J)I" } : Jvm.MethodName)) ∈ lw_tbl := lw_at lw_m25 184 rfl
theorem q6255 : (Jvm.Cond.instanceMethod ({ cls := "BoardMachineModel$Floats", name := "tell", desc := "(J)I" } : Jvm.MethodName)) ∈ lw_all := lw_g (lw_at lw_m25 185 rfl) rfl
theorem q6256 : (Jvm.Cond.code ({ cls := "BoardMachineModel$Floats", name := "tell", desc := "(J)I" } : Jvm.MethodName) prog_115_method_21_code (3 : Nat) (Option.some Jvm.ClassFile.FieldType.int)) ∈ lw_all := lw_g (lw_at lw_m25 186 rfl) rfl
theorem q6257 : (Jvm.Cond.methodLink "BoardMachineModel$Floats" (247 : Nat) ({ cls := "BoardMachineModel$Floats", name := "fromInteger", desc := "(JIII)J" } : Jvm.MethodName)) ∈ lw_all := lw_g (lw_at lw_m25 187 rfl) rfl
theorem q6258 : (Jvm.Cond.privateMethod ({ cls := "BoardMachineModel$Floats", name := "fromInteger", desc := "(JIII)J" } : Jvm.MethodName)) ∈ lw_tbl := lw_at lw_m25 188 rfl
theorem q6259 : (Jvm.Cond.instanceMethod ({ cls := "BoardMachineModel$Floats", name := "fromInteger", desc := "(JIII)J" } : Jvm.MethodName)) ∈ lw_all := lw_g (lw_at lw_m25 189 rfl) rfl
theorem q6260 : (Jvm.Cond.code ({ cls := "BoardMachineModel$Floats", name := "fromInteger", desc := "(JIII)J" } : Jvm.MethodName) prog_115_method_39_code (8 : Nat) (Option.some Jvm.ClassFile.FieldType.long)) ∈ lw_all := lw_g (lw_at lw_m25 190 rfl) rfl
theorem q6261 : (Jvm.Cond.methodLink "BoardMachineModel$Floats" (225 : Nat) ({ cls := "BoardMachineModel$Floats", name := "plain", desc := "(IIIIIIJ)I" } : Jvm.MethodName)) ∈ lw_all := lw_g (lw_at lw_m25 191 rfl) rfl
theorem q6262 : (Jvm.Cond.privateMethod ({ cls := "BoardMachineModel$Floats", name := "plain", desc := "(IIIIIIJ)I" } : Jvm.MethodName)) ∈ lw_tbl := lw_at lw_m25 192 rfl
theorem q6263 : (Jvm.Cond.instanceMethod ({ cls := "BoardMachineModel$Floats", name := "plain", desc := "(IIIIIIJ)I" } : Jvm.MethodName)) ∈ lw_all := lw_g (lw_at lw_m25 193 rfl) rfl
theorem q6264 : (Jvm.Cond.code ({ cls := "BoardMachineModel$Floats", name := "plain", desc := "(IIIIIIJ)I" } : Jvm.MethodName) prog_115_method_47_code (12 : Nat) (Option.some Jvm.ClassFile.FieldType.int)) ∈ lw_all := lw_g (lw_at lw_m25 194 rfl) rfl
theorem q6265 : (Jvm.Cond.methodLink "BoardMachineModel$Floats" (251 : Nat) ({ cls := "BoardMachineModel$Floats", name := "extreme", desc := "(IIIII)I" } : Jvm.MethodName)) ∈ lw_all := lw_g (lw_at lw_m25 195 rfl) rfl
theorem q6266 : (Jvm.Cond.privateMethod ({ cls := "BoardMachineModel$Floats", name := "extreme", desc := "(IIIII)I" } : Jvm.MethodName)) ∈ lw_tbl := lw_at lw_m25 196 rfl
theorem q6267 : (Jvm.Cond.instanceMethod ({ cls := "BoardMachineModel$Floats", name := "extreme", desc := "(IIIII)I" } : Jvm.MethodName)) ∈ lw_all := lw_g (lw_at lw_m25 197 rfl) rfl
theorem q6268 : (Jvm.Cond.code ({ cls := "BoardMachineModel$Floats", name := "extreme", desc := "(IIIII)I" } : Jvm.MethodName) prog_115_method_41_code (7 : Nat) (Option.some Jvm.ClassFile.FieldType.int)) ∈ lw_all := lw_g (lw_at lw_m25 198 rfl) rfl
theorem q6269 : (Jvm.Cond.methodLink "BoardMachineModel$Floats" (197 : Nat) ({ cls := "BoardMachineModel$Floats", name := "order", desc := "(IIIZ)I" } : Jvm.MethodName)) ∈ lw_all := lw_g (lw_at lw_m25 199 rfl) rfl
theorem q6270 : (Jvm.Cond.privateMethod ({ cls := "BoardMachineModel$Floats", name := "order", desc := "(IIIZ)I" } : Jvm.MethodName)) ∈ lw_tbl := lw_at lw_m25 200 rfl
theorem q6271 : (Jvm.Cond.instanceMethod ({ cls := "BoardMachineModel$Floats", name := "order", desc := "(IIIZ)I" } : Jvm.MethodName)) ∈ lw_all := lw_g (lw_at lw_m25 201 rfl) rfl
theorem q6272 : (Jvm.Cond.code ({ cls := "BoardMachineModel$Floats", name := "order", desc := "(IIIZ)I" } : Jvm.MethodName) prog_115_method_40_code (11 : Nat) (Option.some Jvm.ClassFile.FieldType.int)) ∈ lw_all := lw_g (lw_at lw_m25 202 rfl) rfl
theorem q6273 : (Jvm.Cond.methodLink "BoardMachineModel$Floats" (255 : Nat) ({ cls := "BoardMachineModel$Floats", name := "compared", desc := "(IIII)I" } : Jvm.MethodName)) ∈ lw_all := lw_g (lw_at lw_m25 203 rfl) rfl
theorem q6274 : (Jvm.Cond.privateMethod ({ cls := "BoardMachineModel$Floats", name := "compared", desc := "(IIII)I" } : Jvm.MethodName)) ∈ lw_tbl := lw_at lw_m25 204 rfl
theorem q6275 : (Jvm.Cond.instanceMethod ({ cls := "BoardMachineModel$Floats", name := "compared", desc := "(IIII)I" } : Jvm.MethodName)) ∈ lw_all := lw_g (lw_at lw_m25 205 rfl) rfl
theorem q6276 : (Jvm.Cond.code ({ cls := "BoardMachineModel$Floats", name := "compared", desc := "(IIII)I" } : Jvm.MethodName) prog_115_method_42_code (7 : Nat) (Option.some Jvm.ClassFile.FieldType.int)) ∈ lw_all := lw_g (lw_at lw_m25 206 rfl) rfl
theorem q6277 : (Jvm.Cond.methodLink "BoardMachineModel$Floats" (259 : Nat) ({ cls := "BoardMachineModel$Floats", name := "classified", desc := "(I)I" } : Jvm.MethodName)) ∈ lw_all := lw_g (lw_at lw_m25 207 rfl) rfl
theorem q6278 : (Jvm.Cond.privateMethod ({ cls := "BoardMachineModel$Floats", name := "classified", desc := "(I)I" } : Jvm.MethodName)) ∈ lw_tbl := lw_at lw_m25 208 rfl
theorem q6279 : (Jvm.Cond.instanceMethod ({ cls := "BoardMachineModel$Floats", name := "classified", desc := "(I)I" } : Jvm.MethodName)) ∈ lw_all := lw_g (lw_at lw_m25 209 rfl) rfl
theorem q6280 : (Jvm.Cond.code ({ cls := "BoardMachineModel$Floats", name := "classified", desc := "(I)I" } : Jvm.MethodName) prog_115_method_43_code (4 : Nat) (Option.some Jvm.ClassFile.FieldType.int)) ∈ lw_all := lw_g (lw_at lw_m25 210 rfl) rfl
theorem q6281 : (Jvm.Cond.constantLong "BoardMachineModel$Floats" (205 : Nat) (256 : Int64)) ∈ lw_all := lw_g (lw_at lw_m25 211 rfl) rfl
theorem q6282 : (Jvm.Cond.constantLong "BoardMachineModel$Floats" (207 : Nat) (512 : Int64)) ∈ lw_all := lw_g (lw_at lw_m25 212 rfl) rfl
theorem q6283 : (Jvm.Cond.methodLink "BoardMachineModel" (391 : Nat) ({ cls := "BoardMachineModel$Floats", name := "value", desc := "()J" } : Jvm.MethodName)) ∈ lw_all := lw_g (lw_at lw_m25 213 rfl) rfl
theorem q6284 : (Jvm.Cond.instanceMethod ({ cls := "BoardMachineModel$Floats", name := "value", desc := "()J" } : Jvm.MethodName)) ∈ lw_all := lw_g (lw_at lw_m25 214 rfl) rfl
theorem q6285 : (Jvm.Cond.selects "BoardMachineModel$Floats" ({ cls := "BoardMachineModel$Floats", name := "value", desc := "()J" } : Jvm.MethodName) ({ cls := "BoardMachineModel$Floats", name := "value", desc := "()J" } : Jvm.MethodName)) ∈ lw_all := lw_g (lw_at lw_m25 215 rfl) rfl
theorem q6286 : (Jvm.Cond.code ({ cls := "BoardMachineModel$Floats", name := "value", desc := "()J" } : Jvm.MethodName) prog_115_method_48_code (1 : Nat) (Option.some Jvm.ClassFile.FieldType.long)) ∈ lw_all := lw_g (lw_at lw_m25 216 rfl) rfl
theorem q6287 : (Jvm.Cond.methodLink "BoardMachineModel" (393 : Nat) ({ cls := "BoardMachineModel$Floats", name := "written", desc := "()Z" } : Jvm.MethodName)) ∈ lw_all := lw_g (lw_at lw_m25 217 rfl) rfl
theorem q6288 : (Jvm.Cond.instanceMethod ({ cls := "BoardMachineModel$Floats", name := "written", desc := "()Z" } : Jvm.MethodName)) ∈ lw_all := lw_g (lw_at lw_m25 218 rfl) rfl
theorem q6289 : (Jvm.Cond.selects "BoardMachineModel$Floats" ({ cls := "BoardMachineModel$Floats", name := "written", desc := "()Z" } : Jvm.MethodName) ({ cls := "BoardMachineModel$Floats", name := "written", desc := "()Z" } : Jvm.MethodName)) ∈ lw_all := lw_g (lw_at lw_m25 219 rfl) rfl
theorem q6290 : (Jvm.Cond.code ({ cls := "BoardMachineModel$Floats", name := "written", desc := "()Z" } : Jvm.MethodName) prog_115_method_57_code (1 : Nat) (Option.some Jvm.ClassFile.FieldType.boolean)) ∈ lw_all := lw_g (lw_at lw_m25 220 rfl) rfl
theorem q6291 : (Jvm.Cond.methodLink "BoardMachineModel" (396 : Nat) ({ cls := "BoardMachineModel$Desk", name := "dirty", desc := "()V" } : Jvm.MethodName)) ∈ lw_all := lw_g (lw_at lw_m25 221 rfl) rfl
theorem q6292 : (Jvm.Cond.instanceMethod ({ cls := "BoardMachineModel$Desk", name := "dirty", desc := "()V" } : Jvm.MethodName)) ∈ lw_all := lw_g (lw_at lw_m25 222 rfl) rfl
theorem q6293 : (Jvm.Cond.selects "BoardMachineModel$Desk" ({ cls := "BoardMachineModel$Desk", name := "dirty", desc := "()V" } : Jvm.MethodName) ({ cls := "BoardMachineModel$Desk", name := "dirty", desc := "()V" } : Jvm.MethodName)) ∈ lw_all := lw_g (lw_at lw_m25 223 rfl) rfl
theorem q6294 : (Jvm.Cond.code ({ cls := "BoardMachineModel$Desk", name := "dirty", desc := "()V" } : Jvm.MethodName) prog_114_method_35_code (1 : Nat) (Option.none : Option Jvm.ClassFile.FieldType)) ∈ lw_all := lw_g (lw_at lw_m25 224 rfl) rfl
theorem q6295 : (Jvm.Cond.methodLink "BoardMachineModel" (399 : Nat) ({ cls := "BoardMachineModel$Floats", name := "calm", desc := "()V" } : Jvm.MethodName)) ∈ lw_all := lw_g (lw_at lw_m25 225 rfl) rfl
theorem q6296 : (Jvm.Cond.instanceMethod ({ cls := "BoardMachineModel$Floats", name := "calm", desc := "()V" } : Jvm.MethodName)) ∈ lw_all := lw_g (lw_at lw_m25 226 rfl) rfl
theorem q6297 : (Jvm.Cond.selects "BoardMachineModel$Floats" ({ cls := "BoardMachineModel$Floats", name := "calm", desc := "()V" } : Jvm.MethodName) ({ cls := "BoardMachineModel$Floats", name := "calm", desc := "()V" } : Jvm.MethodName)) ∈ lw_all := lw_g (lw_at lw_m25 227 rfl) rfl
theorem q6298 : (Jvm.Cond.code ({ cls := "BoardMachineModel$Floats", name := "calm", desc := "()V" } : Jvm.MethodName) prog_115_method_58_code (1 : Nat) (Option.none : Option Jvm.ClassFile.FieldType)) ∈ lw_all := lw_g (lw_at lw_m25 228 rfl) rfl
theorem q6299 : (Jvm.Cond.methodLink "BoardMachineModel" (465 : Nat) ({ cls := "BoardMachineModel", name := "system", desc := "(IIII)Z" } : Jvm.MethodName)) ∈ lw_all := lw_g (lw_at lw_m25 229 rfl) rfl
theorem q6300 : (Jvm.Cond.privateMethod ({ cls := "BoardMachineModel", name := "system", desc := "(IIII)Z" } : Jvm.MethodName)) ∈ lw_tbl := lw_at lw_m25 230 rfl
theorem q6301 : (Jvm.Cond.instanceMethod ({ cls := "BoardMachineModel", name := "system", desc := "(IIII)Z" } : Jvm.MethodName)) ∈ lw_all := lw_g (lw_at lw_m25 231 rfl) rfl
theorem q6302 : (Jvm.Cond.code ({ cls := "BoardMachineModel", name := "system", desc := "(IIII)Z" } : Jvm.MethodName) prog_111_method_37_code (7 : Nat) (Option.some Jvm.ClassFile.FieldType.boolean)) ∈ lw_all := lw_g (lw_at lw_m25 232 rfl) rfl
theorem q6303 : (Jvm.Cond.methodLink "BoardMachineModel" (449 : Nat) ({ cls := "BoardMachineModel", name := "back", desc := "(IZ)Z" } : Jvm.MethodName)) ∈ lw_all := lw_g (lw_at lw_m25 233 rfl) rfl
theorem q6304 : (Jvm.Cond.privateMethod ({ cls := "BoardMachineModel", name := "back", desc := "(IZ)Z" } : Jvm.MethodName)) ∈ lw_tbl := lw_at lw_m25 234 rfl
theorem q6305 : (Jvm.Cond.instanceMethod ({ cls := "BoardMachineModel", name := "back", desc := "(IZ)Z" } : Jvm.MethodName)) ∈ lw_all := lw_g (lw_at lw_m25 235 rfl) rfl
theorem q6306 : (Jvm.Cond.code ({ cls := "BoardMachineModel", name := "back", desc := "(IZ)Z" } : Jvm.MethodName) prog_111_method_36_code (3 : Nat) (Option.some Jvm.ClassFile.FieldType.boolean)) ∈ lw_all := lw_g (lw_at lw_m25 236 rfl) rfl
theorem q6307 : (Jvm.Cond.methodLink "BoardMachineModel" (439 : Nat) ({ cls := "BoardMachineModel$Desk", name := "back", desc := "(Z)Z" } : Jvm.MethodName)) ∈ lw_all := lw_g (lw_at lw_m25 237 rfl) rfl
theorem q6308 : (Jvm.Cond.instanceMethod ({ cls := "BoardMachineModel$Desk", name := "back", desc := "(Z)Z" } : Jvm.MethodName)) ∈ lw_all := lw_g (lw_at lw_m25 238 rfl) rfl
theorem q6309 : (Jvm.Cond.selects "BoardMachineModel$Desk" ({ cls := "BoardMachineModel$Desk", name := "back", desc := "(Z)Z" } : Jvm.MethodName) ({ cls := "BoardMachineModel$Desk", name := "back", desc := "(Z)Z" } : Jvm.MethodName)) ∈ lw_all := lw_g (lw_at lw_m25 239 rfl) rfl
theorem q6310 : (Jvm.Cond.code ({ cls := "BoardMachineModel$Desk", name := "back", desc := "(Z)Z" } : Jvm.MethodName) prog_114_method_25_code (4 : Nat) (Option.some Jvm.ClassFile.FieldType.boolean)) ∈ lw_all := lw_g (lw_at lw_m26 0 rfl) rfl
theorem q6311 : (Jvm.Cond.methodLink "BoardMachineModel" (443 : Nat) ({ cls := "BoardMachineModel$Desk", name := "place", desc := "()J" } : Jvm.MethodName)) ∈ lw_all := lw_g (lw_at lw_m26 1 rfl) rfl
theorem q6312 : (Jvm.Cond.instanceMethod ({ cls := "BoardMachineModel$Desk", name := "place", desc := "()J" } : Jvm.MethodName)) ∈ lw_all := lw_g (lw_at lw_m26 2 rfl) rfl
theorem q6313 : (Jvm.Cond.selects "BoardMachineModel$Desk" ({ cls := "BoardMachineModel$Desk", name := "place", desc := "()J" } : Jvm.MethodName) ({ cls := "BoardMachineModel$Desk", name := "place", desc := "()J" } : Jvm.MethodName)) ∈ lw_all := lw_g (lw_at lw_m26 3 rfl) rfl
theorem q6314 : (Jvm.Cond.code ({ cls := "BoardMachineModel$Desk", name := "place", desc := "()J" } : Jvm.MethodName) prog_114_method_26_code (1 : Nat) (Option.some Jvm.ClassFile.FieldType.long)) ∈ lw_all := lw_g (lw_at lw_m26 4 rfl) rfl
theorem q6315 : (Jvm.Cond.methodLink "BoardMachineModel" (452 : Nat) ({ cls := "BoardMachineModel$Desk", name := "allowed", desc := "(I)Z" } : Jvm.MethodName)) ∈ lw_all := lw_g (lw_at lw_m26 5 rfl) rfl
theorem q6316 : (Jvm.Cond.instanceMethod ({ cls := "BoardMachineModel$Desk", name := "allowed", desc := "(I)Z" } : Jvm.MethodName)) ∈ lw_all := lw_g (lw_at lw_m26 6 rfl) rfl
theorem q6317 : (Jvm.Cond.selects "BoardMachineModel$Desk" ({ cls := "BoardMachineModel$Desk", name := "allowed", desc := "(I)Z" } : Jvm.MethodName) ({ cls := "BoardMachineModel$Desk", name := "allowed", desc := "(I)Z" } : Jvm.MethodName)) ∈ lw_all := lw_g (lw_at lw_m26 7 rfl) rfl
theorem q6318 : (Jvm.Cond.code ({ cls := "BoardMachineModel$Desk", name := "allowed", desc := "(I)Z" } : Jvm.MethodName) prog_114_method_33_code (2 : Nat) (Option.some Jvm.ClassFile.FieldType.boolean)) ∈ lw_all := lw_g (lw_at lw_m26 8 rfl) rfl
theorem q6319 : (Jvm.Cond.methodLink "BoardMachineModel" (469 : Nat) ({ cls := "BoardMachineModel", name := "access", desc := "(IIIZJ)Z" } : Jvm.MethodName)) ∈ lw_all := lw_g (lw_at lw_m26 9 rfl) rfl
theorem q6320 : (Jvm.Cond.privateMethod ({ cls := "BoardMachineModel", name := "access", desc := "(IIIZJ)Z" } : Jvm.MethodName)) ∈ lw_tbl := lw_at lw_m26 10 rfl
theorem q6321 : (Jvm.Cond.instanceMethod ({ cls := "BoardMachineModel", name := "access", desc := "(IIIZJ)Z" } : Jvm.MethodName)) ∈ lw_all := lw_g (lw_at lw_m26 11 rfl) rfl
theorem q6322 : (Jvm.Cond.code ({ cls := "BoardMachineModel", name := "access", desc := "(IIIZJ)Z" } : Jvm.MethodName) prog_111_method_35_code (10 : Nat) (Option.some Jvm.ClassFile.FieldType.boolean)) ∈ lw_all := lw_g (lw_at lw_m26 12 rfl) rfl
theorem q6323 : (Jvm.Cond.methodLink "BoardMachineModel" (423 : Nat) ({ cls := "BoardMachineModel$Desk", name := "access", desc := "(IIZJ)I" } : Jvm.MethodName)) ∈ lw_all := lw_g (lw_at lw_m26 13 rfl) rfl
theorem q6324 : (Jvm.Cond.instanceMethod ({ cls := "BoardMachineModel$Desk", name := "access", desc := "(IIZJ)I" } : Jvm.MethodName)) ∈ lw_all := lw_g (lw_at lw_m26 14 rfl) rfl
theorem q6325 : (Jvm.Cond.selects "BoardMachineModel$Desk" ({ cls := "BoardMachineModel$Desk", name := "access", desc := "(IIZJ)I" } : Jvm.MethodName) ({ cls := "BoardMachineModel$Desk", name := "access", desc := "(IIZJ)I" } : Jvm.MethodName)) ∈ lw_all := lw_g (lw_at lw_m26 15 rfl) rfl
theorem q6326 : (Jvm.Cond.code ({ cls := "BoardMachineModel$Desk", name := "access", desc := "(IIZJ)I" } : Jvm.MethodName) prog_114_method_21_code (8 : Nat) (Option.some Jvm.ClassFile.FieldType.int)) ∈ lw_all := lw_g (lw_at lw_m26 16 rfl) rfl
theorem q6327 : (Jvm.Cond.methodLink "BoardMachineModel$Desk" (112 : Nat) ({ cls := "BoardMachineModel$Desk", name := "isIllegal", desc := "(IZ)Z" } : Jvm.MethodName)) ∈ lw_all := lw_g (lw_at lw_m26 17 rfl) rfl
theorem q6328 : (Jvm.Cond.privateMethod ({ cls := "BoardMachineModel$Desk", name := "isIllegal", desc := "(IZ)Z" } : Jvm.MethodName)) ∈ lw_tbl := lw_at lw_m26 18 rfl
theorem q6329 : (Jvm.Cond.instanceMethod ({ cls := "BoardMachineModel$Desk", name := "isIllegal", desc := "(IZ)Z" } : Jvm.MethodName)) ∈ lw_all := lw_g (lw_at lw_m26 19 rfl) rfl
theorem q6330 : (Jvm.Cond.code ({ cls := "BoardMachineModel$Desk", name := "isIllegal", desc := "(IZ)Z" } : Jvm.MethodName) prog_114_method_20_code (7 : Nat) (Option.some Jvm.ClassFile.FieldType.boolean)) ∈ lw_all := lw_g (lw_at lw_m26 20 rfl) rfl
theorem q6331 : (Jvm.Cond.constantLong "BoardMachineModel$Desk" (116 : Nat) (-513 : Int64)) ∈ lw_all := lw_g (lw_at lw_m26 21 rfl) rfl
theorem q6332 : (Jvm.Cond.methodLink "BoardMachineModel$Desk" (118 : Nat) ({ cls := "BoardMachineModel$Desk", name := "write", desc := "(IJ)V" } : Jvm.MethodName)) ∈ lw_all := lw_g (lw_at lw_m26 22 rfl) rfl
theorem q6333 : (Jvm.Cond.privateMethod ({ cls := "BoardMachineModel$Desk", name := "write", desc := "(IJ)V" } : Jvm.MethodName)) ∈ lw_tbl := lw_at lw_m26 23 rfl
theorem q6334 : (Jvm.Cond.instanceMethod ({ cls := "BoardMachineModel$Desk", name := "write", desc := "(IJ)V" } : Jvm.MethodName)) ∈ lw_all := lw_g (lw_at lw_m26 24 rfl) rfl
theorem q6335 : (Jvm.Cond.code ({ cls := "BoardMachineModel$Desk", name := "write", desc := "(IJ)V" } : Jvm.MethodName) prog_114_method_19_code (6 : Nat) (Option.none : Option Jvm.ClassFile.FieldType)) ∈ lw_all := lw_g (lw_at lw_m26 25 rfl) rfl
theorem q6336 : (Jvm.Cond.methodLink "BoardMachineModel$Desk" (88 : Nat) ({ cls := "BoardMachineModel$Desk", name := "writeStatus", desc := "(JJ)V" } : Jvm.MethodName)) ∈ lw_all := lw_g (lw_at lw_m26 26 rfl) rfl
theorem q6337 : (Jvm.Cond.privateMethod ({ cls := "BoardMachineModel$Desk", name := "writeStatus", desc := "(JJ)V" } : Jvm.MethodName)) ∈ lw_tbl := lw_at lw_m26 27 rfl
theorem q6338 : (Jvm.Cond.instanceMethod ({ cls := "BoardMachineModel$Desk", name := "writeStatus", desc := "(JJ)V" } : Jvm.MethodName)) ∈ lw_all := lw_g (lw_at lw_m26 28 rfl) rfl
theorem q6339 : (Jvm.Cond.code ({ cls := "BoardMachineModel$Desk", name := "writeStatus", desc := "(JJ)V" } : Jvm.MethodName) prog_114_method_18_code (6 : Nat) (Option.none : Option Jvm.ClassFile.FieldType)) ∈ lw_all := lw_g (lw_at lw_m26 29 rfl) rfl
theorem q6340 : (Jvm.Cond.methodLink "BoardMachineModel$Desk" (80 : Nat) ({ cls := "BoardMachineModel$Desk", name := "through", desc := "(IJJ)V" } : Jvm.MethodName)) ∈ lw_all := lw_g (lw_at lw_m26 30 rfl) rfl
theorem q6341 : (Jvm.Cond.privateMethod ({ cls := "BoardMachineModel$Desk", name := "through", desc := "(IJJ)V" } : Jvm.MethodName)) ∈ lw_tbl := lw_at lw_m26 31 rfl
theorem q6342 : (Jvm.Cond.instanceMethod ({ cls := "BoardMachineModel$Desk", name := "through", desc := "(IJJ)V" } : Jvm.MethodName)) ∈ lw_all := lw_g (lw_at lw_m26 32 rfl) rfl
theorem q6343 : (Jvm.Cond.code ({ cls := "BoardMachineModel$Desk", name := "through", desc := "(IJJ)V" } : Jvm.MethodName) prog_114_method_17_code (6 : Nat) (Option.none : Option Jvm.ClassFile.FieldType)) ∈ lw_all := lw_g (lw_at lw_m26 33 rfl) rfl
theorem q6344 : (Jvm.Cond.constantLong "BoardMachineModel$Desk" (92 : Nat) (46079 : Int64)) ∈ lw_all := lw_g (lw_at lw_m26 34 rfl) rfl
theorem q6345 : (Jvm.Cond.constantLong "BoardMachineModel$Desk" (94 : Nat) (546 : Int64)) ∈ lw_all := lw_g (lw_at lw_m26 35 rfl) rfl
theorem q6346 : (Jvm.Cond.constantLong "BoardMachineModel$Desk" (96 : Nat) (2730 : Int64)) ∈ lw_all := lw_g (lw_at lw_m26 36 rfl) rfl
theorem q6347 : (Jvm.Cond.constantLong "BoardMachineModel$Desk" (98 : Nat) (2 : Int64)) ∈ lw_all := lw_g (lw_at lw_m26 37 rfl) rfl
theorem q6348 : (Jvm.Cond.constantLong "BoardMachineModel$Desk" (100 : Nat) (-3 : Int64)) ∈ lw_all := lw_g (lw_at lw_m26 38 rfl) rfl
theorem q6349 : (Jvm.Cond.constantLong "BoardMachineModel$Desk" (104 : Nat) (7 : Int64)) ∈ lw_all := lw_g (lw_at lw_m26 39 rfl) rfl
theorem q6350 : (Jvm.Cond.constantLong "BoardMachineModel$Desk" (106 : Nat) (15 : Int64)) ∈ lw_all := lw_g (lw_at lw_m26 40 rfl) rfl
theorem q6351 : (Jvm.Cond.constantLong "BoardMachineModel$Desk" (108 : Nat) (8 : Int64)) ∈ lw_all := lw_g (lw_at lw_m26 41 rfl) rfl
theorem q6352 : (Jvm.Cond.constantLong "BoardMachineModel$Desk" (110 : Nat) (9 : Int64)) ∈ lw_all := lw_g (lw_at lw_m26 42 rfl) rfl
theorem q6353 : (Jvm.Cond.methodLink "BoardMachineModel" (427 : Nat) ({ cls := "BoardMachineModel$Desk", name := "had", desc := "()J" } : Jvm.MethodName)) ∈ lw_all := lw_g (lw_at lw_m26 43 rfl) rfl
theorem q6354 : (Jvm.Cond.instanceMethod ({ cls := "BoardMachineModel$Desk", name := "had", desc := "()J" } : Jvm.MethodName)) ∈ lw_all := lw_g (lw_at lw_m26 44 rfl) rfl
theorem q6355 : (Jvm.Cond.selects "BoardMachineModel$Desk" ({ cls := "BoardMachineModel$Desk", name := "had", desc := "()J" } : Jvm.MethodName) ({ cls := "BoardMachineModel$Desk", name := "had", desc := "()J" } : Jvm.MethodName)) ∈ lw_all := lw_g (lw_at lw_m26 45 rfl) rfl
theorem q6356 : (Jvm.Cond.code ({ cls := "BoardMachineModel$Desk", name := "had", desc := "()J" } : Jvm.MethodName) prog_114_method_22_code (1 : Nat) (Option.some Jvm.ClassFile.FieldType.long)) ∈ lw_all := lw_g (lw_at lw_m26 46 rfl) rfl
theorem q6357 : (Jvm.Cond.methodLink "BoardMachineModel" (430 : Nat) ({ cls := "BoardMachineModel", name := "elsewhere", desc := "(II)J" } : Jvm.MethodName)) ∈ lw_all := lw_g (lw_at lw_m26 47 rfl) rfl
theorem q6358 : (Jvm.Cond.privateMethod ({ cls := "BoardMachineModel", name := "elsewhere", desc := "(II)J" } : Jvm.MethodName)) ∈ lw_tbl := lw_at lw_m26 48 rfl
theorem q6359 : (Jvm.Cond.instanceMethod ({ cls := "BoardMachineModel", name := "elsewhere", desc := "(II)J" } : Jvm.MethodName)) ∈ lw_all := lw_g (lw_at lw_m26 49 rfl) rfl
theorem q6360 : (Jvm.Cond.code ({ cls := "BoardMachineModel", name := "elsewhere", desc := "(II)J" } : Jvm.MethodName) prog_111_method_33_code (3 : Nat) (Option.some Jvm.ClassFile.FieldType.long)) ∈ lw_all := lw_g (lw_at lw_m26 50 rfl) rfl
theorem q6361 : (Jvm.Cond.methodLink "BoardMachineModel" (402 : Nat) ({ cls := "BoardMachineModel$Floats", name := "flags", desc := "()I" } : Jvm.MethodName)) ∈ lw_all := lw_g (lw_at lw_m26 51 rfl) rfl
theorem q6362 : (Jvm.Cond.instanceMethod ({ cls := "BoardMachineModel$Floats", name := "flags", desc := "()I" } : Jvm.MethodName)) ∈ lw_all := lw_g (lw_at lw_m26 52 rfl) rfl
theorem q6363 : (Jvm.Cond.selects "BoardMachineModel$Floats" ({ cls := "BoardMachineModel$Floats", name := "flags", desc := "()I" } : Jvm.MethodName) ({ cls := "BoardMachineModel$Floats", name := "flags", desc := "()I" } : Jvm.MethodName)) ∈ lw_all := lw_g (lw_at lw_m26 53 rfl) rfl
theorem q6364 : (Jvm.Cond.code ({ cls := "BoardMachineModel$Floats", name := "flags", desc := "()I" } : Jvm.MethodName) prog_115_method_53_code (1 : Nat) (Option.some Jvm.ClassFile.FieldType.int)) ∈ lw_all := lw_g (lw_at lw_m26 54 rfl) rfl
theorem q6365 : (Jvm.Cond.methodLink "BoardMachineModel" (405 : Nat) ({ cls := "BoardMachineModel$Floats", name := "mode", desc := "()I" } : Jvm.MethodName)) ∈ lw_all := lw_g (lw_at lw_m26 55 rfl) rfl
theorem q6366 : (Jvm.Cond.instanceMethod ({ cls := "BoardMachineModel$Floats", name := "mode", desc := "()I" } : Jvm.MethodName)) ∈ lw_all := lw_g (lw_at lw_m26 56 rfl) rfl
theorem q6367 : (Jvm.Cond.selects "BoardMachineModel$Floats" ({ cls := "BoardMachineModel$Floats", name := "mode", desc := "()I" } : Jvm.MethodName) ({ cls := "BoardMachineModel$Floats", name := "mode", desc := "()I" } : Jvm.MethodName)) ∈ lw_all := lw_g (lw_at lw_m26 57 rfl) rfl
theorem q6368 : (Jvm.Cond.code ({ cls := "BoardMachineModel$Floats", name := "mode", desc := "()I" } : Jvm.MethodName) prog_115_method_55_code (1 : Nat) (Option.some Jvm.ClassFile.FieldType.int)) ∈ lw_all := lw_g (lw_at lw_m26 58 rfl) rfl
theorem q6369 : (Jvm.Cond.methodLink "BoardMachineModel" (406 : Nat) ({ cls := "BoardMachineModel$Walk", name := "configs", desc := "()J" } : Jvm.MethodName)) ∈ lw_all := lw_g (lw_at lw_m26 59 rfl) rfl
theorem q6370 : (Jvm.Cond.instanceMethod ({ cls := "BoardMachineModel$Walk", name := "configs", desc := "()J" } : Jvm.MethodName)) ∈ lw_all := lw_g (lw_at lw_m26 60 rfl) rfl
theorem q6371 : (Jvm.Cond.selects "BoardMachineModel$Walk" ({ cls := "BoardMachineModel$Walk", name := "configs", desc := "()J" } : Jvm.MethodName) ({ cls := "BoardMachineModel$Walk", name := "configs", desc := "()J" } : Jvm.MethodName)) ∈ lw_all := lw_g (lw_at lw_m26 61 rfl) rfl
theorem q6372 : (Jvm.Cond.code ({ cls := "BoardMachineModel$Walk", name := "configs", desc := "()J" } : Jvm.MethodName) prog_120_method_10_code (4 : Nat) (Option.some Jvm.ClassFile.FieldType.long)) ∈ lw_all := lw_g (lw_at lw_m26 62 rfl) rfl
theorem q6373 : (Jvm.Cond.constantLong "BoardMachineModel$Walk" (44 : Nat) (256 : Int64)) ∈ lw_all := lw_g (lw_at lw_m26 63 rfl) rfl
theorem q6374 : (Jvm.Cond.methodLink "BoardMachineModel" (409 : Nat) ({ cls := "BoardMachineModel$Walk", name := "number", desc := "(I)J" } : Jvm.MethodName)) ∈ lw_all := lw_g (lw_at lw_m26 64 rfl) rfl
theorem q6375 : (Jvm.Cond.instanceMethod ({ cls := "BoardMachineModel$Walk", name := "number", desc := "(I)J" } : Jvm.MethodName)) ∈ lw_all := lw_g (lw_at lw_m26 65 rfl) rfl
theorem q6376 : (Jvm.Cond.selects "BoardMachineModel$Walk" ({ cls := "BoardMachineModel$Walk", name := "number", desc := "(I)J" } : Jvm.MethodName) ({ cls := "BoardMachineModel$Walk", name := "number", desc := "(I)J" } : Jvm.MethodName)) ∈ lw_all := lw_g (lw_at lw_m26 66 rfl) rfl
theorem q6377 : (Jvm.Cond.code ({ cls := "BoardMachineModel$Walk", name := "number", desc := "(I)J" } : Jvm.MethodName) prog_120_method_12_code (2 : Nat) (Option.some Jvm.ClassFile.FieldType.long)) ∈ lw_all := lw_g (lw_at lw_m26 67 rfl) rfl
theorem q6378 : (Jvm.Cond.constantLong "BoardMachineModel" (433 : Nat) (-1 : Int64)) ∈ lw_all := lw_g (lw_at lw_m26 68 rfl) rfl
theorem q6379 : (Jvm.Cond.methodLink "BoardMachineModel" (435 : Nat) ({ cls := "BoardMachineModel", name := "setElsewhere", desc := "(IIJ)V" } : Jvm.MethodName)) ∈ lw_all := lw_g (lw_at lw_m26 69 rfl) rfl
theorem q6380 : (Jvm.Cond.privateMethod ({ cls := "BoardMachineModel", name := "setElsewhere", desc := "(IIJ)V" } : Jvm.MethodName)) ∈ lw_tbl := lw_at lw_m26 70 rfl
theorem q6381 : (Jvm.Cond.instanceMethod ({ cls := "BoardMachineModel", name := "setElsewhere", desc := "(IIJ)V" } : Jvm.MethodName)) ∈ lw_all := lw_g (lw_at lw_m26 71 rfl) rfl
theorem q6382 : (Jvm.Cond.code ({ cls := "BoardMachineModel", name := "setElsewhere", desc := "(IIJ)V" } : Jvm.MethodName) prog_111_method_34_code (5 : Nat) (Option.none : Option Jvm.ClassFile.FieldType)) ∈ lw_all := lw_g (lw_at lw_m26 72 rfl) rfl
theorem q6383 : (Jvm.Cond.methodLink "BoardMachineModel" (411 : Nat) ({ cls := "BoardMachineModel$Floats", name := "putFlags", desc := "(I)V" } : Jvm.MethodName)) ∈ lw_all := lw_g (lw_at lw_m26 73 rfl) rfl
theorem q6384 : (Jvm.Cond.instanceMethod ({ cls := "BoardMachineModel$Floats", name := "putFlags", desc := "(I)V" } : Jvm.MethodName)) ∈ lw_all := lw_g (lw_at lw_m26 74 rfl) rfl
theorem q6385 : (Jvm.Cond.selects "BoardMachineModel$Floats" ({ cls := "BoardMachineModel$Floats", name := "putFlags", desc := "(I)V" } : Jvm.MethodName) ({ cls := "BoardMachineModel$Floats", name := "putFlags", desc := "(I)V" } : Jvm.MethodName)) ∈ lw_all := lw_g (lw_at lw_m26 75 rfl) rfl
theorem q6386 : (Jvm.Cond.code ({ cls := "BoardMachineModel$Floats", name := "putFlags", desc := "(I)V" } : Jvm.MethodName) prog_115_method_54_code (2 : Nat) (Option.none : Option Jvm.ClassFile.FieldType)) ∈ lw_all := lw_g (lw_at lw_m26 76 rfl) rfl
theorem q6387 : (Jvm.Cond.methodLink "BoardMachineModel" (414 : Nat) ({ cls := "BoardMachineModel$Floats", name := "putMode", desc := "(I)V" } : Jvm.MethodName)) ∈ lw_all := lw_g (lw_at lw_m26 77 rfl) rfl
theorem q6388 : (Jvm.Cond.instanceMethod ({ cls := "BoardMachineModel$Floats", name := "putMode", desc := "(I)V" } : Jvm.MethodName)) ∈ lw_all := lw_g (lw_at lw_m26 78 rfl) rfl
theorem q6389 : (Jvm.Cond.selects "BoardMachineModel$Floats" ({ cls := "BoardMachineModel$Floats", name := "putMode", desc := "(I)V" } : Jvm.MethodName) ({ cls := "BoardMachineModel$Floats", name := "putMode", desc := "(I)V" } : Jvm.MethodName)) ∈ lw_all := lw_g (lw_at lw_m26 79 rfl) rfl
theorem q6390 : (Jvm.Cond.code ({ cls := "BoardMachineModel$Floats", name := "putMode", desc := "(I)V" } : Jvm.MethodName) prog_115_method_56_code (2 : Nat) (Option.none : Option Jvm.ClassFile.FieldType)) ∈ lw_all := lw_g (lw_at lw_m26 80 rfl) rfl
theorem q6391 : (Jvm.Cond.methodLink "BoardMachineModel" (417 : Nat) ({ cls := "BoardMachineModel$Walk", name := "setConfigs", desc := "(J)V" } : Jvm.MethodName)) ∈ lw_all := lw_g (lw_at lw_m26 81 rfl) rfl
theorem q6392 : (Jvm.Cond.instanceMethod ({ cls := "BoardMachineModel$Walk", name := "setConfigs", desc := "(J)V" } : Jvm.MethodName)) ∈ lw_all := lw_g (lw_at lw_m26 82 rfl) rfl
theorem q6393 : (Jvm.Cond.selects "BoardMachineModel$Walk" ({ cls := "BoardMachineModel$Walk", name := "setConfigs", desc := "(J)V" } : Jvm.MethodName) ({ cls := "BoardMachineModel$Walk", name := "setConfigs", desc := "(J)V" } : Jvm.MethodName)) ∈ lw_all := lw_g (lw_at lw_m26 83 rfl) rfl
theorem q6394 : (Jvm.Cond.code ({ cls := "BoardMachineModel$Walk", name := "setConfigs", desc := "(J)V" } : Jvm.MethodName) prog_120_method_11_code (5 : Nat) (Option.none : Option Jvm.ClassFile.FieldType)) ∈ lw_all := lw_g (lw_at lw_m26 84 rfl) rfl
theorem q6395 : (Jvm.Cond.methodLink "BoardMachineModel" (420 : Nat) ({ cls := "BoardMachineModel$Walk", name := "setNumber", desc := "(IJ)V" } : Jvm.MethodName)) ∈ lw_all := lw_g (lw_at lw_m26 85 rfl) rfl
theorem q6396 : (Jvm.Cond.instanceMethod ({ cls := "BoardMachineModel$Walk", name := "setNumber", desc := "(IJ)V" } : Jvm.MethodName)) ∈ lw_all := lw_g (lw_at lw_m26 86 rfl) rfl
theorem q6397 : (Jvm.Cond.selects "BoardMachineModel$Walk" ({ cls := "BoardMachineModel$Walk", name := "setNumber", desc := "(IJ)V" } : Jvm.MethodName) ({ cls := "BoardMachineModel$Walk", name := "setNumber", desc := "(IJ)V" } : Jvm.MethodName)) ∈ lw_all := lw_g (lw_at lw_m26 87 rfl) rfl
theorem q6398 : (Jvm.Cond.code ({ cls := "BoardMachineModel$Walk", name := "setNumber", desc := "(IJ)V" } : Jvm.MethodName) prog_120_method_13_code (5 : Nat) (Option.none : Option Jvm.ClassFile.FieldType)) ∈ lw_all := lw_g (lw_at lw_m26 88 rfl) rfl
theorem q6399 : (Jvm.Cond.constantLong "BoardMachineModel$Walk" (54 : Nat) (18014398509481983 : Int64)) ∈ lw_all := lw_g (lw_at lw_m26 89 rfl) rfl
theorem q6400 : (Jvm.Cond.methodLink "BoardMachineModel" (491 : Nat) ({ cls := "BoardMachineModel$Desk", name := "count", desc := "(JJ)V" } : Jvm.MethodName)) ∈ lw_all := lw_g (lw_at lw_m26 90 rfl) rfl
theorem q6401 : (Jvm.Cond.instanceMethod ({ cls := "BoardMachineModel$Desk", name := "count", desc := "(JJ)V" } : Jvm.MethodName)) ∈ lw_all := lw_g (lw_at lw_m26 91 rfl) rfl
theorem q6402 : (Jvm.Cond.selects "BoardMachineModel$Desk" ({ cls := "BoardMachineModel$Desk", name := "count", desc := "(JJ)V" } : Jvm.MethodName) ({ cls := "BoardMachineModel$Desk", name := "count", desc := "(JJ)V" } : Jvm.MethodName)) ∈ lw_all := lw_g (lw_at lw_m26 92 rfl) rfl
theorem q6403 : (Jvm.Cond.code ({ cls := "BoardMachineModel$Desk", name := "count", desc := "(JJ)V" } : Jvm.MethodName) prog_114_method_36_code (5 : Nat) (Option.none : Option Jvm.ClassFile.FieldType)) ∈ lw_all := lw_g (lw_at lw_m26 93 rfl) rfl
theorem q6404 : (Jvm.Cond.methodLink "BoardMachineModel" (502 : Nat) ({ cls := "BoardMachineModel", name := "check", desc := "(I)V" } : Jvm.MethodName)) ∈ lw_all := lw_g (lw_at lw_m26 94 rfl) rfl
theorem q6405 : (Jvm.Cond.privateMethod ({ cls := "BoardMachineModel", name := "check", desc := "(I)V" } : Jvm.MethodName)) ∈ lw_tbl := lw_at lw_m26 95 rfl
theorem q6406 : (Jvm.Cond.instanceMethod ({ cls := "BoardMachineModel", name := "check", desc := "(I)V" } : Jvm.MethodName)) ∈ lw_all := lw_g (lw_at lw_m26 96 rfl) rfl
theorem q6407 : (Jvm.Cond.code ({ cls := "BoardMachineModel", name := "check", desc := "(I)V" } : Jvm.MethodName) prog_111_method_40_code (3 : Nat) (Option.none : Option Jvm.ClassFile.FieldType)) ∈ lw_all := lw_g (lw_at lw_m26 97 rfl) rfl
theorem q6408 : (Jvm.Cond.methodLink "BoardMachineModel" (495 : Nat) ({ cls := "BoardMachineModel$Core", name := "get", desc := "(I)J" } : Jvm.MethodName)) ∈ lw_all := lw_g (lw_at lw_m26 98 rfl) rfl
theorem q6409 : (Jvm.Cond.instanceMethod ({ cls := "BoardMachineModel$Core", name := "get", desc := "(I)J" } : Jvm.MethodName)) ∈ lw_all := lw_g (lw_at lw_m26 99 rfl) rfl
theorem q6410 : (Jvm.Cond.selects "BoardMachineModel$Core" ({ cls := "BoardMachineModel$Core", name := "get", desc := "(I)J" } : Jvm.MethodName) ({ cls := "BoardMachineModel$Core", name := "get", desc := "(I)J" } : Jvm.MethodName)) ∈ lw_all := lw_g (lw_at lw_m26 100 rfl) rfl
theorem q6411 : (Jvm.Cond.code ({ cls := "BoardMachineModel$Core", name := "get", desc := "(I)J" } : Jvm.MethodName) prog_113_method_5_code (2 : Nat) (Option.some Jvm.ClassFile.FieldType.long)) ∈ lw_all := lw_g (lw_at lw_m26 101 rfl) rfl
theorem q6412 : (Jvm.Cond.methodLinkNest "BoardMachineModel" (496 : Nat) ({ cls := "BoardMachineModel$Desk", name := "below", desc := "()I" } : Jvm.MethodName) "BoardMachineModel") ∈ lw_tbl := lw_at lw_m26 102 rfl
theorem q6413 : (Jvm.Cond.constantLong "BoardMachineModel" (508 : Nat) (10 : Int64)) ∈ lw_all := lw_g (lw_at lw_m26 103 rfl) rfl
theorem q6414 : (Jvm.Cond.methodLink "BoardMachineModel" (510 : Nat) ({ cls := "BoardMachineModel$Signals", name := "pass", desc := "(J)V" } : Jvm.MethodName)) ∈ lw_all := lw_g (lw_at lw_m26 104 rfl) rfl
theorem q6415 : (Jvm.Cond.instanceMethod ({ cls := "BoardMachineModel$Signals", name := "pass", desc := "(J)V" } : Jvm.MethodName)) ∈ lw_all := lw_g (lw_at lw_m26 105 rfl) rfl
theorem q6416 : (Jvm.Cond.selects "BoardMachineModel$Signals" ({ cls := "BoardMachineModel$Signals", name := "pass", desc := "(J)V" } : Jvm.MethodName) ({ cls := "BoardMachineModel$Signals", name := "pass", desc := "(J)V" } : Jvm.MethodName)) ∈ lw_all := lw_g (lw_at lw_m26 106 rfl) rfl
theorem q6417 : (Jvm.Cond.code ({ cls := "BoardMachineModel$Signals", name := "pass", desc := "(J)V" } : Jvm.MethodName) prog_118_method_36_code (3 : Nat) (Option.none : Option Jvm.ClassFile.FieldType)) ∈ lw_all := lw_g (lw_at lw_m26 107 rfl) rfl
theorem q6418 : (Jvm.Cond.methodLink "BoardMachineModel" (513 : Nat) ({ cls := "BoardMachineModel$Signals", name := "room", desc := "()I" } : Jvm.MethodName)) ∈ lw_all := lw_g (lw_at lw_m26 108 rfl) rfl
theorem q6419 : (Jvm.Cond.instanceMethod ({ cls := "BoardMachineModel$Signals", name := "room", desc := "()I" } : Jvm.MethodName)) ∈ lw_all := lw_g (lw_at lw_m26 109 rfl) rfl
theorem q6420 : (Jvm.Cond.selects "BoardMachineModel$Signals" ({ cls := "BoardMachineModel$Signals", name := "room", desc := "()I" } : Jvm.MethodName) ({ cls := "BoardMachineModel$Signals", name := "room", desc := "()I" } : Jvm.MethodName)) ∈ lw_all := lw_g (lw_at lw_m26 110 rfl) rfl
theorem q6421 : (Jvm.Cond.code ({ cls := "BoardMachineModel$Signals", name := "room", desc := "()I" } : Jvm.MethodName) prog_118_method_35_code (1 : Nat) (Option.some Jvm.ClassFile.FieldType.int)) ∈ lw_all := lw_g (lw_at lw_m26 111 rfl) rfl
theorem q6422 : (Jvm.Cond.methodLink "BoardMachineModel" (516 : Nat) ({ cls := "BoardMachineModel$Signals", name := "come", desc := "(I)Z" } : Jvm.MethodName)) ∈ lw_all := lw_g (lw_at lw_m26 112 rfl) rfl
theorem q6423 : (Jvm.Cond.instanceMethod ({ cls := "BoardMachineModel$Signals", name := "come", desc := "(I)Z" } : Jvm.MethodName)) ∈ lw_all := lw_g (lw_at lw_m26 113 rfl) rfl
theorem q6424 : (Jvm.Cond.selects "BoardMachineModel$Signals" ({ cls := "BoardMachineModel$Signals", name := "come", desc := "(I)Z" } : Jvm.MethodName) ({ cls := "BoardMachineModel$Signals", name := "come", desc := "(I)Z" } : Jvm.MethodName)) ∈ lw_all := lw_g (lw_at lw_m26 114 rfl) rfl
theorem q6425 : (Jvm.Cond.code ({ cls := "BoardMachineModel$Signals", name := "come", desc := "(I)Z" } : Jvm.MethodName) prog_118_method_34_code (3 : Nat) (Option.some Jvm.ClassFile.FieldType.boolean)) ∈ lw_all := lw_g (lw_at lw_m26 115 rfl) rfl
theorem q6426 : (Jvm.Cond.methodLink "BoardMachineLaw" (99 : Nat) ({ cls := "BoardMachineModel", name := "code", desc := "()I" } : Jvm.MethodName)) ∈ lw_all := lw_g (lw_at lw_m26 116 rfl) rfl
theorem q6427 : (Jvm.Cond.instanceMethod ({ cls := "BoardMachineModel", name := "code", desc := "()I" } : Jvm.MethodName)) ∈ lw_all := lw_g (lw_at lw_m26 117 rfl) rfl
theorem q6428 : (Jvm.Cond.selects "BoardMachineModel" ({ cls := "BoardMachineModel", name := "code", desc := "()I" } : Jvm.MethodName) ({ cls := "BoardMachineModel", name := "code", desc := "()I" } : Jvm.MethodName)) ∈ lw_all := lw_g (lw_at lw_m26 118 rfl) rfl
theorem q6429 : (Jvm.Cond.code ({ cls := "BoardMachineModel", name := "code", desc := "()I" } : Jvm.MethodName) prog_111_method_43_code (1 : Nat) (Option.some Jvm.ClassFile.FieldType.int)) ∈ lw_all := lw_g (lw_at lw_m26 119 rfl) rfl
theorem q6430 : (Jvm.Cond.methodLink "BoardMachineLaw" (103 : Nat) ({ cls := "BoardMachineModel", name := "processors", desc := "()I" } : Jvm.MethodName)) ∈ lw_all := lw_g (lw_at lw_m26 120 rfl) rfl
theorem q6431 : (Jvm.Cond.instanceMethod ({ cls := "BoardMachineModel", name := "processors", desc := "()I" } : Jvm.MethodName)) ∈ lw_all := lw_g (lw_at lw_m26 121 rfl) rfl
theorem q6432 : (Jvm.Cond.selects "BoardMachineModel" ({ cls := "BoardMachineModel", name := "processors", desc := "()I" } : Jvm.MethodName) ({ cls := "BoardMachineModel", name := "processors", desc := "()I" } : Jvm.MethodName)) ∈ lw_all := lw_g (lw_at lw_m26 122 rfl) rfl
theorem q6433 : (Jvm.Cond.code ({ cls := "BoardMachineModel", name := "processors", desc := "()I" } : Jvm.MethodName) prog_111_method_44_code (1 : Nat) (Option.some Jvm.ClassFile.FieldType.int)) ∈ lw_all := lw_g (lw_at lw_m26 123 rfl) rfl
theorem q6434 : (Jvm.Cond.methodLink "BoardMachineLaw" (106 : Nat) ({ cls := "BoardMachineModel", name := "counter", desc := "(I)J" } : Jvm.MethodName)) ∈ lw_all := lw_g (lw_at lw_m26 124 rfl) rfl
theorem q6435 : (Jvm.Cond.instanceMethod ({ cls := "BoardMachineModel", name := "counter", desc := "(I)J" } : Jvm.MethodName)) ∈ lw_all := lw_g (lw_at lw_m26 125 rfl) rfl
theorem q6436 : (Jvm.Cond.selects "BoardMachineModel" ({ cls := "BoardMachineModel", name := "counter", desc := "(I)J" } : Jvm.MethodName) ({ cls := "BoardMachineModel", name := "counter", desc := "(I)J" } : Jvm.MethodName)) ∈ lw_all := lw_g (lw_at lw_m26 126 rfl) rfl
theorem q6437 : (Jvm.Cond.code ({ cls := "BoardMachineModel", name := "counter", desc := "(I)J" } : Jvm.MethodName) prog_111_method_46_code (2 : Nat) (Option.some Jvm.ClassFile.FieldType.long)) ∈ lw_all := lw_g (lw_at lw_m26 127 rfl) rfl
theorem q6438 : (Jvm.Cond.methodLink "BoardMachineModel" (522 : Nat) ({ cls := "BoardMachineModel", name := "isNone", desc := "(I)Z" } : Jvm.MethodName)) ∈ lw_all := lw_g (lw_at lw_m26 128 rfl) rfl
theorem q6439 : (Jvm.Cond.privateMethod ({ cls := "BoardMachineModel", name := "isNone", desc := "(I)Z" } : Jvm.MethodName)) ∈ lw_tbl := lw_at lw_m26 129 rfl
theorem q6440 : (Jvm.Cond.instanceMethod ({ cls := "BoardMachineModel", name := "isNone", desc := "(I)Z" } : Jvm.MethodName)) ∈ lw_all := lw_g (lw_at lw_m26 130 rfl) rfl
theorem q6441 : (Jvm.Cond.code ({ cls := "BoardMachineModel", name := "isNone", desc := "(I)Z" } : Jvm.MethodName) prog_111_method_45_code (2 : Nat) (Option.some Jvm.ClassFile.FieldType.boolean)) ∈ lw_all := lw_g (lw_at lw_m26 131 rfl) rfl
theorem q6442 : (Jvm.Cond.methodLink "BoardMachineLaw" (110 : Nat) ({ cls := "BoardMachineModel", name := "register", desc := "(II)J" } : Jvm.MethodName)) ∈ lw_all := lw_g (lw_at lw_m26 132 rfl) rfl
theorem q6443 : (Jvm.Cond.instanceMethod ({ cls := "BoardMachineModel", name := "register", desc := "(II)J" } : Jvm.MethodName)) ∈ lw_all := lw_g (lw_at lw_m26 133 rfl) rfl
theorem q6444 : (Jvm.Cond.selects "BoardMachineModel" ({ cls := "BoardMachineModel", name := "register", desc := "(II)J" } : Jvm.MethodName) ({ cls := "BoardMachineModel", name := "register", desc := "(II)J" } : Jvm.MethodName)) ∈ lw_all := lw_g (lw_at lw_m26 134 rfl) rfl
theorem q6445 : (Jvm.Cond.code ({ cls := "BoardMachineModel", name := "register", desc := "(II)J" } : Jvm.MethodName) prog_111_method_47_code (3 : Nat) (Option.some Jvm.ClassFile.FieldType.long)) ∈ lw_all := lw_g (lw_at lw_m26 135 rfl) rfl
theorem q6446 : (Jvm.Cond.methodLink "BoardMachineLaw" (113 : Nat) ({ cls := "BoardMachineModel", name := "floating", desc := "(II)J" } : Jvm.MethodName)) ∈ lw_all := lw_g (lw_at lw_m26 136 rfl) rfl
theorem q6447 : (Jvm.Cond.instanceMethod ({ cls := "BoardMachineModel", name := "floating", desc := "(II)J" } : Jvm.MethodName)) ∈ lw_all := lw_g (lw_at lw_m26 137 rfl) rfl
theorem q6448 : (Jvm.Cond.selects "BoardMachineModel" ({ cls := "BoardMachineModel", name := "floating", desc := "(II)J" } : Jvm.MethodName) ({ cls := "BoardMachineModel", name := "floating", desc := "(II)J" } : Jvm.MethodName)) ∈ lw_all := lw_g (lw_at lw_m26 138 rfl) rfl
theorem q6449 : (Jvm.Cond.code ({ cls := "BoardMachineModel", name := "floating", desc := "(II)J" } : Jvm.MethodName) prog_111_method_48_code (3 : Nat) (Option.some Jvm.ClassFile.FieldType.long)) ∈ lw_all := lw_g (lw_at lw_m26 139 rfl) rfl
theorem q6450 : (Jvm.Cond.methodLink "BoardMachineLaw" (116 : Nat) ({ cls := "BoardMachineModel", name := "control", desc := "(II)J" } : Jvm.MethodName)) ∈ lw_all := lw_g (lw_at lw_m26 140 rfl) rfl
theorem q6451 : (Jvm.Cond.instanceMethod ({ cls := "BoardMachineModel", name := "control", desc := "(II)J" } : Jvm.MethodName)) ∈ lw_all := lw_g (lw_at lw_m26 141 rfl) rfl
theorem q6452 : (Jvm.Cond.selects "BoardMachineModel" ({ cls := "BoardMachineModel", name := "control", desc := "(II)J" } : Jvm.MethodName) ({ cls := "BoardMachineModel", name := "control", desc := "(II)J" } : Jvm.MethodName)) ∈ lw_all := lw_g (lw_at lw_m26 142 rfl) rfl
theorem q6453 : (Jvm.Cond.code ({ cls := "BoardMachineModel", name := "control", desc := "(II)J" } : Jvm.MethodName) prog_111_method_49_code (3 : Nat) (Option.some Jvm.ClassFile.FieldType.long)) ∈ lw_all := lw_g (lw_at lw_m26 143 rfl) rfl
theorem q6454 : (Jvm.Cond.methodLinkNest "BoardMachineModel" (525 : Nat) ({ cls := "BoardMachineModel$Desk", name := "isElsewhere", desc := "(I)Z" } : Jvm.MethodName) "BoardMachineModel") ∈ lw_tbl := lw_at lw_m26 144 rfl
theorem q6455 : (Jvm.Cond.methodLink "BoardMachineLaw" (119 : Nat) ({ cls := "BoardMachineModel", name := "mode", desc := "(I)I" } : Jvm.MethodName)) ∈ lw_all := lw_g (lw_at lw_m26 145 rfl) rfl
theorem q6456 : (Jvm.Cond.instanceMethod ({ cls := "BoardMachineModel", name := "mode", desc := "(I)I" } : Jvm.MethodName)) ∈ lw_all := lw_g (lw_at lw_m26 146 rfl) rfl
theorem q6457 : (Jvm.Cond.selects "BoardMachineModel" ({ cls := "BoardMachineModel", name := "mode", desc := "(I)I" } : Jvm.MethodName) ({ cls := "BoardMachineModel", name := "mode", desc := "(I)I" } : Jvm.MethodName)) ∈ lw_all := lw_g (lw_at lw_m26 147 rfl) rfl
theorem q6458 : (Jvm.Cond.code ({ cls := "BoardMachineModel", name := "mode", desc := "(I)I" } : Jvm.MethodName) prog_111_method_50_code (2 : Nat) (Option.some Jvm.ClassFile.FieldType.int)) ∈ lw_all := lw_g (lw_at lw_m26 148 rfl) rfl
theorem q6459 : (Jvm.Cond.methodLink "BoardMachineLaw" (123 : Nat) ({ cls := "BoardMachineModel", name := "word", desc := "(J)J" } : Jvm.MethodName)) ∈ lw_all := lw_g (lw_at lw_m26 149 rfl) rfl
theorem q6460 : (Jvm.Cond.instanceMethod ({ cls := "BoardMachineModel", name := "word", desc := "(J)J" } : Jvm.MethodName)) ∈ lw_all := lw_g (lw_at lw_m26 150 rfl) rfl
theorem q6461 : (Jvm.Cond.selects "BoardMachineModel" ({ cls := "BoardMachineModel", name := "word", desc := "(J)J" } : Jvm.MethodName) ({ cls := "BoardMachineModel", name := "word", desc := "(J)J" } : Jvm.MethodName)) ∈ lw_all := lw_g (lw_at lw_m26 151 rfl) rfl
theorem q6462 : (Jvm.Cond.code ({ cls := "BoardMachineModel", name := "word", desc := "(J)J" } : Jvm.MethodName) prog_111_method_51_code (3 : Nat) (Option.some Jvm.ClassFile.FieldType.long)) ∈ lw_all := lw_g (lw_at lw_m26 152 rfl) rfl
theorem q6463 : (Jvm.Cond.constantLong "BoardMachineModel" (528 : Nat) (8 : Int64)) ∈ lw_all := lw_g (lw_at lw_m26 153 rfl) rfl
theorem q6464 : (Jvm.Cond.methodLink "BoardMachineLaw" (127 : Nat) ({ cls := "BoardMachineModel", name := "sum", desc := "(JJ)J" } : Jvm.MethodName)) ∈ lw_all := lw_g (lw_at lw_m26 154 rfl) rfl
theorem q6465 : (Jvm.Cond.instanceMethod ({ cls := "BoardMachineModel", name := "sum", desc := "(JJ)J" } : Jvm.MethodName)) ∈ lw_all := lw_g (lw_at lw_m26 155 rfl) rfl
theorem q6466 : (Jvm.Cond.selects "BoardMachineModel" ({ cls := "BoardMachineModel", name := "sum", desc := "(JJ)J" } : Jvm.MethodName) ({ cls := "BoardMachineModel", name := "sum", desc := "(JJ)J" } : Jvm.MethodName)) ∈ lw_all := lw_g (lw_at lw_m26 156 rfl) rfl
theorem q6467 : (Jvm.Cond.code ({ cls := "BoardMachineModel", name := "sum", desc := "(JJ)J" } : Jvm.MethodName) prog_111_method_52_code (12 : Nat) (Option.some Jvm.ClassFile.FieldType.long)) ∈ lw_all := lw_g (lw_at lw_m26 157 rfl) rfl
theorem q6468 : (Jvm.Cond.constantLong "BoardMachineModel" (530 : Nat) (31 : Int64)) ∈ lw_all := lw_g (lw_at lw_m26 158 rfl) rfl
theorem q6469 : (Jvm.Cond.methodLink "BoardMachineLaw" (130 : Nat) ({ cls := "BoardMachineModel", name := "disk", desc := "(I)I" } : Jvm.MethodName)) ∈ lw_all := lw_g (lw_at lw_m26 159 rfl) rfl
theorem q6470 : (Jvm.Cond.instanceMethod ({ cls := "BoardMachineModel", name := "disk", desc := "(I)I" } : Jvm.MethodName)) ∈ lw_all := lw_g (lw_at lw_m26 160 rfl) rfl
theorem q6471 : (Jvm.Cond.selects "BoardMachineModel" ({ cls := "BoardMachineModel", name := "disk", desc := "(I)I" } : Jvm.MethodName) ({ cls := "BoardMachineModel", name := "disk", desc := "(I)I" } : Jvm.MethodName)) ∈ lw_all := lw_g (lw_at lw_m26 161 rfl) rfl
theorem q6472 : (Jvm.Cond.code ({ cls := "BoardMachineModel", name := "disk", desc := "(I)I" } : Jvm.MethodName) prog_111_method_53_code (3 : Nat) (Option.some Jvm.ClassFile.FieldType.int)) ∈ lw_all := lw_g (lw_at lw_m26 162 rfl) rfl
theorem q6473 : (Jvm.Cond.methodLink "BoardMachineModel" (532 : Nat) ({ cls := "BoardMachineModel$Block", name := "disk", desc := "(I)I" } : Jvm.MethodName)) ∈ lw_all := lw_g (lw_at lw_m26 163 rfl) rfl
theorem q6474 : (Jvm.Cond.instanceMethod ({ cls := "BoardMachineModel$Block", name := "disk", desc := "(I)I" } : Jvm.MethodName)) ∈ lw_all := lw_g (lw_at lw_m26 164 rfl) rfl
theorem q6475 : (Jvm.Cond.selects "BoardMachineModel$Block" ({ cls := "BoardMachineModel$Block", name := "disk", desc := "(I)I" } : Jvm.MethodName) ({ cls := "BoardMachineModel$Block", name := "disk", desc := "(I)I" } : Jvm.MethodName)) ∈ lw_all := lw_g (lw_at lw_m26 165 rfl) rfl
theorem q6476 : (Jvm.Cond.code ({ cls := "BoardMachineModel$Block", name := "disk", desc := "(I)I" } : Jvm.MethodName) prog_112_method_9_code (2 : Nat) (Option.some Jvm.ClassFile.FieldType.int)) ∈ lw_all := lw_g (lw_at lw_m26 166 rfl) rfl
theorem q6477 : (Jvm.Cond.methodLink "BoardMachineModel" (535 : Nat) ({ cls := "BoardMachineModel$Block", name := "thrown", desc := "()I" } : Jvm.MethodName)) ∈ lw_all := lw_g (lw_at lw_m26 167 rfl) rfl
theorem q6478 : (Jvm.Cond.instanceMethod ({ cls := "BoardMachineModel$Block", name := "thrown", desc := "()I" } : Jvm.MethodName)) ∈ lw_all := lw_g (lw_at lw_m26 168 rfl) rfl
theorem q6479 : (Jvm.Cond.selects "BoardMachineModel$Block" ({ cls := "BoardMachineModel$Block", name := "thrown", desc := "()I" } : Jvm.MethodName) ({ cls := "BoardMachineModel$Block", name := "thrown", desc := "()I" } : Jvm.MethodName)) ∈ lw_all := lw_g (lw_at lw_m26 169 rfl) rfl
theorem q6480 : (Jvm.Cond.code ({ cls := "BoardMachineModel$Block", name := "thrown", desc := "()I" } : Jvm.MethodName) prog_112_method_2_code (1 : Nat) (Option.some Jvm.ClassFile.FieldType.int)) ∈ lw_all := lw_g (lw_at lw_m26 170 rfl) rfl
theorem q6481 : (Jvm.Cond.methodLink "BoardMachineLaw" (135 : Nat) ({ cls := "BoardMachineModel", name := "sent", desc := "()J" } : Jvm.MethodName)) ∈ lw_all := lw_g (lw_at lw_m26 171 rfl) rfl
theorem q6482 : (Jvm.Cond.instanceMethod ({ cls := "BoardMachineModel", name := "sent", desc := "()J" } : Jvm.MethodName)) ∈ lw_all := lw_g (lw_at lw_m26 172 rfl) rfl
theorem q6483 : (Jvm.Cond.selects "BoardMachineModel" ({ cls := "BoardMachineModel", name := "sent", desc := "()J" } : Jvm.MethodName) ({ cls := "BoardMachineModel", name := "sent", desc := "()J" } : Jvm.MethodName)) ∈ lw_all := lw_g (lw_at lw_m26 173 rfl) rfl
theorem q6484 : (Jvm.Cond.code ({ cls := "BoardMachineModel", name := "sent", desc := "()J" } : Jvm.MethodName) prog_111_method_54_code (1 : Nat) (Option.some Jvm.ClassFile.FieldType.long)) ∈ lw_all := lw_g (lw_at lw_m26 174 rfl) rfl
theorem q6485 : (Jvm.Cond.methodLink "BoardMachineModel" (537 : Nat) ({ cls := "BoardMachineModel$Signals", name := "sent", desc := "()J" } : Jvm.MethodName)) ∈ lw_all := lw_g (lw_at lw_m26 175 rfl) rfl
theorem q6486 : (Jvm.Cond.instanceMethod ({ cls := "BoardMachineModel$Signals", name := "sent", desc := "()J" } : Jvm.MethodName)) ∈ lw_all := lw_g (lw_at lw_m26 176 rfl) rfl
theorem q6487 : (Jvm.Cond.selects "BoardMachineModel$Signals" ({ cls := "BoardMachineModel$Signals", name := "sent", desc := "()J" } : Jvm.MethodName) ({ cls := "BoardMachineModel$Signals", name := "sent", desc := "()J" } : Jvm.MethodName)) ∈ lw_all := lw_g (lw_at lw_m26 177 rfl) rfl
theorem q6488 : (Jvm.Cond.code ({ cls := "BoardMachineModel$Signals", name := "sent", desc := "()J" } : Jvm.MethodName) prog_118_method_39_code (1 : Nat) (Option.some Jvm.ClassFile.FieldType.long)) ∈ lw_all := lw_g (lw_at lw_m26 178 rfl) rfl
theorem q6489 : (Jvm.Cond.methodLink "BoardMachineLaw" (140 : Nat) ({ cls := "BoardMachineModel", name := "out", desc := "(J)I" } : Jvm.MethodName)) ∈ lw_all := lw_g (lw_at lw_m26 179 rfl) rfl
theorem q6490 : (Jvm.Cond.instanceMethod ({ cls := "BoardMachineModel", name := "out", desc := "(J)I" } : Jvm.MethodName)) ∈ lw_all := lw_g (lw_at lw_m26 180 rfl) rfl
theorem q6491 : (Jvm.Cond.selects "BoardMachineModel" ({ cls := "BoardMachineModel", name := "out", desc := "(J)I" } : Jvm.MethodName) ({ cls := "BoardMachineModel", name := "out", desc := "(J)I" } : Jvm.MethodName)) ∈ lw_all := lw_g (lw_at lw_m26 181 rfl) rfl
theorem q6492 : (Jvm.Cond.code ({ cls := "BoardMachineModel", name := "out", desc := "(J)I" } : Jvm.MethodName) prog_111_method_55_code (3 : Nat) (Option.some Jvm.ClassFile.FieldType.int)) ∈ lw_all := lw_g (lw_at lw_m26 182 rfl) rfl
theorem q6493 : (Jvm.Cond.methodLink "BoardMachineModel" (540 : Nat) ({ cls := "BoardMachineModel$Signals", name := "out", desc := "(J)I" } : Jvm.MethodName)) ∈ lw_all := lw_g (lw_at lw_m26 183 rfl) rfl
theorem q6494 : (Jvm.Cond.instanceMethod ({ cls := "BoardMachineModel$Signals", name := "out", desc := "(J)I" } : Jvm.MethodName)) ∈ lw_all := lw_g (lw_at lw_m26 184 rfl) rfl
theorem q6495 : (Jvm.Cond.selects "BoardMachineModel$Signals" ({ cls := "BoardMachineModel$Signals", name := "out", desc := "(J)I" } : Jvm.MethodName) ({ cls := "BoardMachineModel$Signals", name := "out", desc := "(J)I" } : Jvm.MethodName)) ∈ lw_all := lw_g (lw_at lw_m26 185 rfl) rfl
theorem q6496 : (Jvm.Cond.code ({ cls := "BoardMachineModel$Signals", name := "out", desc := "(J)I" } : Jvm.MethodName) prog_118_method_40_code (3 : Nat) (Option.some Jvm.ClassFile.FieldType.int)) ∈ lw_all := lw_g (lw_at lw_m26 186 rfl) rfl
theorem q6497 : (Jvm.Cond.methodLink "BoardMachineLaw" (144 : Nat) ({ cls := "BoardMachineModel", name := "waiting", desc := "()I" } : Jvm.MethodName)) ∈ lw_all := lw_g (lw_at lw_m26 187 rfl) rfl
theorem q6498 : (Jvm.Cond.instanceMethod ({ cls := "BoardMachineModel", name := "waiting", desc := "()I" } : Jvm.MethodName)) ∈ lw_all := lw_g (lw_at lw_m26 188 rfl) rfl
theorem q6499 : (Jvm.Cond.selects "BoardMachineModel" ({ cls := "BoardMachineModel", name := "waiting", desc := "()I" } : Jvm.MethodName) ({ cls := "BoardMachineModel", name := "waiting", desc := "()I" } : Jvm.MethodName)) ∈ lw_all := lw_g (lw_at lw_m26 189 rfl) rfl
theorem q6500 : (Jvm.Cond.code ({ cls := "BoardMachineModel", name := "waiting", desc := "()I" } : Jvm.MethodName) prog_111_method_56_code (1 : Nat) (Option.some Jvm.ClassFile.FieldType.int)) ∈ lw_all := lw_g (lw_at lw_m26 190 rfl) rfl
theorem q6501 : (Jvm.Cond.methodLink "BoardMachineLaw" (148 : Nat) ({ cls := "BoardMachineModel", name := "changed", desc := "()I" } : Jvm.MethodName)) ∈ lw_all := lw_g (lw_at lw_m26 191 rfl) rfl
theorem q6502 : (Jvm.Cond.instanceMethod ({ cls := "BoardMachineModel", name := "changed", desc := "()I" } : Jvm.MethodName)) ∈ lw_all := lw_g (lw_at lw_m26 192 rfl) rfl
theorem q6503 : (Jvm.Cond.selects "BoardMachineModel" ({ cls := "BoardMachineModel", name := "changed", desc := "()I" } : Jvm.MethodName) ({ cls := "BoardMachineModel", name := "changed", desc := "()I" } : Jvm.MethodName)) ∈ lw_all := lw_g (lw_at lw_m26 193 rfl) rfl
theorem q6504 : (Jvm.Cond.code ({ cls := "BoardMachineModel", name := "changed", desc := "()I" } : Jvm.MethodName) prog_111_method_57_code (1 : Nat) (Option.some Jvm.ClassFile.FieldType.int)) ∈ lw_all := lw_g (lw_at lw_m26 194 rfl) rfl
theorem q6505 : (Jvm.Cond.methodLink "BoardMachineModel" (543 : Nat) ({ cls := "BoardMachineModel$Block", name := "changed", desc := "()I" } : Jvm.MethodName)) ∈ lw_all := lw_g (lw_at lw_m26 195 rfl) rfl
theorem q6506 : (Jvm.Cond.instanceMethod ({ cls := "BoardMachineModel$Block", name := "changed", desc := "()I" } : Jvm.MethodName)) ∈ lw_all := lw_g (lw_at lw_m26 196 rfl) rfl
theorem q6507 : (Jvm.Cond.selects "BoardMachineModel$Block" ({ cls := "BoardMachineModel$Block", name := "changed", desc := "()I" } : Jvm.MethodName) ({ cls := "BoardMachineModel$Block", name := "changed", desc := "()I" } : Jvm.MethodName)) ∈ lw_all := lw_g (lw_at lw_m26 197 rfl) rfl
theorem q6508 : (Jvm.Cond.code ({ cls := "BoardMachineModel$Block", name := "changed", desc := "()I" } : Jvm.MethodName) prog_112_method_18_code (1 : Nat) (Option.some Jvm.ClassFile.FieldType.int)) ∈ lw_all := lw_g (lw_at lw_m26 198 rfl) rfl
theorem q6509 : (Jvm.Cond.methodLink "BoardMachineLaw" (152 : Nat) ({ cls := "BoardMachineModel", name := "time", desc := "()J" } : Jvm.MethodName)) ∈ lw_all := lw_g (lw_at lw_m26 199 rfl) rfl
theorem q6510 : (Jvm.Cond.instanceMethod ({ cls := "BoardMachineModel", name := "time", desc := "()J" } : Jvm.MethodName)) ∈ lw_all := lw_g (lw_at lw_m26 200 rfl) rfl
theorem q6511 : (Jvm.Cond.selects "BoardMachineModel" ({ cls := "BoardMachineModel", name := "time", desc := "()J" } : Jvm.MethodName) ({ cls := "BoardMachineModel", name := "time", desc := "()J" } : Jvm.MethodName)) ∈ lw_all := lw_g (lw_at lw_m26 201 rfl) rfl
theorem q6512 : (Jvm.Cond.code ({ cls := "BoardMachineModel", name := "time", desc := "()J" } : Jvm.MethodName) prog_111_method_58_code (1 : Nat) (Option.some Jvm.ClassFile.FieldType.long)) ∈ lw_all := lw_g (lw_at lw_m26 202 rfl) rfl
theorem q6513 : (Jvm.Cond.methodLink "BoardMachineLaw" (156 : Nat) ({ cls := "BoardMachineModel", name := "breaches", desc := "()J" } : Jvm.MethodName)) ∈ lw_all := lw_g (lw_at lw_m26 203 rfl) rfl
theorem q6514 : (Jvm.Cond.instanceMethod ({ cls := "BoardMachineModel", name := "breaches", desc := "()J" } : Jvm.MethodName)) ∈ lw_all := lw_g (lw_at lw_m26 204 rfl) rfl
theorem q6515 : (Jvm.Cond.selects "BoardMachineModel" ({ cls := "BoardMachineModel", name := "breaches", desc := "()J" } : Jvm.MethodName) ({ cls := "BoardMachineModel", name := "breaches", desc := "()J" } : Jvm.MethodName)) ∈ lw_all := lw_g (lw_at lw_m26 205 rfl) rfl
theorem q6516 : (Jvm.Cond.code ({ cls := "BoardMachineModel", name := "breaches", desc := "()J" } : Jvm.MethodName) prog_111_method_59_code (1 : Nat) (Option.some Jvm.ClassFile.FieldType.long)) ∈ lw_all := lw_g (lw_at lw_m26 206 rfl) rfl
theorem q6517 : (Jvm.Cond.constantLong "BoardMachineLaw" (82 : Nat) (4294967295 : Int64)) ∈ lw_all := lw_g (lw_at lw_m26 207 rfl) rfl
theorem q6518 : (Jvm.Cond.sameMethod "java/lang/Throwable" "java/lang/Throwable" "fillInStackTrace" "(I)Ljava/lang/Throwable;") ∈ lw_all := lw_g (lw_at lw_m26 208 rfl) rfl
theorem q6519 : (Jvm.Cond.castable "java/lang/ArrayIndexOutOfBoundsException" "java/lang/IndexOutOfBoundsException") ∈ lw_tbl := lw_at lw_m26 209 rfl
theorem q6520 : (Jvm.Cond.castable "BoardMachine$Controls$Masked" "BoardMachine$Controls$Masked") ∈ lw_tbl := lw_at lw_m26 210 rfl
theorem q6521 : (Jvm.Cond.castable "BoardMachine$Controls$Pending" "BoardMachine$Controls$Masked") ∈ lw_tbl := lw_at lw_m26 211 rfl
theorem q6522 : (Jvm.Cond.castable "BoardMachine$Controls$Status" "BoardMachine$Controls$Masked") ∈ lw_tbl := lw_at lw_m26 212 rfl
theorem q6523 : (Jvm.Cond.castable "BoardMachine$Controls$TableRegister" "BoardMachine$Controls$Masked") ∈ lw_tbl := lw_at lw_m26 213 rfl
theorem q6524 : (Jvm.Cond.castable "BoardMachine$Memories$Bits" "BoardMachine$Memories$Change") ∈ lw_tbl := lw_at lw_m26 214 rfl
theorem q6525 : (Jvm.Cond.castable "BoardMachine$Memories$Extreme" "BoardMachine$Memories$Change") ∈ lw_tbl := lw_at lw_m26 215 rfl
theorem q6526 : (Jvm.Cond.castable "BoardMachine$Memories$Sum" "BoardMachine$Memories$Change") ∈ lw_tbl := lw_at lw_m26 216 rfl
theorem q6527 : (Jvm.Cond.castable "BoardMachine$Memories$Swap" "BoardMachine$Memories$Change") ∈ lw_tbl := lw_at lw_m26 217 rfl
theorem q6528 : (Jvm.Cond.castable "BoardMachine$Disks$Flushing" "BoardMachine$Disks$Kind") ∈ lw_tbl := lw_at lw_m26 218 rfl
theorem q6529 : (Jvm.Cond.castable "BoardMachine$Disks$Naming" "BoardMachine$Disks$Kind") ∈ lw_tbl := lw_at lw_m26 219 rfl
theorem q6530 : (Jvm.Cond.castable "BoardMachine$Disks$Reading" "BoardMachine$Disks$Kind") ∈ lw_tbl := lw_at lw_m26 220 rfl
theorem q6531 : (Jvm.Cond.castable "BoardMachine$Disks$Writing" "BoardMachine$Disks$Kind") ∈ lw_tbl := lw_at lw_m26 221 rfl
theorem q6532 : (Jvm.Cond.castable "BoardMachine$Halves$Access" "BoardMachine$Halves$Line") ∈ lw_tbl := lw_at lw_m26 222 rfl
theorem q6533 : (Jvm.Cond.castable "BoardMachine$Halves$Branch" "BoardMachine$Halves$Line") ∈ lw_tbl := lw_at lw_m26 223 rfl
theorem q6534 : (Jvm.Cond.castable "BoardMachine$Halves$Immediate" "BoardMachine$Halves$Line") ∈ lw_tbl := lw_at lw_m26 224 rfl
theorem q6535 : (Jvm.Cond.castable "BoardMachine$Halves$Jump" "BoardMachine$Halves$Line") ∈ lw_tbl := lw_at lw_m26 225 rfl
theorem q6536 : (Jvm.Cond.castable "BoardMachine$Halves$Reckoning" "BoardMachine$Halves$Line") ∈ lw_tbl := lw_at lw_m26 226 rfl
theorem q6537 : (Jvm.Cond.castable "BoardMachine$Halves$StackAccess" "BoardMachine$Halves$Line") ∈ lw_tbl := lw_at lw_m26 227 rfl
theorem q6538 : (Jvm.Cond.castable "BoardMachine$Halves$StackOrUpper" "BoardMachine$Halves$Line") ∈ lw_tbl := lw_at lw_m26 228 rfl
theorem q6539 : (Jvm.Cond.castable "BoardMachine$Halves$StackPlace" "BoardMachine$Halves$Line") ∈ lw_tbl := lw_at lw_m26 229 rfl
theorem q6540 : (Jvm.Cond.castable "BoardMachine$Halves$Whole" "BoardMachine$Halves$Line") ∈ lw_tbl := lw_at lw_m26 230 rfl
theorem q6541 : (Jvm.Cond.castable "BoardMachine$Floats$Product" "BoardMachine$Floats$Operation") ∈ lw_tbl := lw_at lw_m26 231 rfl
theorem q6542 : (Jvm.Cond.castable "BoardMachine$Floats$Quotient" "BoardMachine$Floats$Operation") ∈ lw_tbl := lw_at lw_m26 232 rfl
theorem q6543 : (Jvm.Cond.castable "BoardMachine$Floats$Root" "BoardMachine$Floats$Operation") ∈ lw_tbl := lw_at lw_m26 233 rfl
theorem q6544 : (Jvm.Cond.castable "BoardMachine$Floats$Same" "BoardMachine$Floats$Operation") ∈ lw_tbl := lw_at lw_m26 234 rfl
theorem q6545 : (Jvm.Cond.castable "BoardMachine$Floats$Sum" "BoardMachine$Floats$Operation") ∈ lw_tbl := lw_at lw_m26 235 rfl
theorem q6546 : (Jvm.Cond.castable "BoardMachine$Controls$Constant" "BoardMachine$Controls$Register") ∈ lw_tbl := lw_at lw_m26 236 rfl
theorem q6547 : (Jvm.Cond.castable "BoardMachine$Controls$Masked" "BoardMachine$Controls$Register") ∈ lw_tbl := lw_at lw_m26 237 rfl
theorem q6548 : (Jvm.Cond.castable "BoardMachine$Controls$Pending" "BoardMachine$Controls$Register") ∈ lw_tbl := lw_at lw_m26 238 rfl
theorem q6549 : (Jvm.Cond.castable "BoardMachine$Controls$Shadow" "BoardMachine$Controls$Register") ∈ lw_tbl := lw_at lw_m26 239 rfl
theorem q6550 : (Jvm.Cond.castable "BoardMachine$Controls$Status" "BoardMachine$Controls$Register") ∈ lw_tbl := lw_at lw_m27 0 rfl
theorem q6551 : (Jvm.Cond.castable "BoardMachine$Controls$TableRegister" "BoardMachine$Controls$Register") ∈ lw_tbl := lw_at lw_m27 1 rfl
theorem q6552 : (Jvm.Cond.castable "BoardMachine$Controls$Window" "BoardMachine$Controls$Register") ∈ lw_tbl := lw_at lw_m27 2 rfl
theorem q6553 : (Jvm.Cond.fieldLink "java/lang/String" (9 : Nat) "java/lang/String" "value" "[B") ∈ lw_all := lw_g (lw_at lw_m27 3 rfl) rfl
theorem q6554 : (Jvm.Cond.fieldLink "java/lang/String" (15 : Nat) "java/lang/String" "coder" "B") ∈ lw_all := lw_g (lw_at lw_m27 4 rfl) rfl
theorem q6555 : (Jvm.Cond.fieldLinkNest "BoardMachine$Describer" (148 : Nat) "BoardMachine$Window" "from" "J" "BoardMachine") ∈ lw_tbl := lw_at lw_m27 5 rfl
theorem q6556 : (Jvm.Cond.fieldLinkNest "BoardMachine$Describer" (154 : Nat) "BoardMachine$Window" "size" "J" "BoardMachine") ∈ lw_tbl := lw_at lw_m27 6 rfl
theorem q6557 : (Jvm.Cond.fieldLink "java/lang/Enum" (7 : Nat) "java/lang/Enum" "ordinal" "I") ∈ lw_all := lw_g (lw_at lw_m27 7 rfl) rfl
theorem q6558 : (Jvm.Cond.fieldLink "BoardMachine$Window" (38 : Nat) "BoardMachine$Window" "from" "J") ∈ lw_all := lw_g (lw_at lw_m27 8 rfl) rfl
theorem q6559 : (Jvm.Cond.fieldLink "BoardMachine$Window" (42 : Nat) "BoardMachine$Window" "size" "J") ∈ lw_all := lw_g (lw_at lw_m27 9 rfl) rfl
theorem q6560 : (Jvm.Cond.fieldLinkNest "BoardMachine$Board" (63 : Nat) "BoardMachine$Window" "from" "J" "BoardMachine") ∈ lw_tbl := lw_at lw_m27 10 rfl
theorem q6561 : (Jvm.Cond.fieldLink "BoardMachine$Floats$Whole" (37 : Nat) "BoardMachine$Floats$Whole" "bits" "I") ∈ lw_all := lw_g (lw_at lw_m27 11 rfl) rfl
theorem q6562 : (Jvm.Cond.fieldLink "BoardMachine$Floats$Whole" (41 : Nat) "BoardMachine$Floats$Whole" "signs" "Z") ∈ lw_all := lw_g (lw_at lw_m27 12 rfl) rfl
theorem q6563 : (Jvm.Cond.laysStatic "BoardMachine$Floats$Mode" "SHORT" "LBoardMachine$Floats$Mode;") ∈ lw_tbl := lw_at lw_m27 13 rfl
theorem q6564 : (Jvm.Cond.laysStatic "BoardMachine$Floats$Whole" "INT" "LBoardMachine$Floats$Whole;") ∈ lw_tbl := lw_at lw_m27 14 rfl
theorem q6565 : (Jvm.Cond.laysStatic "BoardMachine$Floats$Whole" "UNSIGNED_INT" "LBoardMachine$Floats$Whole;") ∈ lw_tbl := lw_at lw_m27 15 rfl
theorem q6566 : (Jvm.Cond.laysStatic "BoardMachine$Floats$Whole" "LONG" "LBoardMachine$Floats$Whole;") ∈ lw_tbl := lw_at lw_m27 16 rfl
theorem q6567 : (Jvm.Cond.laysStatic "BoardMachine$Floats$Whole" "UNSIGNED_LONG" "LBoardMachine$Floats$Whole;") ∈ lw_tbl := lw_at lw_m27 17 rfl
