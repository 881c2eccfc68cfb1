/-! words of the tables by their places, out of the printed names -/
set_option maxRecDepth 100000
theorem q310 : (Jvm.Cond.initialized "BoardMachineLaw") ∈ lw_all := lw_g (lw_at lw_m1 0 rfl) rfl
theorem q311 : (Jvm.Cond.initialized "BoardMachine") ∈ lw_all := lw_g (lw_at lw_m1 1 rfl) rfl
theorem q312 : (Jvm.Cond.initialized "BoardMachine$Machine") ∈ lw_all := lw_g (lw_at lw_m1 2 rfl) rfl
theorem q313 : (Jvm.Cond.initialized "BoardMachine$Trees$Row") ∈ lw_all := lw_g (lw_at lw_m1 3 rfl) rfl
theorem q314 : (Jvm.Cond.initialized "BoardMachine$Describer") ∈ lw_all := lw_g (lw_at lw_m1 4 rfl) rfl
theorem q315 : (Jvm.Cond.initialized "BoardMachine$Trees$Tree") ∈ lw_all := lw_g (lw_at lw_m1 5 rfl) rfl
theorem q316 : (Jvm.Cond.initialized "BoardMachine$Trees$Node") ∈ lw_all := lw_g (lw_at lw_m1 6 rfl) rfl
theorem q317 : (Jvm.Cond.initialized "BoardMachine$Trees$Piece") ∈ lw_all := lw_g (lw_at lw_m1 7 rfl) rfl
theorem q318 : (Jvm.Cond.initialized "BoardMachine$Trees$Property") ∈ lw_all := lw_g (lw_at lw_m1 8 rfl) rfl
theorem q319 : (Jvm.Cond.initialized "BoardMachine$Trees$Press") ∈ lw_all := lw_g (lw_at lw_m1 9 rfl) rfl
theorem q320 : (Jvm.Cond.initialized "BoardMachine$Board") ∈ lw_all := lw_g (lw_at lw_m1 10 rfl) rfl
theorem q321 : (Jvm.Cond.initialized "BoardMachine$Memories$Ram") ∈ lw_all := lw_g (lw_at lw_m1 11 rfl) rfl
theorem q322 : (Jvm.Cond.initialized "BoardMachine$Memories$Reservation") ∈ lw_all := lw_g (lw_at lw_m1 12 rfl) rfl
theorem q323 : (Jvm.Cond.initialized "BoardMachine$Memories$Change") ∈ lw_all := lw_g (lw_at lw_m1 13 rfl) rfl
theorem q324 : (Jvm.Cond.initialized "BoardMachine$Memories$Sum") ∈ lw_all := lw_g (lw_at lw_m1 14 rfl) rfl
theorem q325 : (Jvm.Cond.initialized "BoardMachine$Memories$Swap") ∈ lw_all := lw_g (lw_at lw_m1 15 rfl) rfl
theorem q326 : (Jvm.Cond.initialized "BoardMachine$Memories$Bits") ∈ lw_all := lw_g (lw_at lw_m1 16 rfl) rfl
theorem q327 : (Jvm.Cond.initialized "BoardMachine$Memories$Extreme") ∈ lw_all := lw_g (lw_at lw_m1 17 rfl) rfl
theorem q328 : (Jvm.Cond.initialized "BoardMachine$Disks$Device") ∈ lw_all := lw_g (lw_at lw_m1 18 rfl) rfl
theorem q329 : (Jvm.Cond.initialized "BoardMachine$QueueBytes") ∈ lw_all := lw_g (lw_at lw_m1 19 rfl) rfl
theorem q330 : (Jvm.Cond.initialized "BoardMachine$Disks$Queue") ∈ lw_all := lw_g (lw_at lw_m1 20 rfl) rfl
theorem q331 : (Jvm.Cond.initialized "BoardMachine$Disks$Request") ∈ lw_all := lw_g (lw_at lw_m1 21 rfl) rfl
theorem q332 : (Jvm.Cond.initialized "BoardMachine$Disks$Stretch") ∈ lw_all := lw_g (lw_at lw_m1 22 rfl) rfl
theorem q333 : (Jvm.Cond.initialized "BoardMachine$Disks$Disk") ∈ lw_all := lw_g (lw_at lw_m1 23 rfl) rfl
theorem q334 : (Jvm.Cond.initialized "BoardMachine$Disks$Kind") ∈ lw_all := lw_g (lw_at lw_m1 24 rfl) rfl
theorem q335 : (Jvm.Cond.initialized "BoardMachine$Disks$Reading") ∈ lw_all := lw_g (lw_at lw_m1 25 rfl) rfl
theorem q336 : (Jvm.Cond.initialized "BoardMachine$Disks$Writing") ∈ lw_all := lw_g (lw_at lw_m1 26 rfl) rfl
theorem q337 : (Jvm.Cond.initialized "BoardMachine$Disks$Flushing") ∈ lw_all := lw_g (lw_at lw_m1 27 rfl) rfl
theorem q338 : (Jvm.Cond.initialized "BoardMachine$Disks$Naming") ∈ lw_all := lw_g (lw_at lw_m1 28 rfl) rfl
theorem q339 : (Jvm.Cond.initialized "java/lang/Enum") ∈ lw_all := lw_g (lw_at lw_m1 29 rfl) rfl
theorem q340 : (Jvm.Cond.initialized "BoardMachine$Window") ∈ lw_all := lw_g (lw_at lw_m1 30 rfl) rfl
theorem q341 : (Jvm.Cond.initialized "BoardMachine$Signals$SignalUnit") ∈ lw_all := lw_g (lw_at lw_m1 31 rfl) rfl
theorem q342 : (Jvm.Cond.initialized "BoardMachine$Signals$Serial") ∈ lw_all := lw_g (lw_at lw_m1 32 rfl) rfl
theorem q343 : (Jvm.Cond.initialized "BoardMachine$Signals$Timer") ∈ lw_all := lw_g (lw_at lw_m1 33 rfl) rfl
theorem q344 : (Jvm.Cond.initialized "BoardMachine$Signals$Controller") ∈ lw_all := lw_g (lw_at lw_m1 34 rfl) rfl
theorem q345 : (Jvm.Cond.initialized "BoardMachine$Halves$ShortUnit") ∈ lw_all := lw_g (lw_at lw_m1 35 rfl) rfl
theorem q346 : (Jvm.Cond.initialized "BoardMachine$Halves$Layout") ∈ lw_all := lw_g (lw_at lw_m1 36 rfl) rfl
theorem q347 : (Jvm.Cond.initialized "BoardMachine$Halves$Line") ∈ lw_all := lw_g (lw_at lw_m1 37 rfl) rfl
theorem q348 : (Jvm.Cond.initialized "BoardMachine$Halves$StackPlace") ∈ lw_all := lw_g (lw_at lw_m1 38 rfl) rfl
theorem q349 : (Jvm.Cond.initialized "BoardMachine$Halves$Access") ∈ lw_all := lw_g (lw_at lw_m1 39 rfl) rfl
theorem q350 : (Jvm.Cond.initialized "BoardMachine$Halves$Immediate") ∈ lw_all := lw_g (lw_at lw_m1 40 rfl) rfl
theorem q351 : (Jvm.Cond.initialized "BoardMachine$Halves$StackOrUpper") ∈ lw_all := lw_g (lw_at lw_m1 41 rfl) rfl
theorem q352 : (Jvm.Cond.initialized "BoardMachine$Halves$Reckoning") ∈ lw_all := lw_g (lw_at lw_m1 42 rfl) rfl
theorem q353 : (Jvm.Cond.initialized "BoardMachine$Halves$Jump") ∈ lw_all := lw_g (lw_at lw_m1 43 rfl) rfl
theorem q354 : (Jvm.Cond.initialized "BoardMachine$Halves$Branch") ∈ lw_all := lw_g (lw_at lw_m1 44 rfl) rfl
theorem q355 : (Jvm.Cond.initialized "BoardMachine$Halves$StackAccess") ∈ lw_all := lw_g (lw_at lw_m1 45 rfl) rfl
theorem q356 : (Jvm.Cond.initialized "BoardMachine$Halves$Whole") ∈ lw_all := lw_g (lw_at lw_m1 46 rfl) rfl
theorem q357 : (Jvm.Cond.initialized "BoardMachine$Processor") ∈ lw_all := lw_g (lw_at lw_m1 47 rfl) rfl
theorem q358 : (Jvm.Cond.initialized "BoardMachine$Integers$IntegerUnit") ∈ lw_all := lw_g (lw_at lw_m1 48 rfl) rfl
theorem q359 : (Jvm.Cond.initialized "BoardMachine$Integers$Registers") ∈ lw_all := lw_g (lw_at lw_m1 49 rfl) rfl
theorem q360 : (Jvm.Cond.initialized "BoardMachine$Integers$Decoder") ∈ lw_all := lw_g (lw_at lw_m1 50 rfl) rfl
theorem q361 : (Jvm.Cond.initialized "BoardMachine$Integers$Action") ∈ lw_all := lw_g (lw_at lw_m1 51 rfl) rfl
theorem q362 : (Jvm.Cond.initialized "BoardMachine$Integers$Illegal") ∈ lw_all := lw_g (lw_at lw_m1 52 rfl) rfl
theorem q363 : (Jvm.Cond.initialized "BoardMachine$Integers$Fence") ∈ lw_all := lw_g (lw_at lw_m1 53 rfl) rfl
theorem q364 : (Jvm.Cond.initialized "BoardMachine$Integers$Upper") ∈ lw_all := lw_g (lw_at lw_m1 54 rfl) rfl
theorem q365 : (Jvm.Cond.initialized "BoardMachine$Integers$Jump") ∈ lw_all := lw_g (lw_at lw_m1 55 rfl) rfl
theorem q366 : (Jvm.Cond.initialized "BoardMachine$Integers$Branch") ∈ lw_all := lw_g (lw_at lw_m1 56 rfl) rfl
theorem q367 : (Jvm.Cond.initialized "BoardMachine$Integers$Compute") ∈ lw_all := lw_g (lw_at lw_m1 57 rfl) rfl
theorem q368 : (Jvm.Cond.initialized "BoardMachine$Integers$Access") ∈ lw_all := lw_g (lw_at lw_m1 58 rfl) rfl
theorem q369 : (Jvm.Cond.initialized "BoardMachine$Integers$Foreign") ∈ lw_all := lw_g (lw_at lw_m1 59 rfl) rfl
theorem q370 : (Jvm.Cond.initialized "BoardMachine$Floats$FloatUnit") ∈ lw_all := lw_g (lw_at lw_m1 60 rfl) rfl
theorem q371 : (Jvm.Cond.initialized "BoardMachine$Floats$Flags") ∈ lw_all := lw_g (lw_at lw_m1 61 rfl) rfl
theorem q372 : (Jvm.Cond.initialized "BoardMachine$Floats$Format") ∈ lw_all := lw_g (lw_at lw_m1 62 rfl) rfl
theorem q373 : (Jvm.Cond.initialized "BoardMachine$Floats$Wide") ∈ lw_all := lw_g (lw_at lw_m1 63 rfl) rfl
theorem q374 : (Jvm.Cond.initialized "BoardMachine$Floats$Mode") ∈ lw_all := lw_g (lw_at lw_m1 64 rfl) rfl
theorem q375 : (Jvm.Cond.initialized "BoardMachine$Floats$Whole") ∈ lw_all := lw_g (lw_at lw_m1 65 rfl) rfl
theorem q376 : (Jvm.Cond.initialized "BoardMachine$Floats$Operation") ∈ lw_all := lw_g (lw_at lw_m1 66 rfl) rfl
theorem q377 : (Jvm.Cond.initialized "BoardMachine$Floats$Sum") ∈ lw_all := lw_g (lw_at lw_m1 67 rfl) rfl
theorem q378 : (Jvm.Cond.initialized "BoardMachine$Floats$Product") ∈ lw_all := lw_g (lw_at lw_m1 68 rfl) rfl
theorem q379 : (Jvm.Cond.initialized "BoardMachine$Floats$Quotient") ∈ lw_all := lw_g (lw_at lw_m1 69 rfl) rfl
theorem q380 : (Jvm.Cond.initialized "BoardMachine$Floats$Root") ∈ lw_all := lw_g (lw_at lw_m1 70 rfl) rfl
theorem q381 : (Jvm.Cond.initialized "BoardMachine$Floats$Same") ∈ lw_all := lw_g (lw_at lw_m1 71 rfl) rfl
theorem q382 : (Jvm.Cond.initialized "BoardMachine$Floats$Taken") ∈ lw_all := lw_g (lw_at lw_m1 72 rfl) rfl
theorem q383 : (Jvm.Cond.initialized "BoardMachine$Floats$Sort") ∈ lw_all := lw_g (lw_at lw_m1 73 rfl) rfl
theorem q384 : (Jvm.Cond.initialized "BoardMachine$Found") ∈ lw_all := lw_g (lw_at lw_m1 74 rfl) rfl
theorem q385 : (Jvm.Cond.initialized "BoardMachine$Controls$ControlUnit") ∈ lw_all := lw_g (lw_at lw_m1 75 rfl) rfl
theorem q386 : (Jvm.Cond.initialized "BoardMachine$Controls$Register") ∈ lw_all := lw_g (lw_at lw_m1 76 rfl) rfl
theorem q387 : (Jvm.Cond.initialized "BoardMachine$Controls$Constant") ∈ lw_all := lw_g (lw_at lw_m1 77 rfl) rfl
theorem q388 : (Jvm.Cond.initialized "BoardMachine$Controls$Masked") ∈ lw_all := lw_g (lw_at lw_m1 78 rfl) rfl
theorem q389 : (Jvm.Cond.initialized "BoardMachine$Controls$Status") ∈ lw_all := lw_g (lw_at lw_m1 79 rfl) rfl
theorem q390 : (Jvm.Cond.initialized "BoardMachine$Controls$Pending") ∈ lw_all := lw_g (lw_at lw_m1 80 rfl) rfl
theorem q391 : (Jvm.Cond.initialized "BoardMachine$Controls$TrapBank") ∈ lw_all := lw_g (lw_at lw_m1 81 rfl) rfl
theorem q392 : (Jvm.Cond.initialized "BoardMachine$Controls$Window") ∈ lw_all := lw_g (lw_at lw_m1 82 rfl) rfl
theorem q393 : (Jvm.Cond.initialized "BoardMachine$Controls$TableRegister") ∈ lw_all := lw_g (lw_at lw_m1 83 rfl) rfl
theorem q394 : (Jvm.Cond.initialized "BoardMachine$Controls$Shadow") ∈ lw_all := lw_g (lw_at lw_m1 84 rfl) rfl
theorem q395 : (Jvm.Cond.initialized "BoardMachine$Walks$Translator") ∈ lw_all := lw_g (lw_at lw_m1 85 rfl) rfl
theorem q396 : (Jvm.Cond.initialized "BoardMachine$TableWords") ∈ lw_all := lw_g (lw_at lw_m1 86 rfl) rfl
theorem q397 : (Jvm.Cond.initialized "BoardMachine$Walks$Regions") ∈ lw_all := lw_g (lw_at lw_m1 87 rfl) rfl
theorem q398 : (Jvm.Cond.initialized "BoardMachine$Walks$Region") ∈ lw_all := lw_g (lw_at lw_m1 88 rfl) rfl
theorem q399 : (Jvm.Cond.initialized "BoardMachine$Walks$Kept") ∈ lw_all := lw_g (lw_at lw_m1 89 rfl) rfl
theorem q400 : (Jvm.Cond.initialized "BoardMachine$Kept") ∈ lw_all := lw_g (lw_at lw_m1 90 rfl) rfl
theorem q401 : (Jvm.Cond.initialized "BoardMachine$Loader") ∈ lw_all := lw_g (lw_at lw_m1 91 rfl) rfl
theorem q402 : (Jvm.Cond.initialized "java/lang/String") ∈ lw_all := lw_g (lw_at lw_m1 92 rfl) rfl
theorem q403 : (Jvm.Cond.initialized "java/lang/StringLatin1") ∈ lw_all := lw_g (lw_at lw_m1 93 rfl) rfl
theorem q404 : (Jvm.Cond.initialized "jdk/internal/util/Preconditions") ∈ lw_all := lw_g (lw_at lw_m1 94 rfl) rfl
theorem q405 : (Jvm.Cond.initialized "java/lang/StringUTF16") ∈ lw_all := lw_g (lw_at lw_m1 95 rfl) rfl
theorem q406 : (Jvm.Cond.initialized "java/lang/System") ∈ lw_all := lw_g (lw_at lw_m1 96 rfl) rfl
theorem q407 : (Jvm.Cond.initialized "java/lang/Math") ∈ lw_all := lw_g (lw_at lw_m1 97 rfl) rfl
theorem q408 : (Jvm.Cond.initialized "BoardMachine$Memories$Page") ∈ lw_all := lw_g (lw_at lw_m1 98 rfl) rfl
theorem q409 : (Jvm.Cond.initialized "BoardMachine$Walks$Span") ∈ lw_all := lw_g (lw_at lw_m1 99 rfl) rfl
theorem q410 : (Jvm.Cond.initialized "BoardMachineModel") ∈ lw_all := lw_g (lw_at lw_m1 100 rfl) rfl
theorem q411 : (Jvm.Cond.initialized "BoardMachineModel$Ram") ∈ lw_all := lw_g (lw_at lw_m1 101 rfl) rfl
theorem q412 : (Jvm.Cond.initialized "BoardMachineModel$Halves") ∈ lw_all := lw_g (lw_at lw_m1 102 rfl) rfl
theorem q413 : (Jvm.Cond.initialized "BoardMachineModel$Block") ∈ lw_all := lw_g (lw_at lw_m1 103 rfl) rfl
theorem q414 : (Jvm.Cond.initialized "BoardMachineModel$Signals") ∈ lw_all := lw_g (lw_at lw_m1 104 rfl) rfl
theorem q415 : (Jvm.Cond.initialized "BoardMachineModel$Tree") ∈ lw_all := lw_g (lw_at lw_m1 105 rfl) rfl
theorem q416 : (Jvm.Cond.initialized "BoardMachineModel$Core") ∈ lw_all := lw_g (lw_at lw_m1 106 rfl) rfl
theorem q417 : (Jvm.Cond.initialized "BoardMachineModel$Floats") ∈ lw_all := lw_g (lw_at lw_m1 107 rfl) rfl
theorem q418 : (Jvm.Cond.initialized "BoardMachineModel$Desk") ∈ lw_all := lw_g (lw_at lw_m1 108 rfl) rfl
theorem q419 : (Jvm.Cond.initialized "BoardMachineModel$Walk") ∈ lw_all := lw_g (lw_at lw_m1 109 rfl) rfl
theorem q420 : (Jvm.Cond.initialized "java/lang/Throwable") ∈ lw_all := lw_g (lw_at lw_m1 110 rfl) rfl
theorem q421 : (Jvm.Cond.initialized "java/lang/Exception") ∈ lw_all := lw_g (lw_at lw_m1 111 rfl) rfl
theorem q422 : (Jvm.Cond.initialized "java/lang/RuntimeException") ∈ lw_all := lw_g (lw_at lw_m1 112 rfl) rfl
theorem q423 : (Jvm.Cond.initialized "java/lang/IllegalStateException") ∈ lw_all := lw_g (lw_at lw_m1 113 rfl) rfl
theorem q424 : (Jvm.Cond.initialized "java/lang/IllegalArgumentException") ∈ lw_all := lw_g (lw_at lw_m1 114 rfl) rfl
theorem q425 : (Jvm.Cond.initialized "java/lang/IndexOutOfBoundsException") ∈ lw_all := lw_g (lw_at lw_m1 115 rfl) rfl
theorem q426 : (Jvm.Cond.initialized "java/lang/ArrayIndexOutOfBoundsException") ∈ lw_all := lw_g (lw_at lw_m1 116 rfl) rfl
theorem q427 : (Jvm.Cond.initialized "BoardMachine$Walks") ∈ lw_all := lw_g (lw_at lw_m1 117 rfl) rfl
theorem q428 : (Jvm.Cond.initialized "BoardMachine$Halves$Words") ∈ lw_all := lw_g (lw_at lw_m1 118 rfl) rfl
theorem q429 : (Jvm.Cond.initialized "BoardMachine$Integers$Decoded") ∈ lw_all := lw_g (lw_at lw_m1 119 rfl) rfl
theorem q430 : (Jvm.Cond.initialized "BoardMachine$Integers$Fields") ∈ lw_all := lw_g (lw_at lw_m1 120 rfl) rfl
theorem q431 : (Jvm.Cond.initialized "BoardMachine$Integers$Sum") ∈ lw_all := lw_g (lw_at lw_m1 121 rfl) rfl
theorem q432 : (Jvm.Cond.initialized "BoardMachine$Integers$Arithmetic") ∈ lw_all := lw_g (lw_at lw_m1 122 rfl) rfl
theorem q433 : (Jvm.Cond.initialized "BoardMachine$Disks") ∈ lw_all := lw_g (lw_at lw_m1 123 rfl) rfl
theorem q434 : (Jvm.Cond.initialized "BoardMachine$Floats") ∈ lw_all := lw_g (lw_at lw_m1 124 rfl) rfl
theorem q435 : (Jvm.Cond.classLink "BoardMachineLaw" (8 : Nat) "BoardMachine") ∈ lw_all := lw_g (lw_at lw_m1 125 rfl) rfl
theorem q436 : (Jvm.Cond.instantiable "BoardMachine" (1 : Nat)) ∈ lw_all := lw_g (lw_at lw_m1 126 rfl) rfl
theorem q437 : (Jvm.Cond.methodLink "BoardMachineLaw" (65 : Nat) ({ cls := "BoardMachine", name := "<init>", desc := "(I)V" } : Jvm.MethodName)) ∈ lw_all := lw_g (lw_at lw_m1 127 rfl) rfl
theorem q438 : (Jvm.Cond.instanceMethod ({ cls := "BoardMachine", name := "<init>", desc := "(I)V" } : Jvm.MethodName)) ∈ lw_all := lw_g (lw_at lw_m1 128 rfl) rfl
theorem q439 : (Jvm.Cond.code ({ cls := "BoardMachine", name := "<init>", desc := "(I)V" } : Jvm.MethodName) prog_1_method_1_code (2 : Nat) (Option.none : Option Jvm.ClassFile.FieldType)) ∈ lw_all := lw_g (lw_at lw_m1 129 rfl) rfl
theorem q440 : (Jvm.Cond.methodLink "BoardMachine" (3 : Nat) ({ cls := "java/lang/Object", name := "<init>", desc := "()V" } : Jvm.MethodName)) ∈ lw_all := lw_g (lw_at lw_m1 130 rfl) rfl
theorem q441 : (Jvm.Cond.instanceMethod ({ cls := "java/lang/Object", name := "<init>", desc := "()V" } : Jvm.MethodName)) ∈ lw_all := lw_g (lw_at lw_m1 131 rfl) rfl
theorem q442 : (Jvm.Cond.code ({ cls := "java/lang/Object", name := "<init>", desc := "()V" } : Jvm.MethodName) object_method_1_code (1 : Nat) (Option.none : Option Jvm.ClassFile.FieldType)) ∈ lw_all := lw_g (lw_at lw_m1 132 rfl) rfl
theorem q443 : (Jvm.Cond.classLink "BoardMachine" (9 : Nat) "BoardMachine$Machine") ∈ lw_all := lw_g (lw_at lw_m1 133 rfl) rfl
theorem q444 : (Jvm.Cond.instantiable "BoardMachine$Machine" (9 : Nat)) ∈ lw_all := lw_g (lw_at lw_m1 134 rfl) rfl
theorem q445 : (Jvm.Cond.methodLink "BoardMachine" (11 : Nat) ({ cls := "BoardMachine$Machine", name := "<init>", desc := "(I)V" } : Jvm.MethodName)) ∈ lw_all := lw_g (lw_at lw_m1 135 rfl) rfl
theorem q446 : (Jvm.Cond.instanceMethod ({ cls := "BoardMachine$Machine", name := "<init>", desc := "(I)V" } : Jvm.MethodName)) ∈ lw_all := lw_g (lw_at lw_m1 136 rfl) rfl
theorem q447 : (Jvm.Cond.code ({ cls := "BoardMachine$Machine", name := "<init>", desc := "(I)V" } : Jvm.MethodName) prog_76_method_1_code (4 : Nat) (Option.none : Option Jvm.ClassFile.FieldType)) ∈ lw_all := lw_g (lw_at lw_m1 137 rfl) rfl
theorem q448 : (Jvm.Cond.methodLink "BoardMachine$Machine" (3 : Nat) ({ cls := "java/lang/Object", name := "<init>", desc := "()V" } : Jvm.MethodName)) ∈ lw_all := lw_g (lw_at lw_m1 138 rfl) rfl
theorem q449 : (Jvm.Cond.classLink "BoardMachine$Machine" (9 : Nat) "BoardMachine$Trees$Row") ∈ lw_all := lw_g (lw_at lw_m1 139 rfl) rfl
theorem q450 : (Jvm.Cond.instantiable "BoardMachine$Trees$Row" (2 : Nat)) ∈ lw_all := lw_g (lw_at lw_m1 140 rfl) rfl
theorem q451 : (Jvm.Cond.constant "BoardMachine$Machine" (11 : Nat) (65536 : Int32)) ∈ lw_all := lw_g (lw_at lw_m1 141 rfl) rfl
theorem q452 : (Jvm.Cond.methodLink "BoardMachine$Machine" (12 : Nat) ({ cls := "BoardMachine$Trees$Row", name := "<init>", desc := "(I)V" } : Jvm.MethodName)) ∈ lw_all := lw_g (lw_at lw_m1 142 rfl) rfl
theorem q453 : (Jvm.Cond.instanceMethod ({ cls := "BoardMachine$Trees$Row", name := "<init>", desc := "(I)V" } : Jvm.MethodName)) ∈ lw_all := lw_g (lw_at lw_m1 143 rfl) rfl
theorem q454 : (Jvm.Cond.code ({ cls := "BoardMachine$Trees$Row", name := "<init>", desc := "(I)V" } : Jvm.MethodName) prog_100_method_1_code (2 : Nat) (Option.none : Option Jvm.ClassFile.FieldType)) ∈ lw_all := lw_g (lw_at lw_m1 144 rfl) rfl
theorem q455 : (Jvm.Cond.methodLink "BoardMachine$Trees$Row" (1 : Nat) ({ cls := "java/lang/Object", name := "<init>", desc := "()V" } : Jvm.MethodName)) ∈ lw_all := lw_g (lw_at lw_m1 145 rfl) rfl
theorem q456 : (Jvm.Cond.fieldLink "BoardMachine$Trees$Row" (7 : Nat) "BoardMachine$Trees$Row" "bytes" "[B") ∈ lw_all := lw_g (lw_at lw_m1 146 rfl) rfl
theorem q457 : (Jvm.Cond.fieldLinkNest "BoardMachine$Machine" (143 : Nat) "BoardMachine$Trees$Row" "bytes" "[B" "BoardMachine") ∈ lw_tbl := lw_at lw_m1 147 rfl
theorem q458 : (Jvm.Cond.fieldLinkNest "BoardMachine$Trees$Piece" (7 : Nat) "BoardMachine$Trees$Row" "size" "I" "BoardMachine") ∈ lw_tbl := lw_at lw_m1 148 rfl
theorem q459 : (Jvm.Cond.fieldLinkNest "BoardMachine$Trees$Tree" (37 : Nat) "BoardMachine$Trees$Row" "size" "I" "BoardMachine") ∈ lw_tbl := lw_at lw_m1 149 rfl
theorem q460 : (Jvm.Cond.fieldLinkNest "BoardMachine$Trees$Press" (24 : Nat) "BoardMachine$Trees$Row" "size" "I" "BoardMachine") ∈ lw_tbl := lw_at lw_m1 150 rfl
theorem q461 : (Jvm.Cond.fieldLinkNest "BoardMachine$Machine" (108 : Nat) "BoardMachine$Trees$Row" "size" "I" "BoardMachine") ∈ lw_tbl := lw_at lw_m1 151 rfl
theorem q462 : (Jvm.Cond.fieldLinkNest "BoardMachine$Describer" (47 : Nat) "BoardMachine$Trees$Row" "size" "I" "BoardMachine") ∈ lw_tbl := lw_at lw_m1 152 rfl
theorem q463 : (Jvm.Cond.fieldLink "BoardMachine$Trees$Row" (13 : Nat) "BoardMachine$Trees$Row" "size" "I") ∈ lw_all := lw_g (lw_at lw_m1 153 rfl) rfl
theorem q464 : (Jvm.Cond.fieldLinkNest "BoardMachine" (36 : Nat) "BoardMachine$Trees$Row" "size" "I" "BoardMachine") ∈ lw_tbl := lw_at lw_m1 154 rfl
theorem q465 : (Jvm.Cond.fieldLinkNest "BoardMachine$Loader" (47 : Nat) "BoardMachine$Trees$Row" "size" "I" "BoardMachine") ∈ lw_tbl := lw_at lw_m1 155 rfl
theorem q466 : (Jvm.Cond.laysFinal "BoardMachine$Trees$Row" "BoardMachine$Trees$Row" "bytes" "[B") ∈ lw_all := lw_g (lw_at lw_m1 156 rfl) rfl
theorem q467 : (Jvm.Cond.soleField "BoardMachine$Trees$Row" "bytes") ∈ lw_all := lw_g (lw_at lw_m1 157 rfl) rfl
theorem q468 : (Jvm.Cond.lays "BoardMachine$Trees$Row" "BoardMachine$Trees$Row" "size" "I") ∈ lw_all := lw_g (lw_at lw_m1 158 rfl) rfl
theorem q469 : (Jvm.Cond.soleField "BoardMachine$Trees$Row" "size") ∈ lw_all := lw_g (lw_at lw_m1 159 rfl) rfl
theorem q470 : (Jvm.Cond.superclass "BoardMachine$Trees$Row" "java/lang/Object") ∈ lw_all := lw_g (lw_at lw_m1 160 rfl) rfl
theorem q471 : (Jvm.Cond.arrayClass Jvm.ClassFile.FieldType.byte) ∈ lw_all := lw_g (lw_at lw_m1 161 rfl) rfl
theorem q472 : (Jvm.Cond.classLink "BoardMachine$Machine" (21 : Nat) "BoardMachine$Describer") ∈ lw_all := lw_g (lw_at lw_m1 162 rfl) rfl
theorem q473 : (Jvm.Cond.instantiable "BoardMachine$Describer" (3 : Nat)) ∈ lw_all := lw_g (lw_at lw_m1 163 rfl) rfl
theorem q474 : (Jvm.Cond.methodLinkNest "BoardMachine$Machine" (23 : Nat) ({ cls := "BoardMachine$Describer", name := "<init>", desc := "()V" } : Jvm.MethodName) "BoardMachine") ∈ lw_tbl := lw_at lw_m1 164 rfl
theorem q475 : (Jvm.Cond.instanceMethod ({ cls := "BoardMachine$Describer", name := "<init>", desc := "()V" } : Jvm.MethodName)) ∈ lw_all := lw_g (lw_at lw_m1 165 rfl) rfl
theorem q476 : (Jvm.Cond.code ({ cls := "BoardMachine$Describer", name := "<init>", desc := "()V" } : Jvm.MethodName) prog_14_method_1_code (1 : Nat) (Option.none : Option Jvm.ClassFile.FieldType)) ∈ lw_all := lw_g (lw_at lw_m1 166 rfl) rfl
theorem q477 : (Jvm.Cond.methodLink "BoardMachine$Describer" (3 : Nat) ({ cls := "java/lang/Object", name := "<init>", desc := "()V" } : Jvm.MethodName)) ∈ lw_all := lw_g (lw_at lw_m1 167 rfl) rfl
theorem q478 : (Jvm.Cond.classLink "BoardMachine$Describer" (9 : Nat) "BoardMachine$Trees$Row") ∈ lw_all := lw_g (lw_at lw_m1 168 rfl) rfl
theorem q479 : (Jvm.Cond.methodLink "BoardMachine$Describer" (11 : Nat) ({ cls := "BoardMachine$Trees$Row", name := "<init>", desc := "(I)V" } : Jvm.MethodName)) ∈ lw_all := lw_g (lw_at lw_m1 169 rfl) rfl
theorem q480 : (Jvm.Cond.classLink "BoardMachine$Describer" (20 : Nat) "BoardMachine$Trees$Tree") ∈ lw_all := lw_g (lw_at lw_m1 170 rfl) rfl
theorem q481 : (Jvm.Cond.instantiable "BoardMachine$Trees$Tree" (6 : Nat)) ∈ lw_all := lw_g (lw_at lw_m1 171 rfl) rfl
theorem q482 : (Jvm.Cond.methodLink "BoardMachine$Describer" (22 : Nat) ({ cls := "BoardMachine$Trees$Tree", name := "<init>", desc := "()V" } : Jvm.MethodName)) ∈ lw_all := lw_g (lw_at lw_m1 172 rfl) rfl
theorem q483 : (Jvm.Cond.instanceMethod ({ cls := "BoardMachine$Trees$Tree", name := "<init>", desc := "()V" } : Jvm.MethodName)) ∈ lw_all := lw_g (lw_at lw_m1 173 rfl) rfl
theorem q484 : (Jvm.Cond.code ({ cls := "BoardMachine$Trees$Tree", name := "<init>", desc := "()V" } : Jvm.MethodName) prog_101_method_1_code (2 : Nat) (Option.none : Option Jvm.ClassFile.FieldType)) ∈ lw_all := lw_g (lw_at lw_m1 174 rfl) rfl
theorem q485 : (Jvm.Cond.methodLink "BoardMachine$Trees$Tree" (3 : Nat) ({ cls := "java/lang/Object", name := "<init>", desc := "()V" } : Jvm.MethodName)) ∈ lw_all := lw_g (lw_at lw_m1 175 rfl) rfl
theorem q486 : (Jvm.Cond.classLink "BoardMachine$Trees$Tree" (9 : Nat) "BoardMachine$Trees$Row") ∈ lw_all := lw_g (lw_at lw_m1 176 rfl) rfl
theorem q487 : (Jvm.Cond.methodLink "BoardMachine$Trees$Tree" (11 : Nat) ({ cls := "BoardMachine$Trees$Row", name := "<init>", desc := "(I)V" } : Jvm.MethodName)) ∈ lw_all := lw_g (lw_at lw_m1 177 rfl) rfl
theorem q488 : (Jvm.Cond.classLink "BoardMachine$Trees$Tree" (20 : Nat) "BoardMachine$Trees$Node") ∈ lw_all := lw_g (lw_at lw_m1 178 rfl) rfl
theorem q489 : (Jvm.Cond.arrayOver (Jvm.ClassFile.FieldType.object "BoardMachine$Trees$Node")) ∈ lw_tbl := lw_at lw_m1 179 rfl
theorem q490 : (Jvm.Cond.classLink "BoardMachine$Trees$Tree" (26 : Nat) "BoardMachine$Trees$Property") ∈ lw_all := lw_g (lw_at lw_m1 180 rfl) rfl
theorem q491 : (Jvm.Cond.arrayOver (Jvm.ClassFile.FieldType.object "BoardMachine$Trees$Property")) ∈ lw_tbl := lw_at lw_m1 181 rfl
theorem q492 : (Jvm.Cond.instantiable "BoardMachine$Trees$Node" (6 : Nat)) ∈ lw_all := lw_g (lw_at lw_m1 182 rfl) rfl
theorem q493 : (Jvm.Cond.methodLinkNest "BoardMachine$Trees$Tree" (32 : Nat) ({ cls := "BoardMachine$Trees$Node", name := "<init>", desc := "()V" } : Jvm.MethodName) "BoardMachine") ∈ lw_tbl := lw_at lw_m1 183 rfl
theorem q494 : (Jvm.Cond.instanceMethod ({ cls := "BoardMachine$Trees$Node", name := "<init>", desc := "()V" } : Jvm.MethodName)) ∈ lw_all := lw_g (lw_at lw_m1 184 rfl) rfl
theorem q495 : (Jvm.Cond.code ({ cls := "BoardMachine$Trees$Node", name := "<init>", desc := "()V" } : Jvm.MethodName) prog_96_method_1_code (1 : Nat) (Option.none : Option Jvm.ClassFile.FieldType)) ∈ lw_all := lw_g (lw_at lw_m1 185 rfl) rfl
theorem q496 : (Jvm.Cond.methodLink "BoardMachine$Trees$Node" (1 : Nat) ({ cls := "java/lang/Object", name := "<init>", desc := "()V" } : Jvm.MethodName)) ∈ lw_all := lw_g (lw_at lw_m1 186 rfl) rfl
theorem q497 : (Jvm.Cond.classLink "BoardMachine$Trees$Node" (7 : Nat) "BoardMachine$Trees$Piece") ∈ lw_all := lw_g (lw_at lw_m1 187 rfl) rfl
theorem q498 : (Jvm.Cond.instantiable "BoardMachine$Trees$Piece" (2 : Nat)) ∈ lw_all := lw_g (lw_at lw_m1 188 rfl) rfl
theorem q499 : (Jvm.Cond.methodLinkNest "BoardMachine$Trees$Node" (9 : Nat) ({ cls := "BoardMachine$Trees$Piece", name := "<init>", desc := "()V" } : Jvm.MethodName) "BoardMachine") ∈ lw_tbl := lw_at lw_m1 189 rfl
theorem q500 : (Jvm.Cond.instanceMethod ({ cls := "BoardMachine$Trees$Piece", name := "<init>", desc := "()V" } : Jvm.MethodName)) ∈ lw_all := lw_g (lw_at lw_m1 190 rfl) rfl
theorem q501 : (Jvm.Cond.code ({ cls := "BoardMachine$Trees$Piece", name := "<init>", desc := "()V" } : Jvm.MethodName) prog_97_method_1_code (1 : Nat) (Option.none : Option Jvm.ClassFile.FieldType)) ∈ lw_all := lw_g (lw_at lw_m1 191 rfl) rfl
theorem q502 : (Jvm.Cond.methodLink "BoardMachine$Trees$Piece" (1 : Nat) ({ cls := "java/lang/Object", name := "<init>", desc := "()V" } : Jvm.MethodName)) ∈ lw_all := lw_g (lw_at lw_m1 192 rfl) rfl
theorem q503 : (Jvm.Cond.fieldLink "BoardMachine$Trees$Piece" (13 : Nat) "BoardMachine$Trees$Piece" "from" "I") ∈ lw_all := lw_g (lw_at lw_m1 193 rfl) rfl
theorem q504 : (Jvm.Cond.fieldLinkNest "BoardMachine$Trees$Press" (40 : Nat) "BoardMachine$Trees$Piece" "from" "I" "BoardMachine") ∈ lw_tbl := lw_at lw_m1 194 rfl
theorem q505 : (Jvm.Cond.fieldLink "BoardMachine$Trees$Piece" (18 : Nat) "BoardMachine$Trees$Piece" "size" "I") ∈ lw_all := lw_g (lw_at lw_m1 195 rfl) rfl
theorem q506 : (Jvm.Cond.fieldLinkNest "BoardMachine$Trees$Press" (32 : Nat) "BoardMachine$Trees$Piece" "size" "I" "BoardMachine") ∈ lw_tbl := lw_at lw_m1 196 rfl
theorem q507 : (Jvm.Cond.fieldLinkNest "BoardMachine$Trees$Tree" (70 : Nat) "BoardMachine$Trees$Piece" "size" "I" "BoardMachine") ∈ lw_tbl := lw_at lw_m1 197 rfl
theorem q508 : (Jvm.Cond.lays "BoardMachine$Trees$Piece" "BoardMachine$Trees$Piece" "from" "I") ∈ lw_all := lw_g (lw_at lw_m1 198 rfl) rfl
theorem q509 : (Jvm.Cond.soleField "BoardMachine$Trees$Piece" "from") ∈ lw_all := lw_g (lw_at lw_m1 199 rfl) rfl
theorem q510 : (Jvm.Cond.lays "BoardMachine$Trees$Piece" "BoardMachine$Trees$Piece" "size" "I") ∈ lw_all := lw_g (lw_at lw_m1 200 rfl) rfl
theorem q511 : (Jvm.Cond.soleField "BoardMachine$Trees$Piece" "size") ∈ lw_all := lw_g (lw_at lw_m1 201 rfl) rfl
theorem q512 : (Jvm.Cond.superclass "BoardMachine$Trees$Piece" "java/lang/Object") ∈ lw_all := lw_g (lw_at lw_m1 202 rfl) rfl
theorem q513 : (Jvm.Cond.fieldLink "BoardMachine$Trees$Node" (10 : Nat) "BoardMachine$Trees$Node" "name" "LBoardMachine$Trees$Piece;") ∈ lw_all := lw_g (lw_at lw_m1 203 rfl) rfl
theorem q514 : (Jvm.Cond.fieldLinkNest "BoardMachine$Trees$Press" (57 : Nat) "BoardMachine$Trees$Node" "name" "LBoardMachine$Trees$Piece;" "BoardMachine") ∈ lw_tbl := lw_at lw_m1 204 rfl
theorem q515 : (Jvm.Cond.fieldLinkNest "BoardMachine$Trees$Tree" (66 : Nat) "BoardMachine$Trees$Node" "name" "LBoardMachine$Trees$Piece;" "BoardMachine") ∈ lw_tbl := lw_at lw_m1 205 rfl
theorem q516 : (Jvm.Cond.fieldLinkNest "BoardMachine$Trees$Tree" (51 : Nat) "BoardMachine$Trees$Node" "parent" "I" "BoardMachine") ∈ lw_tbl := lw_at lw_m1 206 rfl
theorem q517 : (Jvm.Cond.fieldLinkNest "BoardMachine$Trees$Tree" (54 : Nat) "BoardMachine$Trees$Node" "depth" "I" "BoardMachine") ∈ lw_tbl := lw_at lw_m1 207 rfl
theorem q518 : (Jvm.Cond.fieldLinkNest "BoardMachine$Trees$Press" (97 : Nat) "BoardMachine$Trees$Node" "depth" "I" "BoardMachine") ∈ lw_tbl := lw_at lw_m1 208 rfl
theorem q519 : (Jvm.Cond.fieldLinkNest "BoardMachine$Trees$Tree" (57 : Nat) "BoardMachine$Trees$Node" "firstProperty" "I" "BoardMachine") ∈ lw_tbl := lw_at lw_m1 209 rfl
theorem q520 : (Jvm.Cond.fieldLinkNest "BoardMachine$Trees$Press" (66 : Nat) "BoardMachine$Trees$Node" "firstProperty" "I" "BoardMachine") ∈ lw_tbl := lw_at lw_m1 210 rfl
theorem q521 : (Jvm.Cond.fieldLinkNest "BoardMachine$Trees$Tree" (60 : Nat) "BoardMachine$Trees$Node" "properties" "I" "BoardMachine") ∈ lw_tbl := lw_at lw_m1 211 rfl
theorem q522 : (Jvm.Cond.fieldLinkNest "BoardMachine$Trees$Press" (69 : Nat) "BoardMachine$Trees$Node" "properties" "I" "BoardMachine") ∈ lw_tbl := lw_at lw_m1 212 rfl
theorem q523 : (Jvm.Cond.fieldLinkNest "BoardMachine$Trees$Tree" (62 : Nat) "BoardMachine$Trees$Node" "hasNodes" "Z" "BoardMachine") ∈ lw_tbl := lw_at lw_m1 213 rfl
theorem q524 : (Jvm.Cond.laysFinal "BoardMachine$Trees$Node" "BoardMachine$Trees$Node" "name" "LBoardMachine$Trees$Piece;") ∈ lw_all := lw_g (lw_at lw_m1 214 rfl) rfl
theorem q525 : (Jvm.Cond.soleField "BoardMachine$Trees$Node" "name") ∈ lw_all := lw_g (lw_at lw_m1 215 rfl) rfl
theorem q526 : (Jvm.Cond.lays "BoardMachine$Trees$Node" "BoardMachine$Trees$Node" "parent" "I") ∈ lw_all := lw_g (lw_at lw_m1 216 rfl) rfl
theorem q527 : (Jvm.Cond.soleField "BoardMachine$Trees$Node" "parent") ∈ lw_all := lw_g (lw_at lw_m1 217 rfl) rfl
theorem q528 : (Jvm.Cond.lays "BoardMachine$Trees$Node" "BoardMachine$Trees$Node" "depth" "I") ∈ lw_all := lw_g (lw_at lw_m1 218 rfl) rfl
theorem q529 : (Jvm.Cond.soleField "BoardMachine$Trees$Node" "depth") ∈ lw_all := lw_g (lw_at lw_m1 219 rfl) rfl
theorem q530 : (Jvm.Cond.lays "BoardMachine$Trees$Node" "BoardMachine$Trees$Node" "firstProperty" "I") ∈ lw_all := lw_g (lw_at lw_m1 220 rfl) rfl
theorem q531 : (Jvm.Cond.soleField "BoardMachine$Trees$Node" "firstProperty") ∈ lw_all := lw_g (lw_at lw_m1 221 rfl) rfl
theorem q532 : (Jvm.Cond.lays "BoardMachine$Trees$Node" "BoardMachine$Trees$Node" "properties" "I") ∈ lw_all := lw_g (lw_at lw_m1 222 rfl) rfl
theorem q533 : (Jvm.Cond.soleField "BoardMachine$Trees$Node" "properties") ∈ lw_all := lw_g (lw_at lw_m1 223 rfl) rfl
theorem q534 : (Jvm.Cond.lays "BoardMachine$Trees$Node" "BoardMachine$Trees$Node" "hasNodes" "Z") ∈ lw_all := lw_g (lw_at lw_m1 224 rfl) rfl
theorem q535 : (Jvm.Cond.soleField "BoardMachine$Trees$Node" "hasNodes") ∈ lw_all := lw_g (lw_at lw_m1 225 rfl) rfl
theorem q536 : (Jvm.Cond.superclass "BoardMachine$Trees$Node" "java/lang/Object") ∈ lw_all := lw_g (lw_at lw_m1 226 rfl) rfl
theorem q537 : (Jvm.Cond.instantiable "BoardMachine$Trees$Property" (3 : Nat)) ∈ lw_all := lw_g (lw_at lw_m1 227 rfl) rfl
theorem q538 : (Jvm.Cond.methodLinkNest "BoardMachine$Trees$Tree" (33 : Nat) ({ cls := "BoardMachine$Trees$Property", name := "<init>", desc := "()V" } : Jvm.MethodName) "BoardMachine") ∈ lw_tbl := lw_at lw_m1 228 rfl
theorem q539 : (Jvm.Cond.instanceMethod ({ cls := "BoardMachine$Trees$Property", name := "<init>", desc := "()V" } : Jvm.MethodName)) ∈ lw_all := lw_g (lw_at lw_m1 229 rfl) rfl
theorem q540 : (Jvm.Cond.code ({ cls := "BoardMachine$Trees$Property", name := "<init>", desc := "()V" } : Jvm.MethodName) prog_99_method_1_code (1 : Nat) (Option.none : Option Jvm.ClassFile.FieldType)) ∈ lw_all := lw_g (lw_at lw_m1 230 rfl) rfl
theorem q541 : (Jvm.Cond.methodLink "BoardMachine$Trees$Property" (1 : Nat) ({ cls := "java/lang/Object", name := "<init>", desc := "()V" } : Jvm.MethodName)) ∈ lw_all := lw_g (lw_at lw_m1 231 rfl) rfl
theorem q542 : (Jvm.Cond.classLink "BoardMachine$Trees$Property" (7 : Nat) "BoardMachine$Trees$Piece") ∈ lw_all := lw_g (lw_at lw_m1 232 rfl) rfl
theorem q543 : (Jvm.Cond.methodLinkNest "BoardMachine$Trees$Property" (9 : Nat) ({ cls := "BoardMachine$Trees$Piece", name := "<init>", desc := "()V" } : Jvm.MethodName) "BoardMachine") ∈ lw_tbl := lw_at lw_m1 233 rfl
theorem q544 : (Jvm.Cond.fieldLink "BoardMachine$Trees$Property" (10 : Nat) "BoardMachine$Trees$Property" "name" "LBoardMachine$Trees$Piece;") ∈ lw_all := lw_g (lw_at lw_m1 234 rfl) rfl
theorem q545 : (Jvm.Cond.fieldLinkNest "BoardMachine$Trees$Press" (80 : Nat) "BoardMachine$Trees$Property" "name" "LBoardMachine$Trees$Piece;" "BoardMachine") ∈ lw_tbl := lw_at lw_m1 235 rfl
theorem q546 : (Jvm.Cond.fieldLinkNest "BoardMachine$Trees$Tree" (83 : Nat) "BoardMachine$Trees$Property" "name" "LBoardMachine$Trees$Piece;" "BoardMachine") ∈ lw_tbl := lw_at lw_m1 236 rfl
theorem q547 : (Jvm.Cond.fieldLink "BoardMachine$Trees$Property" (16 : Nat) "BoardMachine$Trees$Property" "value" "LBoardMachine$Trees$Piece;") ∈ lw_all := lw_g (lw_at lw_m1 237 rfl) rfl
theorem q548 : (Jvm.Cond.fieldLinkNest "BoardMachine$Trees$Press" (75 : Nat) "BoardMachine$Trees$Property" "value" "LBoardMachine$Trees$Piece;" "BoardMachine") ∈ lw_tbl := lw_at lw_m1 238 rfl
theorem q549 : (Jvm.Cond.fieldLinkNest "BoardMachine$Describer" (63 : Nat) "BoardMachine$Trees$Property" "value" "LBoardMachine$Trees$Piece;" "BoardMachine") ∈ lw_tbl := lw_at lw_m1 239 rfl
theorem q550 : (Jvm.Cond.fieldLinkNest "BoardMachine$Trees$Tree" (80 : Nat) "BoardMachine$Trees$Property" "node" "I" "BoardMachine") ∈ lw_tbl := lw_at lw_m2 0 rfl
theorem q551 : (Jvm.Cond.laysFinal "BoardMachine$Trees$Property" "BoardMachine$Trees$Property" "name" "LBoardMachine$Trees$Piece;") ∈ lw_all := lw_g (lw_at lw_m2 1 rfl) rfl
theorem q552 : (Jvm.Cond.soleField "BoardMachine$Trees$Property" "name") ∈ lw_all := lw_g (lw_at lw_m2 2 rfl) rfl
theorem q553 : (Jvm.Cond.laysFinal "BoardMachine$Trees$Property" "BoardMachine$Trees$Property" "value" "LBoardMachine$Trees$Piece;") ∈ lw_all := lw_g (lw_at lw_m2 3 rfl) rfl
theorem q554 : (Jvm.Cond.soleField "BoardMachine$Trees$Property" "value") ∈ lw_all := lw_g (lw_at lw_m2 4 rfl) rfl
theorem q555 : (Jvm.Cond.lays "BoardMachine$Trees$Property" "BoardMachine$Trees$Property" "node" "I") ∈ lw_all := lw_g (lw_at lw_m2 5 rfl) rfl
theorem q556 : (Jvm.Cond.soleField "BoardMachine$Trees$Property" "node") ∈ lw_all := lw_g (lw_at lw_m2 6 rfl) rfl
theorem q557 : (Jvm.Cond.superclass "BoardMachine$Trees$Property" "java/lang/Object") ∈ lw_all := lw_g (lw_at lw_m2 7 rfl) rfl
theorem q558 : (Jvm.Cond.methodLink "BoardMachine$Trees$Tree" (34 : Nat) ({ cls := "BoardMachine$Trees$Tree", name := "clear", desc := "()V" } : Jvm.MethodName)) ∈ lw_all := lw_g (lw_at lw_m2 8 rfl) rfl
theorem q559 : (Jvm.Cond.instanceMethod ({ cls := "BoardMachine$Trees$Tree", name := "clear", desc := "()V" } : Jvm.MethodName)) ∈ lw_all := lw_g (lw_at lw_m2 9 rfl) rfl
theorem q560 : (Jvm.Cond.selects "BoardMachine$Trees$Tree" ({ cls := "BoardMachine$Trees$Tree", name := "clear", desc := "()V" } : Jvm.MethodName) ({ cls := "BoardMachine$Trees$Tree", name := "clear", desc := "()V" } : Jvm.MethodName)) ∈ lw_all := lw_g (lw_at lw_m2 10 rfl) rfl
theorem q561 : (Jvm.Cond.code ({ cls := "BoardMachine$Trees$Tree", name := "clear", desc := "()V" } : Jvm.MethodName) prog_101_method_2_code (1 : Nat) (Option.none : Option Jvm.ClassFile.FieldType)) ∈ lw_all := lw_g (lw_at lw_m2 11 rfl) rfl
theorem q562 : (Jvm.Cond.methodLink "BoardMachine$Trees$Tree" (47 : Nat) ({ cls := "BoardMachine$Trees$Tree", name := "begin", desc := "(II)V" } : Jvm.MethodName)) ∈ lw_all := lw_g (lw_at lw_m2 12 rfl) rfl
theorem q563 : (Jvm.Cond.privateMethod ({ cls := "BoardMachine$Trees$Tree", name := "begin", desc := "(II)V" } : Jvm.MethodName)) ∈ lw_tbl := lw_at lw_m2 13 rfl
theorem q564 : (Jvm.Cond.instanceMethod ({ cls := "BoardMachine$Trees$Tree", name := "begin", desc := "(II)V" } : Jvm.MethodName)) ∈ lw_all := lw_g (lw_at lw_m2 14 rfl) rfl
theorem q565 : (Jvm.Cond.code ({ cls := "BoardMachine$Trees$Tree", name := "begin", desc := "(II)V" } : Jvm.MethodName) prog_101_method_3_code (4 : Nat) (Option.none : Option Jvm.ClassFile.FieldType)) ∈ lw_all := lw_g (lw_at lw_m2 15 rfl) rfl
theorem q566 : (Jvm.Cond.fieldLink "BoardMachine$Trees$Tree" (14 : Nat) "BoardMachine$Trees$Tree" "store" "LBoardMachine$Trees$Row;") ∈ lw_all := lw_g (lw_at lw_m2 16 rfl) rfl
theorem q567 : (Jvm.Cond.fieldLinkNest "BoardMachine$Trees$Press" (35 : Nat) "BoardMachine$Trees$Tree" "store" "LBoardMachine$Trees$Row;" "BoardMachine") ∈ lw_tbl := lw_at lw_m2 17 rfl
theorem q568 : (Jvm.Cond.fieldLinkNest "BoardMachine$Describer" (69 : Nat) "BoardMachine$Trees$Tree" "store" "LBoardMachine$Trees$Row;" "BoardMachine") ∈ lw_tbl := lw_at lw_m2 18 rfl
theorem q569 : (Jvm.Cond.fieldLink "BoardMachine$Trees$Tree" (22 : Nat) "BoardMachine$Trees$Tree" "nodes" "[LBoardMachine$Trees$Node;") ∈ lw_all := lw_g (lw_at lw_m2 19 rfl) rfl
theorem q570 : (Jvm.Cond.fieldLinkNest "BoardMachine$Trees$Press" (93 : Nat) "BoardMachine$Trees$Tree" "nodes" "[LBoardMachine$Trees$Node;" "BoardMachine") ∈ lw_tbl := lw_at lw_m2 20 rfl
theorem q571 : (Jvm.Cond.fieldLink "BoardMachine$Trees$Tree" (28 : Nat) "BoardMachine$Trees$Tree" "properties" "[LBoardMachine$Trees$Property;") ∈ lw_all := lw_g (lw_at lw_m2 21 rfl) rfl
theorem q572 : (Jvm.Cond.fieldLinkNest "BoardMachine$Trees$Press" (72 : Nat) "BoardMachine$Trees$Tree" "properties" "[LBoardMachine$Trees$Property;" "BoardMachine") ∈ lw_tbl := lw_at lw_m2 22 rfl
theorem q573 : (Jvm.Cond.fieldLink "BoardMachine$Trees$Tree" (41 : Nat) "BoardMachine$Trees$Tree" "nodeCount" "I") ∈ lw_all := lw_g (lw_at lw_m2 23 rfl) rfl
theorem q574 : (Jvm.Cond.fieldLinkNest "BoardMachine$Trees$Press" (90 : Nat) "BoardMachine$Trees$Tree" "nodeCount" "I" "BoardMachine") ∈ lw_tbl := lw_at lw_m2 24 rfl
theorem q575 : (Jvm.Cond.fieldLink "BoardMachine$Trees$Tree" (44 : Nat) "BoardMachine$Trees$Tree" "propertyCount" "I") ∈ lw_all := lw_g (lw_at lw_m2 25 rfl) rfl
theorem q576 : (Jvm.Cond.fieldLink "BoardMachine$Trees$Tree" (73 : Nat) "BoardMachine$Trees$Tree" "place" "I") ∈ lw_all := lw_g (lw_at lw_m2 26 rfl) rfl
theorem q577 : (Jvm.Cond.laysFinal "BoardMachine$Trees$Tree" "BoardMachine$Trees$Tree" "store" "LBoardMachine$Trees$Row;") ∈ lw_all := lw_g (lw_at lw_m2 27 rfl) rfl
theorem q578 : (Jvm.Cond.soleField "BoardMachine$Trees$Tree" "store") ∈ lw_all := lw_g (lw_at lw_m2 28 rfl) rfl
theorem q579 : (Jvm.Cond.laysFinal "BoardMachine$Trees$Tree" "BoardMachine$Trees$Tree" "nodes" "[LBoardMachine$Trees$Node;") ∈ lw_all := lw_g (lw_at lw_m2 29 rfl) rfl
theorem q580 : (Jvm.Cond.soleField "BoardMachine$Trees$Tree" "nodes") ∈ lw_all := lw_g (lw_at lw_m2 30 rfl) rfl
theorem q581 : (Jvm.Cond.laysFinal "BoardMachine$Trees$Tree" "BoardMachine$Trees$Tree" "properties" "[LBoardMachine$Trees$Property;") ∈ lw_all := lw_g (lw_at lw_m2 31 rfl) rfl
theorem q582 : (Jvm.Cond.soleField "BoardMachine$Trees$Tree" "properties") ∈ lw_all := lw_g (lw_at lw_m2 32 rfl) rfl
theorem q583 : (Jvm.Cond.lays "BoardMachine$Trees$Tree" "BoardMachine$Trees$Tree" "nodeCount" "I") ∈ lw_all := lw_g (lw_at lw_m2 33 rfl) rfl
theorem q584 : (Jvm.Cond.soleField "BoardMachine$Trees$Tree" "nodeCount") ∈ lw_all := lw_g (lw_at lw_m2 34 rfl) rfl
theorem q585 : (Jvm.Cond.lays "BoardMachine$Trees$Tree" "BoardMachine$Trees$Tree" "propertyCount" "I") ∈ lw_all := lw_g (lw_at lw_m2 35 rfl) rfl
theorem q586 : (Jvm.Cond.soleField "BoardMachine$Trees$Tree" "propertyCount") ∈ lw_all := lw_g (lw_at lw_m2 36 rfl) rfl
theorem q587 : (Jvm.Cond.lays "BoardMachine$Trees$Tree" "BoardMachine$Trees$Tree" "place" "I") ∈ lw_all := lw_g (lw_at lw_m2 37 rfl) rfl
theorem q588 : (Jvm.Cond.soleField "BoardMachine$Trees$Tree" "place") ∈ lw_all := lw_g (lw_at lw_m2 38 rfl) rfl
theorem q589 : (Jvm.Cond.superclass "BoardMachine$Trees$Tree" "java/lang/Object") ∈ lw_all := lw_g (lw_at lw_m2 39 rfl) rfl
theorem q590 : (Jvm.Cond.classLink "BoardMachine$Describer" (27 : Nat) "BoardMachine$Trees$Press") ∈ lw_all := lw_g (lw_at lw_m2 40 rfl) rfl
theorem q591 : (Jvm.Cond.instantiable "BoardMachine$Trees$Press" (2 : Nat)) ∈ lw_all := lw_g (lw_at lw_m2 41 rfl) rfl
theorem q592 : (Jvm.Cond.methodLinkNest "BoardMachine$Describer" (29 : Nat) ({ cls := "BoardMachine$Trees$Press", name := "<init>", desc := "()V" } : Jvm.MethodName) "BoardMachine") ∈ lw_tbl := lw_at lw_m2 42 rfl
theorem q593 : (Jvm.Cond.instanceMethod ({ cls := "BoardMachine$Trees$Press", name := "<init>", desc := "()V" } : Jvm.MethodName)) ∈ lw_all := lw_g (lw_at lw_m2 43 rfl) rfl
theorem q594 : (Jvm.Cond.code ({ cls := "BoardMachine$Trees$Press", name := "<init>", desc := "()V" } : Jvm.MethodName) prog_98_method_1_code (1 : Nat) (Option.none : Option Jvm.ClassFile.FieldType)) ∈ lw_all := lw_g (lw_at lw_m2 44 rfl) rfl
theorem q595 : (Jvm.Cond.methodLink "BoardMachine$Trees$Press" (3 : Nat) ({ cls := "java/lang/Object", name := "<init>", desc := "()V" } : Jvm.MethodName)) ∈ lw_all := lw_g (lw_at lw_m2 45 rfl) rfl
theorem q596 : (Jvm.Cond.classLink "BoardMachine$Trees$Press" (9 : Nat) "BoardMachine$Trees$Row") ∈ lw_all := lw_g (lw_at lw_m2 46 rfl) rfl
theorem q597 : (Jvm.Cond.constant "BoardMachine$Trees$Press" (11 : Nat) (65536 : Int32)) ∈ lw_all := lw_g (lw_at lw_m2 47 rfl) rfl
theorem q598 : (Jvm.Cond.methodLink "BoardMachine$Trees$Press" (12 : Nat) ({ cls := "BoardMachine$Trees$Row", name := "<init>", desc := "(I)V" } : Jvm.MethodName)) ∈ lw_all := lw_g (lw_at lw_m2 48 rfl) rfl
theorem q599 : (Jvm.Cond.fieldLink "BoardMachine$Trees$Press" (15 : Nat) "BoardMachine$Trees$Press" "out" "LBoardMachine$Trees$Row;") ∈ lw_all := lw_g (lw_at lw_m2 49 rfl) rfl
theorem q600 : (Jvm.Cond.fieldLinkNest "BoardMachine$Machine" (78 : Nat) "BoardMachine$Trees$Press" "out" "LBoardMachine$Trees$Row;" "BoardMachine") ∈ lw_tbl := lw_at lw_m2 50 rfl
theorem q601 : (Jvm.Cond.fieldLink "BoardMachine$Trees$Press" (21 : Nat) "BoardMachine$Trees$Press" "names" "LBoardMachine$Trees$Row;") ∈ lw_all := lw_g (lw_at lw_m2 51 rfl) rfl
theorem q602 : (Jvm.Cond.laysFinal "BoardMachine$Trees$Press" "BoardMachine$Trees$Press" "out" "LBoardMachine$Trees$Row;") ∈ lw_all := lw_g (lw_at lw_m2 52 rfl) rfl
theorem q603 : (Jvm.Cond.soleField "BoardMachine$Trees$Press" "out") ∈ lw_all := lw_g (lw_at lw_m2 53 rfl) rfl
theorem q604 : (Jvm.Cond.laysFinal "BoardMachine$Trees$Press" "BoardMachine$Trees$Press" "names" "LBoardMachine$Trees$Row;") ∈ lw_all := lw_g (lw_at lw_m2 54 rfl) rfl
theorem q605 : (Jvm.Cond.soleField "BoardMachine$Trees$Press" "names") ∈ lw_all := lw_g (lw_at lw_m2 55 rfl) rfl
theorem q606 : (Jvm.Cond.superclass "BoardMachine$Trees$Press" "java/lang/Object") ∈ lw_all := lw_g (lw_at lw_m2 56 rfl) rfl
theorem q607 : (Jvm.Cond.fieldLink "BoardMachine$Describer" (14 : Nat) "BoardMachine$Describer" "piece" "LBoardMachine$Trees$Row;") ∈ lw_all := lw_g (lw_at lw_m2 57 rfl) rfl
theorem q608 : (Jvm.Cond.fieldLink "BoardMachine$Describer" (23 : Nat) "BoardMachine$Describer" "tree" "LBoardMachine$Trees$Tree;") ∈ lw_all := lw_g (lw_at lw_m2 58 rfl) rfl
theorem q609 : (Jvm.Cond.fieldLink "BoardMachine$Describer" (30 : Nat) "BoardMachine$Describer" "press" "LBoardMachine$Trees$Press;") ∈ lw_all := lw_g (lw_at lw_m2 59 rfl) rfl
theorem q610 : (Jvm.Cond.fieldLinkNest "BoardMachine$Machine" (74 : Nat) "BoardMachine$Describer" "press" "LBoardMachine$Trees$Press;" "BoardMachine") ∈ lw_tbl := lw_at lw_m2 60 rfl
theorem q611 : (Jvm.Cond.laysFinal "BoardMachine$Describer" "BoardMachine$Describer" "piece" "LBoardMachine$Trees$Row;") ∈ lw_all := lw_g (lw_at lw_m2 61 rfl) rfl
theorem q612 : (Jvm.Cond.soleField "BoardMachine$Describer" "piece") ∈ lw_all := lw_g (lw_at lw_m2 62 rfl) rfl
theorem q613 : (Jvm.Cond.laysFinal "BoardMachine$Describer" "BoardMachine$Describer" "tree" "LBoardMachine$Trees$Tree;") ∈ lw_all := lw_g (lw_at lw_m2 63 rfl) rfl
theorem q614 : (Jvm.Cond.soleField "BoardMachine$Describer" "tree") ∈ lw_all := lw_g (lw_at lw_m2 64 rfl) rfl
theorem q615 : (Jvm.Cond.laysFinal "BoardMachine$Describer" "BoardMachine$Describer" "press" "LBoardMachine$Trees$Press;") ∈ lw_all := lw_g (lw_at lw_m2 65 rfl) rfl
theorem q616 : (Jvm.Cond.soleField "BoardMachine$Describer" "press") ∈ lw_all := lw_g (lw_at lw_m2 66 rfl) rfl
theorem q617 : (Jvm.Cond.superclass "BoardMachine$Describer" "java/lang/Object") ∈ lw_all := lw_g (lw_at lw_m2 67 rfl) rfl
theorem q618 : (Jvm.Cond.classLink "BoardMachine$Machine" (32 : Nat) "BoardMachine$Board") ∈ lw_all := lw_g (lw_at lw_m2 68 rfl) rfl
theorem q619 : (Jvm.Cond.instantiable "BoardMachine$Board" (6 : Nat)) ∈ lw_all := lw_g (lw_at lw_m2 69 rfl) rfl
theorem q620 : (Jvm.Cond.methodLink "BoardMachine$Machine" (34 : Nat) ({ cls := "BoardMachine$Board", name := "<init>", desc := "(I)V" } : Jvm.MethodName)) ∈ lw_all := lw_g (lw_at lw_m2 70 rfl) rfl
theorem q621 : (Jvm.Cond.instanceMethod ({ cls := "BoardMachine$Board", name := "<init>", desc := "(I)V" } : Jvm.MethodName)) ∈ lw_all := lw_g (lw_at lw_m2 71 rfl) rfl
theorem q622 : (Jvm.Cond.code ({ cls := "BoardMachine$Board", name := "<init>", desc := "(I)V" } : Jvm.MethodName) prog_2_method_1_code (2 : Nat) (Option.none : Option Jvm.ClassFile.FieldType)) ∈ lw_all := lw_g (lw_at lw_m2 72 rfl) rfl
theorem q623 : (Jvm.Cond.methodLink "BoardMachine$Board" (3 : Nat) ({ cls := "java/lang/Object", name := "<init>", desc := "()V" } : Jvm.MethodName)) ∈ lw_all := lw_g (lw_at lw_m2 73 rfl) rfl
theorem q624 : (Jvm.Cond.classLink "BoardMachine$Board" (9 : Nat) "BoardMachine$Memories$Ram") ∈ lw_all := lw_g (lw_at lw_m2 74 rfl) rfl
theorem q625 : (Jvm.Cond.instantiable "BoardMachine$Memories$Ram" (5 : Nat)) ∈ lw_all := lw_g (lw_at lw_m2 75 rfl) rfl
theorem q626 : (Jvm.Cond.methodLink "BoardMachine$Board" (11 : Nat) ({ cls := "BoardMachine$Memories$Ram", name := "<init>", desc := "(I)V" } : Jvm.MethodName)) ∈ lw_all := lw_g (lw_at lw_m2 76 rfl) rfl
theorem q627 : (Jvm.Cond.instanceMethod ({ cls := "BoardMachine$Memories$Ram", name := "<init>", desc := "(I)V" } : Jvm.MethodName)) ∈ lw_all := lw_g (lw_at lw_m2 77 rfl) rfl
theorem q628 : (Jvm.Cond.code ({ cls := "BoardMachine$Memories$Ram", name := "<init>", desc := "(I)V" } : Jvm.MethodName) prog_82_method_1_code (3 : Nat) (Option.none : Option Jvm.ClassFile.FieldType)) ∈ lw_all := lw_g (lw_at lw_m2 78 rfl) rfl
theorem q629 : (Jvm.Cond.methodLink "BoardMachine$Memories$Ram" (3 : Nat) ({ cls := "java/lang/Object", name := "<init>", desc := "()V" } : Jvm.MethodName)) ∈ lw_all := lw_g (lw_at lw_m2 79 rfl) rfl
theorem q630 : (Jvm.Cond.classLink "BoardMachine$Memories$Ram" (9 : Nat) "BoardMachine$Memories$Page") ∈ lw_all := lw_g (lw_at lw_m2 80 rfl) rfl
theorem q631 : (Jvm.Cond.arrayOver (Jvm.ClassFile.FieldType.object "BoardMachine$Memories$Page")) ∈ lw_tbl := lw_at lw_m2 81 rfl
theorem q632 : (Jvm.Cond.classLink "BoardMachine$Memories$Ram" (21 : Nat) "BoardMachine$Memories$Reservation") ∈ lw_all := lw_g (lw_at lw_m2 82 rfl) rfl
theorem q633 : (Jvm.Cond.arrayOver (Jvm.ClassFile.FieldType.object "BoardMachine$Memories$Reservation")) ∈ lw_tbl := lw_at lw_m2 83 rfl
theorem q634 : (Jvm.Cond.classLink "BoardMachine$Memories$Ram" (27 : Nat) "BoardMachine$Memories$Change") ∈ lw_all := lw_g (lw_at lw_m2 84 rfl) rfl
theorem q635 : (Jvm.Cond.arrayOver (Jvm.ClassFile.FieldType.object "BoardMachine$Memories$Change")) ∈ lw_tbl := lw_at lw_m2 85 rfl
theorem q636 : (Jvm.Cond.instantiable "BoardMachine$Memories$Reservation" (2 : Nat)) ∈ lw_all := lw_g (lw_at lw_m2 86 rfl) rfl
theorem q637 : (Jvm.Cond.methodLinkNest "BoardMachine$Memories$Ram" (37 : Nat) ({ cls := "BoardMachine$Memories$Reservation", name := "<init>", desc := "()V" } : Jvm.MethodName) "BoardMachine") ∈ lw_tbl := lw_at lw_m2 87 rfl
theorem q638 : (Jvm.Cond.instanceMethod ({ cls := "BoardMachine$Memories$Reservation", name := "<init>", desc := "()V" } : Jvm.MethodName)) ∈ lw_all := lw_g (lw_at lw_m2 88 rfl) rfl
theorem q639 : (Jvm.Cond.code ({ cls := "BoardMachine$Memories$Reservation", name := "<init>", desc := "()V" } : Jvm.MethodName) prog_83_method_1_code (1 : Nat) (Option.none : Option Jvm.ClassFile.FieldType)) ∈ lw_all := lw_g (lw_at lw_m2 89 rfl) rfl
theorem q640 : (Jvm.Cond.methodLink "BoardMachine$Memories$Reservation" (1 : Nat) ({ cls := "java/lang/Object", name := "<init>", desc := "()V" } : Jvm.MethodName)) ∈ lw_all := lw_g (lw_at lw_m2 90 rfl) rfl
theorem q641 : (Jvm.Cond.fieldLink "BoardMachine$Memories$Reservation" (7 : Nat) "BoardMachine$Memories$Reservation" "address" "J") ∈ lw_all := lw_g (lw_at lw_m2 91 rfl) rfl
theorem q642 : (Jvm.Cond.fieldLink "BoardMachine$Memories$Reservation" (13 : Nat) "BoardMachine$Memories$Reservation" "size" "I") ∈ lw_all := lw_g (lw_at lw_m2 92 rfl) rfl
theorem q643 : (Jvm.Cond.lays "BoardMachine$Memories$Reservation" "BoardMachine$Memories$Reservation" "address" "J") ∈ lw_all := lw_g (lw_at lw_m2 93 rfl) rfl
theorem q644 : (Jvm.Cond.soleField "BoardMachine$Memories$Reservation" "address") ∈ lw_all := lw_g (lw_at lw_m2 94 rfl) rfl
theorem q645 : (Jvm.Cond.lays "BoardMachine$Memories$Reservation" "BoardMachine$Memories$Reservation" "size" "I") ∈ lw_all := lw_g (lw_at lw_m2 95 rfl) rfl
theorem q646 : (Jvm.Cond.soleField "BoardMachine$Memories$Reservation" "size") ∈ lw_all := lw_g (lw_at lw_m2 96 rfl) rfl
theorem q647 : (Jvm.Cond.superclass "BoardMachine$Memories$Reservation" "java/lang/Object") ∈ lw_all := lw_g (lw_at lw_m2 97 rfl) rfl
theorem q648 : (Jvm.Cond.arrayClass Jvm.ClassFile.FieldType.long) ∈ lw_all := lw_g (lw_at lw_m2 98 rfl) rfl
theorem q649 : (Jvm.Cond.classLink "BoardMachine$Memories$Ram" (38 : Nat) "BoardMachine$Memories$Sum") ∈ lw_all := lw_g (lw_at lw_m2 99 rfl) rfl
theorem q650 : (Jvm.Cond.instantiable "BoardMachine$Memories$Sum" (0 : Nat)) ∈ lw_all := lw_g (lw_at lw_m2 100 rfl) rfl
theorem q651 : (Jvm.Cond.methodLinkNest "BoardMachine$Memories$Ram" (40 : Nat) ({ cls := "BoardMachine$Memories$Sum", name := "<init>", desc := "()V" } : Jvm.MethodName) "BoardMachine") ∈ lw_tbl := lw_at lw_m2 101 rfl
theorem q652 : (Jvm.Cond.instanceMethod ({ cls := "BoardMachine$Memories$Sum", name := "<init>", desc := "()V" } : Jvm.MethodName)) ∈ lw_all := lw_g (lw_at lw_m2 102 rfl) rfl
theorem q653 : (Jvm.Cond.code ({ cls := "BoardMachine$Memories$Sum", name := "<init>", desc := "()V" } : Jvm.MethodName) prog_84_method_1_code (1 : Nat) (Option.none : Option Jvm.ClassFile.FieldType)) ∈ lw_all := lw_g (lw_at lw_m2 103 rfl) rfl
theorem q654 : (Jvm.Cond.methodLinkNest "BoardMachine$Memories$Sum" (1 : Nat) ({ cls := "BoardMachine$Memories$Change", name := "<init>", desc := "()V" } : Jvm.MethodName) "BoardMachine") ∈ lw_tbl := lw_at lw_m2 104 rfl
theorem q655 : (Jvm.Cond.instanceMethod ({ cls := "BoardMachine$Memories$Change", name := "<init>", desc := "()V" } : Jvm.MethodName)) ∈ lw_all := lw_g (lw_at lw_m2 105 rfl) rfl
theorem q656 : (Jvm.Cond.code ({ cls := "BoardMachine$Memories$Change", name := "<init>", desc := "()V" } : Jvm.MethodName) prog_79_method_1_code (1 : Nat) (Option.none : Option Jvm.ClassFile.FieldType)) ∈ lw_all := lw_g (lw_at lw_m2 106 rfl) rfl
theorem q657 : (Jvm.Cond.methodLink "BoardMachine$Memories$Change" (1 : Nat) ({ cls := "java/lang/Object", name := "<init>", desc := "()V" } : Jvm.MethodName)) ∈ lw_all := lw_g (lw_at lw_m2 107 rfl) rfl
theorem q658 : (Jvm.Cond.superclass "BoardMachine$Memories$Sum" "BoardMachine$Memories$Change") ∈ lw_all := lw_g (lw_at lw_m2 108 rfl) rfl
theorem q659 : (Jvm.Cond.classLink "BoardMachine$Memories$Ram" (41 : Nat) "BoardMachine$Memories$Swap") ∈ lw_all := lw_g (lw_at lw_m2 109 rfl) rfl
theorem q660 : (Jvm.Cond.instantiable "BoardMachine$Memories$Swap" (0 : Nat)) ∈ lw_all := lw_g (lw_at lw_m2 110 rfl) rfl
theorem q661 : (Jvm.Cond.methodLinkNest "BoardMachine$Memories$Ram" (43 : Nat) ({ cls := "BoardMachine$Memories$Swap", name := "<init>", desc := "()V" } : Jvm.MethodName) "BoardMachine") ∈ lw_tbl := lw_at lw_m2 111 rfl
theorem q662 : (Jvm.Cond.instanceMethod ({ cls := "BoardMachine$Memories$Swap", name := "<init>", desc := "()V" } : Jvm.MethodName)) ∈ lw_all := lw_g (lw_at lw_m2 112 rfl) rfl
theorem q663 : (Jvm.Cond.code ({ cls := "BoardMachine$Memories$Swap", name := "<init>", desc := "()V" } : Jvm.MethodName) prog_85_method_1_code (1 : Nat) (Option.none : Option Jvm.ClassFile.FieldType)) ∈ lw_all := lw_g (lw_at lw_m2 113 rfl) rfl
theorem q664 : (Jvm.Cond.methodLinkNest "BoardMachine$Memories$Swap" (1 : Nat) ({ cls := "BoardMachine$Memories$Change", name := "<init>", desc := "()V" } : Jvm.MethodName) "BoardMachine") ∈ lw_tbl := lw_at lw_m2 114 rfl
theorem q665 : (Jvm.Cond.superclass "BoardMachine$Memories$Swap" "BoardMachine$Memories$Change") ∈ lw_all := lw_g (lw_at lw_m2 115 rfl) rfl
theorem q666 : (Jvm.Cond.classLink "BoardMachine$Memories$Ram" (44 : Nat) "BoardMachine$Memories$Bits") ∈ lw_all := lw_g (lw_at lw_m2 116 rfl) rfl
theorem q667 : (Jvm.Cond.instantiable "BoardMachine$Memories$Bits" (1 : Nat)) ∈ lw_all := lw_g (lw_at lw_m2 117 rfl) rfl
theorem q668 : (Jvm.Cond.methodLink "BoardMachine$Memories$Ram" (46 : Nat) ({ cls := "BoardMachine$Memories$Bits", name := "<init>", desc := "(I)V" } : Jvm.MethodName)) ∈ lw_all := lw_g (lw_at lw_m2 118 rfl) rfl
theorem q669 : (Jvm.Cond.instanceMethod ({ cls := "BoardMachine$Memories$Bits", name := "<init>", desc := "(I)V" } : Jvm.MethodName)) ∈ lw_all := lw_g (lw_at lw_m2 119 rfl) rfl
theorem q670 : (Jvm.Cond.code ({ cls := "BoardMachine$Memories$Bits", name := "<init>", desc := "(I)V" } : Jvm.MethodName) prog_78_method_1_code (2 : Nat) (Option.none : Option Jvm.ClassFile.FieldType)) ∈ lw_all := lw_g (lw_at lw_m2 120 rfl) rfl
theorem q671 : (Jvm.Cond.methodLinkNest "BoardMachine$Memories$Bits" (1 : Nat) ({ cls := "BoardMachine$Memories$Change", name := "<init>", desc := "()V" } : Jvm.MethodName) "BoardMachine") ∈ lw_tbl := lw_at lw_m2 121 rfl
theorem q672 : (Jvm.Cond.fieldLink "BoardMachine$Memories$Bits" (7 : Nat) "BoardMachine$Memories$Bits" "table" "I") ∈ lw_all := lw_g (lw_at lw_m2 122 rfl) rfl
theorem q673 : (Jvm.Cond.laysFinal "BoardMachine$Memories$Bits" "BoardMachine$Memories$Bits" "table" "I") ∈ lw_all := lw_g (lw_at lw_m2 123 rfl) rfl
theorem q674 : (Jvm.Cond.soleField "BoardMachine$Memories$Bits" "table") ∈ lw_all := lw_g (lw_at lw_m2 124 rfl) rfl
theorem q675 : (Jvm.Cond.superclass "BoardMachine$Memories$Bits" "BoardMachine$Memories$Change") ∈ lw_all := lw_g (lw_at lw_m2 125 rfl) rfl
theorem q676 : (Jvm.Cond.classLink "BoardMachine$Memories$Ram" (49 : Nat) "BoardMachine$Memories$Extreme") ∈ lw_all := lw_g (lw_at lw_m2 126 rfl) rfl
theorem q677 : (Jvm.Cond.instantiable "BoardMachine$Memories$Extreme" (2 : Nat)) ∈ lw_all := lw_g (lw_at lw_m2 127 rfl) rfl
theorem q678 : (Jvm.Cond.methodLink "BoardMachine$Memories$Ram" (51 : Nat) ({ cls := "BoardMachine$Memories$Extreme", name := "<init>", desc := "(ZZ)V" } : Jvm.MethodName)) ∈ lw_all := lw_g (lw_at lw_m2 128 rfl) rfl
theorem q679 : (Jvm.Cond.instanceMethod ({ cls := "BoardMachine$Memories$Extreme", name := "<init>", desc := "(ZZ)V" } : Jvm.MethodName)) ∈ lw_all := lw_g (lw_at lw_m2 129 rfl) rfl
theorem q680 : (Jvm.Cond.code ({ cls := "BoardMachine$Memories$Extreme", name := "<init>", desc := "(ZZ)V" } : Jvm.MethodName) prog_80_method_1_code (3 : Nat) (Option.none : Option Jvm.ClassFile.FieldType)) ∈ lw_all := lw_g (lw_at lw_m2 130 rfl) rfl
theorem q681 : (Jvm.Cond.methodLinkNest "BoardMachine$Memories$Extreme" (1 : Nat) ({ cls := "BoardMachine$Memories$Change", name := "<init>", desc := "()V" } : Jvm.MethodName) "BoardMachine") ∈ lw_tbl := lw_at lw_m2 131 rfl
theorem q682 : (Jvm.Cond.constantLong "BoardMachine$Memories$Extreme" (15 : Nat) (-9223372036854775808 : Int64)) ∈ lw_all := lw_g (lw_at lw_m2 132 rfl) rfl
theorem q683 : (Jvm.Cond.fieldLink "BoardMachine$Memories$Extreme" (7 : Nat) "BoardMachine$Memories$Extreme" "least" "Z") ∈ lw_all := lw_g (lw_at lw_m2 133 rfl) rfl
theorem q684 : (Jvm.Cond.fieldLink "BoardMachine$Memories$Extreme" (17 : Nat) "BoardMachine$Memories$Extreme" "turn" "J") ∈ lw_all := lw_g (lw_at lw_m2 134 rfl) rfl
theorem q685 : (Jvm.Cond.laysFinal "BoardMachine$Memories$Extreme" "BoardMachine$Memories$Extreme" "least" "Z") ∈ lw_all := lw_g (lw_at lw_m2 135 rfl) rfl
theorem q686 : (Jvm.Cond.soleField "BoardMachine$Memories$Extreme" "least") ∈ lw_all := lw_g (lw_at lw_m2 136 rfl) rfl
theorem q687 : (Jvm.Cond.laysFinal "BoardMachine$Memories$Extreme" "BoardMachine$Memories$Extreme" "turn" "J") ∈ lw_all := lw_g (lw_at lw_m2 137 rfl) rfl
theorem q688 : (Jvm.Cond.soleField "BoardMachine$Memories$Extreme" "turn") ∈ lw_all := lw_g (lw_at lw_m2 138 rfl) rfl
theorem q689 : (Jvm.Cond.superclass "BoardMachine$Memories$Extreme" "BoardMachine$Memories$Change") ∈ lw_all := lw_g (lw_at lw_m2 139 rfl) rfl
theorem q690 : (Jvm.Cond.fieldLink "BoardMachine$Memories$Ram" (33 : Nat) "BoardMachine$Memories$Ram" "many" "I") ∈ lw_all := lw_g (lw_at lw_m2 140 rfl) rfl
theorem q691 : (Jvm.Cond.fieldLink "BoardMachine$Memories$Ram" (11 : Nat) "BoardMachine$Memories$Ram" "pages" "[LBoardMachine$Memories$Page;") ∈ lw_all := lw_g (lw_at lw_m2 141 rfl) rfl
theorem q692 : (Jvm.Cond.fieldLink "BoardMachine$Memories$Ram" (17 : Nat) "BoardMachine$Memories$Ram" "writes" "[J") ∈ lw_all := lw_g (lw_at lw_m2 142 rfl) rfl
theorem q693 : (Jvm.Cond.fieldLinkNest "BoardMachine$TableWords" (31 : Nat) "BoardMachine$Memories$Ram" "writes" "[J" "BoardMachine") ∈ lw_tbl := lw_at lw_m2 143 rfl
theorem q694 : (Jvm.Cond.fieldLinkNest "BoardMachine$Processor" (307 : Nat) "BoardMachine$Memories$Ram" "writes" "[J" "BoardMachine") ∈ lw_tbl := lw_at lw_m2 144 rfl
theorem q695 : (Jvm.Cond.fieldLink "BoardMachine$Memories$Ram" (23 : Nat) "BoardMachine$Memories$Ram" "reservations" "[LBoardMachine$Memories$Reservation;") ∈ lw_all := lw_g (lw_at lw_m2 145 rfl) rfl
theorem q696 : (Jvm.Cond.fieldLinkNest "BoardMachine$Processor" (133 : Nat) "BoardMachine$Memories$Ram" "reservations" "[LBoardMachine$Memories$Reservation;" "BoardMachine") ∈ lw_tbl := lw_at lw_m2 146 rfl
theorem q697 : (Jvm.Cond.fieldLink "BoardMachine$Memories$Ram" (29 : Nat) "BoardMachine$Memories$Ram" "changes" "[LBoardMachine$Memories$Change;") ∈ lw_all := lw_g (lw_at lw_m2 147 rfl) rfl
theorem q698 : (Jvm.Cond.laysFinal "BoardMachine$Memories$Ram" "BoardMachine$Memories$Ram" "many" "I") ∈ lw_all := lw_g (lw_at lw_m2 148 rfl) rfl
theorem q699 : (Jvm.Cond.soleField "BoardMachine$Memories$Ram" "many") ∈ lw_all := lw_g (lw_at lw_m2 149 rfl) rfl
theorem q700 : (Jvm.Cond.laysFinal "BoardMachine$Memories$Ram" "BoardMachine$Memories$Ram" "pages" "[LBoardMachine$Memories$Page;") ∈ lw_all := lw_g (lw_at lw_m2 150 rfl) rfl
theorem q701 : (Jvm.Cond.soleField "BoardMachine$Memories$Ram" "pages") ∈ lw_all := lw_g (lw_at lw_m2 151 rfl) rfl
theorem q702 : (Jvm.Cond.laysFinal "BoardMachine$Memories$Ram" "BoardMachine$Memories$Ram" "writes" "[J") ∈ lw_all := lw_g (lw_at lw_m2 152 rfl) rfl
theorem q703 : (Jvm.Cond.soleField "BoardMachine$Memories$Ram" "writes") ∈ lw_all := lw_g (lw_at lw_m2 153 rfl) rfl
theorem q704 : (Jvm.Cond.laysFinal "BoardMachine$Memories$Ram" "BoardMachine$Memories$Ram" "reservations" "[LBoardMachine$Memories$Reservation;") ∈ lw_all := lw_g (lw_at lw_m2 154 rfl) rfl
theorem q705 : (Jvm.Cond.soleField "BoardMachine$Memories$Ram" "reservations") ∈ lw_all := lw_g (lw_at lw_m2 155 rfl) rfl
theorem q706 : (Jvm.Cond.laysFinal "BoardMachine$Memories$Ram" "BoardMachine$Memories$Ram" "changes" "[LBoardMachine$Memories$Change;") ∈ lw_all := lw_g (lw_at lw_m2 156 rfl) rfl
theorem q707 : (Jvm.Cond.soleField "BoardMachine$Memories$Ram" "changes") ∈ lw_all := lw_g (lw_at lw_m2 157 rfl) rfl
theorem q708 : (Jvm.Cond.superclass "BoardMachine$Memories$Ram" "java/lang/Object") ∈ lw_all := lw_g (lw_at lw_m2 158 rfl) rfl
theorem q709 : (Jvm.Cond.classLink "BoardMachine$Board" (20 : Nat) "BoardMachine$Disks$Device") ∈ lw_all := lw_g (lw_at lw_m2 159 rfl) rfl
theorem q710 : (Jvm.Cond.instantiable "BoardMachine$Disks$Device" (10 : Nat)) ∈ lw_all := lw_g (lw_at lw_m2 160 rfl) rfl
theorem q711 : (Jvm.Cond.classLink "BoardMachine$Board" (22 : Nat) "BoardMachine$QueueBytes") ∈ lw_all := lw_g (lw_at lw_m2 161 rfl) rfl
theorem q712 : (Jvm.Cond.instantiable "BoardMachine$QueueBytes" (1 : Nat)) ∈ lw_all := lw_g (lw_at lw_m2 162 rfl) rfl
theorem q713 : (Jvm.Cond.methodLink "BoardMachine$Board" (24 : Nat) ({ cls := "BoardMachine$QueueBytes", name := "<init>", desc := "(LBoardMachine$Memories$Ram;)V" } : Jvm.MethodName)) ∈ lw_all := lw_g (lw_at lw_m2 163 rfl) rfl
theorem q714 : (Jvm.Cond.instanceMethod ({ cls := "BoardMachine$QueueBytes", name := "<init>", desc := "(LBoardMachine$Memories$Ram;)V" } : Jvm.MethodName)) ∈ lw_all := lw_g (lw_at lw_m2 164 rfl) rfl
theorem q715 : (Jvm.Cond.code ({ cls := "BoardMachine$QueueBytes", name := "<init>", desc := "(LBoardMachine$Memories$Ram;)V" } : Jvm.MethodName) prog_87_method_1_code (2 : Nat) (Option.none : Option Jvm.ClassFile.FieldType)) ∈ lw_all := lw_g (lw_at lw_m2 165 rfl) rfl
theorem q716 : (Jvm.Cond.methodLink "BoardMachine$QueueBytes" (1 : Nat) ({ cls := "java/lang/Object", name := "<init>", desc := "()V" } : Jvm.MethodName)) ∈ lw_all := lw_g (lw_at lw_m2 166 rfl) rfl
theorem q717 : (Jvm.Cond.fieldLink "BoardMachine$QueueBytes" (7 : Nat) "BoardMachine$QueueBytes" "ram" "LBoardMachine$Memories$Ram;") ∈ lw_all := lw_g (lw_at lw_m2 167 rfl) rfl
theorem q718 : (Jvm.Cond.laysFinal "BoardMachine$QueueBytes" "BoardMachine$QueueBytes" "ram" "LBoardMachine$Memories$Ram;") ∈ lw_all := lw_g (lw_at lw_m2 168 rfl) rfl
theorem q719 : (Jvm.Cond.soleField "BoardMachine$QueueBytes" "ram") ∈ lw_all := lw_g (lw_at lw_m2 169 rfl) rfl
theorem q720 : (Jvm.Cond.superclass "BoardMachine$QueueBytes" "java/lang/Object") ∈ lw_all := lw_g (lw_at lw_m2 170 rfl) rfl
theorem q721 : (Jvm.Cond.methodLink "BoardMachine$Board" (27 : Nat) ({ cls := "BoardMachine$Disks$Device", name := "<init>", desc := "(LBoardMachine$Disks$Bytes;I)V" } : Jvm.MethodName)) ∈ lw_all := lw_g (lw_at lw_m2 171 rfl) rfl
theorem q722 : (Jvm.Cond.instanceMethod ({ cls := "BoardMachine$Disks$Device", name := "<init>", desc := "(LBoardMachine$Disks$Bytes;I)V" } : Jvm.MethodName)) ∈ lw_all := lw_g (lw_at lw_m2 172 rfl) rfl
theorem q723 : (Jvm.Cond.code ({ cls := "BoardMachine$Disks$Device", name := "<init>", desc := "(LBoardMachine$Disks$Bytes;I)V" } : Jvm.MethodName) prog_17_method_1_code (3 : Nat) (Option.none : Option Jvm.ClassFile.FieldType)) ∈ lw_all := lw_g (lw_at lw_m2 173 rfl) rfl
theorem q724 : (Jvm.Cond.methodLink "BoardMachine$Disks$Device" (3 : Nat) ({ cls := "java/lang/Object", name := "<init>", desc := "()V" } : Jvm.MethodName)) ∈ lw_all := lw_g (lw_at lw_m2 174 rfl) rfl
theorem q725 : (Jvm.Cond.classLink "BoardMachine$Disks$Device" (9 : Nat) "BoardMachine$Disks$Queue") ∈ lw_all := lw_g (lw_at lw_m2 175 rfl) rfl
theorem q726 : (Jvm.Cond.instantiable "BoardMachine$Disks$Queue" (7 : Nat)) ∈ lw_all := lw_g (lw_at lw_m2 176 rfl) rfl
theorem q727 : (Jvm.Cond.methodLinkNest "BoardMachine$Disks$Device" (11 : Nat) ({ cls := "BoardMachine$Disks$Queue", name := "<init>", desc := "()V" } : Jvm.MethodName) "BoardMachine") ∈ lw_tbl := lw_at lw_m2 177 rfl
theorem q728 : (Jvm.Cond.instanceMethod ({ cls := "BoardMachine$Disks$Queue", name := "<init>", desc := "()V" } : Jvm.MethodName)) ∈ lw_all := lw_g (lw_at lw_m2 178 rfl) rfl
theorem q729 : (Jvm.Cond.code ({ cls := "BoardMachine$Disks$Queue", name := "<init>", desc := "()V" } : Jvm.MethodName) prog_22_method_1_code (1 : Nat) (Option.none : Option Jvm.ClassFile.FieldType)) ∈ lw_all := lw_g (lw_at lw_m2 179 rfl) rfl
theorem q730 : (Jvm.Cond.methodLink "BoardMachine$Disks$Queue" (3 : Nat) ({ cls := "java/lang/Object", name := "<init>", desc := "()V" } : Jvm.MethodName)) ∈ lw_all := lw_g (lw_at lw_m2 180 rfl) rfl
theorem q731 : (Jvm.Cond.fieldLink "BoardMachine$Disks$Queue" (9 : Nat) "BoardMachine$Disks$Queue" "size" "I") ∈ lw_all := lw_g (lw_at lw_m2 181 rfl) rfl
theorem q732 : (Jvm.Cond.fieldLinkNest "BoardMachine$Disks$Device" (90 : Nat) "BoardMachine$Disks$Queue" "size" "I" "BoardMachine") ∈ lw_tbl := lw_at lw_m2 182 rfl
theorem q733 : (Jvm.Cond.fieldLink "BoardMachine$Disks$Queue" (15 : Nat) "BoardMachine$Disks$Queue" "ready" "Z") ∈ lw_all := lw_g (lw_at lw_m2 183 rfl) rfl
theorem q734 : (Jvm.Cond.fieldLinkNest "BoardMachine$Disks$Device" (64 : Nat) "BoardMachine$Disks$Queue" "ready" "Z" "BoardMachine") ∈ lw_tbl := lw_at lw_m2 184 rfl
theorem q735 : (Jvm.Cond.fieldLink "BoardMachine$Disks$Queue" (19 : Nat) "BoardMachine$Disks$Queue" "blocks" "J") ∈ lw_all := lw_g (lw_at lw_m2 185 rfl) rfl
theorem q736 : (Jvm.Cond.fieldLink "BoardMachine$Disks$Queue" (23 : Nat) "BoardMachine$Disks$Queue" "offers" "J") ∈ lw_all := lw_g (lw_at lw_m2 186 rfl) rfl
theorem q737 : (Jvm.Cond.fieldLinkNest "BoardMachine$Disks$Device" (100 : Nat) "BoardMachine$Disks$Queue" "offers" "J" "BoardMachine") ∈ lw_tbl := lw_at lw_m2 187 rfl
theorem q738 : (Jvm.Cond.fieldLink "BoardMachine$Disks$Queue" (26 : Nat) "BoardMachine$Disks$Queue" "answers" "J") ∈ lw_all := lw_g (lw_at lw_m2 188 rfl) rfl
theorem q739 : (Jvm.Cond.fieldLinkNest "BoardMachine$Disks$Device" (167 : Nat) "BoardMachine$Disks$Queue" "answers" "J" "BoardMachine") ∈ lw_tbl := lw_at lw_m2 189 rfl
theorem q740 : (Jvm.Cond.fieldLink "BoardMachine$Disks$Queue" (29 : Nat) "BoardMachine$Disks$Queue" "taken" "I") ∈ lw_all := lw_g (lw_at lw_m2 190 rfl) rfl
theorem q741 : (Jvm.Cond.fieldLinkNest "BoardMachine$Disks$Device" (118 : Nat) "BoardMachine$Disks$Queue" "taken" "I" "BoardMachine") ∈ lw_tbl := lw_at lw_m2 191 rfl
theorem q742 : (Jvm.Cond.fieldLink "BoardMachine$Disks$Queue" (32 : Nat) "BoardMachine$Disks$Queue" "given" "I") ∈ lw_all := lw_g (lw_at lw_m2 192 rfl) rfl
theorem q743 : (Jvm.Cond.fieldLinkNest "BoardMachine$Disks$Device" (164 : Nat) "BoardMachine$Disks$Queue" "given" "I" "BoardMachine") ∈ lw_tbl := lw_at lw_m2 193 rfl
theorem q744 : (Jvm.Cond.lays "BoardMachine$Disks$Queue" "BoardMachine$Disks$Queue" "size" "I") ∈ lw_all := lw_g (lw_at lw_m2 194 rfl) rfl
theorem q745 : (Jvm.Cond.soleField "BoardMachine$Disks$Queue" "size") ∈ lw_all := lw_g (lw_at lw_m2 195 rfl) rfl
theorem q746 : (Jvm.Cond.lays "BoardMachine$Disks$Queue" "BoardMachine$Disks$Queue" "ready" "Z") ∈ lw_all := lw_g (lw_at lw_m2 196 rfl) rfl
theorem q747 : (Jvm.Cond.soleField "BoardMachine$Disks$Queue" "ready") ∈ lw_all := lw_g (lw_at lw_m2 197 rfl) rfl
theorem q748 : (Jvm.Cond.lays "BoardMachine$Disks$Queue" "BoardMachine$Disks$Queue" "blocks" "J") ∈ lw_all := lw_g (lw_at lw_m2 198 rfl) rfl
theorem q749 : (Jvm.Cond.soleField "BoardMachine$Disks$Queue" "blocks") ∈ lw_all := lw_g (lw_at lw_m2 199 rfl) rfl
theorem q750 : (Jvm.Cond.lays "BoardMachine$Disks$Queue" "BoardMachine$Disks$Queue" "offers" "J") ∈ lw_all := lw_g (lw_at lw_m2 200 rfl) rfl
theorem q751 : (Jvm.Cond.soleField "BoardMachine$Disks$Queue" "offers") ∈ lw_all := lw_g (lw_at lw_m2 201 rfl) rfl
theorem q752 : (Jvm.Cond.lays "BoardMachine$Disks$Queue" "BoardMachine$Disks$Queue" "answers" "J") ∈ lw_all := lw_g (lw_at lw_m2 202 rfl) rfl
theorem q753 : (Jvm.Cond.soleField "BoardMachine$Disks$Queue" "answers") ∈ lw_all := lw_g (lw_at lw_m2 203 rfl) rfl
theorem q754 : (Jvm.Cond.lays "BoardMachine$Disks$Queue" "BoardMachine$Disks$Queue" "taken" "I") ∈ lw_all := lw_g (lw_at lw_m2 204 rfl) rfl
theorem q755 : (Jvm.Cond.soleField "BoardMachine$Disks$Queue" "taken") ∈ lw_all := lw_g (lw_at lw_m2 205 rfl) rfl
theorem q756 : (Jvm.Cond.lays "BoardMachine$Disks$Queue" "BoardMachine$Disks$Queue" "given" "I") ∈ lw_all := lw_g (lw_at lw_m2 206 rfl) rfl
theorem q757 : (Jvm.Cond.soleField "BoardMachine$Disks$Queue" "given") ∈ lw_all := lw_g (lw_at lw_m2 207 rfl) rfl
theorem q758 : (Jvm.Cond.superclass "BoardMachine$Disks$Queue" "java/lang/Object") ∈ lw_all := lw_g (lw_at lw_m2 208 rfl) rfl
theorem q759 : (Jvm.Cond.classLink "BoardMachine$Disks$Device" (18 : Nat) "BoardMachine$Disks$Request") ∈ lw_all := lw_g (lw_at lw_m2 209 rfl) rfl
theorem q760 : (Jvm.Cond.instantiable "BoardMachine$Disks$Request" (7 : Nat)) ∈ lw_all := lw_g (lw_at lw_m2 210 rfl) rfl
theorem q761 : (Jvm.Cond.methodLinkNest "BoardMachine$Disks$Device" (20 : Nat) ({ cls := "BoardMachine$Disks$Request", name := "<init>", desc := "()V" } : Jvm.MethodName) "BoardMachine") ∈ lw_tbl := lw_at lw_m2 211 rfl
theorem q762 : (Jvm.Cond.instanceMethod ({ cls := "BoardMachine$Disks$Request", name := "<init>", desc := "()V" } : Jvm.MethodName)) ∈ lw_all := lw_g (lw_at lw_m2 212 rfl) rfl
theorem q763 : (Jvm.Cond.code ({ cls := "BoardMachine$Disks$Request", name := "<init>", desc := "()V" } : Jvm.MethodName) prog_24_method_1_code (1 : Nat) (Option.none : Option Jvm.ClassFile.FieldType)) ∈ lw_all := lw_g (lw_at lw_m2 213 rfl) rfl
theorem q764 : (Jvm.Cond.methodLink "BoardMachine$Disks$Request" (1 : Nat) ({ cls := "java/lang/Object", name := "<init>", desc := "()V" } : Jvm.MethodName)) ∈ lw_all := lw_g (lw_at lw_m2 214 rfl) rfl
theorem q765 : (Jvm.Cond.classLink "BoardMachine$Disks$Request" (7 : Nat) "BoardMachine$Disks$Stretch") ∈ lw_all := lw_g (lw_at lw_m2 215 rfl) rfl
theorem q766 : (Jvm.Cond.instantiable "BoardMachine$Disks$Stretch" (6 : Nat)) ∈ lw_all := lw_g (lw_at lw_m2 216 rfl) rfl
theorem q767 : (Jvm.Cond.methodLinkNest "BoardMachine$Disks$Request" (9 : Nat) ({ cls := "BoardMachine$Disks$Stretch", name := "<init>", desc := "()V" } : Jvm.MethodName) "BoardMachine") ∈ lw_tbl := lw_at lw_m2 217 rfl
theorem q768 : (Jvm.Cond.instanceMethod ({ cls := "BoardMachine$Disks$Stretch", name := "<init>", desc := "()V" } : Jvm.MethodName)) ∈ lw_all := lw_g (lw_at lw_m2 218 rfl) rfl
theorem q769 : (Jvm.Cond.code ({ cls := "BoardMachine$Disks$Stretch", name := "<init>", desc := "()V" } : Jvm.MethodName) prog_25_method_1_code (1 : Nat) (Option.none : Option Jvm.ClassFile.FieldType)) ∈ lw_all := lw_g (lw_at lw_m2 219 rfl) rfl
theorem q770 : (Jvm.Cond.methodLink "BoardMachine$Disks$Stretch" (1 : Nat) ({ cls := "java/lang/Object", name := "<init>", desc := "()V" } : Jvm.MethodName)) ∈ lw_all := lw_g (lw_at lw_m2 220 rfl) rfl
theorem q771 : (Jvm.Cond.fieldLink "BoardMachine$Disks$Stretch" (7 : Nat) "BoardMachine$Disks$Stretch" "addresses" "[J") ∈ lw_all := lw_g (lw_at lw_m2 221 rfl) rfl
theorem q772 : (Jvm.Cond.fieldLink "BoardMachine$Disks$Stretch" (13 : Nat) "BoardMachine$Disks$Stretch" "lengths" "[J") ∈ lw_all := lw_g (lw_at lw_m2 222 rfl) rfl
theorem q773 : (Jvm.Cond.fieldLink "BoardMachine$Disks$Stretch" (16 : Nat) "BoardMachine$Disks$Stretch" "blocks" "I") ∈ lw_all := lw_g (lw_at lw_m2 223 rfl) rfl
theorem q774 : (Jvm.Cond.fieldLinkNest "BoardMachine$Disks$Reading" (15 : Nat) "BoardMachine$Disks$Stretch" "size" "J" "BoardMachine") ∈ lw_tbl := lw_at lw_m2 224 rfl
theorem q775 : (Jvm.Cond.fieldLinkNest "BoardMachine$Disks$Writing" (15 : Nat) "BoardMachine$Disks$Stretch" "size" "J" "BoardMachine") ∈ lw_tbl := lw_at lw_m2 225 rfl
theorem q776 : (Jvm.Cond.fieldLink "BoardMachine$Disks$Stretch" (20 : Nat) "BoardMachine$Disks$Stretch" "size" "J") ∈ lw_all := lw_g (lw_at lw_m2 226 rfl) rfl
theorem q777 : (Jvm.Cond.fieldLinkNest "BoardMachine$Disks$Naming" (19 : Nat) "BoardMachine$Disks$Stretch" "size" "J" "BoardMachine") ∈ lw_tbl := lw_at lw_m2 227 rfl
theorem q778 : (Jvm.Cond.fieldLink "BoardMachine$Disks$Stretch" (24 : Nat) "BoardMachine$Disks$Stretch" "block" "I") ∈ lw_all := lw_g (lw_at lw_m2 228 rfl) rfl
theorem q779 : (Jvm.Cond.fieldLink "BoardMachine$Disks$Stretch" (27 : Nat) "BoardMachine$Disks$Stretch" "place" "J") ∈ lw_all := lw_g (lw_at lw_m2 229 rfl) rfl
theorem q780 : (Jvm.Cond.laysFinal "BoardMachine$Disks$Stretch" "BoardMachine$Disks$Stretch" "addresses" "[J") ∈ lw_all := lw_g (lw_at lw_m2 230 rfl) rfl
theorem q781 : (Jvm.Cond.soleField "BoardMachine$Disks$Stretch" "addresses") ∈ lw_all := lw_g (lw_at lw_m2 231 rfl) rfl
theorem q782 : (Jvm.Cond.laysFinal "BoardMachine$Disks$Stretch" "BoardMachine$Disks$Stretch" "lengths" "[J") ∈ lw_all := lw_g (lw_at lw_m2 232 rfl) rfl
theorem q783 : (Jvm.Cond.soleField "BoardMachine$Disks$Stretch" "lengths") ∈ lw_all := lw_g (lw_at lw_m2 233 rfl) rfl
theorem q784 : (Jvm.Cond.lays "BoardMachine$Disks$Stretch" "BoardMachine$Disks$Stretch" "blocks" "I") ∈ lw_all := lw_g (lw_at lw_m2 234 rfl) rfl
theorem q785 : (Jvm.Cond.soleField "BoardMachine$Disks$Stretch" "blocks") ∈ lw_all := lw_g (lw_at lw_m2 235 rfl) rfl
theorem q786 : (Jvm.Cond.lays "BoardMachine$Disks$Stretch" "BoardMachine$Disks$Stretch" "size" "J") ∈ lw_all := lw_g (lw_at lw_m2 236 rfl) rfl
theorem q787 : (Jvm.Cond.soleField "BoardMachine$Disks$Stretch" "size") ∈ lw_all := lw_g (lw_at lw_m2 237 rfl) rfl
theorem q788 : (Jvm.Cond.lays "BoardMachine$Disks$Stretch" "BoardMachine$Disks$Stretch" "block" "I") ∈ lw_all := lw_g (lw_at lw_m2 238 rfl) rfl
theorem q789 : (Jvm.Cond.soleField "BoardMachine$Disks$Stretch" "block") ∈ lw_all := lw_g (lw_at lw_m2 239 rfl) rfl
theorem q790 : (Jvm.Cond.lays "BoardMachine$Disks$Stretch" "BoardMachine$Disks$Stretch" "place" "J") ∈ lw_all := lw_g (lw_at lw_m3 0 rfl) rfl
theorem q791 : (Jvm.Cond.soleField "BoardMachine$Disks$Stretch" "place") ∈ lw_all := lw_g (lw_at lw_m3 1 rfl) rfl
theorem q792 : (Jvm.Cond.superclass "BoardMachine$Disks$Stretch" "java/lang/Object") ∈ lw_all := lw_g (lw_at lw_m3 2 rfl) rfl
theorem q793 : (Jvm.Cond.fieldLink "BoardMachine$Disks$Request" (10 : Nat) "BoardMachine$Disks$Request" "closed" "LBoardMachine$Disks$Stretch;") ∈ lw_all := lw_g (lw_at lw_m3 3 rfl) rfl
theorem q794 : (Jvm.Cond.fieldLinkNest "BoardMachine$Disks$Writing" (9 : Nat) "BoardMachine$Disks$Request" "closed" "LBoardMachine$Disks$Stretch;" "BoardMachine") ∈ lw_tbl := lw_at lw_m3 4 rfl
theorem q795 : (Jvm.Cond.fieldLinkNest "BoardMachine$Disks$Queue" (47 : Nat) "BoardMachine$Disks$Request" "closed" "LBoardMachine$Disks$Stretch;" "BoardMachine") ∈ lw_tbl := lw_at lw_m3 5 rfl
theorem q796 : (Jvm.Cond.fieldLink "BoardMachine$Disks$Request" (16 : Nat) "BoardMachine$Disks$Request" "open" "LBoardMachine$Disks$Stretch;") ∈ lw_all := lw_g (lw_at lw_m3 6 rfl) rfl
theorem q797 : (Jvm.Cond.fieldLinkNest "BoardMachine$Disks$Reading" (9 : Nat) "BoardMachine$Disks$Request" "open" "LBoardMachine$Disks$Stretch;" "BoardMachine") ∈ lw_tbl := lw_at lw_m3 7 rfl
theorem q798 : (Jvm.Cond.fieldLinkNest "BoardMachine$Disks$Naming" (13 : Nat) "BoardMachine$Disks$Request" "open" "LBoardMachine$Disks$Stretch;" "BoardMachine") ∈ lw_tbl := lw_at lw_m3 8 rfl
theorem q799 : (Jvm.Cond.fieldLinkNest "BoardMachine$Disks$Queue" (58 : Nat) "BoardMachine$Disks$Request" "open" "LBoardMachine$Disks$Stretch;" "BoardMachine") ∈ lw_tbl := lw_at lw_m3 9 rfl
theorem q800 : (Jvm.Cond.fieldLinkNest "BoardMachine$Disks$Queue" (61 : Nat) "BoardMachine$Disks$Request" "head" "I" "BoardMachine") ∈ lw_tbl := lw_at lw_m3 10 rfl
theorem q801 : (Jvm.Cond.fieldLinkNest "BoardMachine$Disks$Device" (157 : Nat) "BoardMachine$Disks$Request" "head" "I" "BoardMachine") ∈ lw_tbl := lw_at lw_m3 11 rfl
theorem q802 : (Jvm.Cond.fieldLinkNest "BoardMachine$Disks$Queue" (78 : Nat) "BoardMachine$Disks$Request" "kind" "I" "BoardMachine") ∈ lw_tbl := lw_at lw_m3 12 rfl
theorem q803 : (Jvm.Cond.fieldLinkNest "BoardMachine$Disks$Device" (137 : Nat) "BoardMachine$Disks$Request" "kind" "I" "BoardMachine") ∈ lw_tbl := lw_at lw_m3 13 rfl
theorem q804 : (Jvm.Cond.fieldLinkNest "BoardMachine$Disks$Writing" (21 : Nat) "BoardMachine$Disks$Request" "sector" "J" "BoardMachine") ∈ lw_tbl := lw_at lw_m3 14 rfl
theorem q805 : (Jvm.Cond.fieldLinkNest "BoardMachine$Disks$Reading" (21 : Nat) "BoardMachine$Disks$Request" "sector" "J" "BoardMachine") ∈ lw_tbl := lw_at lw_m3 15 rfl
theorem q806 : (Jvm.Cond.fieldLinkNest "BoardMachine$Disks$Queue" (81 : Nat) "BoardMachine$Disks$Request" "sector" "J" "BoardMachine") ∈ lw_tbl := lw_at lw_m3 16 rfl
theorem q807 : (Jvm.Cond.fieldLinkNest "BoardMachine$Disks$Queue" (88 : Nat) "BoardMachine$Disks$Request" "result" "J" "BoardMachine") ∈ lw_tbl := lw_at lw_m3 17 rfl
theorem q808 : (Jvm.Cond.fieldLinkNest "BoardMachine$Disks$Device" (147 : Nat) "BoardMachine$Disks$Request" "result" "J" "BoardMachine") ∈ lw_tbl := lw_at lw_m3 18 rfl
theorem q809 : (Jvm.Cond.fieldLinkNest "BoardMachine$Disks$Naming" (53 : Nat) "BoardMachine$Disks$Request" "written" "J" "BoardMachine") ∈ lw_tbl := lw_at lw_m3 19 rfl
theorem q810 : (Jvm.Cond.fieldLinkNest "BoardMachine$Disks$Reading" (44 : Nat) "BoardMachine$Disks$Request" "written" "J" "BoardMachine") ∈ lw_tbl := lw_at lw_m3 20 rfl
theorem q811 : (Jvm.Cond.fieldLinkNest "BoardMachine$Disks$Device" (140 : Nat) "BoardMachine$Disks$Request" "written" "J" "BoardMachine") ∈ lw_tbl := lw_at lw_m3 21 rfl
theorem q812 : (Jvm.Cond.laysFinal "BoardMachine$Disks$Request" "BoardMachine$Disks$Request" "closed" "LBoardMachine$Disks$Stretch;") ∈ lw_all := lw_g (lw_at lw_m3 22 rfl) rfl
theorem q813 : (Jvm.Cond.soleField "BoardMachine$Disks$Request" "closed") ∈ lw_all := lw_g (lw_at lw_m3 23 rfl) rfl
theorem q814 : (Jvm.Cond.laysFinal "BoardMachine$Disks$Request" "BoardMachine$Disks$Request" "open" "LBoardMachine$Disks$Stretch;") ∈ lw_all := lw_g (lw_at lw_m3 24 rfl) rfl
theorem q815 : (Jvm.Cond.soleField "BoardMachine$Disks$Request" "open") ∈ lw_all := lw_g (lw_at lw_m3 25 rfl) rfl
theorem q816 : (Jvm.Cond.lays "BoardMachine$Disks$Request" "BoardMachine$Disks$Request" "head" "I") ∈ lw_all := lw_g (lw_at lw_m3 26 rfl) rfl
theorem q817 : (Jvm.Cond.soleField "BoardMachine$Disks$Request" "head") ∈ lw_all := lw_g (lw_at lw_m3 27 rfl) rfl
theorem q818 : (Jvm.Cond.lays "BoardMachine$Disks$Request" "BoardMachine$Disks$Request" "kind" "I") ∈ lw_all := lw_g (lw_at lw_m3 28 rfl) rfl
theorem q819 : (Jvm.Cond.soleField "BoardMachine$Disks$Request" "kind") ∈ lw_all := lw_g (lw_at lw_m3 29 rfl) rfl
theorem q820 : (Jvm.Cond.lays "BoardMachine$Disks$Request" "BoardMachine$Disks$Request" "sector" "J") ∈ lw_all := lw_g (lw_at lw_m3 30 rfl) rfl
theorem q821 : (Jvm.Cond.soleField "BoardMachine$Disks$Request" "sector") ∈ lw_all := lw_g (lw_at lw_m3 31 rfl) rfl
theorem q822 : (Jvm.Cond.lays "BoardMachine$Disks$Request" "BoardMachine$Disks$Request" "result" "J") ∈ lw_all := lw_g (lw_at lw_m3 32 rfl) rfl
theorem q823 : (Jvm.Cond.soleField "BoardMachine$Disks$Request" "result") ∈ lw_all := lw_g (lw_at lw_m3 33 rfl) rfl
theorem q824 : (Jvm.Cond.lays "BoardMachine$Disks$Request" "BoardMachine$Disks$Request" "written" "J") ∈ lw_all := lw_g (lw_at lw_m3 34 rfl) rfl
theorem q825 : (Jvm.Cond.soleField "BoardMachine$Disks$Request" "written") ∈ lw_all := lw_g (lw_at lw_m3 35 rfl) rfl
theorem q826 : (Jvm.Cond.superclass "BoardMachine$Disks$Request" "java/lang/Object") ∈ lw_all := lw_g (lw_at lw_m3 36 rfl) rfl
theorem q827 : (Jvm.Cond.classLink "BoardMachine$Disks$Device" (25 : Nat) "BoardMachine$Disks$Kind") ∈ lw_all := lw_g (lw_at lw_m3 37 rfl) rfl
theorem q828 : (Jvm.Cond.arrayOver (Jvm.ClassFile.FieldType.object "BoardMachine$Disks$Kind")) ∈ lw_tbl := lw_at lw_m3 38 rfl
theorem q829 : (Jvm.Cond.classLink "BoardMachine$Disks$Device" (35 : Nat) "BoardMachine$Disks$Disk") ∈ lw_all := lw_g (lw_at lw_m3 39 rfl) rfl
theorem q830 : (Jvm.Cond.instantiable "BoardMachine$Disks$Disk" (3 : Nat)) ∈ lw_all := lw_g (lw_at lw_m3 40 rfl) rfl
theorem q831 : (Jvm.Cond.methodLink "BoardMachine$Disks$Device" (37 : Nat) ({ cls := "BoardMachine$Disks$Disk", name := "<init>", desc := "(I)V" } : Jvm.MethodName)) ∈ lw_all := lw_g (lw_at lw_m3 41 rfl) rfl
theorem q832 : (Jvm.Cond.instanceMethod ({ cls := "BoardMachine$Disks$Disk", name := "<init>", desc := "(I)V" } : Jvm.MethodName)) ∈ lw_all := lw_g (lw_at lw_m3 42 rfl) rfl
theorem q833 : (Jvm.Cond.code ({ cls := "BoardMachine$Disks$Disk", name := "<init>", desc := "(I)V" } : Jvm.MethodName) prog_18_method_1_code (2 : Nat) (Option.none : Option Jvm.ClassFile.FieldType)) ∈ lw_all := lw_g (lw_at lw_m3 43 rfl) rfl
theorem q834 : (Jvm.Cond.methodLink "BoardMachine$Disks$Disk" (3 : Nat) ({ cls := "java/lang/Object", name := "<init>", desc := "()V" } : Jvm.MethodName)) ∈ lw_all := lw_g (lw_at lw_m3 44 rfl) rfl
theorem q835 : (Jvm.Cond.fieldLink "BoardMachine$Disks$Disk" (9 : Nat) "BoardMachine$Disks$Disk" "sectors" "I") ∈ lw_all := lw_g (lw_at lw_m3 45 rfl) rfl
theorem q836 : (Jvm.Cond.fieldLinkNest "BoardMachine$Disks$Device" (74 : Nat) "BoardMachine$Disks$Disk" "sectors" "I" "BoardMachine") ∈ lw_tbl := lw_at lw_m3 46 rfl
theorem q837 : (Jvm.Cond.fieldLink "BoardMachine$Disks$Disk" (15 : Nat) "BoardMachine$Disks$Disk" "words" "[J") ∈ lw_all := lw_g (lw_at lw_m3 47 rfl) rfl
theorem q838 : (Jvm.Cond.fieldLinkNest "BoardMachine$Disks$Writing" (44 : Nat) "BoardMachine$Disks$Disk" "changed" "I" "BoardMachine") ∈ lw_tbl := lw_at lw_m3 48 rfl
theorem q839 : (Jvm.Cond.fieldLinkNest "BoardMachine" (210 : Nat) "BoardMachine$Disks$Disk" "changed" "I" "BoardMachine") ∈ lw_tbl := lw_at lw_m3 49 rfl
theorem q840 : (Jvm.Cond.laysFinal "BoardMachine$Disks$Disk" "BoardMachine$Disks$Disk" "sectors" "I") ∈ lw_all := lw_g (lw_at lw_m3 50 rfl) rfl
theorem q841 : (Jvm.Cond.soleField "BoardMachine$Disks$Disk" "sectors") ∈ lw_all := lw_g (lw_at lw_m3 51 rfl) rfl
theorem q842 : (Jvm.Cond.laysFinal "BoardMachine$Disks$Disk" "BoardMachine$Disks$Disk" "words" "[J") ∈ lw_all := lw_g (lw_at lw_m3 52 rfl) rfl
theorem q843 : (Jvm.Cond.soleField "BoardMachine$Disks$Disk" "words") ∈ lw_all := lw_g (lw_at lw_m3 53 rfl) rfl
theorem q844 : (Jvm.Cond.lays "BoardMachine$Disks$Disk" "BoardMachine$Disks$Disk" "changed" "I") ∈ lw_all := lw_g (lw_at lw_m3 54 rfl) rfl
theorem q845 : (Jvm.Cond.soleField "BoardMachine$Disks$Disk" "changed") ∈ lw_all := lw_g (lw_at lw_m3 55 rfl) rfl
theorem q846 : (Jvm.Cond.superclass "BoardMachine$Disks$Disk" "java/lang/Object") ∈ lw_all := lw_g (lw_at lw_m3 56 rfl) rfl
theorem q847 : (Jvm.Cond.classLink "BoardMachine$Disks$Device" (44 : Nat) "BoardMachine$Disks$Reading") ∈ lw_all := lw_g (lw_at lw_m3 57 rfl) rfl
theorem q848 : (Jvm.Cond.instantiable "BoardMachine$Disks$Reading" (0 : Nat)) ∈ lw_all := lw_g (lw_at lw_m3 58 rfl) rfl
theorem q849 : (Jvm.Cond.methodLinkNest "BoardMachine$Disks$Device" (46 : Nat) ({ cls := "BoardMachine$Disks$Reading", name := "<init>", desc := "()V" } : Jvm.MethodName) "BoardMachine") ∈ lw_tbl := lw_at lw_m3 59 rfl
theorem q850 : (Jvm.Cond.instanceMethod ({ cls := "BoardMachine$Disks$Reading", name := "<init>", desc := "()V" } : Jvm.MethodName)) ∈ lw_all := lw_g (lw_at lw_m3 60 rfl) rfl
theorem q851 : (Jvm.Cond.code ({ cls := "BoardMachine$Disks$Reading", name := "<init>", desc := "()V" } : Jvm.MethodName) prog_23_method_1_code (1 : Nat) (Option.none : Option Jvm.ClassFile.FieldType)) ∈ lw_all := lw_g (lw_at lw_m3 61 rfl) rfl
theorem q852 : (Jvm.Cond.methodLinkNest "BoardMachine$Disks$Reading" (3 : Nat) ({ cls := "BoardMachine$Disks$Kind", name := "<init>", desc := "()V" } : Jvm.MethodName) "BoardMachine") ∈ lw_tbl := lw_at lw_m3 62 rfl
theorem q853 : (Jvm.Cond.instanceMethod ({ cls := "BoardMachine$Disks$Kind", name := "<init>", desc := "()V" } : Jvm.MethodName)) ∈ lw_all := lw_g (lw_at lw_m3 63 rfl) rfl
theorem q854 : (Jvm.Cond.code ({ cls := "BoardMachine$Disks$Kind", name := "<init>", desc := "()V" } : Jvm.MethodName) prog_20_method_1_code (1 : Nat) (Option.none : Option Jvm.ClassFile.FieldType)) ∈ lw_all := lw_g (lw_at lw_m3 64 rfl) rfl
theorem q855 : (Jvm.Cond.methodLink "BoardMachine$Disks$Kind" (1 : Nat) ({ cls := "java/lang/Object", name := "<init>", desc := "()V" } : Jvm.MethodName)) ∈ lw_all := lw_g (lw_at lw_m3 65 rfl) rfl
theorem q856 : (Jvm.Cond.superclass "BoardMachine$Disks$Reading" "BoardMachine$Disks$Kind") ∈ lw_all := lw_g (lw_at lw_m3 66 rfl) rfl
theorem q857 : (Jvm.Cond.classLink "BoardMachine$Disks$Device" (47 : Nat) "BoardMachine$Disks$Writing") ∈ lw_all := lw_g (lw_at lw_m3 67 rfl) rfl
theorem q858 : (Jvm.Cond.instantiable "BoardMachine$Disks$Writing" (0 : Nat)) ∈ lw_all := lw_g (lw_at lw_m3 68 rfl) rfl
theorem q859 : (Jvm.Cond.methodLinkNest "BoardMachine$Disks$Device" (49 : Nat) ({ cls := "BoardMachine$Disks$Writing", name := "<init>", desc := "()V" } : Jvm.MethodName) "BoardMachine") ∈ lw_tbl := lw_at lw_m3 69 rfl
theorem q860 : (Jvm.Cond.instanceMethod ({ cls := "BoardMachine$Disks$Writing", name := "<init>", desc := "()V" } : Jvm.MethodName)) ∈ lw_all := lw_g (lw_at lw_m3 70 rfl) rfl
theorem q861 : (Jvm.Cond.code ({ cls := "BoardMachine$Disks$Writing", name := "<init>", desc := "()V" } : Jvm.MethodName) prog_26_method_1_code (1 : Nat) (Option.none : Option Jvm.ClassFile.FieldType)) ∈ lw_all := lw_g (lw_at lw_m3 71 rfl) rfl
theorem q862 : (Jvm.Cond.methodLinkNest "BoardMachine$Disks$Writing" (3 : Nat) ({ cls := "BoardMachine$Disks$Kind", name := "<init>", desc := "()V" } : Jvm.MethodName) "BoardMachine") ∈ lw_tbl := lw_at lw_m3 72 rfl
theorem q863 : (Jvm.Cond.superclass "BoardMachine$Disks$Writing" "BoardMachine$Disks$Kind") ∈ lw_all := lw_g (lw_at lw_m3 73 rfl) rfl
theorem q864 : (Jvm.Cond.classLink "BoardMachine$Disks$Device" (50 : Nat) "BoardMachine$Disks$Flushing") ∈ lw_all := lw_g (lw_at lw_m3 74 rfl) rfl
theorem q865 : (Jvm.Cond.instantiable "BoardMachine$Disks$Flushing" (0 : Nat)) ∈ lw_all := lw_g (lw_at lw_m3 75 rfl) rfl
theorem q866 : (Jvm.Cond.methodLinkNest "BoardMachine$Disks$Device" (52 : Nat) ({ cls := "BoardMachine$Disks$Flushing", name := "<init>", desc := "()V" } : Jvm.MethodName) "BoardMachine") ∈ lw_tbl := lw_at lw_m3 76 rfl
theorem q867 : (Jvm.Cond.instanceMethod ({ cls := "BoardMachine$Disks$Flushing", name := "<init>", desc := "()V" } : Jvm.MethodName)) ∈ lw_all := lw_g (lw_at lw_m3 77 rfl) rfl
theorem q868 : (Jvm.Cond.code ({ cls := "BoardMachine$Disks$Flushing", name := "<init>", desc := "()V" } : Jvm.MethodName) prog_19_method_1_code (1 : Nat) (Option.none : Option Jvm.ClassFile.FieldType)) ∈ lw_all := lw_g (lw_at lw_m3 78 rfl) rfl
theorem q869 : (Jvm.Cond.methodLinkNest "BoardMachine$Disks$Flushing" (3 : Nat) ({ cls := "BoardMachine$Disks$Kind", name := "<init>", desc := "()V" } : Jvm.MethodName) "BoardMachine") ∈ lw_tbl := lw_at lw_m3 79 rfl
theorem q870 : (Jvm.Cond.superclass "BoardMachine$Disks$Flushing" "BoardMachine$Disks$Kind") ∈ lw_all := lw_g (lw_at lw_m3 80 rfl) rfl
theorem q871 : (Jvm.Cond.classLink "BoardMachine$Disks$Device" (53 : Nat) "BoardMachine$Disks$Naming") ∈ lw_all := lw_g (lw_at lw_m3 81 rfl) rfl
theorem q872 : (Jvm.Cond.instantiable "BoardMachine$Disks$Naming" (0 : Nat)) ∈ lw_all := lw_g (lw_at lw_m3 82 rfl) rfl
theorem q873 : (Jvm.Cond.methodLinkNest "BoardMachine$Disks$Device" (55 : Nat) ({ cls := "BoardMachine$Disks$Naming", name := "<init>", desc := "()V" } : Jvm.MethodName) "BoardMachine") ∈ lw_tbl := lw_at lw_m3 83 rfl
theorem q874 : (Jvm.Cond.instanceMethod ({ cls := "BoardMachine$Disks$Naming", name := "<init>", desc := "()V" } : Jvm.MethodName)) ∈ lw_all := lw_g (lw_at lw_m3 84 rfl) rfl
theorem q875 : (Jvm.Cond.code ({ cls := "BoardMachine$Disks$Naming", name := "<init>", desc := "()V" } : Jvm.MethodName) prog_21_method_1_code (1 : Nat) (Option.none : Option Jvm.ClassFile.FieldType)) ∈ lw_all := lw_g (lw_at lw_m3 85 rfl) rfl
theorem q876 : (Jvm.Cond.methodLinkNest "BoardMachine$Disks$Naming" (3 : Nat) ({ cls := "BoardMachine$Disks$Kind", name := "<init>", desc := "()V" } : Jvm.MethodName) "BoardMachine") ∈ lw_tbl := lw_at lw_m3 86 rfl
theorem q877 : (Jvm.Cond.superclass "BoardMachine$Disks$Naming" "BoardMachine$Disks$Kind") ∈ lw_all := lw_g (lw_at lw_m3 87 rfl) rfl
theorem q878 : (Jvm.Cond.fieldLink "BoardMachine$Disks$Device" (31 : Nat) "BoardMachine$Disks$Device" "memory" "LBoardMachine$Disks$Bytes;") ∈ lw_all := lw_g (lw_at lw_m3 88 rfl) rfl
theorem q879 : (Jvm.Cond.fieldLink "BoardMachine$Disks$Device" (40 : Nat) "BoardMachine$Disks$Device" "disk" "LBoardMachine$Disks$Disk;") ∈ lw_all := lw_g (lw_at lw_m3 89 rfl) rfl
theorem q880 : (Jvm.Cond.fieldLinkNest "BoardMachine$Machine" (118 : Nat) "BoardMachine$Disks$Device" "disk" "LBoardMachine$Disks$Disk;" "BoardMachine") ∈ lw_tbl := lw_at lw_m3 90 rfl
theorem q881 : (Jvm.Cond.fieldLinkNest "BoardMachine" (174 : Nat) "BoardMachine$Disks$Device" "disk" "LBoardMachine$Disks$Disk;" "BoardMachine") ∈ lw_tbl := lw_at lw_m3 91 rfl
theorem q882 : (Jvm.Cond.fieldLink "BoardMachine$Disks$Device" (12 : Nat) "BoardMachine$Disks$Device" "queue" "LBoardMachine$Disks$Queue;") ∈ lw_all := lw_g (lw_at lw_m3 92 rfl) rfl
theorem q883 : (Jvm.Cond.fieldLink "BoardMachine$Disks$Device" (21 : Nat) "BoardMachine$Disks$Device" "request" "LBoardMachine$Disks$Request;") ∈ lw_all := lw_g (lw_at lw_m3 93 rfl) rfl
theorem q884 : (Jvm.Cond.fieldLink "BoardMachine$Disks$Device" (27 : Nat) "BoardMachine$Disks$Device" "kinds" "[LBoardMachine$Disks$Kind;") ∈ lw_all := lw_g (lw_at lw_m3 94 rfl) rfl
theorem q885 : (Jvm.Cond.fieldLink "BoardMachine$Disks$Device" (57 : Nat) "BoardMachine$Disks$Device" "offered" "I") ∈ lw_all := lw_g (lw_at lw_m3 95 rfl) rfl
theorem q886 : (Jvm.Cond.fieldLink "BoardMachine$Disks$Device" (61 : Nat) "BoardMachine$Disks$Device" "selected" "I") ∈ lw_all := lw_g (lw_at lw_m3 96 rfl) rfl
theorem q887 : (Jvm.Cond.fieldLink "BoardMachine$Disks$Device" (71 : Nat) "BoardMachine$Disks$Device" "state" "I") ∈ lw_all := lw_g (lw_at lw_m3 97 rfl) rfl
theorem q888 : (Jvm.Cond.fieldLink "BoardMachine$Disks$Device" (68 : Nat) "BoardMachine$Disks$Device" "causes" "I") ∈ lw_all := lw_g (lw_at lw_m3 98 rfl) rfl
theorem q889 : (Jvm.Cond.fieldLinkNest "BoardMachine$Board" (99 : Nat) "BoardMachine$Disks$Device" "causes" "I" "BoardMachine") ∈ lw_tbl := lw_at lw_m3 99 rfl
theorem q890 : (Jvm.Cond.fieldLink "BoardMachine$Disks$Device" (97 : Nat) "BoardMachine$Disks$Device" "answered" "I") ∈ lw_all := lw_g (lw_at lw_m3 100 rfl) rfl
theorem q891 : (Jvm.Cond.laysFinal "BoardMachine$Disks$Device" "BoardMachine$Disks$Device" "memory" "LBoardMachine$Disks$Bytes;") ∈ lw_all := lw_g (lw_at lw_m3 101 rfl) rfl
theorem q892 : (Jvm.Cond.soleField "BoardMachine$Disks$Device" "memory") ∈ lw_all := lw_g (lw_at lw_m3 102 rfl) rfl
theorem q893 : (Jvm.Cond.laysFinal "BoardMachine$Disks$Device" "BoardMachine$Disks$Device" "disk" "LBoardMachine$Disks$Disk;") ∈ lw_all := lw_g (lw_at lw_m3 103 rfl) rfl
theorem q894 : (Jvm.Cond.soleField "BoardMachine$Disks$Device" "disk") ∈ lw_all := lw_g (lw_at lw_m3 104 rfl) rfl
theorem q895 : (Jvm.Cond.laysFinal "BoardMachine$Disks$Device" "BoardMachine$Disks$Device" "queue" "LBoardMachine$Disks$Queue;") ∈ lw_all := lw_g (lw_at lw_m3 105 rfl) rfl
theorem q896 : (Jvm.Cond.soleField "BoardMachine$Disks$Device" "queue") ∈ lw_all := lw_g (lw_at lw_m3 106 rfl) rfl
theorem q897 : (Jvm.Cond.laysFinal "BoardMachine$Disks$Device" "BoardMachine$Disks$Device" "request" "LBoardMachine$Disks$Request;") ∈ lw_all := lw_g (lw_at lw_m3 107 rfl) rfl
theorem q898 : (Jvm.Cond.soleField "BoardMachine$Disks$Device" "request") ∈ lw_all := lw_g (lw_at lw_m3 108 rfl) rfl
theorem q899 : (Jvm.Cond.laysFinal "BoardMachine$Disks$Device" "BoardMachine$Disks$Device" "kinds" "[LBoardMachine$Disks$Kind;") ∈ lw_all := lw_g (lw_at lw_m3 109 rfl) rfl
theorem q900 : (Jvm.Cond.soleField "BoardMachine$Disks$Device" "kinds") ∈ lw_all := lw_g (lw_at lw_m3 110 rfl) rfl
theorem q901 : (Jvm.Cond.lays "BoardMachine$Disks$Device" "BoardMachine$Disks$Device" "offered" "I") ∈ lw_all := lw_g (lw_at lw_m3 111 rfl) rfl
theorem q902 : (Jvm.Cond.soleField "BoardMachine$Disks$Device" "offered") ∈ lw_all := lw_g (lw_at lw_m3 112 rfl) rfl
theorem q903 : (Jvm.Cond.lays "BoardMachine$Disks$Device" "BoardMachine$Disks$Device" "selected" "I") ∈ lw_all := lw_g (lw_at lw_m3 113 rfl) rfl
theorem q904 : (Jvm.Cond.soleField "BoardMachine$Disks$Device" "selected") ∈ lw_all := lw_g (lw_at lw_m3 114 rfl) rfl
theorem q905 : (Jvm.Cond.lays "BoardMachine$Disks$Device" "BoardMachine$Disks$Device" "state" "I") ∈ lw_all := lw_g (lw_at lw_m3 115 rfl) rfl
theorem q906 : (Jvm.Cond.soleField "BoardMachine$Disks$Device" "state") ∈ lw_all := lw_g (lw_at lw_m3 116 rfl) rfl
theorem q907 : (Jvm.Cond.lays "BoardMachine$Disks$Device" "BoardMachine$Disks$Device" "causes" "I") ∈ lw_all := lw_g (lw_at lw_m3 117 rfl) rfl
theorem q908 : (Jvm.Cond.soleField "BoardMachine$Disks$Device" "causes") ∈ lw_all := lw_g (lw_at lw_m3 118 rfl) rfl
theorem q909 : (Jvm.Cond.lays "BoardMachine$Disks$Device" "BoardMachine$Disks$Device" "answered" "I") ∈ lw_all := lw_g (lw_at lw_m3 119 rfl) rfl
theorem q910 : (Jvm.Cond.soleField "BoardMachine$Disks$Device" "answered") ∈ lw_all := lw_g (lw_at lw_m3 120 rfl) rfl
theorem q911 : (Jvm.Cond.superclass "BoardMachine$Disks$Device" "java/lang/Object") ∈ lw_all := lw_g (lw_at lw_m3 121 rfl) rfl
theorem q912 : (Jvm.Cond.methodLink "BoardMachine$Board" (34 : Nat) ({ cls := "BoardMachine$Window", name := "values", desc := "()[LBoardMachine$Window;" } : Jvm.MethodName)) ∈ lw_all := lw_g (lw_at lw_m3 122 rfl) rfl
theorem q913 : (Jvm.Cond.static ({ cls := "BoardMachine$Window", name := "values", desc := "()[LBoardMachine$Window;" } : Jvm.MethodName)) ∈ lw_all := lw_g (lw_at lw_m3 123 rfl) rfl
theorem q914 : (Jvm.Cond.code ({ cls := "BoardMachine$Window", name := "values", desc := "()[LBoardMachine$Window;" } : Jvm.MethodName) prog_109_method_1_code (0 : Nat) (Option.some (Jvm.ClassFile.FieldType.array (Jvm.ClassFile.FieldType.object "BoardMachine$Window")))) ∈ lw_all := lw_g (lw_at lw_m3 124 rfl) rfl
theorem q915 : (Jvm.Cond.fieldLink "BoardMachine$Window" (19 : Nat) "BoardMachine$Window" "$VALUES" "[LBoardMachine$Window;") ∈ lw_all := lw_g (lw_at lw_m3 125 rfl) rfl
theorem q916 : (Jvm.Cond.laysStatic "BoardMachine$Window" "$VALUES" "[LBoardMachine$Window;") ∈ lw_tbl := lw_at lw_m3 126 rfl
theorem q917 : (Jvm.Cond.methodLink "BoardMachine$Window" (23 : Nat) ({ cls := "[LBoardMachine$Window;", name := "clone", desc := "()Ljava/lang/Object;" } : Jvm.MethodName)) ∈ lw_all := lw_g (lw_at lw_m3 127 rfl) rfl
theorem q918 : (Jvm.Cond.sameMethod "[LBoardMachine$Window;" "java/lang/Object" "clone" "()Ljava/lang/Object;") ∈ lw_all := lw_g (lw_at lw_m3 128 rfl) rfl
theorem q919 : (Jvm.Cond.native ({ cls := "java/lang/Object", name := "clone", desc := "()Ljava/lang/Object;" } : Jvm.MethodName)) ∈ lw_all := lw_g (lw_at lw_m3 129 rfl) rfl
theorem q920 : (Jvm.Cond.instanceMethod ({ cls := "java/lang/Object", name := "clone", desc := "()Ljava/lang/Object;" } : Jvm.MethodName)) ∈ lw_all := lw_g (lw_at lw_m3 130 rfl) rfl
theorem q921 : (Jvm.Cond.selects "[LBoardMachine$Window;" ({ cls := "[LBoardMachine$Window;", name := "clone", desc := "()Ljava/lang/Object;" } : Jvm.MethodName) ({ cls := "java/lang/Object", name := "clone", desc := "()Ljava/lang/Object;" } : Jvm.MethodName)) ∈ lw_all := lw_g (lw_at lw_m3 131 rfl) rfl
theorem q922 : (Jvm.Cond.castable "[LBoardMachine$Window;" "java/lang/Cloneable") ∈ lw_tbl := lw_at lw_m3 132 rfl
theorem q923 : (Jvm.Cond.arrayOver (Jvm.ClassFile.FieldType.object "BoardMachine$Window")) ∈ lw_tbl := lw_at lw_m3 133 rfl
theorem q924 : (Jvm.Cond.classLink "BoardMachine$Window" (24 : Nat) "[LBoardMachine$Window;") ∈ lw_all := lw_g (lw_at lw_m3 134 rfl) rfl
theorem q925 : (Jvm.Cond.classLink "BoardMachine$Board" (48 : Nat) "BoardMachine$Signals$SignalUnit") ∈ lw_all := lw_g (lw_at lw_m3 135 rfl) rfl
theorem q926 : (Jvm.Cond.instantiable "BoardMachine$Signals$SignalUnit" (5 : Nat)) ∈ lw_all := lw_g (lw_at lw_m3 136 rfl) rfl
theorem q927 : (Jvm.Cond.methodLink "BoardMachine$Board" (50 : Nat) ({ cls := "BoardMachine$Signals$SignalUnit", name := "<init>", desc := "(I)V" } : Jvm.MethodName)) ∈ lw_all := lw_g (lw_at lw_m3 137 rfl) rfl
theorem q928 : (Jvm.Cond.instanceMethod ({ cls := "BoardMachine$Signals$SignalUnit", name := "<init>", desc := "(I)V" } : Jvm.MethodName)) ∈ lw_all := lw_g (lw_at lw_m3 138 rfl) rfl
theorem q929 : (Jvm.Cond.code ({ cls := "BoardMachine$Signals$SignalUnit", name := "<init>", desc := "(I)V" } : Jvm.MethodName) prog_92_method_1_code (2 : Nat) (Option.none : Option Jvm.ClassFile.FieldType)) ∈ lw_all := lw_g (lw_at lw_m3 139 rfl) rfl
theorem q930 : (Jvm.Cond.methodLink "BoardMachine$Signals$SignalUnit" (3 : Nat) ({ cls := "java/lang/Object", name := "<init>", desc := "()V" } : Jvm.MethodName)) ∈ lw_all := lw_g (lw_at lw_m3 140 rfl) rfl
theorem q931 : (Jvm.Cond.classLink "BoardMachine$Signals$SignalUnit" (9 : Nat) "BoardMachine$Signals$Serial") ∈ lw_all := lw_g (lw_at lw_m3 141 rfl) rfl
theorem q932 : (Jvm.Cond.instantiable "BoardMachine$Signals$Serial" (9 : Nat)) ∈ lw_all := lw_g (lw_at lw_m3 142 rfl) rfl
theorem q933 : (Jvm.Cond.methodLinkNest "BoardMachine$Signals$SignalUnit" (11 : Nat) ({ cls := "BoardMachine$Signals$Serial", name := "<init>", desc := "()V" } : Jvm.MethodName) "BoardMachine") ∈ lw_tbl := lw_at lw_m3 143 rfl
theorem q934 : (Jvm.Cond.instanceMethod ({ cls := "BoardMachine$Signals$Serial", name := "<init>", desc := "()V" } : Jvm.MethodName)) ∈ lw_all := lw_g (lw_at lw_m3 144 rfl) rfl
theorem q935 : (Jvm.Cond.code ({ cls := "BoardMachine$Signals$Serial", name := "<init>", desc := "()V" } : Jvm.MethodName) prog_91_method_1_code (1 : Nat) (Option.none : Option Jvm.ClassFile.FieldType)) ∈ lw_all := lw_g (lw_at lw_m3 145 rfl) rfl
theorem q936 : (Jvm.Cond.methodLink "BoardMachine$Signals$Serial" (3 : Nat) ({ cls := "java/lang/Object", name := "<init>", desc := "()V" } : Jvm.MethodName)) ∈ lw_all := lw_g (lw_at lw_m3 146 rfl) rfl
theorem q937 : (Jvm.Cond.fieldLink "BoardMachine$Signals$Serial" (9 : Nat) "BoardMachine$Signals$Serial" "in" "[I") ∈ lw_all := lw_g (lw_at lw_m3 147 rfl) rfl
theorem q938 : (Jvm.Cond.fieldLink "BoardMachine$Signals$Serial" (34 : Nat) "BoardMachine$Signals$Serial" "head" "I") ∈ lw_all := lw_g (lw_at lw_m3 148 rfl) rfl
theorem q939 : (Jvm.Cond.fieldLink "BoardMachine$Signals$Serial" (26 : Nat) "BoardMachine$Signals$Serial" "count" "I") ∈ lw_all := lw_g (lw_at lw_m3 149 rfl) rfl
theorem q940 : (Jvm.Cond.fieldLink "BoardMachine$Signals$Serial" (15 : Nat) "BoardMachine$Signals$Serial" "out" "[B") ∈ lw_all := lw_g (lw_at lw_m3 150 rfl) rfl
theorem q941 : (Jvm.Cond.fieldLink "BoardMachine$Signals$Serial" (68 : Nat) "BoardMachine$Signals$Serial" "sent" "J") ∈ lw_all := lw_g (lw_at lw_m3 151 rfl) rfl
theorem q942 : (Jvm.Cond.fieldLinkNest "BoardMachine" (198 : Nat) "BoardMachine$Signals$Serial" "sent" "J" "BoardMachine") ∈ lw_tbl := lw_at lw_m3 152 rfl
theorem q943 : (Jvm.Cond.fieldLink "BoardMachine$Signals$Serial" (19 : Nat) "BoardMachine$Signals$Serial" "held" "[I") ∈ lw_all := lw_g (lw_at lw_m3 153 rfl) rfl
theorem q944 : (Jvm.Cond.fieldLink "BoardMachine$Signals$Serial" (22 : Nat) "BoardMachine$Signals$Serial" "queued" "Z") ∈ lw_all := lw_g (lw_at lw_m3 154 rfl) rfl
theorem q945 : (Jvm.Cond.fieldLink "BoardMachine$Signals$Serial" (37 : Nat) "BoardMachine$Signals$Serial" "overrun" "Z") ∈ lw_all := lw_g (lw_at lw_m3 155 rfl) rfl
theorem q946 : (Jvm.Cond.fieldLink "BoardMachine$Signals$Serial" (44 : Nat) "BoardMachine$Signals$Serial" "emptied" "Z") ∈ lw_all := lw_g (lw_at lw_m3 156 rfl) rfl
theorem q947 : (Jvm.Cond.laysFinal "BoardMachine$Signals$Serial" "BoardMachine$Signals$Serial" "in" "[I") ∈ lw_all := lw_g (lw_at lw_m3 157 rfl) rfl
theorem q948 : (Jvm.Cond.soleField "BoardMachine$Signals$Serial" "in") ∈ lw_all := lw_g (lw_at lw_m3 158 rfl) rfl
theorem q949 : (Jvm.Cond.lays "BoardMachine$Signals$Serial" "BoardMachine$Signals$Serial" "head" "I") ∈ lw_all := lw_g (lw_at lw_m3 159 rfl) rfl
theorem q950 : (Jvm.Cond.soleField "BoardMachine$Signals$Serial" "head") ∈ lw_all := lw_g (lw_at lw_m3 160 rfl) rfl
theorem q951 : (Jvm.Cond.lays "BoardMachine$Signals$Serial" "BoardMachine$Signals$Serial" "count" "I") ∈ lw_all := lw_g (lw_at lw_m3 161 rfl) rfl
theorem q952 : (Jvm.Cond.soleField "BoardMachine$Signals$Serial" "count") ∈ lw_all := lw_g (lw_at lw_m3 162 rfl) rfl
theorem q953 : (Jvm.Cond.laysFinal "BoardMachine$Signals$Serial" "BoardMachine$Signals$Serial" "out" "[B") ∈ lw_all := lw_g (lw_at lw_m3 163 rfl) rfl
theorem q954 : (Jvm.Cond.soleField "BoardMachine$Signals$Serial" "out") ∈ lw_all := lw_g (lw_at lw_m3 164 rfl) rfl
theorem q955 : (Jvm.Cond.lays "BoardMachine$Signals$Serial" "BoardMachine$Signals$Serial" "sent" "J") ∈ lw_all := lw_g (lw_at lw_m3 165 rfl) rfl
theorem q956 : (Jvm.Cond.soleField "BoardMachine$Signals$Serial" "sent") ∈ lw_all := lw_g (lw_at lw_m3 166 rfl) rfl
theorem q957 : (Jvm.Cond.laysFinal "BoardMachine$Signals$Serial" "BoardMachine$Signals$Serial" "held" "[I") ∈ lw_all := lw_g (lw_at lw_m3 167 rfl) rfl
theorem q958 : (Jvm.Cond.soleField "BoardMachine$Signals$Serial" "held") ∈ lw_all := lw_g (lw_at lw_m3 168 rfl) rfl
theorem q959 : (Jvm.Cond.lays "BoardMachine$Signals$Serial" "BoardMachine$Signals$Serial" "queued" "Z") ∈ lw_all := lw_g (lw_at lw_m3 169 rfl) rfl
theorem q960 : (Jvm.Cond.soleField "BoardMachine$Signals$Serial" "queued") ∈ lw_all := lw_g (lw_at lw_m3 170 rfl) rfl
theorem q961 : (Jvm.Cond.lays "BoardMachine$Signals$Serial" "BoardMachine$Signals$Serial" "overrun" "Z") ∈ lw_all := lw_g (lw_at lw_m3 171 rfl) rfl
theorem q962 : (Jvm.Cond.soleField "BoardMachine$Signals$Serial" "overrun") ∈ lw_all := lw_g (lw_at lw_m3 172 rfl) rfl
theorem q963 : (Jvm.Cond.lays "BoardMachine$Signals$Serial" "BoardMachine$Signals$Serial" "emptied" "Z") ∈ lw_all := lw_g (lw_at lw_m3 173 rfl) rfl
theorem q964 : (Jvm.Cond.soleField "BoardMachine$Signals$Serial" "emptied") ∈ lw_all := lw_g (lw_at lw_m3 174 rfl) rfl
theorem q965 : (Jvm.Cond.superclass "BoardMachine$Signals$Serial" "java/lang/Object") ∈ lw_all := lw_g (lw_at lw_m3 175 rfl) rfl
theorem q966 : (Jvm.Cond.arrayClass Jvm.ClassFile.FieldType.int) ∈ lw_all := lw_g (lw_at lw_m3 176 rfl) rfl
theorem q967 : (Jvm.Cond.classLink "BoardMachine$Signals$SignalUnit" (18 : Nat) "BoardMachine$Signals$Device") ∈ lw_all := lw_g (lw_at lw_m3 177 rfl) rfl
theorem q968 : (Jvm.Cond.arrayOver (Jvm.ClassFile.FieldType.object "BoardMachine$Signals$Device")) ∈ lw_tbl := lw_at lw_m3 178 rfl
theorem q969 : (Jvm.Cond.classLink "BoardMachine$Signals$SignalUnit" (28 : Nat) "BoardMachine$Signals$Timer") ∈ lw_all := lw_g (lw_at lw_m3 179 rfl) rfl
theorem q970 : (Jvm.Cond.instantiable "BoardMachine$Signals$Timer" (3 : Nat)) ∈ lw_all := lw_g (lw_at lw_m3 180 rfl) rfl
theorem q971 : (Jvm.Cond.methodLink "BoardMachine$Signals$SignalUnit" (30 : Nat) ({ cls := "BoardMachine$Signals$Timer", name := "<init>", desc := "(I)V" } : Jvm.MethodName)) ∈ lw_all := lw_g (lw_at lw_m3 181 rfl) rfl
theorem q972 : (Jvm.Cond.instanceMethod ({ cls := "BoardMachine$Signals$Timer", name := "<init>", desc := "(I)V" } : Jvm.MethodName)) ∈ lw_all := lw_g (lw_at lw_m3 182 rfl) rfl
theorem q973 : (Jvm.Cond.code ({ cls := "BoardMachine$Signals$Timer", name := "<init>", desc := "(I)V" } : Jvm.MethodName) prog_93_method_1_code (2 : Nat) (Option.none : Option Jvm.ClassFile.FieldType)) ∈ lw_all := lw_g (lw_at lw_m3 183 rfl) rfl
theorem q974 : (Jvm.Cond.methodLink "BoardMachine$Signals$Timer" (3 : Nat) ({ cls := "java/lang/Object", name := "<init>", desc := "()V" } : Jvm.MethodName)) ∈ lw_all := lw_g (lw_at lw_m3 184 rfl) rfl
theorem q975 : (Jvm.Cond.constantLong "BoardMachine$Signals$Timer" (15 : Nat) (-1 : Int64)) ∈ lw_all := lw_g (lw_at lw_m3 185 rfl) rfl
theorem q976 : (Jvm.Cond.fieldLink "BoardMachine$Signals$Timer" (21 : Nat) "BoardMachine$Signals$Timer" "processors" "I") ∈ lw_all := lw_g (lw_at lw_m3 186 rfl) rfl
theorem q977 : (Jvm.Cond.fieldLink "BoardMachine$Signals$Timer" (9 : Nat) "BoardMachine$Signals$Timer" "soft" "[I") ∈ lw_all := lw_g (lw_at lw_m3 187 rfl) rfl
theorem q978 : (Jvm.Cond.fieldLinkNest "BoardMachine$Signals$SignalUnit" (67 : Nat) "BoardMachine$Signals$Timer" "soft" "[I" "BoardMachine") ∈ lw_tbl := lw_at lw_m3 188 rfl
theorem q979 : (Jvm.Cond.fieldLink "BoardMachine$Signals$Timer" (17 : Nat) "BoardMachine$Signals$Timer" "numbers" "[J") ∈ lw_all := lw_g (lw_at lw_m3 189 rfl) rfl
theorem q980 : (Jvm.Cond.fieldLinkNest "BoardMachine$Board" (115 : Nat) "BoardMachine$Signals$Timer" "numbers" "[J" "BoardMachine") ∈ lw_tbl := lw_at lw_m3 190 rfl
theorem q981 : (Jvm.Cond.laysFinal "BoardMachine$Signals$Timer" "BoardMachine$Signals$Timer" "processors" "I") ∈ lw_all := lw_g (lw_at lw_m3 191 rfl) rfl
theorem q982 : (Jvm.Cond.soleField "BoardMachine$Signals$Timer" "processors") ∈ lw_all := lw_g (lw_at lw_m3 192 rfl) rfl
theorem q983 : (Jvm.Cond.laysFinal "BoardMachine$Signals$Timer" "BoardMachine$Signals$Timer" "soft" "[I") ∈ lw_all := lw_g (lw_at lw_m3 193 rfl) rfl
theorem q984 : (Jvm.Cond.soleField "BoardMachine$Signals$Timer" "soft") ∈ lw_all := lw_g (lw_at lw_m3 194 rfl) rfl
theorem q985 : (Jvm.Cond.laysFinal "BoardMachine$Signals$Timer" "BoardMachine$Signals$Timer" "numbers" "[J") ∈ lw_all := lw_g (lw_at lw_m3 195 rfl) rfl
theorem q986 : (Jvm.Cond.soleField "BoardMachine$Signals$Timer" "numbers") ∈ lw_all := lw_g (lw_at lw_m3 196 rfl) rfl
theorem q987 : (Jvm.Cond.superclass "BoardMachine$Signals$Timer" "java/lang/Object") ∈ lw_all := lw_g (lw_at lw_m3 197 rfl) rfl
theorem q988 : (Jvm.Cond.classLink "BoardMachine$Signals$SignalUnit" (37 : Nat) "BoardMachine$Signals$Controller") ∈ lw_all := lw_g (lw_at lw_m3 198 rfl) rfl
theorem q989 : (Jvm.Cond.instantiable "BoardMachine$Signals$Controller" (7 : Nat)) ∈ lw_all := lw_g (lw_at lw_m3 199 rfl) rfl
theorem q990 : (Jvm.Cond.methodLink "BoardMachine$Signals$SignalUnit" (39 : Nat) ({ cls := "BoardMachine$Signals$Controller", name := "<init>", desc := "(I)V" } : Jvm.MethodName)) ∈ lw_all := lw_g (lw_at lw_m3 200 rfl) rfl
theorem q991 : (Jvm.Cond.instanceMethod ({ cls := "BoardMachine$Signals$Controller", name := "<init>", desc := "(I)V" } : Jvm.MethodName)) ∈ lw_all := lw_g (lw_at lw_m3 201 rfl) rfl
theorem q992 : (Jvm.Cond.code ({ cls := "BoardMachine$Signals$Controller", name := "<init>", desc := "(I)V" } : Jvm.MethodName) prog_89_method_1_code (2 : Nat) (Option.none : Option Jvm.ClassFile.FieldType)) ∈ lw_all := lw_g (lw_at lw_m3 202 rfl) rfl
theorem q993 : (Jvm.Cond.methodLink "BoardMachine$Signals$Controller" (3 : Nat) ({ cls := "java/lang/Object", name := "<init>", desc := "()V" } : Jvm.MethodName)) ∈ lw_all := lw_g (lw_at lw_m3 203 rfl) rfl
theorem q994 : (Jvm.Cond.fieldLink "BoardMachine$Signals$Controller" (21 : Nat) "BoardMachine$Signals$Controller" "contexts" "I") ∈ lw_all := lw_g (lw_at lw_m3 204 rfl) rfl
theorem q995 : (Jvm.Cond.fieldLink "BoardMachine$Signals$Controller" (9 : Nat) "BoardMachine$Signals$Controller" "priorities" "[I") ∈ lw_all := lw_g (lw_at lw_m3 205 rfl) rfl
theorem q996 : (Jvm.Cond.fieldLink "BoardMachine$Signals$Controller" (15 : Nat) "BoardMachine$Signals$Controller" "enables" "[I") ∈ lw_all := lw_g (lw_at lw_m3 206 rfl) rfl
theorem q997 : (Jvm.Cond.fieldLink "BoardMachine$Signals$Controller" (18 : Nat) "BoardMachine$Signals$Controller" "thresholds" "[I") ∈ lw_all := lw_g (lw_at lw_m3 207 rfl) rfl
theorem q998 : (Jvm.Cond.fieldLink "BoardMachine$Signals$Controller" (28 : Nat) "BoardMachine$Signals$Controller" "signals" "I") ∈ lw_all := lw_g (lw_at lw_m3 208 rfl) rfl
theorem q999 : (Jvm.Cond.fieldLink "BoardMachine$Signals$Controller" (25 : Nat) "BoardMachine$Signals$Controller" "waiting" "I") ∈ lw_all := lw_g (lw_at lw_m3 209 rfl) rfl
theorem q1000 : (Jvm.Cond.fieldLink "BoardMachine$Signals$Controller" (31 : Nat) "BoardMachine$Signals$Controller" "served" "I") ∈ lw_all := lw_g (lw_at lw_m3 210 rfl) rfl
theorem q1001 : (Jvm.Cond.laysFinal "BoardMachine$Signals$Controller" "BoardMachine$Signals$Controller" "contexts" "I") ∈ lw_all := lw_g (lw_at lw_m3 211 rfl) rfl
theorem q1002 : (Jvm.Cond.soleField "BoardMachine$Signals$Controller" "contexts") ∈ lw_all := lw_g (lw_at lw_m3 212 rfl) rfl
theorem q1003 : (Jvm.Cond.laysFinal "BoardMachine$Signals$Controller" "BoardMachine$Signals$Controller" "priorities" "[I") ∈ lw_all := lw_g (lw_at lw_m3 213 rfl) rfl
theorem q1004 : (Jvm.Cond.soleField "BoardMachine$Signals$Controller" "priorities") ∈ lw_all := lw_g (lw_at lw_m3 214 rfl) rfl
theorem q1005 : (Jvm.Cond.laysFinal "BoardMachine$Signals$Controller" "BoardMachine$Signals$Controller" "enables" "[I") ∈ lw_all := lw_g (lw_at lw_m3 215 rfl) rfl
theorem q1006 : (Jvm.Cond.soleField "BoardMachine$Signals$Controller" "enables") ∈ lw_all := lw_g (lw_at lw_m3 216 rfl) rfl
theorem q1007 : (Jvm.Cond.laysFinal "BoardMachine$Signals$Controller" "BoardMachine$Signals$Controller" "thresholds" "[I") ∈ lw_all := lw_g (lw_at lw_m3 217 rfl) rfl
theorem q1008 : (Jvm.Cond.soleField "BoardMachine$Signals$Controller" "thresholds") ∈ lw_all := lw_g (lw_at lw_m3 218 rfl) rfl
theorem q1009 : (Jvm.Cond.lays "BoardMachine$Signals$Controller" "BoardMachine$Signals$Controller" "signals" "I") ∈ lw_all := lw_g (lw_at lw_m3 219 rfl) rfl
theorem q1010 : (Jvm.Cond.soleField "BoardMachine$Signals$Controller" "signals") ∈ lw_all := lw_g (lw_at lw_m3 220 rfl) rfl
theorem q1011 : (Jvm.Cond.lays "BoardMachine$Signals$Controller" "BoardMachine$Signals$Controller" "waiting" "I") ∈ lw_all := lw_g (lw_at lw_m3 221 rfl) rfl
theorem q1012 : (Jvm.Cond.soleField "BoardMachine$Signals$Controller" "waiting") ∈ lw_all := lw_g (lw_at lw_m3 222 rfl) rfl
theorem q1013 : (Jvm.Cond.lays "BoardMachine$Signals$Controller" "BoardMachine$Signals$Controller" "served" "I") ∈ lw_all := lw_g (lw_at lw_m3 223 rfl) rfl
theorem q1014 : (Jvm.Cond.soleField "BoardMachine$Signals$Controller" "served") ∈ lw_all := lw_g (lw_at lw_m3 224 rfl) rfl
theorem q1015 : (Jvm.Cond.superclass "BoardMachine$Signals$Controller" "java/lang/Object") ∈ lw_all := lw_g (lw_at lw_m3 225 rfl) rfl
theorem q1016 : (Jvm.Cond.fieldLink "BoardMachine$Signals$SignalUnit" (24 : Nat) "BoardMachine$Signals$SignalUnit" "processors" "I") ∈ lw_all := lw_g (lw_at lw_m3 226 rfl) rfl
theorem q1017 : (Jvm.Cond.fieldLink "BoardMachine$Signals$SignalUnit" (33 : Nat) "BoardMachine$Signals$SignalUnit" "timer" "LBoardMachine$Signals$Timer;") ∈ lw_all := lw_g (lw_at lw_m3 227 rfl) rfl
theorem q1018 : (Jvm.Cond.fieldLinkNest "BoardMachine$Board" (111 : Nat) "BoardMachine$Signals$SignalUnit" "timer" "LBoardMachine$Signals$Timer;" "BoardMachine") ∈ lw_tbl := lw_at lw_m3 228 rfl
theorem q1019 : (Jvm.Cond.fieldLink "BoardMachine$Signals$SignalUnit" (40 : Nat) "BoardMachine$Signals$SignalUnit" "controller" "LBoardMachine$Signals$Controller;") ∈ lw_all := lw_g (lw_at lw_m3 229 rfl) rfl
theorem q1020 : (Jvm.Cond.fieldLinkNest "BoardMachine$Board" (95 : Nat) "BoardMachine$Signals$SignalUnit" "controller" "LBoardMachine$Signals$Controller;" "BoardMachine") ∈ lw_tbl := lw_at lw_m3 230 rfl
theorem q1021 : (Jvm.Cond.fieldLink "BoardMachine$Signals$SignalUnit" (12 : Nat) "BoardMachine$Signals$SignalUnit" "serial" "LBoardMachine$Signals$Serial;") ∈ lw_all := lw_g (lw_at lw_m3 231 rfl) rfl
theorem q1022 : (Jvm.Cond.fieldLinkNest "BoardMachine$Machine" (150 : Nat) "BoardMachine$Signals$SignalUnit" "serial" "LBoardMachine$Signals$Serial;" "BoardMachine") ∈ lw_tbl := lw_at lw_m3 232 rfl
theorem q1023 : (Jvm.Cond.fieldLinkNest "BoardMachine" (192 : Nat) "BoardMachine$Signals$SignalUnit" "serial" "LBoardMachine$Signals$Serial;" "BoardMachine") ∈ lw_tbl := lw_at lw_m3 233 rfl
theorem q1024 : (Jvm.Cond.fieldLink "BoardMachine$Signals$SignalUnit" (20 : Nat) "BoardMachine$Signals$SignalUnit" "devices" "[LBoardMachine$Signals$Device;") ∈ lw_all := lw_g (lw_at lw_m3 234 rfl) rfl
theorem q1025 : (Jvm.Cond.laysFinal "BoardMachine$Signals$SignalUnit" "BoardMachine$Signals$SignalUnit" "processors" "I") ∈ lw_all := lw_g (lw_at lw_m3 235 rfl) rfl
theorem q1026 : (Jvm.Cond.soleField "BoardMachine$Signals$SignalUnit" "processors") ∈ lw_all := lw_g (lw_at lw_m3 236 rfl) rfl
theorem q1027 : (Jvm.Cond.laysFinal "BoardMachine$Signals$SignalUnit" "BoardMachine$Signals$SignalUnit" "timer" "LBoardMachine$Signals$Timer;") ∈ lw_all := lw_g (lw_at lw_m3 237 rfl) rfl
theorem q1028 : (Jvm.Cond.soleField "BoardMachine$Signals$SignalUnit" "timer") ∈ lw_all := lw_g (lw_at lw_m3 238 rfl) rfl
theorem q1029 : (Jvm.Cond.laysFinal "BoardMachine$Signals$SignalUnit" "BoardMachine$Signals$SignalUnit" "controller" "LBoardMachine$Signals$Controller;") ∈ lw_all := lw_g (lw_at lw_m3 239 rfl) rfl
theorem q1030 : (Jvm.Cond.soleField "BoardMachine$Signals$SignalUnit" "controller") ∈ lw_all := lw_g (lw_at lw_m4 0 rfl) rfl
theorem q1031 : (Jvm.Cond.laysFinal "BoardMachine$Signals$SignalUnit" "BoardMachine$Signals$SignalUnit" "serial" "LBoardMachine$Signals$Serial;") ∈ lw_all := lw_g (lw_at lw_m4 1 rfl) rfl
theorem q1032 : (Jvm.Cond.soleField "BoardMachine$Signals$SignalUnit" "serial") ∈ lw_all := lw_g (lw_at lw_m4 2 rfl) rfl
theorem q1033 : (Jvm.Cond.laysFinal "BoardMachine$Signals$SignalUnit" "BoardMachine$Signals$SignalUnit" "devices" "[LBoardMachine$Signals$Device;") ∈ lw_all := lw_g (lw_at lw_m4 3 rfl) rfl
theorem q1034 : (Jvm.Cond.soleField "BoardMachine$Signals$SignalUnit" "devices") ∈ lw_all := lw_g (lw_at lw_m4 4 rfl) rfl
theorem q1035 : (Jvm.Cond.superclass "BoardMachine$Signals$SignalUnit" "java/lang/Object") ∈ lw_all := lw_g (lw_at lw_m4 5 rfl) rfl
theorem q1036 : (Jvm.Cond.fieldLink "BoardMachine$Board" (14 : Nat) "BoardMachine$Board" "ram" "LBoardMachine$Memories$Ram;") ∈ lw_all := lw_g (lw_at lw_m4 6 rfl) rfl
theorem q1037 : (Jvm.Cond.fieldLinkNest "BoardMachine$Processor" (63 : Nat) "BoardMachine$Board" "ram" "LBoardMachine$Memories$Ram;" "BoardMachine") ∈ lw_tbl := lw_at lw_m4 7 rfl
theorem q1038 : (Jvm.Cond.fieldLinkNest "BoardMachine$Machine" (53 : Nat) "BoardMachine$Board" "ram" "LBoardMachine$Memories$Ram;" "BoardMachine") ∈ lw_tbl := lw_at lw_m4 8 rfl
theorem q1039 : (Jvm.Cond.fieldLinkNest "BoardMachine$Found" (31 : Nat) "BoardMachine$Board" "ram" "LBoardMachine$Memories$Ram;" "BoardMachine") ∈ lw_tbl := lw_at lw_m4 9 rfl
theorem q1040 : (Jvm.Cond.fieldLinkNest "BoardMachine" (56 : Nat) "BoardMachine$Board" "ram" "LBoardMachine$Memories$Ram;" "BoardMachine") ∈ lw_tbl := lw_at lw_m4 10 rfl
theorem q1041 : (Jvm.Cond.fieldLink "BoardMachine$Board" (51 : Nat) "BoardMachine$Board" "signals" "LBoardMachine$Signals$SignalUnit;") ∈ lw_all := lw_g (lw_at lw_m4 11 rfl) rfl
theorem q1042 : (Jvm.Cond.fieldLinkNest "BoardMachine$Machine" (146 : Nat) "BoardMachine$Board" "signals" "LBoardMachine$Signals$SignalUnit;" "BoardMachine") ∈ lw_tbl := lw_at lw_m4 12 rfl
theorem q1043 : (Jvm.Cond.fieldLinkNest "BoardMachine" (188 : Nat) "BoardMachine$Board" "signals" "LBoardMachine$Signals$SignalUnit;" "BoardMachine") ∈ lw_tbl := lw_at lw_m4 13 rfl
theorem q1044 : (Jvm.Cond.fieldLinkNest "BoardMachine$Processor" (457 : Nat) "BoardMachine$Board" "signals" "LBoardMachine$Signals$SignalUnit;" "BoardMachine") ∈ lw_tbl := lw_at lw_m4 14 rfl
theorem q1045 : (Jvm.Cond.fieldLink "BoardMachine$Board" (30 : Nat) "BoardMachine$Board" "disk" "LBoardMachine$Disks$Device;") ∈ lw_all := lw_g (lw_at lw_m4 15 rfl) rfl
theorem q1046 : (Jvm.Cond.fieldLinkNest "BoardMachine$Machine" (114 : Nat) "BoardMachine$Board" "disk" "LBoardMachine$Disks$Device;" "BoardMachine") ∈ lw_tbl := lw_at lw_m4 16 rfl
theorem q1047 : (Jvm.Cond.fieldLinkNest "BoardMachine" (170 : Nat) "BoardMachine$Board" "disk" "LBoardMachine$Disks$Device;" "BoardMachine") ∈ lw_tbl := lw_at lw_m4 17 rfl
theorem q1048 : (Jvm.Cond.fieldLink "BoardMachine$Board" (40 : Nat) "BoardMachine$Board" "windows" "[LBoardMachine$Window;") ∈ lw_all := lw_g (lw_at lw_m4 18 rfl) rfl
theorem q1049 : (Jvm.Cond.fieldLinkNest "BoardMachine$Machine" (100 : Nat) "BoardMachine$Board" "ended" "Z" "BoardMachine") ∈ lw_tbl := lw_at lw_m4 19 rfl
theorem q1050 : (Jvm.Cond.fieldLink "BoardMachine$Board" (84 : Nat) "BoardMachine$Board" "ended" "Z") ∈ lw_all := lw_g (lw_at lw_m4 20 rfl) rfl
theorem q1051 : (Jvm.Cond.fieldLink "BoardMachine$Board" (44 : Nat) "BoardMachine$Board" "code" "I") ∈ lw_all := lw_g (lw_at lw_m4 21 rfl) rfl
theorem q1052 : (Jvm.Cond.fieldLinkNest "BoardMachine$Machine" (104 : Nat) "BoardMachine$Board" "code" "I" "BoardMachine") ∈ lw_tbl := lw_at lw_m4 22 rfl
theorem q1053 : (Jvm.Cond.fieldLinkNest "BoardMachine" (93 : Nat) "BoardMachine$Board" "code" "I" "BoardMachine") ∈ lw_tbl := lw_at lw_m4 23 rfl
theorem q1054 : (Jvm.Cond.laysFinal "BoardMachine$Board" "BoardMachine$Board" "ram" "LBoardMachine$Memories$Ram;") ∈ lw_all := lw_g (lw_at lw_m4 24 rfl) rfl
theorem q1055 : (Jvm.Cond.soleField "BoardMachine$Board" "ram") ∈ lw_all := lw_g (lw_at lw_m4 25 rfl) rfl
theorem q1056 : (Jvm.Cond.laysFinal "BoardMachine$Board" "BoardMachine$Board" "signals" "LBoardMachine$Signals$SignalUnit;") ∈ lw_all := lw_g (lw_at lw_m4 26 rfl) rfl
theorem q1057 : (Jvm.Cond.soleField "BoardMachine$Board" "signals") ∈ lw_all := lw_g (lw_at lw_m4 27 rfl) rfl
theorem q1058 : (Jvm.Cond.laysFinal "BoardMachine$Board" "BoardMachine$Board" "disk" "LBoardMachine$Disks$Device;") ∈ lw_all := lw_g (lw_at lw_m4 28 rfl) rfl
theorem q1059 : (Jvm.Cond.soleField "BoardMachine$Board" "disk") ∈ lw_all := lw_g (lw_at lw_m4 29 rfl) rfl
theorem q1060 : (Jvm.Cond.laysFinal "BoardMachine$Board" "BoardMachine$Board" "windows" "[LBoardMachine$Window;") ∈ lw_all := lw_g (lw_at lw_m4 30 rfl) rfl
theorem q1061 : (Jvm.Cond.soleField "BoardMachine$Board" "windows") ∈ lw_all := lw_g (lw_at lw_m4 31 rfl) rfl
theorem q1062 : (Jvm.Cond.lays "BoardMachine$Board" "BoardMachine$Board" "ended" "Z") ∈ lw_all := lw_g (lw_at lw_m4 32 rfl) rfl
theorem q1063 : (Jvm.Cond.soleField "BoardMachine$Board" "ended") ∈ lw_all := lw_g (lw_at lw_m4 33 rfl) rfl
theorem q1064 : (Jvm.Cond.lays "BoardMachine$Board" "BoardMachine$Board" "code" "I") ∈ lw_all := lw_g (lw_at lw_m4 34 rfl) rfl
theorem q1065 : (Jvm.Cond.soleField "BoardMachine$Board" "code") ∈ lw_all := lw_g (lw_at lw_m4 35 rfl) rfl
theorem q1066 : (Jvm.Cond.superclass "BoardMachine$Board" "java/lang/Object") ∈ lw_all := lw_g (lw_at lw_m4 36 rfl) rfl
theorem q1067 : (Jvm.Cond.classLink "BoardMachine$Machine" (39 : Nat) "BoardMachine$Processor") ∈ lw_all := lw_g (lw_at lw_m4 37 rfl) rfl
theorem q1068 : (Jvm.Cond.arrayOver (Jvm.ClassFile.FieldType.object "BoardMachine$Processor")) ∈ lw_tbl := lw_at lw_m4 38 rfl
theorem q1069 : (Jvm.Cond.classLink "BoardMachine$Machine" (45 : Nat) "BoardMachine$Halves$ShortUnit") ∈ lw_all := lw_g (lw_at lw_m4 39 rfl) rfl
theorem q1070 : (Jvm.Cond.instantiable "BoardMachine$Halves$ShortUnit" (5 : Nat)) ∈ lw_all := lw_g (lw_at lw_m4 40 rfl) rfl
theorem q1071 : (Jvm.Cond.methodLink "BoardMachine$Machine" (47 : Nat) ({ cls := "BoardMachine$Halves$ShortUnit", name := "<init>", desc := "()V" } : Jvm.MethodName)) ∈ lw_all := lw_g (lw_at lw_m4 41 rfl) rfl
theorem q1072 : (Jvm.Cond.instanceMethod ({ cls := "BoardMachine$Halves$ShortUnit", name := "<init>", desc := "()V" } : Jvm.MethodName)) ∈ lw_all := lw_g (lw_at lw_m4 42 rfl) rfl
theorem q1073 : (Jvm.Cond.code ({ cls := "BoardMachine$Halves$ShortUnit", name := "<init>", desc := "()V" } : Jvm.MethodName) prog_51_method_1_code (13 : Nat) (Option.none : Option Jvm.ClassFile.FieldType)) ∈ lw_all := lw_g (lw_at lw_m4 43 rfl) rfl
theorem q1074 : (Jvm.Cond.methodLink "BoardMachine$Halves$ShortUnit" (3 : Nat) ({ cls := "java/lang/Object", name := "<init>", desc := "()V" } : Jvm.MethodName)) ∈ lw_all := lw_g (lw_at lw_m4 44 rfl) rfl
theorem q1075 : (Jvm.Cond.classLink "BoardMachine$Halves$ShortUnit" (11 : Nat) "BoardMachine$Halves$Line") ∈ lw_all := lw_g (lw_at lw_m4 45 rfl) rfl
theorem q1076 : (Jvm.Cond.arrayOver (Jvm.ClassFile.FieldType.object "BoardMachine$Halves$Line")) ∈ lw_tbl := lw_at lw_m4 46 rfl
theorem q1077 : (Jvm.Cond.classLink "BoardMachine$Halves$ShortUnit" (21 : Nat) "BoardMachine$Halves$Layout") ∈ lw_all := lw_g (lw_at lw_m4 47 rfl) rfl
theorem q1078 : (Jvm.Cond.instantiable "BoardMachine$Halves$Layout" (2 : Nat)) ∈ lw_all := lw_g (lw_at lw_m4 48 rfl) rfl
theorem q1079 : (Jvm.Cond.methodLink "BoardMachine$Halves$ShortUnit" (23 : Nat) ({ cls := "BoardMachine$Halves$Layout", name := "<init>", desc := "([II)V" } : Jvm.MethodName)) ∈ lw_all := lw_g (lw_at lw_m4 49 rfl) rfl
theorem q1080 : (Jvm.Cond.instanceMethod ({ cls := "BoardMachine$Halves$Layout", name := "<init>", desc := "([II)V" } : Jvm.MethodName)) ∈ lw_all := lw_g (lw_at lw_m4 50 rfl) rfl
theorem q1081 : (Jvm.Cond.code ({ cls := "BoardMachine$Halves$Layout", name := "<init>", desc := "([II)V" } : Jvm.MethodName) prog_48_method_1_code (3 : Nat) (Option.none : Option Jvm.ClassFile.FieldType)) ∈ lw_all := lw_g (lw_at lw_m4 51 rfl) rfl
theorem q1082 : (Jvm.Cond.methodLink "BoardMachine$Halves$Layout" (1 : Nat) ({ cls := "java/lang/Object", name := "<init>", desc := "()V" } : Jvm.MethodName)) ∈ lw_all := lw_g (lw_at lw_m4 52 rfl) rfl
theorem q1083 : (Jvm.Cond.fieldLink "BoardMachine$Halves$Layout" (7 : Nat) "BoardMachine$Halves$Layout" "places" "[I") ∈ lw_all := lw_g (lw_at lw_m4 53 rfl) rfl
theorem q1084 : (Jvm.Cond.fieldLink "BoardMachine$Halves$Layout" (13 : Nat) "BoardMachine$Halves$Layout" "sign" "I") ∈ lw_all := lw_g (lw_at lw_m4 54 rfl) rfl
theorem q1085 : (Jvm.Cond.laysFinal "BoardMachine$Halves$Layout" "BoardMachine$Halves$Layout" "places" "[I") ∈ lw_all := lw_g (lw_at lw_m4 55 rfl) rfl
theorem q1086 : (Jvm.Cond.soleField "BoardMachine$Halves$Layout" "places") ∈ lw_all := lw_g (lw_at lw_m4 56 rfl) rfl
theorem q1087 : (Jvm.Cond.laysFinal "BoardMachine$Halves$Layout" "BoardMachine$Halves$Layout" "sign" "I") ∈ lw_all := lw_g (lw_at lw_m4 57 rfl) rfl
theorem q1088 : (Jvm.Cond.soleField "BoardMachine$Halves$Layout" "sign") ∈ lw_all := lw_g (lw_at lw_m4 58 rfl) rfl
theorem q1089 : (Jvm.Cond.superclass "BoardMachine$Halves$Layout" "java/lang/Object") ∈ lw_all := lw_g (lw_at lw_m4 59 rfl) rfl
theorem q1090 : (Jvm.Cond.classLink "BoardMachine$Halves$ShortUnit" (26 : Nat) "BoardMachine$Halves$StackPlace") ∈ lw_all := lw_g (lw_at lw_m4 60 rfl) rfl
theorem q1091 : (Jvm.Cond.instantiable "BoardMachine$Halves$StackPlace" (3 : Nat)) ∈ lw_all := lw_g (lw_at lw_m4 61 rfl) rfl
theorem q1092 : (Jvm.Cond.methodLink "BoardMachine$Halves$ShortUnit" (28 : Nat) ({ cls := "BoardMachine$Halves$StackPlace", name := "<init>", desc := "(LBoardMachine$Halves$Layout;)V" } : Jvm.MethodName)) ∈ lw_all := lw_g (lw_at lw_m4 62 rfl) rfl
theorem q1093 : (Jvm.Cond.instanceMethod ({ cls := "BoardMachine$Halves$StackPlace", name := "<init>", desc := "(LBoardMachine$Halves$Layout;)V" } : Jvm.MethodName)) ∈ lw_all := lw_g (lw_at lw_m4 63 rfl) rfl
theorem q1094 : (Jvm.Cond.code ({ cls := "BoardMachine$Halves$StackPlace", name := "<init>", desc := "(LBoardMachine$Halves$Layout;)V" } : Jvm.MethodName) prog_54_method_1_code (2 : Nat) (Option.none : Option Jvm.ClassFile.FieldType)) ∈ lw_all := lw_g (lw_at lw_m4 64 rfl) rfl
theorem q1095 : (Jvm.Cond.methodLink "BoardMachine$Halves$StackPlace" (1 : Nat) ({ cls := "BoardMachine$Halves$Line", name := "<init>", desc := "(IILBoardMachine$Halves$Layout;)V" } : Jvm.MethodName)) ∈ lw_all := lw_g (lw_at lw_m4 65 rfl) rfl
theorem q1096 : (Jvm.Cond.instanceMethod ({ cls := "BoardMachine$Halves$Line", name := "<init>", desc := "(IILBoardMachine$Halves$Layout;)V" } : Jvm.MethodName)) ∈ lw_all := lw_g (lw_at lw_m4 66 rfl) rfl
theorem q1097 : (Jvm.Cond.code ({ cls := "BoardMachine$Halves$Line", name := "<init>", desc := "(IILBoardMachine$Halves$Layout;)V" } : Jvm.MethodName) prog_49_method_1_code (4 : Nat) (Option.none : Option Jvm.ClassFile.FieldType)) ∈ lw_all := lw_g (lw_at lw_m4 67 rfl) rfl
theorem q1098 : (Jvm.Cond.methodLink "BoardMachine$Halves$Line" (3 : Nat) ({ cls := "java/lang/Object", name := "<init>", desc := "()V" } : Jvm.MethodName)) ∈ lw_all := lw_g (lw_at lw_m4 68 rfl) rfl
theorem q1099 : (Jvm.Cond.fieldLink "BoardMachine$Halves$Line" (15 : Nat) "BoardMachine$Halves$Line" "quarter" "I") ∈ lw_all := lw_g (lw_at lw_m4 69 rfl) rfl
theorem q1100 : (Jvm.Cond.fieldLink "BoardMachine$Halves$ShortUnit" (67 : Nat) "BoardMachine$Halves$Line" "quarter" "I") ∈ lw_all := lw_g (lw_at lw_m4 70 rfl) rfl
theorem q1101 : (Jvm.Cond.fieldLink "BoardMachine$Halves$Line" (9 : Nat) "BoardMachine$Halves$Line" "top" "I") ∈ lw_all := lw_g (lw_at lw_m4 71 rfl) rfl
theorem q1102 : (Jvm.Cond.fieldLink "BoardMachine$Halves$Branch" (7 : Nat) "BoardMachine$Halves$Branch" "top" "I") ∈ lw_all := lw_g (lw_at lw_m4 72 rfl) rfl
theorem q1103 : (Jvm.Cond.sameField "BoardMachine$Halves$Branch" "BoardMachine$Halves$Line" "top" "I") ∈ lw_all := lw_g (lw_at lw_m4 73 rfl) rfl
theorem q1104 : (Jvm.Cond.fieldLink "BoardMachine$Halves$ShortUnit" (70 : Nat) "BoardMachine$Halves$Line" "top" "I") ∈ lw_all := lw_g (lw_at lw_m4 74 rfl) rfl
theorem q1105 : (Jvm.Cond.fieldLink "BoardMachine$Halves$Line" (18 : Nat) "BoardMachine$Halves$Line" "layout" "LBoardMachine$Halves$Layout;") ∈ lw_all := lw_g (lw_at lw_m4 75 rfl) rfl
theorem q1106 : (Jvm.Cond.fieldLink "BoardMachine$Halves$Access" (20 : Nat) "BoardMachine$Halves$Access" "layout" "LBoardMachine$Halves$Layout;") ∈ lw_all := lw_g (lw_at lw_m4 76 rfl) rfl
theorem q1107 : (Jvm.Cond.sameField "BoardMachine$Halves$Access" "BoardMachine$Halves$Line" "layout" "LBoardMachine$Halves$Layout;") ∈ lw_all := lw_g (lw_at lw_m4 77 rfl) rfl
theorem q1108 : (Jvm.Cond.fieldLink "BoardMachine$Halves$StackAccess" (20 : Nat) "BoardMachine$Halves$StackAccess" "layout" "LBoardMachine$Halves$Layout;") ∈ lw_all := lw_g (lw_at lw_m4 78 rfl) rfl
theorem q1109 : (Jvm.Cond.sameField "BoardMachine$Halves$StackAccess" "BoardMachine$Halves$Line" "layout" "LBoardMachine$Halves$Layout;") ∈ lw_all := lw_g (lw_at lw_m4 79 rfl) rfl
theorem q1110 : (Jvm.Cond.fieldLink "BoardMachine$Halves$StackPlace" (7 : Nat) "BoardMachine$Halves$StackPlace" "layout" "LBoardMachine$Halves$Layout;") ∈ lw_all := lw_g (lw_at lw_m4 80 rfl) rfl
theorem q1111 : (Jvm.Cond.sameField "BoardMachine$Halves$StackPlace" "BoardMachine$Halves$Line" "layout" "LBoardMachine$Halves$Layout;") ∈ lw_all := lw_g (lw_at lw_m4 81 rfl) rfl
theorem q1112 : (Jvm.Cond.fieldLink "BoardMachine$Halves$Jump" (7 : Nat) "BoardMachine$Halves$Jump" "layout" "LBoardMachine$Halves$Layout;") ∈ lw_all := lw_g (lw_at lw_m4 82 rfl) rfl
theorem q1113 : (Jvm.Cond.sameField "BoardMachine$Halves$Jump" "BoardMachine$Halves$Line" "layout" "LBoardMachine$Halves$Layout;") ∈ lw_all := lw_g (lw_at lw_m4 83 rfl) rfl
theorem q1114 : (Jvm.Cond.fieldLink "BoardMachine$Halves$StackOrUpper" (17 : Nat) "BoardMachine$Halves$StackOrUpper" "layout" "LBoardMachine$Halves$Layout;") ∈ lw_all := lw_g (lw_at lw_m4 84 rfl) rfl
theorem q1115 : (Jvm.Cond.sameField "BoardMachine$Halves$StackOrUpper" "BoardMachine$Halves$Line" "layout" "LBoardMachine$Halves$Layout;") ∈ lw_all := lw_g (lw_at lw_m4 85 rfl) rfl
theorem q1116 : (Jvm.Cond.fieldLink "BoardMachine$Halves$Branch" (17 : Nat) "BoardMachine$Halves$Branch" "layout" "LBoardMachine$Halves$Layout;") ∈ lw_all := lw_g (lw_at lw_m4 86 rfl) rfl
theorem q1117 : (Jvm.Cond.sameField "BoardMachine$Halves$Branch" "BoardMachine$Halves$Line" "layout" "LBoardMachine$Halves$Layout;") ∈ lw_all := lw_g (lw_at lw_m4 87 rfl) rfl
theorem q1118 : (Jvm.Cond.fieldLink "BoardMachine$Halves$Reckoning" (27 : Nat) "BoardMachine$Halves$Reckoning" "layout" "LBoardMachine$Halves$Layout;") ∈ lw_all := lw_g (lw_at lw_m4 88 rfl) rfl
theorem q1119 : (Jvm.Cond.sameField "BoardMachine$Halves$Reckoning" "BoardMachine$Halves$Line" "layout" "LBoardMachine$Halves$Layout;") ∈ lw_all := lw_g (lw_at lw_m4 89 rfl) rfl
theorem q1120 : (Jvm.Cond.fieldLink "BoardMachine$Halves$Immediate" (24 : Nat) "BoardMachine$Halves$Immediate" "layout" "LBoardMachine$Halves$Layout;") ∈ lw_all := lw_g (lw_at lw_m4 90 rfl) rfl
theorem q1121 : (Jvm.Cond.sameField "BoardMachine$Halves$Immediate" "BoardMachine$Halves$Line" "layout" "LBoardMachine$Halves$Layout;") ∈ lw_all := lw_g (lw_at lw_m4 91 rfl) rfl
theorem q1122 : (Jvm.Cond.laysFinal "BoardMachine$Halves$StackPlace" "BoardMachine$Halves$Line" "quarter" "I") ∈ lw_all := lw_g (lw_at lw_m4 92 rfl) rfl
theorem q1123 : (Jvm.Cond.soleField "BoardMachine$Halves$Line" "quarter") ∈ lw_all := lw_g (lw_at lw_m4 93 rfl) rfl
theorem q1124 : (Jvm.Cond.laysFinal "BoardMachine$Halves$StackPlace" "BoardMachine$Halves$Line" "top" "I") ∈ lw_all := lw_g (lw_at lw_m4 94 rfl) rfl
theorem q1125 : (Jvm.Cond.soleField "BoardMachine$Halves$Line" "top") ∈ lw_all := lw_g (lw_at lw_m4 95 rfl) rfl
theorem q1126 : (Jvm.Cond.laysFinal "BoardMachine$Halves$StackPlace" "BoardMachine$Halves$Line" "layout" "LBoardMachine$Halves$Layout;") ∈ lw_all := lw_g (lw_at lw_m4 96 rfl) rfl
theorem q1127 : (Jvm.Cond.soleField "BoardMachine$Halves$Line" "layout") ∈ lw_all := lw_g (lw_at lw_m4 97 rfl) rfl
theorem q1128 : (Jvm.Cond.superclass "BoardMachine$Halves$StackPlace" "BoardMachine$Halves$Line") ∈ lw_all := lw_g (lw_at lw_m4 98 rfl) rfl
theorem q1129 : (Jvm.Cond.methodLink "BoardMachine$Halves$ShortUnit" (31 : Nat) ({ cls := "BoardMachine$Halves$ShortUnit", name := "lay", desc := "(LBoardMachine$Halves$Line;)V" } : Jvm.MethodName)) ∈ lw_all := lw_g (lw_at lw_m4 99 rfl) rfl
theorem q1130 : (Jvm.Cond.privateMethod ({ cls := "BoardMachine$Halves$ShortUnit", name := "lay", desc := "(LBoardMachine$Halves$Line;)V" } : Jvm.MethodName)) ∈ lw_tbl := lw_at lw_m4 100 rfl
theorem q1131 : (Jvm.Cond.instanceMethod ({ cls := "BoardMachine$Halves$ShortUnit", name := "lay", desc := "(LBoardMachine$Halves$Line;)V" } : Jvm.MethodName)) ∈ lw_all := lw_g (lw_at lw_m4 101 rfl) rfl
theorem q1132 : (Jvm.Cond.code ({ cls := "BoardMachine$Halves$ShortUnit", name := "lay", desc := "(LBoardMachine$Halves$Line;)V" } : Jvm.MethodName) prog_51_method_2_code (2 : Nat) (Option.none : Option Jvm.ClassFile.FieldType)) ∈ lw_all := lw_g (lw_at lw_m4 102 rfl) rfl
theorem q1133 : (Jvm.Cond.classLink "BoardMachine$Halves$ShortUnit" (35 : Nat) "BoardMachine$Halves$Access") ∈ lw_all := lw_g (lw_at lw_m4 103 rfl) rfl
theorem q1134 : (Jvm.Cond.instantiable "BoardMachine$Halves$Access" (6 : Nat)) ∈ lw_all := lw_g (lw_at lw_m4 104 rfl) rfl
theorem q1135 : (Jvm.Cond.methodLink "BoardMachine$Halves$ShortUnit" (37 : Nat) ({ cls := "BoardMachine$Halves$Access", name := "<init>", desc := "(ILBoardMachine$Halves$Layout;IIZ)V" } : Jvm.MethodName)) ∈ lw_all := lw_g (lw_at lw_m4 105 rfl) rfl
theorem q1136 : (Jvm.Cond.instanceMethod ({ cls := "BoardMachine$Halves$Access", name := "<init>", desc := "(ILBoardMachine$Halves$Layout;IIZ)V" } : Jvm.MethodName)) ∈ lw_all := lw_g (lw_at lw_m4 106 rfl) rfl
theorem q1137 : (Jvm.Cond.code ({ cls := "BoardMachine$Halves$Access", name := "<init>", desc := "(ILBoardMachine$Halves$Layout;IIZ)V" } : Jvm.MethodName) prog_44_method_1_code (6 : Nat) (Option.none : Option Jvm.ClassFile.FieldType)) ∈ lw_all := lw_g (lw_at lw_m4 107 rfl) rfl
theorem q1138 : (Jvm.Cond.methodLink "BoardMachine$Halves$Access" (1 : Nat) ({ cls := "BoardMachine$Halves$Line", name := "<init>", desc := "(IILBoardMachine$Halves$Layout;)V" } : Jvm.MethodName)) ∈ lw_all := lw_g (lw_at lw_m4 108 rfl) rfl
theorem q1139 : (Jvm.Cond.fieldLink "BoardMachine$Halves$Access" (7 : Nat) "BoardMachine$Halves$Access" "code" "I") ∈ lw_all := lw_g (lw_at lw_m4 109 rfl) rfl
theorem q1140 : (Jvm.Cond.fieldLink "BoardMachine$Halves$Access" (13 : Nat) "BoardMachine$Halves$Access" "f" "I") ∈ lw_all := lw_g (lw_at lw_m4 110 rfl) rfl
theorem q1141 : (Jvm.Cond.fieldLink "BoardMachine$Halves$Access" (16 : Nat) "BoardMachine$Halves$Access" "stores" "Z") ∈ lw_all := lw_g (lw_at lw_m4 111 rfl) rfl
theorem q1142 : (Jvm.Cond.laysFinal "BoardMachine$Halves$Access" "BoardMachine$Halves$Access" "code" "I") ∈ lw_all := lw_g (lw_at lw_m4 112 rfl) rfl
theorem q1143 : (Jvm.Cond.soleField "BoardMachine$Halves$Access" "code") ∈ lw_all := lw_g (lw_at lw_m4 113 rfl) rfl
theorem q1144 : (Jvm.Cond.laysFinal "BoardMachine$Halves$Access" "BoardMachine$Halves$Access" "f" "I") ∈ lw_all := lw_g (lw_at lw_m4 114 rfl) rfl
theorem q1145 : (Jvm.Cond.soleField "BoardMachine$Halves$Access" "f") ∈ lw_all := lw_g (lw_at lw_m4 115 rfl) rfl
theorem q1146 : (Jvm.Cond.laysFinal "BoardMachine$Halves$Access" "BoardMachine$Halves$Access" "stores" "Z") ∈ lw_all := lw_g (lw_at lw_m4 116 rfl) rfl
theorem q1147 : (Jvm.Cond.soleField "BoardMachine$Halves$Access" "stores") ∈ lw_all := lw_g (lw_at lw_m4 117 rfl) rfl
theorem q1148 : (Jvm.Cond.laysFinal "BoardMachine$Halves$Access" "BoardMachine$Halves$Line" "quarter" "I") ∈ lw_all := lw_g (lw_at lw_m4 118 rfl) rfl
theorem q1149 : (Jvm.Cond.laysFinal "BoardMachine$Halves$Access" "BoardMachine$Halves$Line" "top" "I") ∈ lw_all := lw_g (lw_at lw_m4 119 rfl) rfl
theorem q1150 : (Jvm.Cond.laysFinal "BoardMachine$Halves$Access" "BoardMachine$Halves$Line" "layout" "LBoardMachine$Halves$Layout;") ∈ lw_all := lw_g (lw_at lw_m4 120 rfl) rfl
theorem q1151 : (Jvm.Cond.superclass "BoardMachine$Halves$Access" "BoardMachine$Halves$Line") ∈ lw_all := lw_g (lw_at lw_m4 121 rfl) rfl
theorem q1152 : (Jvm.Cond.classLink "BoardMachine$Halves$ShortUnit" (40 : Nat) "BoardMachine$Halves$Immediate") ∈ lw_all := lw_g (lw_at lw_m4 122 rfl) rfl
theorem q1153 : (Jvm.Cond.instantiable "BoardMachine$Halves$Immediate" (6 : Nat)) ∈ lw_all := lw_g (lw_at lw_m4 123 rfl) rfl
theorem q1154 : (Jvm.Cond.methodLink "BoardMachine$Halves$ShortUnit" (42 : Nat) ({ cls := "BoardMachine$Halves$Immediate", name := "<init>", desc := "(IILBoardMachine$Halves$Layout;IIZ)V" } : Jvm.MethodName)) ∈ lw_all := lw_g (lw_at lw_m4 124 rfl) rfl
theorem q1155 : (Jvm.Cond.instanceMethod ({ cls := "BoardMachine$Halves$Immediate", name := "<init>", desc := "(IILBoardMachine$Halves$Layout;IIZ)V" } : Jvm.MethodName)) ∈ lw_all := lw_g (lw_at lw_m4 125 rfl) rfl
theorem q1156 : (Jvm.Cond.code ({ cls := "BoardMachine$Halves$Immediate", name := "<init>", desc := "(IILBoardMachine$Halves$Layout;IIZ)V" } : Jvm.MethodName) prog_46_method_1_code (7 : Nat) (Option.none : Option Jvm.ClassFile.FieldType)) ∈ lw_all := lw_g (lw_at lw_m4 126 rfl) rfl
theorem q1157 : (Jvm.Cond.methodLink "BoardMachine$Halves$Immediate" (1 : Nat) ({ cls := "BoardMachine$Halves$Line", name := "<init>", desc := "(IILBoardMachine$Halves$Layout;)V" } : Jvm.MethodName)) ∈ lw_all := lw_g (lw_at lw_m4 127 rfl) rfl
theorem q1158 : (Jvm.Cond.fieldLink "BoardMachine$Halves$Immediate" (7 : Nat) "BoardMachine$Halves$Immediate" "code" "I") ∈ lw_all := lw_g (lw_at lw_m4 128 rfl) rfl
theorem q1159 : (Jvm.Cond.fieldLink "BoardMachine$Halves$Immediate" (13 : Nat) "BoardMachine$Halves$Immediate" "f" "I") ∈ lw_all := lw_g (lw_at lw_m4 129 rfl) rfl
theorem q1160 : (Jvm.Cond.fieldLink "BoardMachine$Halves$Immediate" (16 : Nat) "BoardMachine$Halves$Immediate" "ofZero" "Z") ∈ lw_all := lw_g (lw_at lw_m4 130 rfl) rfl
theorem q1161 : (Jvm.Cond.laysFinal "BoardMachine$Halves$Immediate" "BoardMachine$Halves$Immediate" "code" "I") ∈ lw_all := lw_g (lw_at lw_m4 131 rfl) rfl
theorem q1162 : (Jvm.Cond.soleField "BoardMachine$Halves$Immediate" "code") ∈ lw_all := lw_g (lw_at lw_m4 132 rfl) rfl
theorem q1163 : (Jvm.Cond.laysFinal "BoardMachine$Halves$Immediate" "BoardMachine$Halves$Immediate" "f" "I") ∈ lw_all := lw_g (lw_at lw_m4 133 rfl) rfl
theorem q1164 : (Jvm.Cond.soleField "BoardMachine$Halves$Immediate" "f") ∈ lw_all := lw_g (lw_at lw_m4 134 rfl) rfl
theorem q1165 : (Jvm.Cond.laysFinal "BoardMachine$Halves$Immediate" "BoardMachine$Halves$Immediate" "ofZero" "Z") ∈ lw_all := lw_g (lw_at lw_m4 135 rfl) rfl
theorem q1166 : (Jvm.Cond.soleField "BoardMachine$Halves$Immediate" "ofZero") ∈ lw_all := lw_g (lw_at lw_m4 136 rfl) rfl
theorem q1167 : (Jvm.Cond.laysFinal "BoardMachine$Halves$Immediate" "BoardMachine$Halves$Line" "quarter" "I") ∈ lw_all := lw_g (lw_at lw_m4 137 rfl) rfl
theorem q1168 : (Jvm.Cond.laysFinal "BoardMachine$Halves$Immediate" "BoardMachine$Halves$Line" "top" "I") ∈ lw_all := lw_g (lw_at lw_m4 138 rfl) rfl
theorem q1169 : (Jvm.Cond.laysFinal "BoardMachine$Halves$Immediate" "BoardMachine$Halves$Line" "layout" "LBoardMachine$Halves$Layout;") ∈ lw_all := lw_g (lw_at lw_m4 139 rfl) rfl
theorem q1170 : (Jvm.Cond.superclass "BoardMachine$Halves$Immediate" "BoardMachine$Halves$Line") ∈ lw_all := lw_g (lw_at lw_m4 140 rfl) rfl
theorem q1171 : (Jvm.Cond.classLink "BoardMachine$Halves$ShortUnit" (45 : Nat) "BoardMachine$Halves$StackOrUpper") ∈ lw_all := lw_g (lw_at lw_m4 141 rfl) rfl
theorem q1172 : (Jvm.Cond.instantiable "BoardMachine$Halves$StackOrUpper" (4 : Nat)) ∈ lw_all := lw_g (lw_at lw_m4 142 rfl) rfl
theorem q1173 : (Jvm.Cond.methodLink "BoardMachine$Halves$ShortUnit" (47 : Nat) ({ cls := "BoardMachine$Halves$StackOrUpper", name := "<init>", desc := "(LBoardMachine$Halves$Layout;LBoardMachine$Halves$Layout;)V" } : Jvm.MethodName)) ∈ lw_all := lw_g (lw_at lw_m4 143 rfl) rfl
theorem q1174 : (Jvm.Cond.instanceMethod ({ cls := "BoardMachine$Halves$StackOrUpper", name := "<init>", desc := "(LBoardMachine$Halves$Layout;LBoardMachine$Halves$Layout;)V" } : Jvm.MethodName)) ∈ lw_all := lw_g (lw_at lw_m4 144 rfl) rfl
theorem q1175 : (Jvm.Cond.code ({ cls := "BoardMachine$Halves$StackOrUpper", name := "<init>", desc := "(LBoardMachine$Halves$Layout;LBoardMachine$Halves$Layout;)V" } : Jvm.MethodName) prog_53_method_1_code (3 : Nat) (Option.none : Option Jvm.ClassFile.FieldType)) ∈ lw_all := lw_g (lw_at lw_m4 145 rfl) rfl
theorem q1176 : (Jvm.Cond.methodLink "BoardMachine$Halves$StackOrUpper" (1 : Nat) ({ cls := "BoardMachine$Halves$Line", name := "<init>", desc := "(IILBoardMachine$Halves$Layout;)V" } : Jvm.MethodName)) ∈ lw_all := lw_g (lw_at lw_m4 146 rfl) rfl
theorem q1177 : (Jvm.Cond.fieldLink "BoardMachine$Halves$StackOrUpper" (7 : Nat) "BoardMachine$Halves$StackOrUpper" "upper" "LBoardMachine$Halves$Layout;") ∈ lw_all := lw_g (lw_at lw_m4 147 rfl) rfl
theorem q1178 : (Jvm.Cond.laysFinal "BoardMachine$Halves$StackOrUpper" "BoardMachine$Halves$StackOrUpper" "upper" "LBoardMachine$Halves$Layout;") ∈ lw_all := lw_g (lw_at lw_m4 148 rfl) rfl
theorem q1179 : (Jvm.Cond.soleField "BoardMachine$Halves$StackOrUpper" "upper") ∈ lw_all := lw_g (lw_at lw_m4 149 rfl) rfl
theorem q1180 : (Jvm.Cond.laysFinal "BoardMachine$Halves$StackOrUpper" "BoardMachine$Halves$Line" "quarter" "I") ∈ lw_all := lw_g (lw_at lw_m4 150 rfl) rfl
theorem q1181 : (Jvm.Cond.laysFinal "BoardMachine$Halves$StackOrUpper" "BoardMachine$Halves$Line" "top" "I") ∈ lw_all := lw_g (lw_at lw_m4 151 rfl) rfl
theorem q1182 : (Jvm.Cond.laysFinal "BoardMachine$Halves$StackOrUpper" "BoardMachine$Halves$Line" "layout" "LBoardMachine$Halves$Layout;") ∈ lw_all := lw_g (lw_at lw_m4 152 rfl) rfl
theorem q1183 : (Jvm.Cond.superclass "BoardMachine$Halves$StackOrUpper" "BoardMachine$Halves$Line") ∈ lw_all := lw_g (lw_at lw_m4 153 rfl) rfl
theorem q1184 : (Jvm.Cond.classLink "BoardMachine$Halves$ShortUnit" (50 : Nat) "BoardMachine$Halves$Reckoning") ∈ lw_all := lw_g (lw_at lw_m4 154 rfl) rfl
theorem q1185 : (Jvm.Cond.instantiable "BoardMachine$Halves$Reckoning" (5 : Nat)) ∈ lw_all := lw_g (lw_at lw_m4 155 rfl) rfl
theorem q1186 : (Jvm.Cond.methodLink "BoardMachine$Halves$ShortUnit" (52 : Nat) ({ cls := "BoardMachine$Halves$Reckoning", name := "<init>", desc := "(LBoardMachine$Halves$Layout;LBoardMachine$Halves$Layout;)V" } : Jvm.MethodName)) ∈ lw_all := lw_g (lw_at lw_m4 156 rfl) rfl
theorem q1187 : (Jvm.Cond.instanceMethod ({ cls := "BoardMachine$Halves$Reckoning", name := "<init>", desc := "(LBoardMachine$Halves$Layout;LBoardMachine$Halves$Layout;)V" } : Jvm.MethodName)) ∈ lw_all := lw_g (lw_at lw_m4 157 rfl) rfl
theorem q1188 : (Jvm.Cond.code ({ cls := "BoardMachine$Halves$Reckoning", name := "<init>", desc := "(LBoardMachine$Halves$Layout;LBoardMachine$Halves$Layout;)V" } : Jvm.MethodName) prog_50_method_1_code (3 : Nat) (Option.none : Option Jvm.ClassFile.FieldType)) ∈ lw_all := lw_g (lw_at lw_m4 158 rfl) rfl
theorem q1189 : (Jvm.Cond.methodLink "BoardMachine$Halves$Reckoning" (1 : Nat) ({ cls := "BoardMachine$Halves$Line", name := "<init>", desc := "(IILBoardMachine$Halves$Layout;)V" } : Jvm.MethodName)) ∈ lw_all := lw_g (lw_at lw_m4 159 rfl) rfl
theorem q1190 : (Jvm.Cond.fieldLink "BoardMachine$Halves$Reckoning" (7 : Nat) "BoardMachine$Halves$Reckoning" "sums" "[I") ∈ lw_all := lw_g (lw_at lw_m4 160 rfl) rfl
theorem q1191 : (Jvm.Cond.fieldLink "BoardMachine$Halves$Reckoning" (13 : Nat) "BoardMachine$Halves$Reckoning" "signed" "LBoardMachine$Halves$Layout;") ∈ lw_all := lw_g (lw_at lw_m4 161 rfl) rfl
theorem q1192 : (Jvm.Cond.laysFinal "BoardMachine$Halves$Reckoning" "BoardMachine$Halves$Reckoning" "sums" "[I") ∈ lw_all := lw_g (lw_at lw_m4 162 rfl) rfl
theorem q1193 : (Jvm.Cond.soleField "BoardMachine$Halves$Reckoning" "sums") ∈ lw_all := lw_g (lw_at lw_m4 163 rfl) rfl
theorem q1194 : (Jvm.Cond.laysFinal "BoardMachine$Halves$Reckoning" "BoardMachine$Halves$Reckoning" "signed" "LBoardMachine$Halves$Layout;") ∈ lw_all := lw_g (lw_at lw_m4 164 rfl) rfl
theorem q1195 : (Jvm.Cond.soleField "BoardMachine$Halves$Reckoning" "signed") ∈ lw_all := lw_g (lw_at lw_m4 165 rfl) rfl
theorem q1196 : (Jvm.Cond.laysFinal "BoardMachine$Halves$Reckoning" "BoardMachine$Halves$Line" "quarter" "I") ∈ lw_all := lw_g (lw_at lw_m4 166 rfl) rfl
theorem q1197 : (Jvm.Cond.laysFinal "BoardMachine$Halves$Reckoning" "BoardMachine$Halves$Line" "top" "I") ∈ lw_all := lw_g (lw_at lw_m4 167 rfl) rfl
theorem q1198 : (Jvm.Cond.laysFinal "BoardMachine$Halves$Reckoning" "BoardMachine$Halves$Line" "layout" "LBoardMachine$Halves$Layout;") ∈ lw_all := lw_g (lw_at lw_m4 168 rfl) rfl
theorem q1199 : (Jvm.Cond.superclass "BoardMachine$Halves$Reckoning" "BoardMachine$Halves$Line") ∈ lw_all := lw_g (lw_at lw_m4 169 rfl) rfl
theorem q1200 : (Jvm.Cond.classLink "BoardMachine$Halves$ShortUnit" (53 : Nat) "BoardMachine$Halves$Jump") ∈ lw_all := lw_g (lw_at lw_m4 170 rfl) rfl
theorem q1201 : (Jvm.Cond.instantiable "BoardMachine$Halves$Jump" (3 : Nat)) ∈ lw_all := lw_g (lw_at lw_m4 171 rfl) rfl
theorem q1202 : (Jvm.Cond.methodLink "BoardMachine$Halves$ShortUnit" (55 : Nat) ({ cls := "BoardMachine$Halves$Jump", name := "<init>", desc := "(LBoardMachine$Halves$Layout;)V" } : Jvm.MethodName)) ∈ lw_all := lw_g (lw_at lw_m4 172 rfl) rfl
theorem q1203 : (Jvm.Cond.instanceMethod ({ cls := "BoardMachine$Halves$Jump", name := "<init>", desc := "(LBoardMachine$Halves$Layout;)V" } : Jvm.MethodName)) ∈ lw_all := lw_g (lw_at lw_m4 173 rfl) rfl
theorem q1204 : (Jvm.Cond.code ({ cls := "BoardMachine$Halves$Jump", name := "<init>", desc := "(LBoardMachine$Halves$Layout;)V" } : Jvm.MethodName) prog_47_method_1_code (2 : Nat) (Option.none : Option Jvm.ClassFile.FieldType)) ∈ lw_all := lw_g (lw_at lw_m4 174 rfl) rfl
theorem q1205 : (Jvm.Cond.methodLink "BoardMachine$Halves$Jump" (1 : Nat) ({ cls := "BoardMachine$Halves$Line", name := "<init>", desc := "(IILBoardMachine$Halves$Layout;)V" } : Jvm.MethodName)) ∈ lw_all := lw_g (lw_at lw_m4 175 rfl) rfl
theorem q1206 : (Jvm.Cond.laysFinal "BoardMachine$Halves$Jump" "BoardMachine$Halves$Line" "quarter" "I") ∈ lw_all := lw_g (lw_at lw_m4 176 rfl) rfl
theorem q1207 : (Jvm.Cond.laysFinal "BoardMachine$Halves$Jump" "BoardMachine$Halves$Line" "top" "I") ∈ lw_all := lw_g (lw_at lw_m4 177 rfl) rfl
theorem q1208 : (Jvm.Cond.laysFinal "BoardMachine$Halves$Jump" "BoardMachine$Halves$Line" "layout" "LBoardMachine$Halves$Layout;") ∈ lw_all := lw_g (lw_at lw_m4 178 rfl) rfl
theorem q1209 : (Jvm.Cond.superclass "BoardMachine$Halves$Jump" "BoardMachine$Halves$Line") ∈ lw_all := lw_g (lw_at lw_m4 179 rfl) rfl
theorem q1210 : (Jvm.Cond.classLink "BoardMachine$Halves$ShortUnit" (56 : Nat) "BoardMachine$Halves$Branch") ∈ lw_all := lw_g (lw_at lw_m4 180 rfl) rfl
theorem q1211 : (Jvm.Cond.instantiable "BoardMachine$Halves$Branch" (3 : Nat)) ∈ lw_all := lw_g (lw_at lw_m4 181 rfl) rfl
theorem q1212 : (Jvm.Cond.methodLink "BoardMachine$Halves$ShortUnit" (58 : Nat) ({ cls := "BoardMachine$Halves$Branch", name := "<init>", desc := "(ILBoardMachine$Halves$Layout;)V" } : Jvm.MethodName)) ∈ lw_all := lw_g (lw_at lw_m4 182 rfl) rfl
theorem q1213 : (Jvm.Cond.instanceMethod ({ cls := "BoardMachine$Halves$Branch", name := "<init>", desc := "(ILBoardMachine$Halves$Layout;)V" } : Jvm.MethodName)) ∈ lw_all := lw_g (lw_at lw_m4 183 rfl) rfl
theorem q1214 : (Jvm.Cond.code ({ cls := "BoardMachine$Halves$Branch", name := "<init>", desc := "(ILBoardMachine$Halves$Layout;)V" } : Jvm.MethodName) prog_45_method_1_code (3 : Nat) (Option.none : Option Jvm.ClassFile.FieldType)) ∈ lw_all := lw_g (lw_at lw_m4 184 rfl) rfl
theorem q1215 : (Jvm.Cond.methodLink "BoardMachine$Halves$Branch" (1 : Nat) ({ cls := "BoardMachine$Halves$Line", name := "<init>", desc := "(IILBoardMachine$Halves$Layout;)V" } : Jvm.MethodName)) ∈ lw_all := lw_g (lw_at lw_m4 185 rfl) rfl
theorem q1216 : (Jvm.Cond.laysFinal "BoardMachine$Halves$Branch" "BoardMachine$Halves$Line" "quarter" "I") ∈ lw_all := lw_g (lw_at lw_m4 186 rfl) rfl
theorem q1217 : (Jvm.Cond.laysFinal "BoardMachine$Halves$Branch" "BoardMachine$Halves$Line" "top" "I") ∈ lw_all := lw_g (lw_at lw_m4 187 rfl) rfl
theorem q1218 : (Jvm.Cond.laysFinal "BoardMachine$Halves$Branch" "BoardMachine$Halves$Line" "layout" "LBoardMachine$Halves$Layout;") ∈ lw_all := lw_g (lw_at lw_m4 188 rfl) rfl
theorem q1219 : (Jvm.Cond.superclass "BoardMachine$Halves$Branch" "BoardMachine$Halves$Line") ∈ lw_all := lw_g (lw_at lw_m4 189 rfl) rfl
theorem q1220 : (Jvm.Cond.classLink "BoardMachine$Halves$ShortUnit" (61 : Nat) "BoardMachine$Halves$StackAccess") ∈ lw_all := lw_g (lw_at lw_m4 190 rfl) rfl
theorem q1221 : (Jvm.Cond.instantiable "BoardMachine$Halves$StackAccess" (6 : Nat)) ∈ lw_all := lw_g (lw_at lw_m4 191 rfl) rfl
theorem q1222 : (Jvm.Cond.methodLink "BoardMachine$Halves$ShortUnit" (63 : Nat) ({ cls := "BoardMachine$Halves$StackAccess", name := "<init>", desc := "(ILBoardMachine$Halves$Layout;IIZ)V" } : Jvm.MethodName)) ∈ lw_all := lw_g (lw_at lw_m4 192 rfl) rfl
theorem q1223 : (Jvm.Cond.instanceMethod ({ cls := "BoardMachine$Halves$StackAccess", name := "<init>", desc := "(ILBoardMachine$Halves$Layout;IIZ)V" } : Jvm.MethodName)) ∈ lw_all := lw_g (lw_at lw_m4 193 rfl) rfl
theorem q1224 : (Jvm.Cond.code ({ cls := "BoardMachine$Halves$StackAccess", name := "<init>", desc := "(ILBoardMachine$Halves$Layout;IIZ)V" } : Jvm.MethodName) prog_52_method_1_code (6 : Nat) (Option.none : Option Jvm.ClassFile.FieldType)) ∈ lw_all := lw_g (lw_at lw_m4 194 rfl) rfl
theorem q1225 : (Jvm.Cond.methodLink "BoardMachine$Halves$StackAccess" (1 : Nat) ({ cls := "BoardMachine$Halves$Line", name := "<init>", desc := "(IILBoardMachine$Halves$Layout;)V" } : Jvm.MethodName)) ∈ lw_all := lw_g (lw_at lw_m4 195 rfl) rfl
theorem q1226 : (Jvm.Cond.fieldLink "BoardMachine$Halves$StackAccess" (7 : Nat) "BoardMachine$Halves$StackAccess" "code" "I") ∈ lw_all := lw_g (lw_at lw_m4 196 rfl) rfl
theorem q1227 : (Jvm.Cond.fieldLink "BoardMachine$Halves$StackAccess" (13 : Nat) "BoardMachine$Halves$StackAccess" "f" "I") ∈ lw_all := lw_g (lw_at lw_m4 197 rfl) rfl
theorem q1228 : (Jvm.Cond.fieldLink "BoardMachine$Halves$StackAccess" (16 : Nat) "BoardMachine$Halves$StackAccess" "stores" "Z") ∈ lw_all := lw_g (lw_at lw_m4 198 rfl) rfl
theorem q1229 : (Jvm.Cond.laysFinal "BoardMachine$Halves$StackAccess" "BoardMachine$Halves$StackAccess" "code" "I") ∈ lw_all := lw_g (lw_at lw_m4 199 rfl) rfl
theorem q1230 : (Jvm.Cond.soleField "BoardMachine$Halves$StackAccess" "code") ∈ lw_all := lw_g (lw_at lw_m4 200 rfl) rfl
theorem q1231 : (Jvm.Cond.laysFinal "BoardMachine$Halves$StackAccess" "BoardMachine$Halves$StackAccess" "f" "I") ∈ lw_all := lw_g (lw_at lw_m4 201 rfl) rfl
theorem q1232 : (Jvm.Cond.soleField "BoardMachine$Halves$StackAccess" "f") ∈ lw_all := lw_g (lw_at lw_m4 202 rfl) rfl
theorem q1233 : (Jvm.Cond.laysFinal "BoardMachine$Halves$StackAccess" "BoardMachine$Halves$StackAccess" "stores" "Z") ∈ lw_all := lw_g (lw_at lw_m4 203 rfl) rfl
theorem q1234 : (Jvm.Cond.soleField "BoardMachine$Halves$StackAccess" "stores") ∈ lw_all := lw_g (lw_at lw_m4 204 rfl) rfl
theorem q1235 : (Jvm.Cond.laysFinal "BoardMachine$Halves$StackAccess" "BoardMachine$Halves$Line" "quarter" "I") ∈ lw_all := lw_g (lw_at lw_m4 205 rfl) rfl
theorem q1236 : (Jvm.Cond.laysFinal "BoardMachine$Halves$StackAccess" "BoardMachine$Halves$Line" "top" "I") ∈ lw_all := lw_g (lw_at lw_m4 206 rfl) rfl
theorem q1237 : (Jvm.Cond.laysFinal "BoardMachine$Halves$StackAccess" "BoardMachine$Halves$Line" "layout" "LBoardMachine$Halves$Layout;") ∈ lw_all := lw_g (lw_at lw_m4 207 rfl) rfl
theorem q1238 : (Jvm.Cond.superclass "BoardMachine$Halves$StackAccess" "BoardMachine$Halves$Line") ∈ lw_all := lw_g (lw_at lw_m4 208 rfl) rfl
theorem q1239 : (Jvm.Cond.classLink "BoardMachine$Halves$ShortUnit" (64 : Nat) "BoardMachine$Halves$Whole") ∈ lw_all := lw_g (lw_at lw_m4 209 rfl) rfl
theorem q1240 : (Jvm.Cond.instantiable "BoardMachine$Halves$Whole" (3 : Nat)) ∈ lw_all := lw_g (lw_at lw_m4 210 rfl) rfl
theorem q1241 : (Jvm.Cond.methodLink "BoardMachine$Halves$ShortUnit" (66 : Nat) ({ cls := "BoardMachine$Halves$Whole", name := "<init>", desc := "()V" } : Jvm.MethodName)) ∈ lw_all := lw_g (lw_at lw_m4 211 rfl) rfl
theorem q1242 : (Jvm.Cond.instanceMethod ({ cls := "BoardMachine$Halves$Whole", name := "<init>", desc := "()V" } : Jvm.MethodName)) ∈ lw_all := lw_g (lw_at lw_m4 212 rfl) rfl
theorem q1243 : (Jvm.Cond.code ({ cls := "BoardMachine$Halves$Whole", name := "<init>", desc := "()V" } : Jvm.MethodName) prog_55_method_1_code (1 : Nat) (Option.none : Option Jvm.ClassFile.FieldType)) ∈ lw_all := lw_g (lw_at lw_m4 213 rfl) rfl
theorem q1244 : (Jvm.Cond.methodLink "BoardMachine$Halves$Whole" (3 : Nat) ({ cls := "BoardMachine$Halves$Line", name := "<init>", desc := "(IILBoardMachine$Halves$Layout;)V" } : Jvm.MethodName)) ∈ lw_all := lw_g (lw_at lw_m4 214 rfl) rfl
theorem q1245 : (Jvm.Cond.laysFinal "BoardMachine$Halves$Whole" "BoardMachine$Halves$Line" "quarter" "I") ∈ lw_all := lw_g (lw_at lw_m4 215 rfl) rfl
theorem q1246 : (Jvm.Cond.laysFinal "BoardMachine$Halves$Whole" "BoardMachine$Halves$Line" "top" "I") ∈ lw_all := lw_g (lw_at lw_m4 216 rfl) rfl
theorem q1247 : (Jvm.Cond.laysFinal "BoardMachine$Halves$Whole" "BoardMachine$Halves$Line" "layout" "LBoardMachine$Halves$Layout;") ∈ lw_all := lw_g (lw_at lw_m4 217 rfl) rfl
theorem q1248 : (Jvm.Cond.superclass "BoardMachine$Halves$Whole" "BoardMachine$Halves$Line") ∈ lw_all := lw_g (lw_at lw_m4 218 rfl) rfl
theorem q1249 : (Jvm.Cond.fieldLink "BoardMachine$Halves$ShortUnit" (13 : Nat) "BoardMachine$Halves$ShortUnit" "lines" "[LBoardMachine$Halves$Line;") ∈ lw_all := lw_g (lw_at lw_m4 219 rfl) rfl
theorem q1250 : (Jvm.Cond.fieldLink "BoardMachine$Halves$ShortUnit" (17 : Nat) "BoardMachine$Halves$ShortUnit" "lower" "I") ∈ lw_all := lw_g (lw_at lw_m4 220 rfl) rfl
theorem q1251 : (Jvm.Cond.laysFinal "BoardMachine$Halves$ShortUnit" "BoardMachine$Halves$ShortUnit" "lines" "[LBoardMachine$Halves$Line;") ∈ lw_all := lw_g (lw_at lw_m4 221 rfl) rfl
theorem q1252 : (Jvm.Cond.soleField "BoardMachine$Halves$ShortUnit" "lines") ∈ lw_all := lw_g (lw_at lw_m4 222 rfl) rfl
theorem q1253 : (Jvm.Cond.lays "BoardMachine$Halves$ShortUnit" "BoardMachine$Halves$ShortUnit" "lower" "I") ∈ lw_all := lw_g (lw_at lw_m4 223 rfl) rfl
theorem q1254 : (Jvm.Cond.soleField "BoardMachine$Halves$ShortUnit" "lower") ∈ lw_all := lw_g (lw_at lw_m4 224 rfl) rfl
theorem q1255 : (Jvm.Cond.lays "BoardMachine$Halves$ShortUnit" "BoardMachine$Halves$ShortUnit" "word" "I") ∈ lw_all := lw_g (lw_at lw_m4 225 rfl) rfl
theorem q1256 : (Jvm.Cond.soleField "BoardMachine$Halves$ShortUnit" "word") ∈ lw_all := lw_g (lw_at lw_m4 226 rfl) rfl
theorem q1257 : (Jvm.Cond.lays "BoardMachine$Halves$ShortUnit" "BoardMachine$Halves$ShortUnit" "length" "I") ∈ lw_all := lw_g (lw_at lw_m4 227 rfl) rfl
theorem q1258 : (Jvm.Cond.soleField "BoardMachine$Halves$ShortUnit" "length") ∈ lw_all := lw_g (lw_at lw_m4 228 rfl) rfl
theorem q1259 : (Jvm.Cond.lays "BoardMachine$Halves$ShortUnit" "BoardMachine$Halves$ShortUnit" "whole" "I") ∈ lw_all := lw_g (lw_at lw_m4 229 rfl) rfl
theorem q1260 : (Jvm.Cond.soleField "BoardMachine$Halves$ShortUnit" "whole") ∈ lw_all := lw_g (lw_at lw_m4 230 rfl) rfl
theorem q1261 : (Jvm.Cond.superclass "BoardMachine$Halves$ShortUnit" "java/lang/Object") ∈ lw_all := lw_g (lw_at lw_m4 231 rfl) rfl
theorem q1262 : (Jvm.Cond.instantiable "BoardMachine$Processor" (13 : Nat)) ∈ lw_all := lw_g (lw_at lw_m4 232 rfl) rfl
theorem q1263 : (Jvm.Cond.methodLink "BoardMachine$Machine" (48 : Nat) ({ cls := "BoardMachine$Processor", name := "<init>", desc := "(ILBoardMachine$Board;LBoardMachine$Halves$ShortUnit;)V" } : Jvm.MethodName)) ∈ lw_all := lw_g (lw_at lw_m4 233 rfl) rfl
theorem q1264 : (Jvm.Cond.instanceMethod ({ cls := "BoardMachine$Processor", name := "<init>", desc := "(ILBoardMachine$Board;LBoardMachine$Halves$ShortUnit;)V" } : Jvm.MethodName)) ∈ lw_all := lw_g (lw_at lw_m4 234 rfl) rfl
theorem q1265 : (Jvm.Cond.code ({ cls := "BoardMachine$Processor", name := "<init>", desc := "(ILBoardMachine$Board;LBoardMachine$Halves$ShortUnit;)V" } : Jvm.MethodName) prog_86_method_1_code (5 : Nat) (Option.none : Option Jvm.ClassFile.FieldType)) ∈ lw_all := lw_g (lw_at lw_m4 235 rfl) rfl
theorem q1266 : (Jvm.Cond.methodLink "BoardMachine$Processor" (3 : Nat) ({ cls := "java/lang/Object", name := "<init>", desc := "()V" } : Jvm.MethodName)) ∈ lw_all := lw_g (lw_at lw_m4 236 rfl) rfl
theorem q1267 : (Jvm.Cond.classLink "BoardMachine$Processor" (9 : Nat) "BoardMachine$Integers$IntegerUnit") ∈ lw_all := lw_g (lw_at lw_m4 237 rfl) rfl
theorem q1268 : (Jvm.Cond.instantiable "BoardMachine$Integers$IntegerUnit" (7 : Nat)) ∈ lw_all := lw_g (lw_at lw_m4 238 rfl) rfl
theorem q1269 : (Jvm.Cond.methodLinkNest "BoardMachine$Processor" (11 : Nat) ({ cls := "BoardMachine$Integers$IntegerUnit", name := "<init>", desc := "()V" } : Jvm.MethodName) "BoardMachine") ∈ lw_tbl := lw_at lw_m4 239 rfl
theorem q1270 : (Jvm.Cond.instanceMethod ({ cls := "BoardMachine$Integers$IntegerUnit", name := "<init>", desc := "()V" } : Jvm.MethodName)) ∈ lw_all := lw_g (lw_at lw_m5 0 rfl) rfl
theorem q1271 : (Jvm.Cond.code ({ cls := "BoardMachine$Integers$IntegerUnit", name := "<init>", desc := "()V" } : Jvm.MethodName) prog_69_method_1_code (1 : Nat) (Option.none : Option Jvm.ClassFile.FieldType)) ∈ lw_all := lw_g (lw_at lw_m5 1 rfl) rfl
theorem q1272 : (Jvm.Cond.methodLink "BoardMachine$Integers$IntegerUnit" (3 : Nat) ({ cls := "java/lang/Object", name := "<init>", desc := "()V" } : Jvm.MethodName)) ∈ lw_all := lw_g (lw_at lw_m5 2 rfl) rfl
theorem q1273 : (Jvm.Cond.classLink "BoardMachine$Integers$IntegerUnit" (9 : Nat) "BoardMachine$Integers$Registers") ∈ lw_all := lw_g (lw_at lw_m5 3 rfl) rfl
theorem q1274 : (Jvm.Cond.instantiable "BoardMachine$Integers$Registers" (2 : Nat)) ∈ lw_all := lw_g (lw_at lw_m5 4 rfl) rfl
theorem q1275 : (Jvm.Cond.methodLinkNest "BoardMachine$Integers$IntegerUnit" (11 : Nat) ({ cls := "BoardMachine$Integers$Registers", name := "<init>", desc := "()V" } : Jvm.MethodName) "BoardMachine") ∈ lw_tbl := lw_at lw_m5 5 rfl
theorem q1276 : (Jvm.Cond.instanceMethod ({ cls := "BoardMachine$Integers$Registers", name := "<init>", desc := "()V" } : Jvm.MethodName)) ∈ lw_all := lw_g (lw_at lw_m5 6 rfl) rfl
theorem q1277 : (Jvm.Cond.code ({ cls := "BoardMachine$Integers$Registers", name := "<init>", desc := "()V" } : Jvm.MethodName) prog_71_method_1_code (1 : Nat) (Option.none : Option Jvm.ClassFile.FieldType)) ∈ lw_all := lw_g (lw_at lw_m5 7 rfl) rfl
theorem q1278 : (Jvm.Cond.methodLink "BoardMachine$Integers$Registers" (1 : Nat) ({ cls := "java/lang/Object", name := "<init>", desc := "()V" } : Jvm.MethodName)) ∈ lw_all := lw_g (lw_at lw_m5 8 rfl) rfl
theorem q1279 : (Jvm.Cond.fieldLink "BoardMachine$Integers$Registers" (7 : Nat) "BoardMachine$Integers$Registers" "held" "[J") ∈ lw_all := lw_g (lw_at lw_m5 9 rfl) rfl
theorem q1280 : (Jvm.Cond.fieldLinkNest "BoardMachine$Integers$Branch" (9 : Nat) "BoardMachine$Integers$Registers" "held" "[J" "BoardMachine") ∈ lw_tbl := lw_at lw_m5 10 rfl
theorem q1281 : (Jvm.Cond.fieldLinkNest "BoardMachine$Integers$Compute" (9 : Nat) "BoardMachine$Integers$Registers" "held" "[J" "BoardMachine") ∈ lw_tbl := lw_at lw_m5 11 rfl
theorem q1282 : (Jvm.Cond.fieldLinkNest "BoardMachine$Integers$Jump" (15 : Nat) "BoardMachine$Integers$Registers" "held" "[J" "BoardMachine") ∈ lw_tbl := lw_at lw_m5 12 rfl
theorem q1283 : (Jvm.Cond.fieldLinkNest "BoardMachine$Processor" (84 : Nat) "BoardMachine$Integers$Registers" "held" "[J" "BoardMachine") ∈ lw_tbl := lw_at lw_m5 13 rfl
theorem q1284 : (Jvm.Cond.fieldLinkNest "BoardMachine$Integers$Access" (15 : Nat) "BoardMachine$Integers$Registers" "held" "[J" "BoardMachine") ∈ lw_tbl := lw_at lw_m5 14 rfl
theorem q1285 : (Jvm.Cond.fieldLinkNest "BoardMachine$Integers$Foreign" (21 : Nat) "BoardMachine$Integers$Registers" "held" "[J" "BoardMachine") ∈ lw_tbl := lw_at lw_m5 15 rfl
theorem q1286 : (Jvm.Cond.fieldLinkNest "BoardMachine" (116 : Nat) "BoardMachine$Integers$Registers" "held" "[J" "BoardMachine") ∈ lw_tbl := lw_at lw_m5 16 rfl
theorem q1287 : (Jvm.Cond.fieldLinkNest "BoardMachine$Integers$Fence" (9 : Nat) "BoardMachine$Integers$Registers" "counter" "J" "BoardMachine") ∈ lw_tbl := lw_at lw_m5 17 rfl
theorem q1288 : (Jvm.Cond.fieldLinkNest "BoardMachine$Integers$Upper" (25 : Nat) "BoardMachine$Integers$Registers" "counter" "J" "BoardMachine") ∈ lw_tbl := lw_at lw_m5 18 rfl
theorem q1289 : (Jvm.Cond.fieldLinkNest "BoardMachine$Integers$Jump" (33 : Nat) "BoardMachine$Integers$Registers" "counter" "J" "BoardMachine") ∈ lw_tbl := lw_at lw_m5 19 rfl
theorem q1290 : (Jvm.Cond.fieldLinkNest "BoardMachine$Integers$Compute" (56 : Nat) "BoardMachine$Integers$Registers" "counter" "J" "BoardMachine") ∈ lw_tbl := lw_at lw_m5 20 rfl
theorem q1291 : (Jvm.Cond.fieldLinkNest "BoardMachine$Integers$Branch" (33 : Nat) "BoardMachine$Integers$Registers" "counter" "J" "BoardMachine") ∈ lw_tbl := lw_at lw_m5 21 rfl
theorem q1292 : (Jvm.Cond.fieldLinkNest "BoardMachine$Integers$IntegerUnit" (46 : Nat) "BoardMachine$Integers$Registers" "counter" "J" "BoardMachine") ∈ lw_tbl := lw_at lw_m5 22 rfl
theorem q1293 : (Jvm.Cond.fieldLinkNest "BoardMachine$Processor" (228 : Nat) "BoardMachine$Integers$Registers" "counter" "J" "BoardMachine") ∈ lw_tbl := lw_at lw_m5 23 rfl
theorem q1294 : (Jvm.Cond.laysFinal "BoardMachine$Integers$Registers" "BoardMachine$Integers$Registers" "held" "[J") ∈ lw_all := lw_g (lw_at lw_m5 24 rfl) rfl
theorem q1295 : (Jvm.Cond.soleField "BoardMachine$Integers$Registers" "held") ∈ lw_all := lw_g (lw_at lw_m5 25 rfl) rfl
theorem q1296 : (Jvm.Cond.lays "BoardMachine$Integers$Registers" "BoardMachine$Integers$Registers" "counter" "J") ∈ lw_all := lw_g (lw_at lw_m5 26 rfl) rfl
theorem q1297 : (Jvm.Cond.soleField "BoardMachine$Integers$Registers" "counter") ∈ lw_all := lw_g (lw_at lw_m5 27 rfl) rfl
theorem q1298 : (Jvm.Cond.superclass "BoardMachine$Integers$Registers" "java/lang/Object") ∈ lw_all := lw_g (lw_at lw_m5 28 rfl) rfl
theorem q1299 : (Jvm.Cond.classLink "BoardMachine$Integers$IntegerUnit" (18 : Nat) "BoardMachine$Integers$Decoder") ∈ lw_all := lw_g (lw_at lw_m5 29 rfl) rfl
theorem q1300 : (Jvm.Cond.instantiable "BoardMachine$Integers$Decoder" (10 : Nat)) ∈ lw_all := lw_g (lw_at lw_m5 30 rfl) rfl
theorem q1301 : (Jvm.Cond.methodLinkNest "BoardMachine$Integers$IntegerUnit" (20 : Nat) ({ cls := "BoardMachine$Integers$Decoder", name := "<init>", desc := "()V" } : Jvm.MethodName) "BoardMachine") ∈ lw_tbl := lw_at lw_m5 31 rfl
theorem q1302 : (Jvm.Cond.instanceMethod ({ cls := "BoardMachine$Integers$Decoder", name := "<init>", desc := "()V" } : Jvm.MethodName)) ∈ lw_all := lw_g (lw_at lw_m5 32 rfl) rfl
theorem q1303 : (Jvm.Cond.code ({ cls := "BoardMachine$Integers$Decoder", name := "<init>", desc := "()V" } : Jvm.MethodName) prog_64_method_1_code (1 : Nat) (Option.none : Option Jvm.ClassFile.FieldType)) ∈ lw_all := lw_g (lw_at lw_m5 33 rfl) rfl
theorem q1304 : (Jvm.Cond.methodLink "BoardMachine$Integers$Decoder" (3 : Nat) ({ cls := "java/lang/Object", name := "<init>", desc := "()V" } : Jvm.MethodName)) ∈ lw_all := lw_g (lw_at lw_m5 34 rfl) rfl
theorem q1305 : (Jvm.Cond.classLink "BoardMachine$Integers$Decoder" (9 : Nat) "BoardMachine$Integers$Illegal") ∈ lw_all := lw_g (lw_at lw_m5 35 rfl) rfl
theorem q1306 : (Jvm.Cond.instantiable "BoardMachine$Integers$Illegal" (0 : Nat)) ∈ lw_all := lw_g (lw_at lw_m5 36 rfl) rfl
theorem q1307 : (Jvm.Cond.methodLinkNest "BoardMachine$Integers$Decoder" (11 : Nat) ({ cls := "BoardMachine$Integers$Illegal", name := "<init>", desc := "()V" } : Jvm.MethodName) "BoardMachine") ∈ lw_tbl := lw_at lw_m5 37 rfl
theorem q1308 : (Jvm.Cond.instanceMethod ({ cls := "BoardMachine$Integers$Illegal", name := "<init>", desc := "()V" } : Jvm.MethodName)) ∈ lw_all := lw_g (lw_at lw_m5 38 rfl) rfl
theorem q1309 : (Jvm.Cond.code ({ cls := "BoardMachine$Integers$Illegal", name := "<init>", desc := "()V" } : Jvm.MethodName) prog_68_method_1_code (1 : Nat) (Option.none : Option Jvm.ClassFile.FieldType)) ∈ lw_all := lw_g (lw_at lw_m5 39 rfl) rfl
theorem q1310 : (Jvm.Cond.methodLinkNest "BoardMachine$Integers$Illegal" (3 : Nat) ({ cls := "BoardMachine$Integers$Action", name := "<init>", desc := "()V" } : Jvm.MethodName) "BoardMachine") ∈ lw_tbl := lw_at lw_m5 40 rfl
theorem q1311 : (Jvm.Cond.instanceMethod ({ cls := "BoardMachine$Integers$Action", name := "<init>", desc := "()V" } : Jvm.MethodName)) ∈ lw_all := lw_g (lw_at lw_m5 41 rfl) rfl
theorem q1312 : (Jvm.Cond.code ({ cls := "BoardMachine$Integers$Action", name := "<init>", desc := "()V" } : Jvm.MethodName) prog_59_method_1_code (1 : Nat) (Option.none : Option Jvm.ClassFile.FieldType)) ∈ lw_all := lw_g (lw_at lw_m5 42 rfl) rfl
theorem q1313 : (Jvm.Cond.methodLink "BoardMachine$Integers$Action" (3 : Nat) ({ cls := "java/lang/Object", name := "<init>", desc := "()V" } : Jvm.MethodName)) ∈ lw_all := lw_g (lw_at lw_m5 43 rfl) rfl
theorem q1314 : (Jvm.Cond.superclass "BoardMachine$Integers$Illegal" "BoardMachine$Integers$Action") ∈ lw_all := lw_g (lw_at lw_m5 44 rfl) rfl
theorem q1315 : (Jvm.Cond.classLink "BoardMachine$Integers$Decoder" (18 : Nat) "BoardMachine$Integers$Fence") ∈ lw_all := lw_g (lw_at lw_m5 45 rfl) rfl
theorem q1316 : (Jvm.Cond.instantiable "BoardMachine$Integers$Fence" (0 : Nat)) ∈ lw_all := lw_g (lw_at lw_m5 46 rfl) rfl
theorem q1317 : (Jvm.Cond.methodLinkNest "BoardMachine$Integers$Decoder" (20 : Nat) ({ cls := "BoardMachine$Integers$Fence", name := "<init>", desc := "()V" } : Jvm.MethodName) "BoardMachine") ∈ lw_tbl := lw_at lw_m5 47 rfl
theorem q1318 : (Jvm.Cond.instanceMethod ({ cls := "BoardMachine$Integers$Fence", name := "<init>", desc := "()V" } : Jvm.MethodName)) ∈ lw_all := lw_g (lw_at lw_m5 48 rfl) rfl
theorem q1319 : (Jvm.Cond.code ({ cls := "BoardMachine$Integers$Fence", name := "<init>", desc := "()V" } : Jvm.MethodName) prog_65_method_1_code (1 : Nat) (Option.none : Option Jvm.ClassFile.FieldType)) ∈ lw_all := lw_g (lw_at lw_m5 49 rfl) rfl
theorem q1320 : (Jvm.Cond.methodLinkNest "BoardMachine$Integers$Fence" (3 : Nat) ({ cls := "BoardMachine$Integers$Action", name := "<init>", desc := "()V" } : Jvm.MethodName) "BoardMachine") ∈ lw_tbl := lw_at lw_m5 50 rfl
theorem q1321 : (Jvm.Cond.superclass "BoardMachine$Integers$Fence" "BoardMachine$Integers$Action") ∈ lw_all := lw_g (lw_at lw_m5 51 rfl) rfl
theorem q1322 : (Jvm.Cond.classLink "BoardMachine$Integers$Decoder" (24 : Nat) "BoardMachine$Integers$Upper") ∈ lw_all := lw_g (lw_at lw_m5 52 rfl) rfl
theorem q1323 : (Jvm.Cond.instantiable "BoardMachine$Integers$Upper" (1 : Nat)) ∈ lw_all := lw_g (lw_at lw_m5 53 rfl) rfl
theorem q1324 : (Jvm.Cond.methodLink "BoardMachine$Integers$Decoder" (26 : Nat) ({ cls := "BoardMachine$Integers$Upper", name := "<init>", desc := "(Z)V" } : Jvm.MethodName)) ∈ lw_all := lw_g (lw_at lw_m5 54 rfl) rfl
theorem q1325 : (Jvm.Cond.instanceMethod ({ cls := "BoardMachine$Integers$Upper", name := "<init>", desc := "(Z)V" } : Jvm.MethodName)) ∈ lw_all := lw_g (lw_at lw_m5 55 rfl) rfl
theorem q1326 : (Jvm.Cond.code ({ cls := "BoardMachine$Integers$Upper", name := "<init>", desc := "(Z)V" } : Jvm.MethodName) prog_73_method_1_code (2 : Nat) (Option.none : Option Jvm.ClassFile.FieldType)) ∈ lw_all := lw_g (lw_at lw_m5 56 rfl) rfl
theorem q1327 : (Jvm.Cond.methodLinkNest "BoardMachine$Integers$Upper" (3 : Nat) ({ cls := "BoardMachine$Integers$Action", name := "<init>", desc := "()V" } : Jvm.MethodName) "BoardMachine") ∈ lw_tbl := lw_at lw_m5 57 rfl
theorem q1328 : (Jvm.Cond.fieldLink "BoardMachine$Integers$Upper" (9 : Nat) "BoardMachine$Integers$Upper" "fromCounter" "Z") ∈ lw_all := lw_g (lw_at lw_m5 58 rfl) rfl
theorem q1329 : (Jvm.Cond.laysFinal "BoardMachine$Integers$Upper" "BoardMachine$Integers$Upper" "fromCounter" "Z") ∈ lw_all := lw_g (lw_at lw_m5 59 rfl) rfl
theorem q1330 : (Jvm.Cond.soleField "BoardMachine$Integers$Upper" "fromCounter") ∈ lw_all := lw_g (lw_at lw_m5 60 rfl) rfl
theorem q1331 : (Jvm.Cond.superclass "BoardMachine$Integers$Upper" "BoardMachine$Integers$Action") ∈ lw_all := lw_g (lw_at lw_m5 61 rfl) rfl
theorem q1332 : (Jvm.Cond.classLink "BoardMachine$Integers$Decoder" (35 : Nat) "BoardMachine$Integers$Jump") ∈ lw_all := lw_g (lw_at lw_m5 62 rfl) rfl
theorem q1333 : (Jvm.Cond.instantiable "BoardMachine$Integers$Jump" (1 : Nat)) ∈ lw_all := lw_g (lw_at lw_m5 63 rfl) rfl
theorem q1334 : (Jvm.Cond.methodLink "BoardMachine$Integers$Decoder" (37 : Nat) ({ cls := "BoardMachine$Integers$Jump", name := "<init>", desc := "(Z)V" } : Jvm.MethodName)) ∈ lw_all := lw_g (lw_at lw_m5 64 rfl) rfl
theorem q1335 : (Jvm.Cond.instanceMethod ({ cls := "BoardMachine$Integers$Jump", name := "<init>", desc := "(Z)V" } : Jvm.MethodName)) ∈ lw_all := lw_g (lw_at lw_m5 65 rfl) rfl
theorem q1336 : (Jvm.Cond.code ({ cls := "BoardMachine$Integers$Jump", name := "<init>", desc := "(Z)V" } : Jvm.MethodName) prog_70_method_1_code (2 : Nat) (Option.none : Option Jvm.ClassFile.FieldType)) ∈ lw_all := lw_g (lw_at lw_m5 66 rfl) rfl
theorem q1337 : (Jvm.Cond.methodLinkNest "BoardMachine$Integers$Jump" (3 : Nat) ({ cls := "BoardMachine$Integers$Action", name := "<init>", desc := "()V" } : Jvm.MethodName) "BoardMachine") ∈ lw_tbl := lw_at lw_m5 67 rfl
theorem q1338 : (Jvm.Cond.fieldLink "BoardMachine$Integers$Jump" (9 : Nat) "BoardMachine$Integers$Jump" "byRegister" "Z") ∈ lw_all := lw_g (lw_at lw_m5 68 rfl) rfl
theorem q1339 : (Jvm.Cond.laysFinal "BoardMachine$Integers$Jump" "BoardMachine$Integers$Jump" "byRegister" "Z") ∈ lw_all := lw_g (lw_at lw_m5 69 rfl) rfl
theorem q1340 : (Jvm.Cond.soleField "BoardMachine$Integers$Jump" "byRegister") ∈ lw_all := lw_g (lw_at lw_m5 70 rfl) rfl
theorem q1341 : (Jvm.Cond.superclass "BoardMachine$Integers$Jump" "BoardMachine$Integers$Action") ∈ lw_all := lw_g (lw_at lw_m5 71 rfl) rfl
theorem q1342 : (Jvm.Cond.classLink "BoardMachine$Integers$Decoder" (44 : Nat) "BoardMachine$Integers$Branch") ∈ lw_all := lw_g (lw_at lw_m5 72 rfl) rfl
theorem q1343 : (Jvm.Cond.instantiable "BoardMachine$Integers$Branch" (0 : Nat)) ∈ lw_all := lw_g (lw_at lw_m5 73 rfl) rfl
theorem q1344 : (Jvm.Cond.methodLinkNest "BoardMachine$Integers$Decoder" (46 : Nat) ({ cls := "BoardMachine$Integers$Branch", name := "<init>", desc := "()V" } : Jvm.MethodName) "BoardMachine") ∈ lw_tbl := lw_at lw_m5 74 rfl
theorem q1345 : (Jvm.Cond.instanceMethod ({ cls := "BoardMachine$Integers$Branch", name := "<init>", desc := "()V" } : Jvm.MethodName)) ∈ lw_all := lw_g (lw_at lw_m5 75 rfl) rfl
theorem q1346 : (Jvm.Cond.code ({ cls := "BoardMachine$Integers$Branch", name := "<init>", desc := "()V" } : Jvm.MethodName) prog_61_method_1_code (1 : Nat) (Option.none : Option Jvm.ClassFile.FieldType)) ∈ lw_all := lw_g (lw_at lw_m5 76 rfl) rfl
theorem q1347 : (Jvm.Cond.methodLinkNest "BoardMachine$Integers$Branch" (3 : Nat) ({ cls := "BoardMachine$Integers$Action", name := "<init>", desc := "()V" } : Jvm.MethodName) "BoardMachine") ∈ lw_tbl := lw_at lw_m5 77 rfl
theorem q1348 : (Jvm.Cond.superclass "BoardMachine$Integers$Branch" "BoardMachine$Integers$Action") ∈ lw_all := lw_g (lw_at lw_m5 78 rfl) rfl
theorem q1349 : (Jvm.Cond.classLink "BoardMachine$Integers$Decoder" (50 : Nat) "BoardMachine$Integers$Compute") ∈ lw_all := lw_g (lw_at lw_m5 79 rfl) rfl
theorem q1350 : (Jvm.Cond.instantiable "BoardMachine$Integers$Compute" (0 : Nat)) ∈ lw_all := lw_g (lw_at lw_m5 80 rfl) rfl
theorem q1351 : (Jvm.Cond.methodLinkNest "BoardMachine$Integers$Decoder" (52 : Nat) ({ cls := "BoardMachine$Integers$Compute", name := "<init>", desc := "()V" } : Jvm.MethodName) "BoardMachine") ∈ lw_tbl := lw_at lw_m5 81 rfl
theorem q1352 : (Jvm.Cond.instanceMethod ({ cls := "BoardMachine$Integers$Compute", name := "<init>", desc := "()V" } : Jvm.MethodName)) ∈ lw_all := lw_g (lw_at lw_m5 82 rfl) rfl
theorem q1353 : (Jvm.Cond.code ({ cls := "BoardMachine$Integers$Compute", name := "<init>", desc := "()V" } : Jvm.MethodName) prog_62_method_1_code (1 : Nat) (Option.none : Option Jvm.ClassFile.FieldType)) ∈ lw_all := lw_g (lw_at lw_m5 83 rfl) rfl
theorem q1354 : (Jvm.Cond.methodLinkNest "BoardMachine$Integers$Compute" (3 : Nat) ({ cls := "BoardMachine$Integers$Action", name := "<init>", desc := "()V" } : Jvm.MethodName) "BoardMachine") ∈ lw_tbl := lw_at lw_m5 84 rfl
theorem q1355 : (Jvm.Cond.superclass "BoardMachine$Integers$Compute" "BoardMachine$Integers$Action") ∈ lw_all := lw_g (lw_at lw_m5 85 rfl) rfl
theorem q1356 : (Jvm.Cond.classLink "BoardMachine$Integers$Decoder" (56 : Nat) "BoardMachine$Integers$Access") ∈ lw_all := lw_g (lw_at lw_m5 86 rfl) rfl
theorem q1357 : (Jvm.Cond.instantiable "BoardMachine$Integers$Access" (0 : Nat)) ∈ lw_all := lw_g (lw_at lw_m5 87 rfl) rfl
theorem q1358 : (Jvm.Cond.methodLinkNest "BoardMachine$Integers$Decoder" (58 : Nat) ({ cls := "BoardMachine$Integers$Access", name := "<init>", desc := "()V" } : Jvm.MethodName) "BoardMachine") ∈ lw_tbl := lw_at lw_m5 88 rfl
theorem q1359 : (Jvm.Cond.instanceMethod ({ cls := "BoardMachine$Integers$Access", name := "<init>", desc := "()V" } : Jvm.MethodName)) ∈ lw_all := lw_g (lw_at lw_m5 89 rfl) rfl
theorem q1360 : (Jvm.Cond.code ({ cls := "BoardMachine$Integers$Access", name := "<init>", desc := "()V" } : Jvm.MethodName) prog_58_method_1_code (1 : Nat) (Option.none : Option Jvm.ClassFile.FieldType)) ∈ lw_all := lw_g (lw_at lw_m5 90 rfl) rfl
theorem q1361 : (Jvm.Cond.methodLinkNest "BoardMachine$Integers$Access" (3 : Nat) ({ cls := "BoardMachine$Integers$Action", name := "<init>", desc := "()V" } : Jvm.MethodName) "BoardMachine") ∈ lw_tbl := lw_at lw_m5 91 rfl
theorem q1362 : (Jvm.Cond.superclass "BoardMachine$Integers$Access" "BoardMachine$Integers$Action") ∈ lw_all := lw_g (lw_at lw_m5 92 rfl) rfl
theorem q1363 : (Jvm.Cond.classLink "BoardMachine$Integers$Decoder" (62 : Nat) "BoardMachine$Integers$Foreign") ∈ lw_all := lw_g (lw_at lw_m5 93 rfl) rfl
theorem q1364 : (Jvm.Cond.instantiable "BoardMachine$Integers$Foreign" (0 : Nat)) ∈ lw_all := lw_g (lw_at lw_m5 94 rfl) rfl
theorem q1365 : (Jvm.Cond.methodLinkNest "BoardMachine$Integers$Decoder" (64 : Nat) ({ cls := "BoardMachine$Integers$Foreign", name := "<init>", desc := "()V" } : Jvm.MethodName) "BoardMachine") ∈ lw_tbl := lw_at lw_m5 95 rfl
theorem q1366 : (Jvm.Cond.instanceMethod ({ cls := "BoardMachine$Integers$Foreign", name := "<init>", desc := "()V" } : Jvm.MethodName)) ∈ lw_all := lw_g (lw_at lw_m5 96 rfl) rfl
theorem q1367 : (Jvm.Cond.code ({ cls := "BoardMachine$Integers$Foreign", name := "<init>", desc := "()V" } : Jvm.MethodName) prog_67_method_1_code (1 : Nat) (Option.none : Option Jvm.ClassFile.FieldType)) ∈ lw_all := lw_g (lw_at lw_m5 97 rfl) rfl
theorem q1368 : (Jvm.Cond.methodLinkNest "BoardMachine$Integers$Foreign" (1 : Nat) ({ cls := "BoardMachine$Integers$Action", name := "<init>", desc := "()V" } : Jvm.MethodName) "BoardMachine") ∈ lw_tbl := lw_at lw_m5 98 rfl
theorem q1369 : (Jvm.Cond.superclass "BoardMachine$Integers$Foreign" "BoardMachine$Integers$Action") ∈ lw_all := lw_g (lw_at lw_m5 99 rfl) rfl
theorem q1370 : (Jvm.Cond.fieldLink "BoardMachine$Integers$Decoder" (12 : Nat) "BoardMachine$Integers$Decoder" "illegal" "LBoardMachine$Integers$Action;") ∈ lw_all := lw_g (lw_at lw_m5 100 rfl) rfl
theorem q1371 : (Jvm.Cond.fieldLink "BoardMachine$Integers$Decoder" (21 : Nat) "BoardMachine$Integers$Decoder" "fence" "LBoardMachine$Integers$Action;") ∈ lw_all := lw_g (lw_at lw_m5 101 rfl) rfl
theorem q1372 : (Jvm.Cond.fieldLink "BoardMachine$Integers$Decoder" (29 : Nat) "BoardMachine$Integers$Decoder" "upper" "LBoardMachine$Integers$Action;") ∈ lw_all := lw_g (lw_at lw_m5 102 rfl) rfl
theorem q1373 : (Jvm.Cond.fieldLink "BoardMachine$Integers$Decoder" (32 : Nat) "BoardMachine$Integers$Decoder" "upperFromCounter" "LBoardMachine$Integers$Action;") ∈ lw_all := lw_g (lw_at lw_m5 103 rfl) rfl
theorem q1374 : (Jvm.Cond.fieldLink "BoardMachine$Integers$Decoder" (38 : Nat) "BoardMachine$Integers$Decoder" "jump" "LBoardMachine$Integers$Action;") ∈ lw_all := lw_g (lw_at lw_m5 104 rfl) rfl
theorem q1375 : (Jvm.Cond.fieldLink "BoardMachine$Integers$Decoder" (41 : Nat) "BoardMachine$Integers$Decoder" "jumpByRegister" "LBoardMachine$Integers$Action;") ∈ lw_all := lw_g (lw_at lw_m5 105 rfl) rfl
theorem q1376 : (Jvm.Cond.fieldLink "BoardMachine$Integers$Decoder" (47 : Nat) "BoardMachine$Integers$Decoder" "branch" "LBoardMachine$Integers$Action;") ∈ lw_all := lw_g (lw_at lw_m5 106 rfl) rfl
theorem q1377 : (Jvm.Cond.fieldLink "BoardMachine$Integers$Decoder" (53 : Nat) "BoardMachine$Integers$Decoder" "compute" "LBoardMachine$Integers$Action;") ∈ lw_all := lw_g (lw_at lw_m5 107 rfl) rfl
theorem q1378 : (Jvm.Cond.fieldLink "BoardMachine$Integers$Decoder" (59 : Nat) "BoardMachine$Integers$Decoder" "access" "LBoardMachine$Integers$Action;") ∈ lw_all := lw_g (lw_at lw_m5 108 rfl) rfl
theorem q1379 : (Jvm.Cond.fieldLink "BoardMachine$Integers$Decoder" (65 : Nat) "BoardMachine$Integers$Decoder" "foreign" "LBoardMachine$Integers$Action;") ∈ lw_all := lw_g (lw_at lw_m5 109 rfl) rfl
theorem q1380 : (Jvm.Cond.laysFinal "BoardMachine$Integers$Decoder" "BoardMachine$Integers$Decoder" "illegal" "LBoardMachine$Integers$Action;") ∈ lw_all := lw_g (lw_at lw_m5 110 rfl) rfl
theorem q1381 : (Jvm.Cond.soleField "BoardMachine$Integers$Decoder" "illegal") ∈ lw_all := lw_g (lw_at lw_m5 111 rfl) rfl
theorem q1382 : (Jvm.Cond.laysFinal "BoardMachine$Integers$Decoder" "BoardMachine$Integers$Decoder" "fence" "LBoardMachine$Integers$Action;") ∈ lw_all := lw_g (lw_at lw_m5 112 rfl) rfl
theorem q1383 : (Jvm.Cond.soleField "BoardMachine$Integers$Decoder" "fence") ∈ lw_all := lw_g (lw_at lw_m5 113 rfl) rfl
theorem q1384 : (Jvm.Cond.laysFinal "BoardMachine$Integers$Decoder" "BoardMachine$Integers$Decoder" "upper" "LBoardMachine$Integers$Action;") ∈ lw_all := lw_g (lw_at lw_m5 114 rfl) rfl
theorem q1385 : (Jvm.Cond.soleField "BoardMachine$Integers$Decoder" "upper") ∈ lw_all := lw_g (lw_at lw_m5 115 rfl) rfl
theorem q1386 : (Jvm.Cond.laysFinal "BoardMachine$Integers$Decoder" "BoardMachine$Integers$Decoder" "upperFromCounter" "LBoardMachine$Integers$Action;") ∈ lw_all := lw_g (lw_at lw_m5 116 rfl) rfl
theorem q1387 : (Jvm.Cond.soleField "BoardMachine$Integers$Decoder" "upperFromCounter") ∈ lw_all := lw_g (lw_at lw_m5 117 rfl) rfl
theorem q1388 : (Jvm.Cond.laysFinal "BoardMachine$Integers$Decoder" "BoardMachine$Integers$Decoder" "jump" "LBoardMachine$Integers$Action;") ∈ lw_all := lw_g (lw_at lw_m5 118 rfl) rfl
theorem q1389 : (Jvm.Cond.soleField "BoardMachine$Integers$Decoder" "jump") ∈ lw_all := lw_g (lw_at lw_m5 119 rfl) rfl
theorem q1390 : (Jvm.Cond.laysFinal "BoardMachine$Integers$Decoder" "BoardMachine$Integers$Decoder" "jumpByRegister" "LBoardMachine$Integers$Action;") ∈ lw_all := lw_g (lw_at lw_m5 120 rfl) rfl
theorem q1391 : (Jvm.Cond.soleField "BoardMachine$Integers$Decoder" "jumpByRegister") ∈ lw_all := lw_g (lw_at lw_m5 121 rfl) rfl
theorem q1392 : (Jvm.Cond.laysFinal "BoardMachine$Integers$Decoder" "BoardMachine$Integers$Decoder" "branch" "LBoardMachine$Integers$Action;") ∈ lw_all := lw_g (lw_at lw_m5 122 rfl) rfl
theorem q1393 : (Jvm.Cond.soleField "BoardMachine$Integers$Decoder" "branch") ∈ lw_all := lw_g (lw_at lw_m5 123 rfl) rfl
theorem q1394 : (Jvm.Cond.laysFinal "BoardMachine$Integers$Decoder" "BoardMachine$Integers$Decoder" "compute" "LBoardMachine$Integers$Action;") ∈ lw_all := lw_g (lw_at lw_m5 124 rfl) rfl
theorem q1395 : (Jvm.Cond.soleField "BoardMachine$Integers$Decoder" "compute") ∈ lw_all := lw_g (lw_at lw_m5 125 rfl) rfl
theorem q1396 : (Jvm.Cond.laysFinal "BoardMachine$Integers$Decoder" "BoardMachine$Integers$Decoder" "access" "LBoardMachine$Integers$Action;") ∈ lw_all := lw_g (lw_at lw_m5 126 rfl) rfl
theorem q1397 : (Jvm.Cond.soleField "BoardMachine$Integers$Decoder" "access") ∈ lw_all := lw_g (lw_at lw_m5 127 rfl) rfl
theorem q1398 : (Jvm.Cond.laysFinal "BoardMachine$Integers$Decoder" "BoardMachine$Integers$Decoder" "foreign" "LBoardMachine$Integers$Action;") ∈ lw_all := lw_g (lw_at lw_m5 128 rfl) rfl
theorem q1399 : (Jvm.Cond.soleField "BoardMachine$Integers$Decoder" "foreign") ∈ lw_all := lw_g (lw_at lw_m5 129 rfl) rfl
theorem q1400 : (Jvm.Cond.superclass "BoardMachine$Integers$Decoder" "java/lang/Object") ∈ lw_all := lw_g (lw_at lw_m5 130 rfl) rfl
theorem q1401 : (Jvm.Cond.classLink "BoardMachine$Integers$IntegerUnit" (25 : Nat) "BoardMachine$Integers$Decoded") ∈ lw_all := lw_g (lw_at lw_m5 131 rfl) rfl
theorem q1402 : (Jvm.Cond.arrayOver (Jvm.ClassFile.FieldType.object "BoardMachine$Integers$Decoded")) ∈ lw_tbl := lw_at lw_m5 132 rfl
theorem q1403 : (Jvm.Cond.fieldLink "BoardMachine$Integers$IntegerUnit" (12 : Nat) "BoardMachine$Integers$IntegerUnit" "registers" "LBoardMachine$Integers$Registers;") ∈ lw_all := lw_g (lw_at lw_m5 133 rfl) rfl
theorem q1404 : (Jvm.Cond.fieldLinkNest "BoardMachine$Processor" (80 : Nat) "BoardMachine$Integers$IntegerUnit" "registers" "LBoardMachine$Integers$Registers;" "BoardMachine") ∈ lw_tbl := lw_at lw_m5 134 rfl
theorem q1405 : (Jvm.Cond.fieldLinkNest "BoardMachine" (110 : Nat) "BoardMachine$Integers$IntegerUnit" "registers" "LBoardMachine$Integers$Registers;" "BoardMachine") ∈ lw_tbl := lw_at lw_m5 135 rfl
theorem q1406 : (Jvm.Cond.fieldLink "BoardMachine$Integers$IntegerUnit" (21 : Nat) "BoardMachine$Integers$IntegerUnit" "decoder" "LBoardMachine$Integers$Decoder;") ∈ lw_all := lw_g (lw_at lw_m5 136 rfl) rfl
theorem q1407 : (Jvm.Cond.fieldLink "BoardMachine$Integers$IntegerUnit" (27 : Nat) "BoardMachine$Integers$IntegerUnit" "kept" "[LBoardMachine$Integers$Decoded;") ∈ lw_all := lw_g (lw_at lw_m5 137 rfl) rfl
theorem q1408 : (Jvm.Cond.fieldLink "BoardMachine$Integers$IntegerUnit" (50 : Nat) "BoardMachine$Integers$IntegerUnit" "underWay" "LBoardMachine$Integers$Decoded;") ∈ lw_all := lw_g (lw_at lw_m5 138 rfl) rfl
theorem q1409 : (Jvm.Cond.fieldLink "BoardMachine$Integers$IntegerUnit" (31 : Nat) "BoardMachine$Integers$IntegerUnit" "wants" "[J") ∈ lw_all := lw_g (lw_at lw_m5 139 rfl) rfl
theorem q1410 : (Jvm.Cond.fieldLink "BoardMachine$Integers$IntegerUnit" (68 : Nat) "BoardMachine$Integers$IntegerUnit" "longing" "I") ∈ lw_all := lw_g (lw_at lw_m5 140 rfl) rfl
theorem q1411 : (Jvm.Cond.fieldLink "BoardMachine$Integers$IntegerUnit" (75 : Nat) "BoardMachine$Integers$IntegerUnit" "finished" "J") ∈ lw_all := lw_g (lw_at lw_m5 141 rfl) rfl
theorem q1412 : (Jvm.Cond.laysFinal "BoardMachine$Integers$IntegerUnit" "BoardMachine$Integers$IntegerUnit" "registers" "LBoardMachine$Integers$Registers;") ∈ lw_all := lw_g (lw_at lw_m5 142 rfl) rfl
theorem q1413 : (Jvm.Cond.soleField "BoardMachine$Integers$IntegerUnit" "registers") ∈ lw_all := lw_g (lw_at lw_m5 143 rfl) rfl
theorem q1414 : (Jvm.Cond.laysFinal "BoardMachine$Integers$IntegerUnit" "BoardMachine$Integers$IntegerUnit" "decoder" "LBoardMachine$Integers$Decoder;") ∈ lw_all := lw_g (lw_at lw_m5 144 rfl) rfl
theorem q1415 : (Jvm.Cond.soleField "BoardMachine$Integers$IntegerUnit" "decoder") ∈ lw_all := lw_g (lw_at lw_m5 145 rfl) rfl
theorem q1416 : (Jvm.Cond.laysFinal "BoardMachine$Integers$IntegerUnit" "BoardMachine$Integers$IntegerUnit" "kept" "[LBoardMachine$Integers$Decoded;") ∈ lw_all := lw_g (lw_at lw_m5 146 rfl) rfl
theorem q1417 : (Jvm.Cond.soleField "BoardMachine$Integers$IntegerUnit" "kept") ∈ lw_all := lw_g (lw_at lw_m5 147 rfl) rfl
theorem q1418 : (Jvm.Cond.lays "BoardMachine$Integers$IntegerUnit" "BoardMachine$Integers$IntegerUnit" "underWay" "LBoardMachine$Integers$Decoded;") ∈ lw_all := lw_g (lw_at lw_m5 148 rfl) rfl
theorem q1419 : (Jvm.Cond.soleField "BoardMachine$Integers$IntegerUnit" "underWay") ∈ lw_all := lw_g (lw_at lw_m5 149 rfl) rfl
theorem q1420 : (Jvm.Cond.laysFinal "BoardMachine$Integers$IntegerUnit" "BoardMachine$Integers$IntegerUnit" "wants" "[J") ∈ lw_all := lw_g (lw_at lw_m5 150 rfl) rfl
theorem q1421 : (Jvm.Cond.soleField "BoardMachine$Integers$IntegerUnit" "wants") ∈ lw_all := lw_g (lw_at lw_m5 151 rfl) rfl
theorem q1422 : (Jvm.Cond.lays "BoardMachine$Integers$IntegerUnit" "BoardMachine$Integers$IntegerUnit" "longing" "I") ∈ lw_all := lw_g (lw_at lw_m5 152 rfl) rfl
theorem q1423 : (Jvm.Cond.soleField "BoardMachine$Integers$IntegerUnit" "longing") ∈ lw_all := lw_g (lw_at lw_m5 153 rfl) rfl
theorem q1424 : (Jvm.Cond.lays "BoardMachine$Integers$IntegerUnit" "BoardMachine$Integers$IntegerUnit" "finished" "J") ∈ lw_all := lw_g (lw_at lw_m5 154 rfl) rfl
theorem q1425 : (Jvm.Cond.soleField "BoardMachine$Integers$IntegerUnit" "finished") ∈ lw_all := lw_g (lw_at lw_m5 155 rfl) rfl
theorem q1426 : (Jvm.Cond.superclass "BoardMachine$Integers$IntegerUnit" "java/lang/Object") ∈ lw_all := lw_g (lw_at lw_m5 156 rfl) rfl
theorem q1427 : (Jvm.Cond.classLink "BoardMachine$Processor" (18 : Nat) "BoardMachine$Floats$FloatUnit") ∈ lw_all := lw_g (lw_at lw_m5 157 rfl) rfl
theorem q1428 : (Jvm.Cond.instantiable "BoardMachine$Floats$FloatUnit" (16 : Nat)) ∈ lw_all := lw_g (lw_at lw_m5 158 rfl) rfl
theorem q1429 : (Jvm.Cond.methodLinkNest "BoardMachine$Processor" (20 : Nat) ({ cls := "BoardMachine$Floats$FloatUnit", name := "<init>", desc := "()V" } : Jvm.MethodName) "BoardMachine") ∈ lw_tbl := lw_at lw_m5 159 rfl
theorem q1430 : (Jvm.Cond.instanceMethod ({ cls := "BoardMachine$Floats$FloatUnit", name := "<init>", desc := "()V" } : Jvm.MethodName)) ∈ lw_all := lw_g (lw_at lw_m5 160 rfl) rfl
theorem q1431 : (Jvm.Cond.code ({ cls := "BoardMachine$Floats$FloatUnit", name := "<init>", desc := "()V" } : Jvm.MethodName) prog_29_method_1_code (1 : Nat) (Option.none : Option Jvm.ClassFile.FieldType)) ∈ lw_all := lw_g (lw_at lw_m5 161 rfl) rfl
theorem q1432 : (Jvm.Cond.methodLink "BoardMachine$Floats$FloatUnit" (3 : Nat) ({ cls := "java/lang/Object", name := "<init>", desc := "()V" } : Jvm.MethodName)) ∈ lw_all := lw_g (lw_at lw_m5 162 rfl) rfl
theorem q1433 : (Jvm.Cond.classLink "BoardMachine$Floats$FloatUnit" (15 : Nat) "BoardMachine$Floats$Flags") ∈ lw_all := lw_g (lw_at lw_m5 163 rfl) rfl
theorem q1434 : (Jvm.Cond.instantiable "BoardMachine$Floats$Flags" (2 : Nat)) ∈ lw_all := lw_g (lw_at lw_m5 164 rfl) rfl
theorem q1435 : (Jvm.Cond.methodLinkNest "BoardMachine$Floats$FloatUnit" (17 : Nat) ({ cls := "BoardMachine$Floats$Flags", name := "<init>", desc := "()V" } : Jvm.MethodName) "BoardMachine") ∈ lw_tbl := lw_at lw_m5 165 rfl
theorem q1436 : (Jvm.Cond.instanceMethod ({ cls := "BoardMachine$Floats$Flags", name := "<init>", desc := "()V" } : Jvm.MethodName)) ∈ lw_all := lw_g (lw_at lw_m5 166 rfl) rfl
theorem q1437 : (Jvm.Cond.code ({ cls := "BoardMachine$Floats$Flags", name := "<init>", desc := "()V" } : Jvm.MethodName) prog_28_method_1_code (1 : Nat) (Option.none : Option Jvm.ClassFile.FieldType)) ∈ lw_all := lw_g (lw_at lw_m5 167 rfl) rfl
theorem q1438 : (Jvm.Cond.methodLink "BoardMachine$Floats$Flags" (1 : Nat) ({ cls := "java/lang/Object", name := "<init>", desc := "()V" } : Jvm.MethodName)) ∈ lw_all := lw_g (lw_at lw_m5 168 rfl) rfl
theorem q1439 : (Jvm.Cond.fieldLink "BoardMachine$Floats$Flags" (7 : Nat) "BoardMachine$Floats$Flags" "set" "I") ∈ lw_all := lw_g (lw_at lw_m5 169 rfl) rfl
theorem q1440 : (Jvm.Cond.fieldLinkNest "BoardMachine$Floats$FloatUnit" (250 : Nat) "BoardMachine$Floats$Flags" "set" "I" "BoardMachine") ∈ lw_tbl := lw_at lw_m5 170 rfl
theorem q1441 : (Jvm.Cond.fieldLinkNest "BoardMachine$Processor" (396 : Nat) "BoardMachine$Floats$Flags" "set" "I" "BoardMachine") ∈ lw_tbl := lw_at lw_m5 171 rfl
theorem q1442 : (Jvm.Cond.fieldLink "BoardMachine$Floats$Flags" (13 : Nat) "BoardMachine$Floats$Flags" "raised" "Z") ∈ lw_all := lw_g (lw_at lw_m5 172 rfl) rfl
theorem q1443 : (Jvm.Cond.fieldLinkNest "BoardMachine$Floats$FloatUnit" (253 : Nat) "BoardMachine$Floats$Flags" "raised" "Z" "BoardMachine") ∈ lw_tbl := lw_at lw_m5 173 rfl
theorem q1444 : (Jvm.Cond.lays "BoardMachine$Floats$Flags" "BoardMachine$Floats$Flags" "set" "I") ∈ lw_all := lw_g (lw_at lw_m5 174 rfl) rfl
theorem q1445 : (Jvm.Cond.soleField "BoardMachine$Floats$Flags" "set") ∈ lw_all := lw_g (lw_at lw_m5 175 rfl) rfl
theorem q1446 : (Jvm.Cond.lays "BoardMachine$Floats$Flags" "BoardMachine$Floats$Flags" "raised" "Z") ∈ lw_all := lw_g (lw_at lw_m5 176 rfl) rfl
theorem q1447 : (Jvm.Cond.soleField "BoardMachine$Floats$Flags" "raised") ∈ lw_all := lw_g (lw_at lw_m5 177 rfl) rfl
theorem q1448 : (Jvm.Cond.superclass "BoardMachine$Floats$Flags" "java/lang/Object") ∈ lw_all := lw_g (lw_at lw_m5 178 rfl) rfl
theorem q1449 : (Jvm.Cond.classLink "BoardMachine$Floats$FloatUnit" (22 : Nat) "BoardMachine$Floats$Format") ∈ lw_all := lw_g (lw_at lw_m5 179 rfl) rfl
theorem q1450 : (Jvm.Cond.arrayOver (Jvm.ClassFile.FieldType.object "BoardMachine$Floats$Format")) ∈ lw_tbl := lw_at lw_m5 180 rfl
theorem q1451 : (Jvm.Cond.instantiable "BoardMachine$Floats$Format" (4 : Nat)) ∈ lw_all := lw_g (lw_at lw_m5 181 rfl) rfl
theorem q1452 : (Jvm.Cond.methodLink "BoardMachine$Floats$FloatUnit" (24 : Nat) ({ cls := "BoardMachine$Floats$Format", name := "<init>", desc := "(III)V" } : Jvm.MethodName)) ∈ lw_all := lw_g (lw_at lw_m5 182 rfl) rfl
theorem q1453 : (Jvm.Cond.instanceMethod ({ cls := "BoardMachine$Floats$Format", name := "<init>", desc := "(III)V" } : Jvm.MethodName)) ∈ lw_all := lw_g (lw_at lw_m5 183 rfl) rfl
theorem q1454 : (Jvm.Cond.code ({ cls := "BoardMachine$Floats$Format", name := "<init>", desc := "(III)V" } : Jvm.MethodName) prog_30_method_1_code (4 : Nat) (Option.none : Option Jvm.ClassFile.FieldType)) ∈ lw_all := lw_g (lw_at lw_m5 184 rfl) rfl
theorem q1455 : (Jvm.Cond.methodLink "BoardMachine$Floats$Format" (3 : Nat) ({ cls := "java/lang/Object", name := "<init>", desc := "()V" } : Jvm.MethodName)) ∈ lw_all := lw_g (lw_at lw_m5 185 rfl) rfl
theorem q1456 : (Jvm.Cond.classLink "BoardMachine$Floats$Format" (9 : Nat) "BoardMachine$Floats$Wide") ∈ lw_all := lw_g (lw_at lw_m5 186 rfl) rfl
theorem q1457 : (Jvm.Cond.instantiable "BoardMachine$Floats$Wide" (2 : Nat)) ∈ lw_all := lw_g (lw_at lw_m5 187 rfl) rfl
theorem q1458 : (Jvm.Cond.methodLinkNest "BoardMachine$Floats$Format" (11 : Nat) ({ cls := "BoardMachine$Floats$Wide", name := "<init>", desc := "()V" } : Jvm.MethodName) "BoardMachine") ∈ lw_tbl := lw_at lw_m5 188 rfl
theorem q1459 : (Jvm.Cond.instanceMethod ({ cls := "BoardMachine$Floats$Wide", name := "<init>", desc := "()V" } : Jvm.MethodName)) ∈ lw_all := lw_g (lw_at lw_m5 189 rfl) rfl
theorem q1460 : (Jvm.Cond.code ({ cls := "BoardMachine$Floats$Wide", name := "<init>", desc := "()V" } : Jvm.MethodName) prog_41_method_1_code (1 : Nat) (Option.none : Option Jvm.ClassFile.FieldType)) ∈ lw_all := lw_g (lw_at lw_m5 190 rfl) rfl
theorem q1461 : (Jvm.Cond.methodLink "BoardMachine$Floats$Wide" (3 : Nat) ({ cls := "java/lang/Object", name := "<init>", desc := "()V" } : Jvm.MethodName)) ∈ lw_all := lw_g (lw_at lw_m5 191 rfl) rfl
theorem q1462 : (Jvm.Cond.fieldLink "BoardMachine$Floats$Wide" (9 : Nat) "BoardMachine$Floats$Wide" "high" "J") ∈ lw_all := lw_g (lw_at lw_m5 192 rfl) rfl
theorem q1463 : (Jvm.Cond.fieldLinkNest "BoardMachine$Floats$Whole" (110 : Nat) "BoardMachine$Floats$Wide" "high" "J" "BoardMachine") ∈ lw_tbl := lw_at lw_m5 193 rfl
theorem q1464 : (Jvm.Cond.fieldLink "BoardMachine$Floats$Wide" (15 : Nat) "BoardMachine$Floats$Wide" "low" "J") ∈ lw_all := lw_g (lw_at lw_m5 194 rfl) rfl
theorem q1465 : (Jvm.Cond.fieldLinkNest "BoardMachine$Floats$Product" (43 : Nat) "BoardMachine$Floats$Wide" "low" "J" "BoardMachine") ∈ lw_tbl := lw_at lw_m5 195 rfl
theorem q1466 : (Jvm.Cond.fieldLinkNest "BoardMachine$Floats$Quotient" (61 : Nat) "BoardMachine$Floats$Wide" "low" "J" "BoardMachine") ∈ lw_tbl := lw_at lw_m5 196 rfl
theorem q1467 : (Jvm.Cond.fieldLinkNest "BoardMachine$Floats$Root" (60 : Nat) "BoardMachine$Floats$Wide" "low" "J" "BoardMachine") ∈ lw_tbl := lw_at lw_m5 197 rfl
theorem q1468 : (Jvm.Cond.fieldLinkNest "BoardMachine$Floats$Whole" (114 : Nat) "BoardMachine$Floats$Wide" "low" "J" "BoardMachine") ∈ lw_tbl := lw_at lw_m5 198 rfl
theorem q1469 : (Jvm.Cond.fieldLinkNest "BoardMachine$Floats$Format" (139 : Nat) "BoardMachine$Floats$Wide" "low" "J" "BoardMachine") ∈ lw_tbl := lw_at lw_m5 199 rfl
theorem q1470 : (Jvm.Cond.lays "BoardMachine$Floats$Wide" "BoardMachine$Floats$Wide" "high" "J") ∈ lw_all := lw_g (lw_at lw_m5 200 rfl) rfl
theorem q1471 : (Jvm.Cond.soleField "BoardMachine$Floats$Wide" "high") ∈ lw_all := lw_g (lw_at lw_m5 201 rfl) rfl
theorem q1472 : (Jvm.Cond.lays "BoardMachine$Floats$Wide" "BoardMachine$Floats$Wide" "low" "J") ∈ lw_all := lw_g (lw_at lw_m5 202 rfl) rfl
theorem q1473 : (Jvm.Cond.soleField "BoardMachine$Floats$Wide" "low") ∈ lw_all := lw_g (lw_at lw_m5 203 rfl) rfl
theorem q1474 : (Jvm.Cond.superclass "BoardMachine$Floats$Wide" "java/lang/Object") ∈ lw_all := lw_g (lw_at lw_m5 204 rfl) rfl
theorem q1475 : (Jvm.Cond.fieldLink "BoardMachine$Floats$Format" (18 : Nat) "BoardMachine$Floats$Format" "fraction" "I") ∈ lw_all := lw_g (lw_at lw_m5 205 rfl) rfl
theorem q1476 : (Jvm.Cond.fieldLink "BoardMachine$Floats$Format" (22 : Nat) "BoardMachine$Floats$Format" "middle" "I") ∈ lw_all := lw_g (lw_at lw_m5 206 rfl) rfl
theorem q1477 : (Jvm.Cond.fieldLink "BoardMachine$Floats$Format" (25 : Nat) "BoardMachine$Floats$Format" "signPlace" "I") ∈ lw_all := lw_g (lw_at lw_m5 207 rfl) rfl
theorem q1478 : (Jvm.Cond.fieldLinkNest "BoardMachine$Floats$FloatUnit" (99 : Nat) "BoardMachine$Floats$Format" "signPlace" "I" "BoardMachine") ∈ lw_tbl := lw_at lw_m5 208 rfl
theorem q1479 : (Jvm.Cond.fieldLink "BoardMachine$Floats$Format" (12 : Nat) "BoardMachine$Floats$Format" "tried" "LBoardMachine$Floats$Wide;") ∈ lw_all := lw_g (lw_at lw_m5 209 rfl) rfl
theorem q1480 : (Jvm.Cond.laysFinal "BoardMachine$Floats$Format" "BoardMachine$Floats$Format" "fraction" "I") ∈ lw_all := lw_g (lw_at lw_m5 210 rfl) rfl
theorem q1481 : (Jvm.Cond.soleField "BoardMachine$Floats$Format" "fraction") ∈ lw_all := lw_g (lw_at lw_m5 211 rfl) rfl
theorem q1482 : (Jvm.Cond.laysFinal "BoardMachine$Floats$Format" "BoardMachine$Floats$Format" "middle" "I") ∈ lw_all := lw_g (lw_at lw_m5 212 rfl) rfl
theorem q1483 : (Jvm.Cond.soleField "BoardMachine$Floats$Format" "middle") ∈ lw_all := lw_g (lw_at lw_m5 213 rfl) rfl
theorem q1484 : (Jvm.Cond.laysFinal "BoardMachine$Floats$Format" "BoardMachine$Floats$Format" "signPlace" "I") ∈ lw_all := lw_g (lw_at lw_m5 214 rfl) rfl
theorem q1485 : (Jvm.Cond.soleField "BoardMachine$Floats$Format" "signPlace") ∈ lw_all := lw_g (lw_at lw_m5 215 rfl) rfl
theorem q1486 : (Jvm.Cond.laysFinal "BoardMachine$Floats$Format" "BoardMachine$Floats$Format" "tried" "LBoardMachine$Floats$Wide;") ∈ lw_all := lw_g (lw_at lw_m5 216 rfl) rfl
theorem q1487 : (Jvm.Cond.soleField "BoardMachine$Floats$Format" "tried") ∈ lw_all := lw_g (lw_at lw_m5 217 rfl) rfl
theorem q1488 : (Jvm.Cond.superclass "BoardMachine$Floats$Format" "java/lang/Object") ∈ lw_all := lw_g (lw_at lw_m5 218 rfl) rfl
theorem q1489 : (Jvm.Cond.methodLink "BoardMachine$Floats$FloatUnit" (31 : Nat) ({ cls := "BoardMachine$Floats$Mode", name := "values", desc := "()[LBoardMachine$Floats$Mode;" } : Jvm.MethodName)) ∈ lw_all := lw_g (lw_at lw_m5 219 rfl) rfl
theorem q1490 : (Jvm.Cond.static ({ cls := "BoardMachine$Floats$Mode", name := "values", desc := "()[LBoardMachine$Floats$Mode;" } : Jvm.MethodName)) ∈ lw_all := lw_g (lw_at lw_m5 220 rfl) rfl
theorem q1491 : (Jvm.Cond.code ({ cls := "BoardMachine$Floats$Mode", name := "values", desc := "()[LBoardMachine$Floats$Mode;" } : Jvm.MethodName) prog_31_method_1_code (0 : Nat) (Option.some (Jvm.ClassFile.FieldType.array (Jvm.ClassFile.FieldType.object "BoardMachine$Floats$Mode")))) ∈ lw_all := lw_g (lw_at lw_m5 221 rfl) rfl
theorem q1492 : (Jvm.Cond.fieldLink "BoardMachine$Floats$Mode" (19 : Nat) "BoardMachine$Floats$Mode" "$VALUES" "[LBoardMachine$Floats$Mode;") ∈ lw_all := lw_g (lw_at lw_m5 222 rfl) rfl
theorem q1493 : (Jvm.Cond.laysStatic "BoardMachine$Floats$Mode" "$VALUES" "[LBoardMachine$Floats$Mode;") ∈ lw_tbl := lw_at lw_m5 223 rfl
theorem q1494 : (Jvm.Cond.methodLink "BoardMachine$Floats$Mode" (23 : Nat) ({ cls := "[LBoardMachine$Floats$Mode;", name := "clone", desc := "()Ljava/lang/Object;" } : Jvm.MethodName)) ∈ lw_all := lw_g (lw_at lw_m5 224 rfl) rfl
theorem q1495 : (Jvm.Cond.sameMethod "[LBoardMachine$Floats$Mode;" "java/lang/Object" "clone" "()Ljava/lang/Object;") ∈ lw_all := lw_g (lw_at lw_m5 225 rfl) rfl
theorem q1496 : (Jvm.Cond.selects "[LBoardMachine$Floats$Mode;" ({ cls := "[LBoardMachine$Floats$Mode;", name := "clone", desc := "()Ljava/lang/Object;" } : Jvm.MethodName) ({ cls := "java/lang/Object", name := "clone", desc := "()Ljava/lang/Object;" } : Jvm.MethodName)) ∈ lw_all := lw_g (lw_at lw_m5 226 rfl) rfl
theorem q1497 : (Jvm.Cond.castable "[LBoardMachine$Floats$Mode;" "java/lang/Cloneable") ∈ lw_tbl := lw_at lw_m5 227 rfl
theorem q1498 : (Jvm.Cond.arrayOver (Jvm.ClassFile.FieldType.object "BoardMachine$Floats$Mode")) ∈ lw_tbl := lw_at lw_m5 228 rfl
theorem q1499 : (Jvm.Cond.classLink "BoardMachine$Floats$Mode" (24 : Nat) "[LBoardMachine$Floats$Mode;") ∈ lw_all := lw_g (lw_at lw_m5 229 rfl) rfl
theorem q1500 : (Jvm.Cond.methodLink "BoardMachine$Floats$FloatUnit" (41 : Nat) ({ cls := "BoardMachine$Floats$Whole", name := "values", desc := "()[LBoardMachine$Floats$Whole;" } : Jvm.MethodName)) ∈ lw_all := lw_g (lw_at lw_m5 230 rfl) rfl
theorem q1501 : (Jvm.Cond.static ({ cls := "BoardMachine$Floats$Whole", name := "values", desc := "()[LBoardMachine$Floats$Whole;" } : Jvm.MethodName)) ∈ lw_all := lw_g (lw_at lw_m5 231 rfl) rfl
theorem q1502 : (Jvm.Cond.code ({ cls := "BoardMachine$Floats$Whole", name := "values", desc := "()[LBoardMachine$Floats$Whole;" } : Jvm.MethodName) prog_40_method_1_code (0 : Nat) (Option.some (Jvm.ClassFile.FieldType.array (Jvm.ClassFile.FieldType.object "BoardMachine$Floats$Whole")))) ∈ lw_all := lw_g (lw_at lw_m5 232 rfl) rfl
theorem q1503 : (Jvm.Cond.fieldLink "BoardMachine$Floats$Whole" (18 : Nat) "BoardMachine$Floats$Whole" "$VALUES" "[LBoardMachine$Floats$Whole;") ∈ lw_all := lw_g (lw_at lw_m5 233 rfl) rfl
theorem q1504 : (Jvm.Cond.laysStatic "BoardMachine$Floats$Whole" "$VALUES" "[LBoardMachine$Floats$Whole;") ∈ lw_tbl := lw_at lw_m5 234 rfl
theorem q1505 : (Jvm.Cond.methodLink "BoardMachine$Floats$Whole" (22 : Nat) ({ cls := "[LBoardMachine$Floats$Whole;", name := "clone", desc := "()Ljava/lang/Object;" } : Jvm.MethodName)) ∈ lw_all := lw_g (lw_at lw_m5 235 rfl) rfl
theorem q1506 : (Jvm.Cond.sameMethod "[LBoardMachine$Floats$Whole;" "java/lang/Object" "clone" "()Ljava/lang/Object;") ∈ lw_all := lw_g (lw_at lw_m5 236 rfl) rfl
theorem q1507 : (Jvm.Cond.selects "[LBoardMachine$Floats$Whole;" ({ cls := "[LBoardMachine$Floats$Whole;", name := "clone", desc := "()Ljava/lang/Object;" } : Jvm.MethodName) ({ cls := "java/lang/Object", name := "clone", desc := "()Ljava/lang/Object;" } : Jvm.MethodName)) ∈ lw_all := lw_g (lw_at lw_m5 237 rfl) rfl
theorem q1508 : (Jvm.Cond.castable "[LBoardMachine$Floats$Whole;" "java/lang/Cloneable") ∈ lw_tbl := lw_at lw_m5 238 rfl
theorem q1509 : (Jvm.Cond.arrayOver (Jvm.ClassFile.FieldType.object "BoardMachine$Floats$Whole")) ∈ lw_tbl := lw_at lw_m5 239 rfl
theorem q1510 : (Jvm.Cond.classLink "BoardMachine$Floats$Whole" (23 : Nat) "[LBoardMachine$Floats$Whole;") ∈ lw_all := lw_g (lw_at lw_m6 0 rfl) rfl
theorem q1511 : (Jvm.Cond.classLink "BoardMachine$Floats$FloatUnit" (50 : Nat) "BoardMachine$Floats$Operation") ∈ lw_all := lw_g (lw_at lw_m6 1 rfl) rfl
theorem q1512 : (Jvm.Cond.arrayOver (Jvm.ClassFile.FieldType.object "BoardMachine$Floats$Operation")) ∈ lw_tbl := lw_at lw_m6 2 rfl
theorem q1513 : (Jvm.Cond.classLink "BoardMachine$Floats$FloatUnit" (52 : Nat) "BoardMachine$Floats$Sum") ∈ lw_all := lw_g (lw_at lw_m6 3 rfl) rfl
theorem q1514 : (Jvm.Cond.instantiable "BoardMachine$Floats$Sum" (1 : Nat)) ∈ lw_all := lw_g (lw_at lw_m6 4 rfl) rfl
theorem q1515 : (Jvm.Cond.methodLink "BoardMachine$Floats$FloatUnit" (54 : Nat) ({ cls := "BoardMachine$Floats$Sum", name := "<init>", desc := "(Z)V" } : Jvm.MethodName)) ∈ lw_all := lw_g (lw_at lw_m6 5 rfl) rfl
theorem q1516 : (Jvm.Cond.instanceMethod ({ cls := "BoardMachine$Floats$Sum", name := "<init>", desc := "(Z)V" } : Jvm.MethodName)) ∈ lw_all := lw_g (lw_at lw_m6 6 rfl) rfl
theorem q1517 : (Jvm.Cond.code ({ cls := "BoardMachine$Floats$Sum", name := "<init>", desc := "(Z)V" } : Jvm.MethodName) prog_38_method_1_code (2 : Nat) (Option.none : Option Jvm.ClassFile.FieldType)) ∈ lw_all := lw_g (lw_at lw_m6 7 rfl) rfl
theorem q1518 : (Jvm.Cond.methodLinkNest "BoardMachine$Floats$Sum" (1 : Nat) ({ cls := "BoardMachine$Floats$Operation", name := "<init>", desc := "()V" } : Jvm.MethodName) "BoardMachine") ∈ lw_tbl := lw_at lw_m6 8 rfl
theorem q1519 : (Jvm.Cond.instanceMethod ({ cls := "BoardMachine$Floats$Operation", name := "<init>", desc := "()V" } : Jvm.MethodName)) ∈ lw_all := lw_g (lw_at lw_m6 9 rfl) rfl
theorem q1520 : (Jvm.Cond.code ({ cls := "BoardMachine$Floats$Operation", name := "<init>", desc := "()V" } : Jvm.MethodName) prog_32_method_1_code (1 : Nat) (Option.none : Option Jvm.ClassFile.FieldType)) ∈ lw_all := lw_g (lw_at lw_m6 10 rfl) rfl
theorem q1521 : (Jvm.Cond.methodLink "BoardMachine$Floats$Operation" (3 : Nat) ({ cls := "java/lang/Object", name := "<init>", desc := "()V" } : Jvm.MethodName)) ∈ lw_all := lw_g (lw_at lw_m6 11 rfl) rfl
theorem q1522 : (Jvm.Cond.fieldLink "BoardMachine$Floats$Sum" (7 : Nat) "BoardMachine$Floats$Sum" "takesOff" "Z") ∈ lw_all := lw_g (lw_at lw_m6 12 rfl) rfl
theorem q1523 : (Jvm.Cond.laysFinal "BoardMachine$Floats$Sum" "BoardMachine$Floats$Sum" "takesOff" "Z") ∈ lw_all := lw_g (lw_at lw_m6 13 rfl) rfl
theorem q1524 : (Jvm.Cond.soleField "BoardMachine$Floats$Sum" "takesOff") ∈ lw_all := lw_g (lw_at lw_m6 14 rfl) rfl
theorem q1525 : (Jvm.Cond.superclass "BoardMachine$Floats$Sum" "BoardMachine$Floats$Operation") ∈ lw_all := lw_g (lw_at lw_m6 15 rfl) rfl
theorem q1526 : (Jvm.Cond.classLink "BoardMachine$Floats$FloatUnit" (57 : Nat) "BoardMachine$Floats$Product") ∈ lw_all := lw_g (lw_at lw_m6 16 rfl) rfl
theorem q1527 : (Jvm.Cond.instantiable "BoardMachine$Floats$Product" (0 : Nat)) ∈ lw_all := lw_g (lw_at lw_m6 17 rfl) rfl
theorem q1528 : (Jvm.Cond.methodLinkNest "BoardMachine$Floats$FloatUnit" (59 : Nat) ({ cls := "BoardMachine$Floats$Product", name := "<init>", desc := "()V" } : Jvm.MethodName) "BoardMachine") ∈ lw_tbl := lw_at lw_m6 18 rfl
theorem q1529 : (Jvm.Cond.instanceMethod ({ cls := "BoardMachine$Floats$Product", name := "<init>", desc := "()V" } : Jvm.MethodName)) ∈ lw_all := lw_g (lw_at lw_m6 19 rfl) rfl
theorem q1530 : (Jvm.Cond.code ({ cls := "BoardMachine$Floats$Product", name := "<init>", desc := "()V" } : Jvm.MethodName) prog_33_method_1_code (1 : Nat) (Option.none : Option Jvm.ClassFile.FieldType)) ∈ lw_all := lw_g (lw_at lw_m6 20 rfl) rfl
theorem q1531 : (Jvm.Cond.methodLinkNest "BoardMachine$Floats$Product" (1 : Nat) ({ cls := "BoardMachine$Floats$Operation", name := "<init>", desc := "()V" } : Jvm.MethodName) "BoardMachine") ∈ lw_tbl := lw_at lw_m6 21 rfl
theorem q1532 : (Jvm.Cond.superclass "BoardMachine$Floats$Product" "BoardMachine$Floats$Operation") ∈ lw_all := lw_g (lw_at lw_m6 22 rfl) rfl
theorem q1533 : (Jvm.Cond.classLink "BoardMachine$Floats$FloatUnit" (60 : Nat) "BoardMachine$Floats$Quotient") ∈ lw_all := lw_g (lw_at lw_m6 23 rfl) rfl
theorem q1534 : (Jvm.Cond.instantiable "BoardMachine$Floats$Quotient" (0 : Nat)) ∈ lw_all := lw_g (lw_at lw_m6 24 rfl) rfl
theorem q1535 : (Jvm.Cond.methodLinkNest "BoardMachine$Floats$FloatUnit" (62 : Nat) ({ cls := "BoardMachine$Floats$Quotient", name := "<init>", desc := "()V" } : Jvm.MethodName) "BoardMachine") ∈ lw_tbl := lw_at lw_m6 25 rfl
theorem q1536 : (Jvm.Cond.instanceMethod ({ cls := "BoardMachine$Floats$Quotient", name := "<init>", desc := "()V" } : Jvm.MethodName)) ∈ lw_all := lw_g (lw_at lw_m6 26 rfl) rfl
theorem q1537 : (Jvm.Cond.code ({ cls := "BoardMachine$Floats$Quotient", name := "<init>", desc := "()V" } : Jvm.MethodName) prog_34_method_1_code (1 : Nat) (Option.none : Option Jvm.ClassFile.FieldType)) ∈ lw_all := lw_g (lw_at lw_m6 27 rfl) rfl
theorem q1538 : (Jvm.Cond.methodLinkNest "BoardMachine$Floats$Quotient" (3 : Nat) ({ cls := "BoardMachine$Floats$Operation", name := "<init>", desc := "()V" } : Jvm.MethodName) "BoardMachine") ∈ lw_tbl := lw_at lw_m6 28 rfl
theorem q1539 : (Jvm.Cond.superclass "BoardMachine$Floats$Quotient" "BoardMachine$Floats$Operation") ∈ lw_all := lw_g (lw_at lw_m6 29 rfl) rfl
theorem q1540 : (Jvm.Cond.classLink "BoardMachine$Floats$FloatUnit" (71 : Nat) "BoardMachine$Floats$Root") ∈ lw_all := lw_g (lw_at lw_m6 30 rfl) rfl
theorem q1541 : (Jvm.Cond.instantiable "BoardMachine$Floats$Root" (0 : Nat)) ∈ lw_all := lw_g (lw_at lw_m6 31 rfl) rfl
theorem q1542 : (Jvm.Cond.methodLinkNest "BoardMachine$Floats$FloatUnit" (73 : Nat) ({ cls := "BoardMachine$Floats$Root", name := "<init>", desc := "()V" } : Jvm.MethodName) "BoardMachine") ∈ lw_tbl := lw_at lw_m6 32 rfl
theorem q1543 : (Jvm.Cond.instanceMethod ({ cls := "BoardMachine$Floats$Root", name := "<init>", desc := "()V" } : Jvm.MethodName)) ∈ lw_all := lw_g (lw_at lw_m6 33 rfl) rfl
theorem q1544 : (Jvm.Cond.code ({ cls := "BoardMachine$Floats$Root", name := "<init>", desc := "()V" } : Jvm.MethodName) prog_35_method_1_code (1 : Nat) (Option.none : Option Jvm.ClassFile.FieldType)) ∈ lw_all := lw_g (lw_at lw_m6 34 rfl) rfl
theorem q1545 : (Jvm.Cond.methodLinkNest "BoardMachine$Floats$Root" (3 : Nat) ({ cls := "BoardMachine$Floats$Operation", name := "<init>", desc := "()V" } : Jvm.MethodName) "BoardMachine") ∈ lw_tbl := lw_at lw_m6 35 rfl
theorem q1546 : (Jvm.Cond.superclass "BoardMachine$Floats$Root" "BoardMachine$Floats$Operation") ∈ lw_all := lw_g (lw_at lw_m6 36 rfl) rfl
theorem q1547 : (Jvm.Cond.classLink "BoardMachine$Floats$FloatUnit" (77 : Nat) "BoardMachine$Floats$Same") ∈ lw_all := lw_g (lw_at lw_m6 37 rfl) rfl
theorem q1548 : (Jvm.Cond.instantiable "BoardMachine$Floats$Same" (0 : Nat)) ∈ lw_all := lw_g (lw_at lw_m6 38 rfl) rfl
theorem q1549 : (Jvm.Cond.methodLinkNest "BoardMachine$Floats$FloatUnit" (79 : Nat) ({ cls := "BoardMachine$Floats$Same", name := "<init>", desc := "()V" } : Jvm.MethodName) "BoardMachine") ∈ lw_tbl := lw_at lw_m6 39 rfl
theorem q1550 : (Jvm.Cond.instanceMethod ({ cls := "BoardMachine$Floats$Same", name := "<init>", desc := "()V" } : Jvm.MethodName)) ∈ lw_all := lw_g (lw_at lw_m6 40 rfl) rfl
theorem q1551 : (Jvm.Cond.code ({ cls := "BoardMachine$Floats$Same", name := "<init>", desc := "()V" } : Jvm.MethodName) prog_36_method_1_code (1 : Nat) (Option.none : Option Jvm.ClassFile.FieldType)) ∈ lw_all := lw_g (lw_at lw_m6 41 rfl) rfl
theorem q1552 : (Jvm.Cond.methodLinkNest "BoardMachine$Floats$Same" (1 : Nat) ({ cls := "BoardMachine$Floats$Operation", name := "<init>", desc := "()V" } : Jvm.MethodName) "BoardMachine") ∈ lw_tbl := lw_at lw_m6 42 rfl
theorem q1553 : (Jvm.Cond.superclass "BoardMachine$Floats$Same" "BoardMachine$Floats$Operation") ∈ lw_all := lw_g (lw_at lw_m6 43 rfl) rfl
theorem q1554 : (Jvm.Cond.classLink "BoardMachine$Floats$FloatUnit" (83 : Nat) "BoardMachine$Floats$Taken") ∈ lw_all := lw_g (lw_at lw_m6 44 rfl) rfl
theorem q1555 : (Jvm.Cond.instantiable "BoardMachine$Floats$Taken" (5 : Nat)) ∈ lw_all := lw_g (lw_at lw_m6 45 rfl) rfl
theorem q1556 : (Jvm.Cond.methodLinkNest "BoardMachine$Floats$FloatUnit" (85 : Nat) ({ cls := "BoardMachine$Floats$Taken", name := "<init>", desc := "()V" } : Jvm.MethodName) "BoardMachine") ∈ lw_tbl := lw_at lw_m6 46 rfl
theorem q1557 : (Jvm.Cond.instanceMethod ({ cls := "BoardMachine$Floats$Taken", name := "<init>", desc := "()V" } : Jvm.MethodName)) ∈ lw_all := lw_g (lw_at lw_m6 47 rfl) rfl
theorem q1558 : (Jvm.Cond.code ({ cls := "BoardMachine$Floats$Taken", name := "<init>", desc := "()V" } : Jvm.MethodName) prog_39_method_1_code (1 : Nat) (Option.none : Option Jvm.ClassFile.FieldType)) ∈ lw_all := lw_g (lw_at lw_m6 48 rfl) rfl
theorem q1559 : (Jvm.Cond.methodLink "BoardMachine$Floats$Taken" (1 : Nat) ({ cls := "java/lang/Object", name := "<init>", desc := "()V" } : Jvm.MethodName)) ∈ lw_all := lw_g (lw_at lw_m6 49 rfl) rfl
theorem q1560 : (Jvm.Cond.fieldLink "BoardMachine$Floats$Taken" (7 : Nat) "BoardMachine$Floats$Sort" "ZERO" "LBoardMachine$Floats$Sort;") ∈ lw_all := lw_g (lw_at lw_m6 50 rfl) rfl
theorem q1561 : (Jvm.Cond.laysStatic "BoardMachine$Floats$Sort" "ZERO" "LBoardMachine$Floats$Sort;") ∈ lw_tbl := lw_at lw_m6 51 rfl
theorem q1562 : (Jvm.Cond.classLink "BoardMachine$Floats$Taken" (18 : Nat) "BoardMachine$Floats$Wide") ∈ lw_all := lw_g (lw_at lw_m6 52 rfl) rfl
theorem q1563 : (Jvm.Cond.methodLinkNest "BoardMachine$Floats$Taken" (20 : Nat) ({ cls := "BoardMachine$Floats$Wide", name := "<init>", desc := "()V" } : Jvm.MethodName) "BoardMachine") ∈ lw_tbl := lw_at lw_m6 53 rfl
theorem q1564 : (Jvm.Cond.fieldLink "BoardMachine$Floats$Taken" (13 : Nat) "BoardMachine$Floats$Taken" "sort" "LBoardMachine$Floats$Sort;") ∈ lw_all := lw_g (lw_at lw_m6 54 rfl) rfl
theorem q1565 : (Jvm.Cond.fieldLinkNest "BoardMachine$Floats$Quotient" (15 : Nat) "BoardMachine$Floats$Taken" "sort" "LBoardMachine$Floats$Sort;" "BoardMachine") ∈ lw_tbl := lw_at lw_m6 55 rfl
theorem q1566 : (Jvm.Cond.fieldLinkNest "BoardMachine$Floats$Root" (40 : Nat) "BoardMachine$Floats$Taken" "sort" "LBoardMachine$Floats$Sort;" "BoardMachine") ∈ lw_tbl := lw_at lw_m6 56 rfl
theorem q1567 : (Jvm.Cond.fieldLinkNest "BoardMachine$Floats$Operation" (33 : Nat) "BoardMachine$Floats$Taken" "sort" "LBoardMachine$Floats$Sort;" "BoardMachine") ∈ lw_tbl := lw_at lw_m6 57 rfl
theorem q1568 : (Jvm.Cond.fieldLinkNest "BoardMachine$Floats$Whole" (82 : Nat) "BoardMachine$Floats$Taken" "sort" "LBoardMachine$Floats$Sort;" "BoardMachine") ∈ lw_tbl := lw_at lw_m6 58 rfl
theorem q1569 : (Jvm.Cond.fieldLinkNest "BoardMachine$Floats$Format" (68 : Nat) "BoardMachine$Floats$Taken" "sort" "LBoardMachine$Floats$Sort;" "BoardMachine") ∈ lw_tbl := lw_at lw_m6 59 rfl
theorem q1570 : (Jvm.Cond.fieldLinkNest "BoardMachine$Floats$FloatUnit" (210 : Nat) "BoardMachine$Floats$Taken" "sort" "LBoardMachine$Floats$Sort;" "BoardMachine") ∈ lw_tbl := lw_at lw_m6 60 rfl
theorem q1571 : (Jvm.Cond.fieldLinkNest "BoardMachine$Floats$Product" (7 : Nat) "BoardMachine$Floats$Taken" "below" "Z" "BoardMachine") ∈ lw_tbl := lw_at lw_m6 61 rfl
theorem q1572 : (Jvm.Cond.fieldLinkNest "BoardMachine$Floats$Quotient" (9 : Nat) "BoardMachine$Floats$Taken" "below" "Z" "BoardMachine") ∈ lw_tbl := lw_at lw_m6 62 rfl
theorem q1573 : (Jvm.Cond.fieldLinkNest "BoardMachine$Floats$Root" (9 : Nat) "BoardMachine$Floats$Taken" "below" "Z" "BoardMachine") ∈ lw_tbl := lw_at lw_m6 63 rfl
theorem q1574 : (Jvm.Cond.fieldLinkNest "BoardMachine$Floats$Sum" (13 : Nat) "BoardMachine$Floats$Taken" "below" "Z" "BoardMachine") ∈ lw_tbl := lw_at lw_m6 64 rfl
theorem q1575 : (Jvm.Cond.fieldLink "BoardMachine$Floats$Taken" (25 : Nat) "BoardMachine$Floats$Taken" "below" "Z") ∈ lw_all := lw_g (lw_at lw_m6 65 rfl) rfl
theorem q1576 : (Jvm.Cond.fieldLinkNest "BoardMachine$Floats$Whole" (79 : Nat) "BoardMachine$Floats$Taken" "below" "Z" "BoardMachine") ∈ lw_tbl := lw_at lw_m6 66 rfl
theorem q1577 : (Jvm.Cond.fieldLinkNest "BoardMachine$Floats$Format" (75 : Nat) "BoardMachine$Floats$Taken" "below" "Z" "BoardMachine") ∈ lw_tbl := lw_at lw_m6 67 rfl
theorem q1578 : (Jvm.Cond.fieldLinkNest "BoardMachine$Floats$FloatUnit" (197 : Nat) "BoardMachine$Floats$Taken" "below" "Z" "BoardMachine") ∈ lw_tbl := lw_at lw_m6 68 rfl
theorem q1579 : (Jvm.Cond.fieldLinkNest "BoardMachine$Floats$Product" (53 : Nat) "BoardMachine$Floats$Taken" "exponent" "I" "BoardMachine") ∈ lw_tbl := lw_at lw_m6 69 rfl
theorem q1580 : (Jvm.Cond.fieldLinkNest "BoardMachine$Floats$Root" (47 : Nat) "BoardMachine$Floats$Taken" "exponent" "I" "BoardMachine") ∈ lw_tbl := lw_at lw_m6 70 rfl
theorem q1581 : (Jvm.Cond.fieldLink "BoardMachine$Floats$Taken" (33 : Nat) "BoardMachine$Floats$Taken" "exponent" "I") ∈ lw_all := lw_g (lw_at lw_m6 71 rfl) rfl
theorem q1582 : (Jvm.Cond.fieldLinkNest "BoardMachine$Floats$Quotient" (71 : Nat) "BoardMachine$Floats$Taken" "exponent" "I" "BoardMachine") ∈ lw_tbl := lw_at lw_m6 72 rfl
theorem q1583 : (Jvm.Cond.fieldLinkNest "BoardMachine$Floats$Sum" (61 : Nat) "BoardMachine$Floats$Taken" "exponent" "I" "BoardMachine") ∈ lw_tbl := lw_at lw_m6 73 rfl
theorem q1584 : (Jvm.Cond.fieldLinkNest "BoardMachine$Floats$Whole" (66 : Nat) "BoardMachine$Floats$Taken" "exponent" "I" "BoardMachine") ∈ lw_tbl := lw_at lw_m6 74 rfl
theorem q1585 : (Jvm.Cond.fieldLinkNest "BoardMachine$Floats$Format" (96 : Nat) "BoardMachine$Floats$Taken" "exponent" "I" "BoardMachine") ∈ lw_tbl := lw_at lw_m6 75 rfl
theorem q1586 : (Jvm.Cond.fieldLink "BoardMachine$Floats$Taken" (21 : Nat) "BoardMachine$Floats$Taken" "size" "LBoardMachine$Floats$Wide;") ∈ lw_all := lw_g (lw_at lw_m6 76 rfl) rfl
theorem q1587 : (Jvm.Cond.fieldLinkNest "BoardMachine$Floats$Product" (39 : Nat) "BoardMachine$Floats$Taken" "size" "LBoardMachine$Floats$Wide;" "BoardMachine") ∈ lw_tbl := lw_at lw_m6 77 rfl
theorem q1588 : (Jvm.Cond.fieldLinkNest "BoardMachine$Floats$Quotient" (57 : Nat) "BoardMachine$Floats$Taken" "size" "LBoardMachine$Floats$Wide;" "BoardMachine") ∈ lw_tbl := lw_at lw_m6 78 rfl
theorem q1589 : (Jvm.Cond.fieldLinkNest "BoardMachine$Floats$Root" (51 : Nat) "BoardMachine$Floats$Taken" "size" "LBoardMachine$Floats$Wide;" "BoardMachine") ∈ lw_tbl := lw_at lw_m6 79 rfl
theorem q1590 : (Jvm.Cond.fieldLinkNest "BoardMachine$Floats$Sum" (65 : Nat) "BoardMachine$Floats$Taken" "size" "LBoardMachine$Floats$Wide;" "BoardMachine") ∈ lw_tbl := lw_at lw_m6 80 rfl
theorem q1591 : (Jvm.Cond.fieldLinkNest "BoardMachine$Floats$Whole" (69 : Nat) "BoardMachine$Floats$Taken" "size" "LBoardMachine$Floats$Wide;" "BoardMachine") ∈ lw_tbl := lw_at lw_m6 81 rfl
theorem q1592 : (Jvm.Cond.fieldLinkNest "BoardMachine$Floats$Format" (89 : Nat) "BoardMachine$Floats$Taken" "size" "LBoardMachine$Floats$Wide;" "BoardMachine") ∈ lw_tbl := lw_at lw_m6 82 rfl
theorem q1593 : (Jvm.Cond.fieldLinkNest "BoardMachine$Floats$Format" (42 : Nat) "BoardMachine$Floats$Taken" "bits" "J" "BoardMachine") ∈ lw_tbl := lw_at lw_m6 83 rfl
theorem q1594 : (Jvm.Cond.fieldLinkNest "BoardMachine$Floats$FloatUnit" (231 : Nat) "BoardMachine$Floats$Taken" "bits" "J" "BoardMachine") ∈ lw_tbl := lw_at lw_m6 84 rfl
theorem q1595 : (Jvm.Cond.lays "BoardMachine$Floats$Taken" "BoardMachine$Floats$Taken" "sort" "LBoardMachine$Floats$Sort;") ∈ lw_all := lw_g (lw_at lw_m6 85 rfl) rfl
theorem q1596 : (Jvm.Cond.soleField "BoardMachine$Floats$Taken" "sort") ∈ lw_all := lw_g (lw_at lw_m6 86 rfl) rfl
theorem q1597 : (Jvm.Cond.lays "BoardMachine$Floats$Taken" "BoardMachine$Floats$Taken" "below" "Z") ∈ lw_all := lw_g (lw_at lw_m6 87 rfl) rfl
theorem q1598 : (Jvm.Cond.soleField "BoardMachine$Floats$Taken" "below") ∈ lw_all := lw_g (lw_at lw_m6 88 rfl) rfl
theorem q1599 : (Jvm.Cond.lays "BoardMachine$Floats$Taken" "BoardMachine$Floats$Taken" "exponent" "I") ∈ lw_all := lw_g (lw_at lw_m6 89 rfl) rfl
theorem q1600 : (Jvm.Cond.soleField "BoardMachine$Floats$Taken" "exponent") ∈ lw_all := lw_g (lw_at lw_m6 90 rfl) rfl
theorem q1601 : (Jvm.Cond.laysFinal "BoardMachine$Floats$Taken" "BoardMachine$Floats$Taken" "size" "LBoardMachine$Floats$Wide;") ∈ lw_all := lw_g (lw_at lw_m6 91 rfl) rfl
theorem q1602 : (Jvm.Cond.soleField "BoardMachine$Floats$Taken" "size") ∈ lw_all := lw_g (lw_at lw_m6 92 rfl) rfl
theorem q1603 : (Jvm.Cond.lays "BoardMachine$Floats$Taken" "BoardMachine$Floats$Taken" "bits" "J") ∈ lw_all := lw_g (lw_at lw_m6 93 rfl) rfl
theorem q1604 : (Jvm.Cond.soleField "BoardMachine$Floats$Taken" "bits") ∈ lw_all := lw_g (lw_at lw_m6 94 rfl) rfl
theorem q1605 : (Jvm.Cond.superclass "BoardMachine$Floats$Taken" "java/lang/Object") ∈ lw_all := lw_g (lw_at lw_m6 95 rfl) rfl
theorem q1606 : (Jvm.Cond.fieldLink "BoardMachine$Floats$FloatUnit" (9 : Nat) "BoardMachine$Floats$FloatUnit" "registers" "[J") ∈ lw_all := lw_g (lw_at lw_m6 96 rfl) rfl
theorem q1607 : (Jvm.Cond.fieldLinkNest "BoardMachine$Processor" (90 : Nat) "BoardMachine$Floats$FloatUnit" "registers" "[J" "BoardMachine") ∈ lw_tbl := lw_at lw_m6 97 rfl
theorem q1608 : (Jvm.Cond.fieldLinkNest "BoardMachine" (126 : Nat) "BoardMachine$Floats$FloatUnit" "registers" "[J" "BoardMachine") ∈ lw_tbl := lw_at lw_m6 98 rfl
theorem q1609 : (Jvm.Cond.fieldLink "BoardMachine$Floats$FloatUnit" (18 : Nat) "BoardMachine$Floats$FloatUnit" "flags" "LBoardMachine$Floats$Flags;") ∈ lw_all := lw_g (lw_at lw_m6 99 rfl) rfl
theorem q1610 : (Jvm.Cond.fieldLinkNest "BoardMachine$Processor" (392 : Nat) "BoardMachine$Floats$FloatUnit" "flags" "LBoardMachine$Floats$Flags;" "BoardMachine") ∈ lw_tbl := lw_at lw_m6 100 rfl
theorem q1611 : (Jvm.Cond.fieldLink "BoardMachine$Floats$FloatUnit" (107 : Nat) "BoardMachine$Floats$FloatUnit" "mode" "I") ∈ lw_all := lw_g (lw_at lw_m6 101 rfl) rfl
theorem q1612 : (Jvm.Cond.fieldLinkNest "BoardMachine$Processor" (400 : Nat) "BoardMachine$Floats$FloatUnit" "mode" "I" "BoardMachine") ∈ lw_tbl := lw_at lw_m6 102 rfl
theorem q1613 : (Jvm.Cond.fieldLink "BoardMachine$Floats$FloatUnit" (130 : Nat) "BoardMachine$Floats$FloatUnit" "written" "Z") ∈ lw_all := lw_g (lw_at lw_m6 103 rfl) rfl
theorem q1614 : (Jvm.Cond.fieldLink "BoardMachine$Floats$FloatUnit" (134 : Nat) "BoardMachine$Floats$FloatUnit" "value" "J") ∈ lw_all := lw_g (lw_at lw_m6 104 rfl) rfl
theorem q1615 : (Jvm.Cond.fieldLinkNest "BoardMachine$Processor" (383 : Nat) "BoardMachine$Floats$FloatUnit" "value" "J" "BoardMachine") ∈ lw_tbl := lw_at lw_m6 105 rfl
theorem q1616 : (Jvm.Cond.fieldLink "BoardMachine$Floats$FloatUnit" (27 : Nat) "BoardMachine$Floats$FloatUnit" "formats" "[LBoardMachine$Floats$Format;") ∈ lw_all := lw_g (lw_at lw_m6 106 rfl) rfl
theorem q1617 : (Jvm.Cond.fieldLink "BoardMachine$Floats$FloatUnit" (37 : Nat) "BoardMachine$Floats$FloatUnit" "modes" "[LBoardMachine$Floats$Mode;") ∈ lw_all := lw_g (lw_at lw_m6 107 rfl) rfl
theorem q1618 : (Jvm.Cond.fieldLink "BoardMachine$Floats$FloatUnit" (46 : Nat) "BoardMachine$Floats$FloatUnit" "wholes" "[LBoardMachine$Floats$Whole;") ∈ lw_all := lw_g (lw_at lw_m6 108 rfl) rfl
theorem q1619 : (Jvm.Cond.fieldLink "BoardMachine$Floats$FloatUnit" (63 : Nat) "BoardMachine$Floats$FloatUnit" "operations" "[LBoardMachine$Floats$Operation;") ∈ lw_all := lw_g (lw_at lw_m6 109 rfl) rfl
theorem q1620 : (Jvm.Cond.fieldLink "BoardMachine$Floats$FloatUnit" (67 : Nat) "BoardMachine$Floats$FloatUnit" "product" "LBoardMachine$Floats$Operation;") ∈ lw_all := lw_g (lw_at lw_m6 110 rfl) rfl
theorem q1621 : (Jvm.Cond.fieldLink "BoardMachine$Floats$FloatUnit" (74 : Nat) "BoardMachine$Floats$FloatUnit" "root" "LBoardMachine$Floats$Operation;") ∈ lw_all := lw_g (lw_at lw_m6 111 rfl) rfl
theorem q1622 : (Jvm.Cond.fieldLink "BoardMachine$Floats$FloatUnit" (80 : Nat) "BoardMachine$Floats$FloatUnit" "same" "LBoardMachine$Floats$Operation;") ∈ lw_all := lw_g (lw_at lw_m6 112 rfl) rfl
theorem q1623 : (Jvm.Cond.fieldLink "BoardMachine$Floats$FloatUnit" (86 : Nat) "BoardMachine$Floats$FloatUnit" "first" "LBoardMachine$Floats$Taken;") ∈ lw_all := lw_g (lw_at lw_m6 113 rfl) rfl
theorem q1624 : (Jvm.Cond.fieldLink "BoardMachine$Floats$FloatUnit" (90 : Nat) "BoardMachine$Floats$FloatUnit" "second" "LBoardMachine$Floats$Taken;") ∈ lw_all := lw_g (lw_at lw_m6 114 rfl) rfl
theorem q1625 : (Jvm.Cond.fieldLink "BoardMachine$Floats$FloatUnit" (93 : Nat) "BoardMachine$Floats$FloatUnit" "third" "LBoardMachine$Floats$Taken;") ∈ lw_all := lw_g (lw_at lw_m6 115 rfl) rfl
theorem q1626 : (Jvm.Cond.fieldLink "BoardMachine$Floats$FloatUnit" (96 : Nat) "BoardMachine$Floats$FloatUnit" "out" "LBoardMachine$Floats$Taken;") ∈ lw_all := lw_g (lw_at lw_m6 116 rfl) rfl
theorem q1627 : (Jvm.Cond.laysFinal "BoardMachine$Floats$FloatUnit" "BoardMachine$Floats$FloatUnit" "registers" "[J") ∈ lw_all := lw_g (lw_at lw_m6 117 rfl) rfl
theorem q1628 : (Jvm.Cond.soleField "BoardMachine$Floats$FloatUnit" "registers") ∈ lw_all := lw_g (lw_at lw_m6 118 rfl) rfl
theorem q1629 : (Jvm.Cond.laysFinal "BoardMachine$Floats$FloatUnit" "BoardMachine$Floats$FloatUnit" "flags" "LBoardMachine$Floats$Flags;") ∈ lw_all := lw_g (lw_at lw_m6 119 rfl) rfl
theorem q1630 : (Jvm.Cond.soleField "BoardMachine$Floats$FloatUnit" "flags") ∈ lw_all := lw_g (lw_at lw_m6 120 rfl) rfl
theorem q1631 : (Jvm.Cond.lays "BoardMachine$Floats$FloatUnit" "BoardMachine$Floats$FloatUnit" "mode" "I") ∈ lw_all := lw_g (lw_at lw_m6 121 rfl) rfl
theorem q1632 : (Jvm.Cond.soleField "BoardMachine$Floats$FloatUnit" "mode") ∈ lw_all := lw_g (lw_at lw_m6 122 rfl) rfl
theorem q1633 : (Jvm.Cond.lays "BoardMachine$Floats$FloatUnit" "BoardMachine$Floats$FloatUnit" "written" "Z") ∈ lw_all := lw_g (lw_at lw_m6 123 rfl) rfl
theorem q1634 : (Jvm.Cond.soleField "BoardMachine$Floats$FloatUnit" "written") ∈ lw_all := lw_g (lw_at lw_m6 124 rfl) rfl
theorem q1635 : (Jvm.Cond.lays "BoardMachine$Floats$FloatUnit" "BoardMachine$Floats$FloatUnit" "value" "J") ∈ lw_all := lw_g (lw_at lw_m6 125 rfl) rfl
theorem q1636 : (Jvm.Cond.soleField "BoardMachine$Floats$FloatUnit" "value") ∈ lw_all := lw_g (lw_at lw_m6 126 rfl) rfl
theorem q1637 : (Jvm.Cond.laysFinal "BoardMachine$Floats$FloatUnit" "BoardMachine$Floats$FloatUnit" "formats" "[LBoardMachine$Floats$Format;") ∈ lw_all := lw_g (lw_at lw_m6 127 rfl) rfl
theorem q1638 : (Jvm.Cond.soleField "BoardMachine$Floats$FloatUnit" "formats") ∈ lw_all := lw_g (lw_at lw_m6 128 rfl) rfl
theorem q1639 : (Jvm.Cond.laysFinal "BoardMachine$Floats$FloatUnit" "BoardMachine$Floats$FloatUnit" "modes" "[LBoardMachine$Floats$Mode;") ∈ lw_all := lw_g (lw_at lw_m6 129 rfl) rfl
theorem q1640 : (Jvm.Cond.soleField "BoardMachine$Floats$FloatUnit" "modes") ∈ lw_all := lw_g (lw_at lw_m6 130 rfl) rfl
theorem q1641 : (Jvm.Cond.laysFinal "BoardMachine$Floats$FloatUnit" "BoardMachine$Floats$FloatUnit" "wholes" "[LBoardMachine$Floats$Whole;") ∈ lw_all := lw_g (lw_at lw_m6 131 rfl) rfl
theorem q1642 : (Jvm.Cond.soleField "BoardMachine$Floats$FloatUnit" "wholes") ∈ lw_all := lw_g (lw_at lw_m6 132 rfl) rfl
theorem q1643 : (Jvm.Cond.laysFinal "BoardMachine$Floats$FloatUnit" "BoardMachine$Floats$FloatUnit" "operations" "[LBoardMachine$Floats$Operation;") ∈ lw_all := lw_g (lw_at lw_m6 133 rfl) rfl
theorem q1644 : (Jvm.Cond.soleField "BoardMachine$Floats$FloatUnit" "operations") ∈ lw_all := lw_g (lw_at lw_m6 134 rfl) rfl
theorem q1645 : (Jvm.Cond.laysFinal "BoardMachine$Floats$FloatUnit" "BoardMachine$Floats$FloatUnit" "product" "LBoardMachine$Floats$Operation;") ∈ lw_all := lw_g (lw_at lw_m6 135 rfl) rfl
theorem q1646 : (Jvm.Cond.soleField "BoardMachine$Floats$FloatUnit" "product") ∈ lw_all := lw_g (lw_at lw_m6 136 rfl) rfl
theorem q1647 : (Jvm.Cond.laysFinal "BoardMachine$Floats$FloatUnit" "BoardMachine$Floats$FloatUnit" "root" "LBoardMachine$Floats$Operation;") ∈ lw_all := lw_g (lw_at lw_m6 137 rfl) rfl
theorem q1648 : (Jvm.Cond.soleField "BoardMachine$Floats$FloatUnit" "root") ∈ lw_all := lw_g (lw_at lw_m6 138 rfl) rfl
theorem q1649 : (Jvm.Cond.laysFinal "BoardMachine$Floats$FloatUnit" "BoardMachine$Floats$FloatUnit" "same" "LBoardMachine$Floats$Operation;") ∈ lw_all := lw_g (lw_at lw_m6 139 rfl) rfl
theorem q1650 : (Jvm.Cond.soleField "BoardMachine$Floats$FloatUnit" "same") ∈ lw_all := lw_g (lw_at lw_m6 140 rfl) rfl
theorem q1651 : (Jvm.Cond.laysFinal "BoardMachine$Floats$FloatUnit" "BoardMachine$Floats$FloatUnit" "first" "LBoardMachine$Floats$Taken;") ∈ lw_all := lw_g (lw_at lw_m6 141 rfl) rfl
theorem q1652 : (Jvm.Cond.soleField "BoardMachine$Floats$FloatUnit" "first") ∈ lw_all := lw_g (lw_at lw_m6 142 rfl) rfl
theorem q1653 : (Jvm.Cond.laysFinal "BoardMachine$Floats$FloatUnit" "BoardMachine$Floats$FloatUnit" "second" "LBoardMachine$Floats$Taken;") ∈ lw_all := lw_g (lw_at lw_m6 143 rfl) rfl
theorem q1654 : (Jvm.Cond.soleField "BoardMachine$Floats$FloatUnit" "second") ∈ lw_all := lw_g (lw_at lw_m6 144 rfl) rfl
theorem q1655 : (Jvm.Cond.laysFinal "BoardMachine$Floats$FloatUnit" "BoardMachine$Floats$FloatUnit" "third" "LBoardMachine$Floats$Taken;") ∈ lw_all := lw_g (lw_at lw_m6 145 rfl) rfl
theorem q1656 : (Jvm.Cond.soleField "BoardMachine$Floats$FloatUnit" "third") ∈ lw_all := lw_g (lw_at lw_m6 146 rfl) rfl
theorem q1657 : (Jvm.Cond.laysFinal "BoardMachine$Floats$FloatUnit" "BoardMachine$Floats$FloatUnit" "out" "LBoardMachine$Floats$Taken;") ∈ lw_all := lw_g (lw_at lw_m6 147 rfl) rfl
theorem q1658 : (Jvm.Cond.soleField "BoardMachine$Floats$FloatUnit" "out") ∈ lw_all := lw_g (lw_at lw_m6 148 rfl) rfl
theorem q1659 : (Jvm.Cond.superclass "BoardMachine$Floats$FloatUnit" "java/lang/Object") ∈ lw_all := lw_g (lw_at lw_m6 149 rfl) rfl
theorem q1660 : (Jvm.Cond.classLink "BoardMachine$Processor" (25 : Nat) "BoardMachine$Kept") ∈ lw_all := lw_g (lw_at lw_m6 150 rfl) rfl
theorem q1661 : (Jvm.Cond.arrayOver (Jvm.ClassFile.FieldType.object "BoardMachine$Kept")) ∈ lw_tbl := lw_at lw_m6 151 rfl
theorem q1662 : (Jvm.Cond.classLink "BoardMachine$Processor" (31 : Nat) "BoardMachine$Found") ∈ lw_all := lw_g (lw_at lw_m6 152 rfl) rfl
theorem q1663 : (Jvm.Cond.instantiable "BoardMachine$Found" (4 : Nat)) ∈ lw_all := lw_g (lw_at lw_m6 153 rfl) rfl
theorem q1664 : (Jvm.Cond.methodLinkNest "BoardMachine$Processor" (33 : Nat) ({ cls := "BoardMachine$Found", name := "<init>", desc := "()V" } : Jvm.MethodName) "BoardMachine") ∈ lw_tbl := lw_at lw_m6 154 rfl
theorem q1665 : (Jvm.Cond.instanceMethod ({ cls := "BoardMachine$Found", name := "<init>", desc := "()V" } : Jvm.MethodName)) ∈ lw_all := lw_g (lw_at lw_m6 155 rfl) rfl
theorem q1666 : (Jvm.Cond.code ({ cls := "BoardMachine$Found", name := "<init>", desc := "()V" } : Jvm.MethodName) prog_42_method_1_code (1 : Nat) (Option.none : Option Jvm.ClassFile.FieldType)) ∈ lw_all := lw_g (lw_at lw_m6 156 rfl) rfl
theorem q1667 : (Jvm.Cond.methodLink "BoardMachine$Found" (1 : Nat) ({ cls := "java/lang/Object", name := "<init>", desc := "()V" } : Jvm.MethodName)) ∈ lw_all := lw_g (lw_at lw_m6 157 rfl) rfl
theorem q1668 : (Jvm.Cond.fieldLink "BoardMachine$Found" (7 : Nat) "BoardMachine$Found" "places" "[J") ∈ lw_all := lw_g (lw_at lw_m6 158 rfl) rfl
theorem q1669 : (Jvm.Cond.fieldLinkNest "BoardMachine$Processor" (290 : Nat) "BoardMachine$Found" "places" "[J" "BoardMachine") ∈ lw_tbl := lw_at lw_m6 159 rfl
theorem q1670 : (Jvm.Cond.fieldLink "BoardMachine$Found" (17 : Nat) "BoardMachine$Found" "size" "I") ∈ lw_all := lw_g (lw_at lw_m6 160 rfl) rfl
theorem q1671 : (Jvm.Cond.fieldLinkNest "BoardMachine$Processor" (276 : Nat) "BoardMachine$Found" "size" "I" "BoardMachine") ∈ lw_tbl := lw_at lw_m6 161 rfl
theorem q1672 : (Jvm.Cond.fieldLink "BoardMachine$Found" (27 : Nat) "BoardMachine$Found" "whole" "Z") ∈ lw_all := lw_g (lw_at lw_m6 162 rfl) rfl
theorem q1673 : (Jvm.Cond.fieldLinkNest "BoardMachine$Processor" (287 : Nat) "BoardMachine$Found" "whole" "Z" "BoardMachine") ∈ lw_tbl := lw_at lw_m6 163 rfl
theorem q1674 : (Jvm.Cond.fieldLink "BoardMachine$Found" (13 : Nat) "BoardMachine$Found" "window" "LBoardMachine$Window;") ∈ lw_all := lw_g (lw_at lw_m6 164 rfl) rfl
theorem q1675 : (Jvm.Cond.fieldLinkNest "BoardMachine$Processor" (279 : Nat) "BoardMachine$Found" "window" "LBoardMachine$Window;" "BoardMachine") ∈ lw_tbl := lw_at lw_m6 165 rfl
theorem q1676 : (Jvm.Cond.laysFinal "BoardMachine$Found" "BoardMachine$Found" "places" "[J") ∈ lw_all := lw_g (lw_at lw_m6 166 rfl) rfl
theorem q1677 : (Jvm.Cond.soleField "BoardMachine$Found" "places") ∈ lw_all := lw_g (lw_at lw_m6 167 rfl) rfl
theorem q1678 : (Jvm.Cond.lays "BoardMachine$Found" "BoardMachine$Found" "size" "I") ∈ lw_all := lw_g (lw_at lw_m6 168 rfl) rfl
theorem q1679 : (Jvm.Cond.soleField "BoardMachine$Found" "size") ∈ lw_all := lw_g (lw_at lw_m6 169 rfl) rfl
theorem q1680 : (Jvm.Cond.lays "BoardMachine$Found" "BoardMachine$Found" "whole" "Z") ∈ lw_all := lw_g (lw_at lw_m6 170 rfl) rfl
theorem q1681 : (Jvm.Cond.soleField "BoardMachine$Found" "whole") ∈ lw_all := lw_g (lw_at lw_m6 171 rfl) rfl
theorem q1682 : (Jvm.Cond.lays "BoardMachine$Found" "BoardMachine$Found" "window" "LBoardMachine$Window;") ∈ lw_all := lw_g (lw_at lw_m6 172 rfl) rfl
theorem q1683 : (Jvm.Cond.soleField "BoardMachine$Found" "window") ∈ lw_all := lw_g (lw_at lw_m6 173 rfl) rfl
theorem q1684 : (Jvm.Cond.superclass "BoardMachine$Found" "java/lang/Object") ∈ lw_all := lw_g (lw_at lw_m6 174 rfl) rfl
theorem q1685 : (Jvm.Cond.classLink "BoardMachine$Processor" (50 : Nat) "BoardMachine$Controls$ControlUnit") ∈ lw_all := lw_g (lw_at lw_m6 175 rfl) rfl
theorem q1686 : (Jvm.Cond.instantiable "BoardMachine$Controls$ControlUnit" (16 : Nat)) ∈ lw_all := lw_g (lw_at lw_m6 176 rfl) rfl
theorem q1687 : (Jvm.Cond.methodLink "BoardMachine$Processor" (52 : Nat) ({ cls := "BoardMachine$Controls$ControlUnit", name := "<init>", desc := "(I)V" } : Jvm.MethodName)) ∈ lw_all := lw_g (lw_at lw_m6 177 rfl) rfl
theorem q1688 : (Jvm.Cond.instanceMethod ({ cls := "BoardMachine$Controls$ControlUnit", name := "<init>", desc := "(I)V" } : Jvm.MethodName)) ∈ lw_all := lw_g (lw_at lw_m6 178 rfl) rfl
theorem q1689 : (Jvm.Cond.code ({ cls := "BoardMachine$Controls$ControlUnit", name := "<init>", desc := "(I)V" } : Jvm.MethodName) prog_5_method_1_code (3 : Nat) (Option.none : Option Jvm.ClassFile.FieldType)) ∈ lw_all := lw_g (lw_at lw_m6 179 rfl) rfl
theorem q1690 : (Jvm.Cond.methodLink "BoardMachine$Controls$ControlUnit" (3 : Nat) ({ cls := "java/lang/Object", name := "<init>", desc := "()V" } : Jvm.MethodName)) ∈ lw_all := lw_g (lw_at lw_m6 180 rfl) rfl
theorem q1691 : (Jvm.Cond.classLink "BoardMachine$Controls$ControlUnit" (15 : Nat) "BoardMachine$Controls$Register") ∈ lw_all := lw_g (lw_at lw_m6 181 rfl) rfl
theorem q1692 : (Jvm.Cond.arrayOver (Jvm.ClassFile.FieldType.object "BoardMachine$Controls$Register")) ∈ lw_tbl := lw_at lw_m6 182 rfl
theorem q1693 : (Jvm.Cond.classLink "BoardMachine$Controls$ControlUnit" (21 : Nat) "BoardMachine$Controls$Constant") ∈ lw_all := lw_g (lw_at lw_m6 183 rfl) rfl
theorem q1694 : (Jvm.Cond.instantiable "BoardMachine$Controls$Constant" (1 : Nat)) ∈ lw_all := lw_g (lw_at lw_m6 184 rfl) rfl
theorem q1695 : (Jvm.Cond.methodLink "BoardMachine$Controls$ControlUnit" (23 : Nat) ({ cls := "BoardMachine$Controls$Constant", name := "<init>", desc := "(J)V" } : Jvm.MethodName)) ∈ lw_all := lw_g (lw_at lw_m6 185 rfl) rfl
theorem q1696 : (Jvm.Cond.instanceMethod ({ cls := "BoardMachine$Controls$Constant", name := "<init>", desc := "(J)V" } : Jvm.MethodName)) ∈ lw_all := lw_g (lw_at lw_m6 186 rfl) rfl
theorem q1697 : (Jvm.Cond.code ({ cls := "BoardMachine$Controls$Constant", name := "<init>", desc := "(J)V" } : Jvm.MethodName) prog_4_method_1_code (3 : Nat) (Option.none : Option Jvm.ClassFile.FieldType)) ∈ lw_all := lw_g (lw_at lw_m6 187 rfl) rfl
theorem q1698 : (Jvm.Cond.methodLinkNest "BoardMachine$Controls$Constant" (1 : Nat) ({ cls := "BoardMachine$Controls$Register", name := "<init>", desc := "()V" } : Jvm.MethodName) "BoardMachine") ∈ lw_tbl := lw_at lw_m6 188 rfl
theorem q1699 : (Jvm.Cond.instanceMethod ({ cls := "BoardMachine$Controls$Register", name := "<init>", desc := "()V" } : Jvm.MethodName)) ∈ lw_all := lw_g (lw_at lw_m6 189 rfl) rfl
theorem q1700 : (Jvm.Cond.code ({ cls := "BoardMachine$Controls$Register", name := "<init>", desc := "()V" } : Jvm.MethodName) prog_8_method_1_code (1 : Nat) (Option.none : Option Jvm.ClassFile.FieldType)) ∈ lw_all := lw_g (lw_at lw_m6 190 rfl) rfl
theorem q1701 : (Jvm.Cond.methodLink "BoardMachine$Controls$Register" (1 : Nat) ({ cls := "java/lang/Object", name := "<init>", desc := "()V" } : Jvm.MethodName)) ∈ lw_all := lw_g (lw_at lw_m6 191 rfl) rfl
theorem q1702 : (Jvm.Cond.fieldLink "BoardMachine$Controls$Constant" (7 : Nat) "BoardMachine$Controls$Constant" "shown" "J") ∈ lw_all := lw_g (lw_at lw_m6 192 rfl) rfl
theorem q1703 : (Jvm.Cond.laysFinal "BoardMachine$Controls$Constant" "BoardMachine$Controls$Constant" "shown" "J") ∈ lw_all := lw_g (lw_at lw_m6 193 rfl) rfl
theorem q1704 : (Jvm.Cond.soleField "BoardMachine$Controls$Constant" "shown") ∈ lw_all := lw_g (lw_at lw_m6 194 rfl) rfl
theorem q1705 : (Jvm.Cond.superclass "BoardMachine$Controls$Constant" "BoardMachine$Controls$Register") ∈ lw_all := lw_g (lw_at lw_m6 195 rfl) rfl
theorem q1706 : (Jvm.Cond.classLink "BoardMachine$Controls$ControlUnit" (30 : Nat) "BoardMachine$Controls$Status") ∈ lw_all := lw_g (lw_at lw_m6 196 rfl) rfl
theorem q1707 : (Jvm.Cond.instantiable "BoardMachine$Controls$Status" (2 : Nat)) ∈ lw_all := lw_g (lw_at lw_m6 197 rfl) rfl
theorem q1708 : (Jvm.Cond.methodLink "BoardMachine$Controls$ControlUnit" (32 : Nat) ({ cls := "BoardMachine$Controls$Status", name := "<init>", desc := "()V" } : Jvm.MethodName)) ∈ lw_all := lw_g (lw_at lw_m6 198 rfl) rfl
theorem q1709 : (Jvm.Cond.instanceMethod ({ cls := "BoardMachine$Controls$Status", name := "<init>", desc := "()V" } : Jvm.MethodName)) ∈ lw_all := lw_g (lw_at lw_m6 199 rfl) rfl
theorem q1710 : (Jvm.Cond.code ({ cls := "BoardMachine$Controls$Status", name := "<init>", desc := "()V" } : Jvm.MethodName) prog_10_method_1_code (1 : Nat) (Option.none : Option Jvm.ClassFile.FieldType)) ∈ lw_all := lw_g (lw_at lw_m6 200 rfl) rfl
theorem q1711 : (Jvm.Cond.constantLong "BoardMachine$Controls$Status" (3 : Nat) (8288682 : Int64)) ∈ lw_all := lw_g (lw_at lw_m6 201 rfl) rfl
theorem q1712 : (Jvm.Cond.methodLink "BoardMachine$Controls$Status" (5 : Nat) ({ cls := "BoardMachine$Controls$Masked", name := "<init>", desc := "(J)V" } : Jvm.MethodName)) ∈ lw_all := lw_g (lw_at lw_m6 202 rfl) rfl
theorem q1713 : (Jvm.Cond.instanceMethod ({ cls := "BoardMachine$Controls$Masked", name := "<init>", desc := "(J)V" } : Jvm.MethodName)) ∈ lw_all := lw_g (lw_at lw_m6 203 rfl) rfl
theorem q1714 : (Jvm.Cond.code ({ cls := "BoardMachine$Controls$Masked", name := "<init>", desc := "(J)V" } : Jvm.MethodName) prog_6_method_1_code (3 : Nat) (Option.none : Option Jvm.ClassFile.FieldType)) ∈ lw_all := lw_g (lw_at lw_m6 204 rfl) rfl
theorem q1715 : (Jvm.Cond.methodLinkNest "BoardMachine$Controls$Masked" (1 : Nat) ({ cls := "BoardMachine$Controls$Register", name := "<init>", desc := "()V" } : Jvm.MethodName) "BoardMachine") ∈ lw_tbl := lw_at lw_m6 205 rfl
theorem q1716 : (Jvm.Cond.fieldLink "BoardMachine$Controls$Pending" (9 : Nat) "BoardMachine$Controls$Pending" "held" "J") ∈ lw_all := lw_g (lw_at lw_m6 206 rfl) rfl
theorem q1717 : (Jvm.Cond.sameField "BoardMachine$Controls$Pending" "BoardMachine$Controls$Masked" "held" "J") ∈ lw_all := lw_g (lw_at lw_m6 207 rfl) rfl
theorem q1718 : (Jvm.Cond.fieldLink "BoardMachine$Controls$Masked" (13 : Nat) "BoardMachine$Controls$Masked" "held" "J") ∈ lw_all := lw_g (lw_at lw_m6 208 rfl) rfl
theorem q1719 : (Jvm.Cond.fieldLink "BoardMachine$Controls$Status" (11 : Nat) "BoardMachine$Controls$Status" "held" "J") ∈ lw_all := lw_g (lw_at lw_m6 209 rfl) rfl
theorem q1720 : (Jvm.Cond.sameField "BoardMachine$Controls$Status" "BoardMachine$Controls$Masked" "held" "J") ∈ lw_all := lw_g (lw_at lw_m6 210 rfl) rfl
theorem q1721 : (Jvm.Cond.fieldLink "BoardMachine$Processor" (155 : Nat) "BoardMachine$Controls$Status" "held" "J") ∈ lw_all := lw_g (lw_at lw_m6 211 rfl) rfl
theorem q1722 : (Jvm.Cond.fieldLink "BoardMachine$Processor" (163 : Nat) "BoardMachine$Controls$Masked" "held" "J") ∈ lw_all := lw_g (lw_at lw_m6 212 rfl) rfl
theorem q1723 : (Jvm.Cond.fieldLink "BoardMachine$Controls$Window" (31 : Nat) "BoardMachine$Controls$Masked" "held" "J") ∈ lw_all := lw_g (lw_at lw_m6 213 rfl) rfl
theorem q1724 : (Jvm.Cond.fieldLink "BoardMachine$Processor" (176 : Nat) "BoardMachine$Controls$Pending" "held" "J") ∈ lw_all := lw_g (lw_at lw_m6 214 rfl) rfl
theorem q1725 : (Jvm.Cond.fieldLink "BoardMachine$Machine" (178 : Nat) "BoardMachine$Controls$Masked" "held" "J") ∈ lw_all := lw_g (lw_at lw_m6 215 rfl) rfl
theorem q1726 : (Jvm.Cond.fieldLink "BoardMachine$Controls$Masked" (7 : Nat) "BoardMachine$Controls$Masked" "mask" "J") ∈ lw_all := lw_g (lw_at lw_m6 216 rfl) rfl
theorem q1727 : (Jvm.Cond.lays "BoardMachine$Controls$Status" "BoardMachine$Controls$Masked" "held" "J") ∈ lw_all := lw_g (lw_at lw_m6 217 rfl) rfl
theorem q1728 : (Jvm.Cond.soleField "BoardMachine$Controls$Masked" "held") ∈ lw_all := lw_g (lw_at lw_m6 218 rfl) rfl
theorem q1729 : (Jvm.Cond.lays "BoardMachine$Controls$Status" "BoardMachine$Controls$Masked" "mask" "J") ∈ lw_all := lw_g (lw_at lw_m6 219 rfl) rfl
theorem q1730 : (Jvm.Cond.soleField "BoardMachine$Controls$Masked" "mask") ∈ lw_all := lw_g (lw_at lw_m6 220 rfl) rfl
theorem q1731 : (Jvm.Cond.superclass "BoardMachine$Controls$Status" "BoardMachine$Controls$Masked") ∈ lw_all := lw_g (lw_at lw_m6 221 rfl) rfl
theorem q1732 : (Jvm.Cond.classLink "BoardMachine$Controls$ControlUnit" (37 : Nat) "BoardMachine$Controls$Masked") ∈ lw_all := lw_g (lw_at lw_m6 222 rfl) rfl
theorem q1733 : (Jvm.Cond.instantiable "BoardMachine$Controls$Masked" (2 : Nat)) ∈ lw_all := lw_g (lw_at lw_m6 223 rfl) rfl
theorem q1734 : (Jvm.Cond.constantLong "BoardMachine$Controls$ControlUnit" (39 : Nat) (46079 : Int64)) ∈ lw_all := lw_g (lw_at lw_m6 224 rfl) rfl
theorem q1735 : (Jvm.Cond.methodLink "BoardMachine$Controls$ControlUnit" (41 : Nat) ({ cls := "BoardMachine$Controls$Masked", name := "<init>", desc := "(J)V" } : Jvm.MethodName)) ∈ lw_all := lw_g (lw_at lw_m6 225 rfl) rfl
theorem q1736 : (Jvm.Cond.lays "BoardMachine$Controls$Masked" "BoardMachine$Controls$Masked" "held" "J") ∈ lw_all := lw_g (lw_at lw_m6 226 rfl) rfl
theorem q1737 : (Jvm.Cond.lays "BoardMachine$Controls$Masked" "BoardMachine$Controls$Masked" "mask" "J") ∈ lw_all := lw_g (lw_at lw_m6 227 rfl) rfl
theorem q1738 : (Jvm.Cond.superclass "BoardMachine$Controls$Masked" "BoardMachine$Controls$Register") ∈ lw_all := lw_g (lw_at lw_m6 228 rfl) rfl
theorem q1739 : (Jvm.Cond.constantLong "BoardMachine$Controls$ControlUnit" (46 : Nat) (546 : Int64)) ∈ lw_all := lw_g (lw_at lw_m6 229 rfl) rfl
theorem q1740 : (Jvm.Cond.constantLong "BoardMachine$Controls$ControlUnit" (51 : Nat) (2730 : Int64)) ∈ lw_all := lw_g (lw_at lw_m6 230 rfl) rfl
theorem q1741 : (Jvm.Cond.classLink "BoardMachine$Controls$ControlUnit" (56 : Nat) "BoardMachine$Controls$Pending") ∈ lw_all := lw_g (lw_at lw_m6 231 rfl) rfl
theorem q1742 : (Jvm.Cond.instantiable "BoardMachine$Controls$Pending" (3 : Nat)) ∈ lw_all := lw_g (lw_at lw_m6 232 rfl) rfl
theorem q1743 : (Jvm.Cond.methodLink "BoardMachine$Controls$ControlUnit" (58 : Nat) ({ cls := "BoardMachine$Controls$Pending", name := "<init>", desc := "()V" } : Jvm.MethodName)) ∈ lw_all := lw_g (lw_at lw_m6 233 rfl) rfl
theorem q1744 : (Jvm.Cond.instanceMethod ({ cls := "BoardMachine$Controls$Pending", name := "<init>", desc := "()V" } : Jvm.MethodName)) ∈ lw_all := lw_g (lw_at lw_m6 234 rfl) rfl
theorem q1745 : (Jvm.Cond.code ({ cls := "BoardMachine$Controls$Pending", name := "<init>", desc := "()V" } : Jvm.MethodName) prog_7_method_1_code (1 : Nat) (Option.none : Option Jvm.ClassFile.FieldType)) ∈ lw_all := lw_g (lw_at lw_m6 235 rfl) rfl
theorem q1746 : (Jvm.Cond.constantLong "BoardMachine$Controls$Pending" (1 : Nat) (546 : Int64)) ∈ lw_all := lw_g (lw_at lw_m6 236 rfl) rfl
theorem q1747 : (Jvm.Cond.methodLink "BoardMachine$Controls$Pending" (3 : Nat) ({ cls := "BoardMachine$Controls$Masked", name := "<init>", desc := "(J)V" } : Jvm.MethodName)) ∈ lw_all := lw_g (lw_at lw_m6 237 rfl) rfl
theorem q1748 : (Jvm.Cond.fieldLink "BoardMachine$Controls$Pending" (15 : Nat) "BoardMachine$Controls$Pending" "lines" "J") ∈ lw_all := lw_g (lw_at lw_m6 238 rfl) rfl
theorem q1749 : (Jvm.Cond.fieldLinkNest "BoardMachine$Controls$ControlUnit" (198 : Nat) "BoardMachine$Controls$Pending" "lines" "J" "BoardMachine") ∈ lw_tbl := lw_at lw_m6 239 rfl
theorem q1750 : (Jvm.Cond.lays "BoardMachine$Controls$Pending" "BoardMachine$Controls$Pending" "lines" "J") ∈ lw_all := lw_g (lw_at lw_m7 0 rfl) rfl
theorem q1751 : (Jvm.Cond.soleField "BoardMachine$Controls$Pending" "lines") ∈ lw_all := lw_g (lw_at lw_m7 1 rfl) rfl
theorem q1752 : (Jvm.Cond.lays "BoardMachine$Controls$Pending" "BoardMachine$Controls$Masked" "held" "J") ∈ lw_all := lw_g (lw_at lw_m7 2 rfl) rfl
theorem q1753 : (Jvm.Cond.lays "BoardMachine$Controls$Pending" "BoardMachine$Controls$Masked" "mask" "J") ∈ lw_all := lw_g (lw_at lw_m7 3 rfl) rfl
theorem q1754 : (Jvm.Cond.superclass "BoardMachine$Controls$Pending" "BoardMachine$Controls$Masked") ∈ lw_all := lw_g (lw_at lw_m7 4 rfl) rfl
theorem q1755 : (Jvm.Cond.classLink "BoardMachine$Controls$ControlUnit" (63 : Nat) "BoardMachine$Controls$TrapBank") ∈ lw_all := lw_g (lw_at lw_m7 5 rfl) rfl
theorem q1756 : (Jvm.Cond.instantiable "BoardMachine$Controls$TrapBank" (6 : Nat)) ∈ lw_all := lw_g (lw_at lw_m7 6 rfl) rfl
theorem q1757 : (Jvm.Cond.methodLinkNest "BoardMachine$Controls$ControlUnit" (65 : Nat) ({ cls := "BoardMachine$Controls$TrapBank", name := "<init>", desc := "()V" } : Jvm.MethodName) "BoardMachine") ∈ lw_tbl := lw_at lw_m7 7 rfl
theorem q1758 : (Jvm.Cond.instanceMethod ({ cls := "BoardMachine$Controls$TrapBank", name := "<init>", desc := "()V" } : Jvm.MethodName)) ∈ lw_all := lw_g (lw_at lw_m7 8 rfl) rfl
theorem q1759 : (Jvm.Cond.code ({ cls := "BoardMachine$Controls$TrapBank", name := "<init>", desc := "()V" } : Jvm.MethodName) prog_12_method_1_code (1 : Nat) (Option.none : Option Jvm.ClassFile.FieldType)) ∈ lw_all := lw_g (lw_at lw_m7 9 rfl) rfl
theorem q1760 : (Jvm.Cond.methodLink "BoardMachine$Controls$TrapBank" (1 : Nat) ({ cls := "java/lang/Object", name := "<init>", desc := "()V" } : Jvm.MethodName)) ∈ lw_all := lw_g (lw_at lw_m7 10 rfl) rfl
theorem q1761 : (Jvm.Cond.classLink "BoardMachine$Controls$TrapBank" (7 : Nat) "BoardMachine$Controls$Masked") ∈ lw_all := lw_g (lw_at lw_m7 11 rfl) rfl
theorem q1762 : (Jvm.Cond.constantLong "BoardMachine$Controls$TrapBank" (9 : Nat) (-3 : Int64)) ∈ lw_all := lw_g (lw_at lw_m7 12 rfl) rfl
theorem q1763 : (Jvm.Cond.methodLink "BoardMachine$Controls$TrapBank" (11 : Nat) ({ cls := "BoardMachine$Controls$Masked", name := "<init>", desc := "(J)V" } : Jvm.MethodName)) ∈ lw_all := lw_g (lw_at lw_m7 13 rfl) rfl
theorem q1764 : (Jvm.Cond.constantLong "BoardMachine$Controls$TrapBank" (20 : Nat) (-1 : Int64)) ∈ lw_all := lw_g (lw_at lw_m7 14 rfl) rfl
theorem q1765 : (Jvm.Cond.constantLong "BoardMachine$Controls$TrapBank" (25 : Nat) (-2 : Int64)) ∈ lw_all := lw_g (lw_at lw_m7 15 rfl) rfl
theorem q1766 : (Jvm.Cond.constantLong "BoardMachine$Controls$TrapBank" (36 : Nat) (7 : Int64)) ∈ lw_all := lw_g (lw_at lw_m7 16 rfl) rfl
theorem q1767 : (Jvm.Cond.fieldLink "BoardMachine$Controls$TrapBank" (14 : Nat) "BoardMachine$Controls$TrapBank" "vectors" "LBoardMachine$Controls$Masked;") ∈ lw_all := lw_g (lw_at lw_m7 17 rfl) rfl
theorem q1768 : (Jvm.Cond.fieldLinkNest "BoardMachine$Controls$ControlUnit" (119 : Nat) "BoardMachine$Controls$TrapBank" "vectors" "LBoardMachine$Controls$Masked;" "BoardMachine") ∈ lw_tbl := lw_at lw_m7 18 rfl
theorem q1769 : (Jvm.Cond.fieldLinkNest "BoardMachine$Processor" (205 : Nat) "BoardMachine$Controls$TrapBank" "vectors" "LBoardMachine$Controls$Masked;" "BoardMachine") ∈ lw_tbl := lw_at lw_m7 19 rfl
theorem q1770 : (Jvm.Cond.fieldLink "BoardMachine$Controls$TrapBank" (22 : Nat) "BoardMachine$Controls$TrapBank" "scratch" "LBoardMachine$Controls$Masked;") ∈ lw_all := lw_g (lw_at lw_m7 20 rfl) rfl
theorem q1771 : (Jvm.Cond.fieldLinkNest "BoardMachine$Controls$ControlUnit" (125 : Nat) "BoardMachine$Controls$TrapBank" "scratch" "LBoardMachine$Controls$Masked;" "BoardMachine") ∈ lw_tbl := lw_at lw_m7 21 rfl
theorem q1772 : (Jvm.Cond.fieldLinkNest "BoardMachine$Processor" (210 : Nat) "BoardMachine$Controls$TrapBank" "scratch" "LBoardMachine$Controls$Masked;" "BoardMachine") ∈ lw_tbl := lw_at lw_m7 22 rfl
theorem q1773 : (Jvm.Cond.fieldLink "BoardMachine$Controls$TrapBank" (27 : Nat) "BoardMachine$Controls$TrapBank" "place" "LBoardMachine$Controls$Masked;") ∈ lw_all := lw_g (lw_at lw_m7 23 rfl) rfl
theorem q1774 : (Jvm.Cond.fieldLinkNest "BoardMachine$Controls$ControlUnit" (128 : Nat) "BoardMachine$Controls$TrapBank" "place" "LBoardMachine$Controls$Masked;" "BoardMachine") ∈ lw_tbl := lw_at lw_m7 24 rfl
theorem q1775 : (Jvm.Cond.fieldLinkNest "BoardMachine$Processor" (213 : Nat) "BoardMachine$Controls$TrapBank" "place" "LBoardMachine$Controls$Masked;" "BoardMachine") ∈ lw_tbl := lw_at lw_m7 25 rfl
theorem q1776 : (Jvm.Cond.fieldLink "BoardMachine$Controls$TrapBank" (30 : Nat) "BoardMachine$Controls$TrapBank" "cause" "LBoardMachine$Controls$Masked;") ∈ lw_all := lw_g (lw_at lw_m7 26 rfl) rfl
theorem q1777 : (Jvm.Cond.fieldLinkNest "BoardMachine$Controls$ControlUnit" (131 : Nat) "BoardMachine$Controls$TrapBank" "cause" "LBoardMachine$Controls$Masked;" "BoardMachine") ∈ lw_tbl := lw_at lw_m7 27 rfl
theorem q1778 : (Jvm.Cond.fieldLinkNest "BoardMachine$Processor" (216 : Nat) "BoardMachine$Controls$TrapBank" "cause" "LBoardMachine$Controls$Masked;" "BoardMachine") ∈ lw_tbl := lw_at lw_m7 28 rfl
theorem q1779 : (Jvm.Cond.fieldLink "BoardMachine$Controls$TrapBank" (33 : Nat) "BoardMachine$Controls$TrapBank" "value" "LBoardMachine$Controls$Masked;") ∈ lw_all := lw_g (lw_at lw_m7 29 rfl) rfl
theorem q1780 : (Jvm.Cond.fieldLinkNest "BoardMachine$Controls$ControlUnit" (134 : Nat) "BoardMachine$Controls$TrapBank" "value" "LBoardMachine$Controls$Masked;" "BoardMachine") ∈ lw_tbl := lw_at lw_m7 30 rfl
theorem q1781 : (Jvm.Cond.fieldLinkNest "BoardMachine$Processor" (219 : Nat) "BoardMachine$Controls$TrapBank" "value" "LBoardMachine$Controls$Masked;" "BoardMachine") ∈ lw_tbl := lw_at lw_m7 31 rfl
theorem q1782 : (Jvm.Cond.fieldLink "BoardMachine$Controls$TrapBank" (38 : Nat) "BoardMachine$Controls$TrapBank" "counts" "LBoardMachine$Controls$Masked;") ∈ lw_all := lw_g (lw_at lw_m7 32 rfl) rfl
theorem q1783 : (Jvm.Cond.fieldLinkNest "BoardMachine$Controls$ControlUnit" (122 : Nat) "BoardMachine$Controls$TrapBank" "counts" "LBoardMachine$Controls$Masked;" "BoardMachine") ∈ lw_tbl := lw_at lw_m7 33 rfl
theorem q1784 : (Jvm.Cond.fieldLinkNest "BoardMachine$Processor" (222 : Nat) "BoardMachine$Controls$TrapBank" "counts" "LBoardMachine$Controls$Masked;" "BoardMachine") ∈ lw_tbl := lw_at lw_m7 34 rfl
theorem q1785 : (Jvm.Cond.laysFinal "BoardMachine$Controls$TrapBank" "BoardMachine$Controls$TrapBank" "vectors" "LBoardMachine$Controls$Masked;") ∈ lw_all := lw_g (lw_at lw_m7 35 rfl) rfl
theorem q1786 : (Jvm.Cond.soleField "BoardMachine$Controls$TrapBank" "vectors") ∈ lw_all := lw_g (lw_at lw_m7 36 rfl) rfl
theorem q1787 : (Jvm.Cond.laysFinal "BoardMachine$Controls$TrapBank" "BoardMachine$Controls$TrapBank" "scratch" "LBoardMachine$Controls$Masked;") ∈ lw_all := lw_g (lw_at lw_m7 37 rfl) rfl
theorem q1788 : (Jvm.Cond.soleField "BoardMachine$Controls$TrapBank" "scratch") ∈ lw_all := lw_g (lw_at lw_m7 38 rfl) rfl
theorem q1789 : (Jvm.Cond.laysFinal "BoardMachine$Controls$TrapBank" "BoardMachine$Controls$TrapBank" "place" "LBoardMachine$Controls$Masked;") ∈ lw_all := lw_g (lw_at lw_m7 39 rfl) rfl
theorem q1790 : (Jvm.Cond.soleField "BoardMachine$Controls$TrapBank" "place") ∈ lw_all := lw_g (lw_at lw_m7 40 rfl) rfl
theorem q1791 : (Jvm.Cond.laysFinal "BoardMachine$Controls$TrapBank" "BoardMachine$Controls$TrapBank" "cause" "LBoardMachine$Controls$Masked;") ∈ lw_all := lw_g (lw_at lw_m7 41 rfl) rfl
theorem q1792 : (Jvm.Cond.soleField "BoardMachine$Controls$TrapBank" "cause") ∈ lw_all := lw_g (lw_at lw_m7 42 rfl) rfl
theorem q1793 : (Jvm.Cond.laysFinal "BoardMachine$Controls$TrapBank" "BoardMachine$Controls$TrapBank" "value" "LBoardMachine$Controls$Masked;") ∈ lw_all := lw_g (lw_at lw_m7 43 rfl) rfl
theorem q1794 : (Jvm.Cond.soleField "BoardMachine$Controls$TrapBank" "value") ∈ lw_all := lw_g (lw_at lw_m7 44 rfl) rfl
theorem q1795 : (Jvm.Cond.laysFinal "BoardMachine$Controls$TrapBank" "BoardMachine$Controls$TrapBank" "counts" "LBoardMachine$Controls$Masked;") ∈ lw_all := lw_g (lw_at lw_m7 45 rfl) rfl
theorem q1796 : (Jvm.Cond.soleField "BoardMachine$Controls$TrapBank" "counts") ∈ lw_all := lw_g (lw_at lw_m7 46 rfl) rfl
theorem q1797 : (Jvm.Cond.superclass "BoardMachine$Controls$TrapBank" "java/lang/Object") ∈ lw_all := lw_g (lw_at lw_m7 47 rfl) rfl
theorem q1798 : (Jvm.Cond.constantLong "BoardMachine$Controls$ControlUnit" (73 : Nat) (-1 : Int64)) ∈ lw_all := lw_g (lw_at lw_m7 48 rfl) rfl
theorem q1799 : (Jvm.Cond.constantLong "BoardMachine$Controls$ControlUnit" (88 : Nat) (811298 : Int64)) ∈ lw_all := lw_g (lw_at lw_m7 49 rfl) rfl
theorem q1800 : (Jvm.Cond.classLink "BoardMachine$Controls$ControlUnit" (90 : Nat) "BoardMachine$Controls$Window") ∈ lw_all := lw_g (lw_at lw_m7 50 rfl) rfl
theorem q1801 : (Jvm.Cond.instantiable "BoardMachine$Controls$Window" (4 : Nat)) ∈ lw_all := lw_g (lw_at lw_m7 51 rfl) rfl
theorem q1802 : (Jvm.Cond.constantLong "BoardMachine$Controls$ControlUnit" (94 : Nat) (-9223372028264841216 : Int64)) ∈ lw_all := lw_g (lw_at lw_m7 52 rfl) rfl
theorem q1803 : (Jvm.Cond.methodLink "BoardMachine$Controls$ControlUnit" (96 : Nat) ({ cls := "BoardMachine$Controls$Window", name := "<init>", desc := "(LBoardMachine$Controls$Masked;LBoardMachine$Controls$Register;JJ)V" } : Jvm.MethodName)) ∈ lw_all := lw_g (lw_at lw_m7 53 rfl) rfl
theorem q1804 : (Jvm.Cond.instanceMethod ({ cls := "BoardMachine$Controls$Window", name := "<init>", desc := "(LBoardMachine$Controls$Masked;LBoardMachine$Controls$Register;JJ)V" } : Jvm.MethodName)) ∈ lw_all := lw_g (lw_at lw_m7 54 rfl) rfl
theorem q1805 : (Jvm.Cond.code ({ cls := "BoardMachine$Controls$Window", name := "<init>", desc := "(LBoardMachine$Controls$Masked;LBoardMachine$Controls$Register;JJ)V" } : Jvm.MethodName) prog_13_method_1_code (7 : Nat) (Option.none : Option Jvm.ClassFile.FieldType)) ∈ lw_all := lw_g (lw_at lw_m7 55 rfl) rfl
theorem q1806 : (Jvm.Cond.methodLinkNest "BoardMachine$Controls$Window" (1 : Nat) ({ cls := "BoardMachine$Controls$Register", name := "<init>", desc := "()V" } : Jvm.MethodName) "BoardMachine") ∈ lw_tbl := lw_at lw_m7 56 rfl
theorem q1807 : (Jvm.Cond.fieldLink "BoardMachine$Controls$Window" (7 : Nat) "BoardMachine$Controls$Window" "other" "LBoardMachine$Controls$Masked;") ∈ lw_all := lw_g (lw_at lw_m7 57 rfl) rfl
theorem q1808 : (Jvm.Cond.fieldLink "BoardMachine$Controls$Window" (13 : Nat) "BoardMachine$Controls$Window" "seen" "LBoardMachine$Controls$Register;") ∈ lw_all := lw_g (lw_at lw_m7 58 rfl) rfl
theorem q1809 : (Jvm.Cond.fieldLink "BoardMachine$Controls$Window" (17 : Nat) "BoardMachine$Controls$Window" "changed" "J") ∈ lw_all := lw_g (lw_at lw_m7 59 rfl) rfl
theorem q1810 : (Jvm.Cond.fieldLink "BoardMachine$Controls$Window" (21 : Nat) "BoardMachine$Controls$Window" "besides" "J") ∈ lw_all := lw_g (lw_at lw_m7 60 rfl) rfl
theorem q1811 : (Jvm.Cond.laysFinal "BoardMachine$Controls$Window" "BoardMachine$Controls$Window" "other" "LBoardMachine$Controls$Masked;") ∈ lw_all := lw_g (lw_at lw_m7 61 rfl) rfl
theorem q1812 : (Jvm.Cond.soleField "BoardMachine$Controls$Window" "other") ∈ lw_all := lw_g (lw_at lw_m7 62 rfl) rfl
theorem q1813 : (Jvm.Cond.laysFinal "BoardMachine$Controls$Window" "BoardMachine$Controls$Window" "seen" "LBoardMachine$Controls$Register;") ∈ lw_all := lw_g (lw_at lw_m7 63 rfl) rfl
theorem q1814 : (Jvm.Cond.soleField "BoardMachine$Controls$Window" "seen") ∈ lw_all := lw_g (lw_at lw_m7 64 rfl) rfl
theorem q1815 : (Jvm.Cond.laysFinal "BoardMachine$Controls$Window" "BoardMachine$Controls$Window" "changed" "J") ∈ lw_all := lw_g (lw_at lw_m7 65 rfl) rfl
theorem q1816 : (Jvm.Cond.soleField "BoardMachine$Controls$Window" "changed") ∈ lw_all := lw_g (lw_at lw_m7 66 rfl) rfl
theorem q1817 : (Jvm.Cond.laysFinal "BoardMachine$Controls$Window" "BoardMachine$Controls$Window" "besides" "J") ∈ lw_all := lw_g (lw_at lw_m7 67 rfl) rfl
theorem q1818 : (Jvm.Cond.soleField "BoardMachine$Controls$Window" "besides") ∈ lw_all := lw_g (lw_at lw_m7 68 rfl) rfl
theorem q1819 : (Jvm.Cond.superclass "BoardMachine$Controls$Window" "BoardMachine$Controls$Register") ∈ lw_all := lw_g (lw_at lw_m7 69 rfl) rfl
theorem q1820 : (Jvm.Cond.constantLong "BoardMachine$Controls$ControlUnit" (99 : Nat) (-9223372036853460691 : Int64)) ∈ lw_all := lw_g (lw_at lw_m7 70 rfl) rfl
theorem q1821 : (Jvm.Cond.constantLong "BoardMachine$Controls$ControlUnit" (101 : Nat) (2 : Int64)) ∈ lw_all := lw_g (lw_at lw_m7 71 rfl) rfl
theorem q1822 : (Jvm.Cond.classLink "BoardMachine$Controls$ControlUnit" (103 : Nat) "BoardMachine$Controls$TableRegister") ∈ lw_all := lw_g (lw_at lw_m7 72 rfl) rfl
theorem q1823 : (Jvm.Cond.instantiable "BoardMachine$Controls$TableRegister" (2 : Nat)) ∈ lw_all := lw_g (lw_at lw_m7 73 rfl) rfl
theorem q1824 : (Jvm.Cond.methodLink "BoardMachine$Controls$ControlUnit" (105 : Nat) ({ cls := "BoardMachine$Controls$TableRegister", name := "<init>", desc := "()V" } : Jvm.MethodName)) ∈ lw_all := lw_g (lw_at lw_m7 74 rfl) rfl
theorem q1825 : (Jvm.Cond.instanceMethod ({ cls := "BoardMachine$Controls$TableRegister", name := "<init>", desc := "()V" } : Jvm.MethodName)) ∈ lw_all := lw_g (lw_at lw_m7 75 rfl) rfl
theorem q1826 : (Jvm.Cond.code ({ cls := "BoardMachine$Controls$TableRegister", name := "<init>", desc := "()V" } : Jvm.MethodName) prog_11_method_1_code (1 : Nat) (Option.none : Option Jvm.ClassFile.FieldType)) ∈ lw_all := lw_g (lw_at lw_m7 76 rfl) rfl
theorem q1827 : (Jvm.Cond.constantLong "BoardMachine$Controls$TableRegister" (1 : Nat) (-1 : Int64)) ∈ lw_all := lw_g (lw_at lw_m7 77 rfl) rfl
theorem q1828 : (Jvm.Cond.methodLink "BoardMachine$Controls$TableRegister" (3 : Nat) ({ cls := "BoardMachine$Controls$Masked", name := "<init>", desc := "(J)V" } : Jvm.MethodName)) ∈ lw_all := lw_g (lw_at lw_m7 78 rfl) rfl
theorem q1829 : (Jvm.Cond.lays "BoardMachine$Controls$TableRegister" "BoardMachine$Controls$Masked" "held" "J") ∈ lw_all := lw_g (lw_at lw_m7 79 rfl) rfl
theorem q1830 : (Jvm.Cond.lays "BoardMachine$Controls$TableRegister" "BoardMachine$Controls$Masked" "mask" "J") ∈ lw_all := lw_g (lw_at lw_m7 80 rfl) rfl
theorem q1831 : (Jvm.Cond.superclass "BoardMachine$Controls$TableRegister" "BoardMachine$Controls$Masked") ∈ lw_all := lw_g (lw_at lw_m7 81 rfl) rfl
theorem q1832 : (Jvm.Cond.methodLink "BoardMachine$Controls$ControlUnit" (106 : Nat) ({ cls := "BoardMachine$Controls$ControlUnit", name := "lay", desc := "(LBoardMachine$Controls$TrapBank;I)V" } : Jvm.MethodName)) ∈ lw_all := lw_g (lw_at lw_m7 82 rfl) rfl
theorem q1833 : (Jvm.Cond.privateMethod ({ cls := "BoardMachine$Controls$ControlUnit", name := "lay", desc := "(LBoardMachine$Controls$TrapBank;I)V" } : Jvm.MethodName)) ∈ lw_tbl := lw_at lw_m7 83 rfl
theorem q1834 : (Jvm.Cond.instanceMethod ({ cls := "BoardMachine$Controls$ControlUnit", name := "lay", desc := "(LBoardMachine$Controls$TrapBank;I)V" } : Jvm.MethodName)) ∈ lw_all := lw_g (lw_at lw_m7 84 rfl) rfl
theorem q1835 : (Jvm.Cond.code ({ cls := "BoardMachine$Controls$ControlUnit", name := "lay", desc := "(LBoardMachine$Controls$TrapBank;I)V" } : Jvm.MethodName) prog_5_method_3_code (3 : Nat) (Option.none : Option Jvm.ClassFile.FieldType)) ∈ lw_all := lw_g (lw_at lw_m7 85 rfl) rfl
theorem q1836 : (Jvm.Cond.classLink "BoardMachine$Controls$ControlUnit" (110 : Nat) "BoardMachine$Controls$Shadow") ∈ lw_all := lw_g (lw_at lw_m7 86 rfl) rfl
theorem q1837 : (Jvm.Cond.instantiable "BoardMachine$Controls$Shadow" (1 : Nat)) ∈ lw_all := lw_g (lw_at lw_m7 87 rfl) rfl
theorem q1838 : (Jvm.Cond.methodLink "BoardMachine$Controls$ControlUnit" (112 : Nat) ({ cls := "BoardMachine$Controls$Shadow", name := "<init>", desc := "(LBoardMachine$Controls$Register;)V" } : Jvm.MethodName)) ∈ lw_all := lw_g (lw_at lw_m7 88 rfl) rfl
theorem q1839 : (Jvm.Cond.instanceMethod ({ cls := "BoardMachine$Controls$Shadow", name := "<init>", desc := "(LBoardMachine$Controls$Register;)V" } : Jvm.MethodName)) ∈ lw_all := lw_g (lw_at lw_m7 89 rfl) rfl
theorem q1840 : (Jvm.Cond.code ({ cls := "BoardMachine$Controls$Shadow", name := "<init>", desc := "(LBoardMachine$Controls$Register;)V" } : Jvm.MethodName) prog_9_method_1_code (2 : Nat) (Option.none : Option Jvm.ClassFile.FieldType)) ∈ lw_all := lw_g (lw_at lw_m7 90 rfl) rfl
theorem q1841 : (Jvm.Cond.methodLinkNest "BoardMachine$Controls$Shadow" (1 : Nat) ({ cls := "BoardMachine$Controls$Register", name := "<init>", desc := "()V" } : Jvm.MethodName) "BoardMachine") ∈ lw_tbl := lw_at lw_m7 91 rfl
theorem q1842 : (Jvm.Cond.fieldLink "BoardMachine$Controls$Shadow" (7 : Nat) "BoardMachine$Controls$Shadow" "other" "LBoardMachine$Controls$Register;") ∈ lw_all := lw_g (lw_at lw_m7 92 rfl) rfl
theorem q1843 : (Jvm.Cond.laysFinal "BoardMachine$Controls$Shadow" "BoardMachine$Controls$Shadow" "other" "LBoardMachine$Controls$Register;") ∈ lw_all := lw_g (lw_at lw_m7 93 rfl) rfl
theorem q1844 : (Jvm.Cond.soleField "BoardMachine$Controls$Shadow" "other") ∈ lw_all := lw_g (lw_at lw_m7 94 rfl) rfl
theorem q1845 : (Jvm.Cond.superclass "BoardMachine$Controls$Shadow" "BoardMachine$Controls$Register") ∈ lw_all := lw_g (lw_at lw_m7 95 rfl) rfl
theorem q1846 : (Jvm.Cond.methodLink "BoardMachine$Controls$ControlUnit" (115 : Nat) ({ cls := "BoardMachine$Controls$ControlUnit", name := "fill", desc := "(IILBoardMachine$Controls$Register;)V" } : Jvm.MethodName)) ∈ lw_all := lw_g (lw_at lw_m7 96 rfl) rfl
theorem q1847 : (Jvm.Cond.privateMethod ({ cls := "BoardMachine$Controls$ControlUnit", name := "fill", desc := "(IILBoardMachine$Controls$Register;)V" } : Jvm.MethodName)) ∈ lw_tbl := lw_at lw_m7 97 rfl
theorem q1848 : (Jvm.Cond.instanceMethod ({ cls := "BoardMachine$Controls$ControlUnit", name := "fill", desc := "(IILBoardMachine$Controls$Register;)V" } : Jvm.MethodName)) ∈ lw_all := lw_g (lw_at lw_m7 98 rfl) rfl
theorem q1849 : (Jvm.Cond.code ({ cls := "BoardMachine$Controls$ControlUnit", name := "fill", desc := "(IILBoardMachine$Controls$Register;)V" } : Jvm.MethodName) prog_5_method_2_code (5 : Nat) (Option.none : Option Jvm.ClassFile.FieldType)) ∈ lw_all := lw_g (lw_at lw_m7 99 rfl) rfl
theorem q1850 : (Jvm.Cond.fieldLink "BoardMachine$Controls$ControlUnit" (9 : Nat) "BoardMachine$Controls$ControlUnit" "order" "[I") ∈ lw_all := lw_g (lw_at lw_m7 100 rfl) rfl
theorem q1851 : (Jvm.Cond.fieldLink "BoardMachine$Controls$ControlUnit" (17 : Nat) "BoardMachine$Controls$ControlUnit" "table" "[LBoardMachine$Controls$Register;") ∈ lw_all := lw_g (lw_at lw_m7 101 rfl) rfl
theorem q1852 : (Jvm.Cond.fieldLinkNest "BoardMachine$Processor" (225 : Nat) "BoardMachine$Controls$ControlUnit" "table" "[LBoardMachine$Controls$Register;" "BoardMachine") ∈ lw_tbl := lw_at lw_m7 102 rfl
theorem q1853 : (Jvm.Cond.fieldLinkNest "BoardMachine" (137 : Nat) "BoardMachine$Controls$ControlUnit" "table" "[LBoardMachine$Controls$Register;" "BoardMachine") ∈ lw_tbl := lw_at lw_m7 103 rfl
theorem q1854 : (Jvm.Cond.fieldLink "BoardMachine$Controls$ControlUnit" (26 : Nat) "BoardMachine$Controls$ControlUnit" "elsewhere" "LBoardMachine$Controls$Register;") ∈ lw_all := lw_g (lw_at lw_m7 104 rfl) rfl
theorem q1855 : (Jvm.Cond.fieldLinkNest "BoardMachine" (143 : Nat) "BoardMachine$Controls$ControlUnit" "elsewhere" "LBoardMachine$Controls$Register;" "BoardMachine") ∈ lw_tbl := lw_at lw_m7 105 rfl
theorem q1856 : (Jvm.Cond.fieldLink "BoardMachine$Controls$ControlUnit" (33 : Nat) "BoardMachine$Controls$ControlUnit" "status" "LBoardMachine$Controls$Status;") ∈ lw_all := lw_g (lw_at lw_m7 106 rfl) rfl
theorem q1857 : (Jvm.Cond.fieldLinkNest "BoardMachine$Processor" (151 : Nat) "BoardMachine$Controls$ControlUnit" "status" "LBoardMachine$Controls$Status;" "BoardMachine") ∈ lw_tbl := lw_at lw_m7 107 rfl
theorem q1858 : (Jvm.Cond.fieldLink "BoardMachine$Controls$ControlUnit" (42 : Nat) "BoardMachine$Controls$ControlUnit" "exceptions" "LBoardMachine$Controls$Masked;") ∈ lw_all := lw_g (lw_at lw_m7 108 rfl) rfl
theorem q1859 : (Jvm.Cond.fieldLinkNest "BoardMachine$Processor" (159 : Nat) "BoardMachine$Controls$ControlUnit" "exceptions" "LBoardMachine$Controls$Masked;" "BoardMachine") ∈ lw_tbl := lw_at lw_m7 109 rfl
theorem q1860 : (Jvm.Cond.fieldLink "BoardMachine$Controls$ControlUnit" (48 : Nat) "BoardMachine$Controls$ControlUnit" "interrupts" "LBoardMachine$Controls$Masked;") ∈ lw_all := lw_g (lw_at lw_m7 110 rfl) rfl
theorem q1861 : (Jvm.Cond.fieldLinkNest "BoardMachine$Processor" (166 : Nat) "BoardMachine$Controls$ControlUnit" "interrupts" "LBoardMachine$Controls$Masked;" "BoardMachine") ∈ lw_tbl := lw_at lw_m7 111 rfl
theorem q1862 : (Jvm.Cond.fieldLink "BoardMachine$Controls$ControlUnit" (53 : Nat) "BoardMachine$Controls$ControlUnit" "enabled" "LBoardMachine$Controls$Masked;") ∈ lw_all := lw_g (lw_at lw_m7 112 rfl) rfl
theorem q1863 : (Jvm.Cond.fieldLinkNest "BoardMachine$Processor" (169 : Nat) "BoardMachine$Controls$ControlUnit" "enabled" "LBoardMachine$Controls$Masked;" "BoardMachine") ∈ lw_tbl := lw_at lw_m7 113 rfl
theorem q1864 : (Jvm.Cond.fieldLink "BoardMachine$Controls$ControlUnit" (59 : Nat) "BoardMachine$Controls$ControlUnit" "pending" "LBoardMachine$Controls$Pending;") ∈ lw_all := lw_g (lw_at lw_m7 114 rfl) rfl
theorem q1865 : (Jvm.Cond.fieldLinkNest "BoardMachine$Processor" (172 : Nat) "BoardMachine$Controls$ControlUnit" "pending" "LBoardMachine$Controls$Pending;" "BoardMachine") ∈ lw_tbl := lw_at lw_m7 115 rfl
theorem q1866 : (Jvm.Cond.fieldLink "BoardMachine$Controls$ControlUnit" (66 : Nat) "BoardMachine$Controls$ControlUnit" "machine" "LBoardMachine$Controls$TrapBank;") ∈ lw_all := lw_g (lw_at lw_m7 116 rfl) rfl
theorem q1867 : (Jvm.Cond.fieldLinkNest "BoardMachine$Processor" (189 : Nat) "BoardMachine$Controls$ControlUnit" "machine" "LBoardMachine$Controls$TrapBank;" "BoardMachine") ∈ lw_tbl := lw_at lw_m7 117 rfl
theorem q1868 : (Jvm.Cond.fieldLink "BoardMachine$Controls$ControlUnit" (70 : Nat) "BoardMachine$Controls$ControlUnit" "supervisor" "LBoardMachine$Controls$TrapBank;") ∈ lw_all := lw_g (lw_at lw_m7 118 rfl) rfl
theorem q1869 : (Jvm.Cond.fieldLinkNest "BoardMachine$Processor" (197 : Nat) "BoardMachine$Controls$ControlUnit" "supervisor" "LBoardMachine$Controls$TrapBank;" "BoardMachine") ∈ lw_tbl := lw_at lw_m7 119 rfl
theorem q1870 : (Jvm.Cond.fieldLink "BoardMachine$Controls$ControlUnit" (75 : Nat) "BoardMachine$Controls$ControlUnit" "cycles" "LBoardMachine$Controls$Masked;") ∈ lw_all := lw_g (lw_at lw_m7 120 rfl) rfl
theorem q1871 : (Jvm.Cond.fieldLinkNest "BoardMachine$Processor" (179 : Nat) "BoardMachine$Controls$ControlUnit" "cycles" "LBoardMachine$Controls$Masked;" "BoardMachine") ∈ lw_tbl := lw_at lw_m7 121 rfl
theorem q1872 : (Jvm.Cond.fieldLinkNest "BoardMachine$Machine" (172 : Nat) "BoardMachine$Controls$ControlUnit" "cycles" "LBoardMachine$Controls$Masked;" "BoardMachine") ∈ lw_tbl := lw_at lw_m7 122 rfl
theorem q1873 : (Jvm.Cond.fieldLink "BoardMachine$Controls$ControlUnit" (78 : Nat) "BoardMachine$Controls$ControlUnit" "instructions" "LBoardMachine$Controls$Masked;") ∈ lw_all := lw_g (lw_at lw_m7 123 rfl) rfl
theorem q1874 : (Jvm.Cond.fieldLinkNest "BoardMachine$Processor" (182 : Nat) "BoardMachine$Controls$ControlUnit" "instructions" "LBoardMachine$Controls$Masked;" "BoardMachine") ∈ lw_tbl := lw_at lw_m7 124 rfl
theorem q1875 : (Jvm.Cond.fieldLink "BoardMachine$Controls$ControlUnit" (81 : Nat) "BoardMachine$Controls$ControlUnit" "clock" "LBoardMachine$Controls$Masked;") ∈ lw_all := lw_g (lw_at lw_m7 125 rfl) rfl
theorem q1876 : (Jvm.Cond.fieldLinkNest "BoardMachine$Processor" (470 : Nat) "BoardMachine$Controls$ControlUnit" "clock" "LBoardMachine$Controls$Masked;" "BoardMachine") ∈ lw_tbl := lw_at lw_m7 126 rfl
theorem q1877 : (Jvm.Cond.fieldLink "BoardMachine$Controls$ControlUnit" (84 : Nat) "BoardMachine$Controls$ControlUnit" "mode" "I") ∈ lw_all := lw_g (lw_at lw_m7 127 rfl) rfl
theorem q1878 : (Jvm.Cond.fieldLinkNest "BoardMachine$Processor" (202 : Nat) "BoardMachine$Controls$ControlUnit" "mode" "I" "BoardMachine") ∈ lw_tbl := lw_at lw_m7 128 rfl
theorem q1879 : (Jvm.Cond.fieldLinkNest "BoardMachine" (153 : Nat) "BoardMachine$Controls$ControlUnit" "mode" "I" "BoardMachine") ∈ lw_tbl := lw_at lw_m7 129 rfl
theorem q1880 : (Jvm.Cond.fieldLink "BoardMachine$Controls$ControlUnit" (161 : Nat) "BoardMachine$Controls$ControlUnit" "had" "J") ∈ lw_all := lw_g (lw_at lw_m7 130 rfl) rfl
theorem q1881 : (Jvm.Cond.fieldLinkNest "BoardMachine$Processor" (413 : Nat) "BoardMachine$Controls$ControlUnit" "had" "J" "BoardMachine") ∈ lw_tbl := lw_at lw_m7 131 rfl
theorem q1882 : (Jvm.Cond.fieldLink "BoardMachine$Controls$ControlUnit" (177 : Nat) "BoardMachine$Controls$ControlUnit" "next" "J") ∈ lw_all := lw_g (lw_at lw_m7 132 rfl) rfl
theorem q1883 : (Jvm.Cond.fieldLinkNest "BoardMachine$Processor" (426 : Nat) "BoardMachine$Controls$ControlUnit" "next" "J" "BoardMachine") ∈ lw_tbl := lw_at lw_m7 133 rfl
theorem q1884 : (Jvm.Cond.laysFinal "BoardMachine$Controls$ControlUnit" "BoardMachine$Controls$ControlUnit" "order" "[I") ∈ lw_all := lw_g (lw_at lw_m7 134 rfl) rfl
theorem q1885 : (Jvm.Cond.soleField "BoardMachine$Controls$ControlUnit" "order") ∈ lw_all := lw_g (lw_at lw_m7 135 rfl) rfl
theorem q1886 : (Jvm.Cond.laysFinal "BoardMachine$Controls$ControlUnit" "BoardMachine$Controls$ControlUnit" "table" "[LBoardMachine$Controls$Register;") ∈ lw_all := lw_g (lw_at lw_m7 136 rfl) rfl
theorem q1887 : (Jvm.Cond.soleField "BoardMachine$Controls$ControlUnit" "table") ∈ lw_all := lw_g (lw_at lw_m7 137 rfl) rfl
theorem q1888 : (Jvm.Cond.laysFinal "BoardMachine$Controls$ControlUnit" "BoardMachine$Controls$ControlUnit" "elsewhere" "LBoardMachine$Controls$Register;") ∈ lw_all := lw_g (lw_at lw_m7 138 rfl) rfl
theorem q1889 : (Jvm.Cond.soleField "BoardMachine$Controls$ControlUnit" "elsewhere") ∈ lw_all := lw_g (lw_at lw_m7 139 rfl) rfl
theorem q1890 : (Jvm.Cond.laysFinal "BoardMachine$Controls$ControlUnit" "BoardMachine$Controls$ControlUnit" "status" "LBoardMachine$Controls$Status;") ∈ lw_all := lw_g (lw_at lw_m7 140 rfl) rfl
theorem q1891 : (Jvm.Cond.soleField "BoardMachine$Controls$ControlUnit" "status") ∈ lw_all := lw_g (lw_at lw_m7 141 rfl) rfl
theorem q1892 : (Jvm.Cond.laysFinal "BoardMachine$Controls$ControlUnit" "BoardMachine$Controls$ControlUnit" "exceptions" "LBoardMachine$Controls$Masked;") ∈ lw_all := lw_g (lw_at lw_m7 142 rfl) rfl
theorem q1893 : (Jvm.Cond.soleField "BoardMachine$Controls$ControlUnit" "exceptions") ∈ lw_all := lw_g (lw_at lw_m7 143 rfl) rfl
theorem q1894 : (Jvm.Cond.laysFinal "BoardMachine$Controls$ControlUnit" "BoardMachine$Controls$ControlUnit" "interrupts" "LBoardMachine$Controls$Masked;") ∈ lw_all := lw_g (lw_at lw_m7 144 rfl) rfl
theorem q1895 : (Jvm.Cond.soleField "BoardMachine$Controls$ControlUnit" "interrupts") ∈ lw_all := lw_g (lw_at lw_m7 145 rfl) rfl
theorem q1896 : (Jvm.Cond.laysFinal "BoardMachine$Controls$ControlUnit" "BoardMachine$Controls$ControlUnit" "enabled" "LBoardMachine$Controls$Masked;") ∈ lw_all := lw_g (lw_at lw_m7 146 rfl) rfl
theorem q1897 : (Jvm.Cond.soleField "BoardMachine$Controls$ControlUnit" "enabled") ∈ lw_all := lw_g (lw_at lw_m7 147 rfl) rfl
theorem q1898 : (Jvm.Cond.laysFinal "BoardMachine$Controls$ControlUnit" "BoardMachine$Controls$ControlUnit" "pending" "LBoardMachine$Controls$Pending;") ∈ lw_all := lw_g (lw_at lw_m7 148 rfl) rfl
theorem q1899 : (Jvm.Cond.soleField "BoardMachine$Controls$ControlUnit" "pending") ∈ lw_all := lw_g (lw_at lw_m7 149 rfl) rfl
theorem q1900 : (Jvm.Cond.laysFinal "BoardMachine$Controls$ControlUnit" "BoardMachine$Controls$ControlUnit" "machine" "LBoardMachine$Controls$TrapBank;") ∈ lw_all := lw_g (lw_at lw_m7 150 rfl) rfl
theorem q1901 : (Jvm.Cond.soleField "BoardMachine$Controls$ControlUnit" "machine") ∈ lw_all := lw_g (lw_at lw_m7 151 rfl) rfl
theorem q1902 : (Jvm.Cond.laysFinal "BoardMachine$Controls$ControlUnit" "BoardMachine$Controls$ControlUnit" "supervisor" "LBoardMachine$Controls$TrapBank;") ∈ lw_all := lw_g (lw_at lw_m7 152 rfl) rfl
theorem q1903 : (Jvm.Cond.soleField "BoardMachine$Controls$ControlUnit" "supervisor") ∈ lw_all := lw_g (lw_at lw_m7 153 rfl) rfl
theorem q1904 : (Jvm.Cond.laysFinal "BoardMachine$Controls$ControlUnit" "BoardMachine$Controls$ControlUnit" "cycles" "LBoardMachine$Controls$Masked;") ∈ lw_all := lw_g (lw_at lw_m7 154 rfl) rfl
theorem q1905 : (Jvm.Cond.soleField "BoardMachine$Controls$ControlUnit" "cycles") ∈ lw_all := lw_g (lw_at lw_m7 155 rfl) rfl
theorem q1906 : (Jvm.Cond.laysFinal "BoardMachine$Controls$ControlUnit" "BoardMachine$Controls$ControlUnit" "instructions" "LBoardMachine$Controls$Masked;") ∈ lw_all := lw_g (lw_at lw_m7 156 rfl) rfl
theorem q1907 : (Jvm.Cond.soleField "BoardMachine$Controls$ControlUnit" "instructions") ∈ lw_all := lw_g (lw_at lw_m7 157 rfl) rfl
theorem q1908 : (Jvm.Cond.laysFinal "BoardMachine$Controls$ControlUnit" "BoardMachine$Controls$ControlUnit" "clock" "LBoardMachine$Controls$Masked;") ∈ lw_all := lw_g (lw_at lw_m7 158 rfl) rfl
theorem q1909 : (Jvm.Cond.soleField "BoardMachine$Controls$ControlUnit" "clock") ∈ lw_all := lw_g (lw_at lw_m7 159 rfl) rfl
theorem q1910 : (Jvm.Cond.lays "BoardMachine$Controls$ControlUnit" "BoardMachine$Controls$ControlUnit" "mode" "I") ∈ lw_all := lw_g (lw_at lw_m7 160 rfl) rfl
theorem q1911 : (Jvm.Cond.soleField "BoardMachine$Controls$ControlUnit" "mode") ∈ lw_all := lw_g (lw_at lw_m7 161 rfl) rfl
theorem q1912 : (Jvm.Cond.lays "BoardMachine$Controls$ControlUnit" "BoardMachine$Controls$ControlUnit" "had" "J") ∈ lw_all := lw_g (lw_at lw_m7 162 rfl) rfl
theorem q1913 : (Jvm.Cond.soleField "BoardMachine$Controls$ControlUnit" "had") ∈ lw_all := lw_g (lw_at lw_m7 163 rfl) rfl
theorem q1914 : (Jvm.Cond.lays "BoardMachine$Controls$ControlUnit" "BoardMachine$Controls$ControlUnit" "next" "J") ∈ lw_all := lw_g (lw_at lw_m7 164 rfl) rfl
theorem q1915 : (Jvm.Cond.soleField "BoardMachine$Controls$ControlUnit" "next") ∈ lw_all := lw_g (lw_at lw_m7 165 rfl) rfl
theorem q1916 : (Jvm.Cond.superclass "BoardMachine$Controls$ControlUnit" "java/lang/Object") ∈ lw_all := lw_g (lw_at lw_m7 166 rfl) rfl
theorem q1917 : (Jvm.Cond.classLink "BoardMachine$Processor" (59 : Nat) "BoardMachine$Walks$Translator") ∈ lw_all := lw_g (lw_at lw_m7 167 rfl) rfl
theorem q1918 : (Jvm.Cond.instantiable "BoardMachine$Walks$Translator" (10 : Nat)) ∈ lw_all := lw_g (lw_at lw_m7 168 rfl) rfl
theorem q1919 : (Jvm.Cond.classLink "BoardMachine$Processor" (61 : Nat) "BoardMachine$TableWords") ∈ lw_all := lw_g (lw_at lw_m7 169 rfl) rfl
theorem q1920 : (Jvm.Cond.instantiable "BoardMachine$TableWords" (1 : Nat)) ∈ lw_all := lw_g (lw_at lw_m7 170 rfl) rfl
theorem q1921 : (Jvm.Cond.methodLink "BoardMachine$Processor" (69 : Nat) ({ cls := "BoardMachine$TableWords", name := "<init>", desc := "(LBoardMachine$Memories$Ram;)V" } : Jvm.MethodName)) ∈ lw_all := lw_g (lw_at lw_m7 171 rfl) rfl
theorem q1922 : (Jvm.Cond.instanceMethod ({ cls := "BoardMachine$TableWords", name := "<init>", desc := "(LBoardMachine$Memories$Ram;)V" } : Jvm.MethodName)) ∈ lw_all := lw_g (lw_at lw_m7 172 rfl) rfl
theorem q1923 : (Jvm.Cond.code ({ cls := "BoardMachine$TableWords", name := "<init>", desc := "(LBoardMachine$Memories$Ram;)V" } : Jvm.MethodName) prog_94_method_1_code (2 : Nat) (Option.none : Option Jvm.ClassFile.FieldType)) ∈ lw_all := lw_g (lw_at lw_m7 173 rfl) rfl
theorem q1924 : (Jvm.Cond.methodLink "BoardMachine$TableWords" (1 : Nat) ({ cls := "java/lang/Object", name := "<init>", desc := "()V" } : Jvm.MethodName)) ∈ lw_all := lw_g (lw_at lw_m7 174 rfl) rfl
theorem q1925 : (Jvm.Cond.fieldLink "BoardMachine$TableWords" (7 : Nat) "BoardMachine$TableWords" "ram" "LBoardMachine$Memories$Ram;") ∈ lw_all := lw_g (lw_at lw_m7 175 rfl) rfl
theorem q1926 : (Jvm.Cond.laysFinal "BoardMachine$TableWords" "BoardMachine$TableWords" "ram" "LBoardMachine$Memories$Ram;") ∈ lw_all := lw_g (lw_at lw_m7 176 rfl) rfl
theorem q1927 : (Jvm.Cond.soleField "BoardMachine$TableWords" "ram") ∈ lw_all := lw_g (lw_at lw_m7 177 rfl) rfl
theorem q1928 : (Jvm.Cond.superclass "BoardMachine$TableWords" "java/lang/Object") ∈ lw_all := lw_g (lw_at lw_m7 178 rfl) rfl
theorem q1929 : (Jvm.Cond.methodLink "BoardMachine$Processor" (72 : Nat) ({ cls := "BoardMachine$Walks$Translator", name := "<init>", desc := "(LBoardMachine$Walks$Words;)V" } : Jvm.MethodName)) ∈ lw_all := lw_g (lw_at lw_m7 179 rfl) rfl
theorem q1930 : (Jvm.Cond.instanceMethod ({ cls := "BoardMachine$Walks$Translator", name := "<init>", desc := "(LBoardMachine$Walks$Words;)V" } : Jvm.MethodName)) ∈ lw_all := lw_g (lw_at lw_m7 180 rfl) rfl
theorem q1931 : (Jvm.Cond.code ({ cls := "BoardMachine$Walks$Translator", name := "<init>", desc := "(LBoardMachine$Walks$Words;)V" } : Jvm.MethodName) prog_107_method_1_code (3 : Nat) (Option.none : Option Jvm.ClassFile.FieldType)) ∈ lw_all := lw_g (lw_at lw_m7 181 rfl) rfl
theorem q1932 : (Jvm.Cond.methodLink "BoardMachine$Walks$Translator" (3 : Nat) ({ cls := "java/lang/Object", name := "<init>", desc := "()V" } : Jvm.MethodName)) ∈ lw_all := lw_g (lw_at lw_m7 182 rfl) rfl
theorem q1933 : (Jvm.Cond.classLink "BoardMachine$Walks$Translator" (9 : Nat) "[I") ∈ lw_all := lw_g (lw_at lw_m7 183 rfl) rfl
theorem q1934 : (Jvm.Cond.arrayOver (Jvm.ClassFile.FieldType.array Jvm.ClassFile.FieldType.int)) ∈ lw_tbl := lw_at lw_m7 184 rfl
theorem q1935 : (Jvm.Cond.classLink "BoardMachine$Walks$Translator" (17 : Nat) "BoardMachine$Walks$Regions") ∈ lw_all := lw_g (lw_at lw_m7 185 rfl) rfl
theorem q1936 : (Jvm.Cond.instantiable "BoardMachine$Walks$Regions" (2 : Nat)) ∈ lw_all := lw_g (lw_at lw_m7 186 rfl) rfl
theorem q1937 : (Jvm.Cond.methodLink "BoardMachine$Walks$Translator" (19 : Nat) ({ cls := "BoardMachine$Walks$Regions", name := "<init>", desc := "()V" } : Jvm.MethodName)) ∈ lw_all := lw_g (lw_at lw_m7 187 rfl) rfl
theorem q1938 : (Jvm.Cond.instanceMethod ({ cls := "BoardMachine$Walks$Regions", name := "<init>", desc := "()V" } : Jvm.MethodName)) ∈ lw_all := lw_g (lw_at lw_m7 188 rfl) rfl
theorem q1939 : (Jvm.Cond.code ({ cls := "BoardMachine$Walks$Regions", name := "<init>", desc := "()V" } : Jvm.MethodName) prog_105_method_1_code (2 : Nat) (Option.none : Option Jvm.ClassFile.FieldType)) ∈ lw_all := lw_g (lw_at lw_m7 189 rfl) rfl
theorem q1940 : (Jvm.Cond.methodLink "BoardMachine$Walks$Regions" (3 : Nat) ({ cls := "java/lang/Object", name := "<init>", desc := "()V" } : Jvm.MethodName)) ∈ lw_all := lw_g (lw_at lw_m7 190 rfl) rfl
theorem q1941 : (Jvm.Cond.classLink "BoardMachine$Walks$Regions" (9 : Nat) "BoardMachine$Walks$Region") ∈ lw_all := lw_g (lw_at lw_m7 191 rfl) rfl
theorem q1942 : (Jvm.Cond.arrayOver (Jvm.ClassFile.FieldType.object "BoardMachine$Walks$Region")) ∈ lw_tbl := lw_at lw_m7 192 rfl
theorem q1943 : (Jvm.Cond.instantiable "BoardMachine$Walks$Region" (4 : Nat)) ∈ lw_all := lw_g (lw_at lw_m7 193 rfl) rfl
theorem q1944 : (Jvm.Cond.methodLinkNest "BoardMachine$Walks$Regions" (17 : Nat) ({ cls := "BoardMachine$Walks$Region", name := "<init>", desc := "()V" } : Jvm.MethodName) "BoardMachine") ∈ lw_tbl := lw_at lw_m7 194 rfl
theorem q1945 : (Jvm.Cond.instanceMethod ({ cls := "BoardMachine$Walks$Region", name := "<init>", desc := "()V" } : Jvm.MethodName)) ∈ lw_all := lw_g (lw_at lw_m7 195 rfl) rfl
theorem q1946 : (Jvm.Cond.code ({ cls := "BoardMachine$Walks$Region", name := "<init>", desc := "()V" } : Jvm.MethodName) prog_104_method_1_code (1 : Nat) (Option.none : Option Jvm.ClassFile.FieldType)) ∈ lw_all := lw_g (lw_at lw_m7 196 rfl) rfl
theorem q1947 : (Jvm.Cond.methodLink "BoardMachine$Walks$Region" (3 : Nat) ({ cls := "java/lang/Object", name := "<init>", desc := "()V" } : Jvm.MethodName)) ∈ lw_all := lw_g (lw_at lw_m7 197 rfl) rfl
theorem q1948 : (Jvm.Cond.fieldLink "BoardMachine$Walks$Region" (9 : Nat) "BoardMachine$Walks$Region" "config" "I") ∈ lw_all := lw_g (lw_at lw_m7 198 rfl) rfl
theorem q1949 : (Jvm.Cond.fieldLinkNest "BoardMachine$Processor" (118 : Nat) "BoardMachine$Walks$Region" "config" "I" "BoardMachine") ∈ lw_tbl := lw_at lw_m7 199 rfl
theorem q1950 : (Jvm.Cond.fieldLinkNest "BoardMachine$Walks$Regions" (30 : Nat) "BoardMachine$Walks$Region" "config" "I" "BoardMachine") ∈ lw_tbl := lw_at lw_m7 200 rfl
theorem q1951 : (Jvm.Cond.fieldLinkNest "BoardMachine$Walks$Regions" (18 : Nat) "BoardMachine$Walks$Region" "number" "J" "BoardMachine") ∈ lw_tbl := lw_at lw_m7 201 rfl
theorem q1952 : (Jvm.Cond.fieldLinkNest "BoardMachine$Processor" (123 : Nat) "BoardMachine$Walks$Region" "number" "J" "BoardMachine") ∈ lw_tbl := lw_at lw_m7 202 rfl
theorem q1953 : (Jvm.Cond.fieldLink "BoardMachine$Walks$Region" (44 : Nat) "BoardMachine$Walks$Region" "number" "J") ∈ lw_all := lw_g (lw_at lw_m7 203 rfl) rfl
theorem q1954 : (Jvm.Cond.fieldLink "BoardMachine$Walks$Region" (40 : Nat) "BoardMachine$Walks$Region" "from" "J") ∈ lw_all := lw_g (lw_at lw_m7 204 rfl) rfl
theorem q1955 : (Jvm.Cond.fieldLink "BoardMachine$Walks$Region" (47 : Nat) "BoardMachine$Walks$Region" "to" "J") ∈ lw_all := lw_g (lw_at lw_m7 205 rfl) rfl
theorem q1956 : (Jvm.Cond.lays "BoardMachine$Walks$Region" "BoardMachine$Walks$Region" "config" "I") ∈ lw_all := lw_g (lw_at lw_m7 206 rfl) rfl
theorem q1957 : (Jvm.Cond.soleField "BoardMachine$Walks$Region" "config") ∈ lw_all := lw_g (lw_at lw_m7 207 rfl) rfl
theorem q1958 : (Jvm.Cond.lays "BoardMachine$Walks$Region" "BoardMachine$Walks$Region" "number" "J") ∈ lw_all := lw_g (lw_at lw_m7 208 rfl) rfl
theorem q1959 : (Jvm.Cond.soleField "BoardMachine$Walks$Region" "number") ∈ lw_all := lw_g (lw_at lw_m7 209 rfl) rfl
theorem q1960 : (Jvm.Cond.lays "BoardMachine$Walks$Region" "BoardMachine$Walks$Region" "from" "J") ∈ lw_all := lw_g (lw_at lw_m7 210 rfl) rfl
theorem q1961 : (Jvm.Cond.soleField "BoardMachine$Walks$Region" "from") ∈ lw_all := lw_g (lw_at lw_m7 211 rfl) rfl
theorem q1962 : (Jvm.Cond.lays "BoardMachine$Walks$Region" "BoardMachine$Walks$Region" "to" "J") ∈ lw_all := lw_g (lw_at lw_m7 212 rfl) rfl
theorem q1963 : (Jvm.Cond.soleField "BoardMachine$Walks$Region" "to") ∈ lw_all := lw_g (lw_at lw_m7 213 rfl) rfl
theorem q1964 : (Jvm.Cond.superclass "BoardMachine$Walks$Region" "java/lang/Object") ∈ lw_all := lw_g (lw_at lw_m7 214 rfl) rfl
theorem q1965 : (Jvm.Cond.fieldLink "BoardMachine$Walks$Regions" (11 : Nat) "BoardMachine$Walks$Regions" "all" "[LBoardMachine$Walks$Region;") ∈ lw_all := lw_g (lw_at lw_m7 215 rfl) rfl
theorem q1966 : (Jvm.Cond.fieldLinkNest "BoardMachine$Processor" (112 : Nat) "BoardMachine$Walks$Regions" "all" "[LBoardMachine$Walks$Region;" "BoardMachine") ∈ lw_tbl := lw_at lw_m7 216 rfl
theorem q1967 : (Jvm.Cond.fieldLink "BoardMachine$Walks$Regions" (26 : Nat) "BoardMachine$Walks$Regions" "version" "I") ∈ lw_all := lw_g (lw_at lw_m7 217 rfl) rfl
theorem q1968 : (Jvm.Cond.fieldLinkNest "BoardMachine$Walks$Translator" (84 : Nat) "BoardMachine$Walks$Regions" "version" "I" "BoardMachine") ∈ lw_tbl := lw_at lw_m7 218 rfl
theorem q1969 : (Jvm.Cond.laysFinal "BoardMachine$Walks$Regions" "BoardMachine$Walks$Regions" "all" "[LBoardMachine$Walks$Region;") ∈ lw_all := lw_g (lw_at lw_m7 219 rfl) rfl
theorem q1970 : (Jvm.Cond.soleField "BoardMachine$Walks$Regions" "all") ∈ lw_all := lw_g (lw_at lw_m7 220 rfl) rfl
theorem q1971 : (Jvm.Cond.lays "BoardMachine$Walks$Regions" "BoardMachine$Walks$Regions" "version" "I") ∈ lw_all := lw_g (lw_at lw_m7 221 rfl) rfl
theorem q1972 : (Jvm.Cond.soleField "BoardMachine$Walks$Regions" "version") ∈ lw_all := lw_g (lw_at lw_m7 222 rfl) rfl
theorem q1973 : (Jvm.Cond.superclass "BoardMachine$Walks$Regions" "java/lang/Object") ∈ lw_all := lw_g (lw_at lw_m7 223 rfl) rfl
theorem q1974 : (Jvm.Cond.classLink "BoardMachine$Walks$Translator" (24 : Nat) "BoardMachine$Walks$Kept") ∈ lw_all := lw_g (lw_at lw_m7 224 rfl) rfl
theorem q1975 : (Jvm.Cond.arrayOver (Jvm.ClassFile.FieldType.object "BoardMachine$Walks$Kept")) ∈ lw_tbl := lw_at lw_m7 225 rfl
theorem q1976 : (Jvm.Cond.instantiable "BoardMachine$Walks$Kept" (11 : Nat)) ∈ lw_all := lw_g (lw_at lw_m7 226 rfl) rfl
theorem q1977 : (Jvm.Cond.methodLinkNest "BoardMachine$Walks$Translator" (38 : Nat) ({ cls := "BoardMachine$Walks$Kept", name := "<init>", desc := "()V" } : Jvm.MethodName) "BoardMachine") ∈ lw_tbl := lw_at lw_m7 227 rfl
theorem q1978 : (Jvm.Cond.instanceMethod ({ cls := "BoardMachine$Walks$Kept", name := "<init>", desc := "()V" } : Jvm.MethodName)) ∈ lw_all := lw_g (lw_at lw_m7 228 rfl) rfl
theorem q1979 : (Jvm.Cond.code ({ cls := "BoardMachine$Walks$Kept", name := "<init>", desc := "()V" } : Jvm.MethodName) prog_103_method_1_code (1 : Nat) (Option.none : Option Jvm.ClassFile.FieldType)) ∈ lw_all := lw_g (lw_at lw_m7 229 rfl) rfl
theorem q1980 : (Jvm.Cond.methodLink "BoardMachine$Walks$Kept" (1 : Nat) ({ cls := "java/lang/Object", name := "<init>", desc := "()V" } : Jvm.MethodName)) ∈ lw_all := lw_g (lw_at lw_m7 230 rfl) rfl
theorem q1981 : (Jvm.Cond.fieldLinkNest "BoardMachine$Walks$Translator" (39 : Nat) "BoardMachine$Walks$Kept" "is" "Z" "BoardMachine") ∈ lw_tbl := lw_at lw_m7 231 rfl
theorem q1982 : (Jvm.Cond.fieldLinkNest "BoardMachine$Walks$Translator" (66 : Nat) "BoardMachine$Walks$Kept" "page" "J" "BoardMachine") ∈ lw_tbl := lw_at lw_m7 232 rfl
theorem q1983 : (Jvm.Cond.fieldLinkNest "BoardMachine$Walks$Translator" (69 : Nat) "BoardMachine$Walks$Kept" "access" "I" "BoardMachine") ∈ lw_tbl := lw_at lw_m7 233 rfl
theorem q1984 : (Jvm.Cond.fieldLinkNest "BoardMachine$Walks$Translator" (73 : Nat) "BoardMachine$Walks$Kept" "mode" "I" "BoardMachine") ∈ lw_tbl := lw_at lw_m7 234 rfl
theorem q1985 : (Jvm.Cond.fieldLinkNest "BoardMachine$Walks$Translator" (76 : Nat) "BoardMachine$Walks$Kept" "table" "J" "BoardMachine") ∈ lw_tbl := lw_at lw_m7 235 rfl
theorem q1986 : (Jvm.Cond.fieldLinkNest "BoardMachine$Walks$Translator" (77 : Nat) "BoardMachine$Walks$Kept" "rights" "I" "BoardMachine") ∈ lw_tbl := lw_at lw_m7 236 rfl
theorem q1987 : (Jvm.Cond.fieldLinkNest "BoardMachine$Walks$Translator" (81 : Nat) "BoardMachine$Walks$Kept" "version" "I" "BoardMachine") ∈ lw_tbl := lw_at lw_m7 237 rfl
theorem q1988 : (Jvm.Cond.fieldLinkNest "BoardMachine$Walks$Translator" (89 : Nat) "BoardMachine$Walks$Kept" "base" "J" "BoardMachine") ∈ lw_tbl := lw_at lw_m7 238 rfl
theorem q1989 : (Jvm.Cond.fieldLink "BoardMachine$Walks$Kept" (16 : Nat) "BoardMachine$Walks$Kept" "depth" "I") ∈ lw_all := lw_g (lw_at lw_m7 239 rfl) rfl
theorem q1990 : (Jvm.Cond.fieldLinkNest "BoardMachine$Walks$Translator" (98 : Nat) "BoardMachine$Walks$Kept" "depth" "I" "BoardMachine") ∈ lw_tbl := lw_at lw_m8 0 rfl
theorem q1991 : (Jvm.Cond.fieldLink "BoardMachine$Walks$Kept" (7 : Nat) "BoardMachine$Walks$Kept" "entries" "[J") ∈ lw_all := lw_g (lw_at lw_m8 1 rfl) rfl
theorem q1992 : (Jvm.Cond.fieldLinkNest "BoardMachine$Walks$Translator" (99 : Nat) "BoardMachine$Walks$Kept" "entries" "[J" "BoardMachine") ∈ lw_tbl := lw_at lw_m8 2 rfl
theorem q1993 : (Jvm.Cond.fieldLink "BoardMachine$Walks$Kept" (13 : Nat) "BoardMachine$Walks$Kept" "writes" "[J") ∈ lw_all := lw_g (lw_at lw_m8 3 rfl) rfl
theorem q1994 : (Jvm.Cond.fieldLinkNest "BoardMachine$Walks$Translator" (102 : Nat) "BoardMachine$Walks$Kept" "writes" "[J" "BoardMachine") ∈ lw_tbl := lw_at lw_m8 4 rfl
theorem q1995 : (Jvm.Cond.lays "BoardMachine$Walks$Kept" "BoardMachine$Walks$Kept" "is" "Z") ∈ lw_all := lw_g (lw_at lw_m8 5 rfl) rfl
theorem q1996 : (Jvm.Cond.soleField "BoardMachine$Walks$Kept" "is") ∈ lw_all := lw_g (lw_at lw_m8 6 rfl) rfl
theorem q1997 : (Jvm.Cond.lays "BoardMachine$Walks$Kept" "BoardMachine$Walks$Kept" "page" "J") ∈ lw_all := lw_g (lw_at lw_m8 7 rfl) rfl
theorem q1998 : (Jvm.Cond.soleField "BoardMachine$Walks$Kept" "page") ∈ lw_all := lw_g (lw_at lw_m8 8 rfl) rfl
theorem q1999 : (Jvm.Cond.lays "BoardMachine$Walks$Kept" "BoardMachine$Walks$Kept" "access" "I") ∈ lw_all := lw_g (lw_at lw_m8 9 rfl) rfl
theorem q2000 : (Jvm.Cond.soleField "BoardMachine$Walks$Kept" "access") ∈ lw_all := lw_g (lw_at lw_m8 10 rfl) rfl
theorem q2001 : (Jvm.Cond.lays "BoardMachine$Walks$Kept" "BoardMachine$Walks$Kept" "mode" "I") ∈ lw_all := lw_g (lw_at lw_m8 11 rfl) rfl
theorem q2002 : (Jvm.Cond.soleField "BoardMachine$Walks$Kept" "mode") ∈ lw_all := lw_g (lw_at lw_m8 12 rfl) rfl
theorem q2003 : (Jvm.Cond.lays "BoardMachine$Walks$Kept" "BoardMachine$Walks$Kept" "table" "J") ∈ lw_all := lw_g (lw_at lw_m8 13 rfl) rfl
theorem q2004 : (Jvm.Cond.soleField "BoardMachine$Walks$Kept" "table") ∈ lw_all := lw_g (lw_at lw_m8 14 rfl) rfl
theorem q2005 : (Jvm.Cond.lays "BoardMachine$Walks$Kept" "BoardMachine$Walks$Kept" "rights" "I") ∈ lw_all := lw_g (lw_at lw_m8 15 rfl) rfl
theorem q2006 : (Jvm.Cond.soleField "BoardMachine$Walks$Kept" "rights") ∈ lw_all := lw_g (lw_at lw_m8 16 rfl) rfl
theorem q2007 : (Jvm.Cond.lays "BoardMachine$Walks$Kept" "BoardMachine$Walks$Kept" "version" "I") ∈ lw_all := lw_g (lw_at lw_m8 17 rfl) rfl
theorem q2008 : (Jvm.Cond.soleField "BoardMachine$Walks$Kept" "version") ∈ lw_all := lw_g (lw_at lw_m8 18 rfl) rfl
theorem q2009 : (Jvm.Cond.lays "BoardMachine$Walks$Kept" "BoardMachine$Walks$Kept" "base" "J") ∈ lw_all := lw_g (lw_at lw_m8 19 rfl) rfl
theorem q2010 : (Jvm.Cond.soleField "BoardMachine$Walks$Kept" "base") ∈ lw_all := lw_g (lw_at lw_m8 20 rfl) rfl
theorem q2011 : (Jvm.Cond.lays "BoardMachine$Walks$Kept" "BoardMachine$Walks$Kept" "depth" "I") ∈ lw_all := lw_g (lw_at lw_m8 21 rfl) rfl
theorem q2012 : (Jvm.Cond.soleField "BoardMachine$Walks$Kept" "depth") ∈ lw_all := lw_g (lw_at lw_m8 22 rfl) rfl
theorem q2013 : (Jvm.Cond.laysFinal "BoardMachine$Walks$Kept" "BoardMachine$Walks$Kept" "entries" "[J") ∈ lw_all := lw_g (lw_at lw_m8 23 rfl) rfl
theorem q2014 : (Jvm.Cond.soleField "BoardMachine$Walks$Kept" "entries") ∈ lw_all := lw_g (lw_at lw_m8 24 rfl) rfl
theorem q2015 : (Jvm.Cond.laysFinal "BoardMachine$Walks$Kept" "BoardMachine$Walks$Kept" "writes" "[J") ∈ lw_all := lw_g (lw_at lw_m8 25 rfl) rfl
theorem q2016 : (Jvm.Cond.soleField "BoardMachine$Walks$Kept" "writes") ∈ lw_all := lw_g (lw_at lw_m8 26 rfl) rfl
theorem q2017 : (Jvm.Cond.superclass "BoardMachine$Walks$Kept" "java/lang/Object") ∈ lw_all := lw_g (lw_at lw_m8 27 rfl) rfl
theorem q2018 : (Jvm.Cond.fieldLink "BoardMachine$Walks$Translator" (11 : Nat) "BoardMachine$Walks$Translator" "faults" "[[I") ∈ lw_all := lw_g (lw_at lw_m8 28 rfl) rfl
theorem q2019 : (Jvm.Cond.fieldLink "BoardMachine$Walks$Translator" (34 : Nat) "BoardMachine$Walks$Translator" "words" "LBoardMachine$Walks$Words;") ∈ lw_all := lw_g (lw_at lw_m8 29 rfl) rfl
theorem q2020 : (Jvm.Cond.fieldLink "BoardMachine$Walks$Translator" (20 : Nat) "BoardMachine$Walks$Translator" "regions" "LBoardMachine$Walks$Regions;") ∈ lw_all := lw_g (lw_at lw_m8 30 rfl) rfl
theorem q2021 : (Jvm.Cond.fieldLinkNest "BoardMachine$Processor" (108 : Nat) "BoardMachine$Walks$Translator" "regions" "LBoardMachine$Walks$Regions;" "BoardMachine") ∈ lw_tbl := lw_at lw_m8 31 rfl
theorem q2022 : (Jvm.Cond.fieldLink "BoardMachine$Walks$Translator" (43 : Nat) "BoardMachine$Walks$Translator" "table" "J") ∈ lw_all := lw_g (lw_at lw_m8 32 rfl) rfl
theorem q2023 : (Jvm.Cond.fieldLinkNest "BoardMachine$Processor" (252 : Nat) "BoardMachine$Walks$Translator" "table" "J" "BoardMachine") ∈ lw_tbl := lw_at lw_m8 33 rfl
theorem q2024 : (Jvm.Cond.fieldLink "BoardMachine$Walks$Translator" (80 : Nat) "BoardMachine$Walks$Translator" "rights" "I") ∈ lw_all := lw_g (lw_at lw_m8 34 rfl) rfl
theorem q2025 : (Jvm.Cond.fieldLinkNest "BoardMachine$Processor" (254 : Nat) "BoardMachine$Walks$Translator" "rights" "I" "BoardMachine") ∈ lw_tbl := lw_at lw_m8 35 rfl
theorem q2026 : (Jvm.Cond.fieldLink "BoardMachine$Walks$Translator" (26 : Nat) "BoardMachine$Walks$Translator" "kept" "[LBoardMachine$Walks$Kept;") ∈ lw_all := lw_g (lw_at lw_m8 36 rfl) rfl
theorem q2027 : (Jvm.Cond.fieldLink "BoardMachine$Walks$Translator" (127 : Nat) "BoardMachine$Walks$Translator" "entryAt" "J") ∈ lw_all := lw_g (lw_at lw_m8 37 rfl) rfl
theorem q2028 : (Jvm.Cond.fieldLink "BoardMachine$Walks$Translator" (116 : Nat) "BoardMachine$Walks$Translator" "entry" "J") ∈ lw_all := lw_g (lw_at lw_m8 38 rfl) rfl
theorem q2029 : (Jvm.Cond.fieldLink "BoardMachine$Walks$Translator" (95 : Nat) "BoardMachine$Walks$Translator" "depth" "I") ∈ lw_all := lw_g (lw_at lw_m8 39 rfl) rfl
theorem q2030 : (Jvm.Cond.fieldLink "BoardMachine$Walks$Translator" (30 : Nat) "BoardMachine$Walks$Translator" "trace" "[J") ∈ lw_all := lw_g (lw_at lw_m8 40 rfl) rfl
theorem q2031 : (Jvm.Cond.laysFinal "BoardMachine$Walks$Translator" "BoardMachine$Walks$Translator" "faults" "[[I") ∈ lw_all := lw_g (lw_at lw_m8 41 rfl) rfl
theorem q2032 : (Jvm.Cond.soleField "BoardMachine$Walks$Translator" "faults") ∈ lw_all := lw_g (lw_at lw_m8 42 rfl) rfl
theorem q2033 : (Jvm.Cond.laysFinal "BoardMachine$Walks$Translator" "BoardMachine$Walks$Translator" "words" "LBoardMachine$Walks$Words;") ∈ lw_all := lw_g (lw_at lw_m8 43 rfl) rfl
theorem q2034 : (Jvm.Cond.soleField "BoardMachine$Walks$Translator" "words") ∈ lw_all := lw_g (lw_at lw_m8 44 rfl) rfl
theorem q2035 : (Jvm.Cond.laysFinal "BoardMachine$Walks$Translator" "BoardMachine$Walks$Translator" "regions" "LBoardMachine$Walks$Regions;") ∈ lw_all := lw_g (lw_at lw_m8 45 rfl) rfl
theorem q2036 : (Jvm.Cond.soleField "BoardMachine$Walks$Translator" "regions") ∈ lw_all := lw_g (lw_at lw_m8 46 rfl) rfl
theorem q2037 : (Jvm.Cond.lays "BoardMachine$Walks$Translator" "BoardMachine$Walks$Translator" "table" "J") ∈ lw_all := lw_g (lw_at lw_m8 47 rfl) rfl
theorem q2038 : (Jvm.Cond.soleField "BoardMachine$Walks$Translator" "table") ∈ lw_all := lw_g (lw_at lw_m8 48 rfl) rfl
theorem q2039 : (Jvm.Cond.lays "BoardMachine$Walks$Translator" "BoardMachine$Walks$Translator" "rights" "I") ∈ lw_all := lw_g (lw_at lw_m8 49 rfl) rfl
theorem q2040 : (Jvm.Cond.soleField "BoardMachine$Walks$Translator" "rights") ∈ lw_all := lw_g (lw_at lw_m8 50 rfl) rfl
theorem q2041 : (Jvm.Cond.laysFinal "BoardMachine$Walks$Translator" "BoardMachine$Walks$Translator" "kept" "[LBoardMachine$Walks$Kept;") ∈ lw_all := lw_g (lw_at lw_m8 51 rfl) rfl
theorem q2042 : (Jvm.Cond.soleField "BoardMachine$Walks$Translator" "kept") ∈ lw_all := lw_g (lw_at lw_m8 52 rfl) rfl
theorem q2043 : (Jvm.Cond.lays "BoardMachine$Walks$Translator" "BoardMachine$Walks$Translator" "entryAt" "J") ∈ lw_all := lw_g (lw_at lw_m8 53 rfl) rfl
theorem q2044 : (Jvm.Cond.soleField "BoardMachine$Walks$Translator" "entryAt") ∈ lw_all := lw_g (lw_at lw_m8 54 rfl) rfl
theorem q2045 : (Jvm.Cond.lays "BoardMachine$Walks$Translator" "BoardMachine$Walks$Translator" "entry" "J") ∈ lw_all := lw_g (lw_at lw_m8 55 rfl) rfl
theorem q2046 : (Jvm.Cond.soleField "BoardMachine$Walks$Translator" "entry") ∈ lw_all := lw_g (lw_at lw_m8 56 rfl) rfl
theorem q2047 : (Jvm.Cond.lays "BoardMachine$Walks$Translator" "BoardMachine$Walks$Translator" "depth" "I") ∈ lw_all := lw_g (lw_at lw_m8 57 rfl) rfl
theorem q2048 : (Jvm.Cond.soleField "BoardMachine$Walks$Translator" "depth") ∈ lw_all := lw_g (lw_at lw_m8 58 rfl) rfl
theorem q2049 : (Jvm.Cond.laysFinal "BoardMachine$Walks$Translator" "BoardMachine$Walks$Translator" "trace" "[J") ∈ lw_all := lw_g (lw_at lw_m8 59 rfl) rfl
theorem q2050 : (Jvm.Cond.soleField "BoardMachine$Walks$Translator" "trace") ∈ lw_all := lw_g (lw_at lw_m8 60 rfl) rfl
theorem q2051 : (Jvm.Cond.superclass "BoardMachine$Walks$Translator" "java/lang/Object") ∈ lw_all := lw_g (lw_at lw_m8 61 rfl) rfl
theorem q2052 : (Jvm.Cond.instantiable "BoardMachine$Kept" (6 : Nat)) ∈ lw_all := lw_g (lw_at lw_m8 62 rfl) rfl
theorem q2053 : (Jvm.Cond.methodLinkNest "BoardMachine$Processor" (79 : Nat) ({ cls := "BoardMachine$Kept", name := "<init>", desc := "()V" } : Jvm.MethodName) "BoardMachine") ∈ lw_tbl := lw_at lw_m8 63 rfl
theorem q2054 : (Jvm.Cond.instanceMethod ({ cls := "BoardMachine$Kept", name := "<init>", desc := "()V" } : Jvm.MethodName)) ∈ lw_all := lw_g (lw_at lw_m8 64 rfl) rfl
theorem q2055 : (Jvm.Cond.code ({ cls := "BoardMachine$Kept", name := "<init>", desc := "()V" } : Jvm.MethodName) prog_74_method_1_code (1 : Nat) (Option.none : Option Jvm.ClassFile.FieldType)) ∈ lw_all := lw_g (lw_at lw_m8 65 rfl) rfl
theorem q2056 : (Jvm.Cond.methodLink "BoardMachine$Kept" (1 : Nat) ({ cls := "java/lang/Object", name := "<init>", desc := "()V" } : Jvm.MethodName)) ∈ lw_all := lw_g (lw_at lw_m8 66 rfl) rfl
theorem q2057 : (Jvm.Cond.fieldLinkNest "BoardMachine$Processor" (301 : Nat) "BoardMachine$Kept" "is" "Z" "BoardMachine") ∈ lw_tbl := lw_at lw_m8 67 rfl
theorem q2058 : (Jvm.Cond.fieldLinkNest "BoardMachine$Processor" (304 : Nat) "BoardMachine$Kept" "at" "J" "BoardMachine") ∈ lw_tbl := lw_at lw_m8 68 rfl
theorem q2059 : (Jvm.Cond.fieldLinkNest "BoardMachine$Processor" (314 : Nat) "BoardMachine$Kept" "writes" "J" "BoardMachine") ∈ lw_tbl := lw_at lw_m8 69 rfl
theorem q2060 : (Jvm.Cond.fieldLinkNest "BoardMachine$Processor" (316 : Nat) "BoardMachine$Kept" "word" "I" "BoardMachine") ∈ lw_tbl := lw_at lw_m8 70 rfl
theorem q2061 : (Jvm.Cond.fieldLinkNest "BoardMachine$Processor" (320 : Nat) "BoardMachine$Kept" "length" "I" "BoardMachine") ∈ lw_tbl := lw_at lw_m8 71 rfl
theorem q2062 : (Jvm.Cond.fieldLinkNest "BoardMachine$Processor" (319 : Nat) "BoardMachine$Kept" "raw" "I" "BoardMachine") ∈ lw_tbl := lw_at lw_m8 72 rfl
theorem q2063 : (Jvm.Cond.lays "BoardMachine$Kept" "BoardMachine$Kept" "is" "Z") ∈ lw_all := lw_g (lw_at lw_m8 73 rfl) rfl
theorem q2064 : (Jvm.Cond.soleField "BoardMachine$Kept" "is") ∈ lw_all := lw_g (lw_at lw_m8 74 rfl) rfl
theorem q2065 : (Jvm.Cond.lays "BoardMachine$Kept" "BoardMachine$Kept" "at" "J") ∈ lw_all := lw_g (lw_at lw_m8 75 rfl) rfl
theorem q2066 : (Jvm.Cond.soleField "BoardMachine$Kept" "at") ∈ lw_all := lw_g (lw_at lw_m8 76 rfl) rfl
theorem q2067 : (Jvm.Cond.lays "BoardMachine$Kept" "BoardMachine$Kept" "writes" "J") ∈ lw_all := lw_g (lw_at lw_m8 77 rfl) rfl
theorem q2068 : (Jvm.Cond.soleField "BoardMachine$Kept" "writes") ∈ lw_all := lw_g (lw_at lw_m8 78 rfl) rfl
theorem q2069 : (Jvm.Cond.lays "BoardMachine$Kept" "BoardMachine$Kept" "word" "I") ∈ lw_all := lw_g (lw_at lw_m8 79 rfl) rfl
theorem q2070 : (Jvm.Cond.soleField "BoardMachine$Kept" "word") ∈ lw_all := lw_g (lw_at lw_m8 80 rfl) rfl
theorem q2071 : (Jvm.Cond.lays "BoardMachine$Kept" "BoardMachine$Kept" "length" "I") ∈ lw_all := lw_g (lw_at lw_m8 81 rfl) rfl
theorem q2072 : (Jvm.Cond.soleField "BoardMachine$Kept" "length") ∈ lw_all := lw_g (lw_at lw_m8 82 rfl) rfl
theorem q2073 : (Jvm.Cond.lays "BoardMachine$Kept" "BoardMachine$Kept" "raw" "I") ∈ lw_all := lw_g (lw_at lw_m8 83 rfl) rfl
theorem q2074 : (Jvm.Cond.soleField "BoardMachine$Kept" "raw") ∈ lw_all := lw_g (lw_at lw_m8 84 rfl) rfl
theorem q2075 : (Jvm.Cond.superclass "BoardMachine$Kept" "java/lang/Object") ∈ lw_all := lw_g (lw_at lw_m8 85 rfl) rfl
theorem q2076 : (Jvm.Cond.fieldLink "BoardMachine$Processor" (38 : Nat) "BoardMachine$Processor" "number" "I") ∈ lw_all := lw_g (lw_at lw_m8 86 rfl) rfl
theorem q2077 : (Jvm.Cond.fieldLink "BoardMachine$Processor" (42 : Nat) "BoardMachine$Processor" "board" "LBoardMachine$Board;") ∈ lw_all := lw_g (lw_at lw_m8 87 rfl) rfl
theorem q2078 : (Jvm.Cond.fieldLink "BoardMachine$Processor" (12 : Nat) "BoardMachine$Processor" "integers" "LBoardMachine$Integers$IntegerUnit;") ∈ lw_all := lw_g (lw_at lw_m8 88 rfl) rfl
theorem q2079 : (Jvm.Cond.fieldLinkNest "BoardMachine" (106 : Nat) "BoardMachine$Processor" "integers" "LBoardMachine$Integers$IntegerUnit;" "BoardMachine") ∈ lw_tbl := lw_at lw_m8 89 rfl
theorem q2080 : (Jvm.Cond.fieldLink "BoardMachine$Processor" (21 : Nat) "BoardMachine$Processor" "floats" "LBoardMachine$Floats$FloatUnit;") ∈ lw_all := lw_g (lw_at lw_m8 90 rfl) rfl
theorem q2081 : (Jvm.Cond.fieldLinkNest "BoardMachine" (122 : Nat) "BoardMachine$Processor" "floats" "LBoardMachine$Floats$FloatUnit;" "BoardMachine") ∈ lw_tbl := lw_at lw_m8 91 rfl
theorem q2082 : (Jvm.Cond.fieldLink "BoardMachine$Processor" (55 : Nat) "BoardMachine$Processor" "controls" "LBoardMachine$Controls$ControlUnit;") ∈ lw_all := lw_g (lw_at lw_m8 92 rfl) rfl
theorem q2083 : (Jvm.Cond.fieldLinkNest "BoardMachine$Machine" (168 : Nat) "BoardMachine$Processor" "controls" "LBoardMachine$Controls$ControlUnit;" "BoardMachine") ∈ lw_tbl := lw_at lw_m8 93 rfl
theorem q2084 : (Jvm.Cond.fieldLinkNest "BoardMachine" (133 : Nat) "BoardMachine$Processor" "controls" "LBoardMachine$Controls$ControlUnit;" "BoardMachine") ∈ lw_tbl := lw_at lw_m8 94 rfl
theorem q2085 : (Jvm.Cond.fieldLink "BoardMachine$Processor" (75 : Nat) "BoardMachine$Processor" "walks" "LBoardMachine$Walks$Translator;") ∈ lw_all := lw_g (lw_at lw_m8 95 rfl) rfl
theorem q2086 : (Jvm.Cond.fieldLink "BoardMachine$Processor" (46 : Nat) "BoardMachine$Processor" "halves" "LBoardMachine$Halves$ShortUnit;") ∈ lw_all := lw_g (lw_at lw_m8 96 rfl) rfl
theorem q2087 : (Jvm.Cond.fieldLink "BoardMachine$Processor" (27 : Nat) "BoardMachine$Processor" "kept" "[LBoardMachine$Kept;") ∈ lw_all := lw_g (lw_at lw_m8 97 rfl) rfl
theorem q2088 : (Jvm.Cond.fieldLink "BoardMachine$Processor" (34 : Nat) "BoardMachine$Processor" "data" "LBoardMachine$Found;") ∈ lw_all := lw_g (lw_at lw_m8 98 rfl) rfl
theorem q2089 : (Jvm.Cond.fieldLink "BoardMachine$Processor" (129 : Nat) "BoardMachine$Processor" "waiting" "Z") ∈ lw_all := lw_g (lw_at lw_m8 99 rfl) rfl
theorem q2090 : (Jvm.Cond.fieldLinkNest "BoardMachine" (156 : Nat) "BoardMachine$Processor" "waiting" "Z" "BoardMachine") ∈ lw_tbl := lw_at lw_m8 100 rfl
theorem q2091 : (Jvm.Cond.fieldLink "BoardMachine$Processor" (338 : Nat) "BoardMachine$Processor" "word" "I") ∈ lw_all := lw_g (lw_at lw_m8 101 rfl) rfl
theorem q2092 : (Jvm.Cond.fieldLink "BoardMachine$Processor" (238 : Nat) "BoardMachine$Processor" "raw" "I") ∈ lw_all := lw_g (lw_at lw_m8 102 rfl) rfl
theorem q2093 : (Jvm.Cond.fieldLink "BoardMachine$Processor" (241 : Nat) "BoardMachine$Processor" "length" "I") ∈ lw_all := lw_g (lw_at lw_m8 103 rfl) rfl
theorem q2094 : (Jvm.Cond.laysFinal "BoardMachine$Processor" "BoardMachine$Processor" "number" "I") ∈ lw_all := lw_g (lw_at lw_m8 104 rfl) rfl
theorem q2095 : (Jvm.Cond.soleField "BoardMachine$Processor" "number") ∈ lw_all := lw_g (lw_at lw_m8 105 rfl) rfl
theorem q2096 : (Jvm.Cond.laysFinal "BoardMachine$Processor" "BoardMachine$Processor" "board" "LBoardMachine$Board;") ∈ lw_all := lw_g (lw_at lw_m8 106 rfl) rfl
theorem q2097 : (Jvm.Cond.soleField "BoardMachine$Processor" "board") ∈ lw_all := lw_g (lw_at lw_m8 107 rfl) rfl
theorem q2098 : (Jvm.Cond.laysFinal "BoardMachine$Processor" "BoardMachine$Processor" "integers" "LBoardMachine$Integers$IntegerUnit;") ∈ lw_all := lw_g (lw_at lw_m8 108 rfl) rfl
theorem q2099 : (Jvm.Cond.soleField "BoardMachine$Processor" "integers") ∈ lw_all := lw_g (lw_at lw_m8 109 rfl) rfl
theorem q2100 : (Jvm.Cond.laysFinal "BoardMachine$Processor" "BoardMachine$Processor" "floats" "LBoardMachine$Floats$FloatUnit;") ∈ lw_all := lw_g (lw_at lw_m8 110 rfl) rfl
theorem q2101 : (Jvm.Cond.soleField "BoardMachine$Processor" "floats") ∈ lw_all := lw_g (lw_at lw_m8 111 rfl) rfl
theorem q2102 : (Jvm.Cond.laysFinal "BoardMachine$Processor" "BoardMachine$Processor" "controls" "LBoardMachine$Controls$ControlUnit;") ∈ lw_all := lw_g (lw_at lw_m8 112 rfl) rfl
theorem q2103 : (Jvm.Cond.soleField "BoardMachine$Processor" "controls") ∈ lw_all := lw_g (lw_at lw_m8 113 rfl) rfl
theorem q2104 : (Jvm.Cond.laysFinal "BoardMachine$Processor" "BoardMachine$Processor" "walks" "LBoardMachine$Walks$Translator;") ∈ lw_all := lw_g (lw_at lw_m8 114 rfl) rfl
theorem q2105 : (Jvm.Cond.soleField "BoardMachine$Processor" "walks") ∈ lw_all := lw_g (lw_at lw_m8 115 rfl) rfl
theorem q2106 : (Jvm.Cond.laysFinal "BoardMachine$Processor" "BoardMachine$Processor" "halves" "LBoardMachine$Halves$ShortUnit;") ∈ lw_all := lw_g (lw_at lw_m8 116 rfl) rfl
theorem q2107 : (Jvm.Cond.soleField "BoardMachine$Processor" "halves") ∈ lw_all := lw_g (lw_at lw_m8 117 rfl) rfl
theorem q2108 : (Jvm.Cond.laysFinal "BoardMachine$Processor" "BoardMachine$Processor" "kept" "[LBoardMachine$Kept;") ∈ lw_all := lw_g (lw_at lw_m8 118 rfl) rfl
theorem q2109 : (Jvm.Cond.soleField "BoardMachine$Processor" "kept") ∈ lw_all := lw_g (lw_at lw_m8 119 rfl) rfl
theorem q2110 : (Jvm.Cond.laysFinal "BoardMachine$Processor" "BoardMachine$Processor" "data" "LBoardMachine$Found;") ∈ lw_all := lw_g (lw_at lw_m8 120 rfl) rfl
theorem q2111 : (Jvm.Cond.soleField "BoardMachine$Processor" "data") ∈ lw_all := lw_g (lw_at lw_m8 121 rfl) rfl
theorem q2112 : (Jvm.Cond.lays "BoardMachine$Processor" "BoardMachine$Processor" "waiting" "Z") ∈ lw_all := lw_g (lw_at lw_m8 122 rfl) rfl
theorem q2113 : (Jvm.Cond.soleField "BoardMachine$Processor" "waiting") ∈ lw_all := lw_g (lw_at lw_m8 123 rfl) rfl
theorem q2114 : (Jvm.Cond.lays "BoardMachine$Processor" "BoardMachine$Processor" "word" "I") ∈ lw_all := lw_g (lw_at lw_m8 124 rfl) rfl
theorem q2115 : (Jvm.Cond.soleField "BoardMachine$Processor" "word") ∈ lw_all := lw_g (lw_at lw_m8 125 rfl) rfl
theorem q2116 : (Jvm.Cond.lays "BoardMachine$Processor" "BoardMachine$Processor" "raw" "I") ∈ lw_all := lw_g (lw_at lw_m8 126 rfl) rfl
theorem q2117 : (Jvm.Cond.soleField "BoardMachine$Processor" "raw") ∈ lw_all := lw_g (lw_at lw_m8 127 rfl) rfl
theorem q2118 : (Jvm.Cond.lays "BoardMachine$Processor" "BoardMachine$Processor" "length" "I") ∈ lw_all := lw_g (lw_at lw_m8 128 rfl) rfl
theorem q2119 : (Jvm.Cond.soleField "BoardMachine$Processor" "length") ∈ lw_all := lw_g (lw_at lw_m8 129 rfl) rfl
theorem q2120 : (Jvm.Cond.superclass "BoardMachine$Processor" "java/lang/Object") ∈ lw_all := lw_g (lw_at lw_m8 130 rfl) rfl
theorem q2121 : (Jvm.Cond.classLink "BoardMachine$Machine" (51 : Nat) "BoardMachine$Loader") ∈ lw_all := lw_g (lw_at lw_m8 131 rfl) rfl
theorem q2122 : (Jvm.Cond.instantiable "BoardMachine$Loader" (3 : Nat)) ∈ lw_all := lw_g (lw_at lw_m8 132 rfl) rfl
theorem q2123 : (Jvm.Cond.methodLink "BoardMachine$Machine" (57 : Nat) ({ cls := "BoardMachine$Loader", name := "<init>", desc := "(LBoardMachine$Trees$Row;LBoardMachine$Memories$Ram;)V" } : Jvm.MethodName)) ∈ lw_all := lw_g (lw_at lw_m8 133 rfl) rfl
theorem q2124 : (Jvm.Cond.instanceMethod ({ cls := "BoardMachine$Loader", name := "<init>", desc := "(LBoardMachine$Trees$Row;LBoardMachine$Memories$Ram;)V" } : Jvm.MethodName)) ∈ lw_all := lw_g (lw_at lw_m8 134 rfl) rfl
theorem q2125 : (Jvm.Cond.code ({ cls := "BoardMachine$Loader", name := "<init>", desc := "(LBoardMachine$Trees$Row;LBoardMachine$Memories$Ram;)V" } : Jvm.MethodName) prog_75_method_1_code (3 : Nat) (Option.none : Option Jvm.ClassFile.FieldType)) ∈ lw_all := lw_g (lw_at lw_m8 135 rfl) rfl
theorem q2126 : (Jvm.Cond.methodLink "BoardMachine$Loader" (3 : Nat) ({ cls := "java/lang/Object", name := "<init>", desc := "()V" } : Jvm.MethodName)) ∈ lw_all := lw_g (lw_at lw_m8 136 rfl) rfl
theorem q2127 : (Jvm.Cond.constantLong "BoardMachine$Loader" (9 : Nat) (2147483648 : Int64)) ∈ lw_all := lw_g (lw_at lw_m8 137 rfl) rfl
theorem q2128 : (Jvm.Cond.fieldLink "BoardMachine$Loader" (17 : Nat) "BoardMachine$Loader" "in" "LBoardMachine$Trees$Row;") ∈ lw_all := lw_g (lw_at lw_m8 138 rfl) rfl
theorem q2129 : (Jvm.Cond.fieldLink "BoardMachine$Loader" (21 : Nat) "BoardMachine$Loader" "ram" "LBoardMachine$Memories$Ram;") ∈ lw_all := lw_g (lw_at lw_m8 139 rfl) rfl
theorem q2130 : (Jvm.Cond.fieldLink "BoardMachine$Loader" (11 : Nat) "BoardMachine$Loader" "entry" "J") ∈ lw_all := lw_g (lw_at lw_m8 140 rfl) rfl
theorem q2131 : (Jvm.Cond.fieldLinkNest "BoardMachine$Machine" (92 : Nat) "BoardMachine$Loader" "entry" "J" "BoardMachine") ∈ lw_tbl := lw_at lw_m8 141 rfl
theorem q2132 : (Jvm.Cond.laysFinal "BoardMachine$Loader" "BoardMachine$Loader" "in" "LBoardMachine$Trees$Row;") ∈ lw_all := lw_g (lw_at lw_m8 142 rfl) rfl
theorem q2133 : (Jvm.Cond.soleField "BoardMachine$Loader" "in") ∈ lw_all := lw_g (lw_at lw_m8 143 rfl) rfl
theorem q2134 : (Jvm.Cond.laysFinal "BoardMachine$Loader" "BoardMachine$Loader" "ram" "LBoardMachine$Memories$Ram;") ∈ lw_all := lw_g (lw_at lw_m8 144 rfl) rfl
theorem q2135 : (Jvm.Cond.soleField "BoardMachine$Loader" "ram") ∈ lw_all := lw_g (lw_at lw_m8 145 rfl) rfl
theorem q2136 : (Jvm.Cond.lays "BoardMachine$Loader" "BoardMachine$Loader" "entry" "J") ∈ lw_all := lw_g (lw_at lw_m8 146 rfl) rfl
theorem q2137 : (Jvm.Cond.soleField "BoardMachine$Loader" "entry") ∈ lw_all := lw_g (lw_at lw_m8 147 rfl) rfl
theorem q2138 : (Jvm.Cond.superclass "BoardMachine$Loader" "java/lang/Object") ∈ lw_all := lw_g (lw_at lw_m8 148 rfl) rfl
theorem q2139 : (Jvm.Cond.methodLink "BoardMachine$Machine" (64 : Nat) ({ cls := "BoardMachine$Machine", name := "start", desc := "()I" } : Jvm.MethodName)) ∈ lw_all := lw_g (lw_at lw_m8 149 rfl) rfl
theorem q2140 : (Jvm.Cond.instanceMethod ({ cls := "BoardMachine$Machine", name := "start", desc := "()I" } : Jvm.MethodName)) ∈ lw_all := lw_g (lw_at lw_m8 150 rfl) rfl
theorem q2141 : (Jvm.Cond.selects "BoardMachine$Machine" ({ cls := "BoardMachine$Machine", name := "start", desc := "()I" } : Jvm.MethodName) ({ cls := "BoardMachine$Machine", name := "start", desc := "()I" } : Jvm.MethodName)) ∈ lw_all := lw_g (lw_at lw_m8 151 rfl) rfl
theorem q2142 : (Jvm.Cond.code ({ cls := "BoardMachine$Machine", name := "start", desc := "()I" } : Jvm.MethodName) prog_76_method_2_code (6 : Nat) (Option.some Jvm.ClassFile.FieldType.int)) ∈ lw_all := lw_g (lw_at lw_m8 152 rfl) rfl
theorem q2143 : (Jvm.Cond.methodLink "BoardMachine$Machine" (68 : Nat) ({ cls := "BoardMachine$Describer", name := "describe", desc := "(I)I" } : Jvm.MethodName)) ∈ lw_all := lw_g (lw_at lw_m8 153 rfl) rfl
theorem q2144 : (Jvm.Cond.instanceMethod ({ cls := "BoardMachine$Describer", name := "describe", desc := "(I)I" } : Jvm.MethodName)) ∈ lw_all := lw_g (lw_at lw_m8 154 rfl) rfl
theorem q2145 : (Jvm.Cond.selects "BoardMachine$Describer" ({ cls := "BoardMachine$Describer", name := "describe", desc := "(I)I" } : Jvm.MethodName) ({ cls := "BoardMachine$Describer", name := "describe", desc := "(I)I" } : Jvm.MethodName)) ∈ lw_all := lw_g (lw_at lw_m8 155 rfl) rfl
theorem q2146 : (Jvm.Cond.code ({ cls := "BoardMachine$Describer", name := "describe", desc := "(I)I" } : Jvm.MethodName) prog_14_method_17_code (3 : Nat) (Option.some Jvm.ClassFile.FieldType.int)) ∈ lw_all := lw_g (lw_at lw_m8 156 rfl) rfl
theorem q2147 : (Jvm.Cond.methodLink "BoardMachine$Describer" (220 : Nat) ({ cls := "BoardMachine$Trees$Tree", name := "clear", desc := "()V" } : Jvm.MethodName)) ∈ lw_all := lw_g (lw_at lw_m8 157 rfl) rfl
theorem q2148 : (Jvm.Cond.methodLink "BoardMachine$Describer" (166 : Nat) ({ cls := "BoardMachine$Describer", name := "cells", desc := "(II)V" } : Jvm.MethodName)) ∈ lw_all := lw_g (lw_at lw_m8 158 rfl) rfl
theorem q2149 : (Jvm.Cond.privateMethod ({ cls := "BoardMachine$Describer", name := "cells", desc := "(II)V" } : Jvm.MethodName)) ∈ lw_tbl := lw_at lw_m8 159 rfl
theorem q2150 : (Jvm.Cond.instanceMethod ({ cls := "BoardMachine$Describer", name := "cells", desc := "(II)V" } : Jvm.MethodName)) ∈ lw_all := lw_g (lw_at lw_m8 160 rfl) rfl
theorem q2151 : (Jvm.Cond.code ({ cls := "BoardMachine$Describer", name := "cells", desc := "(II)V" } : Jvm.MethodName) prog_14_method_12_code (3 : Nat) (Option.none : Option Jvm.ClassFile.FieldType)) ∈ lw_all := lw_g (lw_at lw_m8 161 rfl) rfl
theorem q2152 : (Jvm.Cond.stringRef "BoardMachine$Describer" (93 : Nat) "#address-cells") ∈ lw_tbl := lw_at lw_m8 162 rfl
theorem q2153 : (Jvm.Cond.methodLink "BoardMachine$Describer" (95 : Nat) ({ cls := "BoardMachine$Describer", name := "number", desc := "(Ljava/lang/String;I)V" } : Jvm.MethodName)) ∈ lw_all := lw_g (lw_at lw_m8 163 rfl) rfl
theorem q2154 : (Jvm.Cond.privateMethod ({ cls := "BoardMachine$Describer", name := "number", desc := "(Ljava/lang/String;I)V" } : Jvm.MethodName)) ∈ lw_tbl := lw_at lw_m8 164 rfl
theorem q2155 : (Jvm.Cond.instanceMethod ({ cls := "BoardMachine$Describer", name := "number", desc := "(Ljava/lang/String;I)V" } : Jvm.MethodName)) ∈ lw_all := lw_g (lw_at lw_m8 165 rfl) rfl
theorem q2156 : (Jvm.Cond.code ({ cls := "BoardMachine$Describer", name := "number", desc := "(Ljava/lang/String;I)V" } : Jvm.MethodName) prog_14_method_8_code (3 : Nat) (Option.none : Option Jvm.ClassFile.FieldType)) ∈ lw_all := lw_g (lw_at lw_m8 166 rfl) rfl
theorem q2157 : (Jvm.Cond.methodLink "BoardMachine$Describer" (78 : Nat) ({ cls := "BoardMachine$Describer", name := "begin", desc := "(Ljava/lang/String;)V" } : Jvm.MethodName)) ∈ lw_all := lw_g (lw_at lw_m8 167 rfl) rfl
theorem q2158 : (Jvm.Cond.privateMethod ({ cls := "BoardMachine$Describer", name := "begin", desc := "(Ljava/lang/String;)V" } : Jvm.MethodName)) ∈ lw_tbl := lw_at lw_m8 168 rfl
theorem q2159 : (Jvm.Cond.instanceMethod ({ cls := "BoardMachine$Describer", name := "begin", desc := "(Ljava/lang/String;)V" } : Jvm.MethodName)) ∈ lw_all := lw_g (lw_at lw_m8 169 rfl) rfl
theorem q2160 : (Jvm.Cond.code ({ cls := "BoardMachine$Describer", name := "begin", desc := "(Ljava/lang/String;)V" } : Jvm.MethodName) prog_14_method_5_code (2 : Nat) (Option.none : Option Jvm.ClassFile.FieldType)) ∈ lw_all := lw_g (lw_at lw_m8 170 rfl) rfl
theorem q2161 : (Jvm.Cond.methodLink "BoardMachine$Describer" (51 : Nat) ({ cls := "BoardMachine$Describer", name := "text", desc := "(Ljava/lang/String;)V" } : Jvm.MethodName)) ∈ lw_all := lw_g (lw_at lw_m8 171 rfl) rfl
theorem q2162 : (Jvm.Cond.privateMethod ({ cls := "BoardMachine$Describer", name := "text", desc := "(Ljava/lang/String;)V" } : Jvm.MethodName)) ∈ lw_tbl := lw_at lw_m8 172 rfl
theorem q2163 : (Jvm.Cond.instanceMethod ({ cls := "BoardMachine$Describer", name := "text", desc := "(Ljava/lang/String;)V" } : Jvm.MethodName)) ∈ lw_all := lw_g (lw_at lw_m8 173 rfl) rfl
theorem q2164 : (Jvm.Cond.code ({ cls := "BoardMachine$Describer", name := "text", desc := "(Ljava/lang/String;)V" } : Jvm.MethodName) prog_14_method_2_code (3 : Nat) (Option.none : Option Jvm.ClassFile.FieldType)) ∈ lw_all := lw_g (lw_at lw_m8 174 rfl) rfl
theorem q2165 : (Jvm.Cond.methodLink "BoardMachine$Describer" (34 : Nat) ({ cls := "java/lang/String", name := "length", desc := "()I" } : Jvm.MethodName)) ∈ lw_all := lw_g (lw_at lw_m8 175 rfl) rfl
theorem q2166 : (Jvm.Cond.instanceMethod ({ cls := "java/lang/String", name := "length", desc := "()I" } : Jvm.MethodName)) ∈ lw_all := lw_g (lw_at lw_m8 176 rfl) rfl
theorem q2167 : (Jvm.Cond.selects "java/lang/String" ({ cls := "java/lang/String", name := "length", desc := "()I" } : Jvm.MethodName) ({ cls := "java/lang/String", name := "length", desc := "()I" } : Jvm.MethodName)) ∈ lw_all := lw_g (lw_at lw_m8 177 rfl) rfl
theorem q2168 : (Jvm.Cond.code ({ cls := "java/lang/String", name := "length", desc := "()I" } : Jvm.MethodName) prog_130_method_54_code (1 : Nat) (Option.some Jvm.ClassFile.FieldType.int)) ∈ lw_all := lw_g (lw_at lw_m8 178 rfl) rfl
theorem q2169 : (Jvm.Cond.methodLink "java/lang/String" (335 : Nat) ({ cls := "java/lang/String", name := "coder", desc := "()B" } : Jvm.MethodName)) ∈ lw_all := lw_g (lw_at lw_m8 179 rfl) rfl
theorem q2170 : (Jvm.Cond.instanceMethod ({ cls := "java/lang/String", name := "coder", desc := "()B" } : Jvm.MethodName)) ∈ lw_all := lw_g (lw_at lw_m8 180 rfl) rfl
theorem q2171 : (Jvm.Cond.selects "java/lang/String" ({ cls := "java/lang/String", name := "coder", desc := "()B" } : Jvm.MethodName) ({ cls := "java/lang/String", name := "coder", desc := "()B" } : Jvm.MethodName)) ∈ lw_all := lw_g (lw_at lw_m8 181 rfl) rfl
theorem q2172 : (Jvm.Cond.code ({ cls := "java/lang/String", name := "coder", desc := "()B" } : Jvm.MethodName) prog_130_method_152_code (1 : Nat) (Option.some Jvm.ClassFile.FieldType.byte)) ∈ lw_all := lw_g (lw_at lw_m8 182 rfl) rfl
theorem q2173 : (Jvm.Cond.fieldLink "java/lang/String" (38 : Nat) "java/lang/String" "COMPACT_STRINGS" "Z") ∈ lw_all := lw_g (lw_at lw_m8 183 rfl) rfl
theorem q2174 : (Jvm.Cond.laysStatic "java/lang/String" "COMPACT_STRINGS" "Z") ∈ lw_tbl := lw_at lw_m8 184 rfl
theorem q2175 : (Jvm.Cond.methodLink "BoardMachine$Describer" (40 : Nat) ({ cls := "java/lang/String", name := "charAt", desc := "(I)C" } : Jvm.MethodName)) ∈ lw_all := lw_g (lw_at lw_m8 185 rfl) rfl
theorem q2176 : (Jvm.Cond.instanceMethod ({ cls := "java/lang/String", name := "charAt", desc := "(I)C" } : Jvm.MethodName)) ∈ lw_all := lw_g (lw_at lw_m8 186 rfl) rfl
theorem q2177 : (Jvm.Cond.selects "java/lang/String" ({ cls := "java/lang/String", name := "charAt", desc := "(I)C" } : Jvm.MethodName) ({ cls := "java/lang/String", name := "charAt", desc := "(I)C" } : Jvm.MethodName)) ∈ lw_all := lw_g (lw_at lw_m8 187 rfl) rfl
theorem q2178 : (Jvm.Cond.code ({ cls := "java/lang/String", name := "charAt", desc := "(I)C" } : Jvm.MethodName) prog_130_method_56_code (2 : Nat) (Option.some Jvm.ClassFile.FieldType.char)) ∈ lw_all := lw_g (lw_at lw_m8 188 rfl) rfl
theorem q2179 : (Jvm.Cond.methodLink "java/lang/String" (492 : Nat) ({ cls := "java/lang/String", name := "isLatin1", desc := "()Z" } : Jvm.MethodName)) ∈ lw_all := lw_g (lw_at lw_m8 189 rfl) rfl
theorem q2180 : (Jvm.Cond.instanceMethod ({ cls := "java/lang/String", name := "isLatin1", desc := "()Z" } : Jvm.MethodName)) ∈ lw_all := lw_g (lw_at lw_m8 190 rfl) rfl
theorem q2181 : (Jvm.Cond.selects "java/lang/String" ({ cls := "java/lang/String", name := "isLatin1", desc := "()Z" } : Jvm.MethodName) ({ cls := "java/lang/String", name := "isLatin1", desc := "()Z" } : Jvm.MethodName)) ∈ lw_all := lw_g (lw_at lw_m8 191 rfl) rfl
theorem q2182 : (Jvm.Cond.code ({ cls := "java/lang/String", name := "isLatin1", desc := "()Z" } : Jvm.MethodName) prog_130_method_154_code (1 : Nat) (Option.some Jvm.ClassFile.FieldType.boolean)) ∈ lw_all := lw_g (lw_at lw_m8 192 rfl) rfl
theorem q2183 : (Jvm.Cond.methodLink "java/lang/String" (495 : Nat) ({ cls := "java/lang/StringLatin1", name := "charAt", desc := "([BI)C" } : Jvm.MethodName)) ∈ lw_all := lw_g (lw_at lw_m8 193 rfl) rfl
theorem q2184 : (Jvm.Cond.static ({ cls := "java/lang/StringLatin1", name := "charAt", desc := "([BI)C" } : Jvm.MethodName)) ∈ lw_all := lw_g (lw_at lw_m8 194 rfl) rfl
theorem q2185 : (Jvm.Cond.code ({ cls := "java/lang/StringLatin1", name := "charAt", desc := "([BI)C" } : Jvm.MethodName) prog_131_method_2_code (2 : Nat) (Option.some Jvm.ClassFile.FieldType.char)) ∈ lw_all := lw_g (lw_at lw_m8 195 rfl) rfl
theorem q2186 : (Jvm.Cond.methodLink "java/lang/StringLatin1" (9 : Nat) ({ cls := "java/lang/String", name := "checkIndex", desc := "(II)V" } : Jvm.MethodName)) ∈ lw_all := lw_g (lw_at lw_m8 196 rfl) rfl
theorem q2187 : (Jvm.Cond.static ({ cls := "java/lang/String", name := "checkIndex", desc := "(II)V" } : Jvm.MethodName)) ∈ lw_all := lw_g (lw_at lw_m8 197 rfl) rfl
theorem q2188 : (Jvm.Cond.code ({ cls := "java/lang/String", name := "checkIndex", desc := "(II)V" } : Jvm.MethodName) prog_130_method_155_code (2 : Nat) (Option.none : Option Jvm.ClassFile.FieldType)) ∈ lw_all := lw_g (lw_at lw_m8 198 rfl) rfl
theorem q2189 : (Jvm.Cond.fieldLink "java/lang/String" (1053 : Nat) "jdk/internal/util/Preconditions" "SIOOBE_FORMATTER" "Ljava/util/function/BiFunction;") ∈ lw_all := lw_g (lw_at lw_m8 199 rfl) rfl
theorem q2190 : (Jvm.Cond.laysStatic "jdk/internal/util/Preconditions" "SIOOBE_FORMATTER" "Ljava/util/function/BiFunction;") ∈ lw_tbl := lw_at lw_m8 200 rfl
theorem q2191 : (Jvm.Cond.methodLink "java/lang/String" (1059 : Nat) ({ cls := "jdk/internal/util/Preconditions", name := "checkIndex", desc := "(IILjava/util/function/BiFunction;)I" } : Jvm.MethodName)) ∈ lw_all := lw_g (lw_at lw_m8 201 rfl) rfl
theorem q2192 : (Jvm.Cond.static ({ cls := "jdk/internal/util/Preconditions", name := "checkIndex", desc := "(IILjava/util/function/BiFunction;)I" } : Jvm.MethodName)) ∈ lw_all := lw_g (lw_at lw_m8 202 rfl) rfl
theorem q2193 : (Jvm.Cond.code ({ cls := "jdk/internal/util/Preconditions", name := "checkIndex", desc := "(IILjava/util/function/BiFunction;)I" } : Jvm.MethodName) prog_135_method_11_code (3 : Nat) (Option.some Jvm.ClassFile.FieldType.int)) ∈ lw_all := lw_g (lw_at lw_m8 203 rfl) rfl
theorem q2194 : (Jvm.Cond.methodLink "java/lang/String" (498 : Nat) ({ cls := "java/lang/StringUTF16", name := "charAt", desc := "([BI)C" } : Jvm.MethodName)) ∈ lw_all := lw_g (lw_at lw_m8 204 rfl) rfl
theorem q2195 : (Jvm.Cond.static ({ cls := "java/lang/StringUTF16", name := "charAt", desc := "([BI)C" } : Jvm.MethodName)) ∈ lw_all := lw_g (lw_at lw_m8 205 rfl) rfl
theorem q2196 : (Jvm.Cond.code ({ cls := "java/lang/StringUTF16", name := "charAt", desc := "([BI)C" } : Jvm.MethodName) prog_132_method_83_code (2 : Nat) (Option.some Jvm.ClassFile.FieldType.char)) ∈ lw_all := lw_g (lw_at lw_m8 206 rfl) rfl
theorem q2197 : (Jvm.Cond.methodLink "java/lang/StringUTF16" (67 : Nat) ({ cls := "java/lang/StringUTF16", name := "checkIndex", desc := "(I[B)V" } : Jvm.MethodName)) ∈ lw_all := lw_g (lw_at lw_m8 207 rfl) rfl
theorem q2198 : (Jvm.Cond.static ({ cls := "java/lang/StringUTF16", name := "checkIndex", desc := "(I[B)V" } : Jvm.MethodName)) ∈ lw_all := lw_g (lw_at lw_m8 208 rfl) rfl
theorem q2199 : (Jvm.Cond.code ({ cls := "java/lang/StringUTF16", name := "checkIndex", desc := "(I[B)V" } : Jvm.MethodName) prog_132_method_91_code (2 : Nat) (Option.none : Option Jvm.ClassFile.FieldType)) ∈ lw_all := lw_g (lw_at lw_m8 209 rfl) rfl
theorem q2200 : (Jvm.Cond.methodLink "java/lang/StringUTF16" (48 : Nat) ({ cls := "java/lang/StringUTF16", name := "length", desc := "([B)I" } : Jvm.MethodName)) ∈ lw_all := lw_g (lw_at lw_m8 210 rfl) rfl
theorem q2201 : (Jvm.Cond.static ({ cls := "java/lang/StringUTF16", name := "length", desc := "([B)I" } : Jvm.MethodName)) ∈ lw_all := lw_g (lw_at lw_m8 211 rfl) rfl
theorem q2202 : (Jvm.Cond.code ({ cls := "java/lang/StringUTF16", name := "length", desc := "([B)I" } : Jvm.MethodName) prog_132_method_6_code (1 : Nat) (Option.some Jvm.ClassFile.FieldType.int)) ∈ lw_all := lw_g (lw_at lw_m8 212 rfl) rfl
theorem q2203 : (Jvm.Cond.methodLink "java/lang/StringUTF16" (414 : Nat) ({ cls := "java/lang/String", name := "checkIndex", desc := "(II)V" } : Jvm.MethodName)) ∈ lw_all := lw_g (lw_at lw_m8 213 rfl) rfl
theorem q2204 : (Jvm.Cond.methodLink "java/lang/StringUTF16" (71 : Nat) ({ cls := "java/lang/StringUTF16", name := "getChar", desc := "([BI)C" } : Jvm.MethodName)) ∈ lw_all := lw_g (lw_at lw_m8 214 rfl) rfl
theorem q2205 : (Jvm.Cond.static ({ cls := "java/lang/StringUTF16", name := "getChar", desc := "([BI)C" } : Jvm.MethodName)) ∈ lw_all := lw_g (lw_at lw_m8 215 rfl) rfl
theorem q2206 : (Jvm.Cond.code ({ cls := "java/lang/StringUTF16", name := "getChar", desc := "([BI)C" } : Jvm.MethodName) prog_132_method_5_code (2 : Nat) (Option.some Jvm.ClassFile.FieldType.char)) ∈ lw_all := lw_g (lw_at lw_m8 216 rfl) rfl
theorem q2207 : (Jvm.Cond.fieldLink "java/lang/StringUTF16" (44 : Nat) "java/lang/StringUTF16" "$assertionsDisabled" "Z") ∈ lw_all := lw_g (lw_at lw_m8 217 rfl) rfl
theorem q2208 : (Jvm.Cond.laysStatic "java/lang/StringUTF16" "$assertionsDisabled" "Z") ∈ lw_tbl := lw_at lw_m8 218 rfl
theorem q2209 : (Jvm.Cond.fieldLink "java/lang/StringUTF16" (59 : Nat) "java/lang/StringUTF16" "HI_BYTE_SHIFT" "I") ∈ lw_all := lw_g (lw_at lw_m8 219 rfl) rfl
theorem q2210 : (Jvm.Cond.laysStatic "java/lang/StringUTF16" "HI_BYTE_SHIFT" "I") ∈ lw_tbl := lw_at lw_m8 220 rfl
theorem q2211 : (Jvm.Cond.fieldLink "java/lang/StringUTF16" (63 : Nat) "java/lang/StringUTF16" "LO_BYTE_SHIFT" "I") ∈ lw_all := lw_g (lw_at lw_m8 221 rfl) rfl
theorem q2212 : (Jvm.Cond.laysStatic "java/lang/StringUTF16" "LO_BYTE_SHIFT" "I") ∈ lw_tbl := lw_at lw_m8 222 rfl
theorem q2213 : (Jvm.Cond.methodLink "BoardMachine$Describer" (44 : Nat) ({ cls := "BoardMachine$Trees$Row", name := "add", desc := "(I)V" } : Jvm.MethodName)) ∈ lw_all := lw_g (lw_at lw_m8 223 rfl) rfl
theorem q2214 : (Jvm.Cond.instanceMethod ({ cls := "BoardMachine$Trees$Row", name := "add", desc := "(I)V" } : Jvm.MethodName)) ∈ lw_all := lw_g (lw_at lw_m8 224 rfl) rfl
theorem q2215 : (Jvm.Cond.selects "BoardMachine$Trees$Row" ({ cls := "BoardMachine$Trees$Row", name := "add", desc := "(I)V" } : Jvm.MethodName) ({ cls := "BoardMachine$Trees$Row", name := "add", desc := "(I)V" } : Jvm.MethodName)) ∈ lw_all := lw_g (lw_at lw_m8 225 rfl) rfl
theorem q2216 : (Jvm.Cond.code ({ cls := "BoardMachine$Trees$Row", name := "add", desc := "(I)V" } : Jvm.MethodName) prog_100_method_3_code (2 : Nat) (Option.none : Option Jvm.ClassFile.FieldType)) ∈ lw_all := lw_g (lw_at lw_m8 226 rfl) rfl
theorem q2217 : (Jvm.Cond.methodLink "BoardMachine$Describer" (84 : Nat) ({ cls := "BoardMachine$Trees$Row", name := "addNumber", desc := "(I)V" } : Jvm.MethodName)) ∈ lw_all := lw_g (lw_at lw_m8 227 rfl) rfl
theorem q2218 : (Jvm.Cond.instanceMethod ({ cls := "BoardMachine$Trees$Row", name := "addNumber", desc := "(I)V" } : Jvm.MethodName)) ∈ lw_all := lw_g (lw_at lw_m8 228 rfl) rfl
theorem q2219 : (Jvm.Cond.selects "BoardMachine$Trees$Row" ({ cls := "BoardMachine$Trees$Row", name := "addNumber", desc := "(I)V" } : Jvm.MethodName) ({ cls := "BoardMachine$Trees$Row", name := "addNumber", desc := "(I)V" } : Jvm.MethodName)) ∈ lw_all := lw_g (lw_at lw_m8 229 rfl) rfl
theorem q2220 : (Jvm.Cond.code ({ cls := "BoardMachine$Trees$Row", name := "addNumber", desc := "(I)V" } : Jvm.MethodName) prog_100_method_4_code (3 : Nat) (Option.none : Option Jvm.ClassFile.FieldType)) ∈ lw_all := lw_g (lw_at lw_m8 230 rfl) rfl
theorem q2221 : (Jvm.Cond.methodLink "BoardMachine$Trees$Row" (17 : Nat) ({ cls := "BoardMachine$Trees$Row", name := "add", desc := "(I)V" } : Jvm.MethodName)) ∈ lw_all := lw_g (lw_at lw_m8 231 rfl) rfl
theorem q2222 : (Jvm.Cond.methodLink "BoardMachine$Describer" (81 : Nat) ({ cls := "BoardMachine$Describer", name := "finish", desc := "(Ljava/lang/String;)V" } : Jvm.MethodName)) ∈ lw_all := lw_g (lw_at lw_m8 232 rfl) rfl
theorem q2223 : (Jvm.Cond.privateMethod ({ cls := "BoardMachine$Describer", name := "finish", desc := "(Ljava/lang/String;)V" } : Jvm.MethodName)) ∈ lw_tbl := lw_at lw_m8 233 rfl
theorem q2224 : (Jvm.Cond.instanceMethod ({ cls := "BoardMachine$Describer", name := "finish", desc := "(Ljava/lang/String;)V" } : Jvm.MethodName)) ∈ lw_all := lw_g (lw_at lw_m8 234 rfl) rfl
theorem q2225 : (Jvm.Cond.code ({ cls := "BoardMachine$Describer", name := "finish", desc := "(Ljava/lang/String;)V" } : Jvm.MethodName) prog_14_method_6_code (4 : Nat) (Option.none : Option Jvm.ClassFile.FieldType)) ∈ lw_all := lw_g (lw_at lw_m8 235 rfl) rfl
theorem q2226 : (Jvm.Cond.methodLink "BoardMachine$Describer" (59 : Nat) ({ cls := "BoardMachine$Trees$Tree", name := "property", desc := "(LBoardMachine$Trees$Row;II)LBoardMachine$Trees$Property;" } : Jvm.MethodName)) ∈ lw_all := lw_g (lw_at lw_m8 236 rfl) rfl
theorem q2227 : (Jvm.Cond.instanceMethod ({ cls := "BoardMachine$Trees$Tree", name := "property", desc := "(LBoardMachine$Trees$Row;II)LBoardMachine$Trees$Property;" } : Jvm.MethodName)) ∈ lw_all := lw_g (lw_at lw_m8 237 rfl) rfl
theorem q2228 : (Jvm.Cond.selects "BoardMachine$Trees$Tree" ({ cls := "BoardMachine$Trees$Tree", name := "property", desc := "(LBoardMachine$Trees$Row;II)LBoardMachine$Trees$Property;" } : Jvm.MethodName) ({ cls := "BoardMachine$Trees$Tree", name := "property", desc := "(LBoardMachine$Trees$Row;II)LBoardMachine$Trees$Property;" } : Jvm.MethodName)) ∈ lw_all := lw_g (lw_at lw_m8 238 rfl) rfl
theorem q2229 : (Jvm.Cond.code ({ cls := "BoardMachine$Trees$Tree", name := "property", desc := "(LBoardMachine$Trees$Row;II)LBoardMachine$Trees$Property;" } : Jvm.MethodName) prog_101_method_7_code (5 : Nat) (Option.some (Jvm.ClassFile.FieldType.object "BoardMachine$Trees$Property"))) ∈ lw_all := lw_g (lw_at lw_m8 239 rfl) rfl
theorem q2230 : (Jvm.Cond.methodLink "BoardMachine$Trees$Tree" (76 : Nat) ({ cls := "BoardMachine$Trees$Piece", name := "set", desc := "(LBoardMachine$Trees$Row;LBoardMachine$Trees$Row;II)V" } : Jvm.MethodName)) ∈ lw_all := lw_g (lw_at lw_m9 0 rfl) rfl
theorem q2231 : (Jvm.Cond.instanceMethod ({ cls := "BoardMachine$Trees$Piece", name := "set", desc := "(LBoardMachine$Trees$Row;LBoardMachine$Trees$Row;II)V" } : Jvm.MethodName)) ∈ lw_all := lw_g (lw_at lw_m9 1 rfl) rfl
theorem q2232 : (Jvm.Cond.selects "BoardMachine$Trees$Piece" ({ cls := "BoardMachine$Trees$Piece", name := "set", desc := "(LBoardMachine$Trees$Row;LBoardMachine$Trees$Row;II)V" } : Jvm.MethodName) ({ cls := "BoardMachine$Trees$Piece", name := "set", desc := "(LBoardMachine$Trees$Row;LBoardMachine$Trees$Row;II)V" } : Jvm.MethodName)) ∈ lw_all := lw_g (lw_at lw_m9 2 rfl) rfl
theorem q2233 : (Jvm.Cond.code ({ cls := "BoardMachine$Trees$Piece", name := "set", desc := "(LBoardMachine$Trees$Row;LBoardMachine$Trees$Row;II)V" } : Jvm.MethodName) prog_97_method_2_code (5 : Nat) (Option.none : Option Jvm.ClassFile.FieldType)) ∈ lw_all := lw_g (lw_at lw_m9 3 rfl) rfl
theorem q2234 : (Jvm.Cond.methodLink "BoardMachine$Trees$Piece" (19 : Nat) ({ cls := "BoardMachine$Trees$Row", name := "addAll", desc := "(LBoardMachine$Trees$Row;II)V" } : Jvm.MethodName)) ∈ lw_all := lw_g (lw_at lw_m9 4 rfl) rfl
theorem q2235 : (Jvm.Cond.instanceMethod ({ cls := "BoardMachine$Trees$Row", name := "addAll", desc := "(LBoardMachine$Trees$Row;II)V" } : Jvm.MethodName)) ∈ lw_all := lw_g (lw_at lw_m9 5 rfl) rfl
theorem q2236 : (Jvm.Cond.selects "BoardMachine$Trees$Row" ({ cls := "BoardMachine$Trees$Row", name := "addAll", desc := "(LBoardMachine$Trees$Row;II)V" } : Jvm.MethodName) ({ cls := "BoardMachine$Trees$Row", name := "addAll", desc := "(LBoardMachine$Trees$Row;II)V" } : Jvm.MethodName)) ∈ lw_all := lw_g (lw_at lw_m9 6 rfl) rfl
theorem q2237 : (Jvm.Cond.code ({ cls := "BoardMachine$Trees$Row", name := "addAll", desc := "(LBoardMachine$Trees$Row;II)V" } : Jvm.MethodName) prog_100_method_8_code (4 : Nat) (Option.none : Option Jvm.ClassFile.FieldType)) ∈ lw_all := lw_g (lw_at lw_m9 7 rfl) rfl
theorem q2238 : (Jvm.Cond.methodLink "BoardMachine$Trees$Row" (25 : Nat) ({ cls := "java/lang/System", name := "arraycopy", desc := "(Ljava/lang/Object;ILjava/lang/Object;II)V" } : Jvm.MethodName)) ∈ lw_all := lw_g (lw_at lw_m9 8 rfl) rfl
theorem q2239 : (Jvm.Cond.static ({ cls := "java/lang/System", name := "arraycopy", desc := "(Ljava/lang/Object;ILjava/lang/Object;II)V" } : Jvm.MethodName)) ∈ lw_all := lw_g (lw_at lw_m9 9 rfl) rfl
theorem q2240 : (Jvm.Cond.native ({ cls := "java/lang/System", name := "arraycopy", desc := "(Ljava/lang/Object;ILjava/lang/Object;II)V" } : Jvm.MethodName)) ∈ lw_all := lw_g (lw_at lw_m9 10 rfl) rfl
theorem q2241 : (Jvm.Cond.methodLink "BoardMachine$Describer" (72 : Nat) ({ cls := "BoardMachine$Trees$Piece", name := "set", desc := "(LBoardMachine$Trees$Row;LBoardMachine$Trees$Row;II)V" } : Jvm.MethodName)) ∈ lw_all := lw_g (lw_at lw_m9 11 rfl) rfl
theorem q2242 : (Jvm.Cond.stringRef "BoardMachine$Describer" (99 : Nat) "#size-cells") ∈ lw_tbl := lw_at lw_m9 12 rfl
theorem q2243 : (Jvm.Cond.stringRef "BoardMachine$Describer" (118 : Nat) "compatible") ∈ lw_tbl := lw_at lw_m9 13 rfl
theorem q2244 : (Jvm.Cond.stringRef "BoardMachine$Describer" (223 : Nat) "whole,board") ∈ lw_tbl := lw_at lw_m9 14 rfl
theorem q2245 : (Jvm.Cond.methodLink "BoardMachine$Describer" (110 : Nat) ({ cls := "BoardMachine$Describer", name := "string", desc := "(Ljava/lang/String;Ljava/lang/String;)V" } : Jvm.MethodName)) ∈ lw_all := lw_g (lw_at lw_m9 15 rfl) rfl
theorem q2246 : (Jvm.Cond.privateMethod ({ cls := "BoardMachine$Describer", name := "string", desc := "(Ljava/lang/String;Ljava/lang/String;)V" } : Jvm.MethodName)) ∈ lw_tbl := lw_at lw_m9 16 rfl
theorem q2247 : (Jvm.Cond.instanceMethod ({ cls := "BoardMachine$Describer", name := "string", desc := "(Ljava/lang/String;Ljava/lang/String;)V" } : Jvm.MethodName)) ∈ lw_all := lw_g (lw_at lw_m9 17 rfl) rfl
theorem q2248 : (Jvm.Cond.code ({ cls := "BoardMachine$Describer", name := "string", desc := "(Ljava/lang/String;Ljava/lang/String;)V" } : Jvm.MethodName) prog_14_method_7_code (3 : Nat) (Option.none : Option Jvm.ClassFile.FieldType)) ∈ lw_all := lw_g (lw_at lw_m9 18 rfl) rfl
theorem q2249 : (Jvm.Cond.stringRef "BoardMachine$Describer" (225 : Nat) "model") ∈ lw_tbl := lw_at lw_m9 19 rfl
theorem q2250 : (Jvm.Cond.stringRef "BoardMachine$Describer" (227 : Nat) "board") ∈ lw_tbl := lw_at lw_m9 20 rfl
theorem q2251 : (Jvm.Cond.stringRef "BoardMachine$Describer" (229 : Nat) "chosen") ∈ lw_tbl := lw_at lw_m9 21 rfl
theorem q2252 : (Jvm.Cond.methodLink "BoardMachine$Describer" (132 : Nat) ({ cls := "BoardMachine$Describer", name := "open", desc := "(Ljava/lang/String;)V" } : Jvm.MethodName)) ∈ lw_all := lw_g (lw_at lw_m9 22 rfl) rfl
theorem q2253 : (Jvm.Cond.privateMethod ({ cls := "BoardMachine$Describer", name := "open", desc := "(Ljava/lang/String;)V" } : Jvm.MethodName)) ∈ lw_tbl := lw_at lw_m9 23 rfl
theorem q2254 : (Jvm.Cond.instanceMethod ({ cls := "BoardMachine$Describer", name := "open", desc := "(Ljava/lang/String;)V" } : Jvm.MethodName)) ∈ lw_all := lw_g (lw_at lw_m9 24 rfl) rfl
theorem q2255 : (Jvm.Cond.code ({ cls := "BoardMachine$Describer", name := "open", desc := "(Ljava/lang/String;)V" } : Jvm.MethodName) prog_14_method_3_code (2 : Nat) (Option.none : Option Jvm.ClassFile.FieldType)) ∈ lw_all := lw_g (lw_at lw_m9 25 rfl) rfl
theorem q2256 : (Jvm.Cond.methodLink "BoardMachine$Describer" (55 : Nat) ({ cls := "BoardMachine$Trees$Tree", name := "open", desc := "(LBoardMachine$Trees$Row;II)I" } : Jvm.MethodName)) ∈ lw_all := lw_g (lw_at lw_m9 26 rfl) rfl
theorem q2257 : (Jvm.Cond.instanceMethod ({ cls := "BoardMachine$Trees$Tree", name := "open", desc := "(LBoardMachine$Trees$Row;II)I" } : Jvm.MethodName)) ∈ lw_all := lw_g (lw_at lw_m9 27 rfl) rfl
theorem q2258 : (Jvm.Cond.selects "BoardMachine$Trees$Tree" ({ cls := "BoardMachine$Trees$Tree", name := "open", desc := "(LBoardMachine$Trees$Row;II)I" } : Jvm.MethodName) ({ cls := "BoardMachine$Trees$Tree", name := "open", desc := "(LBoardMachine$Trees$Row;II)I" } : Jvm.MethodName)) ∈ lw_all := lw_g (lw_at lw_m9 28 rfl) rfl
theorem q2259 : (Jvm.Cond.code ({ cls := "BoardMachine$Trees$Tree", name := "open", desc := "(LBoardMachine$Trees$Row;II)I" } : Jvm.MethodName) prog_101_method_6_code (5 : Nat) (Option.some Jvm.ClassFile.FieldType.int)) ∈ lw_all := lw_g (lw_at lw_m9 29 rfl) rfl
theorem q2260 : (Jvm.Cond.stringRef "BoardMachine$Describer" (231 : Nat) "stdout-path") ∈ lw_tbl := lw_at lw_m9 30 rfl
theorem q2261 : (Jvm.Cond.stringRef "BoardMachine$Describer" (233 : Nat) "/soc/serial@10000000") ∈ lw_tbl := lw_at lw_m9 31 rfl
theorem q2262 : (Jvm.Cond.methodLink "BoardMachine$Describer" (143 : Nat) ({ cls := "BoardMachine$Trees$Tree", name := "close", desc := "()I" } : Jvm.MethodName)) ∈ lw_all := lw_g (lw_at lw_m9 32 rfl) rfl
theorem q2263 : (Jvm.Cond.instanceMethod ({ cls := "BoardMachine$Trees$Tree", name := "close", desc := "()I" } : Jvm.MethodName)) ∈ lw_all := lw_g (lw_at lw_m9 33 rfl) rfl
theorem q2264 : (Jvm.Cond.selects "BoardMachine$Trees$Tree" ({ cls := "BoardMachine$Trees$Tree", name := "close", desc := "()I" } : Jvm.MethodName) ({ cls := "BoardMachine$Trees$Tree", name := "close", desc := "()I" } : Jvm.MethodName)) ∈ lw_all := lw_g (lw_at lw_m9 34 rfl) rfl
theorem q2265 : (Jvm.Cond.code ({ cls := "BoardMachine$Trees$Tree", name := "close", desc := "()I" } : Jvm.MethodName) prog_101_method_9_code (1 : Nat) (Option.some Jvm.ClassFile.FieldType.int)) ∈ lw_all := lw_g (lw_at lw_m9 35 rfl) rfl
theorem q2266 : (Jvm.Cond.stringRef "BoardMachine$Describer" (235 : Nat) "cpus") ∈ lw_tbl := lw_at lw_m9 36 rfl
theorem q2267 : (Jvm.Cond.stringRef "BoardMachine$Describer" (237 : Nat) "timebase-frequency") ∈ lw_tbl := lw_at lw_m9 37 rfl
theorem q2268 : (Jvm.Cond.constant "BoardMachine$Describer" (239 : Nat) (10000000 : Int32)) ∈ lw_all := lw_g (lw_at lw_m9 38 rfl) rfl
theorem q2269 : (Jvm.Cond.methodLink "BoardMachine$Describer" (240 : Nat) ({ cls := "BoardMachine$Describer", name := "processor", desc := "(I)V" } : Jvm.MethodName)) ∈ lw_all := lw_g (lw_at lw_m9 39 rfl) rfl
theorem q2270 : (Jvm.Cond.privateMethod ({ cls := "BoardMachine$Describer", name := "processor", desc := "(I)V" } : Jvm.MethodName)) ∈ lw_tbl := lw_at lw_m9 40 rfl
theorem q2271 : (Jvm.Cond.instanceMethod ({ cls := "BoardMachine$Describer", name := "processor", desc := "(I)V" } : Jvm.MethodName)) ∈ lw_all := lw_g (lw_at lw_m9 41 rfl) rfl
theorem q2272 : (Jvm.Cond.code ({ cls := "BoardMachine$Describer", name := "processor", desc := "(I)V" } : Jvm.MethodName) prog_14_method_13_code (2 : Nat) (Option.none : Option Jvm.ClassFile.FieldType)) ∈ lw_all := lw_g (lw_at lw_m9 42 rfl) rfl
theorem q2273 : (Jvm.Cond.stringRef "BoardMachine$Describer" (101 : Nat) "cpu@") ∈ lw_tbl := lw_at lw_m9 43 rfl
theorem q2274 : (Jvm.Cond.methodLink "BoardMachine$Describer" (103 : Nat) ({ cls := "BoardMachine$Describer", name := "openNumbered", desc := "(Ljava/lang/String;I)V" } : Jvm.MethodName)) ∈ lw_all := lw_g (lw_at lw_m9 44 rfl) rfl
theorem q2275 : (Jvm.Cond.privateMethod ({ cls := "BoardMachine$Describer", name := "openNumbered", desc := "(Ljava/lang/String;I)V" } : Jvm.MethodName)) ∈ lw_tbl := lw_at lw_m9 45 rfl
theorem q2276 : (Jvm.Cond.instanceMethod ({ cls := "BoardMachine$Describer", name := "openNumbered", desc := "(Ljava/lang/String;I)V" } : Jvm.MethodName)) ∈ lw_all := lw_g (lw_at lw_m9 46 rfl) rfl
theorem q2277 : (Jvm.Cond.code ({ cls := "BoardMachine$Describer", name := "openNumbered", desc := "(Ljava/lang/String;I)V" } : Jvm.MethodName) prog_14_method_4_code (3 : Nat) (Option.none : Option Jvm.ClassFile.FieldType)) ∈ lw_all := lw_g (lw_at lw_m9 47 rfl) rfl
theorem q2278 : (Jvm.Cond.stringRef "BoardMachine$Describer" (106 : Nat) "device_type") ∈ lw_tbl := lw_at lw_m9 48 rfl
theorem q2279 : (Jvm.Cond.stringRef "BoardMachine$Describer" (108 : Nat) "cpu") ∈ lw_tbl := lw_at lw_m9 49 rfl
theorem q2280 : (Jvm.Cond.stringRef "BoardMachine$Describer" (87 : Nat) "reg") ∈ lw_tbl := lw_at lw_m9 50 rfl
theorem q2281 : (Jvm.Cond.stringRef "BoardMachine$Describer" (114 : Nat) "status") ∈ lw_tbl := lw_at lw_m9 51 rfl
theorem q2282 : (Jvm.Cond.stringRef "BoardMachine$Describer" (116 : Nat) "okay") ∈ lw_tbl := lw_at lw_m9 52 rfl
theorem q2283 : (Jvm.Cond.stringRef "BoardMachine$Describer" (120 : Nat) "whole,core") ∈ lw_tbl := lw_at lw_m9 53 rfl
theorem q2284 : (Jvm.Cond.stringRef "BoardMachine$Describer" (122 : Nat) "isa") ∈ lw_tbl := lw_at lw_m9 54 rfl
theorem q2285 : (Jvm.Cond.stringRef "BoardMachine$Describer" (124 : Nat) "w64") ∈ lw_tbl := lw_at lw_m9 55 rfl
theorem q2286 : (Jvm.Cond.stringRef "BoardMachine$Describer" (126 : Nat) "mmu-type") ∈ lw_tbl := lw_at lw_m9 56 rfl
theorem q2287 : (Jvm.Cond.stringRef "BoardMachine$Describer" (128 : Nat) "three,four") ∈ lw_tbl := lw_at lw_m9 57 rfl
theorem q2288 : (Jvm.Cond.stringRef "BoardMachine$Describer" (130 : Nat) "interrupt-controller") ∈ lw_tbl := lw_at lw_m9 58 rfl
theorem q2289 : (Jvm.Cond.stringRef "BoardMachine$Describer" (134 : Nat) "#interrupt-cells") ∈ lw_tbl := lw_at lw_m9 59 rfl
theorem q2290 : (Jvm.Cond.methodLink "BoardMachine$Describer" (136 : Nat) ({ cls := "BoardMachine$Describer", name := "nothing", desc := "(Ljava/lang/String;)V" } : Jvm.MethodName)) ∈ lw_all := lw_g (lw_at lw_m9 60 rfl) rfl
theorem q2291 : (Jvm.Cond.privateMethod ({ cls := "BoardMachine$Describer", name := "nothing", desc := "(Ljava/lang/String;)V" } : Jvm.MethodName)) ∈ lw_tbl := lw_at lw_m9 61 rfl
theorem q2292 : (Jvm.Cond.instanceMethod ({ cls := "BoardMachine$Describer", name := "nothing", desc := "(Ljava/lang/String;)V" } : Jvm.MethodName)) ∈ lw_all := lw_g (lw_at lw_m9 62 rfl) rfl
theorem q2293 : (Jvm.Cond.code ({ cls := "BoardMachine$Describer", name := "nothing", desc := "(Ljava/lang/String;)V" } : Jvm.MethodName) prog_14_method_9_code (2 : Nat) (Option.none : Option Jvm.ClassFile.FieldType)) ∈ lw_all := lw_g (lw_at lw_m9 63 rfl) rfl
theorem q2294 : (Jvm.Cond.stringRef "BoardMachine$Describer" (139 : Nat) "whole,lines") ∈ lw_tbl := lw_at lw_m9 64 rfl
theorem q2295 : (Jvm.Cond.stringRef "BoardMachine$Describer" (141 : Nat) "phandle") ∈ lw_tbl := lw_at lw_m9 65 rfl
theorem q2296 : (Jvm.Cond.stringRef "BoardMachine$Describer" (243 : Nat) "memory@80000000") ∈ lw_tbl := lw_at lw_m9 66 rfl
theorem q2297 : (Jvm.Cond.stringRef "BoardMachine$Describer" (245 : Nat) "memory") ∈ lw_tbl := lw_at lw_m9 67 rfl
theorem q2298 : (Jvm.Cond.constantLong "BoardMachine$Describer" (247 : Nat) (2147483648 : Int64)) ∈ lw_all := lw_g (lw_at lw_m9 68 rfl) rfl
theorem q2299 : (Jvm.Cond.constantLong "BoardMachine$Describer" (249 : Nat) (4194304 : Int64)) ∈ lw_all := lw_g (lw_at lw_m9 69 rfl) rfl
theorem q2300 : (Jvm.Cond.methodLink "BoardMachine$Describer" (156 : Nat) ({ cls := "BoardMachine$Describer", name := "window", desc := "(JJ)V" } : Jvm.MethodName)) ∈ lw_all := lw_g (lw_at lw_m9 70 rfl) rfl
theorem q2301 : (Jvm.Cond.privateMethod ({ cls := "BoardMachine$Describer", name := "window", desc := "(JJ)V" } : Jvm.MethodName)) ∈ lw_tbl := lw_at lw_m9 71 rfl
theorem q2302 : (Jvm.Cond.instanceMethod ({ cls := "BoardMachine$Describer", name := "window", desc := "(JJ)V" } : Jvm.MethodName)) ∈ lw_all := lw_g (lw_at lw_m9 72 rfl) rfl
theorem q2303 : (Jvm.Cond.code ({ cls := "BoardMachine$Describer", name := "window", desc := "(JJ)V" } : Jvm.MethodName) prog_14_method_11_code (5 : Nat) (Option.none : Option Jvm.ClassFile.FieldType)) ∈ lw_all := lw_g (lw_at lw_m9 73 rfl) rfl
theorem q2304 : (Jvm.Cond.methodLink "BoardMachine$Describer" (89 : Nat) ({ cls := "BoardMachine$Describer", name := "wide", desc := "(J)V" } : Jvm.MethodName)) ∈ lw_all := lw_g (lw_at lw_m9 74 rfl) rfl
theorem q2305 : (Jvm.Cond.privateMethod ({ cls := "BoardMachine$Describer", name := "wide", desc := "(J)V" } : Jvm.MethodName)) ∈ lw_tbl := lw_at lw_m9 75 rfl
theorem q2306 : (Jvm.Cond.instanceMethod ({ cls := "BoardMachine$Describer", name := "wide", desc := "(J)V" } : Jvm.MethodName)) ∈ lw_all := lw_g (lw_at lw_m9 76 rfl) rfl
theorem q2307 : (Jvm.Cond.code ({ cls := "BoardMachine$Describer", name := "wide", desc := "(J)V" } : Jvm.MethodName) prog_14_method_10_code (3 : Nat) (Option.none : Option Jvm.ClassFile.FieldType)) ∈ lw_all := lw_g (lw_at lw_m9 77 rfl) rfl
theorem q2308 : (Jvm.Cond.methodLink "BoardMachine$Describer" (251 : Nat) ({ cls := "BoardMachine$Describer", name := "devices", desc := "(I)V" } : Jvm.MethodName)) ∈ lw_all := lw_g (lw_at lw_m9 78 rfl) rfl
theorem q2309 : (Jvm.Cond.privateMethod ({ cls := "BoardMachine$Describer", name := "devices", desc := "(I)V" } : Jvm.MethodName)) ∈ lw_tbl := lw_at lw_m9 79 rfl
theorem q2310 : (Jvm.Cond.instanceMethod ({ cls := "BoardMachine$Describer", name := "devices", desc := "(I)V" } : Jvm.MethodName)) ∈ lw_all := lw_g (lw_at lw_m9 80 rfl) rfl
theorem q2311 : (Jvm.Cond.code ({ cls := "BoardMachine$Describer", name := "devices", desc := "(I)V" } : Jvm.MethodName) prog_14_method_16_code (2 : Nat) (Option.none : Option Jvm.ClassFile.FieldType)) ∈ lw_all := lw_g (lw_at lw_m9 81 rfl) rfl
theorem q2312 : (Jvm.Cond.stringRef "BoardMachine$Describer" (164 : Nat) "soc") ∈ lw_tbl := lw_at lw_m9 82 rfl
theorem q2313 : (Jvm.Cond.stringRef "BoardMachine$Describer" (170 : Nat) "simple-bus") ∈ lw_tbl := lw_at lw_m9 83 rfl
theorem q2314 : (Jvm.Cond.stringRef "BoardMachine$Describer" (172 : Nat) "ranges") ∈ lw_tbl := lw_at lw_m9 84 rfl
theorem q2315 : (Jvm.Cond.stringRef "BoardMachine$Describer" (174 : Nat) "end@100000") ∈ lw_tbl := lw_at lw_m9 85 rfl
theorem q2316 : (Jvm.Cond.stringRef "BoardMachine$Describer" (176 : Nat) "whole,end") ∈ lw_tbl := lw_at lw_m9 86 rfl
theorem q2317 : (Jvm.Cond.fieldLink "BoardMachine$Describer" (178 : Nat) "BoardMachine$Window" "END" "LBoardMachine$Window;") ∈ lw_all := lw_g (lw_at lw_m9 87 rfl) rfl
theorem q2318 : (Jvm.Cond.laysStatic "BoardMachine$Window" "END" "LBoardMachine$Window;") ∈ lw_tbl := lw_at lw_m9 88 rfl
theorem q2319 : (Jvm.Cond.methodLink "BoardMachine$Describer" (182 : Nat) ({ cls := "BoardMachine$Describer", name := "device", desc := "(Ljava/lang/String;Ljava/lang/String;LBoardMachine$Window;II)V" } : Jvm.MethodName)) ∈ lw_all := lw_g (lw_at lw_m9 89 rfl) rfl
theorem q2320 : (Jvm.Cond.privateMethod ({ cls := "BoardMachine$Describer", name := "device", desc := "(Ljava/lang/String;Ljava/lang/String;LBoardMachine$Window;II)V" } : Jvm.MethodName)) ∈ lw_tbl := lw_at lw_m9 90 rfl
theorem q2321 : (Jvm.Cond.instanceMethod ({ cls := "BoardMachine$Describer", name := "device", desc := "(Ljava/lang/String;Ljava/lang/String;LBoardMachine$Window;II)V" } : Jvm.MethodName)) ∈ lw_all := lw_g (lw_at lw_m9 91 rfl) rfl
theorem q2322 : (Jvm.Cond.code ({ cls := "BoardMachine$Describer", name := "device", desc := "(Ljava/lang/String;Ljava/lang/String;LBoardMachine$Window;II)V" } : Jvm.MethodName) prog_14_method_15_code (6 : Nat) (Option.none : Option Jvm.ClassFile.FieldType)) ∈ lw_all := lw_g (lw_at lw_m9 92 rfl) rfl
theorem q2323 : (Jvm.Cond.stringRef "BoardMachine$Describer" (160 : Nat) "interrupts") ∈ lw_tbl := lw_at lw_m9 93 rfl
theorem q2324 : (Jvm.Cond.stringRef "BoardMachine$Describer" (162 : Nat) "interrupt-parent") ∈ lw_tbl := lw_at lw_m9 94 rfl
theorem q2325 : (Jvm.Cond.stringRef "BoardMachine$Describer" (186 : Nat) "timer@2000000") ∈ lw_tbl := lw_at lw_m9 95 rfl
theorem q2326 : (Jvm.Cond.stringRef "BoardMachine$Describer" (188 : Nat) "whole,timer") ∈ lw_tbl := lw_at lw_m9 96 rfl
theorem q2327 : (Jvm.Cond.methodLink "BoardMachine$Describer" (190 : Nat) ({ cls := "BoardMachine$Describer", name := "lines", desc := "(III)V" } : Jvm.MethodName)) ∈ lw_all := lw_g (lw_at lw_m9 97 rfl) rfl
theorem q2328 : (Jvm.Cond.privateMethod ({ cls := "BoardMachine$Describer", name := "lines", desc := "(III)V" } : Jvm.MethodName)) ∈ lw_tbl := lw_at lw_m9 98 rfl
theorem q2329 : (Jvm.Cond.instanceMethod ({ cls := "BoardMachine$Describer", name := "lines", desc := "(III)V" } : Jvm.MethodName)) ∈ lw_all := lw_g (lw_at lw_m9 99 rfl) rfl
theorem q2330 : (Jvm.Cond.code ({ cls := "BoardMachine$Describer", name := "lines", desc := "(III)V" } : Jvm.MethodName) prog_14_method_14_code (5 : Nat) (Option.none : Option Jvm.ClassFile.FieldType)) ∈ lw_all := lw_g (lw_at lw_m9 100 rfl) rfl
theorem q2331 : (Jvm.Cond.stringRef "BoardMachine$Describer" (146 : Nat) "interrupts-extended") ∈ lw_tbl := lw_at lw_m9 101 rfl
theorem q2332 : (Jvm.Cond.fieldLink "BoardMachine$Describer" (194 : Nat) "BoardMachine$Window" "TIMER" "LBoardMachine$Window;") ∈ lw_all := lw_g (lw_at lw_m9 102 rfl) rfl
theorem q2333 : (Jvm.Cond.laysStatic "BoardMachine$Window" "TIMER" "LBoardMachine$Window;") ∈ lw_tbl := lw_at lw_m9 103 rfl
theorem q2334 : (Jvm.Cond.stringRef "BoardMachine$Describer" (197 : Nat) "interrupt-controller@c000000") ∈ lw_tbl := lw_at lw_m9 104 rfl
theorem q2335 : (Jvm.Cond.stringRef "BoardMachine$Describer" (199 : Nat) "whole,controller") ∈ lw_tbl := lw_at lw_m9 105 rfl
theorem q2336 : (Jvm.Cond.fieldLink "BoardMachine$Describer" (201 : Nat) "BoardMachine$Window" "CONTROLLER" "LBoardMachine$Window;") ∈ lw_all := lw_g (lw_at lw_m9 106 rfl) rfl
theorem q2337 : (Jvm.Cond.laysStatic "BoardMachine$Window" "CONTROLLER" "LBoardMachine$Window;") ∈ lw_tbl := lw_at lw_m9 107 rfl
theorem q2338 : (Jvm.Cond.stringRef "BoardMachine$Describer" (204 : Nat) "sources") ∈ lw_tbl := lw_at lw_m9 108 rfl
theorem q2339 : (Jvm.Cond.stringRef "BoardMachine$Describer" (206 : Nat) "serial@10000000") ∈ lw_tbl := lw_at lw_m9 109 rfl
theorem q2340 : (Jvm.Cond.stringRef "BoardMachine$Describer" (208 : Nat) "whole,serial") ∈ lw_tbl := lw_at lw_m9 110 rfl
theorem q2341 : (Jvm.Cond.fieldLink "BoardMachine$Describer" (210 : Nat) "BoardMachine$Window" "SERIAL" "LBoardMachine$Window;") ∈ lw_all := lw_g (lw_at lw_m9 111 rfl) rfl
theorem q2342 : (Jvm.Cond.laysStatic "BoardMachine$Window" "SERIAL" "LBoardMachine$Window;") ∈ lw_tbl := lw_at lw_m9 112 rfl
theorem q2343 : (Jvm.Cond.stringRef "BoardMachine$Describer" (213 : Nat) "block@10001000") ∈ lw_tbl := lw_at lw_m9 113 rfl
theorem q2344 : (Jvm.Cond.stringRef "BoardMachine$Describer" (215 : Nat) "whole,block") ∈ lw_tbl := lw_at lw_m9 114 rfl
theorem q2345 : (Jvm.Cond.fieldLink "BoardMachine$Describer" (217 : Nat) "BoardMachine$Window" "DISK" "LBoardMachine$Window;") ∈ lw_all := lw_g (lw_at lw_m9 115 rfl) rfl
theorem q2346 : (Jvm.Cond.laysStatic "BoardMachine$Window" "DISK" "LBoardMachine$Window;") ∈ lw_tbl := lw_at lw_m9 116 rfl
theorem q2347 : (Jvm.Cond.methodLink "BoardMachine$Describer" (254 : Nat) ({ cls := "BoardMachine$Trees$Press", name := "lay", desc := "(LBoardMachine$Trees$Tree;)I" } : Jvm.MethodName)) ∈ lw_all := lw_g (lw_at lw_m9 117 rfl) rfl
theorem q2348 : (Jvm.Cond.instanceMethod ({ cls := "BoardMachine$Trees$Press", name := "lay", desc := "(LBoardMachine$Trees$Tree;)I" } : Jvm.MethodName)) ∈ lw_all := lw_g (lw_at lw_m9 118 rfl) rfl
theorem q2349 : (Jvm.Cond.selects "BoardMachine$Trees$Press" ({ cls := "BoardMachine$Trees$Press", name := "lay", desc := "(LBoardMachine$Trees$Tree;)I" } : Jvm.MethodName) ({ cls := "BoardMachine$Trees$Press", name := "lay", desc := "(LBoardMachine$Trees$Tree;)I" } : Jvm.MethodName)) ∈ lw_all := lw_g (lw_at lw_m9 119 rfl) rfl
theorem q2350 : (Jvm.Cond.code ({ cls := "BoardMachine$Trees$Press", name := "lay", desc := "(LBoardMachine$Trees$Tree;)I" } : Jvm.MethodName) prog_98_method_5_code (5 : Nat) (Option.some Jvm.ClassFile.FieldType.int)) ∈ lw_all := lw_g (lw_at lw_m9 120 rfl) rfl
theorem q2351 : (Jvm.Cond.methodLink "BoardMachine$Trees$Press" (54 : Nat) ({ cls := "BoardMachine$Trees$Row", name := "addNumber", desc := "(I)V" } : Jvm.MethodName)) ∈ lw_all := lw_g (lw_at lw_m9 121 rfl) rfl
theorem q2352 : (Jvm.Cond.methodLink "BoardMachine$Trees$Press" (100 : Nat) ({ cls := "BoardMachine$Trees$Press", name := "node", desc := "(LBoardMachine$Trees$Tree;LBoardMachine$Trees$Node;)V" } : Jvm.MethodName)) ∈ lw_all := lw_g (lw_at lw_m9 122 rfl) rfl
theorem q2353 : (Jvm.Cond.privateMethod ({ cls := "BoardMachine$Trees$Press", name := "node", desc := "(LBoardMachine$Trees$Tree;LBoardMachine$Trees$Node;)V" } : Jvm.MethodName)) ∈ lw_tbl := lw_at lw_m9 123 rfl
theorem q2354 : (Jvm.Cond.instanceMethod ({ cls := "BoardMachine$Trees$Press", name := "node", desc := "(LBoardMachine$Trees$Tree;LBoardMachine$Trees$Node;)V" } : Jvm.MethodName)) ∈ lw_all := lw_g (lw_at lw_m9 124 rfl) rfl
theorem q2355 : (Jvm.Cond.code ({ cls := "BoardMachine$Trees$Press", name := "node", desc := "(LBoardMachine$Trees$Tree;LBoardMachine$Trees$Node;)V" } : Jvm.MethodName) prog_98_method_3_code (5 : Nat) (Option.none : Option Jvm.ClassFile.FieldType)) ∈ lw_all := lw_g (lw_at lw_m9 125 rfl) rfl
theorem q2356 : (Jvm.Cond.methodLink "BoardMachine$Trees$Press" (47 : Nat) ({ cls := "BoardMachine$Trees$Row", name := "addAll", desc := "(LBoardMachine$Trees$Row;II)V" } : Jvm.MethodName)) ∈ lw_all := lw_g (lw_at lw_m9 126 rfl) rfl
theorem q2357 : (Jvm.Cond.methodLink "BoardMachine$Trees$Press" (51 : Nat) ({ cls := "BoardMachine$Trees$Row", name := "add", desc := "(I)V" } : Jvm.MethodName)) ∈ lw_all := lw_g (lw_at lw_m9 127 rfl) rfl
theorem q2358 : (Jvm.Cond.methodLink "BoardMachine$Trees$Press" (63 : Nat) ({ cls := "BoardMachine$Trees$Row", name := "fillUp", desc := "()V" } : Jvm.MethodName)) ∈ lw_all := lw_g (lw_at lw_m9 128 rfl) rfl
theorem q2359 : (Jvm.Cond.instanceMethod ({ cls := "BoardMachine$Trees$Row", name := "fillUp", desc := "()V" } : Jvm.MethodName)) ∈ lw_all := lw_g (lw_at lw_m9 129 rfl) rfl
theorem q2360 : (Jvm.Cond.selects "BoardMachine$Trees$Row" ({ cls := "BoardMachine$Trees$Row", name := "fillUp", desc := "()V" } : Jvm.MethodName) ({ cls := "BoardMachine$Trees$Row", name := "fillUp", desc := "()V" } : Jvm.MethodName)) ∈ lw_all := lw_g (lw_at lw_m9 130 rfl) rfl
theorem q2361 : (Jvm.Cond.code ({ cls := "BoardMachine$Trees$Row", name := "fillUp", desc := "()V" } : Jvm.MethodName) prog_100_method_7_code (1 : Nat) (Option.none : Option Jvm.ClassFile.FieldType)) ∈ lw_all := lw_g (lw_at lw_m9 131 rfl) rfl
theorem q2362 : (Jvm.Cond.methodLink "BoardMachine$Trees$Press" (81 : Nat) ({ cls := "BoardMachine$Trees$Press", name := "nameAt", desc := "(LBoardMachine$Trees$Tree;LBoardMachine$Trees$Piece;)I" } : Jvm.MethodName)) ∈ lw_all := lw_g (lw_at lw_m9 132 rfl) rfl
theorem q2363 : (Jvm.Cond.privateMethod ({ cls := "BoardMachine$Trees$Press", name := "nameAt", desc := "(LBoardMachine$Trees$Tree;LBoardMachine$Trees$Piece;)I" } : Jvm.MethodName)) ∈ lw_tbl := lw_at lw_m9 133 rfl
theorem q2364 : (Jvm.Cond.instanceMethod ({ cls := "BoardMachine$Trees$Press", name := "nameAt", desc := "(LBoardMachine$Trees$Tree;LBoardMachine$Trees$Piece;)I" } : Jvm.MethodName)) ∈ lw_all := lw_g (lw_at lw_m9 134 rfl) rfl
theorem q2365 : (Jvm.Cond.code ({ cls := "BoardMachine$Trees$Press", name := "nameAt", desc := "(LBoardMachine$Trees$Tree;LBoardMachine$Trees$Piece;)I" } : Jvm.MethodName) prog_98_method_2_code (5 : Nat) (Option.some Jvm.ClassFile.FieldType.int)) ∈ lw_all := lw_g (lw_at lw_m9 135 rfl) rfl
theorem q2366 : (Jvm.Cond.methodLink "BoardMachine$Trees$Press" (28 : Nat) ({ cls := "BoardMachine$Trees$Row", name := "get", desc := "(I)I" } : Jvm.MethodName)) ∈ lw_all := lw_g (lw_at lw_m9 136 rfl) rfl
theorem q2367 : (Jvm.Cond.instanceMethod ({ cls := "BoardMachine$Trees$Row", name := "get", desc := "(I)I" } : Jvm.MethodName)) ∈ lw_all := lw_g (lw_at lw_m9 137 rfl) rfl
theorem q2368 : (Jvm.Cond.selects "BoardMachine$Trees$Row" ({ cls := "BoardMachine$Trees$Row", name := "get", desc := "(I)I" } : Jvm.MethodName) ({ cls := "BoardMachine$Trees$Row", name := "get", desc := "(I)I" } : Jvm.MethodName)) ∈ lw_all := lw_g (lw_at lw_m9 138 rfl) rfl
theorem q2369 : (Jvm.Cond.code ({ cls := "BoardMachine$Trees$Row", name := "get", desc := "(I)I" } : Jvm.MethodName) prog_100_method_2_code (2 : Nat) (Option.some Jvm.ClassFile.FieldType.int)) ∈ lw_all := lw_g (lw_at lw_m9 139 rfl) rfl
theorem q2370 : (Jvm.Cond.methodLink "BoardMachine$Trees$Press" (43 : Nat) ({ cls := "BoardMachine$Trees$Row", name := "isSame", desc := "(ILBoardMachine$Trees$Row;II)Z" } : Jvm.MethodName)) ∈ lw_all := lw_g (lw_at lw_m9 140 rfl) rfl
theorem q2371 : (Jvm.Cond.instanceMethod ({ cls := "BoardMachine$Trees$Row", name := "isSame", desc := "(ILBoardMachine$Trees$Row;II)Z" } : Jvm.MethodName)) ∈ lw_all := lw_g (lw_at lw_m9 141 rfl) rfl
theorem q2372 : (Jvm.Cond.selects "BoardMachine$Trees$Row" ({ cls := "BoardMachine$Trees$Row", name := "isSame", desc := "(ILBoardMachine$Trees$Row;II)Z" } : Jvm.MethodName) ({ cls := "BoardMachine$Trees$Row", name := "isSame", desc := "(ILBoardMachine$Trees$Row;II)Z" } : Jvm.MethodName)) ∈ lw_all := lw_g (lw_at lw_m9 142 rfl) rfl
theorem q2373 : (Jvm.Cond.code ({ cls := "BoardMachine$Trees$Row", name := "isSame", desc := "(ILBoardMachine$Trees$Row;II)Z" } : Jvm.MethodName) prog_100_method_9_code (6 : Nat) (Option.some Jvm.ClassFile.FieldType.boolean)) ∈ lw_all := lw_g (lw_at lw_m9 143 rfl) rfl
theorem q2374 : (Jvm.Cond.methodLink "BoardMachine$Trees$Press" (104 : Nat) ({ cls := "BoardMachine$Trees$Press", name := "head", desc := "(II)V" } : Jvm.MethodName)) ∈ lw_all := lw_g (lw_at lw_m9 144 rfl) rfl
theorem q2375 : (Jvm.Cond.privateMethod ({ cls := "BoardMachine$Trees$Press", name := "head", desc := "(II)V" } : Jvm.MethodName)) ∈ lw_tbl := lw_at lw_m9 145 rfl
theorem q2376 : (Jvm.Cond.instanceMethod ({ cls := "BoardMachine$Trees$Press", name := "head", desc := "(II)V" } : Jvm.MethodName)) ∈ lw_all := lw_g (lw_at lw_m9 146 rfl) rfl
theorem q2377 : (Jvm.Cond.code ({ cls := "BoardMachine$Trees$Press", name := "head", desc := "(II)V" } : Jvm.MethodName) prog_98_method_4_code (3 : Nat) (Option.none : Option Jvm.ClassFile.FieldType)) ∈ lw_all := lw_g (lw_at lw_m9 147 rfl) rfl
theorem q2378 : (Jvm.Cond.constant "BoardMachine$Trees$Press" (85 : Nat) (-804389139 : Int32)) ∈ lw_all := lw_g (lw_at lw_m9 148 rfl) rfl
theorem q2379 : (Jvm.Cond.methodLink "BoardMachine$Trees$Press" (86 : Nat) ({ cls := "BoardMachine$Trees$Row", name := "putNumber", desc := "(II)V" } : Jvm.MethodName)) ∈ lw_all := lw_g (lw_at lw_m9 149 rfl) rfl
theorem q2380 : (Jvm.Cond.instanceMethod ({ cls := "BoardMachine$Trees$Row", name := "putNumber", desc := "(II)V" } : Jvm.MethodName)) ∈ lw_all := lw_g (lw_at lw_m9 150 rfl) rfl
theorem q2381 : (Jvm.Cond.selects "BoardMachine$Trees$Row" ({ cls := "BoardMachine$Trees$Row", name := "putNumber", desc := "(II)V" } : Jvm.MethodName) ({ cls := "BoardMachine$Trees$Row", name := "putNumber", desc := "(II)V" } : Jvm.MethodName)) ∈ lw_all := lw_g (lw_at lw_m9 151 rfl) rfl
theorem q2382 : (Jvm.Cond.code ({ cls := "BoardMachine$Trees$Row", name := "putNumber", desc := "(II)V" } : Jvm.MethodName) prog_100_method_5_code (4 : Nat) (Option.none : Option Jvm.ClassFile.FieldType)) ∈ lw_all := lw_g (lw_at lw_m9 152 rfl) rfl
theorem q2383 : (Jvm.Cond.constantLong "BoardMachine$Machine" (72 : Nat) (2151669760 : Int64)) ∈ lw_all := lw_g (lw_at lw_m9 153 rfl) rfl
theorem q2384 : (Jvm.Cond.methodLink "BoardMachine$Machine" (83 : Nat) ({ cls := "BoardMachine$Trees$Row", name := "get", desc := "(I)I" } : Jvm.MethodName)) ∈ lw_all := lw_g (lw_at lw_m9 154 rfl) rfl
theorem q2385 : (Jvm.Cond.methodLink "BoardMachine$Machine" (86 : Nat) ({ cls := "BoardMachine$Memories$Ram", name := "store", desc := "(JIJ)V" } : Jvm.MethodName)) ∈ lw_all := lw_g (lw_at lw_m9 155 rfl) rfl
theorem q2386 : (Jvm.Cond.instanceMethod ({ cls := "BoardMachine$Memories$Ram", name := "store", desc := "(JIJ)V" } : Jvm.MethodName)) ∈ lw_all := lw_g (lw_at lw_m9 156 rfl) rfl
theorem q2387 : (Jvm.Cond.selects "BoardMachine$Memories$Ram" ({ cls := "BoardMachine$Memories$Ram", name := "store", desc := "(JIJ)V" } : Jvm.MethodName) ({ cls := "BoardMachine$Memories$Ram", name := "store", desc := "(JIJ)V" } : Jvm.MethodName)) ∈ lw_all := lw_g (lw_at lw_m9 157 rfl) rfl
theorem q2388 : (Jvm.Cond.code ({ cls := "BoardMachine$Memories$Ram", name := "store", desc := "(JIJ)V" } : Jvm.MethodName) prog_82_method_8_code (9 : Nat) (Option.none : Option Jvm.ClassFile.FieldType)) ∈ lw_all := lw_g (lw_at lw_m9 158 rfl) rfl
theorem q2389 : (Jvm.Cond.methodLink "BoardMachine$Memories$Ram" (71 : Nat) ({ cls := "BoardMachine$Memories$Ram", name := "pageOf", desc := "(J)I" } : Jvm.MethodName)) ∈ lw_all := lw_g (lw_at lw_m9 159 rfl) rfl
theorem q2390 : (Jvm.Cond.static ({ cls := "BoardMachine$Memories$Ram", name := "pageOf", desc := "(J)I" } : Jvm.MethodName)) ∈ lw_all := lw_g (lw_at lw_m9 160 rfl) rfl
theorem q2391 : (Jvm.Cond.code ({ cls := "BoardMachine$Memories$Ram", name := "pageOf", desc := "(J)I" } : Jvm.MethodName) prog_82_method_3_code (2 : Nat) (Option.some Jvm.ClassFile.FieldType.int)) ∈ lw_all := lw_g (lw_at lw_m9 161 rfl) rfl
theorem q2392 : (Jvm.Cond.constantLong "BoardMachine$Memories$Ram" (54 : Nat) (2147483648 : Int64)) ∈ lw_all := lw_g (lw_at lw_m9 162 rfl) rfl
theorem q2393 : (Jvm.Cond.methodLink "BoardMachine$Memories$Ram" (61 : Nat) ({ cls := "BoardMachine$Memories$Ram", name := "placeOf", desc := "(J)I" } : Jvm.MethodName)) ∈ lw_all := lw_g (lw_at lw_m9 163 rfl) rfl
theorem q2394 : (Jvm.Cond.static ({ cls := "BoardMachine$Memories$Ram", name := "placeOf", desc := "(J)I" } : Jvm.MethodName)) ∈ lw_all := lw_g (lw_at lw_m9 164 rfl) rfl
theorem q2395 : (Jvm.Cond.code ({ cls := "BoardMachine$Memories$Ram", name := "placeOf", desc := "(J)I" } : Jvm.MethodName) prog_82_method_4_code (2 : Nat) (Option.some Jvm.ClassFile.FieldType.int)) ∈ lw_all := lw_g (lw_at lw_m9 165 rfl) rfl
theorem q2396 : (Jvm.Cond.constantLong "BoardMachine$Memories$Ram" (58 : Nat) (4095 : Int64)) ∈ lw_all := lw_g (lw_at lw_m9 166 rfl) rfl
theorem q2397 : (Jvm.Cond.methodLink "BoardMachine$Memories$Ram" (65 : Nat) ({ cls := "java/lang/Math", name := "min", desc := "(II)I" } : Jvm.MethodName)) ∈ lw_all := lw_g (lw_at lw_m9 167 rfl) rfl
theorem q2398 : (Jvm.Cond.static ({ cls := "java/lang/Math", name := "min", desc := "(II)I" } : Jvm.MethodName)) ∈ lw_all := lw_g (lw_at lw_m9 168 rfl) rfl
theorem q2399 : (Jvm.Cond.code ({ cls := "java/lang/Math", name := "min", desc := "(II)I" } : Jvm.MethodName) prog_128_method_69_code (2 : Nat) (Option.some Jvm.ClassFile.FieldType.int)) ∈ lw_all := lw_g (lw_at lw_m9 169 rfl) rfl
theorem q2400 : (Jvm.Cond.methodLink "BoardMachine$Memories$Ram" (82 : Nat) ({ cls := "BoardMachine$Memories$Ram", name := "made", desc := "(I)LBoardMachine$Memories$Page;" } : Jvm.MethodName)) ∈ lw_all := lw_g (lw_at lw_m9 170 rfl) rfl
theorem q2401 : (Jvm.Cond.privateMethod ({ cls := "BoardMachine$Memories$Ram", name := "made", desc := "(I)LBoardMachine$Memories$Page;" } : Jvm.MethodName)) ∈ lw_tbl := lw_at lw_m9 171 rfl
theorem q2402 : (Jvm.Cond.instanceMethod ({ cls := "BoardMachine$Memories$Ram", name := "made", desc := "(I)LBoardMachine$Memories$Page;" } : Jvm.MethodName)) ∈ lw_all := lw_g (lw_at lw_m9 172 rfl) rfl
theorem q2403 : (Jvm.Cond.code ({ cls := "BoardMachine$Memories$Ram", name := "made", desc := "(I)LBoardMachine$Memories$Page;" } : Jvm.MethodName) prog_82_method_5_code (2 : Nat) (Option.some (Jvm.ClassFile.FieldType.object "BoardMachine$Memories$Page"))) ∈ lw_all := lw_g (lw_at lw_m9 173 rfl) rfl
theorem q2404 : (Jvm.Cond.instantiable "BoardMachine$Memories$Page" (1 : Nat)) ∈ lw_all := lw_g (lw_at lw_m9 174 rfl) rfl
theorem q2405 : (Jvm.Cond.methodLinkNest "BoardMachine$Memories$Ram" (60 : Nat) ({ cls := "BoardMachine$Memories$Page", name := "<init>", desc := "()V" } : Jvm.MethodName) "BoardMachine") ∈ lw_tbl := lw_at lw_m9 175 rfl
theorem q2406 : (Jvm.Cond.instanceMethod ({ cls := "BoardMachine$Memories$Page", name := "<init>", desc := "()V" } : Jvm.MethodName)) ∈ lw_all := lw_g (lw_at lw_m9 176 rfl) rfl
theorem q2407 : (Jvm.Cond.code ({ cls := "BoardMachine$Memories$Page", name := "<init>", desc := "()V" } : Jvm.MethodName) prog_81_method_1_code (1 : Nat) (Option.none : Option Jvm.ClassFile.FieldType)) ∈ lw_all := lw_g (lw_at lw_m9 177 rfl) rfl
theorem q2408 : (Jvm.Cond.methodLink "BoardMachine$Memories$Page" (3 : Nat) ({ cls := "java/lang/Object", name := "<init>", desc := "()V" } : Jvm.MethodName)) ∈ lw_all := lw_g (lw_at lw_m9 178 rfl) rfl
theorem q2409 : (Jvm.Cond.fieldLink "BoardMachine$Memories$Page" (9 : Nat) "BoardMachine$Memories$Page" "words" "[J") ∈ lw_all := lw_g (lw_at lw_m9 179 rfl) rfl
theorem q2410 : (Jvm.Cond.laysFinal "BoardMachine$Memories$Page" "BoardMachine$Memories$Page" "words" "[J") ∈ lw_all := lw_g (lw_at lw_m9 180 rfl) rfl
theorem q2411 : (Jvm.Cond.soleField "BoardMachine$Memories$Page" "words") ∈ lw_all := lw_g (lw_at lw_m9 181 rfl) rfl
theorem q2412 : (Jvm.Cond.superclass "BoardMachine$Memories$Page" "java/lang/Object") ∈ lw_all := lw_g (lw_at lw_m9 182 rfl) rfl
theorem q2413 : (Jvm.Cond.methodLink "BoardMachine$Memories$Ram" (86 : Nat) ({ cls := "BoardMachine$Memories$Page", name := "put", desc := "(IIJ)V" } : Jvm.MethodName)) ∈ lw_all := lw_g (lw_at lw_m9 183 rfl) rfl
theorem q2414 : (Jvm.Cond.instanceMethod ({ cls := "BoardMachine$Memories$Page", name := "put", desc := "(IIJ)V" } : Jvm.MethodName)) ∈ lw_all := lw_g (lw_at lw_m9 184 rfl) rfl
theorem q2415 : (Jvm.Cond.selects "BoardMachine$Memories$Page" ({ cls := "BoardMachine$Memories$Page", name := "put", desc := "(IIJ)V" } : Jvm.MethodName) ({ cls := "BoardMachine$Memories$Page", name := "put", desc := "(IIJ)V" } : Jvm.MethodName)) ∈ lw_all := lw_g (lw_at lw_m9 185 rfl) rfl
theorem q2416 : (Jvm.Cond.code ({ cls := "BoardMachine$Memories$Page", name := "put", desc := "(IIJ)V" } : Jvm.MethodName) prog_81_method_4_code (9 : Nat) (Option.none : Option Jvm.ClassFile.FieldType)) ∈ lw_all := lw_g (lw_at lw_m9 186 rfl) rfl
theorem q2417 : (Jvm.Cond.methodLink "BoardMachine$Memories$Page" (17 : Nat) ({ cls := "BoardMachine$Memories$Page", name := "mask", desc := "(I)J" } : Jvm.MethodName)) ∈ lw_all := lw_g (lw_at lw_m9 187 rfl) rfl
theorem q2418 : (Jvm.Cond.static ({ cls := "BoardMachine$Memories$Page", name := "mask", desc := "(I)J" } : Jvm.MethodName)) ∈ lw_all := lw_g (lw_at lw_m9 188 rfl) rfl
theorem q2419 : (Jvm.Cond.code ({ cls := "BoardMachine$Memories$Page", name := "mask", desc := "(I)J" } : Jvm.MethodName) prog_81_method_2_code (1 : Nat) (Option.some Jvm.ClassFile.FieldType.long)) ∈ lw_all := lw_g (lw_at lw_m9 189 rfl) rfl
theorem q2420 : (Jvm.Cond.constantLong "BoardMachine$Memories$Page" (15 : Nat) (-1 : Int64)) ∈ lw_all := lw_g (lw_at lw_m9 190 rfl) rfl
theorem q2421 : (Jvm.Cond.methodLink "BoardMachine$Memories$Ram" (90 : Nat) ({ cls := "BoardMachine$Memories$Ram", name := "touch", desc := "(JJ)V" } : Jvm.MethodName)) ∈ lw_all := lw_g (lw_at lw_m9 191 rfl) rfl
theorem q2422 : (Jvm.Cond.privateMethod ({ cls := "BoardMachine$Memories$Ram", name := "touch", desc := "(JJ)V" } : Jvm.MethodName)) ∈ lw_tbl := lw_at lw_m9 192 rfl
theorem q2423 : (Jvm.Cond.instanceMethod ({ cls := "BoardMachine$Memories$Ram", name := "touch", desc := "(JJ)V" } : Jvm.MethodName)) ∈ lw_all := lw_g (lw_at lw_m9 193 rfl) rfl
theorem q2424 : (Jvm.Cond.code ({ cls := "BoardMachine$Memories$Ram", name := "touch", desc := "(JJ)V" } : Jvm.MethodName) prog_82_method_7_code (9 : Nat) (Option.none : Option Jvm.ClassFile.FieldType)) ∈ lw_all := lw_g (lw_at lw_m9 194 rfl) rfl
theorem q2425 : (Jvm.Cond.methodLink "BoardMachine$Memories$Ram" (78 : Nat) ({ cls := "BoardMachine$Memories$Reservation", name := "touch", desc := "(JJ)V" } : Jvm.MethodName)) ∈ lw_all := lw_g (lw_at lw_m9 195 rfl) rfl
theorem q2426 : (Jvm.Cond.instanceMethod ({ cls := "BoardMachine$Memories$Reservation", name := "touch", desc := "(JJ)V" } : Jvm.MethodName)) ∈ lw_all := lw_g (lw_at lw_m9 196 rfl) rfl
theorem q2427 : (Jvm.Cond.selects "BoardMachine$Memories$Reservation" ({ cls := "BoardMachine$Memories$Reservation", name := "touch", desc := "(JJ)V" } : Jvm.MethodName) ({ cls := "BoardMachine$Memories$Reservation", name := "touch", desc := "(JJ)V" } : Jvm.MethodName)) ∈ lw_all := lw_g (lw_at lw_m9 197 rfl) rfl
theorem q2428 : (Jvm.Cond.code ({ cls := "BoardMachine$Memories$Reservation", name := "touch", desc := "(JJ)V" } : Jvm.MethodName) prog_83_method_5_code (7 : Nat) (Option.none : Option Jvm.ClassFile.FieldType)) ∈ lw_all := lw_g (lw_at lw_m9 198 rfl) rfl
theorem q2429 : (Jvm.Cond.constantLong "BoardMachine$Memories$Reservation" (17 : Nat) (-8 : Int64)) ∈ lw_all := lw_g (lw_at lw_m9 199 rfl) rfl
theorem q2430 : (Jvm.Cond.constantLong "BoardMachine$Memories$Reservation" (19 : Nat) (8 : Int64)) ∈ lw_all := lw_g (lw_at lw_m9 200 rfl) rfl
theorem q2431 : (Jvm.Cond.methodLink "BoardMachine$Machine" (96 : Nat) ({ cls := "BoardMachine$Processor", name := "reset", desc := "(J)V" } : Jvm.MethodName)) ∈ lw_all := lw_g (lw_at lw_m9 201 rfl) rfl
theorem q2432 : (Jvm.Cond.instanceMethod ({ cls := "BoardMachine$Processor", name := "reset", desc := "(J)V" } : Jvm.MethodName)) ∈ lw_all := lw_g (lw_at lw_m9 202 rfl) rfl
theorem q2433 : (Jvm.Cond.selects "BoardMachine$Processor" ({ cls := "BoardMachine$Processor", name := "reset", desc := "(J)V" } : Jvm.MethodName) ({ cls := "BoardMachine$Processor", name := "reset", desc := "(J)V" } : Jvm.MethodName)) ∈ lw_all := lw_g (lw_at lw_m9 203 rfl) rfl
theorem q2434 : (Jvm.Cond.code ({ cls := "BoardMachine$Processor", name := "reset", desc := "(J)V" } : Jvm.MethodName) prog_86_method_2_code (7 : Nat) (Option.none : Option Jvm.ClassFile.FieldType)) ∈ lw_all := lw_g (lw_at lw_m9 204 rfl) rfl
theorem q2435 : (Jvm.Cond.methodLink "BoardMachine$Processor" (92 : Nat) ({ cls := "BoardMachine$Integers$IntegerUnit", name := "jump", desc := "(J)V" } : Jvm.MethodName)) ∈ lw_all := lw_g (lw_at lw_m9 205 rfl) rfl
theorem q2436 : (Jvm.Cond.instanceMethod ({ cls := "BoardMachine$Integers$IntegerUnit", name := "jump", desc := "(J)V" } : Jvm.MethodName)) ∈ lw_all := lw_g (lw_at lw_m9 206 rfl) rfl
theorem q2437 : (Jvm.Cond.selects "BoardMachine$Integers$IntegerUnit" ({ cls := "BoardMachine$Integers$IntegerUnit", name := "jump", desc := "(J)V" } : Jvm.MethodName) ({ cls := "BoardMachine$Integers$IntegerUnit", name := "jump", desc := "(J)V" } : Jvm.MethodName)) ∈ lw_all := lw_g (lw_at lw_m9 207 rfl) rfl
theorem q2438 : (Jvm.Cond.code ({ cls := "BoardMachine$Integers$IntegerUnit", name := "jump", desc := "(J)V" } : Jvm.MethodName) prog_69_method_3_code (3 : Nat) (Option.none : Option Jvm.ClassFile.FieldType)) ∈ lw_all := lw_g (lw_at lw_m9 208 rfl) rfl
theorem q2439 : (Jvm.Cond.constantLong "BoardMachine$Integers$IntegerUnit" (44 : Nat) (-2 : Int64)) ∈ lw_all := lw_g (lw_at lw_m9 209 rfl) rfl
theorem q2440 : (Jvm.Cond.methodLink "BoardMachine$Processor" (96 : Nat) ({ cls := "BoardMachine$Floats$FloatUnit", name := "putFlags", desc := "(I)V" } : Jvm.MethodName)) ∈ lw_all := lw_g (lw_at lw_m9 210 rfl) rfl
theorem q2441 : (Jvm.Cond.instanceMethod ({ cls := "BoardMachine$Floats$FloatUnit", name := "putFlags", desc := "(I)V" } : Jvm.MethodName)) ∈ lw_all := lw_g (lw_at lw_m9 211 rfl) rfl
theorem q2442 : (Jvm.Cond.selects "BoardMachine$Floats$FloatUnit" ({ cls := "BoardMachine$Floats$FloatUnit", name := "putFlags", desc := "(I)V" } : Jvm.MethodName) ({ cls := "BoardMachine$Floats$FloatUnit", name := "putFlags", desc := "(I)V" } : Jvm.MethodName)) ∈ lw_all := lw_g (lw_at lw_m9 212 rfl) rfl
theorem q2443 : (Jvm.Cond.code ({ cls := "BoardMachine$Floats$FloatUnit", name := "putFlags", desc := "(I)V" } : Jvm.MethodName) prog_29_method_20_code (2 : Nat) (Option.none : Option Jvm.ClassFile.FieldType)) ∈ lw_all := lw_g (lw_at lw_m9 213 rfl) rfl
theorem q2444 : (Jvm.Cond.methodLink "BoardMachine$Processor" (99 : Nat) ({ cls := "BoardMachine$Floats$FloatUnit", name := "putMode", desc := "(I)V" } : Jvm.MethodName)) ∈ lw_all := lw_g (lw_at lw_m9 214 rfl) rfl
theorem q2445 : (Jvm.Cond.instanceMethod ({ cls := "BoardMachine$Floats$FloatUnit", name := "putMode", desc := "(I)V" } : Jvm.MethodName)) ∈ lw_all := lw_g (lw_at lw_m9 215 rfl) rfl
theorem q2446 : (Jvm.Cond.selects "BoardMachine$Floats$FloatUnit" ({ cls := "BoardMachine$Floats$FloatUnit", name := "putMode", desc := "(I)V" } : Jvm.MethodName) ({ cls := "BoardMachine$Floats$FloatUnit", name := "putMode", desc := "(I)V" } : Jvm.MethodName)) ∈ lw_all := lw_g (lw_at lw_m9 216 rfl) rfl
theorem q2447 : (Jvm.Cond.code ({ cls := "BoardMachine$Floats$FloatUnit", name := "putMode", desc := "(I)V" } : Jvm.MethodName) prog_29_method_21_code (2 : Nat) (Option.none : Option Jvm.ClassFile.FieldType)) ∈ lw_all := lw_g (lw_at lw_m9 217 rfl) rfl
theorem q2448 : (Jvm.Cond.methodLink "BoardMachine$Processor" (102 : Nat) ({ cls := "BoardMachine$Floats$FloatUnit", name := "calm", desc := "()V" } : Jvm.MethodName)) ∈ lw_all := lw_g (lw_at lw_m9 218 rfl) rfl
theorem q2449 : (Jvm.Cond.instanceMethod ({ cls := "BoardMachine$Floats$FloatUnit", name := "calm", desc := "()V" } : Jvm.MethodName)) ∈ lw_all := lw_g (lw_at lw_m9 219 rfl) rfl
theorem q2450 : (Jvm.Cond.selects "BoardMachine$Floats$FloatUnit" ({ cls := "BoardMachine$Floats$FloatUnit", name := "calm", desc := "()V" } : Jvm.MethodName) ({ cls := "BoardMachine$Floats$FloatUnit", name := "calm", desc := "()V" } : Jvm.MethodName)) ∈ lw_all := lw_g (lw_at lw_m9 220 rfl) rfl
theorem q2451 : (Jvm.Cond.code ({ cls := "BoardMachine$Floats$FloatUnit", name := "calm", desc := "()V" } : Jvm.MethodName) prog_29_method_23_code (1 : Nat) (Option.none : Option Jvm.ClassFile.FieldType)) ∈ lw_all := lw_g (lw_at lw_m9 221 rfl) rfl
theorem q2452 : (Jvm.Cond.methodLink "BoardMachine$Processor" (105 : Nat) ({ cls := "BoardMachine$Processor", name := "resetControls", desc := "()V" } : Jvm.MethodName)) ∈ lw_all := lw_g (lw_at lw_m9 222 rfl) rfl
theorem q2453 : (Jvm.Cond.privateMethod ({ cls := "BoardMachine$Processor", name := "resetControls", desc := "()V" } : Jvm.MethodName)) ∈ lw_tbl := lw_at lw_m9 223 rfl
theorem q2454 : (Jvm.Cond.instanceMethod ({ cls := "BoardMachine$Processor", name := "resetControls", desc := "()V" } : Jvm.MethodName)) ∈ lw_all := lw_g (lw_at lw_m9 224 rfl) rfl
theorem q2455 : (Jvm.Cond.code ({ cls := "BoardMachine$Processor", name := "resetControls", desc := "()V" } : Jvm.MethodName) prog_86_method_3_code (1 : Nat) (Option.none : Option Jvm.ClassFile.FieldType)) ∈ lw_all := lw_g (lw_at lw_m9 225 rfl) rfl
theorem q2456 : (Jvm.Cond.methodLink "BoardMachine$Processor" (185 : Nat) ({ cls := "BoardMachine$Processor", name := "table", desc := "()LBoardMachine$Controls$Masked;" } : Jvm.MethodName)) ∈ lw_all := lw_g (lw_at lw_m9 226 rfl) rfl
theorem q2457 : (Jvm.Cond.privateMethod ({ cls := "BoardMachine$Processor", name := "table", desc := "()LBoardMachine$Controls$Masked;" } : Jvm.MethodName)) ∈ lw_tbl := lw_at lw_m9 227 rfl
theorem q2458 : (Jvm.Cond.instanceMethod ({ cls := "BoardMachine$Processor", name := "table", desc := "()LBoardMachine$Controls$Masked;" } : Jvm.MethodName)) ∈ lw_all := lw_g (lw_at lw_m9 228 rfl) rfl
theorem q2459 : (Jvm.Cond.code ({ cls := "BoardMachine$Processor", name := "table", desc := "()LBoardMachine$Controls$Masked;" } : Jvm.MethodName) prog_86_method_5_code (1 : Nat) (Option.some (Jvm.ClassFile.FieldType.object "BoardMachine$Controls$Masked"))) ∈ lw_all := lw_g (lw_at lw_m9 229 rfl) rfl
theorem q2460 : (Jvm.Cond.classLink "BoardMachine$Processor" (164 : Nat) "BoardMachine$Controls$Masked") ∈ lw_all := lw_g (lw_at lw_m9 230 rfl) rfl
theorem q2461 : (Jvm.Cond.methodLink "BoardMachine$Processor" (193 : Nat) ({ cls := "BoardMachine$Processor", name := "resetBank", desc := "(LBoardMachine$Controls$TrapBank;)V" } : Jvm.MethodName)) ∈ lw_all := lw_g (lw_at lw_m9 231 rfl) rfl
theorem q2462 : (Jvm.Cond.static ({ cls := "BoardMachine$Processor", name := "resetBank", desc := "(LBoardMachine$Controls$TrapBank;)V" } : Jvm.MethodName)) ∈ lw_all := lw_g (lw_at lw_m9 232 rfl) rfl
theorem q2463 : (Jvm.Cond.code ({ cls := "BoardMachine$Processor", name := "resetBank", desc := "(LBoardMachine$Controls$TrapBank;)V" } : Jvm.MethodName) prog_86_method_4_code (1 : Nat) (Option.none : Option Jvm.ClassFile.FieldType)) ∈ lw_all := lw_g (lw_at lw_m9 233 rfl) rfl
theorem q2464 : (Jvm.Cond.methodLinkNest "BoardMachine$Processor" (126 : Nat) ({ cls := "BoardMachine$Walks$Regions", name := "lay", desc := "()V" } : Jvm.MethodName) "BoardMachine") ∈ lw_tbl := lw_at lw_m9 234 rfl
theorem q2465 : (Jvm.Cond.privateMethod ({ cls := "BoardMachine$Walks$Regions", name := "lay", desc := "()V" } : Jvm.MethodName)) ∈ lw_tbl := lw_at lw_m9 235 rfl
theorem q2466 : (Jvm.Cond.instanceMethod ({ cls := "BoardMachine$Walks$Regions", name := "lay", desc := "()V" } : Jvm.MethodName)) ∈ lw_all := lw_g (lw_at lw_m9 236 rfl) rfl
theorem q2467 : (Jvm.Cond.code ({ cls := "BoardMachine$Walks$Regions", name := "lay", desc := "()V" } : Jvm.MethodName) prog_105_method_2_code (2 : Nat) (Option.none : Option Jvm.ClassFile.FieldType)) ∈ lw_all := lw_g (lw_at lw_m9 237 rfl) rfl
theorem q2468 : (Jvm.Cond.methodLink "BoardMachine$Walks$Regions" (22 : Nat) ({ cls := "BoardMachine$Walks$Region", name := "lay", desc := "(J)V" } : Jvm.MethodName)) ∈ lw_all := lw_g (lw_at lw_m9 238 rfl) rfl
theorem q2469 : (Jvm.Cond.instanceMethod ({ cls := "BoardMachine$Walks$Region", name := "lay", desc := "(J)V" } : Jvm.MethodName)) ∈ lw_all := lw_g (lw_at lw_m9 239 rfl) rfl
theorem q2470 : (Jvm.Cond.selects "BoardMachine$Walks$Region" ({ cls := "BoardMachine$Walks$Region", name := "lay", desc := "(J)V" } : Jvm.MethodName) ({ cls := "BoardMachine$Walks$Region", name := "lay", desc := "(J)V" } : Jvm.MethodName)) ∈ lw_all := lw_g (lw_at lw_m10 0 rfl) rfl
theorem q2471 : (Jvm.Cond.code ({ cls := "BoardMachine$Walks$Region", name := "lay", desc := "(J)V" } : Jvm.MethodName) prog_104_method_5_code (5 : Nat) (Option.none : Option Jvm.ClassFile.FieldType)) ∈ lw_all := lw_g (lw_at lw_m10 1 rfl) rfl
theorem q2472 : (Jvm.Cond.methodLink "BoardMachine$Walks$Region" (30 : Nat) ({ cls := "BoardMachine$Walks$Region", name := "span", desc := "()LBoardMachine$Walks$Span;" } : Jvm.MethodName)) ∈ lw_all := lw_g (lw_at lw_m10 2 rfl) rfl
theorem q2473 : (Jvm.Cond.instanceMethod ({ cls := "BoardMachine$Walks$Region", name := "span", desc := "()LBoardMachine$Walks$Span;" } : Jvm.MethodName)) ∈ lw_all := lw_g (lw_at lw_m10 3 rfl) rfl
theorem q2474 : (Jvm.Cond.selects "BoardMachine$Walks$Region" ({ cls := "BoardMachine$Walks$Region", name := "span", desc := "()LBoardMachine$Walks$Span;" } : Jvm.MethodName) ({ cls := "BoardMachine$Walks$Region", name := "span", desc := "()LBoardMachine$Walks$Span;" } : Jvm.MethodName)) ∈ lw_all := lw_g (lw_at lw_m10 4 rfl) rfl
theorem q2475 : (Jvm.Cond.code ({ cls := "BoardMachine$Walks$Region", name := "span", desc := "()LBoardMachine$Walks$Span;" } : Jvm.MethodName) prog_104_method_3_code (2 : Nat) (Option.some (Jvm.ClassFile.FieldType.object "BoardMachine$Walks$Span"))) ∈ lw_all := lw_g (lw_at lw_m10 5 rfl) rfl
theorem q2476 : (Jvm.Cond.fieldLink "BoardMachine$Walks$Region" (15 : Nat) "BoardMachine$Walks$Span" "NOTHING" "LBoardMachine$Walks$Span;") ∈ lw_all := lw_g (lw_at lw_m10 6 rfl) rfl
theorem q2477 : (Jvm.Cond.laysStatic "BoardMachine$Walks$Span" "NOTHING" "LBoardMachine$Walks$Span;") ∈ lw_tbl := lw_at lw_m10 7 rfl
theorem q2478 : (Jvm.Cond.fieldLink "BoardMachine$Walks$Region" (21 : Nat) "BoardMachine$Walks$Span" "FROM_BEFORE" "LBoardMachine$Walks$Span;") ∈ lw_all := lw_g (lw_at lw_m10 8 rfl) rfl
theorem q2479 : (Jvm.Cond.laysStatic "BoardMachine$Walks$Span" "FROM_BEFORE" "LBoardMachine$Walks$Span;") ∈ lw_tbl := lw_at lw_m10 9 rfl
theorem q2480 : (Jvm.Cond.fieldLink "BoardMachine$Walks$Region" (24 : Nat) "BoardMachine$Walks$Span" "FOUR" "LBoardMachine$Walks$Span;") ∈ lw_all := lw_g (lw_at lw_m10 10 rfl) rfl
theorem q2481 : (Jvm.Cond.laysStatic "BoardMachine$Walks$Span" "FOUR" "LBoardMachine$Walks$Span;") ∈ lw_tbl := lw_at lw_m10 11 rfl
theorem q2482 : (Jvm.Cond.fieldLink "BoardMachine$Walks$Region" (27 : Nat) "BoardMachine$Walks$Span" "POWER" "LBoardMachine$Walks$Span;") ∈ lw_all := lw_g (lw_at lw_m10 12 rfl) rfl
theorem q2483 : (Jvm.Cond.laysStatic "BoardMachine$Walks$Span" "POWER" "LBoardMachine$Walks$Span;") ∈ lw_tbl := lw_at lw_m10 13 rfl
theorem q2484 : (Jvm.Cond.methodLink "BoardMachine$Walks$Region" (34 : Nat) ({ cls := "BoardMachine$Walks$Span", name := "ordinal", desc := "()I" } : Jvm.MethodName)) ∈ lw_all := lw_g (lw_at lw_m10 14 rfl) rfl
theorem q2485 : (Jvm.Cond.sameMethod "BoardMachine$Walks$Span" "java/lang/Enum" "ordinal" "()I") ∈ lw_all := lw_g (lw_at lw_m10 15 rfl) rfl
theorem q2486 : (Jvm.Cond.declares ({ cls := "java/lang/Enum", name := "ordinal", desc := "()I" } : Jvm.MethodName)) ∈ lw_tbl := lw_at lw_m10 16 rfl
theorem q2487 : (Jvm.Cond.selects "BoardMachine$Walks$Span" ({ cls := "BoardMachine$Walks$Span", name := "ordinal", desc := "()I" } : Jvm.MethodName) ({ cls := "java/lang/Enum", name := "ordinal", desc := "()I" } : Jvm.MethodName)) ∈ lw_all := lw_g (lw_at lw_m10 17 rfl) rfl
theorem q2488 : (Jvm.Cond.instanceMethod ({ cls := "java/lang/Enum", name := "ordinal", desc := "()I" } : Jvm.MethodName)) ∈ lw_all := lw_g (lw_at lw_m10 18 rfl) rfl
theorem q2489 : (Jvm.Cond.code ({ cls := "java/lang/Enum", name := "ordinal", desc := "()I" } : Jvm.MethodName) prog_123_method_2_code (1 : Nat) (Option.some Jvm.ClassFile.FieldType.int)) ∈ lw_all := lw_g (lw_at lw_m10 19 rfl) rfl
theorem q2490 : (Jvm.Cond.constantLong "BoardMachine$Walks$Region" (38 : Nat) (4 : Int64)) ∈ lw_all := lw_g (lw_at lw_m10 20 rfl) rfl
theorem q2491 : (Jvm.Cond.constantLong "BoardMachine$Walks$Region" (50 : Nat) (-1 : Int64)) ∈ lw_all := lw_g (lw_at lw_m10 21 rfl) rfl
theorem q2492 : (Jvm.Cond.constantLong "BoardMachine$Walks$Region" (52 : Nat) (8 : Int64)) ∈ lw_all := lw_g (lw_at lw_m10 22 rfl) rfl
theorem q2493 : (Jvm.Cond.methodLink "BoardMachine$Processor" (139 : Nat) ({ cls := "BoardMachine$Memories$Reservation", name := "drop", desc := "()Z" } : Jvm.MethodName)) ∈ lw_all := lw_g (lw_at lw_m10 23 rfl) rfl
theorem q2494 : (Jvm.Cond.instanceMethod ({ cls := "BoardMachine$Memories$Reservation", name := "drop", desc := "()Z" } : Jvm.MethodName)) ∈ lw_all := lw_g (lw_at lw_m10 24 rfl) rfl
theorem q2495 : (Jvm.Cond.selects "BoardMachine$Memories$Reservation" ({ cls := "BoardMachine$Memories$Reservation", name := "drop", desc := "()Z" } : Jvm.MethodName) ({ cls := "BoardMachine$Memories$Reservation", name := "drop", desc := "()Z" } : Jvm.MethodName)) ∈ lw_all := lw_g (lw_at lw_m10 25 rfl) rfl
theorem q2496 : (Jvm.Cond.code ({ cls := "BoardMachine$Memories$Reservation", name := "drop", desc := "()Z" } : Jvm.MethodName) prog_83_method_3_code (2 : Nat) (Option.some Jvm.ClassFile.FieldType.boolean)) ∈ lw_all := lw_g (lw_at lw_m10 26 rfl) rfl
theorem q2497 : (Jvm.Cond.methodLink "BoardMachine$Processor" (145 : Nat) ({ cls := "BoardMachine$Integers$Registers", name := "set", desc := "(IJ)V" } : Jvm.MethodName)) ∈ lw_all := lw_g (lw_at lw_m10 27 rfl) rfl
theorem q2498 : (Jvm.Cond.instanceMethod ({ cls := "BoardMachine$Integers$Registers", name := "set", desc := "(IJ)V" } : Jvm.MethodName)) ∈ lw_all := lw_g (lw_at lw_m10 28 rfl) rfl
theorem q2499 : (Jvm.Cond.selects "BoardMachine$Integers$Registers" ({ cls := "BoardMachine$Integers$Registers", name := "set", desc := "(IJ)V" } : Jvm.MethodName) ({ cls := "BoardMachine$Integers$Registers", name := "set", desc := "(IJ)V" } : Jvm.MethodName)) ∈ lw_all := lw_g (lw_at lw_m10 29 rfl) rfl
theorem q2500 : (Jvm.Cond.code ({ cls := "BoardMachine$Integers$Registers", name := "set", desc := "(IJ)V" } : Jvm.MethodName) prog_71_method_2_code (4 : Nat) (Option.none : Option Jvm.ClassFile.FieldType)) ∈ lw_all := lw_g (lw_at lw_m10 30 rfl) rfl
theorem q2501 : (Jvm.Cond.constantLong "BoardMachine$Processor" (149 : Nat) (2151669760 : Int64)) ∈ lw_all := lw_g (lw_at lw_m10 31 rfl) rfl
theorem q2502 : (Jvm.Cond.fieldLink "BoardMachine$Machine" (35 : Nat) "BoardMachine$Machine" "board" "LBoardMachine$Board;") ∈ lw_all := lw_g (lw_at lw_m10 32 rfl) rfl
theorem q2503 : (Jvm.Cond.fieldLinkNest "BoardMachine" (52 : Nat) "BoardMachine$Machine" "board" "LBoardMachine$Board;" "BoardMachine") ∈ lw_tbl := lw_at lw_m10 33 rfl
theorem q2504 : (Jvm.Cond.fieldLink "BoardMachine$Machine" (41 : Nat) "BoardMachine$Machine" "processors" "[LBoardMachine$Processor;") ∈ lw_all := lw_g (lw_at lw_m10 34 rfl) rfl
theorem q2505 : (Jvm.Cond.fieldLinkNest "BoardMachine" (24 : Nat) "BoardMachine$Machine" "processors" "[LBoardMachine$Processor;" "BoardMachine") ∈ lw_tbl := lw_at lw_m10 35 rfl
theorem q2506 : (Jvm.Cond.fieldLink "BoardMachine$Machine" (15 : Nat) "BoardMachine$Machine" "tape" "LBoardMachine$Trees$Row;") ∈ lw_all := lw_g (lw_at lw_m10 36 rfl) rfl
theorem q2507 : (Jvm.Cond.fieldLinkNest "BoardMachine" (32 : Nat) "BoardMachine$Machine" "tape" "LBoardMachine$Trees$Row;" "BoardMachine") ∈ lw_tbl := lw_at lw_m10 37 rfl
theorem q2508 : (Jvm.Cond.fieldLink "BoardMachine$Machine" (60 : Nat) "BoardMachine$Machine" "loader" "LBoardMachine$Loader;") ∈ lw_all := lw_g (lw_at lw_m10 38 rfl) rfl
theorem q2509 : (Jvm.Cond.fieldLink "BoardMachine$Machine" (24 : Nat) "BoardMachine$Machine" "describer" "LBoardMachine$Describer;") ∈ lw_all := lw_g (lw_at lw_m10 39 rfl) rfl
