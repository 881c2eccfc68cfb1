/-! contracts of methods, printed by gen/snd.py -/
set_option maxRecDepth 100000
set_option maxHeartbeats 4000000
theorem hX98_init : fe_H (sX98_init) cX98_init [0] fe_kv [] 20 (fun _ => dX98_init FX98_init_0) := by
  intro j pc L st M r hc h
  rcases fe_mem_c hc with rfl | hc
  · obtain ⟨w0, m0, h⟩ := fe_lR_d h
    obtain ⟨rfl, hz⟩ := fe_t0_d h
    exact ⟨[(0, .ref w0)], (fe_cs m0 fe_nl), Or.inr ((bX98_init_0 FX98_init_0 w0 M).symm.trans hz)⟩
  exact fe_mem_0 hc
theorem vX98_init : fe_SB (sX98_init) := by
  refine ⟨?_, ?_, ?_, ?_⟩
  · intro i As M r h
    exact fe_no h
  · intro i As M r h
    exact fe_no h
  · intro i As M r h
    exact fe_no h
  · intro i As M r h
    exact fe_no h
theorem eX98_init (g0 : Nat → FM → Option (FM)) (a0 : Nat) (M : FM) : dX98_init g0 0 [(0, .ref a0)] [] M = g0 a0 M := by rfl
theorem mX98_init (a0 : Nat) (M : FM) (r : FM) (h : FX98_init a0 M = some r) : fm_nx M ≤ fm_nx r ∧ fm_ns M ≤ fm_ns r :=
  fe_mono (L0 := [(0, .ref a0)]) (vX98_init) (by decide +kernel) (hX98_init) (fe_kv_k r) 0 rfl ((eX98_init FX98_init_0 a0 M).trans h)
theorem zX98_init {s0 : State} {H0 : Heap} {oa : Nat → Nat} {D : va_G} (K : fk s0 H0 oa D) (l : Launch) (a0 : Nat) (M : FM) (r : FM) (h : FX98_init a0 M = some r) : fs_Con (fk_E s0 H0 oa D) l 1 ⟨"BoardMachineModel$Core", "<init>", "()V"⟩ prog_113_method_1_code 1 (Option.none : Option Jvm.ClassFile.FieldType) [.ref a0] M none r := by
  refine fs_method (own := "BoardMachineModel$Core") rfl (by decide) K.2.1 (by rw [fe_slen]; exact (Nat.le_of_ble_eq_true rfl)) (mX98_init a0 M r h) (hX98_init) 0 rfl (L0 := [(0, .ref a0)]) (fun E => fe_args_e E [.ref a0] 0) ((eX98_init FX98_init_0 a0 M).trans h) (fe_kv_k r) (fun H hR => fs_nr_o (by decide) (by decide)) ?_
  intro p e s m args below meth c Q C hnm
  have hw : s0.WarmedH s.vm := C.2.2.2.2.1
  refine fe_all C fk_hwr cX98_init [1, 7, 9, 14, 19, 21] (by decide +kernel) (fe_fil (cps := [(1, 4, .monitorenter), (7, 9, .anewarray 355206), (9, 12, .putfield 1451614586), (14, 17, .putfield 1480974712), (19, 21, .anewarray 364422), (21, 24, .putfield 1489363322)]) (by decide +kernel) ?_)
  refine fs_c1 (fs_init (pc := 1) (idx := 1) C (by decide +kernel) (kw K hw q4950) (kw K hw q441) (kw K hw q442) ⟨(Nat.le_of_ble_eq_true rfl), (Nat.le_of_ble_eq_true rfl)⟩) ?_
  refine fs_c1 (fs_newL (pc := 7) (n := 355206) C (by decide +kernel) (kw K hw q648) rfl rfl) ?_
  refine fs_c1 (fs_putf (pc := 9) (n := 1451614586) (idx := 7) (ref := "BoardMachineModel$Core") (O := "BoardMachineModel$Core") (name := "registers") (desc := "[J") (fin := true) (ty := (.array .long)) C (by decide +kernel) (Or.inr ⟨rfl, kw K hw q4952, hnm, rfl⟩) (fun _ h => h) (Nat.le_of_ble_eq_true rfl) (Nat.le_of_ble_eq_true rfl) (Nat.le_of_ble_eq_true rfl) rfl rfl (by decide) (fs_one (⟨rfl, ff_94_346 s0 H0 oa D⟩))) ?_
  refine fs_c1 (fs_putf (pc := 14) (n := 1480974712) (idx := 13) (ref := "BoardMachineModel$Core") (O := "BoardMachineModel$Core") (name := "waits") (desc := "I") (fin := false) (ty := .int) C (by decide +kernel) (Or.inl ⟨rfl, Or.inl (kw K hw q4959)⟩) (fun _ h => h) (Nat.le_of_ble_eq_true rfl) (Nat.le_of_ble_eq_true rfl) (Nat.le_of_ble_eq_true rfl) rfl rfl (by decide) (fs_one (⟨rfl, ff_94_353 s0 H0 oa D⟩))) ?_
  refine fs_c1 (fs_newL (pc := 19) (n := 364422) C (by decide +kernel) (kw K hw q648) rfl rfl) ?_
  refine fs_c1 (fs_putf (pc := 21) (n := 1489363322) (idx := 17) (ref := "BoardMachineModel$Core") (O := "BoardMachineModel$Core") (name := "numbers") (desc := "[J") (fin := true) (ty := (.array .long)) C (by decide +kernel) (Or.inr ⟨rfl, kw K hw q4961, hnm, rfl⟩) (fun _ h => h) (Nat.le_of_ble_eq_true rfl) (Nat.le_of_ble_eq_true rfl) (Nat.le_of_ble_eq_true rfl) rfl rfl (by decide) (fs_one (⟨rfl, ff_94_355 s0 H0 oa D⟩))) ?_
  exact fs_c0
theorem hX99_init : fe_H (sX99_init) cX99_init [0] fe_kv [] 72 (fun _ => dX99_init FX99_init_0) := by
  intro j pc L st M r hc h
  rcases fe_mem_c hc with rfl | hc
  · obtain ⟨w0, m0, h⟩ := fe_lR_d h
    obtain ⟨rfl, hz⟩ := fe_t0_d h
    exact ⟨[(0, .ref w0)], (fe_cs m0 fe_nl), Or.inr ((bX99_init_0 FX99_init_0 w0 M).symm.trans hz)⟩
  exact fe_mem_0 hc
theorem vX99_init : fe_SB (sX99_init) := by
  refine ⟨?_, ?_, ?_, ?_⟩
  · intro i As M r h
    exact fe_no h
  · intro i As M r h
    exact fe_no h
  · intro i As M r h
    exact fe_no h
  · intro i As M r h
    exact fe_no h
theorem eX99_init (g0 : Nat → FM → Option (FM)) (a0 : Nat) (M : FM) : dX99_init g0 0 [(0, .ref a0)] [] M = g0 a0 M := by rfl
theorem mX99_init (a0 : Nat) (M : FM) (r : FM) (h : FX99_init a0 M = some r) : fm_nx M ≤ fm_nx r ∧ fm_ns M ≤ fm_ns r :=
  fe_mono (L0 := [(0, .ref a0)]) (vX99_init) (by decide +kernel) (hX99_init) (fe_kv_k r) 0 rfl ((eX99_init FX99_init_0 a0 M).trans h)
theorem zX99_init {s0 : State} {H0 : Heap} {oa : Nat → Nat} {D : va_G} (K : fk s0 H0 oa D) (l : Launch) (a0 : Nat) (M : FM) (r : FM) (h : FX99_init a0 M = some r) : fs_Con (fk_E s0 H0 oa D) l 1 ⟨"BoardMachineModel$Floats", "<init>", "()V"⟩ prog_115_method_1_code 1 (Option.none : Option Jvm.ClassFile.FieldType) [.ref a0] M none r := by
  refine fs_method (own := "BoardMachineModel$Floats") rfl (by decide) K.2.1 (by rw [fe_slen]; exact (Nat.le_of_ble_eq_true rfl)) (mX99_init a0 M r h) (hX99_init) 0 rfl (L0 := [(0, .ref a0)]) (fun E => fe_args_e E [.ref a0] 0) ((eX99_init FX99_init_0 a0 M).trans h) (fe_kv_k r) (fun H hR => fs_nr_o (by decide) (by decide)) ?_
  intro p e s m args below meth c Q C hnm
  have hw : s0.WarmedH s.vm := C.2.2.2.2.1
  refine fe_all C fk_hwr cX99_init [1, 7, 9, 14, 26, 31, 44, 49, 63, 68, 70, 75, 77, 82, 84, 89, 91, 98, 100, 107, 109] (by decide +kernel) (fe_fil (cps := [(1, 4, .monitorenter), (7, 9, .anewarray 376710), (9, 12, .putfield 1539703170), (14, 16, .anewarray 381829), (26, 29, .putfield 1560674690), (31, 33, .anewarray 382853), (44, 47, .putfield 1564868994), (49, 51, .anewarray 383877), (63, 66, .putfield 1569063298), (68, 70, .anewarray 384901), (70, 73, .putfield 1573257602), (75, 77, .anewarray 385925), (77, 80, .putfield 1577451906), (82, 84, .anewarray 386950), (84, 87, .putfield 1581646210), (89, 91, .anewarray 387973), (91, 94, .putfield 1585840514), (98, 100, .anewarray 388997), (100, 103, .putfield 1590034818), (107, 109, .anewarray 390021), (109, 112, .putfield 1594229122)]) (by decide +kernel) ?_)
  refine fs_c1 (fs_init (pc := 1) (idx := 1) C (by decide +kernel) (kw K hw q4995) (kw K hw q441) (kw K hw q442) ⟨(Nat.le_of_ble_eq_true rfl), (Nat.le_of_ble_eq_true rfl)⟩) ?_
  refine fs_c1 (fs_newL (pc := 7) (n := 376710) C (by decide +kernel) (kw K hw q648) rfl rfl) ?_
  refine fs_c1 (fs_putf (pc := 9) (n := 1539703170) (idx := 7) (ref := "BoardMachineModel$Floats") (O := "BoardMachineModel$Floats") (name := "held") (desc := "[J") (fin := true) (ty := (.array .long)) C (by decide +kernel) (Or.inr ⟨rfl, kw K hw q4997, hnm, rfl⟩) (fun _ h => h) (Nat.le_of_ble_eq_true rfl) (Nat.le_of_ble_eq_true rfl) (Nat.le_of_ble_eq_true rfl) rfl rfl (by decide) (fs_one (⟨rfl, ff_96_367 s0 H0 oa D⟩))) ?_
  refine fs_c1 (fs_newI (pc := 14) (n := 381829) C (by decide +kernel) (kw K hw q966) rfl rfl) ?_
  refine fs_c1 (fs_putf (pc := 26) (n := 1560674690) (idx := 13) (ref := "BoardMachineModel$Floats") (O := "BoardMachineModel$Floats") (name := "fractions") (desc := "[I") (fin := true) (ty := (.array .int)) C (by decide +kernel) (Or.inr ⟨rfl, kw K hw q5002, hnm, rfl⟩) (fun _ h => h) (Nat.le_of_ble_eq_true rfl) (Nat.le_of_ble_eq_true rfl) (Nat.le_of_ble_eq_true rfl) rfl rfl (by decide) (fs_one (⟨rfl, ff_96_372 s0 H0 oa D⟩))) ?_
  refine fs_c1 (fs_newI (pc := 31) (n := 382853) C (by decide +kernel) (kw K hw q966) rfl rfl) ?_
  refine fs_c1 (fs_putf (pc := 44) (n := 1564868994) (idx := 17) (ref := "BoardMachineModel$Floats") (O := "BoardMachineModel$Floats") (name := "shifts") (desc := "[I") (fin := true) (ty := (.array .int)) C (by decide +kernel) (Or.inr ⟨rfl, kw K hw q5003, hnm, rfl⟩) (fun _ h => h) (Nat.le_of_ble_eq_true rfl) (Nat.le_of_ble_eq_true rfl) (Nat.le_of_ble_eq_true rfl) rfl rfl (by decide) (fs_one (⟨rfl, ff_96_373 s0 H0 oa D⟩))) ?_
  refine fs_c1 (fs_newI (pc := 49) (n := 383877) C (by decide +kernel) (kw K hw q966) rfl rfl) ?_
  refine fs_c1 (fs_putf (pc := 63) (n := 1569063298) (idx := 20) (ref := "BoardMachineModel$Floats") (O := "BoardMachineModel$Floats") (name := "greatest") (desc := "[I") (fin := true) (ty := (.array .int)) C (by decide +kernel) (Or.inr ⟨rfl, kw K hw q5004, hnm, rfl⟩) (fun _ h => h) (Nat.le_of_ble_eq_true rfl) (Nat.le_of_ble_eq_true rfl) (Nat.le_of_ble_eq_true rfl) rfl rfl (by decide) (fs_one (⟨rfl, ff_96_374 s0 H0 oa D⟩))) ?_
  refine fs_c1 (fs_newI (pc := 68) (n := 384901) C (by decide +kernel) (kw K hw q966) rfl rfl) ?_
  refine fs_c1 (fs_putf (pc := 70) (n := 1573257602) (idx := 23) (ref := "BoardMachineModel$Floats") (O := "BoardMachineModel$Floats") (name := "kind") (desc := "[I") (fin := true) (ty := (.array .int)) C (by decide +kernel) (Or.inr ⟨rfl, kw K hw q5005, hnm, rfl⟩) (fun _ h => h) (Nat.le_of_ble_eq_true rfl) (Nat.le_of_ble_eq_true rfl) (Nat.le_of_ble_eq_true rfl) rfl rfl (by decide) (fs_one (⟨rfl, ff_96_375 s0 H0 oa D⟩))) ?_
  refine fs_c1 (fs_newI (pc := 75) (n := 385925) C (by decide +kernel) (kw K hw q966) rfl rfl) ?_
  refine fs_c1 (fs_putf (pc := 77) (n := 1577451906) (idx := 26) (ref := "BoardMachineModel$Floats") (O := "BoardMachineModel$Floats") (name := "sign") (desc := "[I") (fin := true) (ty := (.array .int)) C (by decide +kernel) (Or.inr ⟨rfl, kw K hw q5006, hnm, rfl⟩) (fun _ h => h) (Nat.le_of_ble_eq_true rfl) (Nat.le_of_ble_eq_true rfl) (Nat.le_of_ble_eq_true rfl) rfl rfl (by decide) (fs_one (⟨rfl, ff_96_376 s0 H0 oa D⟩))) ?_
  refine fs_c1 (fs_newL (pc := 82) (n := 386950) C (by decide +kernel) (kw K hw q648) rfl rfl) ?_
  refine fs_c1 (fs_putf (pc := 84) (n := 1581646210) (idx := 29) (ref := "BoardMachineModel$Floats") (O := "BoardMachineModel$Floats") (name := "size") (desc := "[J") (fin := true) (ty := (.array .long)) C (by decide +kernel) (Or.inr ⟨rfl, kw K hw q5007, hnm, rfl⟩) (fun _ h => h) (Nat.le_of_ble_eq_true rfl) (Nat.le_of_ble_eq_true rfl) (Nat.le_of_ble_eq_true rfl) rfl rfl (by decide) (fs_one (⟨rfl, ff_96_377 s0 H0 oa D⟩))) ?_
  refine fs_c1 (fs_newI (pc := 89) (n := 387973) C (by decide +kernel) (kw K hw q966) rfl rfl) ?_
  refine fs_c1 (fs_putf (pc := 91) (n := 1585840514) (idx := 32) (ref := "BoardMachineModel$Floats") (O := "BoardMachineModel$Floats") (name := "power") (desc := "[I") (fin := true) (ty := (.array .int)) C (by decide +kernel) (Or.inr ⟨rfl, kw K hw q5008, hnm, rfl⟩) (fun _ h => h) (Nat.le_of_ble_eq_true rfl) (Nat.le_of_ble_eq_true rfl) (Nat.le_of_ble_eq_true rfl) rfl rfl (by decide) (fs_one (⟨rfl, ff_96_378 s0 H0 oa D⟩))) ?_
  refine fs_c1 (fs_newI (pc := 98) (n := 388997) C (by decide +kernel) (kw K hw q966) rfl rfl) ?_
  refine fs_c1 (fs_putf (pc := 100) (n := 1590034818) (idx := 35) (ref := "BoardMachineModel$Floats") (O := "BoardMachineModel$Floats") (name := "one") (desc := "[I") (fin := true) (ty := (.array .int)) C (by decide +kernel) (Or.inr ⟨rfl, kw K hw q5009, hnm, rfl⟩) (fun _ h => h) (Nat.le_of_ble_eq_true rfl) (Nat.le_of_ble_eq_true rfl) (Nat.le_of_ble_eq_true rfl) rfl rfl (by decide) (fs_one (⟨rfl, ff_96_379 s0 H0 oa D⟩))) ?_
  refine fs_c1 (fs_newI (pc := 107) (n := 390021) C (by decide +kernel) (kw K hw q966) rfl rfl) ?_
  refine fs_c1 (fs_putf (pc := 109) (n := 1594229122) (idx := 38) (ref := "BoardMachineModel$Floats") (O := "BoardMachineModel$Floats") (name := "two") (desc := "[I") (fin := true) (ty := (.array .int)) C (by decide +kernel) (Or.inr ⟨rfl, kw K hw q5010, hnm, rfl⟩) (fun _ h => h) (Nat.le_of_ble_eq_true rfl) (Nat.le_of_ble_eq_true rfl) (Nat.le_of_ble_eq_true rfl) rfl rfl (by decide) (fs_one (⟨rfl, ff_96_380 s0 H0 oa D⟩))) ?_
  exact fs_c0
theorem hX100_init : fe_H (sX100_init) cX100_init [0, 40, 41] fe_kv [] 29 (fun _ => dX100_init FX100_init_0 FX100_init_40 FX100_init_41) := by
  intro j pc L st M r hc h
  rcases fe_mem_c hc with rfl | hc
  · obtain ⟨w0, m0, h⟩ := fe_lR_d h
    obtain ⟨w1, m1, h⟩ := fe_lI_d h
    obtain ⟨rfl, hz⟩ := fe_t0_d h
    exact ⟨[(0, .ref w0), (1, .int w1)], (fe_cs m0 (fe_cs m1 fe_nl)), Or.inr ((bX100_init_0 FX100_init_0 FX100_init_40 FX100_init_41 w0 w1 M).symm.trans hz)⟩
  rcases fe_mem_c hc with rfl | hc
  · obtain ⟨s0, t0, rfl, g0⟩ := fe_tR_d h
    obtain ⟨rfl, hz⟩ := fe_t0_d g0
    exact ⟨[], fe_nl, Or.inr ((bX100_init_40 FX100_init_0 FX100_init_40 FX100_init_41 s0 M).symm.trans hz)⟩
  rcases fe_mem_c hc with rfl | hc
  · obtain ⟨s1, t1, rfl, g1⟩ := fe_tI_d h
    obtain ⟨s0, t0, rfl, g0⟩ := fe_tR_d g1
    obtain ⟨rfl, hz⟩ := fe_t0_d g0
    exact ⟨[], fe_nl, Or.inr ((bX100_init_41 FX100_init_0 FX100_init_40 FX100_init_41 s0 s1 M).symm.trans hz)⟩
  exact fe_mem_0 hc
theorem vX100_init : fe_SB (sX100_init) := by
  refine ⟨?_, ?_, ?_, ?_⟩
  · intro i As M r h
    exact fe_no h
  · intro i As M r h
    exact fe_no h
  · intro i As M r h
    exact fe_no h
  · intro i As M r h
    exact fe_no h
theorem eX100_init (g0 : Nat → Int32 → FM → Option (FM)) (g40 : Nat → FM → Option (FM)) (g41 : Nat → Int32 → FM → Option (FM)) (a0 : Nat) (a1 : Int32) (M : FM) : dX100_init g0 g40 g41 0 [(0, .ref a0), (1, .int a1)] [] M = g0 a0 a1 M := by rfl
theorem mX100_init (a0 : Nat) (a1 : Int32) (M : FM) (r : FM) (h : FX100_init a0 a1 M = some r) : fm_nx M ≤ fm_nx r ∧ fm_ns M ≤ fm_ns r :=
  fe_mono (L0 := [(0, .ref a0), (1, .int a1)]) (vX100_init) (by decide +kernel) (hX100_init) (fe_kv_k r) 0 rfl ((eX100_init FX100_init_0 FX100_init_40 FX100_init_41 a0 a1 M).trans h)
theorem zX100_init {s0 : State} {H0 : Heap} {oa : Nat → Nat} {D : va_G} (K : fk s0 H0 oa D) (l : Launch) (a0 : Nat) (a1 : Int32) (M : FM) (r : FM) (h : FX100_init a0 a1 M = some r) : fs_Con (fk_E s0 H0 oa D) l 1 ⟨"BoardMachineModel$Desk", "<init>", "(I)V"⟩ prog_114_method_1_code 2 (Option.none : Option Jvm.ClassFile.FieldType) [.ref a0, .int a1] M none r := by
  refine fs_method (own := "BoardMachineModel$Desk") rfl (by decide) K.2.1 (by rw [fe_slen]; exact (Nat.le_of_ble_eq_true rfl)) (mX100_init a0 a1 M r h) (hX100_init) 0 rfl (L0 := [(0, .ref a0), (1, .int a1)]) (fun E => fe_args_e E [.ref a0, .int a1] 0) ((eX100_init FX100_init_0 FX100_init_40 FX100_init_41 a0 a1 M).trans h) (fe_kv_k r) (fun H hR => fs_nr_o (by decide) (by decide)) ?_
  intro p e s m args below meth c Q C hnm
  have hw : s0.WarmedH s.vm := C.2.2.2.2.1
  refine fe_all C fk_hwr cX100_init [1, 6, 13, 15, 21, 23, 41] (by decide +kernel) (fe_fil (cps := [(1, 4, .monitorenter), (6, 9, .putfield 1510338940), (13, 15, .anewarray 370566), (15, 18, .putfield 1514533246), (21, 23, .anewarray 371592), (23, 26, .putfield 1518727550), (41, 44, .putfield 1506144636)]) (by decide +kernel) ?_)
  refine fs_c1 (fs_init (pc := 1) (idx := 1) C (by decide +kernel) (kw K hw q5061) (kw K hw q441) (kw K hw q442) ⟨(Nat.le_of_ble_eq_true rfl), (Nat.le_of_ble_eq_true rfl)⟩) ?_
  refine fs_c1 (fs_putf (pc := 6) (n := 1510338940) (idx := 7) (ref := "BoardMachineModel$Desk") (O := "BoardMachineModel$Desk") (name := "mode") (desc := "I") (fin := false) (ty := .int) C (by decide +kernel) (Or.inl ⟨rfl, Or.inl (kw K hw q5064)⟩) (fun _ h => h) (Nat.le_of_ble_eq_true rfl) (Nat.le_of_ble_eq_true rfl) (Nat.le_of_ble_eq_true rfl) rfl rfl (by decide) (fs_one (⟨rfl, ff_95_360 s0 H0 oa D⟩))) ?_
  refine fs_c1 (fs_newL (pc := 13) (n := 370566) C (by decide +kernel) (kw K hw q648) rfl rfl) ?_
  refine fs_c1 (fs_putf (pc := 15) (n := 1514533246) (idx := 13) (ref := "BoardMachineModel$Desk") (O := "BoardMachineModel$Desk") (name := "held") (desc := "[J") (fin := true) (ty := (.array .long)) C (by decide +kernel) (Or.inr ⟨rfl, kw K hw q5065, hnm, rfl⟩) (fun _ h => h) (Nat.le_of_ble_eq_true rfl) (Nat.le_of_ble_eq_true rfl) (Nat.le_of_ble_eq_true rfl) rfl rfl (by decide) (fs_one (⟨rfl, ff_95_361 s0 H0 oa D⟩))) ?_
  refine fs_c1 (fs_newZ (pc := 21) (n := 371592) C (by decide +kernel) (kw K hw q4676) rfl rfl) ?_
  refine fs_c1 (fs_putf (pc := 23) (n := 1518727550) (idx := 17) (ref := "BoardMachineModel$Desk") (O := "BoardMachineModel$Desk") (name := "lines") (desc := "[Z") (fin := true) (ty := (.array .boolean)) C (by decide +kernel) (Or.inr ⟨rfl, kw K hw q5066, hnm, rfl⟩) (fun _ h => h) (Nat.le_of_ble_eq_true rfl) (Nat.le_of_ble_eq_true rfl) (Nat.le_of_ble_eq_true rfl) rfl rfl (by decide) (fs_one (⟨rfl, ff_95_362 s0 H0 oa D⟩))) ?_
  refine fs_c1 (fs_putf (pc := 41) (n := 1506144636) (idx := 21) (ref := "BoardMachineModel$Desk") (O := "BoardMachineModel$Desk") (name := "processor") (desc := "I") (fin := true) (ty := .int) C (by decide +kernel) (Or.inr ⟨rfl, kw K hw q5063, hnm, rfl⟩) (fun _ h => h) (Nat.le_of_ble_eq_true rfl) (Nat.le_of_ble_eq_true rfl) (Nat.le_of_ble_eq_true rfl) rfl rfl (by decide) (fs_one (⟨rfl, ff_95_359 s0 H0 oa D⟩))) ?_
  exact fs_c0
theorem hX101_init : fe_H (sX101_init) cX101_init [0] fe_kv [] 20 (fun _ => dX101_init FX101_init_0) := by
  intro j pc L st M r hc h
  rcases fe_mem_c hc with rfl | hc
  · obtain ⟨w0, m0, h⟩ := fe_lR_d h
    obtain ⟨w1, m1, h⟩ := fe_lR_d h
    obtain ⟨rfl, hz⟩ := fe_t0_d h
    exact ⟨[(0, .ref w0), (1, .ref w1)], (fe_cs m0 (fe_cs m1 fe_nl)), Or.inr ((bX101_init_0 FX101_init_0 w0 w1 M).symm.trans hz)⟩
  exact fe_mem_0 hc
theorem vX101_init : fe_SB (sX101_init) := by
  refine ⟨?_, ?_, ?_, ?_⟩
  · intro i As M r h
    exact fe_no h
  · intro i As M r h
    exact fe_no h
  · intro i As M r h
    exact fe_no h
  · intro i As M r h
    exact fe_no h
theorem eX101_init (g0 : Nat → Nat → FM → Option (FM)) (a0 : Nat) (a1 : Nat) (M : FM) : dX101_init g0 0 [(0, .ref a0), (1, .ref a1)] [] M = g0 a0 a1 M := by rfl
theorem mX101_init (a0 : Nat) (a1 : Nat) (M : FM) (r : FM) (h : FX101_init a0 a1 M = some r) : fm_nx M ≤ fm_nx r ∧ fm_ns M ≤ fm_ns r :=
  fe_mono (L0 := [(0, .ref a0), (1, .ref a1)]) (vX101_init) (by decide +kernel) (hX101_init) (fe_kv_k r) 0 rfl ((eX101_init FX101_init_0 a0 a1 M).trans h)
theorem zX101_init {s0 : State} {H0 : Heap} {oa : Nat → Nat} {D : va_G} (K : fk s0 H0 oa D) (l : Launch) (a0 : Nat) (a1 : Nat) (M : FM) (r : FM) (h : FX101_init a0 a1 M = some r) : fs_Con (fk_E s0 H0 oa D) l 1 ⟨"BoardMachineModel$Walk", "<init>", "(LBoardMachineModel$Ram;)V"⟩ prog_120_method_1_code 2 (Option.none : Option Jvm.ClassFile.FieldType) [.ref a0, .ref a1] M none r := by
  refine fs_method (own := "BoardMachineModel$Walk") rfl (by decide) K.2.1 (by rw [fe_slen]; exact (Nat.le_of_ble_eq_true rfl)) (mX101_init a0 a1 M r h) (hX101_init) 0 rfl (L0 := [(0, .ref a0), (1, .ref a1)]) (fun E => fe_args_e E [.ref a0, .ref a1] 0) ((eX101_init FX101_init_0 a0 a1 M).trans h) (fe_kv_k r) (fun H hR => fs_nr_o (by decide) (by decide)) ?_
  intro p e s m args below meth c Q C hnm
  have hw : s0.WarmedH s.vm := C.2.2.2.2.1
  refine fe_all C fk_hwr cX101_init [1, 7, 9, 15, 17, 22] (by decide +kernel) (fe_fil (cps := [(1, 4, .monitorenter), (7, 9, .anewarray 438149), (9, 12, .putfield 1791381910), (15, 17, .anewarray 439174), (17, 20, .putfield 1795576214), (22, 25, .putfield 1774604694)]) (by decide +kernel) ?_)
  refine fs_c1 (fs_init (pc := 1) (idx := 1) C (by decide +kernel) (kw K hw q5091) (kw K hw q441) (kw K hw q442) ⟨(Nat.le_of_ble_eq_true rfl), (Nat.le_of_ble_eq_true rfl)⟩) ?_
  refine fs_c1 (fs_newI (pc := 7) (n := 438149) C (by decide +kernel) (kw K hw q966) rfl rfl) ?_
  refine fs_c1 (fs_putf (pc := 9) (n := 1791381910) (idx := 7) (ref := "BoardMachineModel$Walk") (O := "BoardMachineModel$Walk") (name := "configs") (desc := "[I") (fin := true) (ty := (.array .int)) C (by decide +kernel) (Or.inr ⟨rfl, kw K hw q5097, hnm, rfl⟩) (fun _ h => h) (Nat.le_of_ble_eq_true rfl) (Nat.le_of_ble_eq_true rfl) (Nat.le_of_ble_eq_true rfl) rfl rfl (by decide) (fs_one (⟨rfl, ff_101_427 s0 H0 oa D⟩))) ?_
  refine fs_c1 (fs_newL (pc := 15) (n := 439174) C (by decide +kernel) (kw K hw q648) rfl rfl) ?_
  refine fs_c1 (fs_putf (pc := 17) (n := 1795576214) (idx := 13) (ref := "BoardMachineModel$Walk") (O := "BoardMachineModel$Walk") (name := "numbers") (desc := "[J") (fin := true) (ty := (.array .long)) C (by decide +kernel) (Or.inr ⟨rfl, kw K hw q5098, hnm, rfl⟩) (fun _ h => h) (Nat.le_of_ble_eq_true rfl) (Nat.le_of_ble_eq_true rfl) (Nat.le_of_ble_eq_true rfl) rfl rfl (by decide) (fs_one (⟨rfl, ff_101_428 s0 H0 oa D⟩))) ?_
  refine fs_c1 (fs_putf (pc := 22) (n := 1774604694) (idx := 17) (ref := "BoardMachineModel$Walk") (O := "BoardMachineModel$Walk") (name := "ram") (desc := "LBoardMachineModel$Ram;") (fin := true) (ty := (.object "BoardMachineModel$Ram")) C (by decide +kernel) (Or.inr ⟨rfl, kw K hw q5093, hnm, rfl⟩) (fun _ h => h) (Nat.le_of_ble_eq_true rfl) (Nat.le_of_ble_eq_true rfl) (Nat.le_of_ble_eq_true rfl) rfl rfl (by decide) (fs_one (⟨rfl, ff_101_423 s0 H0 oa D⟩))) ?_
  exact fs_c0
theorem hX92_init (n : Nat) : fe_H (sX92_init FX93_init FX94_init FX95_init (FX96_init n) (FX97_init n) (FX92_begin n) FX98_init FX99_init FX100_init FX101_init) cX92_init [0, 127, 132, 167] fe_kv [167] 130 (fun j => dX92_init (FX92_init_0 n (FX92_init_L167 n j)) (FX92_init_127 n (FX92_init_L167 n j)) (FX92_init_132 n (FX92_init_L167 n j)) (FX92_init_L167 n j)) := by
  intro j pc L st M r hc h
  rcases fe_mem_c hc with rfl | hc
  · obtain ⟨w0, m0, h⟩ := fe_lR_d h
    obtain ⟨w1, m1, h⟩ := fe_lI_d h
    obtain ⟨rfl, hz⟩ := fe_t0_d h
    exact ⟨[(0, .ref w0), (1, .int w1)], (fe_cs m0 (fe_cs m1 fe_nl)), Or.inr ((bX92_init_0 FX93_init FX94_init FX95_init (FX96_init n) (FX97_init n) (FX92_begin n) FX98_init FX99_init FX100_init FX101_init (FX92_init_0 n (FX92_init_L167 n j)) (FX92_init_127 n (FX92_init_L167 n j)) (FX92_init_132 n (FX92_init_L167 n j)) (FX92_init_L167 n j) w0 w1 M).symm.trans hz)⟩
  rcases fe_mem_c hc with rfl | hc
  · obtain ⟨w0, m0, h⟩ := fe_lR_d h
    obtain ⟨s0, t0, rfl, g0⟩ := fe_tR_d h
    obtain ⟨rfl, hz⟩ := fe_t0_d g0
    exact ⟨[(0, .ref w0)], (fe_cs m0 fe_nl), Or.inr ((bX92_init_127 FX93_init FX94_init FX95_init (FX96_init n) (FX97_init n) (FX92_begin n) FX98_init FX99_init FX100_init FX101_init (FX92_init_0 n (FX92_init_L167 n j)) (FX92_init_127 n (FX92_init_L167 n j)) (FX92_init_132 n (FX92_init_L167 n j)) (FX92_init_L167 n j) w0 s0 M).symm.trans hz)⟩
  rcases fe_mem_c hc with rfl | hc
  · obtain ⟨w0, m0, h⟩ := fe_lR_d h
    obtain ⟨s1, t1, rfl, g1⟩ := fe_tI_d h
    obtain ⟨s0, t0, rfl, g0⟩ := fe_tR_d g1
    obtain ⟨rfl, hz⟩ := fe_t0_d g0
    exact ⟨[(0, .ref w0)], (fe_cs m0 fe_nl), Or.inr ((bX92_init_132 FX93_init FX94_init FX95_init (FX96_init n) (FX97_init n) (FX92_begin n) FX98_init FX99_init FX100_init FX101_init (FX92_init_0 n (FX92_init_L167 n j)) (FX92_init_127 n (FX92_init_L167 n j)) (FX92_init_132 n (FX92_init_L167 n j)) (FX92_init_L167 n j) w0 s0 s1 M).symm.trans hz)⟩
  rcases fe_mem_c hc with rfl | hc
  · obtain ⟨w0, m0, h⟩ := fe_lR_d h
    obtain ⟨w2, m2, h⟩ := fe_lI_d h
    obtain ⟨rfl, hz⟩ := fe_t0_d h
    cases j with
    | zero => exact fe_no hz
    | succ j => exact ⟨[(0, .ref w0), (2, .int w2)], (fe_cs m0 (fe_cs m2 fe_nl)), Or.inl ⟨j, rfl, (bX92_init_167 FX93_init FX94_init FX95_init (FX96_init n) (FX97_init n) (FX92_begin n) FX98_init FX99_init FX100_init FX101_init (FX92_init_0 n (FX92_init_L167 n j)) (FX92_init_127 n (FX92_init_L167 n j)) (FX92_init_132 n (FX92_init_L167 n j)) (FX92_init_L167 n j) w0 w2 M).symm.trans hz⟩⟩
  exact fe_mem_0 hc
theorem vX92_init (n : Nat) : fe_SB (sX92_init FX93_init FX94_init FX95_init (FX96_init n) (FX97_init n) (FX92_begin n) FX98_init FX99_init FX100_init FX101_init) := by
  refine ⟨?_, ?_, ?_, ?_⟩
  · intro i As M r h
    rcases fe_bc h with h | h
    · obtain ⟨v0, t0, rfl, g0⟩ := fe_tR_d h
      obtain ⟨rfl, hz⟩ := fe_t0_d g0
      exact mX93_init v0 M r hz
    rcases fe_bc h with h | h
    · obtain ⟨v0, t0, rfl, g0⟩ := fe_tR_d h
      obtain ⟨rfl, hz⟩ := fe_t0_d g0
      exact mX94_init v0 M r hz
    rcases fe_bc h with h | h
    · obtain ⟨v0, t0, rfl, g0⟩ := fe_tR_d h
      obtain ⟨v1, t1, rfl, g1⟩ := fe_tR_d g0
      obtain ⟨rfl, hz⟩ := fe_t0_d g1
      exact mX95_init v0 v1 M r hz
    rcases fe_bc h with h | h
    · obtain ⟨v0, t0, rfl, g0⟩ := fe_tR_d h
      obtain ⟨v1, t1, rfl, g1⟩ := fe_tI_d g0
      obtain ⟨rfl, hz⟩ := fe_t0_d g1
      exact mX96_init n v0 v1 M r hz
    rcases fe_bc h with h | h
    · obtain ⟨v0, t0, rfl, g0⟩ := fe_tR_d h
      obtain ⟨v1, t1, rfl, g1⟩ := fe_tI_d g0
      obtain ⟨rfl, hz⟩ := fe_t0_d g1
      exact mX97_init n v0 v1 M r hz
    rcases fe_bc h with h | h
    · obtain ⟨v0, t0, rfl, g0⟩ := fe_tR_d h
      obtain ⟨rfl, hz⟩ := fe_t0_d g0
      exact mX98_init v0 M r hz
    rcases fe_bc h with h | h
    · obtain ⟨v0, t0, rfl, g0⟩ := fe_tR_d h
      obtain ⟨rfl, hz⟩ := fe_t0_d g0
      exact mX99_init v0 M r hz
    rcases fe_bc h with h | h
    · obtain ⟨v0, t0, rfl, g0⟩ := fe_tR_d h
      obtain ⟨v1, t1, rfl, g1⟩ := fe_tI_d g0
      obtain ⟨rfl, hz⟩ := fe_t0_d g1
      exact mX100_init v0 v1 M r hz
    rcases fe_bc h with h | h
    · obtain ⟨v0, t0, rfl, g0⟩ := fe_tR_d h
      obtain ⟨v1, t1, rfl, g1⟩ := fe_tR_d g0
      obtain ⟨rfl, hz⟩ := fe_t0_d g1
      exact mX101_init v0 v1 M r hz
    exact fe_no h
  · intro i As M r h
    rcases fe_bc h with h | h
    · obtain ⟨v0, t0, rfl, g0⟩ := fe_tR_d h
      obtain ⟨rfl, hz⟩ := fe_t0_d g0
      exact mX92_begin n v0 M r hz
    exact fe_no h
  · intro i As M r h
    exact fe_no h
  · intro i As M r h
    exact fe_no h
theorem eX92_init (g0 : Nat → Int32 → FM → Option (FM)) (g127 : Nat → Nat → FM → Option (FM)) (g132 : Nat → Nat → Int32 → FM → Option (FM)) (k167 : Nat → Int32 → FM → Option (FM)) (a0 : Nat) (a1 : Int32) (M : FM) : dX92_init g0 g127 g132 k167 0 [(0, .ref a0), (1, .int a1)] [] M = g0 a0 a1 M := by rfl
theorem mX92_init (n : Nat) (a0 : Nat) (a1 : Int32) (M : FM) (r : FM) (h : FX92_init n a0 a1 M = some r) : fm_nx M ≤ fm_nx r ∧ fm_ns M ≤ fm_ns r :=
  fe_mono (L0 := [(0, .ref a0), (1, .int a1)]) (vX92_init n) (by decide +kernel) (hX92_init n) (fe_kv_k r) n rfl ((eX92_init (FX92_init_0 n (FX92_init_L167 n n)) (FX92_init_127 n (FX92_init_L167 n n)) (FX92_init_132 n (FX92_init_L167 n n)) (FX92_init_L167 n n) a0 a1 M).trans h)
theorem zX92_init {s0 : State} {H0 : Heap} {oa : Nat → Nat} {D : va_G} (K : fk s0 H0 oa D) (l : Launch) (n : Nat) (a0 : Nat) (a1 : Int32) (M : FM) (r : FM) (h : FX92_init n a0 a1 M = some r) : fs_Con (fk_E s0 H0 oa D) l 12 ⟨"BoardMachineModel", "<init>", "(I)V"⟩ prog_111_method_1_code 3 (Option.none : Option Jvm.ClassFile.FieldType) [.ref a0, .int a1] M none r := by
  have o0 : fs_OS (sX92_init FX93_init FX94_init FX95_init (FX96_init n) (FX97_init n) (FX92_begin n) FX98_init FX99_init FX100_init FX101_init) 0 0 (fs_Con (fk_E s0 H0 oa D) l 1 ⟨"BoardMachineModel$Ram", "<init>", "()V"⟩ prog_117_method_1_code 1 (Option.none : Option Jvm.ClassFile.FieldType)) := by
    intro As M r h
    obtain ⟨v0, t0, rfl, g0⟩ := fe_tR_d h
    obtain ⟨rfl, hz⟩ := fe_t0_d g0
    exact zX93_init K l v0 M r hz
  have o1 : fs_OS (sX92_init FX93_init FX94_init FX95_init (FX96_init n) (FX97_init n) (FX92_begin n) FX98_init FX99_init FX100_init FX101_init) 1 0 (fs_Con (fk_E s0 H0 oa D) l 1 ⟨"BoardMachineModel$Halves", "<init>", "()V"⟩ prog_116_method_1_code 1 (Option.none : Option Jvm.ClassFile.FieldType)) := by
    intro As M r h
    obtain ⟨v0, t0, rfl, g0⟩ := fe_tR_d h
    obtain ⟨rfl, hz⟩ := fe_t0_d g0
    exact zX94_init K l v0 M r hz
  have o2 : fs_OS (sX92_init FX93_init FX94_init FX95_init (FX96_init n) (FX97_init n) (FX92_begin n) FX98_init FX99_init FX100_init FX101_init) 2 0 (fs_Con (fk_E s0 H0 oa D) l 1 ⟨"BoardMachineModel$Block", "<init>", "(LBoardMachineModel$Ram;)V"⟩ prog_112_method_1_code 2 (Option.none : Option Jvm.ClassFile.FieldType)) := by
    intro As M r h
    obtain ⟨v0, t0, rfl, g0⟩ := fe_tR_d h
    obtain ⟨v1, t1, rfl, g1⟩ := fe_tR_d g0
    obtain ⟨rfl, hz⟩ := fe_t0_d g1
    exact zX95_init K l v0 v1 M r hz
  have o3 : fs_OS (sX92_init FX93_init FX94_init FX95_init (FX96_init n) (FX97_init n) (FX92_begin n) FX98_init FX99_init FX100_init FX101_init) 3 0 (fs_Con (fk_E s0 H0 oa D) l 1 ⟨"BoardMachineModel$Signals", "<init>", "(I)V"⟩ prog_118_method_1_code 3 (Option.none : Option Jvm.ClassFile.FieldType)) := by
    intro As M r h
    obtain ⟨v0, t0, rfl, g0⟩ := fe_tR_d h
    obtain ⟨v1, t1, rfl, g1⟩ := fe_tI_d g0
    obtain ⟨rfl, hz⟩ := fe_t0_d g1
    exact zX96_init K l n v0 v1 M r hz
  have o4 : fs_OS (sX92_init FX93_init FX94_init FX95_init (FX96_init n) (FX97_init n) (FX92_begin n) FX98_init FX99_init FX100_init FX101_init) 4 0 (fs_Con (fk_E s0 H0 oa D) l 11 ⟨"BoardMachineModel$Tree", "<init>", "(I)V"⟩ prog_119_method_1_code 2 (Option.none : Option Jvm.ClassFile.FieldType)) := by
    intro As M r h
    obtain ⟨v0, t0, rfl, g0⟩ := fe_tR_d h
    obtain ⟨v1, t1, rfl, g1⟩ := fe_tI_d g0
    obtain ⟨rfl, hz⟩ := fe_t0_d g1
    exact zX97_init K l n v0 v1 M r hz
  have o5 : fs_OS (sX92_init FX93_init FX94_init FX95_init (FX96_init n) (FX97_init n) (FX92_begin n) FX98_init FX99_init FX100_init FX101_init) 5 1 (fs_Con (fk_E s0 H0 oa D) l 3 ⟨"BoardMachineModel", "begin", "()I"⟩ prog_111_method_14_code 2 (Option.some Jvm.ClassFile.FieldType.int)) := by
    intro As M r h
    obtain ⟨v0, t0, rfl, g0⟩ := fe_tR_d h
    obtain ⟨rfl, hz⟩ := fe_t0_d g0
    exact zX92_begin K l n v0 M r hz
  have o6 : fs_OS (sX92_init FX93_init FX94_init FX95_init (FX96_init n) (FX97_init n) (FX92_begin n) FX98_init FX99_init FX100_init FX101_init) 6 0 (fs_Con (fk_E s0 H0 oa D) l 1 ⟨"BoardMachineModel$Core", "<init>", "()V"⟩ prog_113_method_1_code 1 (Option.none : Option Jvm.ClassFile.FieldType)) := by
    intro As M r h
    obtain ⟨v0, t0, rfl, g0⟩ := fe_tR_d h
    obtain ⟨rfl, hz⟩ := fe_t0_d g0
    exact zX98_init K l v0 M r hz
  have o7 : fs_OS (sX92_init FX93_init FX94_init FX95_init (FX96_init n) (FX97_init n) (FX92_begin n) FX98_init FX99_init FX100_init FX101_init) 7 0 (fs_Con (fk_E s0 H0 oa D) l 1 ⟨"BoardMachineModel$Floats", "<init>", "()V"⟩ prog_115_method_1_code 1 (Option.none : Option Jvm.ClassFile.FieldType)) := by
    intro As M r h
    obtain ⟨v0, t0, rfl, g0⟩ := fe_tR_d h
    obtain ⟨rfl, hz⟩ := fe_t0_d g0
    exact zX99_init K l v0 M r hz
  have o8 : fs_OS (sX92_init FX93_init FX94_init FX95_init (FX96_init n) (FX97_init n) (FX92_begin n) FX98_init FX99_init FX100_init FX101_init) 8 0 (fs_Con (fk_E s0 H0 oa D) l 1 ⟨"BoardMachineModel$Desk", "<init>", "(I)V"⟩ prog_114_method_1_code 2 (Option.none : Option Jvm.ClassFile.FieldType)) := by
    intro As M r h
    obtain ⟨v0, t0, rfl, g0⟩ := fe_tR_d h
    obtain ⟨v1, t1, rfl, g1⟩ := fe_tI_d g0
    obtain ⟨rfl, hz⟩ := fe_t0_d g1
    exact zX100_init K l v0 v1 M r hz
  have o9 : fs_OS (sX92_init FX93_init FX94_init FX95_init (FX96_init n) (FX97_init n) (FX92_begin n) FX98_init FX99_init FX100_init FX101_init) 9 0 (fs_Con (fk_E s0 H0 oa D) l 1 ⟨"BoardMachineModel$Walk", "<init>", "(LBoardMachineModel$Ram;)V"⟩ prog_120_method_1_code 2 (Option.none : Option Jvm.ClassFile.FieldType)) := by
    intro As M r h
    obtain ⟨v0, t0, rfl, g0⟩ := fe_tR_d h
    obtain ⟨v1, t1, rfl, g1⟩ := fe_tR_d g0
    obtain ⟨rfl, hz⟩ := fe_t0_d g1
    exact zX101_init K l v0 v1 M r hz
  refine fs_method (own := "BoardMachineModel") rfl (by decide) K.2.1 (by rw [fe_slen]; exact (Nat.le_of_ble_eq_true rfl)) (mX92_init n a0 a1 M r h) (hX92_init n) n rfl (L0 := [(0, .ref a0), (1, .int a1)]) (fun E => fe_args_e E [.ref a0, .int a1] 0) ((eX92_init (FX92_init_0 n (FX92_init_L167 n n)) (FX92_init_127 n (FX92_init_L167 n n)) (FX92_init_132 n (FX92_init_L167 n n)) (FX92_init_L167 n n) a0 a1 M).trans h) (fe_kv_k r) (fun H hR => fs_nr_o (by decide) (by decide)) ?_
  intro p e s m args below meth c Q C hnm
  have hw : s0.WarmedH s.vm := C.2.2.2.2.1
  refine fe_all C fk_hwr cX92_init [1, 5, 9, 12, 16, 20, 23, 27, 32, 35, 38, 43, 46, 51, 54, 59, 62, 67, 70, 75, 77, 81, 83, 85, 89, 91, 93, 97, 100, 105, 111, 113, 132, 136, 141, 144, 147, 151, 156, 159, 162, 169, 176, 180, 184, 187, 189, 193, 197, 200, 202, 206, 211, 214, 216, 220, 225, 228, 231, 239] (by decide +kernel) (fe_fil (cps := [(1, 4, .monitorenter), (5, 8, .new 6278), (9, 12, .invokevirtual 4294754), (12, 15, .putfield 1250279794), (16, 19, .new 6210), (20, 23, .invokevirtual 71402593), (23, 26, .putfield 1254474098), (27, 30, .new 5973), (32, 35, .getfield 1250279794), (35, 38, .invokevirtual 142701661), (38, 41, .putfield 1258668402), (43, 46, .anewarray 311201), (46, 49, .putfield 1271251314), (51, 54, .anewarray 312227), (54, 57, .putfield 1275445618), (59, 62, .anewarray 313250), (62, 65, .putfield 1279639922), (67, 70, .anewarray 314276), (70, 73, .putfield 1283834226), (75, 77, .anewarray 315272), (77, 80, .putfield 1288028530), (81, 83, .iconst (65536)), (83, 85, .anewarray 316293), (85, 88, .putfield 1292222834), (89, 91, .iconst (65536)), (91, 93, .anewarray 318341), (93, 96, .putfield 1300611442), (97, 100, .jsr_w (2147483648)), (100, 103, .putfield 1313194353), (105, 108, .putfield 1321582960), (111, 113, .anewarray 331654), (113, 116, .putfield 1355137394), (132, 135, .putfield 1246085488), (136, 139, .new 6357), (141, 144, .getfield 1246085488), (144, 147, .invokevirtual 209816675), (147, 150, .putfield 1262862706), (151, 154, .new 6407), (156, 159, .getfield 1246085488), (159, 162, .invokevirtual 276926564), (162, 165, .putfield 1267057010), (169, 172, .getfield 1246085488), (176, 179, .getfield 1271251314), (180, 183, .new 6029), (184, 187, .invokevirtual 406943838), (187, 188, .instanceof 974223454), (189, 192, .getfield 1275445618), (193, 196, .new 6164), (197, 200, .invokevirtual 474054752), (200, 201, .instanceof 976322656), (202, 205, .getfield 1279639922), (206, 209, .new 6088), (211, 214, .invokevirtual 545356895), (214, 215, .instanceof 975273055), (216, 219, .getfield 1283834226), (220, 223, .new 6473), (225, 228, .getfield 1250279794), (228, 231, .invokevirtual 612471909), (231, 232, .instanceof 977376357), (239, 242, .invokevirtual 340881500)]) (by decide +kernel) ?_)
  refine fs_c1 (fs_init (pc := 1) (idx := 1) C (by decide +kernel) (kw K hw q4564) (kw K hw q441) (kw K hw q442) ⟨(Nat.le_of_ble_eq_true rfl), (Nat.le_of_ble_eq_true rfl)⟩) ?_
  refine fs_c1 (fs_newo (pc := 5) (n := 6278) (idx := 7) (CC := "BoardMachineModel$Ram") (T := fT_98) (N := 6) C (by decide +kernel) (kw K hw q4565) (kw K hw q4566) (kw K hw q411) (by decide) (Nat.le_of_ble_eq_true rfl) rfl rfl) ?_
  refine fs_c1 (fs_inv_virtual (pc := 9) (n := 4294754) C (Nat.le_of_ble_eq_true rfl) (Nat.le_of_ble_eq_true rfl) (fs_lk_init (idx := 9) (y := ⟨"BoardMachineModel$Ram", "<init>", "()V"⟩) (bytes := prog_117_method_1_code) (maxL := 1) (d := 1) C (Nat.le_of_ble_eq_true rfl) (Nat.le_of_ble_eq_true rfl) (by decide +kernel) (kw K hw q4569) (kw K hw q411) (kw K hw q4568) (Or.inr ⟨_, kM K hw q4567⟩) rfl ⟨by decide, by decide⟩ rfl (Nat.le_of_ble_eq_true rfl) (Nat.le_of_ble_eq_true rfl)) fs_con_mono o0) ?_
  refine fs_c1 (fs_putf (pc := 12) (n := 1250279794) (idx := 10) (ref := "BoardMachineModel") (O := "BoardMachineModel") (name := "ram") (desc := "LBoardMachineModel$Ram;") (fin := true) (ty := (.object "BoardMachineModel$Ram")) C (by decide +kernel) (Or.inr ⟨rfl, kw K hw q5166, hnm, rfl⟩) (fun _ h => h) (Nat.le_of_ble_eq_true rfl) (Nat.le_of_ble_eq_true rfl) (Nat.le_of_ble_eq_true rfl) rfl rfl (by decide) (fs_one (⟨rfl, ff_92_298 s0 H0 oa D⟩))) ?_
  refine fs_c1 (fs_newo (pc := 16) (n := 6210) (idx := 16) (CC := "BoardMachineModel$Halves") (T := fT_97) (N := 2) C (by decide +kernel) (kw K hw q4592) (kw K hw q4593) (kw K hw q412) (by decide) (Nat.le_of_ble_eq_true rfl) rfl rfl) ?_
  refine fs_c1 (fs_inv_virtual (pc := 20) (n := 71402593) C (Nat.le_of_ble_eq_true rfl) (Nat.le_of_ble_eq_true rfl) (fs_lk_init (idx := 18) (y := ⟨"BoardMachineModel$Halves", "<init>", "()V"⟩) (bytes := prog_116_method_1_code) (maxL := 1) (d := 1) C (Nat.le_of_ble_eq_true rfl) (Nat.le_of_ble_eq_true rfl) (by decide +kernel) (kw K hw q4596) (kw K hw q412) (kw K hw q4595) (Or.inl (kw K hw q4594)) rfl ⟨by decide, by decide⟩ rfl (Nat.le_of_ble_eq_true rfl) (Nat.le_of_ble_eq_true rfl)) fs_con_mono o1) ?_
  refine fs_c1 (fs_putf (pc := 23) (n := 1254474098) (idx := 19) (ref := "BoardMachineModel") (O := "BoardMachineModel") (name := "halves") (desc := "LBoardMachineModel$Halves;") (fin := true) (ty := (.object "BoardMachineModel$Halves")) C (by decide +kernel) (Or.inr ⟨rfl, kw K hw q5167, hnm, rfl⟩) (fun _ h => h) (Nat.le_of_ble_eq_true rfl) (Nat.le_of_ble_eq_true rfl) (Nat.le_of_ble_eq_true rfl) rfl rfl (by decide) (fs_one (⟨rfl, ff_92_299 s0 H0 oa D⟩))) ?_
  refine fs_c1 (fs_newo (pc := 27) (n := 5973) (idx := 23) (CC := "BoardMachineModel$Block") (T := fT_93) (N := 21) C (by decide +kernel) (kw K hw q4605) (kw K hw q4606) (kw K hw q413) (by decide) (Nat.le_of_ble_eq_true rfl) rfl rfl) ?_
  refine fs_c1 (fs_getf (pc := 32) (n := 1250279794) (idx := 10) (ref := "BoardMachineModel") (O := "BoardMachineModel") (name := "ram") (desc := "LBoardMachineModel$Ram;") C (by decide +kernel) (Or.inl (kw K hw q5166)) (fun _ h => h) (Nat.le_of_ble_eq_true rfl) (Nat.le_of_ble_eq_true rfl) (fs_one (⟨_, ff_92_298 s0 H0 oa D⟩))) ?_
  refine fs_c1 (fs_inv_virtual (pc := 35) (n := 142701661) C (Nat.le_of_ble_eq_true rfl) (Nat.le_of_ble_eq_true rfl) (fs_lk_init (idx := 25) (y := ⟨"BoardMachineModel$Block", "<init>", "(LBoardMachineModel$Ram;)V"⟩) (bytes := prog_112_method_1_code) (maxL := 2) (d := 1) C (Nat.le_of_ble_eq_true rfl) (Nat.le_of_ble_eq_true rfl) (by decide +kernel) (kw K hw q4609) (kw K hw q413) (kw K hw q4608) (Or.inl (kw K hw q4607)) rfl ⟨by decide, by decide⟩ rfl (Nat.le_of_ble_eq_true rfl) (Nat.le_of_ble_eq_true rfl)) fs_con_mono o2) ?_
  refine fs_c1 (fs_putf (pc := 38) (n := 1258668402) (idx := 28) (ref := "BoardMachineModel") (O := "BoardMachineModel") (name := "block") (desc := "LBoardMachineModel$Block;") (fin := true) (ty := (.object "BoardMachineModel$Block")) C (by decide +kernel) (Or.inr ⟨rfl, kw K hw q5168, hnm, rfl⟩) (fun _ h => h) (Nat.le_of_ble_eq_true rfl) (Nat.le_of_ble_eq_true rfl) (Nat.le_of_ble_eq_true rfl) rfl rfl (by decide) (fs_one (⟨rfl, ff_92_300 s0 H0 oa D⟩))) ?_
  refine fs_c1 (fs_newr (pc := 43) (n := 311201) (t := 929) (idx := 32) (CC := "BoardMachineModel$Core") C (by decide +kernel) (kw K hw q4677) (kO K hw q4678) rfl (Nat.le_of_ble_eq_true rfl) rfl rfl) ?_
  refine fs_c1 (fs_putf (pc := 46) (n := 1271251314) (idx := 34) (ref := "BoardMachineModel") (O := "BoardMachineModel") (name := "cores") (desc := "[LBoardMachineModel$Core;") (fin := true) (ty := (.array (.object "BoardMachineModel$Core"))) C (by decide +kernel) (Or.inr ⟨rfl, kw K hw q5171, hnm, rfl⟩) (fun _ h => h) (Nat.le_of_ble_eq_true rfl) (Nat.le_of_ble_eq_true rfl) (Nat.le_of_ble_eq_true rfl) rfl rfl (by decide) (fs_one (⟨rfl, ff_92_303 s0 H0 oa D⟩))) ?_
  refine fs_c1 (fs_newr (pc := 51) (n := 312227) (t := 931) (idx := 38) (CC := "BoardMachineModel$Floats") C (by decide +kernel) (kw K hw q4679) (kO K hw q4680) rfl (Nat.le_of_ble_eq_true rfl) rfl rfl) ?_
  refine fs_c1 (fs_putf (pc := 54) (n := 1275445618) (idx := 40) (ref := "BoardMachineModel") (O := "BoardMachineModel") (name := "floats") (desc := "[LBoardMachineModel$Floats;") (fin := true) (ty := (.array (.object "BoardMachineModel$Floats"))) C (by decide +kernel) (Or.inr ⟨rfl, kw K hw q5172, hnm, rfl⟩) (fun _ h => h) (Nat.le_of_ble_eq_true rfl) (Nat.le_of_ble_eq_true rfl) (Nat.le_of_ble_eq_true rfl) rfl rfl (by decide) (fs_one (⟨rfl, ff_92_304 s0 H0 oa D⟩))) ?_
  refine fs_c1 (fs_newr (pc := 59) (n := 313250) (t := 930) (idx := 44) (CC := "BoardMachineModel$Desk") C (by decide +kernel) (kw K hw q4681) (kO K hw q4682) rfl (Nat.le_of_ble_eq_true rfl) rfl rfl) ?_
  refine fs_c1 (fs_putf (pc := 62) (n := 1279639922) (idx := 46) (ref := "BoardMachineModel") (O := "BoardMachineModel") (name := "desks") (desc := "[LBoardMachineModel$Desk;") (fin := true) (ty := (.array (.object "BoardMachineModel$Desk"))) C (by decide +kernel) (Or.inr ⟨rfl, kw K hw q5173, hnm, rfl⟩) (fun _ h => h) (Nat.le_of_ble_eq_true rfl) (Nat.le_of_ble_eq_true rfl) (Nat.le_of_ble_eq_true rfl) rfl rfl (by decide) (fs_one (⟨rfl, ff_92_305 s0 H0 oa D⟩))) ?_
  refine fs_c1 (fs_newr (pc := 67) (n := 314276) (t := 932) (idx := 50) (CC := "BoardMachineModel$Walk") C (by decide +kernel) (kw K hw q4683) (kO K hw q4684) rfl (Nat.le_of_ble_eq_true rfl) rfl rfl) ?_
  refine fs_c1 (fs_putf (pc := 70) (n := 1283834226) (idx := 52) (ref := "BoardMachineModel") (O := "BoardMachineModel") (name := "walks") (desc := "[LBoardMachineModel$Walk;") (fin := true) (ty := (.array (.object "BoardMachineModel$Walk"))) C (by decide +kernel) (Or.inr ⟨rfl, kw K hw q5174, hnm, rfl⟩) (fun _ h => h) (Nat.le_of_ble_eq_true rfl) (Nat.le_of_ble_eq_true rfl) (Nat.le_of_ble_eq_true rfl) rfl rfl (by decide) (fs_one (⟨rfl, ff_92_306 s0 H0 oa D⟩))) ?_
  refine fs_c1 (fs_newZ (pc := 75) (n := 315272) C (by decide +kernel) (kw K hw q4676) rfl rfl) ?_
  refine fs_c1 (fs_putf (pc := 77) (n := 1288028530) (idx := 56) (ref := "BoardMachineModel") (O := "BoardMachineModel") (name := "parked") (desc := "[Z") (fin := true) (ty := (.array .boolean)) C (by decide +kernel) (Or.inr ⟨rfl, kw K hw q5175, hnm, rfl⟩) (fun _ h => h) (Nat.le_of_ble_eq_true rfl) (Nat.le_of_ble_eq_true rfl) (Nat.le_of_ble_eq_true rfl) rfl rfl (by decide) (fs_one (⟨rfl, ff_92_307 s0 H0 oa D⟩))) ?_
  refine fs_c1 (fs_ldci (pc := 81) (idx := 60) (v := 65536) C (by decide +kernel) (kw K hw q4685)) ?_
  refine fs_c1 (fs_newI (pc := 83) (n := 316293) C (by decide +kernel) (kw K hw q966) rfl rfl) ?_
  refine fs_c1 (fs_putf (pc := 85) (n := 1292222834) (idx := 61) (ref := "BoardMachineModel") (O := "BoardMachineModel") (name := "tape") (desc := "[I") (fin := true) (ty := (.array .int)) C (by decide +kernel) (Or.inr ⟨rfl, kw K hw q5176, hnm, rfl⟩) (fun _ h => h) (Nat.le_of_ble_eq_true rfl) (Nat.le_of_ble_eq_true rfl) (Nat.le_of_ble_eq_true rfl) rfl rfl (by decide) (fs_one (⟨rfl, ff_92_308 s0 H0 oa D⟩))) ?_
  refine fs_c1 (fs_ldci (pc := 89) (idx := 60) (v := 65536) C (by decide +kernel) (kw K hw q4685)) ?_
  refine fs_c1 (fs_newI (pc := 91) (n := 318341) C (by decide +kernel) (kw K hw q966) rfl rfl) ?_
  refine fs_c1 (fs_putf (pc := 93) (n := 1300611442) (idx := 65) (ref := "BoardMachineModel") (O := "BoardMachineModel") (name := "input") (desc := "[I") (fin := true) (ty := (.array .int)) C (by decide +kernel) (Or.inr ⟨rfl, kw K hw q5178, hnm, rfl⟩) (fun _ h => h) (Nat.le_of_ble_eq_true rfl) (Nat.le_of_ble_eq_true rfl) (Nat.le_of_ble_eq_true rfl) rfl rfl (by decide) (fs_one (⟨rfl, ff_92_310 s0 H0 oa D⟩))) ?_
  refine fs_c1 (fs_ldcl (pc := 97) (idx := 68) (v := 2147483648) C (by decide +kernel) (kw K hw q4686)) ?_
  refine fs_c1 (fs_putf (pc := 100) (n := 1313194353) (idx := 70) (ref := "BoardMachineModel") (O := "BoardMachineModel") (name := "entry") (desc := "J") (fin := false) (ty := .long) C (by decide +kernel) (Or.inl ⟨rfl, Or.inl (kw K hw q5181)⟩) (fun _ h => h) (Nat.le_of_ble_eq_true rfl) (Nat.le_of_ble_eq_true rfl) (Nat.le_of_ble_eq_true rfl) rfl rfl (by decide) (fs_one (⟨rfl, ff_92_313 s0 H0 oa D⟩))) ?_
  refine fs_c1 (fs_putf (pc := 105) (n := 1321582960) (idx := 74) (ref := "BoardMachineModel") (O := "BoardMachineModel") (name := "code") (desc := "I") (fin := false) (ty := .int) C (by decide +kernel) (Or.inl ⟨rfl, Or.inl (kw K hw q5183)⟩) (fun _ h => h) (Nat.le_of_ble_eq_true rfl) (Nat.le_of_ble_eq_true rfl) (Nat.le_of_ble_eq_true rfl) rfl rfl (by decide) (fs_one (⟨rfl, ff_92_315 s0 H0 oa D⟩))) ?_
  refine fs_c1 (fs_newL (pc := 111) (n := 331654) C (by decide +kernel) (kw K hw q648) rfl rfl) ?_
  refine fs_c1 (fs_putf (pc := 113) (n := 1355137394) (idx := 78) (ref := "BoardMachineModel") (O := "BoardMachineModel") (name := "places") (desc := "[J") (fin := true) (ty := (.array .long)) C (by decide +kernel) (Or.inr ⟨rfl, kw K hw q5191, hnm, rfl⟩) (fun _ h => h) (Nat.le_of_ble_eq_true rfl) (Nat.le_of_ble_eq_true rfl) (Nat.le_of_ble_eq_true rfl) rfl rfl (by decide) (fs_one (⟨rfl, ff_92_323 s0 H0 oa D⟩))) ?_
  refine fs_c1 (fs_putf (pc := 132) (n := 1246085488) (idx := 82) (ref := "BoardMachineModel") (O := "BoardMachineModel") (name := "processors") (desc := "I") (fin := true) (ty := .int) C (by decide +kernel) (Or.inr ⟨rfl, kw K hw q5165, hnm, rfl⟩) (fun _ h => h) (Nat.le_of_ble_eq_true rfl) (Nat.le_of_ble_eq_true rfl) (Nat.le_of_ble_eq_true rfl) rfl rfl (by decide) (fs_one (⟨rfl, ff_92_297 s0 H0 oa D⟩))) ?_
  refine fs_c1 (fs_newo (pc := 136) (n := 6357) (idx := 85) (CC := "BoardMachineModel$Signals") (T := fT_99) (N := 21) C (by decide +kernel) (kw K hw q4687) (kw K hw q4688) (kw K hw q414) (by decide) (Nat.le_of_ble_eq_true rfl) rfl rfl) ?_
  refine fs_c1 (fs_getf (pc := 141) (n := 1246085488) (idx := 82) (ref := "BoardMachineModel") (O := "BoardMachineModel") (name := "processors") (desc := "I") C (by decide +kernel) (Or.inl (kw K hw q5165)) (fun _ h => h) (Nat.le_of_ble_eq_true rfl) (Nat.le_of_ble_eq_true rfl) (fs_one (⟨_, ff_92_297 s0 H0 oa D⟩))) ?_
  refine fs_c1 (fs_inv_virtual (pc := 144) (n := 209816675) C (Nat.le_of_ble_eq_true rfl) (Nat.le_of_ble_eq_true rfl) (fs_lk_init (idx := 87) (y := ⟨"BoardMachineModel$Signals", "<init>", "(I)V"⟩) (bytes := prog_118_method_1_code) (maxL := 3) (d := 1) C (Nat.le_of_ble_eq_true rfl) (Nat.le_of_ble_eq_true rfl) (by decide +kernel) (kw K hw q4691) (kw K hw q414) (kw K hw q4690) (Or.inl (kw K hw q4689)) rfl ⟨by decide, by decide⟩ rfl (Nat.le_of_ble_eq_true rfl) (Nat.le_of_ble_eq_true rfl)) fs_con_mono o3) ?_
  refine fs_c1 (fs_putf (pc := 147) (n := 1262862706) (idx := 90) (ref := "BoardMachineModel") (O := "BoardMachineModel") (name := "signals") (desc := "LBoardMachineModel$Signals;") (fin := true) (ty := (.object "BoardMachineModel$Signals")) C (by decide +kernel) (Or.inr ⟨rfl, kw K hw q5169, hnm, rfl⟩) (fun _ h => h) (Nat.le_of_ble_eq_true rfl) (Nat.le_of_ble_eq_true rfl) (Nat.le_of_ble_eq_true rfl) rfl rfl (by decide) (fs_one (⟨rfl, ff_92_301 s0 H0 oa D⟩))) ?_
  refine fs_c1 (fs_newo (pc := 151) (n := 6407) (idx := 94) (CC := "BoardMachineModel$Tree") (T := fT_100) (N := 7) C (by decide +kernel) (kw K hw q4760) (kw K hw q4761) (kw K hw q415) (by decide) (Nat.le_of_ble_eq_true rfl) rfl rfl) ?_
  refine fs_c1 (fs_getf (pc := 156) (n := 1246085488) (idx := 82) (ref := "BoardMachineModel") (O := "BoardMachineModel") (name := "processors") (desc := "I") C (by decide +kernel) (Or.inl (kw K hw q5165)) (fun _ h => h) (Nat.le_of_ble_eq_true rfl) (Nat.le_of_ble_eq_true rfl) (fs_one (⟨_, ff_92_297 s0 H0 oa D⟩))) ?_
  refine fs_c1 (fs_inv_virtual (pc := 159) (n := 276926564) C (Nat.le_of_ble_eq_true rfl) (Nat.le_of_ble_eq_true rfl) (fs_lk_init (idx := 96) (y := ⟨"BoardMachineModel$Tree", "<init>", "(I)V"⟩) (bytes := prog_119_method_1_code) (maxL := 2) (d := 11) C (Nat.le_of_ble_eq_true rfl) (Nat.le_of_ble_eq_true rfl) (by decide +kernel) (kw K hw q4764) (kw K hw q415) (kw K hw q4763) (Or.inl (kw K hw q4762)) rfl ⟨by decide, by decide⟩ rfl (Nat.le_of_ble_eq_true rfl) (Nat.le_of_ble_eq_true rfl)) fs_con_mono o4) ?_
  refine fs_c1 (fs_putf (pc := 162) (n := 1267057010) (idx := 97) (ref := "BoardMachineModel") (O := "BoardMachineModel") (name := "tree") (desc := "LBoardMachineModel$Tree;") (fin := true) (ty := (.object "BoardMachineModel$Tree")) C (by decide +kernel) (Or.inr ⟨rfl, kw K hw q5170, hnm, rfl⟩) (fun _ h => h) (Nat.le_of_ble_eq_true rfl) (Nat.le_of_ble_eq_true rfl) (Nat.le_of_ble_eq_true rfl) rfl rfl (by decide) (fs_one (⟨rfl, ff_92_302 s0 H0 oa D⟩))) ?_
  refine fs_c1 (fs_getf (pc := 169) (n := 1246085488) (idx := 82) (ref := "BoardMachineModel") (O := "BoardMachineModel") (name := "processors") (desc := "I") C (by decide +kernel) (Or.inl (kw K hw q5165)) (fun _ h => h) (Nat.le_of_ble_eq_true rfl) (Nat.le_of_ble_eq_true rfl) (fs_one (⟨_, ff_92_297 s0 H0 oa D⟩))) ?_
  refine fs_c1 (fs_getf (pc := 176) (n := 1271251314) (idx := 34) (ref := "BoardMachineModel") (O := "BoardMachineModel") (name := "cores") (desc := "[LBoardMachineModel$Core;") C (by decide +kernel) (Or.inl (kw K hw q5171)) (fun _ h => h) (Nat.le_of_ble_eq_true rfl) (Nat.le_of_ble_eq_true rfl) (fs_one (⟨_, ff_92_303 s0 H0 oa D⟩))) ?_
  refine fs_c1 (fs_newo (pc := 180) (n := 6029) (idx := 32) (CC := "BoardMachineModel$Core") (T := fT_94) (N := 13) C (by decide +kernel) (kw K hw q4677) (kw K hw q4946) (kw K hw q416) (by decide) (Nat.le_of_ble_eq_true rfl) rfl rfl) ?_
  refine fs_c1 (fs_inv_virtual (pc := 184) (n := 406943838) C (Nat.le_of_ble_eq_true rfl) (Nat.le_of_ble_eq_true rfl) (fs_lk_init (idx := 101) (y := ⟨"BoardMachineModel$Core", "<init>", "()V"⟩) (bytes := prog_113_method_1_code) (maxL := 1) (d := 1) C (Nat.le_of_ble_eq_true rfl) (Nat.le_of_ble_eq_true rfl) (by decide +kernel) (kw K hw q4949) (kw K hw q416) (kw K hw q4948) (Or.inl (kw K hw q4947)) rfl ⟨by decide, by decide⟩ rfl (Nat.le_of_ble_eq_true rfl) (Nat.le_of_ble_eq_true rfl)) fs_con_mono o6) ?_
  refine fs_c1 (fs_astr (pc := 187) (n := 974223454) (EE := "BoardMachineModel$Core") C (by decide +kernel) (Nat.le_of_ble_eq_true rfl) rfl rfl (Nat.le_of_ble_eq_true rfl) (Nat.le_of_ble_eq_true rfl) (fs_one (⟨_, rfl, Or.inl rfl⟩))) ?_
  refine fs_c1 (fs_getf (pc := 189) (n := 1275445618) (idx := 40) (ref := "BoardMachineModel") (O := "BoardMachineModel") (name := "floats") (desc := "[LBoardMachineModel$Floats;") C (by decide +kernel) (Or.inl (kw K hw q5172)) (fun _ h => h) (Nat.le_of_ble_eq_true rfl) (Nat.le_of_ble_eq_true rfl) (fs_one (⟨_, ff_92_304 s0 H0 oa D⟩))) ?_
  refine fs_c1 (fs_newo (pc := 193) (n := 6164) (idx := 38) (CC := "BoardMachineModel$Floats") (T := fT_96) (N := 20) C (by decide +kernel) (kw K hw q4679) (kw K hw q4991) (kw K hw q417) (by decide) (Nat.le_of_ble_eq_true rfl) rfl rfl) ?_
  refine fs_c1 (fs_inv_virtual (pc := 197) (n := 474054752) C (Nat.le_of_ble_eq_true rfl) (Nat.le_of_ble_eq_true rfl) (fs_lk_init (idx := 102) (y := ⟨"BoardMachineModel$Floats", "<init>", "()V"⟩) (bytes := prog_115_method_1_code) (maxL := 1) (d := 1) C (Nat.le_of_ble_eq_true rfl) (Nat.le_of_ble_eq_true rfl) (by decide +kernel) (kw K hw q4994) (kw K hw q417) (kw K hw q4993) (Or.inl (kw K hw q4992)) rfl ⟨by decide, by decide⟩ rfl (Nat.le_of_ble_eq_true rfl) (Nat.le_of_ble_eq_true rfl)) fs_con_mono o7) ?_
  refine fs_c1 (fs_astr (pc := 200) (n := 976322656) (EE := "BoardMachineModel$Floats") C (by decide +kernel) (Nat.le_of_ble_eq_true rfl) rfl rfl (Nat.le_of_ble_eq_true rfl) (Nat.le_of_ble_eq_true rfl) (fs_one (⟨_, rfl, Or.inl rfl⟩))) ?_
  refine fs_c1 (fs_getf (pc := 202) (n := 1279639922) (idx := 46) (ref := "BoardMachineModel") (O := "BoardMachineModel") (name := "desks") (desc := "[LBoardMachineModel$Desk;") C (by decide +kernel) (Or.inl (kw K hw q5173)) (fun _ h => h) (Nat.le_of_ble_eq_true rfl) (Nat.le_of_ble_eq_true rfl) (fs_one (⟨_, ff_92_305 s0 H0 oa D⟩))) ?_
  refine fs_c1 (fs_newo (pc := 206) (n := 6088) (idx := 44) (CC := "BoardMachineModel$Desk") (T := fT_95) (N := 8) C (by decide +kernel) (kw K hw q4681) (kw K hw q5057) (kw K hw q418) (by decide) (Nat.le_of_ble_eq_true rfl) rfl rfl) ?_
  refine fs_c1 (fs_inv_virtual (pc := 211) (n := 545356895) C (Nat.le_of_ble_eq_true rfl) (Nat.le_of_ble_eq_true rfl) (fs_lk_init (idx := 103) (y := ⟨"BoardMachineModel$Desk", "<init>", "(I)V"⟩) (bytes := prog_114_method_1_code) (maxL := 2) (d := 1) C (Nat.le_of_ble_eq_true rfl) (Nat.le_of_ble_eq_true rfl) (by decide +kernel) (kw K hw q5060) (kw K hw q418) (kw K hw q5059) (Or.inl (kw K hw q5058)) rfl ⟨by decide, by decide⟩ rfl (Nat.le_of_ble_eq_true rfl) (Nat.le_of_ble_eq_true rfl)) fs_con_mono o8) ?_
  refine fs_c1 (fs_astr (pc := 214) (n := 975273055) (EE := "BoardMachineModel$Desk") C (by decide +kernel) (Nat.le_of_ble_eq_true rfl) rfl rfl (Nat.le_of_ble_eq_true rfl) (Nat.le_of_ble_eq_true rfl) (fs_one (⟨_, rfl, Or.inl rfl⟩))) ?_
  refine fs_c1 (fs_getf (pc := 216) (n := 1283834226) (idx := 52) (ref := "BoardMachineModel") (O := "BoardMachineModel") (name := "walks") (desc := "[LBoardMachineModel$Walk;") C (by decide +kernel) (Or.inl (kw K hw q5174)) (fun _ h => h) (Nat.le_of_ble_eq_true rfl) (Nat.le_of_ble_eq_true rfl) (fs_one (⟨_, ff_92_306 s0 H0 oa D⟩))) ?_
  refine fs_c1 (fs_newo (pc := 220) (n := 6473) (idx := 50) (CC := "BoardMachineModel$Walk") (T := fT_101) (N := 9) C (by decide +kernel) (kw K hw q4683) (kw K hw q5087) (kw K hw q419) (by decide) (Nat.le_of_ble_eq_true rfl) rfl rfl) ?_
  refine fs_c1 (fs_getf (pc := 225) (n := 1250279794) (idx := 10) (ref := "BoardMachineModel") (O := "BoardMachineModel") (name := "ram") (desc := "LBoardMachineModel$Ram;") C (by decide +kernel) (Or.inl (kw K hw q5166)) (fun _ h => h) (Nat.le_of_ble_eq_true rfl) (Nat.le_of_ble_eq_true rfl) (fs_one (⟨_, ff_92_298 s0 H0 oa D⟩))) ?_
  refine fs_c1 (fs_inv_virtual (pc := 228) (n := 612471909) C (Nat.le_of_ble_eq_true rfl) (Nat.le_of_ble_eq_true rfl) (fs_lk_init (idx := 104) (y := ⟨"BoardMachineModel$Walk", "<init>", "(LBoardMachineModel$Ram;)V"⟩) (bytes := prog_120_method_1_code) (maxL := 2) (d := 1) C (Nat.le_of_ble_eq_true rfl) (Nat.le_of_ble_eq_true rfl) (by decide +kernel) (kw K hw q5090) (kw K hw q419) (kw K hw q5089) (Or.inl (kw K hw q5088)) rfl ⟨by decide, by decide⟩ rfl (Nat.le_of_ble_eq_true rfl) (Nat.le_of_ble_eq_true rfl)) fs_con_mono o9) ?_
  refine fs_c1 (fs_astr (pc := 231) (n := 977376357) (EE := "BoardMachineModel$Walk") C (by decide +kernel) (Nat.le_of_ble_eq_true rfl) rfl rfl (Nat.le_of_ble_eq_true rfl) (Nat.le_of_ble_eq_true rfl) (fs_one (⟨_, rfl, Or.inl rfl⟩))) ?_
  refine fs_c1 (fs_inv_virtual (pc := 239) (n := 340881500) C (Nat.le_of_ble_eq_true rfl) (Nat.le_of_ble_eq_true rfl) (fs_lk_virtual (idx := 105) (y := ⟨"BoardMachineModel", "begin", "()I"⟩) (bytes := prog_111_method_14_code) (maxL := 2) (rt := (Option.some Jvm.ClassFile.FieldType.int)) (d := 3) C (Nat.le_of_ble_eq_true rfl) (Nat.le_of_ble_eq_true rfl) (by decide +kernel) (kw K hw q5123) (kw K hw q410) (kw K hw q5122) (Or.inl (kw K hw q5120)) ⟨by decide, by decide⟩ rfl (Nat.le_of_ble_eq_true rfl) (Nat.le_of_ble_eq_true rfl) (fs_one (⟨_, rfl, kw K hw qs146⟩))) fs_con_mono o5) ?_
  exact fs_c0
theorem hX1_start (n : Nat) : fe_H (sX1_start (FX2_start n)) cX1_start [0] fe_ki [] 20 (fun _ => dX1_start (FX1_start_0 n)) := by
  intro j pc L st M r hc h
  rcases fe_mem_c hc with rfl | hc
  · obtain ⟨w0, m0, h⟩ := fe_lR_d h
    obtain ⟨rfl, hz⟩ := fe_t0_d h
    exact ⟨[(0, .ref w0)], (fe_cs m0 fe_nl), Or.inr ((bX1_start_0 (FX2_start n) (FX1_start_0 n ) w0 M).symm.trans hz)⟩
  exact fe_mem_0 hc
theorem vX1_start (n : Nat) : fe_SB (sX1_start (FX2_start n)) := by
  refine ⟨?_, ?_, ?_, ?_⟩
  · intro i As M r h
    exact fe_no h
  · intro i As M r h
    rcases fe_bc h with h | h
    · obtain ⟨v0, t0, rfl, g0⟩ := fe_tR_d h
      obtain ⟨rfl, hz⟩ := fe_t0_d g0
      exact mX2_start n v0 M r hz
    exact fe_no h
  · intro i As M r h
    exact fe_no h
  · intro i As M r h
    exact fe_no h
theorem eX1_start (g0 : Nat → FM → Option (Int32 × FM)) (a0 : Nat) (M : FM) : dX1_start g0 0 [(0, .ref a0)] [] M = g0 a0 M := by rfl
theorem mX1_start (n : Nat) (a0 : Nat) (M : FM) (r : Int32 × FM) (h : FX1_start n a0 M = some r) : fm_nx M ≤ fm_nx r.2 ∧ fm_ns M ≤ fm_ns r.2 :=
  fe_mono (L0 := [(0, .ref a0)]) (vX1_start n) (by decide +kernel) (hX1_start n) (fe_ki_k r) 0 rfl ((eX1_start (FX1_start_0 n ) a0 M).trans h)
theorem zX1_start {s0 : State} {H0 : Heap} {oa : Nat → Nat} {D : va_G} (K : fk s0 H0 oa D) (l : Launch) (n : Nat) (a0 : Nat) (M : FM) (r : Int32 × FM) (h : FX1_start n a0 M = some r) : fs_Con (fk_E s0 H0 oa D) l 12 ⟨"BoardMachine", "start", "()I"⟩ prog_1_method_8_code 1 (Option.some Jvm.ClassFile.FieldType.int) [.ref a0] M (some (.int r.1)) r.2 := by
  have o0 : fs_OS (sX1_start (FX2_start n)) 0 1 (fs_Con (fk_E s0 H0 oa D) l 11 ⟨"BoardMachine$Machine", "start", "()I"⟩ prog_76_method_2_code 6 (Option.some Jvm.ClassFile.FieldType.int)) := by
    intro As M r h
    obtain ⟨v0, t0, rfl, g0⟩ := fe_tR_d h
    obtain ⟨rfl, hz⟩ := fe_t0_d g0
    exact zX2_start K l n v0 M r hz
  refine fs_method (own := "BoardMachine") rfl (by decide) K.2.1 (by rw [fe_slen]; exact (Nat.le_of_ble_eq_true rfl)) (mX1_start n a0 M r h) (hX1_start n) 0 rfl (L0 := [(0, .ref a0)]) (fun E => fe_args_e E [.ref a0] 0) ((eX1_start (FX1_start_0 n ) a0 M).trans h) (fe_ki_k r) (fun H hR => fs_nr_o (by decide) (by decide)) ?_
  intro p e s m args below meth c Q C hnm
  have hw : s0.WarmedH s.vm := C.2.2.2.2.1
  refine fe_all C fk_hwr cX1_start [1, 4] (by decide +kernel) (fe_fil (cps := [(1, 4, .getfield 71344170), (4, 7, .invokevirtual 5311555)]) (by decide +kernel) ?_)
  refine fs_c1 (fs_getf (pc := 1) (n := 71344170) (idx := 14) (ref := "BoardMachine") (O := "BoardMachine") (name := "machine") (desc := "LBoardMachine$Machine;") C (by decide +kernel) (Or.inl (kw K hw q2534)) (fun _ h => h) (Nat.le_of_ble_eq_true rfl) (Nat.le_of_ble_eq_true rfl) (fs_one (⟨_, ff_10_17 s0 H0 oa D⟩))) ?_
  refine fs_c1 (fs_inv_virtual (pc := 4) (n := 5311555) C (Nat.le_of_ble_eq_true rfl) (Nat.le_of_ble_eq_true rfl) (fs_lk_virtual (idx := 86) (y := ⟨"BoardMachine$Machine", "start", "()I"⟩) (bytes := prog_76_method_2_code) (maxL := 6) (rt := (Option.some Jvm.ClassFile.FieldType.int)) (d := 11) C (Nat.le_of_ble_eq_true rfl) (Nat.le_of_ble_eq_true rfl) (by decide +kernel) (kw K hw q2142) (kw K hw q312) (kw K hw q2140) (Or.inl (kw K hw q2542)) ⟨by decide, by decide⟩ rfl (Nat.le_of_ble_eq_true rfl) (Nat.le_of_ble_eq_true rfl) (fs_one (⟨_, rfl, kw K hw q2141⟩))) fs_con_mono o0) ?_
  exact fs_c0
theorem hX1_code : fe_H (sX1_code) cX1_code [0] fe_ki [] 20 (fun _ => dX1_code FX1_code_0) := by
  intro j pc L st M r hc h
  rcases fe_mem_c hc with rfl | hc
  · obtain ⟨w0, m0, h⟩ := fe_lR_d h
    obtain ⟨rfl, hz⟩ := fe_t0_d h
    exact ⟨[(0, .ref w0)], (fe_cs m0 fe_nl), Or.inr ((bX1_code_0 FX1_code_0 w0 M).symm.trans hz)⟩
  exact fe_mem_0 hc
theorem vX1_code : fe_SB (sX1_code) := by
  refine ⟨?_, ?_, ?_, ?_⟩
  · intro i As M r h
    exact fe_no h
  · intro i As M r h
    exact fe_no h
  · intro i As M r h
    exact fe_no h
  · intro i As M r h
    exact fe_no h
theorem eX1_code (g0 : Nat → FM → Option (Int32 × FM)) (a0 : Nat) (M : FM) : dX1_code g0 0 [(0, .ref a0)] [] M = g0 a0 M := by rfl
theorem mX1_code (a0 : Nat) (M : FM) (r : Int32 × FM) (h : FX1_code a0 M = some r) : fm_nx M ≤ fm_nx r.2 ∧ fm_ns M ≤ fm_ns r.2 :=
  fe_mono (L0 := [(0, .ref a0)]) (vX1_code) (by decide +kernel) (hX1_code) (fe_ki_k r) 0 rfl ((eX1_code FX1_code_0 a0 M).trans h)
theorem zX1_code {s0 : State} {H0 : Heap} {oa : Nat → Nat} {D : va_G} (K : fk s0 H0 oa D) (l : Launch) (a0 : Nat) (M : FM) (r : Int32 × FM) (h : FX1_code a0 M = some r) : fs_Con (fk_E s0 H0 oa D) l 1 ⟨"BoardMachine", "code", "()I"⟩ prog_1_method_10_code 1 (Option.some Jvm.ClassFile.FieldType.int) [.ref a0] M (some (.int r.1)) r.2 := by
  refine fs_method (own := "BoardMachine") rfl (by decide) K.2.1 (by rw [fe_slen]; exact (Nat.le_of_ble_eq_true rfl)) (mX1_code a0 M r h) (hX1_code) 0 rfl (L0 := [(0, .ref a0)]) (fun E => fe_args_e E [.ref a0] 0) ((eX1_code FX1_code_0 a0 M).trans h) (fe_ki_k r) (fun H hR => fs_nr_o (by decide) (by decide)) ?_
  intro p e s m args below meth c Q C hnm
  have hw : s0.WarmedH s.vm := C.2.2.2.2.1
  refine fe_all C fk_hwr cX1_code [1, 4, 7] (by decide +kernel) (fe_fil (cps := [(1, 4, .getfield 71344170), (4, 7, .getfield 792998158), (7, 10, .getfield 96514092)]) (by decide +kernel) ?_)
  refine fs_c1 (fs_getf (pc := 1) (n := 71344170) (idx := 14) (ref := "BoardMachine") (O := "BoardMachine") (name := "machine") (desc := "LBoardMachine$Machine;") C (by decide +kernel) (Or.inl (kw K hw q2534)) (fun _ h => h) (Nat.le_of_ble_eq_true rfl) (Nat.le_of_ble_eq_true rfl) (fs_one (⟨_, ff_10_17 s0 H0 oa D⟩))) ?_
  refine fs_c1 (fs_getf (pc := 4) (n := 792998158) (idx := 52) (ref := "BoardMachine$Machine") (O := "BoardMachine$Machine") (name := "board") (desc := "LBoardMachine$Board;") C (by decide +kernel) (Or.inr ⟨_, kF K hw q2503⟩) (fun _ h => h) (Nat.le_of_ble_eq_true rfl) (Nat.le_of_ble_eq_true rfl) (fs_one (⟨_, ff_67_189 s0 H0 oa D⟩))) ?_
  refine fs_c1 (fs_getf (pc := 7) (n := 96514092) (idx := 93) (ref := "BoardMachine$Board") (O := "BoardMachine$Board") (name := "code") (desc := "I") C (by decide +kernel) (Or.inr ⟨_, kF K hw q1053⟩) (fun _ h => h) (Nat.le_of_ble_eq_true rfl) (Nat.le_of_ble_eq_true rfl) (fs_one (⟨_, ff_11_23 s0 H0 oa D⟩))) ?_
  exact fs_c0
theorem hX1_processors : fe_H (sX1_processors) cX1_processors [0] fe_ki [] 20 (fun _ => dX1_processors FX1_processors_0) := by
  intro j pc L st M r hc h
  rcases fe_mem_c hc with rfl | hc
  · obtain ⟨w0, m0, h⟩ := fe_lR_d h
    obtain ⟨rfl, hz⟩ := fe_t0_d h
    exact ⟨[(0, .ref w0)], (fe_cs m0 fe_nl), Or.inr ((bX1_processors_0 FX1_processors_0 w0 M).symm.trans hz)⟩
  exact fe_mem_0 hc
theorem vX1_processors : fe_SB (sX1_processors) := by
  refine ⟨?_, ?_, ?_, ?_⟩
  · intro i As M r h
    exact fe_no h
  · intro i As M r h
    exact fe_no h
  · intro i As M r h
    exact fe_no h
  · intro i As M r h
    exact fe_no h
theorem eX1_processors (g0 : Nat → FM → Option (Int32 × FM)) (a0 : Nat) (M : FM) : dX1_processors g0 0 [(0, .ref a0)] [] M = g0 a0 M := by rfl
theorem mX1_processors (a0 : Nat) (M : FM) (r : Int32 × FM) (h : FX1_processors a0 M = some r) : fm_nx M ≤ fm_nx r.2 ∧ fm_ns M ≤ fm_ns r.2 :=
  fe_mono (L0 := [(0, .ref a0)]) (vX1_processors) (by decide +kernel) (hX1_processors) (fe_ki_k r) 0 rfl ((eX1_processors FX1_processors_0 a0 M).trans h)
theorem zX1_processors {s0 : State} {H0 : Heap} {oa : Nat → Nat} {D : va_G} (K : fk s0 H0 oa D) (l : Launch) (a0 : Nat) (M : FM) (r : Int32 × FM) (h : FX1_processors a0 M = some r) : fs_Con (fk_E s0 H0 oa D) l 1 ⟨"BoardMachine", "processors", "()I"⟩ prog_1_method_11_code 1 (Option.some Jvm.ClassFile.FieldType.int) [.ref a0] M (some (.int r.1)) r.2 := by
  refine fs_method (own := "BoardMachine") rfl (by decide) K.2.1 (by rw [fe_slen]; exact (Nat.le_of_ble_eq_true rfl)) (mX1_processors a0 M r h) (hX1_processors) 0 rfl (L0 := [(0, .ref a0)]) (fun E => fe_args_e E [.ref a0] 0) ((eX1_processors FX1_processors_0 a0 M).trans h) (fe_ki_k r) (fun H hR => fs_nr_o (by decide) (by decide)) ?_
  intro p e s m args below meth c Q C hnm
  have hw : s0.WarmedH s.vm := C.2.2.2.2.1
  refine fe_all C fk_hwr cX1_processors [1, 4] (by decide +kernel) (fe_fil (cps := [(1, 4, .getfield 71344170), (4, 7, .getfield 797192462)]) (by decide +kernel) ?_)
  refine fs_c1 (fs_getf (pc := 1) (n := 71344170) (idx := 14) (ref := "BoardMachine") (O := "BoardMachine") (name := "machine") (desc := "LBoardMachine$Machine;") C (by decide +kernel) (Or.inl (kw K hw q2534)) (fun _ h => h) (Nat.le_of_ble_eq_true rfl) (Nat.le_of_ble_eq_true rfl) (fs_one (⟨_, ff_10_17 s0 H0 oa D⟩))) ?_
  refine fs_c1 (fs_getf (pc := 4) (n := 797192462) (idx := 24) (ref := "BoardMachine$Machine") (O := "BoardMachine$Machine") (name := "processors") (desc := "[LBoardMachine$Processor;") C (by decide +kernel) (Or.inr ⟨_, kF K hw q2505⟩) (fun _ h => h) (Nat.le_of_ble_eq_true rfl) (Nat.le_of_ble_eq_true rfl) (fs_one (⟨_, ff_67_190 s0 H0 oa D⟩))) ?_
  exact fs_c0
theorem hX1_sent : fe_H (sX1_sent) cX1_sent [0] fe_kl [] 20 (fun _ => dX1_sent FX1_sent_0) := by
  intro j pc L st M r hc h
  rcases fe_mem_c hc with rfl | hc
  · obtain ⟨w0, m0, h⟩ := fe_lR_d h
    obtain ⟨rfl, hz⟩ := fe_t0_d h
    exact ⟨[(0, .ref w0)], (fe_cs m0 fe_nl), Or.inr ((bX1_sent_0 FX1_sent_0 w0 M).symm.trans hz)⟩
  exact fe_mem_0 hc
theorem vX1_sent : fe_SB (sX1_sent) := by
  refine ⟨?_, ?_, ?_, ?_⟩
  · intro i As M r h
    exact fe_no h
  · intro i As M r h
    exact fe_no h
  · intro i As M r h
    exact fe_no h
  · intro i As M r h
    exact fe_no h
theorem eX1_sent (g0 : Nat → FM → Option (Int64 × FM)) (a0 : Nat) (M : FM) : dX1_sent g0 0 [(0, .ref a0)] [] M = g0 a0 M := by rfl
theorem mX1_sent (a0 : Nat) (M : FM) (r : Int64 × FM) (h : FX1_sent a0 M = some r) : fm_nx M ≤ fm_nx r.2 ∧ fm_ns M ≤ fm_ns r.2 :=
  fe_mono (L0 := [(0, .ref a0)]) (vX1_sent) (by decide +kernel) (hX1_sent) (fe_kl_k r) 0 rfl ((eX1_sent FX1_sent_0 a0 M).trans h)
theorem zX1_sent {s0 : State} {H0 : Heap} {oa : Nat → Nat} {D : va_G} (K : fk s0 H0 oa D) (l : Launch) (a0 : Nat) (M : FM) (r : Int64 × FM) (h : FX1_sent a0 M = some r) : fs_Con (fk_E s0 H0 oa D) l 1 ⟨"BoardMachine", "sent", "()J"⟩ prog_1_method_20_code 1 (Option.some Jvm.ClassFile.FieldType.long) [.ref a0] M (some (.long r.1)) r.2 := by
  refine fs_method (own := "BoardMachine") rfl (by decide) K.2.1 (by rw [fe_slen]; exact (Nat.le_of_ble_eq_true rfl)) (mX1_sent a0 M r h) (hX1_sent) 0 rfl (L0 := [(0, .ref a0)]) (fun E => fe_args_e E [.ref a0] 0) ((eX1_sent FX1_sent_0 a0 M).trans h) (fe_kl_k r) (fun H hR => fs_nr_o (by decide) (by decide)) ?_
  intro p e s m args below meth c Q C hnm
  have hw : s0.WarmedH s.vm := C.2.2.2.2.1
  refine fe_all C fk_hwr cX1_sent [1, 4, 7, 10, 13] (by decide +kernel) (fe_fil (cps := [(1, 4, .getfield 71344170), (4, 7, .getfield 792998158), (7, 10, .getfield 79736878), (10, 13, .getfield 1015345470), (13, 16, .getfield 981786937)]) (by decide +kernel) ?_)
  refine fs_c1 (fs_getf (pc := 1) (n := 71344170) (idx := 14) (ref := "BoardMachine") (O := "BoardMachine") (name := "machine") (desc := "LBoardMachine$Machine;") C (by decide +kernel) (Or.inl (kw K hw q2534)) (fun _ h => h) (Nat.le_of_ble_eq_true rfl) (Nat.le_of_ble_eq_true rfl) (fs_one (⟨_, ff_10_17 s0 H0 oa D⟩))) ?_
  refine fs_c1 (fs_getf (pc := 4) (n := 792998158) (idx := 52) (ref := "BoardMachine$Machine") (O := "BoardMachine$Machine") (name := "board") (desc := "LBoardMachine$Board;") C (by decide +kernel) (Or.inr ⟨_, kF K hw q2503⟩) (fun _ h => h) (Nat.le_of_ble_eq_true rfl) (Nat.le_of_ble_eq_true rfl) (fs_one (⟨_, ff_67_189 s0 H0 oa D⟩))) ?_
  refine fs_c1 (fs_getf (pc := 7) (n := 79736878) (idx := 188) (ref := "BoardMachine$Board") (O := "BoardMachine$Board") (name := "signals") (desc := "LBoardMachine$Signals$SignalUnit;") C (by decide +kernel) (Or.inr ⟨_, kF K hw q1043⟩) (fun _ h => h) (Nat.le_of_ble_eq_true rfl) (Nat.le_of_ble_eq_true rfl) (fs_one (⟨_, ff_11_19 s0 H0 oa D⟩))) ?_
  refine fs_c1 (fs_getf (pc := 10) (n := 1015345470) (idx := 192) (ref := "BoardMachine$Signals$SignalUnit") (O := "BoardMachine$Signals$SignalUnit") (name := "serial") (desc := "LBoardMachine$Signals$Serial;") C (by decide +kernel) (Or.inr ⟨_, kF K hw q1023⟩) (fun _ h => h) (Nat.le_of_ble_eq_true rfl) (Nat.le_of_ble_eq_true rfl) (fs_one (⟨_, ff_79_242 s0 H0 oa D⟩))) ?_
  refine fs_c1 (fs_getf (pc := 13) (n := 981786937) (idx := 198) (ref := "BoardMachine$Signals$Serial") (O := "BoardMachine$Signals$Serial") (name := "sent") (desc := "J") C (by decide +kernel) (Or.inr ⟨_, kF K hw q942⟩) (fun _ h => h) (Nat.le_of_ble_eq_true rfl) (Nat.le_of_ble_eq_true rfl) (fs_one (⟨_, ff_78_234 s0 H0 oa D⟩))) ?_
  exact fs_c0
theorem hX1_waiting : fe_H (sX1_waiting) cX1_waiting [0] fe_ki [] 20 (fun _ => dX1_waiting FX1_waiting_0) := by
  intro j pc L st M r hc h
  rcases fe_mem_c hc with rfl | hc
  · obtain ⟨w0, m0, h⟩ := fe_lR_d h
    obtain ⟨rfl, hz⟩ := fe_t0_d h
    exact ⟨[(0, .ref w0)], (fe_cs m0 fe_nl), Or.inr ((bX1_waiting_0 FX1_waiting_0 w0 M).symm.trans hz)⟩
  exact fe_mem_0 hc
theorem vX1_waiting : fe_SB (sX1_waiting) := by
  refine ⟨?_, ?_, ?_, ?_⟩
  · intro i As M r h
    exact fe_no h
  · intro i As M r h
    exact fe_no h
  · intro i As M r h
    exact fe_no h
  · intro i As M r h
    exact fe_no h
theorem eX1_waiting (g0 : Nat → FM → Option (Int32 × FM)) (a0 : Nat) (M : FM) : dX1_waiting g0 0 [(0, .ref a0)] [] M = g0 a0 M := by rfl
theorem mX1_waiting (a0 : Nat) (M : FM) (r : Int32 × FM) (h : FX1_waiting a0 M = some r) : fm_nx M ≤ fm_nx r.2 ∧ fm_ns M ≤ fm_ns r.2 :=
  fe_mono (L0 := [(0, .ref a0)]) (vX1_waiting) (by decide +kernel) (hX1_waiting) (fe_ki_k r) 0 rfl ((eX1_waiting FX1_waiting_0 a0 M).trans h)
theorem zX1_waiting {s0 : State} {H0 : Heap} {oa : Nat → Nat} {D : va_G} (K : fk s0 H0 oa D) (l : Launch) (a0 : Nat) (M : FM) (r : Int32 × FM) (h : FX1_waiting a0 M = some r) : fs_Con (fk_E s0 H0 oa D) l 1 ⟨"BoardMachine", "waiting", "()I"⟩ prog_1_method_22_code 1 (Option.some Jvm.ClassFile.FieldType.int) [.ref a0] M (some (.int r.1)) r.2 := by
  refine fs_method (own := "BoardMachine") rfl (by decide) K.2.1 (by rw [fe_slen]; exact (Nat.le_of_ble_eq_true rfl)) (mX1_waiting a0 M r h) (hX1_waiting) 0 rfl (L0 := [(0, .ref a0)]) (fun E => fe_args_e E [.ref a0] 0) ((eX1_waiting FX1_waiting_0 a0 M).trans h) (fe_ki_k r) (fun H hR => fs_nr_o (by decide) (by decide)) ?_
  intro p e s m args below meth c Q C hnm
  have hw : s0.WarmedH s.vm := C.2.2.2.2.1
  refine fe_all C fk_hwr cX1_waiting [1, 4] (by decide +kernel) (fe_fil (cps := [(1, 4, .getfield 71344170), (4, 7, .getfield 822358284)]) (by decide +kernel) ?_)
  refine fs_c1 (fs_getf (pc := 1) (n := 71344170) (idx := 14) (ref := "BoardMachine") (O := "BoardMachine") (name := "machine") (desc := "LBoardMachine$Machine;") C (by decide +kernel) (Or.inl (kw K hw q2534)) (fun _ h => h) (Nat.le_of_ble_eq_true rfl) (Nat.le_of_ble_eq_true rfl) (fs_one (⟨_, ff_10_17 s0 H0 oa D⟩))) ?_
  refine fs_c1 (fs_getf (pc := 4) (n := 822358284) (idx := 207) (ref := "BoardMachine$Machine") (O := "BoardMachine$Machine") (name := "inputSize") (desc := "I") C (by decide +kernel) (Or.inr ⟨_, kF K hw q2513⟩) (fun _ h => h) (Nat.le_of_ble_eq_true rfl) (Nat.le_of_ble_eq_true rfl) (fs_one (⟨_, ff_67_196 s0 H0 oa D⟩))) ?_
  exact fs_c0
theorem hX1_changed : fe_H (sX1_changed) cX1_changed [0] fe_ki [] 20 (fun _ => dX1_changed FX1_changed_0) := by
  intro j pc L st M r hc h
  rcases fe_mem_c hc with rfl | hc
  · obtain ⟨w0, m0, h⟩ := fe_lR_d h
    obtain ⟨rfl, hz⟩ := fe_t0_d h
    exact ⟨[(0, .ref w0)], (fe_cs m0 fe_nl), Or.inr ((bX1_changed_0 FX1_changed_0 w0 M).symm.trans hz)⟩
  exact fe_mem_0 hc
theorem vX1_changed : fe_SB (sX1_changed) := by
  refine ⟨?_, ?_, ?_, ?_⟩
  · intro i As M r h
    exact fe_no h
  · intro i As M r h
    exact fe_no h
  · intro i As M r h
    exact fe_no h
  · intro i As M r h
    exact fe_no h
theorem eX1_changed (g0 : Nat → FM → Option (Int32 × FM)) (a0 : Nat) (M : FM) : dX1_changed g0 0 [(0, .ref a0)] [] M = g0 a0 M := by rfl
theorem mX1_changed (a0 : Nat) (M : FM) (r : Int32 × FM) (h : FX1_changed a0 M = some r) : fm_nx M ≤ fm_nx r.2 ∧ fm_ns M ≤ fm_ns r.2 :=
  fe_mono (L0 := [(0, .ref a0)]) (vX1_changed) (by decide +kernel) (hX1_changed) (fe_ki_k r) 0 rfl ((eX1_changed FX1_changed_0 a0 M).trans h)
theorem zX1_changed {s0 : State} {H0 : Heap} {oa : Nat → Nat} {D : va_G} (K : fk s0 H0 oa D) (l : Launch) (a0 : Nat) (M : FM) (r : Int32 × FM) (h : FX1_changed a0 M = some r) : fs_Con (fk_E s0 H0 oa D) l 1 ⟨"BoardMachine", "changed", "()I"⟩ prog_1_method_23_code 1 (Option.some Jvm.ClassFile.FieldType.int) [.ref a0] M (some (.int r.1)) r.2 := by
  refine fs_method (own := "BoardMachine") rfl (by decide) K.2.1 (by rw [fe_slen]; exact (Nat.le_of_ble_eq_true rfl)) (mX1_changed a0 M r h) (hX1_changed) 0 rfl (L0 := [(0, .ref a0)]) (fun E => fe_args_e E [.ref a0] 0) ((eX1_changed FX1_changed_0 a0 M).trans h) (fe_ki_k r) (fun H hR => fs_nr_o (by decide) (by decide)) ?_
  intro p e s m args below meth c Q C hnm
  have hw : s0.WarmedH s.vm := C.2.2.2.2.1
  refine fe_all C fk_hwr cX1_changed [1, 4, 7, 10, 13] (by decide +kernel) (fe_fil (cps := [(1, 4, .getfield 71344170), (4, 7, .getfield 792998158), (7, 10, .getfield 83931182), (10, 13, .getfield 247554138), (13, 16, .getfield 293695580)]) (by decide +kernel) ?_)
  refine fs_c1 (fs_getf (pc := 1) (n := 71344170) (idx := 14) (ref := "BoardMachine") (O := "BoardMachine") (name := "machine") (desc := "LBoardMachine$Machine;") C (by decide +kernel) (Or.inl (kw K hw q2534)) (fun _ h => h) (Nat.le_of_ble_eq_true rfl) (Nat.le_of_ble_eq_true rfl) (fs_one (⟨_, ff_10_17 s0 H0 oa D⟩))) ?_
  refine fs_c1 (fs_getf (pc := 4) (n := 792998158) (idx := 52) (ref := "BoardMachine$Machine") (O := "BoardMachine$Machine") (name := "board") (desc := "LBoardMachine$Board;") C (by decide +kernel) (Or.inr ⟨_, kF K hw q2503⟩) (fun _ h => h) (Nat.le_of_ble_eq_true rfl) (Nat.le_of_ble_eq_true rfl) (fs_one (⟨_, ff_67_189 s0 H0 oa D⟩))) ?_
  refine fs_c1 (fs_getf (pc := 7) (n := 83931182) (idx := 170) (ref := "BoardMachine$Board") (O := "BoardMachine$Board") (name := "disk") (desc := "LBoardMachine$Disks$Device;") C (by decide +kernel) (Or.inr ⟨_, kF K hw q1047⟩) (fun _ h => h) (Nat.le_of_ble_eq_true rfl) (Nat.le_of_ble_eq_true rfl) (fs_one (⟨_, ff_11_20 s0 H0 oa D⟩))) ?_
  refine fs_c1 (fs_getf (pc := 10) (n := 247554138) (idx := 174) (ref := "BoardMachine$Disks$Device") (O := "BoardMachine$Disks$Device") (name := "disk") (desc := "LBoardMachine$Disks$Disk;") C (by decide +kernel) (Or.inr ⟨_, kF K hw q881⟩) (fun _ h => h) (Nat.le_of_ble_eq_true rfl) (Nat.le_of_ble_eq_true rfl) (fs_one (⟨_, ff_22_59 s0 H0 oa D⟩))) ?_
  refine fs_c1 (fs_getf (pc := 13) (n := 293695580) (idx := 210) (ref := "BoardMachine$Disks$Disk") (O := "BoardMachine$Disks$Disk") (name := "changed") (desc := "I") C (by decide +kernel) (Or.inr ⟨_, kF K hw q839⟩) (fun _ h => h) (Nat.le_of_ble_eq_true rfl) (Nat.le_of_ble_eq_true rfl) (fs_one (⟨_, ff_23_70 s0 H0 oa D⟩))) ?_
  exact fs_c0
theorem hX10_time : fe_H (sX10_time) cX10_time [0] fe_kl [] 20 (fun _ => dX10_time FX10_time_0) := by
  intro j pc L st M r hc h
  rcases fe_mem_c hc with rfl | hc
  · obtain ⟨w0, m0, h⟩ := fe_lR_d h
    obtain ⟨rfl, hz⟩ := fe_t0_d h
    exact ⟨[(0, .ref w0)], (fe_cs m0 fe_nl), Or.inr ((bX10_time_0 FX10_time_0 w0 M).symm.trans hz)⟩
  exact fe_mem_0 hc
theorem vX10_time : fe_SB (sX10_time) := by
  refine ⟨?_, ?_, ?_, ?_⟩
  · intro i As M r h
    exact fe_no h
  · intro i As M r h
    exact fe_no h
  · intro i As M r h
    exact fe_no h
  · intro i As M r h
    exact fe_no h
theorem eX10_time (g0 : Nat → FM → Option (Int64 × FM)) (a0 : Nat) (M : FM) : dX10_time g0 0 [(0, .ref a0)] [] M = g0 a0 M := by rfl
theorem mX10_time (a0 : Nat) (M : FM) (r : Int64 × FM) (h : FX10_time a0 M = some r) : fm_nx M ≤ fm_nx r.2 ∧ fm_ns M ≤ fm_ns r.2 :=
  fe_mono (L0 := [(0, .ref a0)]) (vX10_time) (by decide +kernel) (hX10_time) (fe_kl_k r) 0 rfl ((eX10_time FX10_time_0 a0 M).trans h)
theorem zX10_time {s0 : State} {H0 : Heap} {oa : Nat → Nat} {D : va_G} (K : fk s0 H0 oa D) (l : Launch) (a0 : Nat) (M : FM) (r : Int64 × FM) (h : FX10_time a0 M = some r) : fs_Con (fk_E s0 H0 oa D) l 1 ⟨"BoardMachine$Board", "time", "()J"⟩ prog_2_method_7_code 1 (Option.some Jvm.ClassFile.FieldType.long) [.ref a0] M (some (.long r.1)) r.2 := by
  refine fs_method (own := "BoardMachine$Board") rfl (by decide) K.2.1 (by rw [fe_slen]; exact (Nat.le_of_ble_eq_true rfl)) (mX10_time a0 M r h) (hX10_time) 0 rfl (L0 := [(0, .ref a0)]) (fun E => fe_args_e E [.ref a0] 0) ((eX10_time FX10_time_0 a0 M).trans h) (fe_kl_k r) (fun H hR => fs_nr_o (by decide) (by decide)) ?_
  intro p e s m args below meth c Q C hnm
  have hw : s0.WarmedH s.vm := C.2.2.2.2.1
  refine fe_all C fk_hwr cX10_time [1, 4, 7] (by decide +kernel) (fe_fil (cps := [(1, 4, .getfield 79736878), (4, 7, .getfield 1006956862), (7, 10, .getfield 1032126786)]) (by decide +kernel) ?_)
  refine fs_c1 (fs_getf (pc := 1) (n := 79736878) (idx := 51) (ref := "BoardMachine$Board") (O := "BoardMachine$Board") (name := "signals") (desc := "LBoardMachine$Signals$SignalUnit;") C (by decide +kernel) (Or.inl (kw K hw q1041)) (fun _ h => h) (Nat.le_of_ble_eq_true rfl) (Nat.le_of_ble_eq_true rfl) (fs_one (⟨_, ff_11_19 s0 H0 oa D⟩))) ?_
  refine fs_c1 (fs_getf (pc := 4) (n := 1006956862) (idx := 111) (ref := "BoardMachine$Signals$SignalUnit") (O := "BoardMachine$Signals$SignalUnit") (name := "timer") (desc := "LBoardMachine$Signals$Timer;") C (by decide +kernel) (Or.inr ⟨_, kF K hw q1018⟩) (fun _ h => h) (Nat.le_of_ble_eq_true rfl) (Nat.le_of_ble_eq_true rfl) (fs_one (⟨_, ff_79_240 s0 H0 oa D⟩))) ?_
  refine fs_c1 (fs_getf (pc := 7) (n := 1032126786) (idx := 115) (ref := "BoardMachine$Signals$Timer") (O := "BoardMachine$Signals$Timer") (name := "numbers") (desc := "[J") C (by decide +kernel) (Or.inr ⟨_, kF K hw q980⟩) (fun _ h => h) (Nat.le_of_ble_eq_true rfl) (Nat.le_of_ble_eq_true rfl) (fs_one (⟨_, ff_80_246 s0 H0 oa D⟩))) ?_
  exact fs_c0
theorem hX1_time : fe_H (sX1_time FX10_time) cX1_time [0] fe_kl [] 20 (fun _ => dX1_time FX1_time_0) := by
  intro j pc L st M r hc h
  rcases fe_mem_c hc with rfl | hc
  · obtain ⟨w0, m0, h⟩ := fe_lR_d h
    obtain ⟨rfl, hz⟩ := fe_t0_d h
    exact ⟨[(0, .ref w0)], (fe_cs m0 fe_nl), Or.inr ((bX1_time_0 FX10_time FX1_time_0 w0 M).symm.trans hz)⟩
  exact fe_mem_0 hc
theorem vX1_time : fe_SB (sX1_time FX10_time) := by
  refine ⟨?_, ?_, ?_, ?_⟩
  · intro i As M r h
    exact fe_no h
  · intro i As M r h
    exact fe_no h
  · intro i As M r h
    rcases fe_bc h with h | h
    · obtain ⟨v0, t0, rfl, g0⟩ := fe_tR_d h
      obtain ⟨rfl, hz⟩ := fe_t0_d g0
      exact mX10_time v0 M r hz
    exact fe_no h
  · intro i As M r h
    exact fe_no h
theorem eX1_time (g0 : Nat → FM → Option (Int64 × FM)) (a0 : Nat) (M : FM) : dX1_time g0 0 [(0, .ref a0)] [] M = g0 a0 M := by rfl
theorem mX1_time (a0 : Nat) (M : FM) (r : Int64 × FM) (h : FX1_time a0 M = some r) : fm_nx M ≤ fm_nx r.2 ∧ fm_ns M ≤ fm_ns r.2 :=
  fe_mono (L0 := [(0, .ref a0)]) (vX1_time) (by decide +kernel) (hX1_time) (fe_kl_k r) 0 rfl ((eX1_time FX1_time_0 a0 M).trans h)
theorem zX1_time {s0 : State} {H0 : Heap} {oa : Nat → Nat} {D : va_G} (K : fk s0 H0 oa D) (l : Launch) (a0 : Nat) (M : FM) (r : Int64 × FM) (h : FX1_time a0 M = some r) : fs_Con (fk_E s0 H0 oa D) l 2 ⟨"BoardMachine", "time", "()J"⟩ prog_1_method_24_code 1 (Option.some Jvm.ClassFile.FieldType.long) [.ref a0] M (some (.long r.1)) r.2 := by
  have o0 : fs_OS (sX1_time FX10_time) 0 2 (fs_Con (fk_E s0 H0 oa D) l 1 ⟨"BoardMachine$Board", "time", "()J"⟩ prog_2_method_7_code 1 (Option.some Jvm.ClassFile.FieldType.long)) := by
    intro As M r h
    obtain ⟨v0, t0, rfl, g0⟩ := fe_tR_d h
    obtain ⟨rfl, hz⟩ := fe_t0_d g0
    exact zX10_time K l v0 M r hz
  refine fs_method (own := "BoardMachine") rfl (by decide) K.2.1 (by rw [fe_slen]; exact (Nat.le_of_ble_eq_true rfl)) (mX1_time a0 M r h) (hX1_time) 0 rfl (L0 := [(0, .ref a0)]) (fun E => fe_args_e E [.ref a0] 0) ((eX1_time FX1_time_0 a0 M).trans h) (fe_kl_k r) (fun H hR => fs_nr_o (by decide) (by decide)) ?_
  intro p e s m args below meth c Q C hnm
  have hw : s0.WarmedH s.vm := C.2.2.2.2.1
  refine fe_all C fk_hwr cX1_time [1, 4, 7] (by decide +kernel) (fe_fil (cps := [(1, 4, .getfield 71344170), (4, 7, .getfield 792998158), (7, 10, .invokevirtual 6302731)]) (by decide +kernel) ?_)
  refine fs_c1 (fs_getf (pc := 1) (n := 71344170) (idx := 14) (ref := "BoardMachine") (O := "BoardMachine") (name := "machine") (desc := "LBoardMachine$Machine;") C (by decide +kernel) (Or.inl (kw K hw q2534)) (fun _ h => h) (Nat.le_of_ble_eq_true rfl) (Nat.le_of_ble_eq_true rfl) (fs_one (⟨_, ff_10_17 s0 H0 oa D⟩))) ?_
  refine fs_c1 (fs_getf (pc := 4) (n := 792998158) (idx := 52) (ref := "BoardMachine$Machine") (O := "BoardMachine$Machine") (name := "board") (desc := "LBoardMachine$Board;") C (by decide +kernel) (Or.inr ⟨_, kF K hw q2503⟩) (fun _ h => h) (Nat.le_of_ble_eq_true rfl) (Nat.le_of_ble_eq_true rfl) (fs_one (⟨_, ff_67_189 s0 H0 oa D⟩))) ?_
  refine fs_c1 (fs_inv_virtual (pc := 7) (n := 6302731) C (Nat.le_of_ble_eq_true rfl) (Nat.le_of_ble_eq_true rfl) (fs_lk_virtual (idx := 213) (y := ⟨"BoardMachine$Board", "time", "()J"⟩) (bytes := prog_2_method_7_code) (maxL := 1) (rt := (Option.some Jvm.ClassFile.FieldType.long)) (d := 1) C (Nat.le_of_ble_eq_true rfl) (Nat.le_of_ble_eq_true rfl) (by decide +kernel) (kw K hw q2579) (kw K hw q320) (kw K hw q2577) (Or.inl (kw K hw q2576)) ⟨by decide, by decide⟩ rfl (Nat.le_of_ble_eq_true rfl) (Nat.le_of_ble_eq_true rfl) (fs_one (⟨_, rfl, kw K hw q2578⟩))) fs_con_mono o0) ?_
  exact fs_c0
theorem hX1_breaches : fe_H (sX1_breaches) cX1_breaches [0] fe_kl [] 20 (fun _ => dX1_breaches FX1_breaches_0) := by
  intro j pc L st M r hc h
  rcases fe_mem_c hc with rfl | hc
  · obtain ⟨w0, m0, h⟩ := fe_lR_d h
    obtain ⟨rfl, hz⟩ := fe_t0_d h
    exact ⟨[(0, .ref w0)], (fe_cs m0 fe_nl), Or.inr ((bX1_breaches_0 FX1_breaches_0 w0 M).symm.trans hz)⟩
  exact fe_mem_0 hc
theorem vX1_breaches : fe_SB (sX1_breaches) := by
  refine ⟨?_, ?_, ?_, ?_⟩
  · intro i As M r h
    exact fe_no h
  · intro i As M r h
    exact fe_no h
  · intro i As M r h
    exact fe_no h
  · intro i As M r h
    exact fe_no h
theorem eX1_breaches (g0 : Nat → FM → Option (Int64 × FM)) (a0 : Nat) (M : FM) : dX1_breaches g0 0 [(0, .ref a0)] [] M = g0 a0 M := by rfl
theorem mX1_breaches (a0 : Nat) (M : FM) (r : Int64 × FM) (h : FX1_breaches a0 M = some r) : fm_nx M ≤ fm_nx r.2 ∧ fm_ns M ≤ fm_ns r.2 :=
  fe_mono (L0 := [(0, .ref a0)]) (vX1_breaches) (by decide +kernel) (hX1_breaches) (fe_kl_k r) 0 rfl ((eX1_breaches FX1_breaches_0 a0 M).trans h)
theorem zX1_breaches {s0 : State} {H0 : Heap} {oa : Nat → Nat} {D : va_G} (K : fk s0 H0 oa D) (l : Launch) (a0 : Nat) (M : FM) (r : Int64 × FM) (h : FX1_breaches a0 M = some r) : fs_Con (fk_E s0 H0 oa D) l 1 ⟨"BoardMachine", "breaches", "()J"⟩ prog_1_method_25_code 1 (Option.some Jvm.ClassFile.FieldType.long) [.ref a0] M (some (.long r.1)) r.2 := by
  refine fs_method (own := "BoardMachine") rfl (by decide) K.2.1 (by rw [fe_slen]; exact (Nat.le_of_ble_eq_true rfl)) (mX1_breaches a0 M r h) (hX1_breaches) 0 rfl (L0 := [(0, .ref a0)]) (fun E => fe_args_e E [.ref a0] 0) ((eX1_breaches FX1_breaches_0 a0 M).trans h) (fe_kl_k r) (fun H hR => fs_nr_o (by decide) (by decide)) ?_
  intro p e s m args below meth c Q C hnm
  have hw : s0.WarmedH s.vm := C.2.2.2.2.1
  refine fe_all C fk_hwr cX1_breaches [] (by decide +kernel) (fe_fil (cps := []) (by decide +kernel) ?_)
  exact fs_c0
theorem hX92_start (n : Nat) : fe_H (sX92_start (FX92_begin n)) cX92_start [0] fe_ki [] 20 (fun _ => dX92_start (FX92_start_0 n)) := by
  intro j pc L st M r hc h
  rcases fe_mem_c hc with rfl | hc
  · obtain ⟨w0, m0, h⟩ := fe_lR_d h
    obtain ⟨rfl, hz⟩ := fe_t0_d h
    exact ⟨[(0, .ref w0)], (fe_cs m0 fe_nl), Or.inr ((bX92_start_0 (FX92_begin n) (FX92_start_0 n ) w0 M).symm.trans hz)⟩
  exact fe_mem_0 hc
theorem vX92_start (n : Nat) : fe_SB (sX92_start (FX92_begin n)) := by
  refine ⟨?_, ?_, ?_, ?_⟩
  · intro i As M r h
    exact fe_no h
  · intro i As M r h
    rcases fe_bc h with h | h
    · obtain ⟨v0, t0, rfl, g0⟩ := fe_tR_d h
      obtain ⟨rfl, hz⟩ := fe_t0_d g0
      exact mX92_begin n v0 M r hz
    exact fe_no h
  · intro i As M r h
    exact fe_no h
  · intro i As M r h
    exact fe_no h
theorem eX92_start (g0 : Nat → FM → Option (Int32 × FM)) (a0 : Nat) (M : FM) : dX92_start g0 0 [(0, .ref a0)] [] M = g0 a0 M := by rfl
theorem mX92_start (n : Nat) (a0 : Nat) (M : FM) (r : Int32 × FM) (h : FX92_start n a0 M = some r) : fm_nx M ≤ fm_nx r.2 ∧ fm_ns M ≤ fm_ns r.2 :=
  fe_mono (L0 := [(0, .ref a0)]) (vX92_start n) (by decide +kernel) (hX92_start n) (fe_ki_k r) 0 rfl ((eX92_start (FX92_start_0 n ) a0 M).trans h)
theorem zX92_start {s0 : State} {H0 : Heap} {oa : Nat → Nat} {D : va_G} (K : fk s0 H0 oa D) (l : Launch) (n : Nat) (a0 : Nat) (M : FM) (r : Int32 × FM) (h : FX92_start n a0 M = some r) : fs_Con (fk_E s0 H0 oa D) l 4 ⟨"BoardMachineModel", "start", "()I"⟩ prog_111_method_15_code 1 (Option.some Jvm.ClassFile.FieldType.int) [.ref a0] M (some (.int r.1)) r.2 := by
  have o0 : fs_OS (sX92_start (FX92_begin n)) 0 1 (fs_Con (fk_E s0 H0 oa D) l 3 ⟨"BoardMachineModel", "begin", "()I"⟩ prog_111_method_14_code 2 (Option.some Jvm.ClassFile.FieldType.int)) := by
    intro As M r h
    obtain ⟨v0, t0, rfl, g0⟩ := fe_tR_d h
    obtain ⟨rfl, hz⟩ := fe_t0_d g0
    exact zX92_begin K l n v0 M r hz
  refine fs_method (own := "BoardMachineModel") rfl (by decide) K.2.1 (by rw [fe_slen]; exact (Nat.le_of_ble_eq_true rfl)) (mX92_start n a0 M r h) (hX92_start n) 0 rfl (L0 := [(0, .ref a0)]) (fun E => fe_args_e E [.ref a0] 0) ((eX92_start (FX92_start_0 n ) a0 M).trans h) (fe_ki_k r) (fun H hR => fs_nr_o (by decide) (by decide)) ?_
  intro p e s m args below meth c Q C hnm
  have hw : s0.WarmedH s.vm := C.2.2.2.2.1
  refine fe_all C fk_hwr cX92_start [2, 6] (by decide +kernel) (fe_fil (cps := [(2, 5, .putfield 1241891184), (6, 9, .invokevirtual 5337180)]) (by decide +kernel) ?_)
  refine fs_c1 (fs_putf (pc := 2) (n := 1241891184) (idx := 109) (ref := "BoardMachineModel") (O := "BoardMachineModel") (name := "thrown") (desc := "I") (fin := false) (ty := .int) C (by decide +kernel) (Or.inl ⟨rfl, Or.inl (kw K hw q5164)⟩) (fun _ h => h) (Nat.le_of_ble_eq_true rfl) (Nat.le_of_ble_eq_true rfl) (Nat.le_of_ble_eq_true rfl) rfl rfl (by decide) (fs_one (⟨rfl, ff_92_296 s0 H0 oa D⟩))) ?_
  refine fs_c1 (fs_inv_virtual (pc := 6) (n := 5337180) C (Nat.le_of_ble_eq_true rfl) (Nat.le_of_ble_eq_true rfl) (fs_lk_virtual (idx := 105) (y := ⟨"BoardMachineModel", "begin", "()I"⟩) (bytes := prog_111_method_14_code) (maxL := 2) (rt := (Option.some Jvm.ClassFile.FieldType.int)) (d := 3) C (Nat.le_of_ble_eq_true rfl) (Nat.le_of_ble_eq_true rfl) (by decide +kernel) (kw K hw q5123) (kw K hw q410) (kw K hw q5122) (Or.inl (kw K hw q5120)) ⟨by decide, by decide⟩ rfl (Nat.le_of_ble_eq_true rfl) (Nat.le_of_ble_eq_true rfl) (fs_one (⟨_, rfl, kw K hw qs146⟩))) fs_con_mono o0) ?_
  exact fs_c0
theorem hX92_code : fe_H (sX92_code) cX92_code [0] fe_ki [] 20 (fun _ => dX92_code FX92_code_0) := by
  intro j pc L st M r hc h
  rcases fe_mem_c hc with rfl | hc
  · obtain ⟨w0, m0, h⟩ := fe_lR_d h
    obtain ⟨rfl, hz⟩ := fe_t0_d h
    exact ⟨[(0, .ref w0)], (fe_cs m0 fe_nl), Or.inr ((bX92_code_0 FX92_code_0 w0 M).symm.trans hz)⟩
  exact fe_mem_0 hc
theorem vX92_code : fe_SB (sX92_code) := by
  refine ⟨?_, ?_, ?_, ?_⟩
  · intro i As M r h
    exact fe_no h
  · intro i As M r h
    exact fe_no h
  · intro i As M r h
    exact fe_no h
  · intro i As M r h
    exact fe_no h
theorem eX92_code (g0 : Nat → FM → Option (Int32 × FM)) (a0 : Nat) (M : FM) : dX92_code g0 0 [(0, .ref a0)] [] M = g0 a0 M := by rfl
theorem mX92_code (a0 : Nat) (M : FM) (r : Int32 × FM) (h : FX92_code a0 M = some r) : fm_nx M ≤ fm_nx r.2 ∧ fm_ns M ≤ fm_ns r.2 :=
  fe_mono (L0 := [(0, .ref a0)]) (vX92_code) (by decide +kernel) (hX92_code) (fe_ki_k r) 0 rfl ((eX92_code FX92_code_0 a0 M).trans h)
theorem zX92_code {s0 : State} {H0 : Heap} {oa : Nat → Nat} {D : va_G} (K : fk s0 H0 oa D) (l : Launch) (a0 : Nat) (M : FM) (r : Int32 × FM) (h : FX92_code a0 M = some r) : fs_Con (fk_E s0 H0 oa D) l 1 ⟨"BoardMachineModel", "code", "()I"⟩ prog_111_method_43_code 1 (Option.some Jvm.ClassFile.FieldType.int) [.ref a0] M (some (.int r.1)) r.2 := by
  refine fs_method (own := "BoardMachineModel") rfl (by decide) K.2.1 (by rw [fe_slen]; exact (Nat.le_of_ble_eq_true rfl)) (mX92_code a0 M r h) (hX92_code) 0 rfl (L0 := [(0, .ref a0)]) (fun E => fe_args_e E [.ref a0] 0) ((eX92_code FX92_code_0 a0 M).trans h) (fe_ki_k r) (fun H hR => fs_nr_o (by decide) (by decide)) ?_
  intro p e s m args below meth c Q C hnm
  have hw : s0.WarmedH s.vm := C.2.2.2.2.1
  refine fe_all C fk_hwr cX92_code [2, 6] (by decide +kernel) (fe_fil (cps := [(2, 5, .putfield 1241891184), (6, 9, .getfield 1321582960)]) (by decide +kernel) ?_)
  refine fs_c1 (fs_putf (pc := 2) (n := 1241891184) (idx := 109) (ref := "BoardMachineModel") (O := "BoardMachineModel") (name := "thrown") (desc := "I") (fin := false) (ty := .int) C (by decide +kernel) (Or.inl ⟨rfl, Or.inl (kw K hw q5164)⟩) (fun _ h => h) (Nat.le_of_ble_eq_true rfl) (Nat.le_of_ble_eq_true rfl) (Nat.le_of_ble_eq_true rfl) rfl rfl (by decide) (fs_one (⟨rfl, ff_92_296 s0 H0 oa D⟩))) ?_
  refine fs_c1 (fs_getf (pc := 6) (n := 1321582960) (idx := 74) (ref := "BoardMachineModel") (O := "BoardMachineModel") (name := "code") (desc := "I") C (by decide +kernel) (Or.inl (kw K hw q5183)) (fun _ h => h) (Nat.le_of_ble_eq_true rfl) (Nat.le_of_ble_eq_true rfl) (fs_one (⟨_, ff_92_315 s0 H0 oa D⟩))) ?_
  exact fs_c0
theorem hX92_processors : fe_H (sX92_processors) cX92_processors [0] fe_ki [] 20 (fun _ => dX92_processors FX92_processors_0) := by
  intro j pc L st M r hc h
  rcases fe_mem_c hc with rfl | hc
  · obtain ⟨w0, m0, h⟩ := fe_lR_d h
    obtain ⟨rfl, hz⟩ := fe_t0_d h
    exact ⟨[(0, .ref w0)], (fe_cs m0 fe_nl), Or.inr ((bX92_processors_0 FX92_processors_0 w0 M).symm.trans hz)⟩
  exact fe_mem_0 hc
theorem vX92_processors : fe_SB (sX92_processors) := by
  refine ⟨?_, ?_, ?_, ?_⟩
  · intro i As M r h
    exact fe_no h
  · intro i As M r h
    exact fe_no h
  · intro i As M r h
    exact fe_no h
  · intro i As M r h
    exact fe_no h
theorem eX92_processors (g0 : Nat → FM → Option (Int32 × FM)) (a0 : Nat) (M : FM) : dX92_processors g0 0 [(0, .ref a0)] [] M = g0 a0 M := by rfl
theorem mX92_processors (a0 : Nat) (M : FM) (r : Int32 × FM) (h : FX92_processors a0 M = some r) : fm_nx M ≤ fm_nx r.2 ∧ fm_ns M ≤ fm_ns r.2 :=
  fe_mono (L0 := [(0, .ref a0)]) (vX92_processors) (by decide +kernel) (hX92_processors) (fe_ki_k r) 0 rfl ((eX92_processors FX92_processors_0 a0 M).trans h)
theorem zX92_processors {s0 : State} {H0 : Heap} {oa : Nat → Nat} {D : va_G} (K : fk s0 H0 oa D) (l : Launch) (a0 : Nat) (M : FM) (r : Int32 × FM) (h : FX92_processors a0 M = some r) : fs_Con (fk_E s0 H0 oa D) l 1 ⟨"BoardMachineModel", "processors", "()I"⟩ prog_111_method_44_code 1 (Option.some Jvm.ClassFile.FieldType.int) [.ref a0] M (some (.int r.1)) r.2 := by
  refine fs_method (own := "BoardMachineModel") rfl (by decide) K.2.1 (by rw [fe_slen]; exact (Nat.le_of_ble_eq_true rfl)) (mX92_processors a0 M r h) (hX92_processors) 0 rfl (L0 := [(0, .ref a0)]) (fun E => fe_args_e E [.ref a0] 0) ((eX92_processors FX92_processors_0 a0 M).trans h) (fe_ki_k r) (fun H hR => fs_nr_o (by decide) (by decide)) ?_
  intro p e s m args below meth c Q C hnm
  have hw : s0.WarmedH s.vm := C.2.2.2.2.1
  refine fe_all C fk_hwr cX92_processors [2, 6] (by decide +kernel) (fe_fil (cps := [(2, 5, .putfield 1241891184), (6, 9, .getfield 1246085488)]) (by decide +kernel) ?_)
  refine fs_c1 (fs_putf (pc := 2) (n := 1241891184) (idx := 109) (ref := "BoardMachineModel") (O := "BoardMachineModel") (name := "thrown") (desc := "I") (fin := false) (ty := .int) C (by decide +kernel) (Or.inl ⟨rfl, Or.inl (kw K hw q5164)⟩) (fun _ h => h) (Nat.le_of_ble_eq_true rfl) (Nat.le_of_ble_eq_true rfl) (Nat.le_of_ble_eq_true rfl) rfl rfl (by decide) (fs_one (⟨rfl, ff_92_296 s0 H0 oa D⟩))) ?_
  refine fs_c1 (fs_getf (pc := 6) (n := 1246085488) (idx := 82) (ref := "BoardMachineModel") (O := "BoardMachineModel") (name := "processors") (desc := "I") C (by decide +kernel) (Or.inl (kw K hw q5165)) (fun _ h => h) (Nat.le_of_ble_eq_true rfl) (Nat.le_of_ble_eq_true rfl) (fs_one (⟨_, ff_92_297 s0 H0 oa D⟩))) ?_
  exact fs_c0
theorem hX96_sent : fe_H (sX96_sent) cX96_sent [0] fe_kl [] 20 (fun _ => dX96_sent FX96_sent_0) := by
  intro j pc L st M r hc h
  rcases fe_mem_c hc with rfl | hc
  · obtain ⟨w0, m0, h⟩ := fe_lR_d h
    obtain ⟨rfl, hz⟩ := fe_t0_d h
    exact ⟨[(0, .ref w0)], (fe_cs m0 fe_nl), Or.inr ((bX96_sent_0 FX96_sent_0 w0 M).symm.trans hz)⟩
  exact fe_mem_0 hc
theorem vX96_sent : fe_SB (sX96_sent) := by
  refine ⟨?_, ?_, ?_, ?_⟩
  · intro i As M r h
    exact fe_no h
  · intro i As M r h
    exact fe_no h
  · intro i As M r h
    exact fe_no h
  · intro i As M r h
    exact fe_no h
theorem eX96_sent (g0 : Nat → FM → Option (Int64 × FM)) (a0 : Nat) (M : FM) : dX96_sent g0 0 [(0, .ref a0)] [] M = g0 a0 M := by rfl
theorem mX96_sent (a0 : Nat) (M : FM) (r : Int64 × FM) (h : FX96_sent a0 M = some r) : fm_nx M ≤ fm_nx r.2 ∧ fm_ns M ≤ fm_ns r.2 :=
  fe_mono (L0 := [(0, .ref a0)]) (vX96_sent) (by decide +kernel) (hX96_sent) (fe_kl_k r) 0 rfl ((eX96_sent FX96_sent_0 a0 M).trans h)
theorem zX96_sent {s0 : State} {H0 : Heap} {oa : Nat → Nat} {D : va_G} (K : fk s0 H0 oa D) (l : Launch) (a0 : Nat) (M : FM) (r : Int64 × FM) (h : FX96_sent a0 M = some r) : fs_Con (fk_E s0 H0 oa D) l 1 ⟨"BoardMachineModel$Signals", "sent", "()J"⟩ prog_118_method_39_code 1 (Option.some Jvm.ClassFile.FieldType.long) [.ref a0] M (some (.long r.1)) r.2 := by
  refine fs_method (own := "BoardMachineModel$Signals") rfl (by decide) K.2.1 (by rw [fe_slen]; exact (Nat.le_of_ble_eq_true rfl)) (mX96_sent a0 M r h) (hX96_sent) 0 rfl (L0 := [(0, .ref a0)]) (fun E => fe_args_e E [.ref a0] 0) ((eX96_sent FX96_sent_0 a0 M).trans h) (fe_kl_k r) (fun H hR => fs_nr_o (by decide) (by decide)) ?_
  intro p e s m args below meth c Q C hnm
  have hw : s0.WarmedH s.vm := C.2.2.2.2.1
  refine fe_all C fk_hwr cX96_sent [2, 6] (by decide +kernel) (fe_fil (cps := [(2, 5, .putfield 1652961676), (6, 9, .getfield 1732653453)]) (by decide +kernel) ?_)
  refine fs_c1 (fs_putf (pc := 2) (n := 1652961676) (idx := 54) (ref := "BoardMachineModel$Signals") (O := "BoardMachineModel$Signals") (name := "thrown") (desc := "I") (fin := false) (ty := .int) C (by decide +kernel) (Or.inl ⟨rfl, Or.inl (kw K hw q4694)⟩) (fun _ h => h) (Nat.le_of_ble_eq_true rfl) (Nat.le_of_ble_eq_true rfl) (Nat.le_of_ble_eq_true rfl) rfl rfl (by decide) (fs_one (⟨rfl, ff_99_394 s0 H0 oa D⟩))) ?_
  refine fs_c1 (fs_getf (pc := 6) (n := 1732653453) (idx := 168) (ref := "BoardMachineModel$Signals") (O := "BoardMachineModel$Signals") (name := "sent") (desc := "J") C (by decide +kernel) (Or.inl (kw K hw q4714)) (fun _ h => h) (Nat.le_of_ble_eq_true rfl) (Nat.le_of_ble_eq_true rfl) (fs_one (⟨_, ff_99_413 s0 H0 oa D⟩))) ?_
  exact fs_c0
theorem hX92_sent : fe_H (sX92_sent FX96_sent) cX92_sent [0] fe_kl [] 20 (fun _ => dX92_sent FX92_sent_0) := by
  intro j pc L st M r hc h
  rcases fe_mem_c hc with rfl | hc
  · obtain ⟨w0, m0, h⟩ := fe_lR_d h
    obtain ⟨rfl, hz⟩ := fe_t0_d h
    exact ⟨[(0, .ref w0)], (fe_cs m0 fe_nl), Or.inr ((bX92_sent_0 FX96_sent FX92_sent_0 w0 M).symm.trans hz)⟩
  exact fe_mem_0 hc
theorem vX92_sent : fe_SB (sX92_sent FX96_sent) := by
  refine ⟨?_, ?_, ?_, ?_⟩
  · intro i As M r h
    exact fe_no h
  · intro i As M r h
    exact fe_no h
  · intro i As M r h
    rcases fe_bc h with h | h
    · obtain ⟨v0, t0, rfl, g0⟩ := fe_tR_d h
      obtain ⟨rfl, hz⟩ := fe_t0_d g0
      exact mX96_sent v0 M r hz
    exact fe_no h
  · intro i As M r h
    exact fe_no h
theorem eX92_sent (g0 : Nat → FM → Option (Int64 × FM)) (a0 : Nat) (M : FM) : dX92_sent g0 0 [(0, .ref a0)] [] M = g0 a0 M := by rfl
theorem mX92_sent (a0 : Nat) (M : FM) (r : Int64 × FM) (h : FX92_sent a0 M = some r) : fm_nx M ≤ fm_nx r.2 ∧ fm_ns M ≤ fm_ns r.2 :=
  fe_mono (L0 := [(0, .ref a0)]) (vX92_sent) (by decide +kernel) (hX92_sent) (fe_kl_k r) 0 rfl ((eX92_sent FX92_sent_0 a0 M).trans h)
theorem zX92_sent {s0 : State} {H0 : Heap} {oa : Nat → Nat} {D : va_G} (K : fk s0 H0 oa D) (l : Launch) (a0 : Nat) (M : FM) (r : Int64 × FM) (h : FX92_sent a0 M = some r) : fs_Con (fk_E s0 H0 oa D) l 2 ⟨"BoardMachineModel", "sent", "()J"⟩ prog_111_method_54_code 1 (Option.some Jvm.ClassFile.FieldType.long) [.ref a0] M (some (.long r.1)) r.2 := by
  have o0 : fs_OS (sX92_sent FX96_sent) 0 2 (fs_Con (fk_E s0 H0 oa D) l 1 ⟨"BoardMachineModel$Signals", "sent", "()J"⟩ prog_118_method_39_code 1 (Option.some Jvm.ClassFile.FieldType.long)) := by
    intro As M r h
    obtain ⟨v0, t0, rfl, g0⟩ := fe_tR_d h
    obtain ⟨rfl, hz⟩ := fe_t0_d g0
    exact zX96_sent K l v0 M r hz
  refine fs_method (own := "BoardMachineModel") rfl (by decide) K.2.1 (by rw [fe_slen]; exact (Nat.le_of_ble_eq_true rfl)) (mX92_sent a0 M r h) (hX92_sent) 0 rfl (L0 := [(0, .ref a0)]) (fun E => fe_args_e E [.ref a0] 0) ((eX92_sent FX92_sent_0 a0 M).trans h) (fe_kl_k r) (fun H hR => fs_nr_o (by decide) (by decide)) ?_
  intro p e s m args below meth c Q C hnm
  have hw : s0.WarmedH s.vm := C.2.2.2.2.1
  refine fe_all C fk_hwr cX92_sent [2, 6, 9] (by decide +kernel) (fe_fil (cps := [(2, 5, .putfield 1241891184), (6, 9, .getfield 1262862706), (9, 12, .invokevirtual 6392931)]) (by decide +kernel) ?_)
  refine fs_c1 (fs_putf (pc := 2) (n := 1241891184) (idx := 109) (ref := "BoardMachineModel") (O := "BoardMachineModel") (name := "thrown") (desc := "I") (fin := false) (ty := .int) C (by decide +kernel) (Or.inl ⟨rfl, Or.inl (kw K hw q5164)⟩) (fun _ h => h) (Nat.le_of_ble_eq_true rfl) (Nat.le_of_ble_eq_true rfl) (Nat.le_of_ble_eq_true rfl) rfl rfl (by decide) (fs_one (⟨rfl, ff_92_296 s0 H0 oa D⟩))) ?_
  refine fs_c1 (fs_getf (pc := 6) (n := 1262862706) (idx := 90) (ref := "BoardMachineModel") (O := "BoardMachineModel") (name := "signals") (desc := "LBoardMachineModel$Signals;") C (by decide +kernel) (Or.inl (kw K hw q5169)) (fun _ h => h) (Nat.le_of_ble_eq_true rfl) (Nat.le_of_ble_eq_true rfl) (fs_one (⟨_, ff_92_301 s0 H0 oa D⟩))) ?_
  refine fs_c1 (fs_inv_virtual (pc := 9) (n := 6392931) C (Nat.le_of_ble_eq_true rfl) (Nat.le_of_ble_eq_true rfl) (fs_lk_virtual (idx := 537) (y := ⟨"BoardMachineModel$Signals", "sent", "()J"⟩) (bytes := prog_118_method_39_code) (maxL := 1) (rt := (Option.some Jvm.ClassFile.FieldType.long)) (d := 1) C (Nat.le_of_ble_eq_true rfl) (Nat.le_of_ble_eq_true rfl) (by decide +kernel) (kw K hw q6488) (kw K hw q414) (kw K hw q6486) (Or.inl (kw K hw q6485)) ⟨by decide, by decide⟩ rfl (Nat.le_of_ble_eq_true rfl) (Nat.le_of_ble_eq_true rfl) (fs_one (⟨_, rfl, kw K hw q6487⟩))) fs_con_mono o0) ?_
  exact fs_c0
theorem hX92_waiting : fe_H (sX92_waiting) cX92_waiting [0] fe_ki [] 20 (fun _ => dX92_waiting FX92_waiting_0) := by
  intro j pc L st M r hc h
  rcases fe_mem_c hc with rfl | hc
  · obtain ⟨w0, m0, h⟩ := fe_lR_d h
    obtain ⟨rfl, hz⟩ := fe_t0_d h
    exact ⟨[(0, .ref w0)], (fe_cs m0 fe_nl), Or.inr ((bX92_waiting_0 FX92_waiting_0 w0 M).symm.trans hz)⟩
  exact fe_mem_0 hc
theorem vX92_waiting : fe_SB (sX92_waiting) := by
  refine ⟨?_, ?_, ?_, ?_⟩
  · intro i As M r h
    exact fe_no h
  · intro i As M r h
    exact fe_no h
  · intro i As M r h
    exact fe_no h
  · intro i As M r h
    exact fe_no h
theorem eX92_waiting (g0 : Nat → FM → Option (Int32 × FM)) (a0 : Nat) (M : FM) : dX92_waiting g0 0 [(0, .ref a0)] [] M = g0 a0 M := by rfl
theorem mX92_waiting (a0 : Nat) (M : FM) (r : Int32 × FM) (h : FX92_waiting a0 M = some r) : fm_nx M ≤ fm_nx r.2 ∧ fm_ns M ≤ fm_ns r.2 :=
  fe_mono (L0 := [(0, .ref a0)]) (vX92_waiting) (by decide +kernel) (hX92_waiting) (fe_ki_k r) 0 rfl ((eX92_waiting FX92_waiting_0 a0 M).trans h)
theorem zX92_waiting {s0 : State} {H0 : Heap} {oa : Nat → Nat} {D : va_G} (K : fk s0 H0 oa D) (l : Launch) (a0 : Nat) (M : FM) (r : Int32 × FM) (h : FX92_waiting a0 M = some r) : fs_Con (fk_E s0 H0 oa D) l 1 ⟨"BoardMachineModel", "waiting", "()I"⟩ prog_111_method_56_code 1 (Option.some Jvm.ClassFile.FieldType.int) [.ref a0] M (some (.int r.1)) r.2 := by
  refine fs_method (own := "BoardMachineModel") rfl (by decide) K.2.1 (by rw [fe_slen]; exact (Nat.le_of_ble_eq_true rfl)) (mX92_waiting a0 M r h) (hX92_waiting) 0 rfl (L0 := [(0, .ref a0)]) (fun E => fe_args_e E [.ref a0] 0) ((eX92_waiting FX92_waiting_0 a0 M).trans h) (fe_ki_k r) (fun H hR => fs_nr_o (by decide) (by decide)) ?_
  intro p e s m args below meth c Q C hnm
  have hw : s0.WarmedH s.vm := C.2.2.2.2.1
  refine fe_all C fk_hwr cX92_waiting [2, 6] (by decide +kernel) (fe_fil (cps := [(2, 5, .putfield 1241891184), (6, 9, .getfield 1309000048)]) (by decide +kernel) ?_)
  refine fs_c1 (fs_putf (pc := 2) (n := 1241891184) (idx := 109) (ref := "BoardMachineModel") (O := "BoardMachineModel") (name := "thrown") (desc := "I") (fin := false) (ty := .int) C (by decide +kernel) (Or.inl ⟨rfl, Or.inl (kw K hw q5164)⟩) (fun _ h => h) (Nat.le_of_ble_eq_true rfl) (Nat.le_of_ble_eq_true rfl) (Nat.le_of_ble_eq_true rfl) rfl rfl (by decide) (fs_one (⟨rfl, ff_92_296 s0 H0 oa D⟩))) ?_
  refine fs_c1 (fs_getf (pc := 6) (n := 1309000048) (idx := 158) (ref := "BoardMachineModel") (O := "BoardMachineModel") (name := "inputMany") (desc := "I") C (by decide +kernel) (Or.inl (kw K hw q5180)) (fun _ h => h) (Nat.le_of_ble_eq_true rfl) (Nat.le_of_ble_eq_true rfl) (fs_one (⟨_, ff_92_312 s0 H0 oa D⟩))) ?_
  exact fs_c0
theorem hX95_changed : fe_H (sX95_changed) cX95_changed [0] fe_ki [] 20 (fun _ => dX95_changed FX95_changed_0) := by
  intro j pc L st M r hc h
  rcases fe_mem_c hc with rfl | hc
  · obtain ⟨w0, m0, h⟩ := fe_lR_d h
    obtain ⟨rfl, hz⟩ := fe_t0_d h
    exact ⟨[(0, .ref w0)], (fe_cs m0 fe_nl), Or.inr ((bX95_changed_0 FX95_changed_0 w0 M).symm.trans hz)⟩
  exact fe_mem_0 hc
theorem vX95_changed : fe_SB (sX95_changed) := by
  refine ⟨?_, ?_, ?_, ?_⟩
  · intro i As M r h
    exact fe_no h
  · intro i As M r h
    exact fe_no h
  · intro i As M r h
    exact fe_no h
  · intro i As M r h
    exact fe_no h
theorem eX95_changed (g0 : Nat → FM → Option (Int32 × FM)) (a0 : Nat) (M : FM) : dX95_changed g0 0 [(0, .ref a0)] [] M = g0 a0 M := by rfl
theorem mX95_changed (a0 : Nat) (M : FM) (r : Int32 × FM) (h : FX95_changed a0 M = some r) : fm_nx M ≤ fm_nx r.2 ∧ fm_ns M ≤ fm_ns r.2 :=
  fe_mono (L0 := [(0, .ref a0)]) (vX95_changed) (by decide +kernel) (hX95_changed) (fe_ki_k r) 0 rfl ((eX95_changed FX95_changed_0 a0 M).trans h)
theorem zX95_changed {s0 : State} {H0 : Heap} {oa : Nat → Nat} {D : va_G} (K : fk s0 H0 oa D) (l : Launch) (a0 : Nat) (M : FM) (r : Int32 × FM) (h : FX95_changed a0 M = some r) : fs_Con (fk_E s0 H0 oa D) l 1 ⟨"BoardMachineModel$Block", "changed", "()I"⟩ prog_112_method_18_code 1 (Option.some Jvm.ClassFile.FieldType.int) [.ref a0] M (some (.int r.1)) r.2 := by
  refine fs_method (own := "BoardMachineModel$Block") rfl (by decide) K.2.1 (by rw [fe_slen]; exact (Nat.le_of_ble_eq_true rfl)) (mX95_changed a0 M r h) (hX95_changed) 0 rfl (L0 := [(0, .ref a0)]) (fun E => fe_args_e E [.ref a0] 0) ((eX95_changed FX95_changed_0 a0 M).trans h) (fe_ki_k r) (fun H hR => fs_nr_o (by decide) (by decide)) ?_
  intro p e s m args below meth c Q C hnm
  have hw : s0.WarmedH s.vm := C.2.2.2.2.1
  refine fe_all C fk_hwr cX95_changed [2, 6] (by decide +kernel) (fe_fil (cps := [(2, 5, .putfield 1359335796), (6, 9, .getfield 1418056052)]) (by decide +kernel) ?_)
  refine fs_c1 (fs_putf (pc := 2) (n := 1359335796) (idx := 38) (ref := "BoardMachineModel$Block") (O := "BoardMachineModel$Block") (name := "code") (desc := "I") (fin := false) (ty := .int) C (by decide +kernel) (Or.inl ⟨rfl, Or.inl (kw K hw q4612)⟩) (fun _ h => h) (Nat.le_of_ble_eq_true rfl) (Nat.le_of_ble_eq_true rfl) (Nat.le_of_ble_eq_true rfl) rfl rfl (by decide) (fs_one (⟨rfl, ff_93_324 s0 H0 oa D⟩))) ?_
  refine fs_c1 (fs_getf (pc := 6) (n := 1418056052) (idx := 114) (ref := "BoardMachineModel$Block") (O := "BoardMachineModel$Block") (name := "changed") (desc := "I") C (by decide +kernel) (Or.inl (kw K hw q4626)) (fun _ h => h) (Nat.le_of_ble_eq_true rfl) (Nat.le_of_ble_eq_true rfl) (fs_one (⟨_, ff_93_338 s0 H0 oa D⟩))) ?_
  exact fs_c0
theorem hX92_changed : fe_H (sX92_changed FX95_changed) cX92_changed [0] fe_ki [] 20 (fun _ => dX92_changed FX92_changed_0) := by
  intro j pc L st M r hc h
  rcases fe_mem_c hc with rfl | hc
  · obtain ⟨w0, m0, h⟩ := fe_lR_d h
    obtain ⟨rfl, hz⟩ := fe_t0_d h
    exact ⟨[(0, .ref w0)], (fe_cs m0 fe_nl), Or.inr ((bX92_changed_0 FX95_changed FX92_changed_0 w0 M).symm.trans hz)⟩
  exact fe_mem_0 hc
theorem vX92_changed : fe_SB (sX92_changed FX95_changed) := by
  refine ⟨?_, ?_, ?_, ?_⟩
  · intro i As M r h
    exact fe_no h
  · intro i As M r h
    rcases fe_bc h with h | h
    · obtain ⟨v0, t0, rfl, g0⟩ := fe_tR_d h
      obtain ⟨rfl, hz⟩ := fe_t0_d g0
      exact mX95_changed v0 M r hz
    exact fe_no h
  · intro i As M r h
    exact fe_no h
  · intro i As M r h
    exact fe_no h
theorem eX92_changed (g0 : Nat → FM → Option (Int32 × FM)) (a0 : Nat) (M : FM) : dX92_changed g0 0 [(0, .ref a0)] [] M = g0 a0 M := by rfl
theorem mX92_changed (a0 : Nat) (M : FM) (r : Int32 × FM) (h : FX92_changed a0 M = some r) : fm_nx M ≤ fm_nx r.2 ∧ fm_ns M ≤ fm_ns r.2 :=
  fe_mono (L0 := [(0, .ref a0)]) (vX92_changed) (by decide +kernel) (hX92_changed) (fe_ki_k r) 0 rfl ((eX92_changed FX92_changed_0 a0 M).trans h)
theorem zX92_changed {s0 : State} {H0 : Heap} {oa : Nat → Nat} {D : va_G} (K : fk s0 H0 oa D) (l : Launch) (a0 : Nat) (M : FM) (r : Int32 × FM) (h : FX92_changed a0 M = some r) : fs_Con (fk_E s0 H0 oa D) l 2 ⟨"BoardMachineModel", "changed", "()I"⟩ prog_111_method_57_code 1 (Option.some Jvm.ClassFile.FieldType.int) [.ref a0] M (some (.int r.1)) r.2 := by
  have o0 : fs_OS (sX92_changed FX95_changed) 0 1 (fs_Con (fk_E s0 H0 oa D) l 1 ⟨"BoardMachineModel$Block", "changed", "()I"⟩ prog_112_method_18_code 1 (Option.some Jvm.ClassFile.FieldType.int)) := by
    intro As M r h
    obtain ⟨v0, t0, rfl, g0⟩ := fe_tR_d h
    obtain ⟨rfl, hz⟩ := fe_t0_d g0
    exact zX95_changed K l v0 M r hz
  refine fs_method (own := "BoardMachineModel") rfl (by decide) K.2.1 (by rw [fe_slen]; exact (Nat.le_of_ble_eq_true rfl)) (mX92_changed a0 M r h) (hX92_changed) 0 rfl (L0 := [(0, .ref a0)]) (fun E => fe_args_e E [.ref a0] 0) ((eX92_changed FX92_changed_0 a0 M).trans h) (fe_ki_k r) (fun H hR => fs_nr_o (by decide) (by decide)) ?_
  intro p e s m args below meth c Q C hnm
  have hw : s0.WarmedH s.vm := C.2.2.2.2.1
  refine fe_all C fk_hwr cX92_changed [2, 6, 9] (by decide +kernel) (fe_fil (cps := [(2, 5, .putfield 1241891184), (6, 9, .getfield 1258668402), (9, 12, .invokevirtual 5338205)]) (by decide +kernel) ?_)
  refine fs_c1 (fs_putf (pc := 2) (n := 1241891184) (idx := 109) (ref := "BoardMachineModel") (O := "BoardMachineModel") (name := "thrown") (desc := "I") (fin := false) (ty := .int) C (by decide +kernel) (Or.inl ⟨rfl, Or.inl (kw K hw q5164)⟩) (fun _ h => h) (Nat.le_of_ble_eq_true rfl) (Nat.le_of_ble_eq_true rfl) (Nat.le_of_ble_eq_true rfl) rfl rfl (by decide) (fs_one (⟨rfl, ff_92_296 s0 H0 oa D⟩))) ?_
  refine fs_c1 (fs_getf (pc := 6) (n := 1258668402) (idx := 28) (ref := "BoardMachineModel") (O := "BoardMachineModel") (name := "block") (desc := "LBoardMachineModel$Block;") C (by decide +kernel) (Or.inl (kw K hw q5168)) (fun _ h => h) (Nat.le_of_ble_eq_true rfl) (Nat.le_of_ble_eq_true rfl) (fs_one (⟨_, ff_92_300 s0 H0 oa D⟩))) ?_
  refine fs_c1 (fs_inv_virtual (pc := 9) (n := 5338205) C (Nat.le_of_ble_eq_true rfl) (Nat.le_of_ble_eq_true rfl) (fs_lk_virtual (idx := 543) (y := ⟨"BoardMachineModel$Block", "changed", "()I"⟩) (bytes := prog_112_method_18_code) (maxL := 1) (rt := (Option.some Jvm.ClassFile.FieldType.int)) (d := 1) C (Nat.le_of_ble_eq_true rfl) (Nat.le_of_ble_eq_true rfl) (by decide +kernel) (kw K hw q6508) (kw K hw q413) (kw K hw q6506) (Or.inl (kw K hw q6505)) ⟨by decide, by decide⟩ rfl (Nat.le_of_ble_eq_true rfl) (Nat.le_of_ble_eq_true rfl) (fs_one (⟨_, rfl, kw K hw q6507⟩))) fs_con_mono o0) ?_
  exact fs_c0
theorem hX92_time : fe_H (sX92_time) cX92_time [0] fe_kl [] 20 (fun _ => dX92_time FX92_time_0) := by
  intro j pc L st M r hc h
  rcases fe_mem_c hc with rfl | hc
  · obtain ⟨w0, m0, h⟩ := fe_lR_d h
    obtain ⟨rfl, hz⟩ := fe_t0_d h
    exact ⟨[(0, .ref w0)], (fe_cs m0 fe_nl), Or.inr ((bX92_time_0 FX92_time_0 w0 M).symm.trans hz)⟩
  exact fe_mem_0 hc
theorem vX92_time : fe_SB (sX92_time) := by
  refine ⟨?_, ?_, ?_, ?_⟩
  · intro i As M r h
    exact fe_no h
  · intro i As M r h
    exact fe_no h
  · intro i As M r h
    exact fe_no h
  · intro i As M r h
    exact fe_no h
theorem eX92_time (g0 : Nat → FM → Option (Int64 × FM)) (a0 : Nat) (M : FM) : dX92_time g0 0 [(0, .ref a0)] [] M = g0 a0 M := by rfl
theorem mX92_time (a0 : Nat) (M : FM) (r : Int64 × FM) (h : FX92_time a0 M = some r) : fm_nx M ≤ fm_nx r.2 ∧ fm_ns M ≤ fm_ns r.2 :=
  fe_mono (L0 := [(0, .ref a0)]) (vX92_time) (by decide +kernel) (hX92_time) (fe_kl_k r) 0 rfl ((eX92_time FX92_time_0 a0 M).trans h)
theorem zX92_time {s0 : State} {H0 : Heap} {oa : Nat → Nat} {D : va_G} (K : fk s0 H0 oa D) (l : Launch) (a0 : Nat) (M : FM) (r : Int64 × FM) (h : FX92_time a0 M = some r) : fs_Con (fk_E s0 H0 oa D) l 1 ⟨"BoardMachineModel", "time", "()J"⟩ prog_111_method_58_code 1 (Option.some Jvm.ClassFile.FieldType.long) [.ref a0] M (some (.long r.1)) r.2 := by
  refine fs_method (own := "BoardMachineModel") rfl (by decide) K.2.1 (by rw [fe_slen]; exact (Nat.le_of_ble_eq_true rfl)) (mX92_time a0 M r h) (hX92_time) 0 rfl (L0 := [(0, .ref a0)]) (fun E => fe_args_e E [.ref a0] 0) ((eX92_time FX92_time_0 a0 M).trans h) (fe_kl_k r) (fun H hR => fs_nr_o (by decide) (by decide)) ?_
  intro p e s m args below meth c Q C hnm
  have hw : s0.WarmedH s.vm := C.2.2.2.2.1
  refine fe_all C fk_hwr cX92_time [2, 6, 9] (by decide +kernel) (fe_fil (cps := [(2, 5, .putfield 1241891184), (6, 9, .getfield 1262862706), (9, 12, .getfield 1669738893)]) (by decide +kernel) ?_)
  refine fs_c1 (fs_putf (pc := 2) (n := 1241891184) (idx := 109) (ref := "BoardMachineModel") (O := "BoardMachineModel") (name := "thrown") (desc := "I") (fin := false) (ty := .int) C (by decide +kernel) (Or.inl ⟨rfl, Or.inl (kw K hw q5164)⟩) (fun _ h => h) (Nat.le_of_ble_eq_true rfl) (Nat.le_of_ble_eq_true rfl) (Nat.le_of_ble_eq_true rfl) rfl rfl (by decide) (fs_one (⟨rfl, ff_92_296 s0 H0 oa D⟩))) ?_
  refine fs_c1 (fs_getf (pc := 6) (n := 1262862706) (idx := 90) (ref := "BoardMachineModel") (O := "BoardMachineModel") (name := "signals") (desc := "LBoardMachineModel$Signals;") C (by decide +kernel) (Or.inl (kw K hw q5169)) (fun _ h => h) (Nat.le_of_ble_eq_true rfl) (Nat.le_of_ble_eq_true rfl) (fs_one (⟨_, ff_92_301 s0 H0 oa D⟩))) ?_
  refine fs_c1 (fs_getf (pc := 9) (n := 1669738893) (idx := 281) (ref := "BoardMachineModel$Signals") (O := "BoardMachineModel$Signals") (name := "time") (desc := "J") C (by decide +kernel) (Or.inr ⟨_, kF K hw q4699⟩) (fun _ h => h) (Nat.le_of_ble_eq_true rfl) (Nat.le_of_ble_eq_true rfl) (fs_one (⟨_, ff_99_398 s0 H0 oa D⟩))) ?_
  exact fs_c0
theorem hX92_breaches : fe_H (sX92_breaches) cX92_breaches [0] fe_kl [] 20 (fun _ => dX92_breaches FX92_breaches_0) := by
  intro j pc L st M r hc h
  rcases fe_mem_c hc with rfl | hc
  · obtain ⟨w0, m0, h⟩ := fe_lR_d h
    obtain ⟨rfl, hz⟩ := fe_t0_d h
    exact ⟨[(0, .ref w0)], (fe_cs m0 fe_nl), Or.inr ((bX92_breaches_0 FX92_breaches_0 w0 M).symm.trans hz)⟩
  exact fe_mem_0 hc
theorem vX92_breaches : fe_SB (sX92_breaches) := by
  refine ⟨?_, ?_, ?_, ?_⟩
  · intro i As M r h
    exact fe_no h
  · intro i As M r h
    exact fe_no h
  · intro i As M r h
    exact fe_no h
  · intro i As M r h
    exact fe_no h
theorem eX92_breaches (g0 : Nat → FM → Option (Int64 × FM)) (a0 : Nat) (M : FM) : dX92_breaches g0 0 [(0, .ref a0)] [] M = g0 a0 M := by rfl
theorem mX92_breaches (a0 : Nat) (M : FM) (r : Int64 × FM) (h : FX92_breaches a0 M = some r) : fm_nx M ≤ fm_nx r.2 ∧ fm_ns M ≤ fm_ns r.2 :=
  fe_mono (L0 := [(0, .ref a0)]) (vX92_breaches) (by decide +kernel) (hX92_breaches) (fe_kl_k r) 0 rfl ((eX92_breaches FX92_breaches_0 a0 M).trans h)
theorem zX92_breaches {s0 : State} {H0 : Heap} {oa : Nat → Nat} {D : va_G} (K : fk s0 H0 oa D) (l : Launch) (a0 : Nat) (M : FM) (r : Int64 × FM) (h : FX92_breaches a0 M = some r) : fs_Con (fk_E s0 H0 oa D) l 1 ⟨"BoardMachineModel", "breaches", "()J"⟩ prog_111_method_59_code 1 (Option.some Jvm.ClassFile.FieldType.long) [.ref a0] M (some (.long r.1)) r.2 := by
  refine fs_method (own := "BoardMachineModel") rfl (by decide) K.2.1 (by rw [fe_slen]; exact (Nat.le_of_ble_eq_true rfl)) (mX92_breaches a0 M r h) (hX92_breaches) 0 rfl (L0 := [(0, .ref a0)]) (fun E => fe_args_e E [.ref a0] 0) ((eX92_breaches FX92_breaches_0 a0 M).trans h) (fe_kl_k r) (fun H hR => fs_nr_o (by decide) (by decide)) ?_
  intro p e s m args below meth c Q C hnm
  have hw : s0.WarmedH s.vm := C.2.2.2.2.1
  refine fe_all C fk_hwr cX92_breaches [2, 6, 10, 13, 18, 21] (by decide +kernel) (fe_fil (cps := [(2, 5, .putfield 1241891184), (6, 9, .getfield 1325777265), (10, 13, .getfield 1250279794), (13, 16, .getfield 1648763273), (18, 21, .getfield 1262862706), (21, 24, .getfield 1736847757)]) (by decide +kernel) ?_)
  refine fs_c1 (fs_putf (pc := 2) (n := 1241891184) (idx := 109) (ref := "BoardMachineModel") (O := "BoardMachineModel") (name := "thrown") (desc := "I") (fin := false) (ty := .int) C (by decide +kernel) (Or.inl ⟨rfl, Or.inl (kw K hw q5164)⟩) (fun _ h => h) (Nat.le_of_ble_eq_true rfl) (Nat.le_of_ble_eq_true rfl) (Nat.le_of_ble_eq_true rfl) rfl rfl (by decide) (fs_one (⟨rfl, ff_92_296 s0 H0 oa D⟩))) ?_
  refine fs_c1 (fs_getf (pc := 6) (n := 1325777265) (idx := 352) (ref := "BoardMachineModel") (O := "BoardMachineModel") (name := "breaches") (desc := "J") C (by decide +kernel) (Or.inl (kw K hw q5184)) (fun _ h => h) (Nat.le_of_ble_eq_true rfl) (Nat.le_of_ble_eq_true rfl) (fs_one (⟨_, ff_92_316 s0 H0 oa D⟩))) ?_
  refine fs_c1 (fs_getf (pc := 10) (n := 1250279794) (idx := 10) (ref := "BoardMachineModel") (O := "BoardMachineModel") (name := "ram") (desc := "LBoardMachineModel$Ram;") C (by decide +kernel) (Or.inl (kw K hw q5166)) (fun _ h => h) (Nat.le_of_ble_eq_true rfl) (Nat.le_of_ble_eq_true rfl) (fs_one (⟨_, ff_92_298 s0 H0 oa D⟩))) ?_
  refine fs_c1 (fs_getf (pc := 13) (n := 1648763273) (idx := 546) (ref := "BoardMachineModel$Ram") (O := "BoardMachineModel$Ram") (name := "breaches") (desc := "J") C (by decide +kernel) (Or.inr ⟨_, kF K hw q4578⟩) (fun _ h => h) (Nat.le_of_ble_eq_true rfl) (Nat.le_of_ble_eq_true rfl) (fs_one (⟨_, ff_98_393 s0 H0 oa D⟩))) ?_
  refine fs_c1 (fs_getf (pc := 18) (n := 1262862706) (idx := 90) (ref := "BoardMachineModel") (O := "BoardMachineModel") (name := "signals") (desc := "LBoardMachineModel$Signals;") C (by decide +kernel) (Or.inl (kw K hw q5169)) (fun _ h => h) (Nat.le_of_ble_eq_true rfl) (Nat.le_of_ble_eq_true rfl) (fs_one (⟨_, ff_92_301 s0 H0 oa D⟩))) ?_
  refine fs_c1 (fs_getf (pc := 21) (n := 1736847757) (idx := 547) (ref := "BoardMachineModel$Signals") (O := "BoardMachineModel$Signals") (name := "breaches") (desc := "J") C (by decide +kernel) (Or.inr ⟨_, kF K hw q4716⟩) (fun _ h => h) (Nat.le_of_ble_eq_true rfl) (Nat.le_of_ble_eq_true rfl) (fs_one (⟨_, ff_99_414 s0 H0 oa D⟩))) ?_
  exact fs_c0
theorem hX1_proper : fe_H (sX1_proper) cX1_proper [0] fe_kv [] 20 (fun _ => dX1_proper FX1_proper_0) := by
  intro j pc L st M r hc h
  rcases fe_mem_c hc with rfl | hc
  · obtain ⟨w0, m0, h⟩ := fe_lI_d h
    obtain ⟨rfl, hz⟩ := fe_t0_d h
    exact ⟨[(0, .int w0)], (fe_cs m0 fe_nl), Or.inr ((bX1_proper_0 FX1_proper_0 w0 M).symm.trans hz)⟩
  exact fe_mem_0 hc
theorem vX1_proper : fe_SB (sX1_proper) := by
  refine ⟨?_, ?_, ?_, ?_⟩
  · intro i As M r h
    exact fe_no h
  · intro i As M r h
    exact fe_no h
  · intro i As M r h
    exact fe_no h
  · intro i As M r h
    exact fe_no h
theorem eX1_proper (g0 : Int32 → FM → Option (FM)) (a0 : Int32) (M : FM) : dX1_proper g0 0 [(0, .int a0)] [] M = g0 a0 M := by rfl
theorem mX1_proper (a0 : Int32) (M : FM) (r : FM) (h : FX1_proper a0 M = some r) : fm_nx M ≤ fm_nx r ∧ fm_ns M ≤ fm_ns r :=
  fe_mono (L0 := [(0, .int a0)]) (vX1_proper) (by decide +kernel) (hX1_proper) (fe_kv_k r) 0 rfl ((eX1_proper FX1_proper_0 a0 M).trans h)
theorem zX1_proper {s0 : State} {H0 : Heap} {oa : Nat → Nat} {D : va_G} (K : fk s0 H0 oa D) (l : Launch) (a0 : Int32) (M : FM) (r : FM) (h : FX1_proper a0 M = some r) : fs_Con (fk_E s0 H0 oa D) l 1 ⟨"BoardMachine", "proper", "(Z)V"⟩ prog_1_method_2_code 1 (Option.none : Option Jvm.ClassFile.FieldType) [.int a0] M none r := by
  refine fs_method (own := "BoardMachine") rfl (by decide) K.2.1 (by rw [fe_slen]; exact (Nat.le_of_ble_eq_true rfl)) (mX1_proper a0 M r h) (hX1_proper) 0 rfl (L0 := [(0, .int a0)]) (fun E => fe_args_e E [.int a0] 0) ((eX1_proper FX1_proper_0 a0 M).trans h) (fe_kv_k r) (fun H hR => fs_nr_o (by decide) (by decide)) ?_
  intro p e s m args below meth c Q C hnm
  have hw : s0.WarmedH s.vm := C.2.2.2.2.1
  refine fe_all C fk_hwr cX1_proper [4] (by decide +kernel) (fe_fil (cps := [(4, 7, .athrow)]) (by decide +kernel) ?_)
  refine fs_c1 (fs_stk (pc := 4) (nx := 7)) ?_
  exact fs_c0
theorem hX1_end : fe_H (sX1_end FX1_proper) cX1_end [0, 22, 23] fe_kv [] 23 (fun _ => dX1_end FX1_end_0 FX1_end_22 FX1_end_23) := by
  intro j pc L st M r hc h
  rcases fe_mem_c hc with rfl | hc
  · obtain ⟨w0, m0, h⟩ := fe_lR_d h
    obtain ⟨w1, m1, h⟩ := fe_lI_d h
    obtain ⟨rfl, hz⟩ := fe_t0_d h
    exact ⟨[(0, .ref w0), (1, .int w1)], (fe_cs m0 (fe_cs m1 fe_nl)), Or.inr ((bX1_end_0 FX1_proper FX1_end_0 FX1_end_22 FX1_end_23 w0 w1 M).symm.trans hz)⟩
  rcases fe_mem_c hc with rfl | hc
  · obtain ⟨w0, m0, h⟩ := fe_lR_d h
    obtain ⟨w1, m1, h⟩ := fe_lI_d h
    obtain ⟨rfl, hz⟩ := fe_t0_d h
    exact ⟨[(0, .ref w0), (1, .int w1)], (fe_cs m0 (fe_cs m1 fe_nl)), Or.inr ((bX1_end_22 FX1_proper FX1_end_0 FX1_end_22 FX1_end_23 w0 w1 M).symm.trans hz)⟩
  rcases fe_mem_c hc with rfl | hc
  · obtain ⟨w0, m0, h⟩ := fe_lR_d h
    obtain ⟨w1, m1, h⟩ := fe_lI_d h
    obtain ⟨s0, t0, rfl, g0⟩ := fe_tI_d h
    obtain ⟨rfl, hz⟩ := fe_t0_d g0
    exact ⟨[(0, .ref w0), (1, .int w1)], (fe_cs m0 (fe_cs m1 fe_nl)), Or.inr ((bX1_end_23 FX1_proper FX1_end_0 FX1_end_22 FX1_end_23 w0 w1 s0 M).symm.trans hz)⟩
  exact fe_mem_0 hc
theorem vX1_end : fe_SB (sX1_end FX1_proper) := by
  refine ⟨?_, ?_, ?_, ?_⟩
  · intro i As M r h
    rcases fe_bc h with h | h
    · obtain ⟨v0, t0, rfl, g0⟩ := fe_tI_d h
      obtain ⟨rfl, hz⟩ := fe_t0_d g0
      exact mX1_proper v0 M r hz
    exact fe_no h
  · intro i As M r h
    exact fe_no h
  · intro i As M r h
    exact fe_no h
  · intro i As M r h
    exact fe_no h
theorem eX1_end (g0 : Nat → Int32 → FM → Option (FM)) (g22 : Nat → Int32 → FM → Option (FM)) (g23 : Nat → Int32 → Int32 → FM → Option (FM)) (a0 : Nat) (a1 : Int32) (M : FM) : dX1_end g0 g22 g23 0 [(0, .ref a0), (1, .int a1)] [] M = g0 a0 a1 M := by rfl
theorem mX1_end (a0 : Nat) (a1 : Int32) (M : FM) (r : FM) (h : FX1_end a0 a1 M = some r) : fm_nx M ≤ fm_nx r ∧ fm_ns M ≤ fm_ns r :=
  fe_mono (L0 := [(0, .ref a0), (1, .int a1)]) (vX1_end) (by decide +kernel) (hX1_end) (fe_kv_k r) 0 rfl ((eX1_end FX1_end_0 FX1_end_22 FX1_end_23 a0 a1 M).trans h)
theorem zX1_end {s0 : State} {H0 : Heap} {oa : Nat → Nat} {D : va_G} (K : fk s0 H0 oa D) (l : Launch) (a0 : Nat) (a1 : Int32) (M : FM) (r : FM) (h : FX1_end a0 a1 M = some r) : fs_Con (fk_E s0 H0 oa D) l 2 ⟨"BoardMachine", "end", "(I)V"⟩ prog_1_method_6_code 2 (Option.none : Option Jvm.ClassFile.FieldType) [.ref a0, .int a1] M none r := by
  have o0 : fs_OS (sX1_end FX1_proper) 0 0 (fs_Con (fk_E s0 H0 oa D) l 1 ⟨"BoardMachine", "proper", "(Z)V"⟩ prog_1_method_2_code 1 (Option.none : Option Jvm.ClassFile.FieldType)) := by
    intro As M r h
    obtain ⟨v0, t0, rfl, g0⟩ := fe_tI_d h
    obtain ⟨rfl, hz⟩ := fe_t0_d g0
    exact zX1_proper K l v0 M r hz
  refine fs_method (own := "BoardMachine") rfl (by decide) K.2.1 (by rw [fe_slen]; exact (Nat.le_of_ble_eq_true rfl)) (mX1_end a0 a1 M r h) (hX1_end) 0 rfl (L0 := [(0, .ref a0), (1, .int a1)]) (fun E => fe_args_e E [.ref a0, .int a1] 0) ((eX1_end FX1_end_0 FX1_end_22 FX1_end_23 a0 a1 M).trans h) (fe_kv_k r) (fun H hR => fs_nr_o (by decide) (by decide)) ?_
  intro p e s m args below meth c Q C hnm
  have hw : s0.WarmedH s.vm := C.2.2.2.2.1
  refine fe_all C fk_hwr cX1_end [6, 9, 12, 23, 27, 30, 34] (by decide +kernel) (fe_fil (cps := [(6, 9, .getfield 71344170), (9, 12, .getfield 801386766), (12, 15, .getfield 1099260248), (23, 26, .invokestatic 4), (27, 30, .getfield 71344170), (30, 33, .getfield 801386766), (34, 37, .putfield 1099260248)]) (by decide +kernel) ?_)
  refine fs_c1 (fs_getf (pc := 6) (n := 71344170) (idx := 14) (ref := "BoardMachine") (O := "BoardMachine") (name := "machine") (desc := "LBoardMachine$Machine;") C (by decide +kernel) (Or.inl (kw K hw q2534)) (fun _ h => h) (Nat.le_of_ble_eq_true rfl) (Nat.le_of_ble_eq_true rfl) (fs_one (⟨_, ff_10_17 s0 H0 oa D⟩))) ?_
  refine fs_c1 (fs_getf (pc := 9) (n := 801386766) (idx := 32) (ref := "BoardMachine$Machine") (O := "BoardMachine$Machine") (name := "tape") (desc := "LBoardMachine$Trees$Row;") C (by decide +kernel) (Or.inr ⟨_, kF K hw q2507⟩) (fun _ h => h) (Nat.le_of_ble_eq_true rfl) (Nat.le_of_ble_eq_true rfl) (fs_one (⟨_, ff_67_191 s0 H0 oa D⟩))) ?_
  refine fs_c1 (fs_getf (pc := 12) (n := 1099260248) (idx := 36) (ref := "BoardMachine$Trees$Row") (O := "BoardMachine$Trees$Row") (name := "size") (desc := "I") C (by decide +kernel) (Or.inr ⟨_, kF K hw q464⟩) (fun _ h => h) (Nat.le_of_ble_eq_true rfl) (Nat.le_of_ble_eq_true rfl) (fs_one (⟨_, ff_86_262 s0 H0 oa D⟩))) ?_
  refine fs_c1 (fs_inv_static (pc := 23) (n := 4) C (fs_lk_static (idx := 49) (y := ⟨"BoardMachine", "proper", "(Z)V"⟩) (bytes := prog_1_method_2_code) (maxL := 1) (rt := (Option.none : Option Jvm.ClassFile.FieldType)) (d := 1) C (by decide +kernel) (kw K hw q2672) (kw K hw q311) (kw K hw q2671) (Or.inl (kw K hw q2670)) ⟨by decide, by decide⟩ rfl (Nat.le_of_ble_eq_true rfl) (Nat.le_of_ble_eq_true rfl)) fs_con_mono o0) ?_
  refine fs_c1 (fs_getf (pc := 27) (n := 71344170) (idx := 14) (ref := "BoardMachine") (O := "BoardMachine") (name := "machine") (desc := "LBoardMachine$Machine;") C (by decide +kernel) (Or.inl (kw K hw q2534)) (fun _ h => h) (Nat.le_of_ble_eq_true rfl) (Nat.le_of_ble_eq_true rfl) (fs_one (⟨_, ff_10_17 s0 H0 oa D⟩))) ?_
  refine fs_c1 (fs_getf (pc := 30) (n := 801386766) (idx := 32) (ref := "BoardMachine$Machine") (O := "BoardMachine$Machine") (name := "tape") (desc := "LBoardMachine$Trees$Row;") C (by decide +kernel) (Or.inr ⟨_, kF K hw q2507⟩) (fun _ h => h) (Nat.le_of_ble_eq_true rfl) (Nat.le_of_ble_eq_true rfl) (fs_one (⟨_, ff_67_191 s0 H0 oa D⟩))) ?_
  refine fs_c1 (fs_putf (pc := 34) (n := 1099260248) (idx := 36) (ref := "BoardMachine$Trees$Row") (O := "BoardMachine$Trees$Row") (name := "size") (desc := "I") (fin := false) (ty := .int) C (by decide +kernel) (Or.inl ⟨rfl, Or.inr ⟨_, kF K hw q464⟩⟩) (fun _ h => h) (Nat.le_of_ble_eq_true rfl) (Nat.le_of_ble_eq_true rfl) (Nat.le_of_ble_eq_true rfl) rfl rfl (by decide) (fs_one (⟨rfl, ff_86_262 s0 H0 oa D⟩))) ?_
  exact fs_c0
theorem hX32_isDue : fe_H (sX32_isDue) cX32_isDue [0, 29] fe_ki [] 23 (fun _ => dX32_isDue FX32_isDue_0 FX32_isDue_29) := by
  intro j pc L st M r hc h
  rcases fe_mem_c hc with rfl | hc
  · obtain ⟨w0, m0, h⟩ := fe_lR_d h
    obtain ⟨w1, m1, h⟩ := fe_lI_d h
    obtain ⟨rfl, hz⟩ := fe_t0_d h
    exact ⟨[(0, .ref w0), (1, .int w1)], (fe_cs m0 (fe_cs m1 fe_nl)), Or.inr ((bX32_isDue_0 FX32_isDue_0 FX32_isDue_29 w0 w1 M).symm.trans hz)⟩
  rcases fe_mem_c hc with rfl | hc
  · obtain ⟨s0, t0, rfl, g0⟩ := fe_tI_d h
    obtain ⟨rfl, hz⟩ := fe_t0_d g0
    exact ⟨[], fe_nl, Or.inr ((bX32_isDue_29 FX32_isDue_0 FX32_isDue_29 s0 M).symm.trans hz)⟩
  exact fe_mem_0 hc
theorem vX32_isDue : fe_SB (sX32_isDue) := by
  refine ⟨?_, ?_, ?_, ?_⟩
  · intro i As M r h
    exact fe_no h
  · intro i As M r h
    exact fe_no h
  · intro i As M r h
    exact fe_no h
  · intro i As M r h
    exact fe_no h
theorem eX32_isDue (g0 : Nat → Int32 → FM → Option (Int32 × FM)) (g29 : Int32 → FM → Option (Int32 × FM)) (a0 : Nat) (a1 : Int32) (M : FM) : dX32_isDue g0 g29 0 [(0, .ref a0), (1, .int a1)] [] M = g0 a0 a1 M := by rfl
theorem mX32_isDue (a0 : Nat) (a1 : Int32) (M : FM) (r : Int32 × FM) (h : FX32_isDue a0 a1 M = some r) : fm_nx M ≤ fm_nx r.2 ∧ fm_ns M ≤ fm_ns r.2 :=
  fe_mono (L0 := [(0, .ref a0), (1, .int a1)]) (vX32_isDue) (by decide +kernel) (hX32_isDue) (fe_ki_k r) 0 rfl ((eX32_isDue FX32_isDue_0 FX32_isDue_29 a0 a1 M).trans h)
theorem zX32_isDue {s0 : State} {H0 : Heap} {oa : Nat → Nat} {D : va_G} (K : fk s0 H0 oa D) (l : Launch) (a0 : Nat) (a1 : Int32) (M : FM) (r : Int32 × FM) (h : FX32_isDue a0 a1 M = some r) : fs_Con (fk_E s0 H0 oa D) l 1 ⟨"BoardMachine$Signals$Timer", "isDue", "(I)Z"⟩ prog_93_method_7_code 2 (Option.some Jvm.ClassFile.FieldType.boolean) [.ref a0, .int a1] M (some (.int r.1)) r.2 := by
  refine fs_method (own := "BoardMachine$Signals$Timer") rfl (by decide) K.2.1 (by rw [fe_slen]; exact (Nat.le_of_ble_eq_true rfl)) (mX32_isDue a0 a1 M r h) (hX32_isDue) 0 rfl (L0 := [(0, .ref a0), (1, .int a1)]) (fun E => fe_args_e E [.ref a0, .int a1] 0) ((eX32_isDue FX32_isDue_0 FX32_isDue_29 a0 a1 M).trans h) (fe_ki_k r) (fun H hR => fs_nr_o (by decide) (by decide)) ?_
  intro p e s m args below meth c Q C hnm
  have hw : s0.WarmedH s.vm := C.2.2.2.2.1
  refine fe_all C fk_hwr cX32_isDue [1, 6, 11, 16] (by decide +kernel) (fe_fil (cps := [(1, 4, .getfield 1032126786), (6, 9, .jsr_w (-9223372036854775808)), (11, 14, .getfield 1032126786), (16, 19, .jsr_w (-9223372036854775808))]) (by decide +kernel) ?_)
  refine fs_c1 (fs_getf (pc := 1) (n := 1032126786) (idx := 17) (ref := "BoardMachine$Signals$Timer") (O := "BoardMachine$Signals$Timer") (name := "numbers") (desc := "[J") C (by decide +kernel) (Or.inl (kw K hw q979)) (fun _ h => h) (Nat.le_of_ble_eq_true rfl) (Nat.le_of_ble_eq_true rfl) (fs_one (⟨_, ff_80_246 s0 H0 oa D⟩))) ?_
  refine fs_c1 (fs_ldcl (pc := 6) (idx := 54) (v := -9223372036854775808) C (by decide +kernel) (kw K hw q2872)) ?_
  refine fs_c1 (fs_getf (pc := 11) (n := 1032126786) (idx := 17) (ref := "BoardMachine$Signals$Timer") (O := "BoardMachine$Signals$Timer") (name := "numbers") (desc := "[J") C (by decide +kernel) (Or.inl (kw K hw q979)) (fun _ h => h) (Nat.le_of_ble_eq_true rfl) (Nat.le_of_ble_eq_true rfl) (fs_one (⟨_, ff_80_246 s0 H0 oa D⟩))) ?_
  refine fs_c1 (fs_ldcl (pc := 16) (idx := 54) (v := -9223372036854775808) C (by decide +kernel) (kw K hw q2872)) ?_
  exact fs_c0
