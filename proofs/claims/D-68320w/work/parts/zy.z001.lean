/-! contracts of methods, printed by gen/snd.py -/
set_option maxRecDepth 100000
set_option maxHeartbeats 4000000
theorem mh_values_6 (M : FM) (r : Nat × FM) (h : Fh_values_6 M = some r) : fm_nx M ≤ fm_nx r.2 ∧ fm_ns M ≤ fm_ns r.2 := by
  obtain rfl := Option.some.inj h
  exact fs_vv_mono (t := 928) (st := 21) (n := 5) (c0 := 37)
theorem zh_values_6 {s0 : State} {H0 : Heap} {oa : Nat → Nat} {D : va_G} (K : fk s0 H0 oa D) (l : Launch) (M : FM) (r : Nat × FM) (h : Fh_values_6 M = some r) : fs_Con (fk_E s0 H0 oa D) l 1 ⟨"BoardMachine$Window", "values", "()[LBoardMachine$Window;"⟩ prog_109_method_1_code 0 (Option.some (Jvm.ClassFile.FieldType.array (Jvm.ClassFile.FieldType.object "BoardMachine$Window"))) [] M (some (.ref r.1)) r.2 := by
  obtain rfl := Option.some.inj h
  exact fs_values (st := 21) K.2.1 l rfl (by decide) (by decide +kernel) (by decide +kernel) (by decide +kernel) (by decide +kernel) (fun args s hw => ⟨kw K hw q915, kw K hw q917, kw K hw q918, kw K hw q919, kw K hw q920, kw K hw q921, kC K hw q922, kw K hw q924⟩) K.2.2.2.2.2.2.2.2 (by decide) rfl (by decide) (by decide) (by decide) (by decide +kernel) M
theorem hX31_init : fe_H (sX31_init) cX31_init [0] fe_kv [] 20 (fun _ => dX31_init FX31_init_0) := by
  intro j pc L st M r hc h
  rcases fe_mem_c hc with rfl | hc
  · obtain ⟨w0, m0, h⟩ := fe_lR_d h
    obtain ⟨rfl, hz⟩ := fe_t0_d h
    exact ⟨[(0, .ref w0)], (fe_cs m0 fe_nl), Or.inr ((bX31_init_0 FX31_init_0 w0 M).symm.trans hz)⟩
  exact fe_mem_0 hc
theorem vX31_init : fe_SB (sX31_init) := by
  refine ⟨?_, ?_, ?_, ?_⟩
  · intro i As M r h
    exact fe_no h
  · intro i As M r h
    exact fe_no h
  · intro i As M r h
    exact fe_no h
  · intro i As M r h
    exact fe_no h
theorem eX31_init (g0 : Nat → FM → Option (FM)) (a0 : Nat) (M : FM) : dX31_init g0 0 [(0, .ref a0)] [] M = g0 a0 M := by rfl
theorem mX31_init (a0 : Nat) (M : FM) (r : FM) (h : FX31_init a0 M = some r) : fm_nx M ≤ fm_nx r ∧ fm_ns M ≤ fm_ns r :=
  fe_mono (L0 := [(0, .ref a0)]) (vX31_init) (by decide +kernel) (hX31_init) (fe_kv_k r) 0 rfl ((eX31_init FX31_init_0 a0 M).trans h)
theorem zX31_init {s0 : State} {H0 : Heap} {oa : Nat → Nat} {D : va_G} (K : fk s0 H0 oa D) (l : Launch) (a0 : Nat) (M : FM) (r : FM) (h : FX31_init a0 M = some r) : fs_Con (fk_E s0 H0 oa D) l 1 ⟨"BoardMachine$Signals$Serial", "<init>", "()V"⟩ prog_91_method_1_code 1 (Option.none : Option Jvm.ClassFile.FieldType) [.ref a0] M none r := by
  refine fs_method (own := "BoardMachine$Signals$Serial") rfl (by decide) K.2.1 (by rw [fe_slen]; exact (Nat.le_of_ble_eq_true rfl)) (mX31_init a0 M r h) (hX31_init) 0 rfl (L0 := [(0, .ref a0)]) (fun E => fe_args_e E [.ref a0] 0) ((eX31_init FX31_init_0 a0 M).trans h) (fe_kv_k r) (fun H hR => fs_nr_o (by decide) (by decide)) ?_
  intro p e s m args below meth c Q C hnm
  have hw : s0.WarmedH s.vm := C.2.2.2.2.1
  refine fe_all C fk_hwr cX31_init [1, 7, 9, 16, 18, 24, 26] (by decide +kernel) (fe_fil (cps := [(1, 4, .monitorenter), (7, 9, .anewarray 236421), (9, 12, .putfield 965009722), (16, 18, .anewarray 239495), (18, 21, .putfield 977592634), (24, 26, .anewarray 241541), (26, 29, .putfield 985981242)]) (by decide +kernel) ?_)
  refine fs_c1 (fs_init (pc := 1) (idx := 3) C (by decide +kernel) (kw K hw q936) (kw K hw q441) (kw K hw q442) ⟨(Nat.le_of_ble_eq_true rfl), (Nat.le_of_ble_eq_true rfl)⟩) ?_
  refine fs_c1 (fs_newI (pc := 7) (n := 236421) C (by decide +kernel) (kw K hw q966) rfl rfl) ?_
  refine fs_c1 (fs_putf (pc := 9) (n := 965009722) (idx := 9) (ref := "BoardMachine$Signals$Serial") (O := "BoardMachine$Signals$Serial") (name := "in") (desc := "[I") (fin := true) (ty := (.array .int)) C (by decide +kernel) (Or.inr ⟨rfl, kw K hw q937, hnm, rfl⟩) (fun _ h => h) (Nat.le_of_ble_eq_true rfl) (Nat.le_of_ble_eq_true rfl) (Nat.le_of_ble_eq_true rfl) rfl rfl (by decide) (fs_one (⟨rfl, ff_78_230 s0 H0 oa D⟩))) ?_
  refine fs_c1 (fs_newB (pc := 16) (n := 239495) C (by decide +kernel) (kw K hw q471) rfl rfl) ?_
  refine fs_c1 (fs_putf (pc := 18) (n := 977592634) (idx := 15) (ref := "BoardMachine$Signals$Serial") (O := "BoardMachine$Signals$Serial") (name := "out") (desc := "[B") (fin := true) (ty := (.array .byte)) C (by decide +kernel) (Or.inr ⟨rfl, kw K hw q940, hnm, rfl⟩) (fun _ h => h) (Nat.le_of_ble_eq_true rfl) (Nat.le_of_ble_eq_true rfl) (Nat.le_of_ble_eq_true rfl) rfl rfl (by decide) (fs_one (⟨rfl, ff_78_233 s0 H0 oa D⟩))) ?_
  refine fs_c1 (fs_newI (pc := 24) (n := 241541) C (by decide +kernel) (kw K hw q966) rfl rfl) ?_
  refine fs_c1 (fs_putf (pc := 26) (n := 985981242) (idx := 19) (ref := "BoardMachine$Signals$Serial") (O := "BoardMachine$Signals$Serial") (name := "held") (desc := "[I") (fin := true) (ty := (.array .int)) C (by decide +kernel) (Or.inr ⟨rfl, kw K hw q943, hnm, rfl⟩) (fun _ h => h) (Nat.le_of_ble_eq_true rfl) (Nat.le_of_ble_eq_true rfl) (Nat.le_of_ble_eq_true rfl) rfl rfl (by decide) (fs_one (⟨rfl, ff_78_235 s0 H0 oa D⟩))) ?_
  exact fs_c0
theorem hX32_init : fe_H (sX32_init) cX32_init [0] fe_kv [] 39 (fun _ => dX32_init FX32_init_0) := by
  intro j pc L st M r hc h
  rcases fe_mem_c hc with rfl | hc
  · obtain ⟨w0, m0, h⟩ := fe_lR_d h
    obtain ⟨w1, m1, h⟩ := fe_lI_d h
    obtain ⟨rfl, hz⟩ := fe_t0_d h
    exact ⟨[(0, .ref w0), (1, .int w1)], (fe_cs m0 (fe_cs m1 fe_nl)), Or.inr ((bX32_init_0 FX32_init_0 w0 w1 M).symm.trans hz)⟩
  exact fe_mem_0 hc
theorem vX32_init : fe_SB (sX32_init) := by
  refine ⟨?_, ?_, ?_, ?_⟩
  · intro i As M r h
    exact fe_no h
  · intro i As M r h
    exact fe_no h
  · intro i As M r h
    exact fe_no h
  · intro i As M r h
    exact fe_no h
theorem eX32_init (g0 : Nat → Int32 → FM → Option (FM)) (a0 : Nat) (a1 : Int32) (M : FM) : dX32_init g0 0 [(0, .ref a0), (1, .int a1)] [] M = g0 a0 a1 M := by rfl
theorem mX32_init (a0 : Nat) (a1 : Int32) (M : FM) (r : FM) (h : FX32_init a0 a1 M = some r) : fm_nx M ≤ fm_nx r ∧ fm_ns M ≤ fm_ns r :=
  fe_mono (L0 := [(0, .ref a0), (1, .int a1)]) (vX32_init) (by decide +kernel) (hX32_init) (fe_kv_k r) 0 rfl ((eX32_init FX32_init_0 a0 a1 M).trans h)
theorem zX32_init {s0 : State} {H0 : Heap} {oa : Nat → Nat} {D : va_G} (K : fk s0 H0 oa D) (l : Launch) (a0 : Nat) (a1 : Int32) (M : FM) (r : FM) (h : FX32_init a0 a1 M = some r) : fs_Con (fk_E s0 H0 oa D) l 1 ⟨"BoardMachine$Signals$Timer", "<init>", "(I)V"⟩ prog_93_method_1_code 2 (Option.none : Option Jvm.ClassFile.FieldType) [.ref a0, .int a1] M none r := by
  refine fs_method (own := "BoardMachine$Signals$Timer") rfl (by decide) K.2.1 (by rw [fe_slen]; exact (Nat.le_of_ble_eq_true rfl)) (mX32_init a0 a1 M r h) (hX32_init) 0 rfl (L0 := [(0, .ref a0), (1, .int a1)]) (fun E => fe_args_e E [.ref a0, .int a1] 0) ((eX32_init FX32_init_0 a0 a1 M).trans h) (fe_kv_k r) (fun H hR => fs_nr_o (by decide) (by decide)) ?_
  intro p e s m args below meth c Q C hnm
  have hw : s0.WarmedH s.vm := C.2.2.2.2.1
  refine fe_all C fk_hwr cX32_init [1, 6, 8, 13, 17, 23, 29, 35, 43, 48] (by decide +kernel) (fe_fil (cps := [(1, 4, .monitorenter), (6, 8, .anewarray 251781), (8, 11, .putfield 1027932482), (13, 15, .anewarray 252806), (17, 20, .jsr_w (-1)), (23, 26, .jsr_w (-1)), (29, 32, .jsr_w (-1)), (35, 38, .jsr_w (-1)), (43, 46, .putfield 1032126786), (48, 51, .putfield 1023738176)]) (by decide +kernel) ?_)
  refine fs_c1 (fs_init (pc := 1) (idx := 3) C (by decide +kernel) (kw K hw q974) (kw K hw q441) (kw K hw q442) ⟨(Nat.le_of_ble_eq_true rfl), (Nat.le_of_ble_eq_true rfl)⟩) ?_
  refine fs_c1 (fs_newI (pc := 6) (n := 251781) C (by decide +kernel) (kw K hw q966) rfl rfl) ?_
  refine fs_c1 (fs_putf (pc := 8) (n := 1027932482) (idx := 9) (ref := "BoardMachine$Signals$Timer") (O := "BoardMachine$Signals$Timer") (name := "soft") (desc := "[I") (fin := true) (ty := (.array .int)) C (by decide +kernel) (Or.inr ⟨rfl, kw K hw q977, hnm, rfl⟩) (fun _ h => h) (Nat.le_of_ble_eq_true rfl) (Nat.le_of_ble_eq_true rfl) (Nat.le_of_ble_eq_true rfl) rfl rfl (by decide) (fs_one (⟨rfl, ff_80_245 s0 H0 oa D⟩))) ?_
  refine fs_c1 (fs_newL (pc := 13) (n := 252806) C (by decide +kernel) (kw K hw q648) rfl rfl) ?_
  refine fs_c1 (fs_ldcl (pc := 17) (idx := 15) (v := -1) C (by decide +kernel) (kw K hw q975)) ?_
  refine fs_c1 (fs_ldcl (pc := 23) (idx := 15) (v := -1) C (by decide +kernel) (kw K hw q975)) ?_
  refine fs_c1 (fs_ldcl (pc := 29) (idx := 15) (v := -1) C (by decide +kernel) (kw K hw q975)) ?_
  refine fs_c1 (fs_ldcl (pc := 35) (idx := 15) (v := -1) C (by decide +kernel) (kw K hw q975)) ?_
  refine fs_c1 (fs_putf (pc := 43) (n := 1032126786) (idx := 17) (ref := "BoardMachine$Signals$Timer") (O := "BoardMachine$Signals$Timer") (name := "numbers") (desc := "[J") (fin := true) (ty := (.array .long)) C (by decide +kernel) (Or.inr ⟨rfl, kw K hw q979, hnm, rfl⟩) (fun _ h => h) (Nat.le_of_ble_eq_true rfl) (Nat.le_of_ble_eq_true rfl) (Nat.le_of_ble_eq_true rfl) rfl rfl (by decide) (fs_one (⟨rfl, ff_80_246 s0 H0 oa D⟩))) ?_
  refine fs_c1 (fs_putf (pc := 48) (n := 1023738176) (idx := 21) (ref := "BoardMachine$Signals$Timer") (O := "BoardMachine$Signals$Timer") (name := "processors") (desc := "I") (fin := true) (ty := .int) C (by decide +kernel) (Or.inr ⟨rfl, kw K hw q976, hnm, rfl⟩) (fun _ h => h) (Nat.le_of_ble_eq_true rfl) (Nat.le_of_ble_eq_true rfl) (Nat.le_of_ble_eq_true rfl) rfl rfl (by decide) (fs_one (⟨rfl, ff_80_244 s0 H0 oa D⟩))) ?_
  exact fs_c0
theorem hX33_init : fe_H (sX33_init) cX33_init [0] fe_kv [] 25 (fun _ => dX33_init FX33_init_0) := by
  intro j pc L st M r hc h
  rcases fe_mem_c hc with rfl | hc
  · obtain ⟨w0, m0, h⟩ := fe_lR_d h
    obtain ⟨w1, m1, h⟩ := fe_lI_d h
    obtain ⟨rfl, hz⟩ := fe_t0_d h
    exact ⟨[(0, .ref w0), (1, .int w1)], (fe_cs m0 (fe_cs m1 fe_nl)), Or.inr ((bX33_init_0 FX33_init_0 w0 w1 M).symm.trans hz)⟩
  exact fe_mem_0 hc
theorem vX33_init : fe_SB (sX33_init) := by
  refine ⟨?_, ?_, ?_, ?_⟩
  · intro i As M r h
    exact fe_no h
  · intro i As M r h
    exact fe_no h
  · intro i As M r h
    exact fe_no h
  · intro i As M r h
    exact fe_no h
theorem eX33_init (g0 : Nat → Int32 → FM → Option (FM)) (a0 : Nat) (a1 : Int32) (M : FM) : dX33_init g0 0 [(0, .ref a0), (1, .int a1)] [] M = g0 a0 a1 M := by rfl
theorem mX33_init (a0 : Nat) (a1 : Int32) (M : FM) (r : FM) (h : FX33_init a0 a1 M = some r) : fm_nx M ≤ fm_nx r ∧ fm_ns M ≤ fm_ns r :=
  fe_mono (L0 := [(0, .ref a0), (1, .int a1)]) (vX33_init) (by decide +kernel) (hX33_init) (fe_kv_k r) 0 rfl ((eX33_init FX33_init_0 a0 a1 M).trans h)
theorem zX33_init {s0 : State} {H0 : Heap} {oa : Nat → Nat} {D : va_G} (K : fk s0 H0 oa D) (l : Launch) (a0 : Nat) (a1 : Int32) (M : FM) (r : FM) (h : FX33_init a0 a1 M = some r) : fs_Con (fk_E s0 H0 oa D) l 1 ⟨"BoardMachine$Signals$Controller", "<init>", "(I)V"⟩ prog_89_method_1_code 2 (Option.none : Option Jvm.ClassFile.FieldType) [.ref a0, .int a1] M none r := by
  refine fs_method (own := "BoardMachine$Signals$Controller") rfl (by decide) K.2.1 (by rw [fe_slen]; exact (Nat.le_of_ble_eq_true rfl)) (mX33_init a0 a1 M r h) (hX33_init) 0 rfl (L0 := [(0, .ref a0), (1, .int a1)]) (fun E => fe_args_e E [.ref a0, .int a1] 0) ((eX33_init FX33_init_0 a0 a1 M).trans h) (fe_kv_k r) (fun H hR => fs_nr_o (by decide) (by decide)) ?_
  intro p e s m args below meth c Q C hnm
  have hw : s0.WarmedH s.vm := C.2.2.2.2.1
  refine fe_all C fk_hwr cX33_init [1, 7, 9, 15, 17, 23, 25, 32] (by decide +kernel) (fe_fil (cps := [(1, 4, .monitorenter), (7, 9, .anewarray 230277), (9, 12, .putfield 939839798), (15, 17, .anewarray 231301), (17, 20, .putfield 944034102), (23, 25, .anewarray 232325), (25, 28, .putfield 948228406), (32, 35, .putfield 935645492)]) (by decide +kernel) ?_)
  refine fs_c1 (fs_init (pc := 1) (idx := 3) C (by decide +kernel) (kw K hw q993) (kw K hw q441) (kw K hw q442) ⟨(Nat.le_of_ble_eq_true rfl), (Nat.le_of_ble_eq_true rfl)⟩) ?_
  refine fs_c1 (fs_newI (pc := 7) (n := 230277) C (by decide +kernel) (kw K hw q966) rfl rfl) ?_
  refine fs_c1 (fs_putf (pc := 9) (n := 939839798) (idx := 9) (ref := "BoardMachine$Signals$Controller") (O := "BoardMachine$Signals$Controller") (name := "priorities") (desc := "[I") (fin := true) (ty := (.array .int)) C (by decide +kernel) (Or.inr ⟨rfl, kw K hw q995, hnm, rfl⟩) (fun _ h => h) (Nat.le_of_ble_eq_true rfl) (Nat.le_of_ble_eq_true rfl) (Nat.le_of_ble_eq_true rfl) rfl rfl (by decide) (fs_one (⟨rfl, ff_77_224 s0 H0 oa D⟩))) ?_
  refine fs_c1 (fs_newI (pc := 15) (n := 231301) C (by decide +kernel) (kw K hw q966) rfl rfl) ?_
  refine fs_c1 (fs_putf (pc := 17) (n := 944034102) (idx := 15) (ref := "BoardMachine$Signals$Controller") (O := "BoardMachine$Signals$Controller") (name := "enables") (desc := "[I") (fin := true) (ty := (.array .int)) C (by decide +kernel) (Or.inr ⟨rfl, kw K hw q996, hnm, rfl⟩) (fun _ h => h) (Nat.le_of_ble_eq_true rfl) (Nat.le_of_ble_eq_true rfl) (Nat.le_of_ble_eq_true rfl) rfl rfl (by decide) (fs_one (⟨rfl, ff_77_225 s0 H0 oa D⟩))) ?_
  refine fs_c1 (fs_newI (pc := 23) (n := 232325) C (by decide +kernel) (kw K hw q966) rfl rfl) ?_
  refine fs_c1 (fs_putf (pc := 25) (n := 948228406) (idx := 18) (ref := "BoardMachine$Signals$Controller") (O := "BoardMachine$Signals$Controller") (name := "thresholds") (desc := "[I") (fin := true) (ty := (.array .int)) C (by decide +kernel) (Or.inr ⟨rfl, kw K hw q997, hnm, rfl⟩) (fun _ h => h) (Nat.le_of_ble_eq_true rfl) (Nat.le_of_ble_eq_true rfl) (Nat.le_of_ble_eq_true rfl) rfl rfl (by decide) (fs_one (⟨rfl, ff_77_226 s0 H0 oa D⟩))) ?_
  refine fs_c1 (fs_putf (pc := 32) (n := 935645492) (idx := 21) (ref := "BoardMachine$Signals$Controller") (O := "BoardMachine$Signals$Controller") (name := "contexts") (desc := "I") (fin := true) (ty := .int) C (by decide +kernel) (Or.inr ⟨rfl, kw K hw q994, hnm, rfl⟩) (fun _ h => h) (Nat.le_of_ble_eq_true rfl) (Nat.le_of_ble_eq_true rfl) (Nat.le_of_ble_eq_true rfl) rfl rfl (by decide) (fs_one (⟨rfl, ff_77_223 s0 H0 oa D⟩))) ?_
  exact fs_c0
theorem hX30_init : fe_H (sX30_init FX31_init FX32_init FX33_init) cX30_init [0] fe_kv [] 50 (fun _ => dX30_init FX30_init_0) := by
  intro j pc L st M r hc h
  rcases fe_mem_c hc with rfl | hc
  · obtain ⟨w0, m0, h⟩ := fe_lR_d h
    obtain ⟨w1, m1, h⟩ := fe_lI_d h
    obtain ⟨rfl, hz⟩ := fe_t0_d h
    exact ⟨[(0, .ref w0), (1, .int w1)], (fe_cs m0 (fe_cs m1 fe_nl)), Or.inr ((bX30_init_0 FX31_init FX32_init FX33_init FX30_init_0 w0 w1 M).symm.trans hz)⟩
  exact fe_mem_0 hc
theorem vX30_init : fe_SB (sX30_init FX31_init FX32_init FX33_init) := by
  refine ⟨?_, ?_, ?_, ?_⟩
  · intro i As M r h
    rcases fe_bc h with h | h
    · obtain ⟨v0, t0, rfl, g0⟩ := fe_tR_d h
      obtain ⟨rfl, hz⟩ := fe_t0_d g0
      exact mX31_init v0 M r hz
    rcases fe_bc h with h | h
    · obtain ⟨v0, t0, rfl, g0⟩ := fe_tR_d h
      obtain ⟨v1, t1, rfl, g1⟩ := fe_tI_d g0
      obtain ⟨rfl, hz⟩ := fe_t0_d g1
      exact mX32_init v0 v1 M r hz
    rcases fe_bc h with h | h
    · obtain ⟨v0, t0, rfl, g0⟩ := fe_tR_d h
      obtain ⟨v1, t1, rfl, g1⟩ := fe_tI_d g0
      obtain ⟨rfl, hz⟩ := fe_t0_d g1
      exact mX33_init v0 v1 M r hz
    exact fe_no h
  · intro i As M r h
    exact fe_no h
  · intro i As M r h
    exact fe_no h
  · intro i As M r h
    exact fe_no h
theorem eX30_init (g0 : Nat → Int32 → FM → Option (FM)) (a0 : Nat) (a1 : Int32) (M : FM) : dX30_init g0 0 [(0, .ref a0), (1, .int a1)] [] M = g0 a0 a1 M := by rfl
theorem mX30_init (a0 : Nat) (a1 : Int32) (M : FM) (r : FM) (h : FX30_init a0 a1 M = some r) : fm_nx M ≤ fm_nx r ∧ fm_ns M ≤ fm_ns r :=
  fe_mono (L0 := [(0, .ref a0), (1, .int a1)]) (vX30_init) (by decide +kernel) (hX30_init) (fe_kv_k r) 0 rfl ((eX30_init FX30_init_0 a0 a1 M).trans h)
theorem zX30_init {s0 : State} {H0 : Heap} {oa : Nat → Nat} {D : va_G} (K : fk s0 H0 oa D) (l : Launch) (a0 : Nat) (a1 : Int32) (M : FM) (r : FM) (h : FX30_init a0 a1 M = some r) : fs_Con (fk_E s0 H0 oa D) l 2 ⟨"BoardMachine$Signals$SignalUnit", "<init>", "(I)V"⟩ prog_92_method_1_code 2 (Option.none : Option Jvm.ClassFile.FieldType) [.ref a0, .int a1] M none r := by
  have o0 : fs_OS (sX30_init FX31_init FX32_init FX33_init) 0 0 (fs_Con (fk_E s0 H0 oa D) l 1 ⟨"BoardMachine$Signals$Serial", "<init>", "()V"⟩ prog_91_method_1_code 1 (Option.none : Option Jvm.ClassFile.FieldType)) := by
    intro As M r h
    obtain ⟨v0, t0, rfl, g0⟩ := fe_tR_d h
    obtain ⟨rfl, hz⟩ := fe_t0_d g0
    exact zX31_init K l v0 M r hz
  have o1 : fs_OS (sX30_init FX31_init FX32_init FX33_init) 1 0 (fs_Con (fk_E s0 H0 oa D) l 1 ⟨"BoardMachine$Signals$Timer", "<init>", "(I)V"⟩ prog_93_method_1_code 2 (Option.none : Option Jvm.ClassFile.FieldType)) := by
    intro As M r h
    obtain ⟨v0, t0, rfl, g0⟩ := fe_tR_d h
    obtain ⟨v1, t1, rfl, g1⟩ := fe_tI_d g0
    obtain ⟨rfl, hz⟩ := fe_t0_d g1
    exact zX32_init K l v0 v1 M r hz
  have o2 : fs_OS (sX30_init FX31_init FX32_init FX33_init) 2 0 (fs_Con (fk_E s0 H0 oa D) l 1 ⟨"BoardMachine$Signals$Controller", "<init>", "(I)V"⟩ prog_89_method_1_code 2 (Option.none : Option Jvm.ClassFile.FieldType)) := by
    intro As M r h
    obtain ⟨v0, t0, rfl, g0⟩ := fe_tR_d h
    obtain ⟨v1, t1, rfl, g1⟩ := fe_tI_d g0
    obtain ⟨rfl, hz⟩ := fe_t0_d g1
    exact zX33_init K l v0 v1 M r hz
  refine fs_method (own := "BoardMachine$Signals$SignalUnit") rfl (by decide) K.2.1 (by rw [fe_slen]; exact (Nat.le_of_ble_eq_true rfl)) (mX30_init a0 a1 M r h) (hX30_init) 0 rfl (L0 := [(0, .ref a0), (1, .int a1)]) (fun E => fe_args_e E [.ref a0, .int a1] 0) ((eX30_init FX30_init_0 a0 a1 M).trans h) (fe_kv_k r) (fun H hR => fs_nr_o (by decide) (by decide)) ?_
  intro p e s m args below meth c Q C hnm
  have hw : s0.WarmedH s.vm := C.2.2.2.2.1
  refine fe_all C fk_hwr cX30_init [1, 5, 9, 12, 17, 20, 25, 29, 34, 37, 41, 46, 49, 53, 58, 61, 63, 68, 71, 73, 78, 81] (by decide +kernel) (fe_fil (cps := [(1, 4, .monitorenter), (5, 8, .new 5001), (9, 12, .invokevirtual 4274254), (12, 15, .putfield 1015345470), (17, 20, .anewarray 249755), (20, 23, .putfield 1019539774), (25, 28, .putfield 1002762556), (29, 32, .new 5123), (34, 37, .invokevirtual 75579472), (37, 40, .putfield 1006956862), (41, 44, .new 4935), (46, 49, .invokevirtual 142685261), (49, 52, .putfield 1011151166), (53, 56, .getfield 1019539774), (58, 61, .getfield 1006956862), (61, 62, .instanceof 967917648), (63, 66, .getfield 1019539774), (68, 71, .getfield 1011151166), (71, 72, .instanceof 967914573), (73, 76, .getfield 1019539774), (78, 81, .getfield 1015345470), (81, 82, .instanceof 967915598)]) (by decide +kernel) ?_)
  refine fs_c1 (fs_init (pc := 1) (idx := 3) C (by decide +kernel) (kw K hw q930) (kw K hw q441) (kw K hw q442) ⟨(Nat.le_of_ble_eq_true rfl), (Nat.le_of_ble_eq_true rfl)⟩) ?_
  refine fs_c1 (fs_newo (pc := 5) (n := 5001) (idx := 9) (CC := "BoardMachine$Signals$Serial") (T := fT_78) (N := 9) C (by decide +kernel) (kw K hw q931) (kw K hw q932) (kw K hw q342) (by decide) (Nat.le_of_ble_eq_true rfl) rfl rfl) ?_
  refine fs_c1 (fs_inv_virtual (pc := 9) (n := 4274254) C (Nat.le_of_ble_eq_true rfl) (Nat.le_of_ble_eq_true rfl) (fs_lk_init (idx := 11) (y := ⟨"BoardMachine$Signals$Serial", "<init>", "()V"⟩) (bytes := prog_91_method_1_code) (maxL := 1) (d := 1) C (Nat.le_of_ble_eq_true rfl) (Nat.le_of_ble_eq_true rfl) (by decide +kernel) (kw K hw q935) (kw K hw q342) (kw K hw q934) (Or.inr ⟨_, kM K hw q933⟩) rfl ⟨by decide, by decide⟩ rfl (Nat.le_of_ble_eq_true rfl) (Nat.le_of_ble_eq_true rfl)) fs_con_mono o0) ?_
  refine fs_c1 (fs_putf (pc := 12) (n := 1015345470) (idx := 12) (ref := "BoardMachine$Signals$SignalUnit") (O := "BoardMachine$Signals$SignalUnit") (name := "serial") (desc := "LBoardMachine$Signals$Serial;") (fin := true) (ty := (.object "BoardMachine$Signals$Serial")) C (by decide +kernel) (Or.inr ⟨rfl, kw K hw q1021, hnm, rfl⟩) (fun _ h => h) (Nat.le_of_ble_eq_true rfl) (Nat.le_of_ble_eq_true rfl) (Nat.le_of_ble_eq_true rfl) rfl rfl (by decide) (fs_one (⟨rfl, ff_79_242 s0 H0 oa D⟩))) ?_
  refine fs_c1 (fs_newr (pc := 17) (n := 249755) (t := 923) (idx := 18) (CC := "BoardMachine$Signals$Device") C (by decide +kernel) (kw K hw q967) (kO K hw q968) rfl (Nat.le_of_ble_eq_true rfl) rfl rfl) ?_
  refine fs_c1 (fs_putf (pc := 20) (n := 1019539774) (idx := 20) (ref := "BoardMachine$Signals$SignalUnit") (O := "BoardMachine$Signals$SignalUnit") (name := "devices") (desc := "[LBoardMachine$Signals$Device;") (fin := true) (ty := (.array (.object "BoardMachine$Signals$Device"))) C (by decide +kernel) (Or.inr ⟨rfl, kw K hw q1024, hnm, rfl⟩) (fun _ h => h) (Nat.le_of_ble_eq_true rfl) (Nat.le_of_ble_eq_true rfl) (Nat.le_of_ble_eq_true rfl) rfl rfl (by decide) (fs_one (⟨rfl, ff_79_243 s0 H0 oa D⟩))) ?_
  refine fs_c1 (fs_putf (pc := 25) (n := 1002762556) (idx := 24) (ref := "BoardMachine$Signals$SignalUnit") (O := "BoardMachine$Signals$SignalUnit") (name := "processors") (desc := "I") (fin := true) (ty := .int) C (by decide +kernel) (Or.inr ⟨rfl, kw K hw q1016, hnm, rfl⟩) (fun _ h => h) (Nat.le_of_ble_eq_true rfl) (Nat.le_of_ble_eq_true rfl) (Nat.le_of_ble_eq_true rfl) rfl rfl (by decide) (fs_one (⟨rfl, ff_79_239 s0 H0 oa D⟩))) ?_
  refine fs_c1 (fs_newo (pc := 29) (n := 5123) (idx := 28) (CC := "BoardMachine$Signals$Timer") (T := fT_80) (N := 3) C (by decide +kernel) (kw K hw q969) (kw K hw q970) (kw K hw q343) (by decide) (Nat.le_of_ble_eq_true rfl) rfl rfl) ?_
  refine fs_c1 (fs_inv_virtual (pc := 34) (n := 75579472) C (Nat.le_of_ble_eq_true rfl) (Nat.le_of_ble_eq_true rfl) (fs_lk_init (idx := 30) (y := ⟨"BoardMachine$Signals$Timer", "<init>", "(I)V"⟩) (bytes := prog_93_method_1_code) (maxL := 2) (d := 1) C (Nat.le_of_ble_eq_true rfl) (Nat.le_of_ble_eq_true rfl) (by decide +kernel) (kw K hw q973) (kw K hw q343) (kw K hw q972) (Or.inl (kw K hw q971)) rfl ⟨by decide, by decide⟩ rfl (Nat.le_of_ble_eq_true rfl) (Nat.le_of_ble_eq_true rfl)) fs_con_mono o1) ?_
  refine fs_c1 (fs_putf (pc := 37) (n := 1006956862) (idx := 33) (ref := "BoardMachine$Signals$SignalUnit") (O := "BoardMachine$Signals$SignalUnit") (name := "timer") (desc := "LBoardMachine$Signals$Timer;") (fin := true) (ty := (.object "BoardMachine$Signals$Timer")) C (by decide +kernel) (Or.inr ⟨rfl, kw K hw q1017, hnm, rfl⟩) (fun _ h => h) (Nat.le_of_ble_eq_true rfl) (Nat.le_of_ble_eq_true rfl) (Nat.le_of_ble_eq_true rfl) rfl rfl (by decide) (fs_one (⟨rfl, ff_79_240 s0 H0 oa D⟩))) ?_
  refine fs_c1 (fs_newo (pc := 41) (n := 4935) (idx := 37) (CC := "BoardMachine$Signals$Controller") (T := fT_77) (N := 7) C (by decide +kernel) (kw K hw q988) (kw K hw q989) (kw K hw q344) (by decide) (Nat.le_of_ble_eq_true rfl) rfl rfl) ?_
  refine fs_c1 (fs_inv_virtual (pc := 46) (n := 142685261) C (Nat.le_of_ble_eq_true rfl) (Nat.le_of_ble_eq_true rfl) (fs_lk_init (idx := 39) (y := ⟨"BoardMachine$Signals$Controller", "<init>", "(I)V"⟩) (bytes := prog_89_method_1_code) (maxL := 2) (d := 1) C (Nat.le_of_ble_eq_true rfl) (Nat.le_of_ble_eq_true rfl) (by decide +kernel) (kw K hw q992) (kw K hw q344) (kw K hw q991) (Or.inl (kw K hw q990)) rfl ⟨by decide, by decide⟩ rfl (Nat.le_of_ble_eq_true rfl) (Nat.le_of_ble_eq_true rfl)) fs_con_mono o2) ?_
  refine fs_c1 (fs_putf (pc := 49) (n := 1011151166) (idx := 40) (ref := "BoardMachine$Signals$SignalUnit") (O := "BoardMachine$Signals$SignalUnit") (name := "controller") (desc := "LBoardMachine$Signals$Controller;") (fin := true) (ty := (.object "BoardMachine$Signals$Controller")) C (by decide +kernel) (Or.inr ⟨rfl, kw K hw q1019, hnm, rfl⟩) (fun _ h => h) (Nat.le_of_ble_eq_true rfl) (Nat.le_of_ble_eq_true rfl) (Nat.le_of_ble_eq_true rfl) rfl rfl (by decide) (fs_one (⟨rfl, ff_79_241 s0 H0 oa D⟩))) ?_
  refine fs_c1 (fs_getf (pc := 53) (n := 1019539774) (idx := 20) (ref := "BoardMachine$Signals$SignalUnit") (O := "BoardMachine$Signals$SignalUnit") (name := "devices") (desc := "[LBoardMachine$Signals$Device;") C (by decide +kernel) (Or.inl (kw K hw q1024)) (fun _ h => h) (Nat.le_of_ble_eq_true rfl) (Nat.le_of_ble_eq_true rfl) (fs_one (⟨_, ff_79_243 s0 H0 oa D⟩))) ?_
  refine fs_c1 (fs_getf (pc := 58) (n := 1006956862) (idx := 33) (ref := "BoardMachine$Signals$SignalUnit") (O := "BoardMachine$Signals$SignalUnit") (name := "timer") (desc := "LBoardMachine$Signals$Timer;") C (by decide +kernel) (Or.inl (kw K hw q1017)) (fun _ h => h) (Nat.le_of_ble_eq_true rfl) (Nat.le_of_ble_eq_true rfl) (fs_one (⟨_, ff_79_240 s0 H0 oa D⟩))) ?_
  refine fs_c1 (fs_astr (pc := 61) (n := 967917648) (EE := "BoardMachine$Signals$Device") C (by decide +kernel) (Nat.le_of_ble_eq_true rfl) rfl rfl (Nat.le_of_ble_eq_true rfl) (Nat.le_of_ble_eq_true rfl) (fs_one (⟨_, rfl, Or.inr (kC K hw q3592)⟩))) ?_
  refine fs_c1 (fs_getf (pc := 63) (n := 1019539774) (idx := 20) (ref := "BoardMachine$Signals$SignalUnit") (O := "BoardMachine$Signals$SignalUnit") (name := "devices") (desc := "[LBoardMachine$Signals$Device;") C (by decide +kernel) (Or.inl (kw K hw q1024)) (fun _ h => h) (Nat.le_of_ble_eq_true rfl) (Nat.le_of_ble_eq_true rfl) (fs_one (⟨_, ff_79_243 s0 H0 oa D⟩))) ?_
  refine fs_c1 (fs_getf (pc := 68) (n := 1011151166) (idx := 40) (ref := "BoardMachine$Signals$SignalUnit") (O := "BoardMachine$Signals$SignalUnit") (name := "controller") (desc := "LBoardMachine$Signals$Controller;") C (by decide +kernel) (Or.inl (kw K hw q1019)) (fun _ h => h) (Nat.le_of_ble_eq_true rfl) (Nat.le_of_ble_eq_true rfl) (fs_one (⟨_, ff_79_241 s0 H0 oa D⟩))) ?_
  refine fs_c1 (fs_astr (pc := 71) (n := 967914573) (EE := "BoardMachine$Signals$Device") C (by decide +kernel) (Nat.le_of_ble_eq_true rfl) rfl rfl (Nat.le_of_ble_eq_true rfl) (Nat.le_of_ble_eq_true rfl) (fs_one (⟨_, rfl, Or.inr (kC K hw q3542)⟩))) ?_
  refine fs_c1 (fs_getf (pc := 73) (n := 1019539774) (idx := 20) (ref := "BoardMachine$Signals$SignalUnit") (O := "BoardMachine$Signals$SignalUnit") (name := "devices") (desc := "[LBoardMachine$Signals$Device;") C (by decide +kernel) (Or.inl (kw K hw q1024)) (fun _ h => h) (Nat.le_of_ble_eq_true rfl) (Nat.le_of_ble_eq_true rfl) (fs_one (⟨_, ff_79_243 s0 H0 oa D⟩))) ?_
  refine fs_c1 (fs_getf (pc := 78) (n := 1015345470) (idx := 12) (ref := "BoardMachine$Signals$SignalUnit") (O := "BoardMachine$Signals$SignalUnit") (name := "serial") (desc := "LBoardMachine$Signals$Serial;") C (by decide +kernel) (Or.inl (kw K hw q1021)) (fun _ h => h) (Nat.le_of_ble_eq_true rfl) (Nat.le_of_ble_eq_true rfl) (fs_one (⟨_, ff_79_242 s0 H0 oa D⟩))) ?_
  refine fs_c1 (fs_astr (pc := 81) (n := 967915598) (EE := "BoardMachine$Signals$Device") C (by decide +kernel) (Nat.le_of_ble_eq_true rfl) rfl rfl (Nat.le_of_ble_eq_true rfl) (Nat.le_of_ble_eq_true rfl) (fs_one (⟨_, rfl, Or.inr (kC K hw q3561)⟩))) ?_
  exact fs_c0
theorem hX10_init (n : Nat) : fe_H (sX10_init (FX11_init n) FX19_init FX18_init Fh_values_6 FX30_init) cX10_init [0] fe_kv [] 37 (fun _ => dX10_init (FX10_init_0 n)) := by
  intro j pc L st M r hc h
  rcases fe_mem_c hc with rfl | hc
  · obtain ⟨w0, m0, h⟩ := fe_lR_d h
    obtain ⟨w1, m1, h⟩ := fe_lI_d h
    obtain ⟨rfl, hz⟩ := fe_t0_d h
    exact ⟨[(0, .ref w0), (1, .int w1)], (fe_cs m0 (fe_cs m1 fe_nl)), Or.inr ((bX10_init_0 (FX11_init n) FX19_init FX18_init Fh_values_6 FX30_init (FX10_init_0 n ) w0 w1 M).symm.trans hz)⟩
  exact fe_mem_0 hc
theorem vX10_init (n : Nat) : fe_SB (sX10_init (FX11_init n) FX19_init FX18_init Fh_values_6 FX30_init) := by
  refine ⟨?_, ?_, ?_, ?_⟩
  · intro i As M r h
    rcases fe_bc h with h | h
    · obtain ⟨v0, t0, rfl, g0⟩ := fe_tR_d h
      obtain ⟨v1, t1, rfl, g1⟩ := fe_tI_d g0
      obtain ⟨rfl, hz⟩ := fe_t0_d g1
      exact mX11_init n v0 v1 M r hz
    rcases fe_bc h with h | h
    · obtain ⟨v0, t0, rfl, g0⟩ := fe_tR_d h
      obtain ⟨v1, t1, rfl, g1⟩ := fe_tR_d g0
      obtain ⟨rfl, hz⟩ := fe_t0_d g1
      exact mX19_init v0 v1 M r hz
    rcases fe_bc h with h | h
    · obtain ⟨v0, t0, rfl, g0⟩ := fe_tR_d h
      obtain ⟨v1, t1, rfl, g1⟩ := fe_tR_d g0
      obtain ⟨v2, t2, rfl, g2⟩ := fe_tI_d g1
      obtain ⟨rfl, hz⟩ := fe_t0_d g2
      exact mX18_init v0 v1 v2 M r hz
    rcases fe_bc h with h | h
    · obtain ⟨v0, t0, rfl, g0⟩ := fe_tR_d h
      obtain ⟨v1, t1, rfl, g1⟩ := fe_tI_d g0
      obtain ⟨rfl, hz⟩ := fe_t0_d g1
      exact mX30_init v0 v1 M r hz
    exact fe_no h
  · intro i As M r h
    exact fe_no h
  · intro i As M r h
    exact fe_no h
  · intro i As M r h
    rcases fe_bc h with h | h
    · obtain ⟨rfl, hz⟩ := fe_t0_d h
      exact mh_values_6  M r hz
    exact fe_no h
theorem eX10_init (g0 : Nat → Int32 → FM → Option (FM)) (a0 : Nat) (a1 : Int32) (M : FM) : dX10_init g0 0 [(0, .ref a0), (1, .int a1)] [] M = g0 a0 a1 M := by rfl
theorem mX10_init (n : Nat) (a0 : Nat) (a1 : Int32) (M : FM) (r : FM) (h : FX10_init n a0 a1 M = some r) : fm_nx M ≤ fm_nx r ∧ fm_ns M ≤ fm_ns r :=
  fe_mono (L0 := [(0, .ref a0), (1, .int a1)]) (vX10_init n) (by decide +kernel) (hX10_init n) (fe_kv_k r) 0 rfl ((eX10_init (FX10_init_0 n ) a0 a1 M).trans h)
theorem zX10_init {s0 : State} {H0 : Heap} {oa : Nat → Nat} {D : va_G} (K : fk s0 H0 oa D) (l : Launch) (n : Nat) (a0 : Nat) (a1 : Int32) (M : FM) (r : FM) (h : FX10_init n a0 a1 M = some r) : fs_Con (fk_E s0 H0 oa D) l 4 ⟨"BoardMachine$Board", "<init>", "(I)V"⟩ prog_2_method_1_code 2 (Option.none : Option Jvm.ClassFile.FieldType) [.ref a0, .int a1] M none r := by
  have o0 : fs_OS (sX10_init (FX11_init n) FX19_init FX18_init Fh_values_6 FX30_init) 0 0 (fs_Con (fk_E s0 H0 oa D) l 3 ⟨"BoardMachine$Memories$Ram", "<init>", "(I)V"⟩ prog_82_method_1_code 3 (Option.none : Option Jvm.ClassFile.FieldType)) := by
    intro As M r h
    obtain ⟨v0, t0, rfl, g0⟩ := fe_tR_d h
    obtain ⟨v1, t1, rfl, g1⟩ := fe_tI_d g0
    obtain ⟨rfl, hz⟩ := fe_t0_d g1
    exact zX11_init K l n v0 v1 M r hz
  have o1 : fs_OS (sX10_init (FX11_init n) FX19_init FX18_init Fh_values_6 FX30_init) 1 0 (fs_Con (fk_E s0 H0 oa D) l 1 ⟨"BoardMachine$QueueBytes", "<init>", "(LBoardMachine$Memories$Ram;)V"⟩ prog_87_method_1_code 2 (Option.none : Option Jvm.ClassFile.FieldType)) := by
    intro As M r h
    obtain ⟨v0, t0, rfl, g0⟩ := fe_tR_d h
    obtain ⟨v1, t1, rfl, g1⟩ := fe_tR_d g0
    obtain ⟨rfl, hz⟩ := fe_t0_d g1
    exact zX19_init K l v0 v1 M r hz
  have o2 : fs_OS (sX10_init (FX11_init n) FX19_init FX18_init Fh_values_6 FX30_init) 2 0 (fs_Con (fk_E s0 H0 oa D) l 3 ⟨"BoardMachine$Disks$Device", "<init>", "(LBoardMachine$Disks$Bytes;I)V"⟩ prog_17_method_1_code 3 (Option.none : Option Jvm.ClassFile.FieldType)) := by
    intro As M r h
    obtain ⟨v0, t0, rfl, g0⟩ := fe_tR_d h
    obtain ⟨v1, t1, rfl, g1⟩ := fe_tR_d g0
    obtain ⟨v2, t2, rfl, g2⟩ := fe_tI_d g1
    obtain ⟨rfl, hz⟩ := fe_t0_d g2
    exact zX18_init K l v0 v1 v2 M r hz
  have o3 : fs_OS (sX10_init (FX11_init n) FX19_init FX18_init Fh_values_6 FX30_init) 3 3 (fs_Con (fk_E s0 H0 oa D) l 1 ⟨"BoardMachine$Window", "values", "()[LBoardMachine$Window;"⟩ prog_109_method_1_code 0 (Option.some (Jvm.ClassFile.FieldType.array (Jvm.ClassFile.FieldType.object "BoardMachine$Window")))) := by
    intro As M r h
    obtain ⟨rfl, hz⟩ := fe_t0_d h
    exact zh_values_6 K l M r hz
  have o4 : fs_OS (sX10_init (FX11_init n) FX19_init FX18_init Fh_values_6 FX30_init) 4 0 (fs_Con (fk_E s0 H0 oa D) l 2 ⟨"BoardMachine$Signals$SignalUnit", "<init>", "(I)V"⟩ prog_92_method_1_code 2 (Option.none : Option Jvm.ClassFile.FieldType)) := by
    intro As M r h
    obtain ⟨v0, t0, rfl, g0⟩ := fe_tR_d h
    obtain ⟨v1, t1, rfl, g1⟩ := fe_tI_d g0
    obtain ⟨rfl, hz⟩ := fe_t0_d g1
    exact zX30_init K l v0 v1 M r hz
  refine fs_method (own := "BoardMachine$Board") rfl (by decide) K.2.1 (by rw [fe_slen]; exact (Nat.le_of_ble_eq_true rfl)) (mX10_init n a0 a1 M r h) (hX10_init n) 0 rfl (L0 := [(0, .ref a0), (1, .int a1)]) (fun E => fe_args_e E [.ref a0, .int a1] 0) ((eX10_init (FX10_init_0 n ) a0 a1 M).trans h) (fe_kv_k r) (fun H hR => fs_nr_o (by decide) (by decide)) ?_
  intro p e s m args below meth c Q C hnm
  have hw : s0.WarmedH s.vm := C.2.2.2.2.1
  refine fe_all C fk_hwr cX10_init [1, 5, 12, 15, 19, 23, 28, 31, 37, 40, 44, 47, 52, 56, 61, 64] (by decide +kernel) (fe_fil (cps := [(1, 4, .monitorenter), (5, 8, .new 4677), (12, 15, .invokevirtual 8463433), (15, 18, .putfield 75542574), (19, 22, .new 1418), (23, 26, .new 4865), (28, 31, .getfield 75542574), (31, 34, .invokevirtual 75575372), (37, 40, .invokevirtual 146823190), (40, 43, .putfield 83931182), (44, 47, .invokestatic 195), (47, 50, .putfield 88125486), (52, 55, .putfield 96514092), (56, 59, .new 5061), (61, 64, .invokevirtual 276905039), (64, 67, .putfield 79736878)]) (by decide +kernel) ?_)
  refine fs_c1 (fs_init (pc := 1) (idx := 3) C (by decide +kernel) (kw K hw q623) (kw K hw q441) (kw K hw q442) ⟨(Nat.le_of_ble_eq_true rfl), (Nat.le_of_ble_eq_true rfl)⟩) ?_
  refine fs_c1 (fs_newo (pc := 5) (n := 4677) (idx := 9) (CC := "BoardMachine$Memories$Ram") (T := fT_73) (N := 5) C (by decide +kernel) (kw K hw q624) (kw K hw q625) (kw K hw q321) (by decide) (Nat.le_of_ble_eq_true rfl) rfl rfl) ?_
  refine fs_c1 (fs_inv_virtual (pc := 12) (n := 8463433) C (Nat.le_of_ble_eq_true rfl) (Nat.le_of_ble_eq_true rfl) (fs_lk_init (idx := 11) (y := ⟨"BoardMachine$Memories$Ram", "<init>", "(I)V"⟩) (bytes := prog_82_method_1_code) (maxL := 3) (d := 3) C (Nat.le_of_ble_eq_true rfl) (Nat.le_of_ble_eq_true rfl) (by decide +kernel) (kw K hw q628) (kw K hw q321) (kw K hw q627) (Or.inl (kw K hw q626)) rfl ⟨by decide, by decide⟩ rfl (Nat.le_of_ble_eq_true rfl) (Nat.le_of_ble_eq_true rfl)) fs_con_mono o0) ?_
  refine fs_c1 (fs_putf (pc := 15) (n := 75542574) (idx := 14) (ref := "BoardMachine$Board") (O := "BoardMachine$Board") (name := "ram") (desc := "LBoardMachine$Memories$Ram;") (fin := true) (ty := (.object "BoardMachine$Memories$Ram")) C (by decide +kernel) (Or.inr ⟨rfl, kw K hw q1036, hnm, rfl⟩) (fun _ h => h) (Nat.le_of_ble_eq_true rfl) (Nat.le_of_ble_eq_true rfl) (Nat.le_of_ble_eq_true rfl) rfl rfl (by decide) (fs_one (⟨rfl, ff_11_18 s0 H0 oa D⟩))) ?_
  refine fs_c1 (fs_newo (pc := 19) (n := 1418) (idx := 20) (CC := "BoardMachine$Disks$Device") (T := fT_22) (N := 10) C (by decide +kernel) (kw K hw q709) (kw K hw q710) (kw K hw q328) (by decide) (Nat.le_of_ble_eq_true rfl) rfl rfl) ?_
  refine fs_c1 (fs_newo (pc := 23) (n := 4865) (idx := 22) (CC := "BoardMachine$QueueBytes") (T := fT_76) (N := 1) C (by decide +kernel) (kw K hw q711) (kw K hw q712) (kw K hw q329) (by decide) (Nat.le_of_ble_eq_true rfl) rfl rfl) ?_
  refine fs_c1 (fs_getf (pc := 28) (n := 75542574) (idx := 14) (ref := "BoardMachine$Board") (O := "BoardMachine$Board") (name := "ram") (desc := "LBoardMachine$Memories$Ram;") C (by decide +kernel) (Or.inl (kw K hw q1036)) (fun _ h => h) (Nat.le_of_ble_eq_true rfl) (Nat.le_of_ble_eq_true rfl) (fs_one (⟨_, ff_11_18 s0 H0 oa D⟩))) ?_
  refine fs_c1 (fs_inv_virtual (pc := 31) (n := 75575372) C (Nat.le_of_ble_eq_true rfl) (Nat.le_of_ble_eq_true rfl) (fs_lk_init (idx := 24) (y := ⟨"BoardMachine$QueueBytes", "<init>", "(LBoardMachine$Memories$Ram;)V"⟩) (bytes := prog_87_method_1_code) (maxL := 2) (d := 1) C (Nat.le_of_ble_eq_true rfl) (Nat.le_of_ble_eq_true rfl) (by decide +kernel) (kw K hw q715) (kw K hw q329) (kw K hw q714) (Or.inl (kw K hw q713)) rfl ⟨by decide, by decide⟩ rfl (Nat.le_of_ble_eq_true rfl) (Nat.le_of_ble_eq_true rfl)) fs_con_mono o1) ?_
  refine fs_c1 (fs_inv_virtual (pc := 37) (n := 146823190) C (Nat.le_of_ble_eq_true rfl) (Nat.le_of_ble_eq_true rfl) (fs_lk_init (idx := 27) (y := ⟨"BoardMachine$Disks$Device", "<init>", "(LBoardMachine$Disks$Bytes;I)V"⟩) (bytes := prog_17_method_1_code) (maxL := 3) (d := 3) C (Nat.le_of_ble_eq_true rfl) (Nat.le_of_ble_eq_true rfl) (by decide +kernel) (kw K hw q723) (kw K hw q328) (kw K hw q722) (Or.inl (kw K hw q721)) rfl ⟨by decide, by decide⟩ rfl (Nat.le_of_ble_eq_true rfl) (Nat.le_of_ble_eq_true rfl)) fs_con_mono o2) ?_
  refine fs_c1 (fs_putf (pc := 40) (n := 83931182) (idx := 30) (ref := "BoardMachine$Board") (O := "BoardMachine$Board") (name := "disk") (desc := "LBoardMachine$Disks$Device;") (fin := true) (ty := (.object "BoardMachine$Disks$Device")) C (by decide +kernel) (Or.inr ⟨rfl, kw K hw q1045, hnm, rfl⟩) (fun _ h => h) (Nat.le_of_ble_eq_true rfl) (Nat.le_of_ble_eq_true rfl) (Nat.le_of_ble_eq_true rfl) rfl rfl (by decide) (fs_one (⟨rfl, ff_11_20 s0 H0 oa D⟩))) ?_
  refine fs_c1 (fs_inv_static (pc := 44) (n := 195) C (fs_lk_static (idx := 34) (y := ⟨"BoardMachine$Window", "values", "()[LBoardMachine$Window;"⟩) (bytes := prog_109_method_1_code) (maxL := 0) (rt := (Option.some (Jvm.ClassFile.FieldType.array (Jvm.ClassFile.FieldType.object "BoardMachine$Window")))) (d := 1) C (by decide +kernel) (kw K hw q914) (kw K hw q340) (kw K hw q913) (Or.inl (kw K hw q912)) ⟨by decide, by decide⟩ rfl (Nat.le_of_ble_eq_true rfl) (Nat.le_of_ble_eq_true rfl)) fs_con_mono o3) ?_
  refine fs_c1 (fs_putf (pc := 47) (n := 88125486) (idx := 40) (ref := "BoardMachine$Board") (O := "BoardMachine$Board") (name := "windows") (desc := "[LBoardMachine$Window;") (fin := true) (ty := (.array (.object "BoardMachine$Window"))) C (by decide +kernel) (Or.inr ⟨rfl, kw K hw q1048, hnm, rfl⟩) (fun _ h => h) (Nat.le_of_ble_eq_true rfl) (Nat.le_of_ble_eq_true rfl) (Nat.le_of_ble_eq_true rfl) rfl rfl (by decide) (fs_one (⟨rfl, ff_11_21 s0 H0 oa D⟩))) ?_
  refine fs_c1 (fs_putf (pc := 52) (n := 96514092) (idx := 44) (ref := "BoardMachine$Board") (O := "BoardMachine$Board") (name := "code") (desc := "I") (fin := false) (ty := .int) C (by decide +kernel) (Or.inl ⟨rfl, Or.inl (kw K hw q1051)⟩) (fun _ h => h) (Nat.le_of_ble_eq_true rfl) (Nat.le_of_ble_eq_true rfl) (Nat.le_of_ble_eq_true rfl) rfl rfl (by decide) (fs_one (⟨rfl, ff_11_23 s0 H0 oa D⟩))) ?_
  refine fs_c1 (fs_newo (pc := 56) (n := 5061) (idx := 48) (CC := "BoardMachine$Signals$SignalUnit") (T := fT_79) (N := 5) C (by decide +kernel) (kw K hw q925) (kw K hw q926) (kw K hw q341) (by decide) (Nat.le_of_ble_eq_true rfl) rfl rfl) ?_
  refine fs_c1 (fs_inv_virtual (pc := 61) (n := 276905039) C (Nat.le_of_ble_eq_true rfl) (Nat.le_of_ble_eq_true rfl) (fs_lk_init (idx := 50) (y := ⟨"BoardMachine$Signals$SignalUnit", "<init>", "(I)V"⟩) (bytes := prog_92_method_1_code) (maxL := 2) (d := 2) C (Nat.le_of_ble_eq_true rfl) (Nat.le_of_ble_eq_true rfl) (by decide +kernel) (kw K hw q929) (kw K hw q341) (kw K hw q928) (Or.inl (kw K hw q927)) rfl ⟨by decide, by decide⟩ rfl (Nat.le_of_ble_eq_true rfl) (Nat.le_of_ble_eq_true rfl)) fs_con_mono o4) ?_
  refine fs_c1 (fs_putf (pc := 64) (n := 79736878) (idx := 51) (ref := "BoardMachine$Board") (O := "BoardMachine$Board") (name := "signals") (desc := "LBoardMachine$Signals$SignalUnit;") (fin := true) (ty := (.object "BoardMachine$Signals$SignalUnit")) C (by decide +kernel) (Or.inr ⟨rfl, kw K hw q1041, hnm, rfl⟩) (fun _ h => h) (Nat.le_of_ble_eq_true rfl) (Nat.le_of_ble_eq_true rfl) (Nat.le_of_ble_eq_true rfl) rfl rfl (by decide) (fs_one (⟨rfl, ff_11_19 s0 H0 oa D⟩))) ?_
  exact fs_c0
theorem hX35_init : fe_H (sX35_init) cX35_init [0] fe_kv [] 20 (fun _ => dX35_init FX35_init_0) := by
  intro j pc L st M r hc h
  rcases fe_mem_c hc with rfl | hc
  · obtain ⟨w0, m0, h⟩ := fe_lR_d h
    obtain ⟨w1, m1, h⟩ := fe_lR_d h
    obtain ⟨w2, m2, h⟩ := fe_lI_d h
    obtain ⟨rfl, hz⟩ := fe_t0_d h
    exact ⟨[(0, .ref w0), (1, .ref w1), (2, .int w2)], (fe_cs m0 (fe_cs m1 (fe_cs m2 fe_nl))), Or.inr ((bX35_init_0 FX35_init_0 w0 w1 w2 M).symm.trans hz)⟩
  exact fe_mem_0 hc
theorem vX35_init : fe_SB (sX35_init) := by
  refine ⟨?_, ?_, ?_, ?_⟩
  · intro i As M r h
    exact fe_no h
  · intro i As M r h
    exact fe_no h
  · intro i As M r h
    exact fe_no h
  · intro i As M r h
    exact fe_no h
theorem eX35_init (g0 : Nat → Nat → Int32 → FM → Option (FM)) (a0 : Nat) (a1 : Nat) (a2 : Int32) (M : FM) : dX35_init g0 0 [(0, .ref a0), (1, .ref a1), (2, .int a2)] [] M = g0 a0 a1 a2 M := by rfl
theorem mX35_init (a0 : Nat) (a1 : Nat) (a2 : Int32) (M : FM) (r : FM) (h : FX35_init a0 a1 a2 M = some r) : fm_nx M ≤ fm_nx r ∧ fm_ns M ≤ fm_ns r :=
  fe_mono (L0 := [(0, .ref a0), (1, .ref a1), (2, .int a2)]) (vX35_init) (by decide +kernel) (hX35_init) (fe_kv_k r) 0 rfl ((eX35_init FX35_init_0 a0 a1 a2 M).trans h)
theorem zX35_init {s0 : State} {H0 : Heap} {oa : Nat → Nat} {D : va_G} (K : fk s0 H0 oa D) (l : Launch) (a0 : Nat) (a1 : Nat) (a2 : Int32) (M : FM) (r : FM) (h : FX35_init a0 a1 a2 M = some r) : fs_Con (fk_E s0 H0 oa D) l 1 ⟨"BoardMachine$Halves$Layout", "<init>", "([II)V"⟩ prog_48_method_1_code 3 (Option.none : Option Jvm.ClassFile.FieldType) [.ref a0, .ref a1, .int a2] M none r := by
  refine fs_method (own := "BoardMachine$Halves$Layout") rfl (by decide) K.2.1 (by rw [fe_slen]; exact (Nat.le_of_ble_eq_true rfl)) (mX35_init a0 a1 a2 M r h) (hX35_init) 0 rfl (L0 := [(0, .ref a0), (1, .ref a1), (2, .int a2)]) (fun E => fe_args_e E [.ref a0, .ref a1, .int a2] 0) ((eX35_init FX35_init_0 a0 a1 a2 M).trans h) (fe_kv_k r) (fun H hR => fs_nr_o (by decide) (by decide)) ?_
  intro p e s m args below meth c Q C hnm
  have hw : s0.WarmedH s.vm := C.2.2.2.2.1
  refine fe_all C fk_hwr cX35_init [1, 6, 11] (by decide +kernel) (fe_fil (cps := [(1, 4, .monitorenter), (6, 9, .putfield 524460202), (11, 14, .putfield 528654504)]) (by decide +kernel) ?_)
  refine fs_c1 (fs_init (pc := 1) (idx := 1) C (by decide +kernel) (kw K hw q1082) (kw K hw q441) (kw K hw q442) ⟨(Nat.le_of_ble_eq_true rfl), (Nat.le_of_ble_eq_true rfl)⟩) ?_
  refine fs_c1 (fs_putf (pc := 6) (n := 524460202) (idx := 7) (ref := "BoardMachine$Halves$Layout") (O := "BoardMachine$Halves$Layout") (name := "places") (desc := "[I") (fin := true) (ty := (.array .int)) C (by decide +kernel) (Or.inr ⟨rfl, kw K hw q1083, hnm, rfl⟩) (fun _ h => h) (Nat.le_of_ble_eq_true rfl) (Nat.le_of_ble_eq_true rfl) (Nat.le_of_ble_eq_true rfl) rfl rfl (by decide) (fs_one (⟨rfl, ff_42_125 s0 H0 oa D⟩))) ?_
  refine fs_c1 (fs_putf (pc := 11) (n := 528654504) (idx := 13) (ref := "BoardMachine$Halves$Layout") (O := "BoardMachine$Halves$Layout") (name := "sign") (desc := "I") (fin := true) (ty := .int) C (by decide +kernel) (Or.inr ⟨rfl, kw K hw q1084, hnm, rfl⟩) (fun _ h => h) (Nat.le_of_ble_eq_true rfl) (Nat.le_of_ble_eq_true rfl) (Nat.le_of_ble_eq_true rfl) rfl rfl (by decide) (fs_one (⟨rfl, ff_42_126 s0 H0 oa D⟩))) ?_
  exact fs_c0
theorem hX36_init : fe_H (sX36_init) cX36_init [0] fe_kv [] 20 (fun _ => dX36_init FX36_init_0) := by
  intro j pc L st M r hc h
  rcases fe_mem_c hc with rfl | hc
  · obtain ⟨w0, m0, h⟩ := fe_lR_d h
    obtain ⟨w1, m1, h⟩ := fe_lI_d h
    obtain ⟨w2, m2, h⟩ := fe_lI_d h
    obtain ⟨w3, m3, h⟩ := fe_lR_d h
    obtain ⟨rfl, hz⟩ := fe_t0_d h
    exact ⟨[(0, .ref w0), (1, .int w1), (2, .int w2), (3, .ref w3)], (fe_cs m0 (fe_cs m1 (fe_cs m2 (fe_cs m3 fe_nl)))), Or.inr ((bX36_init_0 FX36_init_0 w0 w1 w2 w3 M).symm.trans hz)⟩
  exact fe_mem_0 hc
theorem vX36_init : fe_SB (sX36_init) := by
  refine ⟨?_, ?_, ?_, ?_⟩
  · intro i As M r h
    exact fe_no h
  · intro i As M r h
    exact fe_no h
  · intro i As M r h
    exact fe_no h
  · intro i As M r h
    exact fe_no h
theorem eX36_init (g0 : Nat → Int32 → Int32 → Nat → FM → Option (FM)) (a0 : Nat) (a1 : Int32) (a2 : Int32) (a3 : Nat) (M : FM) : dX36_init g0 0 [(0, .ref a0), (1, .int a1), (2, .int a2), (3, .ref a3)] [] M = g0 a0 a1 a2 a3 M := by rfl
theorem mX36_init (a0 : Nat) (a1 : Int32) (a2 : Int32) (a3 : Nat) (M : FM) (r : FM) (h : FX36_init a0 a1 a2 a3 M = some r) : fm_nx M ≤ fm_nx r ∧ fm_ns M ≤ fm_ns r :=
  fe_mono (L0 := [(0, .ref a0), (1, .int a1), (2, .int a2), (3, .ref a3)]) (vX36_init) (by decide +kernel) (hX36_init) (fe_kv_k r) 0 rfl ((eX36_init FX36_init_0 a0 a1 a2 a3 M).trans h)
theorem zX36_init {s0 : State} {H0 : Heap} {oa : Nat → Nat} {D : va_G} (K : fk s0 H0 oa D) (l : Launch) (a0 : Nat) (a1 : Int32) (a2 : Int32) (a3 : Nat) (M : FM) (r : FM) (h : FX36_init a0 a1 a2 a3 M = some r) : fs_Con (fk_E s0 H0 oa D) l 1 ⟨"BoardMachine$Halves$Line", "<init>", "(IILBoardMachine$Halves$Layout;)V"⟩ prog_49_method_1_code 4 (Option.none : Option Jvm.ClassFile.FieldType) [.ref a0, .int a1, .int a2, .ref a3] M none r := by
  refine fs_method (own := "BoardMachine$Halves$Line") rfl (by decide) K.2.1 (by rw [fe_slen]; exact (Nat.le_of_ble_eq_true rfl)) (mX36_init a0 a1 a2 a3 M r h) (hX36_init) 0 rfl (L0 := [(0, .ref a0), (1, .int a1), (2, .int a2), (3, .ref a3)]) (fun E => fe_args_e E [.ref a0, .int a1, .int a2, .ref a3] 0) ((eX36_init FX36_init_0 a0 a1 a2 a3 M).trans h) (fe_kv_k r) (fun H hR => fs_nr_o (by decide) (by decide)) ?_
  intro p e s m args below meth c Q C hnm
  have hw : s0.WarmedH s.vm := C.2.2.2.2.1
  refine fe_all C fk_hwr cX36_init [1, 6, 11, 16] (by decide +kernel) (fe_fil (cps := [(1, 4, .monitorenter), (6, 9, .putfield 537047244), (11, 14, .putfield 532852940), (16, 19, .putfield 541241550)]) (by decide +kernel) ?_)
  refine fs_c1 (fs_init (pc := 1) (idx := 3) C (by decide +kernel) (kw K hw q1098) (kw K hw q441) (kw K hw q442) ⟨(Nat.le_of_ble_eq_true rfl), (Nat.le_of_ble_eq_true rfl)⟩) ?_
  refine fs_c1 (fs_putf (pc := 6) (n := 537047244) (idx := 9) (ref := "BoardMachine$Halves$Line") (O := "BoardMachine$Halves$Line") (name := "top") (desc := "I") (fin := true) (ty := .int) C (by decide +kernel) (Or.inr ⟨rfl, kw K hw q1101, hnm, rfl⟩) (fun _ h => h) (Nat.le_of_ble_eq_true rfl) (Nat.le_of_ble_eq_true rfl) (Nat.le_of_ble_eq_true rfl) rfl rfl (by decide) (fs_rc (⟨rfl, ff_43_128 s0 H0 oa D⟩) (fs_rc (⟨rfl, ff_44_128 s0 H0 oa D⟩) (fs_rc (⟨rfl, ff_45_128 s0 H0 oa D⟩) (fs_rc (⟨rfl, ff_46_128 s0 H0 oa D⟩) (fs_rc (⟨rfl, ff_47_128 s0 H0 oa D⟩) (fs_rc (⟨rfl, ff_48_128 s0 H0 oa D⟩) (fs_rc (⟨rfl, ff_49_128 s0 H0 oa D⟩) (fs_rc (⟨rfl, ff_50_128 s0 H0 oa D⟩) (fs_one (⟨rfl, ff_51_128 s0 H0 oa D⟩))))))))))) ?_
  refine fs_c1 (fs_putf (pc := 11) (n := 532852940) (idx := 15) (ref := "BoardMachine$Halves$Line") (O := "BoardMachine$Halves$Line") (name := "quarter") (desc := "I") (fin := true) (ty := .int) C (by decide +kernel) (Or.inr ⟨rfl, kw K hw q1099, hnm, rfl⟩) (fun _ h => h) (Nat.le_of_ble_eq_true rfl) (Nat.le_of_ble_eq_true rfl) (Nat.le_of_ble_eq_true rfl) rfl rfl (by decide) (fs_rc (⟨rfl, ff_43_127 s0 H0 oa D⟩) (fs_rc (⟨rfl, ff_44_127 s0 H0 oa D⟩) (fs_rc (⟨rfl, ff_45_127 s0 H0 oa D⟩) (fs_rc (⟨rfl, ff_46_127 s0 H0 oa D⟩) (fs_rc (⟨rfl, ff_47_127 s0 H0 oa D⟩) (fs_rc (⟨rfl, ff_48_127 s0 H0 oa D⟩) (fs_rc (⟨rfl, ff_49_127 s0 H0 oa D⟩) (fs_rc (⟨rfl, ff_50_127 s0 H0 oa D⟩) (fs_one (⟨rfl, ff_51_127 s0 H0 oa D⟩))))))))))) ?_
  refine fs_c1 (fs_putf (pc := 16) (n := 541241550) (idx := 18) (ref := "BoardMachine$Halves$Line") (O := "BoardMachine$Halves$Line") (name := "layout") (desc := "LBoardMachine$Halves$Layout;") (fin := true) (ty := (.object "BoardMachine$Halves$Layout")) C (by decide +kernel) (Or.inr ⟨rfl, kw K hw q1105, hnm, rfl⟩) (fun _ h => h) (Nat.le_of_ble_eq_true rfl) (Nat.le_of_ble_eq_true rfl) (Nat.le_of_ble_eq_true rfl) rfl rfl (by decide) (fs_rc (⟨rfl, ff_43_129 s0 H0 oa D⟩) (fs_rc (⟨rfl, ff_44_129 s0 H0 oa D⟩) (fs_rc (⟨rfl, ff_45_129 s0 H0 oa D⟩) (fs_rc (⟨rfl, ff_46_129 s0 H0 oa D⟩) (fs_rc (⟨rfl, ff_47_129 s0 H0 oa D⟩) (fs_rc (⟨rfl, ff_48_129 s0 H0 oa D⟩) (fs_rc (⟨rfl, ff_49_129 s0 H0 oa D⟩) (fs_rc (⟨rfl, ff_50_129 s0 H0 oa D⟩) (fs_one (⟨rfl, ff_51_129 s0 H0 oa D⟩))))))))))) ?_
  exact fs_c0
theorem hX37_init : fe_H (sX37_init FX36_init) cX37_init [0] fe_kv [] 20 (fun _ => dX37_init FX37_init_0) := by
  intro j pc L st M r hc h
  rcases fe_mem_c hc with rfl | hc
  · obtain ⟨w0, m0, h⟩ := fe_lR_d h
    obtain ⟨w1, m1, h⟩ := fe_lR_d h
    obtain ⟨rfl, hz⟩ := fe_t0_d h
    exact ⟨[(0, .ref w0), (1, .ref w1)], (fe_cs m0 (fe_cs m1 fe_nl)), Or.inr ((bX37_init_0 FX36_init FX37_init_0 w0 w1 M).symm.trans hz)⟩
  exact fe_mem_0 hc
theorem vX37_init : fe_SB (sX37_init FX36_init) := by
  refine ⟨?_, ?_, ?_, ?_⟩
  · intro i As M r h
    rcases fe_bc h with h | h
    · obtain ⟨v0, t0, rfl, g0⟩ := fe_tR_d h
      obtain ⟨v1, t1, rfl, g1⟩ := fe_tI_d g0
      obtain ⟨v2, t2, rfl, g2⟩ := fe_tI_d g1
      obtain ⟨v3, t3, rfl, g3⟩ := fe_tR_d g2
      obtain ⟨rfl, hz⟩ := fe_t0_d g3
      exact mX36_init v0 v1 v2 v3 M r hz
    exact fe_no h
  · intro i As M r h
    exact fe_no h
  · intro i As M r h
    exact fe_no h
  · intro i As M r h
    exact fe_no h
theorem eX37_init (g0 : Nat → Nat → FM → Option (FM)) (a0 : Nat) (a1 : Nat) (M : FM) : dX37_init g0 0 [(0, .ref a0), (1, .ref a1)] [] M = g0 a0 a1 M := by rfl
theorem mX37_init (a0 : Nat) (a1 : Nat) (M : FM) (r : FM) (h : FX37_init a0 a1 M = some r) : fm_nx M ≤ fm_nx r ∧ fm_ns M ≤ fm_ns r :=
  fe_mono (L0 := [(0, .ref a0), (1, .ref a1)]) (vX37_init) (by decide +kernel) (hX37_init) (fe_kv_k r) 0 rfl ((eX37_init FX37_init_0 a0 a1 M).trans h)
theorem zX37_init {s0 : State} {H0 : Heap} {oa : Nat → Nat} {D : va_G} (K : fk s0 H0 oa D) (l : Launch) (a0 : Nat) (a1 : Nat) (M : FM) (r : FM) (h : FX37_init a0 a1 M = some r) : fs_Con (fk_E s0 H0 oa D) l 2 ⟨"BoardMachine$Halves$StackPlace", "<init>", "(LBoardMachine$Halves$Layout;)V"⟩ prog_54_method_1_code 2 (Option.none : Option Jvm.ClassFile.FieldType) [.ref a0, .ref a1] M none r := by
  have o0 : fs_OS (sX37_init FX36_init) 0 0 (fs_Con (fk_E s0 H0 oa D) l 1 ⟨"BoardMachine$Halves$Line", "<init>", "(IILBoardMachine$Halves$Layout;)V"⟩ prog_49_method_1_code 4 (Option.none : Option Jvm.ClassFile.FieldType)) := by
    intro As M r h
    obtain ⟨v0, t0, rfl, g0⟩ := fe_tR_d h
    obtain ⟨v1, t1, rfl, g1⟩ := fe_tI_d g0
    obtain ⟨v2, t2, rfl, g2⟩ := fe_tI_d g1
    obtain ⟨v3, t3, rfl, g3⟩ := fe_tR_d g2
    obtain ⟨rfl, hz⟩ := fe_t0_d g3
    exact zX36_init K l v0 v1 v2 v3 M r hz
  refine fs_method (own := "BoardMachine$Halves$StackPlace") rfl (by decide) K.2.1 (by rw [fe_slen]; exact (Nat.le_of_ble_eq_true rfl)) (mX37_init a0 a1 M r h) (hX37_init) 0 rfl (L0 := [(0, .ref a0), (1, .ref a1)]) (fun E => fe_args_e E [.ref a0, .ref a1] 0) ((eX37_init FX37_init_0 a0 a1 M).trans h) (fe_kv_k r) (fun H hR => fs_nr_o (by decide) (by decide)) ?_
  intro p e s m args below meth c Q C hnm
  have hw : s0.WarmedH s.vm := C.2.2.2.2.1
  refine fe_all C fk_hwr cX37_init [4] (by decide +kernel) (fe_fil (cps := [(4, 7, .invokevirtual 16828466)]) (by decide +kernel) ?_)
  refine fs_c1 (fs_inv_virtual (pc := 4) (n := 16828466) C (Nat.le_of_ble_eq_true rfl) (Nat.le_of_ble_eq_true rfl) (fs_lk_init (idx := 1) (y := ⟨"BoardMachine$Halves$Line", "<init>", "(IILBoardMachine$Halves$Layout;)V"⟩) (bytes := prog_49_method_1_code) (maxL := 4) (d := 1) C (Nat.le_of_ble_eq_true rfl) (Nat.le_of_ble_eq_true rfl) (by decide +kernel) (kw K hw q1097) (kw K hw q347) (kw K hw q1096) (Or.inl (kw K hw q1095)) rfl ⟨by decide, by decide⟩ rfl (Nat.le_of_ble_eq_true rfl) (Nat.le_of_ble_eq_true rfl)) fs_con_mono o0) ?_
  exact fs_c0
theorem hX34_lay : fe_H (sX34_lay) cX34_lay [0] fe_kv [] 20 (fun _ => dX34_lay FX34_lay_0) := by
  intro j pc L st M r hc h
  rcases fe_mem_c hc with rfl | hc
  · obtain ⟨w0, m0, h⟩ := fe_lR_d h
    obtain ⟨w1, m1, h⟩ := fe_lR_d h
    obtain ⟨rfl, hz⟩ := fe_t0_d h
    exact ⟨[(0, .ref w0), (1, .ref w1)], (fe_cs m0 (fe_cs m1 fe_nl)), Or.inr ((bX34_lay_0 FX34_lay_0 w0 w1 M).symm.trans hz)⟩
  exact fe_mem_0 hc
theorem vX34_lay : fe_SB (sX34_lay) := by
  refine ⟨?_, ?_, ?_, ?_⟩
  · intro i As M r h
    exact fe_no h
  · intro i As M r h
    exact fe_no h
  · intro i As M r h
    exact fe_no h
  · intro i As M r h
    exact fe_no h
theorem eX34_lay (g0 : Nat → Nat → FM → Option (FM)) (a0 : Nat) (a1 : Nat) (M : FM) : dX34_lay g0 0 [(0, .ref a0), (1, .ref a1)] [] M = g0 a0 a1 M := by rfl
theorem mX34_lay (a0 : Nat) (a1 : Nat) (M : FM) (r : FM) (h : FX34_lay a0 a1 M = some r) : fm_nx M ≤ fm_nx r ∧ fm_ns M ≤ fm_ns r :=
  fe_mono (L0 := [(0, .ref a0), (1, .ref a1)]) (vX34_lay) (by decide +kernel) (hX34_lay) (fe_kv_k r) 0 rfl ((eX34_lay FX34_lay_0 a0 a1 M).trans h)
theorem zX34_lay {s0 : State} {H0 : Heap} {oa : Nat → Nat} {D : va_G} (K : fk s0 H0 oa D) (l : Launch) (a0 : Nat) (a1 : Nat) (M : FM) (r : FM) (h : FX34_lay a0 a1 M = some r) : fs_Con (fk_E s0 H0 oa D) l 1 ⟨"BoardMachine$Halves$ShortUnit", "lay", "(LBoardMachine$Halves$Line;)V"⟩ prog_51_method_2_code 2 (Option.none : Option Jvm.ClassFile.FieldType) [.ref a0, .ref a1] M none r := by
  refine fs_method (own := "BoardMachine$Halves$ShortUnit") rfl (by decide) K.2.1 (by rw [fe_slen]; exact (Nat.le_of_ble_eq_true rfl)) (mX34_lay a0 a1 M r h) (hX34_lay) 0 rfl (L0 := [(0, .ref a0), (1, .ref a1)]) (fun E => fe_args_e E [.ref a0, .ref a1] 0) ((eX34_lay FX34_lay_0 a0 a1 M).trans h) (fe_kv_k r) (fun H hR => fs_nr_o (by decide) (by decide)) ?_
  intro p e s m args below meth c Q C hnm
  have hw : s0.WarmedH s.vm := C.2.2.2.2.1
  refine fe_all C fk_hwr cX34_lay [1, 7, 12, 17] (by decide +kernel) (fe_fil (cps := [(1, 4, .getfield 595804370), (7, 10, .getfield 532852940), (12, 15, .getfield 537047244), (17, 18, .instanceof 960539699)]) (by decide +kernel) ?_)
  refine fs_c1 (fs_getf (pc := 1) (n := 595804370) (idx := 13) (ref := "BoardMachine$Halves$ShortUnit") (O := "BoardMachine$Halves$ShortUnit") (name := "lines") (desc := "[LBoardMachine$Halves$Line;") C (by decide +kernel) (Or.inl (kw K hw q1249)) (fun _ h => h) (Nat.le_of_ble_eq_true rfl) (Nat.le_of_ble_eq_true rfl) (fs_one (⟨_, ff_52_142 s0 H0 oa D⟩))) ?_
  refine fs_c1 (fs_getf (pc := 7) (n := 532852940) (idx := 67) (ref := "BoardMachine$Halves$Line") (O := "BoardMachine$Halves$Line") (name := "quarter") (desc := "I") C (by decide +kernel) (Or.inl (kw K hw q1100)) (fun _ h => h) (Nat.le_of_ble_eq_true rfl) (Nat.le_of_ble_eq_true rfl) (fs_rc (⟨_, ff_43_127 s0 H0 oa D⟩) (fs_rc (⟨_, ff_44_127 s0 H0 oa D⟩) (fs_rc (⟨_, ff_45_127 s0 H0 oa D⟩) (fs_rc (⟨_, ff_46_127 s0 H0 oa D⟩) (fs_rc (⟨_, ff_47_127 s0 H0 oa D⟩) (fs_rc (⟨_, ff_48_127 s0 H0 oa D⟩) (fs_rc (⟨_, ff_49_127 s0 H0 oa D⟩) (fs_rc (⟨_, ff_50_127 s0 H0 oa D⟩) (fs_one (⟨_, ff_51_127 s0 H0 oa D⟩))))))))))) ?_
  refine fs_c1 (fs_getf (pc := 12) (n := 537047244) (idx := 70) (ref := "BoardMachine$Halves$Line") (O := "BoardMachine$Halves$Line") (name := "top") (desc := "I") C (by decide +kernel) (Or.inl (kw K hw q1104)) (fun _ h => h) (Nat.le_of_ble_eq_true rfl) (Nat.le_of_ble_eq_true rfl) (fs_rc (⟨_, ff_43_128 s0 H0 oa D⟩) (fs_rc (⟨_, ff_44_128 s0 H0 oa D⟩) (fs_rc (⟨_, ff_45_128 s0 H0 oa D⟩) (fs_rc (⟨_, ff_46_128 s0 H0 oa D⟩) (fs_rc (⟨_, ff_47_128 s0 H0 oa D⟩) (fs_rc (⟨_, ff_48_128 s0 H0 oa D⟩) (fs_rc (⟨_, ff_49_128 s0 H0 oa D⟩) (fs_rc (⟨_, ff_50_128 s0 H0 oa D⟩) (fs_one (⟨_, ff_51_128 s0 H0 oa D⟩))))))))))) ?_
  refine fs_c1 (fs_astr (pc := 17) (n := 960539699) (EE := "BoardMachine$Halves$Line") C (by decide +kernel) (Nat.le_of_ble_eq_true rfl) rfl rfl (Nat.le_of_ble_eq_true rfl) (Nat.le_of_ble_eq_true rfl) (fs_rc (⟨_, rfl, Or.inr (kC K hw q6532)⟩) (fs_rc (⟨_, rfl, Or.inr (kC K hw q6533)⟩) (fs_rc (⟨_, rfl, Or.inr (kC K hw q6534)⟩) (fs_rc (⟨_, rfl, Or.inr (kC K hw q6535)⟩) (fs_rc (⟨_, rfl, Or.inr (kC K hw q6536)⟩) (fs_rc (⟨_, rfl, Or.inr (kC K hw q6537)⟩) (fs_rc (⟨_, rfl, Or.inr (kC K hw q6538)⟩) (fs_rc (⟨_, rfl, Or.inr (kC K hw q6539)⟩) (fs_one (⟨_, rfl, Or.inr (kC K hw q6540)⟩))))))))))) ?_
  exact fs_c0
theorem hX38_init : fe_H (sX38_init FX36_init) cX38_init [0] fe_kv [] 20 (fun _ => dX38_init FX38_init_0) := by
  intro j pc L st M r hc h
  rcases fe_mem_c hc with rfl | hc
  · obtain ⟨w0, m0, h⟩ := fe_lR_d h
    obtain ⟨w1, m1, h⟩ := fe_lI_d h
    obtain ⟨w2, m2, h⟩ := fe_lR_d h
    obtain ⟨w3, m3, h⟩ := fe_lI_d h
    obtain ⟨w4, m4, h⟩ := fe_lI_d h
    obtain ⟨w5, m5, h⟩ := fe_lI_d h
    obtain ⟨rfl, hz⟩ := fe_t0_d h
    exact ⟨[(0, .ref w0), (1, .int w1), (2, .ref w2), (3, .int w3), (4, .int w4), (5, .int w5)], (fe_cs m0 (fe_cs m1 (fe_cs m2 (fe_cs m3 (fe_cs m4 (fe_cs m5 fe_nl)))))), Or.inr ((bX38_init_0 FX36_init FX38_init_0 w0 w1 w2 w3 w4 w5 M).symm.trans hz)⟩
  exact fe_mem_0 hc
theorem vX38_init : fe_SB (sX38_init FX36_init) := by
  refine ⟨?_, ?_, ?_, ?_⟩
  · intro i As M r h
    rcases fe_bc h with h | h
    · obtain ⟨v0, t0, rfl, g0⟩ := fe_tR_d h
      obtain ⟨v1, t1, rfl, g1⟩ := fe_tI_d g0
      obtain ⟨v2, t2, rfl, g2⟩ := fe_tI_d g1
      obtain ⟨v3, t3, rfl, g3⟩ := fe_tR_d g2
      obtain ⟨rfl, hz⟩ := fe_t0_d g3
      exact mX36_init v0 v1 v2 v3 M r hz
    exact fe_no h
  · intro i As M r h
    exact fe_no h
  · intro i As M r h
    exact fe_no h
  · intro i As M r h
    exact fe_no h
theorem eX38_init (g0 : Nat → Int32 → Nat → Int32 → Int32 → Int32 → FM → Option (FM)) (a0 : Nat) (a1 : Int32) (a2 : Nat) (a3 : Int32) (a4 : Int32) (a5 : Int32) (M : FM) : dX38_init g0 0 [(0, .ref a0), (1, .int a1), (2, .ref a2), (3, .int a3), (4, .int a4), (5, .int a5)] [] M = g0 a0 a1 a2 a3 a4 a5 M := by rfl
theorem mX38_init (a0 : Nat) (a1 : Int32) (a2 : Nat) (a3 : Int32) (a4 : Int32) (a5 : Int32) (M : FM) (r : FM) (h : FX38_init a0 a1 a2 a3 a4 a5 M = some r) : fm_nx M ≤ fm_nx r ∧ fm_ns M ≤ fm_ns r :=
  fe_mono (L0 := [(0, .ref a0), (1, .int a1), (2, .ref a2), (3, .int a3), (4, .int a4), (5, .int a5)]) (vX38_init) (by decide +kernel) (hX38_init) (fe_kv_k r) 0 rfl ((eX38_init FX38_init_0 a0 a1 a2 a3 a4 a5 M).trans h)
theorem zX38_init {s0 : State} {H0 : Heap} {oa : Nat → Nat} {D : va_G} (K : fk s0 H0 oa D) (l : Launch) (a0 : Nat) (a1 : Int32) (a2 : Nat) (a3 : Int32) (a4 : Int32) (a5 : Int32) (M : FM) (r : FM) (h : FX38_init a0 a1 a2 a3 a4 a5 M = some r) : fs_Con (fk_E s0 H0 oa D) l 2 ⟨"BoardMachine$Halves$Access", "<init>", "(ILBoardMachine$Halves$Layout;IIZ)V"⟩ prog_44_method_1_code 6 (Option.none : Option Jvm.ClassFile.FieldType) [.ref a0, .int a1, .ref a2, .int a3, .int a4, .int a5] M none r := by
  have o0 : fs_OS (sX38_init FX36_init) 0 0 (fs_Con (fk_E s0 H0 oa D) l 1 ⟨"BoardMachine$Halves$Line", "<init>", "(IILBoardMachine$Halves$Layout;)V"⟩ prog_49_method_1_code 4 (Option.none : Option Jvm.ClassFile.FieldType)) := by
    intro As M r h
    obtain ⟨v0, t0, rfl, g0⟩ := fe_tR_d h
    obtain ⟨v1, t1, rfl, g1⟩ := fe_tI_d g0
    obtain ⟨v2, t2, rfl, g2⟩ := fe_tI_d g1
    obtain ⟨v3, t3, rfl, g3⟩ := fe_tR_d g2
    obtain ⟨rfl, hz⟩ := fe_t0_d g3
    exact zX36_init K l v0 v1 v2 v3 M r hz
  refine fs_method (own := "BoardMachine$Halves$Access") rfl (by decide) K.2.1 (by rw [fe_slen]; exact (Nat.le_of_ble_eq_true rfl)) (mX38_init a0 a1 a2 a3 a4 a5 M r h) (hX38_init) 0 rfl (L0 := [(0, .ref a0), (1, .int a1), (2, .ref a2), (3, .int a3), (4, .int a4), (5, .int a5)]) (fun E => fe_args_e E [.ref a0, .int a1, .ref a2, .int a3, .int a4, .int a5] 0) ((eX38_init FX38_init_0 a0 a1 a2 a3 a4 a5 M).trans h) (fe_kv_k r) (fun H hR => fs_nr_o (by decide) (by decide)) ?_
  intro p e s m args below meth c Q C hnm
  have hw : s0.WarmedH s.vm := C.2.2.2.2.1
  refine fe_all C fk_hwr cX38_init [4, 9, 15, 21] (by decide +kernel) (fe_fil (cps := [(4, 7, .invokevirtual 16821291), (9, 12, .putfield 545435820), (15, 18, .putfield 549630124), (21, 24, .putfield 553824431)]) (by decide +kernel) ?_)
  refine fs_c1 (fs_inv_virtual (pc := 4) (n := 16821291) C (Nat.le_of_ble_eq_true rfl) (Nat.le_of_ble_eq_true rfl) (fs_lk_init (idx := 1) (y := ⟨"BoardMachine$Halves$Line", "<init>", "(IILBoardMachine$Halves$Layout;)V"⟩) (bytes := prog_49_method_1_code) (maxL := 4) (d := 1) C (Nat.le_of_ble_eq_true rfl) (Nat.le_of_ble_eq_true rfl) (by decide +kernel) (kw K hw q1097) (kw K hw q347) (kw K hw q1096) (Or.inl (kw K hw q1138)) rfl ⟨by decide, by decide⟩ rfl (Nat.le_of_ble_eq_true rfl) (Nat.le_of_ble_eq_true rfl)) fs_con_mono o0) ?_
  refine fs_c1 (fs_putf (pc := 9) (n := 545435820) (idx := 7) (ref := "BoardMachine$Halves$Access") (O := "BoardMachine$Halves$Access") (name := "code") (desc := "I") (fin := true) (ty := .int) C (by decide +kernel) (Or.inr ⟨rfl, kw K hw q1139, hnm, rfl⟩) (fun _ h => h) (Nat.le_of_ble_eq_true rfl) (Nat.le_of_ble_eq_true rfl) (Nat.le_of_ble_eq_true rfl) rfl rfl (by decide) (fs_one (⟨rfl, ff_43_130 s0 H0 oa D⟩))) ?_
  refine fs_c1 (fs_putf (pc := 15) (n := 549630124) (idx := 13) (ref := "BoardMachine$Halves$Access") (O := "BoardMachine$Halves$Access") (name := "f") (desc := "I") (fin := true) (ty := .int) C (by decide +kernel) (Or.inr ⟨rfl, kw K hw q1140, hnm, rfl⟩) (fun _ h => h) (Nat.le_of_ble_eq_true rfl) (Nat.le_of_ble_eq_true rfl) (Nat.le_of_ble_eq_true rfl) rfl rfl (by decide) (fs_one (⟨rfl, ff_43_131 s0 H0 oa D⟩))) ?_
  refine fs_c1 (fs_putf (pc := 21) (n := 553824431) (idx := 16) (ref := "BoardMachine$Halves$Access") (O := "BoardMachine$Halves$Access") (name := "stores") (desc := "Z") (fin := true) (ty := .boolean) C (by decide +kernel) (Or.inr ⟨rfl, kw K hw q1141, hnm, rfl⟩) (fun _ h => h) (Nat.le_of_ble_eq_true rfl) (Nat.le_of_ble_eq_true rfl) (Nat.le_of_ble_eq_true rfl) rfl rfl (by decide) (fs_one (⟨rfl, ff_43_132 s0 H0 oa D⟩))) ?_
  exact fs_c0
theorem hX39_init : fe_H (sX39_init FX36_init) cX39_init [0] fe_kv [] 20 (fun _ => dX39_init FX39_init_0) := by
  intro j pc L st M r hc h
  rcases fe_mem_c hc with rfl | hc
  · obtain ⟨w0, m0, h⟩ := fe_lR_d h
    obtain ⟨w1, m1, h⟩ := fe_lI_d h
    obtain ⟨w2, m2, h⟩ := fe_lI_d h
    obtain ⟨w3, m3, h⟩ := fe_lR_d h
    obtain ⟨w4, m4, h⟩ := fe_lI_d h
    obtain ⟨w5, m5, h⟩ := fe_lI_d h
    obtain ⟨w6, m6, h⟩ := fe_lI_d h
    obtain ⟨rfl, hz⟩ := fe_t0_d h
    exact ⟨[(0, .ref w0), (1, .int w1), (2, .int w2), (3, .ref w3), (4, .int w4), (5, .int w5), (6, .int w6)], (fe_cs m0 (fe_cs m1 (fe_cs m2 (fe_cs m3 (fe_cs m4 (fe_cs m5 (fe_cs m6 fe_nl))))))), Or.inr ((bX39_init_0 FX36_init FX39_init_0 w0 w1 w2 w3 w4 w5 w6 M).symm.trans hz)⟩
  exact fe_mem_0 hc
theorem vX39_init : fe_SB (sX39_init FX36_init) := by
  refine ⟨?_, ?_, ?_, ?_⟩
  · intro i As M r h
    rcases fe_bc h with h | h
    · obtain ⟨v0, t0, rfl, g0⟩ := fe_tR_d h
      obtain ⟨v1, t1, rfl, g1⟩ := fe_tI_d g0
      obtain ⟨v2, t2, rfl, g2⟩ := fe_tI_d g1
      obtain ⟨v3, t3, rfl, g3⟩ := fe_tR_d g2
      obtain ⟨rfl, hz⟩ := fe_t0_d g3
      exact mX36_init v0 v1 v2 v3 M r hz
    exact fe_no h
  · intro i As M r h
    exact fe_no h
  · intro i As M r h
    exact fe_no h
  · intro i As M r h
    exact fe_no h
theorem eX39_init (g0 : Nat → Int32 → Int32 → Nat → Int32 → Int32 → Int32 → FM → Option (FM)) (a0 : Nat) (a1 : Int32) (a2 : Int32) (a3 : Nat) (a4 : Int32) (a5 : Int32) (a6 : Int32) (M : FM) : dX39_init g0 0 [(0, .ref a0), (1, .int a1), (2, .int a2), (3, .ref a3), (4, .int a4), (5, .int a5), (6, .int a6)] [] M = g0 a0 a1 a2 a3 a4 a5 a6 M := by rfl
theorem mX39_init (a0 : Nat) (a1 : Int32) (a2 : Int32) (a3 : Nat) (a4 : Int32) (a5 : Int32) (a6 : Int32) (M : FM) (r : FM) (h : FX39_init a0 a1 a2 a3 a4 a5 a6 M = some r) : fm_nx M ≤ fm_nx r ∧ fm_ns M ≤ fm_ns r :=
  fe_mono (L0 := [(0, .ref a0), (1, .int a1), (2, .int a2), (3, .ref a3), (4, .int a4), (5, .int a5), (6, .int a6)]) (vX39_init) (by decide +kernel) (hX39_init) (fe_kv_k r) 0 rfl ((eX39_init FX39_init_0 a0 a1 a2 a3 a4 a5 a6 M).trans h)
theorem zX39_init {s0 : State} {H0 : Heap} {oa : Nat → Nat} {D : va_G} (K : fk s0 H0 oa D) (l : Launch) (a0 : Nat) (a1 : Int32) (a2 : Int32) (a3 : Nat) (a4 : Int32) (a5 : Int32) (a6 : Int32) (M : FM) (r : FM) (h : FX39_init a0 a1 a2 a3 a4 a5 a6 M = some r) : fs_Con (fk_E s0 H0 oa D) l 2 ⟨"BoardMachine$Halves$Immediate", "<init>", "(IILBoardMachine$Halves$Layout;IIZ)V"⟩ prog_46_method_1_code 7 (Option.none : Option Jvm.ClassFile.FieldType) [.ref a0, .int a1, .int a2, .ref a3, .int a4, .int a5, .int a6] M none r := by
  have o0 : fs_OS (sX39_init FX36_init) 0 0 (fs_Con (fk_E s0 H0 oa D) l 1 ⟨"BoardMachine$Halves$Line", "<init>", "(IILBoardMachine$Halves$Layout;)V"⟩ prog_49_method_1_code 4 (Option.none : Option Jvm.ClassFile.FieldType)) := by
    intro As M r h
    obtain ⟨v0, t0, rfl, g0⟩ := fe_tR_d h
    obtain ⟨v1, t1, rfl, g1⟩ := fe_tI_d g0
    obtain ⟨v2, t2, rfl, g2⟩ := fe_tI_d g1
    obtain ⟨v3, t3, rfl, g3⟩ := fe_tR_d g2
    obtain ⟨rfl, hz⟩ := fe_t0_d g3
    exact zX36_init K l v0 v1 v2 v3 M r hz
  refine fs_method (own := "BoardMachine$Halves$Immediate") rfl (by decide) K.2.1 (by rw [fe_slen]; exact (Nat.le_of_ble_eq_true rfl)) (mX39_init a0 a1 a2 a3 a4 a5 a6 M r h) (hX39_init) 0 rfl (L0 := [(0, .ref a0), (1, .int a1), (2, .int a2), (3, .ref a3), (4, .int a4), (5, .int a5), (6, .int a6)]) (fun E => fe_args_e E [.ref a0, .int a1, .int a2, .ref a3, .int a4, .int a5, .int a6] 0) ((eX39_init FX39_init_0 a0 a1 a2 a3 a4 a5 a6 M).trans h) (fe_kv_k r) (fun H hR => fs_nr_o (by decide) (by decide)) ?_
  intro p e s m args below meth c Q C hnm
  have hw : s0.WarmedH s.vm := C.2.2.2.2.1
  refine fe_all C fk_hwr cX39_init [4, 10, 16, 22] (by decide +kernel) (fe_fil (cps := [(4, 7, .invokevirtual 16823341), (10, 13, .putfield 558026932), (16, 19, .putfield 562221236), (22, 25, .putfield 566415543)]) (by decide +kernel) ?_)
  refine fs_c1 (fs_inv_virtual (pc := 4) (n := 16823341) C (Nat.le_of_ble_eq_true rfl) (Nat.le_of_ble_eq_true rfl) (fs_lk_init (idx := 1) (y := ⟨"BoardMachine$Halves$Line", "<init>", "(IILBoardMachine$Halves$Layout;)V"⟩) (bytes := prog_49_method_1_code) (maxL := 4) (d := 1) C (Nat.le_of_ble_eq_true rfl) (Nat.le_of_ble_eq_true rfl) (by decide +kernel) (kw K hw q1097) (kw K hw q347) (kw K hw q1096) (Or.inl (kw K hw q1157)) rfl ⟨by decide, by decide⟩ rfl (Nat.le_of_ble_eq_true rfl) (Nat.le_of_ble_eq_true rfl)) fs_con_mono o0) ?_
  refine fs_c1 (fs_putf (pc := 10) (n := 558026932) (idx := 7) (ref := "BoardMachine$Halves$Immediate") (O := "BoardMachine$Halves$Immediate") (name := "code") (desc := "I") (fin := true) (ty := .int) C (by decide +kernel) (Or.inr ⟨rfl, kw K hw q1158, hnm, rfl⟩) (fun _ h => h) (Nat.le_of_ble_eq_true rfl) (Nat.le_of_ble_eq_true rfl) (Nat.le_of_ble_eq_true rfl) rfl rfl (by decide) (fs_one (⟨rfl, ff_45_133 s0 H0 oa D⟩))) ?_
  refine fs_c1 (fs_putf (pc := 16) (n := 562221236) (idx := 13) (ref := "BoardMachine$Halves$Immediate") (O := "BoardMachine$Halves$Immediate") (name := "f") (desc := "I") (fin := true) (ty := .int) C (by decide +kernel) (Or.inr ⟨rfl, kw K hw q1159, hnm, rfl⟩) (fun _ h => h) (Nat.le_of_ble_eq_true rfl) (Nat.le_of_ble_eq_true rfl) (Nat.le_of_ble_eq_true rfl) rfl rfl (by decide) (fs_one (⟨rfl, ff_45_134 s0 H0 oa D⟩))) ?_
  refine fs_c1 (fs_putf (pc := 22) (n := 566415543) (idx := 16) (ref := "BoardMachine$Halves$Immediate") (O := "BoardMachine$Halves$Immediate") (name := "ofZero") (desc := "Z") (fin := true) (ty := .boolean) C (by decide +kernel) (Or.inr ⟨rfl, kw K hw q1160, hnm, rfl⟩) (fun _ h => h) (Nat.le_of_ble_eq_true rfl) (Nat.le_of_ble_eq_true rfl) (Nat.le_of_ble_eq_true rfl) rfl rfl (by decide) (fs_one (⟨rfl, ff_45_135 s0 H0 oa D⟩))) ?_
  exact fs_c0
theorem hX40_init : fe_H (sX40_init FX36_init) cX40_init [0] fe_kv [] 20 (fun _ => dX40_init FX40_init_0) := by
  intro j pc L st M r hc h
  rcases fe_mem_c hc with rfl | hc
  · obtain ⟨w0, m0, h⟩ := fe_lR_d h
    obtain ⟨w1, m1, h⟩ := fe_lR_d h
    obtain ⟨w2, m2, h⟩ := fe_lR_d h
    obtain ⟨rfl, hz⟩ := fe_t0_d h
    exact ⟨[(0, .ref w0), (1, .ref w1), (2, .ref w2)], (fe_cs m0 (fe_cs m1 (fe_cs m2 fe_nl))), Or.inr ((bX40_init_0 FX36_init FX40_init_0 w0 w1 w2 M).symm.trans hz)⟩
  exact fe_mem_0 hc
theorem vX40_init : fe_SB (sX40_init FX36_init) := by
  refine ⟨?_, ?_, ?_, ?_⟩
  · intro i As M r h
    rcases fe_bc h with h | h
    · obtain ⟨v0, t0, rfl, g0⟩ := fe_tR_d h
      obtain ⟨v1, t1, rfl, g1⟩ := fe_tI_d g0
      obtain ⟨v2, t2, rfl, g2⟩ := fe_tI_d g1
      obtain ⟨v3, t3, rfl, g3⟩ := fe_tR_d g2
      obtain ⟨rfl, hz⟩ := fe_t0_d g3
      exact mX36_init v0 v1 v2 v3 M r hz
    exact fe_no h
  · intro i As M r h
    exact fe_no h
  · intro i As M r h
    exact fe_no h
  · intro i As M r h
    exact fe_no h
theorem eX40_init (g0 : Nat → Nat → Nat → FM → Option (FM)) (a0 : Nat) (a1 : Nat) (a2 : Nat) (M : FM) : dX40_init g0 0 [(0, .ref a0), (1, .ref a1), (2, .ref a2)] [] M = g0 a0 a1 a2 M := by rfl
theorem mX40_init (a0 : Nat) (a1 : Nat) (a2 : Nat) (M : FM) (r : FM) (h : FX40_init a0 a1 a2 M = some r) : fm_nx M ≤ fm_nx r ∧ fm_ns M ≤ fm_ns r :=
  fe_mono (L0 := [(0, .ref a0), (1, .ref a1), (2, .ref a2)]) (vX40_init) (by decide +kernel) (hX40_init) (fe_kv_k r) 0 rfl ((eX40_init FX40_init_0 a0 a1 a2 M).trans h)
theorem zX40_init {s0 : State} {H0 : Heap} {oa : Nat → Nat} {D : va_G} (K : fk s0 H0 oa D) (l : Launch) (a0 : Nat) (a1 : Nat) (a2 : Nat) (M : FM) (r : FM) (h : FX40_init a0 a1 a2 M = some r) : fs_Con (fk_E s0 H0 oa D) l 2 ⟨"BoardMachine$Halves$StackOrUpper", "<init>", "(LBoardMachine$Halves$Layout;LBoardMachine$Halves$Layout;)V"⟩ prog_53_method_1_code 3 (Option.none : Option Jvm.ClassFile.FieldType) [.ref a0, .ref a1, .ref a2] M none r := by
  have o0 : fs_OS (sX40_init FX36_init) 0 0 (fs_Con (fk_E s0 H0 oa D) l 1 ⟨"BoardMachine$Halves$Line", "<init>", "(IILBoardMachine$Halves$Layout;)V"⟩ prog_49_method_1_code 4 (Option.none : Option Jvm.ClassFile.FieldType)) := by
    intro As M r h
    obtain ⟨v0, t0, rfl, g0⟩ := fe_tR_d h
    obtain ⟨v1, t1, rfl, g1⟩ := fe_tI_d g0
    obtain ⟨v2, t2, rfl, g2⟩ := fe_tI_d g1
    obtain ⟨v3, t3, rfl, g3⟩ := fe_tR_d g2
    obtain ⟨rfl, hz⟩ := fe_t0_d g3
    exact zX36_init K l v0 v1 v2 v3 M r hz
  refine fs_method (own := "BoardMachine$Halves$StackOrUpper") rfl (by decide) K.2.1 (by rw [fe_slen]; exact (Nat.le_of_ble_eq_true rfl)) (mX40_init a0 a1 a2 M r h) (hX40_init) 0 rfl (L0 := [(0, .ref a0), (1, .ref a1), (2, .ref a2)]) (fun E => fe_args_e E [.ref a0, .ref a1, .ref a2] 0) ((eX40_init FX40_init_0 a0 a1 a2 M).trans h) (fe_kv_k r) (fun H hR => fs_nr_o (by decide) (by decide)) ?_
  intro p e s m args below meth c Q C hnm
  have hw : s0.WarmedH s.vm := C.2.2.2.2.1
  refine fe_all C fk_hwr cX40_init [4, 9] (by decide +kernel) (fe_fil (cps := [(4, 7, .invokevirtual 16827441), (9, 12, .putfield 591597766)]) (by decide +kernel) ?_)
  refine fs_c1 (fs_inv_virtual (pc := 4) (n := 16827441) C (Nat.le_of_ble_eq_true rfl) (Nat.le_of_ble_eq_true rfl) (fs_lk_init (idx := 1) (y := ⟨"BoardMachine$Halves$Line", "<init>", "(IILBoardMachine$Halves$Layout;)V"⟩) (bytes := prog_49_method_1_code) (maxL := 4) (d := 1) C (Nat.le_of_ble_eq_true rfl) (Nat.le_of_ble_eq_true rfl) (by decide +kernel) (kw K hw q1097) (kw K hw q347) (kw K hw q1096) (Or.inl (kw K hw q1176)) rfl ⟨by decide, by decide⟩ rfl (Nat.le_of_ble_eq_true rfl) (Nat.le_of_ble_eq_true rfl)) fs_con_mono o0) ?_
  refine fs_c1 (fs_putf (pc := 9) (n := 591597766) (idx := 7) (ref := "BoardMachine$Halves$StackOrUpper") (O := "BoardMachine$Halves$StackOrUpper") (name := "upper") (desc := "LBoardMachine$Halves$Layout;") (fin := true) (ty := (.object "BoardMachine$Halves$Layout")) C (by decide +kernel) (Or.inr ⟨rfl, kw K hw q1177, hnm, rfl⟩) (fun _ h => h) (Nat.le_of_ble_eq_true rfl) (Nat.le_of_ble_eq_true rfl) (Nat.le_of_ble_eq_true rfl) rfl rfl (by decide) (fs_one (⟨rfl, ff_49_141 s0 H0 oa D⟩))) ?_
  exact fs_c0
theorem hX41_init : fe_H (sX41_init FX36_init) cX41_init [0] fe_kv [] 90 (fun _ => dX41_init FX41_init_0) := by
  intro j pc L st M r hc h
  rcases fe_mem_c hc with rfl | hc
  · obtain ⟨w0, m0, h⟩ := fe_lR_d h
    obtain ⟨w1, m1, h⟩ := fe_lR_d h
    obtain ⟨w2, m2, h⟩ := fe_lR_d h
    obtain ⟨rfl, hz⟩ := fe_t0_d h
    exact ⟨[(0, .ref w0), (1, .ref w1), (2, .ref w2)], (fe_cs m0 (fe_cs m1 (fe_cs m2 fe_nl))), Or.inr ((bX41_init_0 FX36_init FX41_init_0 w0 w1 w2 M).symm.trans hz)⟩
  exact fe_mem_0 hc
theorem vX41_init : fe_SB (sX41_init FX36_init) := by
  refine ⟨?_, ?_, ?_, ?_⟩
  · intro i As M r h
    rcases fe_bc h with h | h
    · obtain ⟨v0, t0, rfl, g0⟩ := fe_tR_d h
      obtain ⟨v1, t1, rfl, g1⟩ := fe_tI_d g0
      obtain ⟨v2, t2, rfl, g2⟩ := fe_tI_d g1
      obtain ⟨v3, t3, rfl, g3⟩ := fe_tR_d g2
      obtain ⟨rfl, hz⟩ := fe_t0_d g3
      exact mX36_init v0 v1 v2 v3 M r hz
    exact fe_no h
  · intro i As M r h
    exact fe_no h
  · intro i As M r h
    exact fe_no h
  · intro i As M r h
    exact fe_no h
theorem eX41_init (g0 : Nat → Nat → Nat → FM → Option (FM)) (a0 : Nat) (a1 : Nat) (a2 : Nat) (M : FM) : dX41_init g0 0 [(0, .ref a0), (1, .ref a1), (2, .ref a2)] [] M = g0 a0 a1 a2 M := by rfl
theorem mX41_init (a0 : Nat) (a1 : Nat) (a2 : Nat) (M : FM) (r : FM) (h : FX41_init a0 a1 a2 M = some r) : fm_nx M ≤ fm_nx r ∧ fm_ns M ≤ fm_ns r :=
  fe_mono (L0 := [(0, .ref a0), (1, .ref a1), (2, .ref a2)]) (vX41_init) (by decide +kernel) (hX41_init) (fe_kv_k r) 0 rfl ((eX41_init FX41_init_0 a0 a1 a2 M).trans h)
theorem zX41_init {s0 : State} {H0 : Heap} {oa : Nat → Nat} {D : va_G} (K : fk s0 H0 oa D) (l : Launch) (a0 : Nat) (a1 : Nat) (a2 : Nat) (M : FM) (r : FM) (h : FX41_init a0 a1 a2 M = some r) : fs_Con (fk_E s0 H0 oa D) l 2 ⟨"BoardMachine$Halves$Reckoning", "<init>", "(LBoardMachine$Halves$Layout;LBoardMachine$Halves$Layout;)V"⟩ prog_50_method_1_code 3 (Option.none : Option Jvm.ClassFile.FieldType) [.ref a0, .ref a1, .ref a2] M none r := by
  have o0 : fs_OS (sX41_init FX36_init) 0 0 (fs_Con (fk_E s0 H0 oa D) l 1 ⟨"BoardMachine$Halves$Line", "<init>", "(IILBoardMachine$Halves$Layout;)V"⟩ prog_49_method_1_code 4 (Option.none : Option Jvm.ClassFile.FieldType)) := by
    intro As M r h
    obtain ⟨v0, t0, rfl, g0⟩ := fe_tR_d h
    obtain ⟨v1, t1, rfl, g1⟩ := fe_tI_d g0
    obtain ⟨v2, t2, rfl, g2⟩ := fe_tI_d g1
    obtain ⟨v3, t3, rfl, g3⟩ := fe_tR_d g2
    obtain ⟨rfl, hz⟩ := fe_t0_d g3
    exact zX36_init K l v0 v1 v2 v3 M r hz
  refine fs_method (own := "BoardMachine$Halves$Reckoning") rfl (by decide) K.2.1 (by rw [fe_slen]; exact (Nat.le_of_ble_eq_true rfl)) (mX41_init a0 a1 a2 M r h) (hX41_init) 0 rfl (L0 := [(0, .ref a0), (1, .ref a1), (2, .ref a2)]) (fun E => fe_args_e E [.ref a0, .ref a1, .ref a2] 0) ((eX41_init FX41_init_0 a0 a1 a2 M).trans h) (fe_kv_k r) (fun H hR => fs_nr_o (by decide) (by decide)) ?_
  intro p e s m args below meth c Q C hnm
  have hw : s0.WarmedH s.vm := C.2.2.2.2.1
  refine fe_all C fk_hwr cX41_init [4, 10, 106, 111] (by decide +kernel) (fe_fil (cps := [(4, 7, .invokevirtual 16825391), (10, 12, .anewarray 140165), (106, 109, .putfield 570618046), (111, 114, .putfield 574812350)]) (by decide +kernel) ?_)
  refine fs_c1 (fs_inv_virtual (pc := 4) (n := 16825391) C (Nat.le_of_ble_eq_true rfl) (Nat.le_of_ble_eq_true rfl) (fs_lk_init (idx := 1) (y := ⟨"BoardMachine$Halves$Line", "<init>", "(IILBoardMachine$Halves$Layout;)V"⟩) (bytes := prog_49_method_1_code) (maxL := 4) (d := 1) C (Nat.le_of_ble_eq_true rfl) (Nat.le_of_ble_eq_true rfl) (by decide +kernel) (kw K hw q1097) (kw K hw q347) (kw K hw q1096) (Or.inl (kw K hw q1189)) rfl ⟨by decide, by decide⟩ rfl (Nat.le_of_ble_eq_true rfl) (Nat.le_of_ble_eq_true rfl)) fs_con_mono o0) ?_
  refine fs_c1 (fs_newI (pc := 10) (n := 140165) C (by decide +kernel) (kw K hw q966) rfl rfl) ?_
  refine fs_c1 (fs_putf (pc := 106) (n := 570618046) (idx := 7) (ref := "BoardMachine$Halves$Reckoning") (O := "BoardMachine$Halves$Reckoning") (name := "sums") (desc := "[I") (fin := true) (ty := (.array .int)) C (by decide +kernel) (Or.inr ⟨rfl, kw K hw q1190, hnm, rfl⟩) (fun _ h => h) (Nat.le_of_ble_eq_true rfl) (Nat.le_of_ble_eq_true rfl) (Nat.le_of_ble_eq_true rfl) rfl rfl (by decide) (fs_one (⟨rfl, ff_47_136 s0 H0 oa D⟩))) ?_
  refine fs_c1 (fs_putf (pc := 111) (n := 574812350) (idx := 13) (ref := "BoardMachine$Halves$Reckoning") (O := "BoardMachine$Halves$Reckoning") (name := "signed") (desc := "LBoardMachine$Halves$Layout;") (fin := true) (ty := (.object "BoardMachine$Halves$Layout")) C (by decide +kernel) (Or.inr ⟨rfl, kw K hw q1191, hnm, rfl⟩) (fun _ h => h) (Nat.le_of_ble_eq_true rfl) (Nat.le_of_ble_eq_true rfl) (Nat.le_of_ble_eq_true rfl) rfl rfl (by decide) (fs_one (⟨rfl, ff_47_137 s0 H0 oa D⟩))) ?_
  exact fs_c0
theorem hX42_init : fe_H (sX42_init FX36_init) cX42_init [0] fe_kv [] 20 (fun _ => dX42_init FX42_init_0) := by
  intro j pc L st M r hc h
  rcases fe_mem_c hc with rfl | hc
  · obtain ⟨w0, m0, h⟩ := fe_lR_d h
    obtain ⟨w1, m1, h⟩ := fe_lR_d h
    obtain ⟨rfl, hz⟩ := fe_t0_d h
    exact ⟨[(0, .ref w0), (1, .ref w1)], (fe_cs m0 (fe_cs m1 fe_nl)), Or.inr ((bX42_init_0 FX36_init FX42_init_0 w0 w1 M).symm.trans hz)⟩
  exact fe_mem_0 hc
theorem vX42_init : fe_SB (sX42_init FX36_init) := by
  refine ⟨?_, ?_, ?_, ?_⟩
  · intro i As M r h
    rcases fe_bc h with h | h
    · obtain ⟨v0, t0, rfl, g0⟩ := fe_tR_d h
      obtain ⟨v1, t1, rfl, g1⟩ := fe_tI_d g0
      obtain ⟨v2, t2, rfl, g2⟩ := fe_tI_d g1
      obtain ⟨v3, t3, rfl, g3⟩ := fe_tR_d g2
      obtain ⟨rfl, hz⟩ := fe_t0_d g3
      exact mX36_init v0 v1 v2 v3 M r hz
    exact fe_no h
  · intro i As M r h
    exact fe_no h
  · intro i As M r h
    exact fe_no h
  · intro i As M r h
    exact fe_no h
theorem eX42_init (g0 : Nat → Nat → FM → Option (FM)) (a0 : Nat) (a1 : Nat) (M : FM) : dX42_init g0 0 [(0, .ref a0), (1, .ref a1)] [] M = g0 a0 a1 M := by rfl
theorem mX42_init (a0 : Nat) (a1 : Nat) (M : FM) (r : FM) (h : FX42_init a0 a1 M = some r) : fm_nx M ≤ fm_nx r ∧ fm_ns M ≤ fm_ns r :=
  fe_mono (L0 := [(0, .ref a0), (1, .ref a1)]) (vX42_init) (by decide +kernel) (hX42_init) (fe_kv_k r) 0 rfl ((eX42_init FX42_init_0 a0 a1 M).trans h)
theorem zX42_init {s0 : State} {H0 : Heap} {oa : Nat → Nat} {D : va_G} (K : fk s0 H0 oa D) (l : Launch) (a0 : Nat) (a1 : Nat) (M : FM) (r : FM) (h : FX42_init a0 a1 M = some r) : fs_Con (fk_E s0 H0 oa D) l 2 ⟨"BoardMachine$Halves$Jump", "<init>", "(LBoardMachine$Halves$Layout;)V"⟩ prog_47_method_1_code 2 (Option.none : Option Jvm.ClassFile.FieldType) [.ref a0, .ref a1] M none r := by
  have o0 : fs_OS (sX42_init FX36_init) 0 0 (fs_Con (fk_E s0 H0 oa D) l 1 ⟨"BoardMachine$Halves$Line", "<init>", "(IILBoardMachine$Halves$Layout;)V"⟩ prog_49_method_1_code 4 (Option.none : Option Jvm.ClassFile.FieldType)) := by
    intro As M r h
    obtain ⟨v0, t0, rfl, g0⟩ := fe_tR_d h
    obtain ⟨v1, t1, rfl, g1⟩ := fe_tI_d g0
    obtain ⟨v2, t2, rfl, g2⟩ := fe_tI_d g1
    obtain ⟨v3, t3, rfl, g3⟩ := fe_tR_d g2
    obtain ⟨rfl, hz⟩ := fe_t0_d g3
    exact zX36_init K l v0 v1 v2 v3 M r hz
  refine fs_method (own := "BoardMachine$Halves$Jump") rfl (by decide) K.2.1 (by rw [fe_slen]; exact (Nat.le_of_ble_eq_true rfl)) (mX42_init a0 a1 M r h) (hX42_init) 0 rfl (L0 := [(0, .ref a0), (1, .ref a1)]) (fun E => fe_args_e E [.ref a0, .ref a1] 0) ((eX42_init FX42_init_0 a0 a1 M).trans h) (fe_kv_k r) (fun H hR => fs_nr_o (by decide) (by decide)) ?_
  intro p e s m args below meth c Q C hnm
  have hw : s0.WarmedH s.vm := C.2.2.2.2.1
  refine fe_all C fk_hwr cX42_init [4] (by decide +kernel) (fe_fil (cps := [(4, 7, .invokevirtual 16824366)]) (by decide +kernel) ?_)
  refine fs_c1 (fs_inv_virtual (pc := 4) (n := 16824366) C (Nat.le_of_ble_eq_true rfl) (Nat.le_of_ble_eq_true rfl) (fs_lk_init (idx := 1) (y := ⟨"BoardMachine$Halves$Line", "<init>", "(IILBoardMachine$Halves$Layout;)V"⟩) (bytes := prog_49_method_1_code) (maxL := 4) (d := 1) C (Nat.le_of_ble_eq_true rfl) (Nat.le_of_ble_eq_true rfl) (by decide +kernel) (kw K hw q1097) (kw K hw q347) (kw K hw q1096) (Or.inl (kw K hw q1205)) rfl ⟨by decide, by decide⟩ rfl (Nat.le_of_ble_eq_true rfl) (Nat.le_of_ble_eq_true rfl)) fs_con_mono o0) ?_
  exact fs_c0
theorem hX43_init : fe_H (sX43_init FX36_init) cX43_init [0] fe_kv [] 20 (fun _ => dX43_init FX43_init_0) := by
  intro j pc L st M r hc h
  rcases fe_mem_c hc with rfl | hc
  · obtain ⟨w0, m0, h⟩ := fe_lR_d h
    obtain ⟨w1, m1, h⟩ := fe_lI_d h
    obtain ⟨w2, m2, h⟩ := fe_lR_d h
    obtain ⟨rfl, hz⟩ := fe_t0_d h
    exact ⟨[(0, .ref w0), (1, .int w1), (2, .ref w2)], (fe_cs m0 (fe_cs m1 (fe_cs m2 fe_nl))), Or.inr ((bX43_init_0 FX36_init FX43_init_0 w0 w1 w2 M).symm.trans hz)⟩
  exact fe_mem_0 hc
theorem vX43_init : fe_SB (sX43_init FX36_init) := by
  refine ⟨?_, ?_, ?_, ?_⟩
  · intro i As M r h
    rcases fe_bc h with h | h
    · obtain ⟨v0, t0, rfl, g0⟩ := fe_tR_d h
      obtain ⟨v1, t1, rfl, g1⟩ := fe_tI_d g0
      obtain ⟨v2, t2, rfl, g2⟩ := fe_tI_d g1
      obtain ⟨v3, t3, rfl, g3⟩ := fe_tR_d g2
      obtain ⟨rfl, hz⟩ := fe_t0_d g3
      exact mX36_init v0 v1 v2 v3 M r hz
    exact fe_no h
  · intro i As M r h
    exact fe_no h
  · intro i As M r h
    exact fe_no h
  · intro i As M r h
    exact fe_no h
theorem eX43_init (g0 : Nat → Int32 → Nat → FM → Option (FM)) (a0 : Nat) (a1 : Int32) (a2 : Nat) (M : FM) : dX43_init g0 0 [(0, .ref a0), (1, .int a1), (2, .ref a2)] [] M = g0 a0 a1 a2 M := by rfl
theorem mX43_init (a0 : Nat) (a1 : Int32) (a2 : Nat) (M : FM) (r : FM) (h : FX43_init a0 a1 a2 M = some r) : fm_nx M ≤ fm_nx r ∧ fm_ns M ≤ fm_ns r :=
  fe_mono (L0 := [(0, .ref a0), (1, .int a1), (2, .ref a2)]) (vX43_init) (by decide +kernel) (hX43_init) (fe_kv_k r) 0 rfl ((eX43_init FX43_init_0 a0 a1 a2 M).trans h)
theorem zX43_init {s0 : State} {H0 : Heap} {oa : Nat → Nat} {D : va_G} (K : fk s0 H0 oa D) (l : Launch) (a0 : Nat) (a1 : Int32) (a2 : Nat) (M : FM) (r : FM) (h : FX43_init a0 a1 a2 M = some r) : fs_Con (fk_E s0 H0 oa D) l 2 ⟨"BoardMachine$Halves$Branch", "<init>", "(ILBoardMachine$Halves$Layout;)V"⟩ prog_45_method_1_code 3 (Option.none : Option Jvm.ClassFile.FieldType) [.ref a0, .int a1, .ref a2] M none r := by
  have o0 : fs_OS (sX43_init FX36_init) 0 0 (fs_Con (fk_E s0 H0 oa D) l 1 ⟨"BoardMachine$Halves$Line", "<init>", "(IILBoardMachine$Halves$Layout;)V"⟩ prog_49_method_1_code 4 (Option.none : Option Jvm.ClassFile.FieldType)) := by
    intro As M r h
    obtain ⟨v0, t0, rfl, g0⟩ := fe_tR_d h
    obtain ⟨v1, t1, rfl, g1⟩ := fe_tI_d g0
    obtain ⟨v2, t2, rfl, g2⟩ := fe_tI_d g1
    obtain ⟨v3, t3, rfl, g3⟩ := fe_tR_d g2
    obtain ⟨rfl, hz⟩ := fe_t0_d g3
    exact zX36_init K l v0 v1 v2 v3 M r hz
  refine fs_method (own := "BoardMachine$Halves$Branch") rfl (by decide) K.2.1 (by rw [fe_slen]; exact (Nat.le_of_ble_eq_true rfl)) (mX43_init a0 a1 a2 M r h) (hX43_init) 0 rfl (L0 := [(0, .ref a0), (1, .int a1), (2, .ref a2)]) (fun E => fe_args_e E [.ref a0, .int a1, .ref a2] 0) ((eX43_init FX43_init_0 a0 a1 a2 M).trans h) (fe_kv_k r) (fun H hR => fs_nr_o (by decide) (by decide)) ?_
  intro p e s m args below meth c Q C hnm
  have hw : s0.WarmedH s.vm := C.2.2.2.2.1
  refine fe_all C fk_hwr cX43_init [4] (by decide +kernel) (fe_fil (cps := [(4, 7, .invokevirtual 16822316)]) (by decide +kernel) ?_)
  refine fs_c1 (fs_inv_virtual (pc := 4) (n := 16822316) C (Nat.le_of_ble_eq_true rfl) (Nat.le_of_ble_eq_true rfl) (fs_lk_init (idx := 1) (y := ⟨"BoardMachine$Halves$Line", "<init>", "(IILBoardMachine$Halves$Layout;)V"⟩) (bytes := prog_49_method_1_code) (maxL := 4) (d := 1) C (Nat.le_of_ble_eq_true rfl) (Nat.le_of_ble_eq_true rfl) (by decide +kernel) (kw K hw q1097) (kw K hw q347) (kw K hw q1096) (Or.inl (kw K hw q1215)) rfl ⟨by decide, by decide⟩ rfl (Nat.le_of_ble_eq_true rfl) (Nat.le_of_ble_eq_true rfl)) fs_con_mono o0) ?_
  exact fs_c0
theorem hX44_init : fe_H (sX44_init FX36_init) cX44_init [0] fe_kv [] 20 (fun _ => dX44_init FX44_init_0) := by
  intro j pc L st M r hc h
  rcases fe_mem_c hc with rfl | hc
  · obtain ⟨w0, m0, h⟩ := fe_lR_d h
    obtain ⟨w1, m1, h⟩ := fe_lI_d h
    obtain ⟨w2, m2, h⟩ := fe_lR_d h
    obtain ⟨w3, m3, h⟩ := fe_lI_d h
    obtain ⟨w4, m4, h⟩ := fe_lI_d h
    obtain ⟨w5, m5, h⟩ := fe_lI_d h
    obtain ⟨rfl, hz⟩ := fe_t0_d h
    exact ⟨[(0, .ref w0), (1, .int w1), (2, .ref w2), (3, .int w3), (4, .int w4), (5, .int w5)], (fe_cs m0 (fe_cs m1 (fe_cs m2 (fe_cs m3 (fe_cs m4 (fe_cs m5 fe_nl)))))), Or.inr ((bX44_init_0 FX36_init FX44_init_0 w0 w1 w2 w3 w4 w5 M).symm.trans hz)⟩
  exact fe_mem_0 hc
theorem vX44_init : fe_SB (sX44_init FX36_init) := by
  refine ⟨?_, ?_, ?_, ?_⟩
  · intro i As M r h
    rcases fe_bc h with h | h
    · obtain ⟨v0, t0, rfl, g0⟩ := fe_tR_d h
      obtain ⟨v1, t1, rfl, g1⟩ := fe_tI_d g0
      obtain ⟨v2, t2, rfl, g2⟩ := fe_tI_d g1
      obtain ⟨v3, t3, rfl, g3⟩ := fe_tR_d g2
      obtain ⟨rfl, hz⟩ := fe_t0_d g3
      exact mX36_init v0 v1 v2 v3 M r hz
    exact fe_no h
  · intro i As M r h
    exact fe_no h
  · intro i As M r h
    exact fe_no h
  · intro i As M r h
    exact fe_no h
theorem eX44_init (g0 : Nat → Int32 → Nat → Int32 → Int32 → Int32 → FM → Option (FM)) (a0 : Nat) (a1 : Int32) (a2 : Nat) (a3 : Int32) (a4 : Int32) (a5 : Int32) (M : FM) : dX44_init g0 0 [(0, .ref a0), (1, .int a1), (2, .ref a2), (3, .int a3), (4, .int a4), (5, .int a5)] [] M = g0 a0 a1 a2 a3 a4 a5 M := by rfl
theorem mX44_init (a0 : Nat) (a1 : Int32) (a2 : Nat) (a3 : Int32) (a4 : Int32) (a5 : Int32) (M : FM) (r : FM) (h : FX44_init a0 a1 a2 a3 a4 a5 M = some r) : fm_nx M ≤ fm_nx r ∧ fm_ns M ≤ fm_ns r :=
  fe_mono (L0 := [(0, .ref a0), (1, .int a1), (2, .ref a2), (3, .int a3), (4, .int a4), (5, .int a5)]) (vX44_init) (by decide +kernel) (hX44_init) (fe_kv_k r) 0 rfl ((eX44_init FX44_init_0 a0 a1 a2 a3 a4 a5 M).trans h)
theorem zX44_init {s0 : State} {H0 : Heap} {oa : Nat → Nat} {D : va_G} (K : fk s0 H0 oa D) (l : Launch) (a0 : Nat) (a1 : Int32) (a2 : Nat) (a3 : Int32) (a4 : Int32) (a5 : Int32) (M : FM) (r : FM) (h : FX44_init a0 a1 a2 a3 a4 a5 M = some r) : fs_Con (fk_E s0 H0 oa D) l 2 ⟨"BoardMachine$Halves$StackAccess", "<init>", "(ILBoardMachine$Halves$Layout;IIZ)V"⟩ prog_52_method_1_code 6 (Option.none : Option Jvm.ClassFile.FieldType) [.ref a0, .int a1, .ref a2, .int a3, .int a4, .int a5] M none r := by
  have o0 : fs_OS (sX44_init FX36_init) 0 0 (fs_Con (fk_E s0 H0 oa D) l 1 ⟨"BoardMachine$Halves$Line", "<init>", "(IILBoardMachine$Halves$Layout;)V"⟩ prog_49_method_1_code 4 (Option.none : Option Jvm.ClassFile.FieldType)) := by
    intro As M r h
    obtain ⟨v0, t0, rfl, g0⟩ := fe_tR_d h
    obtain ⟨v1, t1, rfl, g1⟩ := fe_tI_d g0
    obtain ⟨v2, t2, rfl, g2⟩ := fe_tI_d g1
    obtain ⟨v3, t3, rfl, g3⟩ := fe_tR_d g2
    obtain ⟨rfl, hz⟩ := fe_t0_d g3
    exact zX36_init K l v0 v1 v2 v3 M r hz
  refine fs_method (own := "BoardMachine$Halves$StackAccess") rfl (by decide) K.2.1 (by rw [fe_slen]; exact (Nat.le_of_ble_eq_true rfl)) (mX44_init a0 a1 a2 a3 a4 a5 M r h) (hX44_init) 0 rfl (L0 := [(0, .ref a0), (1, .int a1), (2, .ref a2), (3, .int a3), (4, .int a4), (5, .int a5)]) (fun E => fe_args_e E [.ref a0, .int a1, .ref a2, .int a3, .int a4, .int a5] 0) ((eX44_init FX44_init_0 a0 a1 a2 a3 a4 a5 M).trans h) (fe_kv_k r) (fun H hR => fs_nr_o (by decide) (by decide)) ?_
  intro p e s m args below meth c Q C hnm
  have hw : s0.WarmedH s.vm := C.2.2.2.2.1
  refine fe_all C fk_hwr cX44_init [4, 9, 15, 21] (by decide +kernel) (fe_fil (cps := [(4, 7, .invokevirtual 16826416), (9, 12, .putfield 579010752), (15, 18, .putfield 583205056), (21, 24, .putfield 587399363)]) (by decide +kernel) ?_)
  refine fs_c1 (fs_inv_virtual (pc := 4) (n := 16826416) C (Nat.le_of_ble_eq_true rfl) (Nat.le_of_ble_eq_true rfl) (fs_lk_init (idx := 1) (y := ⟨"BoardMachine$Halves$Line", "<init>", "(IILBoardMachine$Halves$Layout;)V"⟩) (bytes := prog_49_method_1_code) (maxL := 4) (d := 1) C (Nat.le_of_ble_eq_true rfl) (Nat.le_of_ble_eq_true rfl) (by decide +kernel) (kw K hw q1097) (kw K hw q347) (kw K hw q1096) (Or.inl (kw K hw q1225)) rfl ⟨by decide, by decide⟩ rfl (Nat.le_of_ble_eq_true rfl) (Nat.le_of_ble_eq_true rfl)) fs_con_mono o0) ?_
  refine fs_c1 (fs_putf (pc := 9) (n := 579010752) (idx := 7) (ref := "BoardMachine$Halves$StackAccess") (O := "BoardMachine$Halves$StackAccess") (name := "code") (desc := "I") (fin := true) (ty := .int) C (by decide +kernel) (Or.inr ⟨rfl, kw K hw q1226, hnm, rfl⟩) (fun _ h => h) (Nat.le_of_ble_eq_true rfl) (Nat.le_of_ble_eq_true rfl) (Nat.le_of_ble_eq_true rfl) rfl rfl (by decide) (fs_one (⟨rfl, ff_48_138 s0 H0 oa D⟩))) ?_
  refine fs_c1 (fs_putf (pc := 15) (n := 583205056) (idx := 13) (ref := "BoardMachine$Halves$StackAccess") (O := "BoardMachine$Halves$StackAccess") (name := "f") (desc := "I") (fin := true) (ty := .int) C (by decide +kernel) (Or.inr ⟨rfl, kw K hw q1227, hnm, rfl⟩) (fun _ h => h) (Nat.le_of_ble_eq_true rfl) (Nat.le_of_ble_eq_true rfl) (Nat.le_of_ble_eq_true rfl) rfl rfl (by decide) (fs_one (⟨rfl, ff_48_139 s0 H0 oa D⟩))) ?_
  refine fs_c1 (fs_putf (pc := 21) (n := 587399363) (idx := 16) (ref := "BoardMachine$Halves$StackAccess") (O := "BoardMachine$Halves$StackAccess") (name := "stores") (desc := "Z") (fin := true) (ty := .boolean) C (by decide +kernel) (Or.inr ⟨rfl, kw K hw q1228, hnm, rfl⟩) (fun _ h => h) (Nat.le_of_ble_eq_true rfl) (Nat.le_of_ble_eq_true rfl) (Nat.le_of_ble_eq_true rfl) rfl rfl (by decide) (fs_one (⟨rfl, ff_48_140 s0 H0 oa D⟩))) ?_
  exact fs_c0
theorem hX45_init : fe_H (sX45_init FX36_init) cX45_init [0] fe_kv [] 20 (fun _ => dX45_init FX45_init_0) := by
  intro j pc L st M r hc h
  rcases fe_mem_c hc with rfl | hc
  · obtain ⟨w0, m0, h⟩ := fe_lR_d h
    obtain ⟨rfl, hz⟩ := fe_t0_d h
    exact ⟨[(0, .ref w0)], (fe_cs m0 fe_nl), Or.inr ((bX45_init_0 FX36_init FX45_init_0 w0 M).symm.trans hz)⟩
  exact fe_mem_0 hc
theorem vX45_init : fe_SB (sX45_init FX36_init) := by
  refine ⟨?_, ?_, ?_, ?_⟩
  · intro i As M r h
    rcases fe_bc h with h | h
    · obtain ⟨v0, t0, rfl, g0⟩ := fe_tR_d h
      obtain ⟨v1, t1, rfl, g1⟩ := fe_tI_d g0
      obtain ⟨v2, t2, rfl, g2⟩ := fe_tI_d g1
      obtain ⟨v3, t3, rfl, g3⟩ := fe_tR_d g2
      obtain ⟨rfl, hz⟩ := fe_t0_d g3
      exact mX36_init v0 v1 v2 v3 M r hz
    exact fe_no h
  · intro i As M r h
    exact fe_no h
  · intro i As M r h
    exact fe_no h
  · intro i As M r h
    exact fe_no h
theorem eX45_init (g0 : Nat → FM → Option (FM)) (a0 : Nat) (M : FM) : dX45_init g0 0 [(0, .ref a0)] [] M = g0 a0 M := by rfl
theorem mX45_init (a0 : Nat) (M : FM) (r : FM) (h : FX45_init a0 M = some r) : fm_nx M ≤ fm_nx r ∧ fm_ns M ≤ fm_ns r :=
  fe_mono (L0 := [(0, .ref a0)]) (vX45_init) (by decide +kernel) (hX45_init) (fe_kv_k r) 0 rfl ((eX45_init FX45_init_0 a0 M).trans h)
theorem zX45_init {s0 : State} {H0 : Heap} {oa : Nat → Nat} {D : va_G} (K : fk s0 H0 oa D) (l : Launch) (a0 : Nat) (M : FM) (r : FM) (h : FX45_init a0 M = some r) : fs_Con (fk_E s0 H0 oa D) l 2 ⟨"BoardMachine$Halves$Whole", "<init>", "()V"⟩ prog_55_method_1_code 1 (Option.none : Option Jvm.ClassFile.FieldType) [.ref a0] M none r := by
  have o0 : fs_OS (sX45_init FX36_init) 0 0 (fs_Con (fk_E s0 H0 oa D) l 1 ⟨"BoardMachine$Halves$Line", "<init>", "(IILBoardMachine$Halves$Layout;)V"⟩ prog_49_method_1_code 4 (Option.none : Option Jvm.ClassFile.FieldType)) := by
    intro As M r h
    obtain ⟨v0, t0, rfl, g0⟩ := fe_tR_d h
    obtain ⟨v1, t1, rfl, g1⟩ := fe_tI_d g0
    obtain ⟨v2, t2, rfl, g2⟩ := fe_tI_d g1
    obtain ⟨v3, t3, rfl, g3⟩ := fe_tR_d g2
    obtain ⟨rfl, hz⟩ := fe_t0_d g3
    exact zX36_init K l v0 v1 v2 v3 M r hz
  refine fs_method (own := "BoardMachine$Halves$Whole") rfl (by decide) K.2.1 (by rw [fe_slen]; exact (Nat.le_of_ble_eq_true rfl)) (mX45_init a0 M r h) (hX45_init) 0 rfl (L0 := [(0, .ref a0)]) (fun E => fe_args_e E [.ref a0] 0) ((eX45_init FX45_init_0 a0 M).trans h) (fe_kv_k r) (fun H hR => fs_nr_o (by decide) (by decide)) ?_
  intro p e s m args below meth c Q C hnm
  have hw : s0.WarmedH s.vm := C.2.2.2.2.1
  refine fe_all C fk_hwr cX45_init [4] (by decide +kernel) (fe_fil (cps := [(4, 7, .invokevirtual 16829491)]) (by decide +kernel) ?_)
  refine fs_c1 (fs_inv_virtual (pc := 4) (n := 16829491) C (Nat.le_of_ble_eq_true rfl) (Nat.le_of_ble_eq_true rfl) (fs_lk_init (idx := 3) (y := ⟨"BoardMachine$Halves$Line", "<init>", "(IILBoardMachine$Halves$Layout;)V"⟩) (bytes := prog_49_method_1_code) (maxL := 4) (d := 1) C (Nat.le_of_ble_eq_true rfl) (Nat.le_of_ble_eq_true rfl) (by decide +kernel) (kw K hw q1097) (kw K hw q347) (kw K hw q1096) (Or.inl (kw K hw q1244)) rfl ⟨by decide, by decide⟩ rfl (Nat.le_of_ble_eq_true rfl) (Nat.le_of_ble_eq_true rfl)) fs_con_mono o0) ?_
  exact fs_c0
