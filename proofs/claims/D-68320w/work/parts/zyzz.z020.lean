/-! contracts of methods, printed by gen/snd.py -/
set_option maxRecDepth 100000
set_option maxHeartbeats 4000000
theorem hX2_init (n : Nat) : fe_H (sX2_init FX3_init (FX4_init n) (FX10_init n) FX34_init FX90_init (FX46_init n) (FX2_start n)) cX2_init [0, 66] fe_kv [66] 68 (fun j => dX2_init (FX2_init_0 n (FX2_init_L66 n j)) (FX2_init_L66 n j)) := by
  intro j pc L st M r hc h
  rcases fe_mem_c hc with rfl | hc
  · obtain ⟨w0, m0, h⟩ := fe_lR_d h
    obtain ⟨w1, m1, h⟩ := fe_lI_d h
    obtain ⟨rfl, hz⟩ := fe_t0_d h
    exact ⟨[(0, .ref w0), (1, .int w1)], (fe_cs m0 (fe_cs m1 fe_nl)), Or.inr ((bX2_init_0 FX3_init (FX4_init n) (FX10_init n) FX34_init FX90_init (FX46_init n) (FX2_start n) (FX2_init_0 n (FX2_init_L66 n j)) (FX2_init_L66 n j) w0 w1 M).symm.trans hz)⟩
  rcases fe_mem_c hc with rfl | hc
  · obtain ⟨w0, m0, h⟩ := fe_lR_d h
    obtain ⟨w1, m1, h⟩ := fe_lI_d h
    obtain ⟨w2, m2, h⟩ := fe_lR_d h
    obtain ⟨w3, m3, h⟩ := fe_lI_d h
    obtain ⟨rfl, hz⟩ := fe_t0_d h
    cases j with
    | zero => exact fe_no hz
    | succ j => exact ⟨[(0, .ref w0), (1, .int w1), (2, .ref w2), (3, .int w3)], (fe_cs m0 (fe_cs m1 (fe_cs m2 (fe_cs m3 fe_nl)))), Or.inl ⟨j, rfl, (bX2_init_66 FX3_init (FX4_init n) (FX10_init n) FX34_init FX90_init (FX46_init n) (FX2_start n) (FX2_init_0 n (FX2_init_L66 n j)) (FX2_init_L66 n j) w0 w1 w2 w3 M).symm.trans hz⟩⟩
  exact fe_mem_0 hc
theorem vX2_init (n : Nat) : fe_SB (sX2_init FX3_init (FX4_init n) (FX10_init n) FX34_init FX90_init (FX46_init n) (FX2_start n)) := by
  refine ⟨?_, ?_, ?_, ?_⟩
  · intro i As M r h
    rcases fe_bc h with h | h
    · obtain ⟨v0, t0, rfl, g0⟩ := fe_tR_d h
      obtain ⟨v1, t1, rfl, g1⟩ := fe_tI_d g0
      obtain ⟨rfl, hz⟩ := fe_t0_d g1
      exact mX3_init v0 v1 M r hz
    rcases fe_bc h with h | h
    · obtain ⟨v0, t0, rfl, g0⟩ := fe_tR_d h
      obtain ⟨rfl, hz⟩ := fe_t0_d g0
      exact mX4_init n v0 M r hz
    rcases fe_bc h with h | h
    · obtain ⟨v0, t0, rfl, g0⟩ := fe_tR_d h
      obtain ⟨v1, t1, rfl, g1⟩ := fe_tI_d g0
      obtain ⟨rfl, hz⟩ := fe_t0_d g1
      exact mX10_init n v0 v1 M r hz
    rcases fe_bc h with h | h
    · obtain ⟨v0, t0, rfl, g0⟩ := fe_tR_d h
      obtain ⟨rfl, hz⟩ := fe_t0_d g0
      exact mX34_init v0 M r hz
    rcases fe_bc h with h | h
    · obtain ⟨v0, t0, rfl, g0⟩ := fe_tR_d h
      obtain ⟨v1, t1, rfl, g1⟩ := fe_tR_d g0
      obtain ⟨v2, t2, rfl, g2⟩ := fe_tR_d g1
      obtain ⟨rfl, hz⟩ := fe_t0_d g2
      exact mX90_init v0 v1 v2 M r hz
    rcases fe_bc h with h | h
    · obtain ⟨v0, t0, rfl, g0⟩ := fe_tR_d h
      obtain ⟨v1, t1, rfl, g1⟩ := fe_tI_d g0
      obtain ⟨v2, t2, rfl, g2⟩ := fe_tR_d g1
      obtain ⟨v3, t3, rfl, g3⟩ := fe_tR_d g2
      obtain ⟨rfl, hz⟩ := fe_t0_d g3
      exact mX46_init n v0 v1 v2 v3 M r hz
    exact fe_no h
  · intro i As M r h
    rcases fe_bc h with h | h
    · obtain ⟨v0, t0, rfl, g0⟩ := fe_tR_d h
      obtain ⟨rfl, hz⟩ := fe_t0_d g0
      exact mX2_start n v0 M r hz
    exact fe_no h
  · intro i As M r h
    exact fe_no h
  · intro i As M r h
    exact fe_no h
theorem eX2_init (g0 : Nat → Int32 → FM → Option (FM)) (k66 : Nat → Int32 → Nat → Int32 → FM → Option (FM)) (a0 : Nat) (a1 : Int32) (M : FM) : dX2_init g0 k66 0 [(0, .ref a0), (1, .int a1)] [] M = g0 a0 a1 M := by rfl
theorem mX2_init (n : Nat) (a0 : Nat) (a1 : Int32) (M : FM) (r : FM) (h : FX2_init n a0 a1 M = some r) : fm_nx M ≤ fm_nx r ∧ fm_ns M ≤ fm_ns r :=
  fe_mono (L0 := [(0, .ref a0), (1, .int a1)]) (vX2_init n) (by decide +kernel) (hX2_init n) (fe_kv_k r) n rfl ((eX2_init (FX2_init_0 n (FX2_init_L66 n n)) (FX2_init_L66 n n) a0 a1 M).trans h)
theorem zX2_init {s0 : State} {H0 : Heap} {oa : Nat → Nat} {D : va_G} (K : fk s0 H0 oa D) (l : Launch) (n : Nat) (a0 : Nat) (a1 : Int32) (M : FM) (r : FM) (h : FX2_init n a0 a1 M = some r) : fs_Con (fk_E s0 H0 oa D) l 12 ⟨"BoardMachine$Machine", "<init>", "(I)V"⟩ prog_76_method_1_code 4 (Option.none : Option Jvm.ClassFile.FieldType) [.ref a0, .int a1] M none r := by
  have o0 : fs_OS (sX2_init FX3_init (FX4_init n) (FX10_init n) FX34_init FX90_init (FX46_init n) (FX2_start n)) 0 0 (fs_Con (fk_E s0 H0 oa D) l 1 ⟨"BoardMachine$Trees$Row", "<init>", "(I)V"⟩ prog_100_method_1_code 2 (Option.none : Option Jvm.ClassFile.FieldType)) := by
    intro As M r h
    obtain ⟨v0, t0, rfl, g0⟩ := fe_tR_d h
    obtain ⟨v1, t1, rfl, g1⟩ := fe_tI_d g0
    obtain ⟨rfl, hz⟩ := fe_t0_d g1
    exact zX3_init K l v0 v1 M r hz
  have o1 : fs_OS (sX2_init FX3_init (FX4_init n) (FX10_init n) FX34_init FX90_init (FX46_init n) (FX2_start n)) 1 0 (fs_Con (fk_E s0 H0 oa D) l 4 ⟨"BoardMachine$Describer", "<init>", "()V"⟩ prog_14_method_1_code 1 (Option.none : Option Jvm.ClassFile.FieldType)) := by
    intro As M r h
    obtain ⟨v0, t0, rfl, g0⟩ := fe_tR_d h
    obtain ⟨rfl, hz⟩ := fe_t0_d g0
    exact zX4_init K l n v0 M r hz
  have o2 : fs_OS (sX2_init FX3_init (FX4_init n) (FX10_init n) FX34_init FX90_init (FX46_init n) (FX2_start n)) 2 0 (fs_Con (fk_E s0 H0 oa D) l 4 ⟨"BoardMachine$Board", "<init>", "(I)V"⟩ prog_2_method_1_code 2 (Option.none : Option Jvm.ClassFile.FieldType)) := by
    intro As M r h
    obtain ⟨v0, t0, rfl, g0⟩ := fe_tR_d h
    obtain ⟨v1, t1, rfl, g1⟩ := fe_tI_d g0
    obtain ⟨rfl, hz⟩ := fe_t0_d g1
    exact zX10_init K l n v0 v1 M r hz
  have o3 : fs_OS (sX2_init FX3_init (FX4_init n) (FX10_init n) FX34_init FX90_init (FX46_init n) (FX2_start n)) 3 0 (fs_Con (fk_E s0 H0 oa D) l 3 ⟨"BoardMachine$Halves$ShortUnit", "<init>", "()V"⟩ prog_51_method_1_code 13 (Option.none : Option Jvm.ClassFile.FieldType)) := by
    intro As M r h
    obtain ⟨v0, t0, rfl, g0⟩ := fe_tR_d h
    obtain ⟨rfl, hz⟩ := fe_t0_d g0
    exact zX34_init K l v0 M r hz
  have o4 : fs_OS (sX2_init FX3_init (FX4_init n) (FX10_init n) FX34_init FX90_init (FX46_init n) (FX2_start n)) 4 0 (fs_Con (fk_E s0 H0 oa D) l 1 ⟨"BoardMachine$Loader", "<init>", "(LBoardMachine$Trees$Row;LBoardMachine$Memories$Ram;)V"⟩ prog_75_method_1_code 3 (Option.none : Option Jvm.ClassFile.FieldType)) := by
    intro As M r h
    obtain ⟨v0, t0, rfl, g0⟩ := fe_tR_d h
    obtain ⟨v1, t1, rfl, g1⟩ := fe_tR_d g0
    obtain ⟨v2, t2, rfl, g2⟩ := fe_tR_d g1
    obtain ⟨rfl, hz⟩ := fe_t0_d g2
    exact zX90_init K l v0 v1 v2 M r hz
  have o5 : fs_OS (sX2_init FX3_init (FX4_init n) (FX10_init n) FX34_init FX90_init (FX46_init n) (FX2_start n)) 5 0 (fs_Con (fk_E s0 H0 oa D) l 5 ⟨"BoardMachine$Processor", "<init>", "(ILBoardMachine$Board;LBoardMachine$Halves$ShortUnit;)V"⟩ prog_86_method_1_code 5 (Option.none : Option Jvm.ClassFile.FieldType)) := by
    intro As M r h
    obtain ⟨v0, t0, rfl, g0⟩ := fe_tR_d h
    obtain ⟨v1, t1, rfl, g1⟩ := fe_tI_d g0
    obtain ⟨v2, t2, rfl, g2⟩ := fe_tR_d g1
    obtain ⟨v3, t3, rfl, g3⟩ := fe_tR_d g2
    obtain ⟨rfl, hz⟩ := fe_t0_d g3
    exact zX46_init K l n v0 v1 v2 v3 M r hz
  have o6 : fs_OS (sX2_init FX3_init (FX4_init n) (FX10_init n) FX34_init FX90_init (FX46_init n) (FX2_start n)) 6 1 (fs_Con (fk_E s0 H0 oa D) l 11 ⟨"BoardMachine$Machine", "start", "()I"⟩ prog_76_method_2_code 6 (Option.some Jvm.ClassFile.FieldType.int)) := by
    intro As M r h
    obtain ⟨v0, t0, rfl, g0⟩ := fe_tR_d h
    obtain ⟨rfl, hz⟩ := fe_t0_d g0
    exact zX2_start K l n v0 M r hz
  refine fs_method (own := "BoardMachine$Machine") rfl (by decide) K.2.1 (by rw [fe_slen]; exact (Nat.le_of_ble_eq_true rfl)) (mX2_init n a0 a1 M r h) (hX2_init n) n rfl (L0 := [(0, .ref a0), (1, .int a1)]) (fun E => fe_args_e E [.ref a0, .int a1] 0) ((eX2_init (FX2_init_0 n (FX2_init_L66 n n)) (FX2_init_L66 n n) a0 a1 M).trans h) (fe_kv_k r) (fun H hR => fs_nr_o (by decide) (by decide)) ?_
  intro p e s m args below meth c Q C hnm
  have hw : s0.WarmedH s.vm := C.2.2.2.2.1
  refine fe_all C fk_hwr cX2_init [1, 5, 9, 11, 14, 18, 22, 25, 29, 31, 33, 37, 42, 45, 50, 53, 56, 60, 72, 76, 82, 86, 89, 97, 102, 106, 109, 112, 115, 119] (by decide +kernel) (fe_fil (cps := [(1, 4, .monitorenter), (5, 8, .new 5506), (9, 11, .iconst (65536)), (11, 14, .invokevirtual 8476758), (14, 17, .putfield 801386766), (18, 21, .new 1347), (22, 25, .invokevirtual 71324693), (25, 28, .putfield 809775374), (29, 31, .iconst (65536)), (31, 33, .anewarray 199559), (33, 36, .putfield 813969678), (37, 40, .new 710), (42, 45, .invokevirtual 142617611), (45, 48, .putfield 792998158), (50, 53, .anewarray 195482), (53, 56, .putfield 797192462), (56, 59, .new 3333), (60, 63, .invokevirtual 205574196), (72, 75, .getfield 797192462), (76, 79, .new 4813), (82, 85, .getfield 792998158), (86, 89, .invokevirtual 352398411), (89, 90, .instanceof 966863947), (97, 100, .new 4227), (102, 105, .getfield 801386766), (106, 109, .getfield 792998158), (109, 112, .getfield 75542574), (112, 115, .invokevirtual 281086018), (115, 118, .putfield 805581070), (119, 122, .invokevirtual 407964739)]) (by decide +kernel) ?_)
  refine fs_c1 (fs_init (pc := 1) (idx := 3) C (by decide +kernel) (kw K hw q448) (kw K hw q441) (kw K hw q442) ⟨(Nat.le_of_ble_eq_true rfl), (Nat.le_of_ble_eq_true rfl)⟩) ?_
  refine fs_c1 (fs_newo (pc := 5) (n := 5506) (idx := 9) (CC := "BoardMachine$Trees$Row") (T := fT_86) (N := 2) C (by decide +kernel) (kw K hw q449) (kw K hw q450) (kw K hw q313) (by decide) (Nat.le_of_ble_eq_true rfl) rfl rfl) ?_
  refine fs_c1 (fs_ldci (pc := 9) (idx := 11) (v := 65536) C (by decide +kernel) (kw K hw q451)) ?_
  refine fs_c1 (fs_inv_virtual (pc := 11) (n := 8476758) C (Nat.le_of_ble_eq_true rfl) (Nat.le_of_ble_eq_true rfl) (fs_lk_init (idx := 12) (y := ⟨"BoardMachine$Trees$Row", "<init>", "(I)V"⟩) (bytes := prog_100_method_1_code) (maxL := 2) (d := 1) C (Nat.le_of_ble_eq_true rfl) (Nat.le_of_ble_eq_true rfl) (by decide +kernel) (kw K hw q454) (kw K hw q313) (kw K hw q453) (Or.inl (kw K hw q452)) rfl ⟨by decide, by decide⟩ rfl (Nat.le_of_ble_eq_true rfl) (Nat.le_of_ble_eq_true rfl)) fs_con_mono o0) ?_
  refine fs_c1 (fs_putf (pc := 14) (n := 801386766) (idx := 15) (ref := "BoardMachine$Machine") (O := "BoardMachine$Machine") (name := "tape") (desc := "LBoardMachine$Trees$Row;") (fin := true) (ty := (.object "BoardMachine$Trees$Row")) C (by decide +kernel) (Or.inr ⟨rfl, kw K hw q2506, hnm, rfl⟩) (fun _ h => h) (Nat.le_of_ble_eq_true rfl) (Nat.le_of_ble_eq_true rfl) (Nat.le_of_ble_eq_true rfl) rfl rfl (by decide) (fs_one (⟨rfl, ff_67_191 s0 H0 oa D⟩))) ?_
  refine fs_c1 (fs_newo (pc := 18) (n := 1347) (idx := 21) (CC := "BoardMachine$Describer") (T := fT_21) (N := 3) C (by decide +kernel) (kw K hw q472) (kw K hw q473) (kw K hw q314) (by decide) (Nat.le_of_ble_eq_true rfl) rfl rfl) ?_
  refine fs_c1 (fs_inv_virtual (pc := 22) (n := 71324693) C (Nat.le_of_ble_eq_true rfl) (Nat.le_of_ble_eq_true rfl) (fs_lk_init (idx := 23) (y := ⟨"BoardMachine$Describer", "<init>", "()V"⟩) (bytes := prog_14_method_1_code) (maxL := 1) (d := 4) C (Nat.le_of_ble_eq_true rfl) (Nat.le_of_ble_eq_true rfl) (by decide +kernel) (kw K hw q476) (kw K hw q314) (kw K hw q475) (Or.inr ⟨_, kM K hw q474⟩) rfl ⟨by decide, by decide⟩ rfl (Nat.le_of_ble_eq_true rfl) (Nat.le_of_ble_eq_true rfl)) fs_con_mono o1) ?_
  refine fs_c1 (fs_putf (pc := 25) (n := 809775374) (idx := 24) (ref := "BoardMachine$Machine") (O := "BoardMachine$Machine") (name := "describer") (desc := "LBoardMachine$Describer;") (fin := true) (ty := (.object "BoardMachine$Describer")) C (by decide +kernel) (Or.inr ⟨rfl, kw K hw q2509, hnm, rfl⟩) (fun _ h => h) (Nat.le_of_ble_eq_true rfl) (Nat.le_of_ble_eq_true rfl) (Nat.le_of_ble_eq_true rfl) rfl rfl (by decide) (fs_one (⟨rfl, ff_67_193 s0 H0 oa D⟩))) ?_
  refine fs_c1 (fs_ldci (pc := 29) (idx := 11) (v := 65536) C (by decide +kernel) (kw K hw q451)) ?_
  refine fs_c1 (fs_newB (pc := 31) (n := 199559) C (by decide +kernel) (kw K hw q471) rfl rfl) ?_
  refine fs_c1 (fs_putf (pc := 33) (n := 813969678) (idx := 28) (ref := "BoardMachine$Machine") (O := "BoardMachine$Machine") (name := "input") (desc := "[B") (fin := true) (ty := (.array .byte)) C (by decide +kernel) (Or.inr ⟨rfl, kw K hw q2510, hnm, rfl⟩) (fun _ h => h) (Nat.le_of_ble_eq_true rfl) (Nat.le_of_ble_eq_true rfl) (Nat.le_of_ble_eq_true rfl) rfl rfl (by decide) (fs_one (⟨rfl, ff_67_194 s0 H0 oa D⟩))) ?_
  refine fs_c1 (fs_newo (pc := 37) (n := 710) (idx := 32) (CC := "BoardMachine$Board") (T := fT_11) (N := 6) C (by decide +kernel) (kw K hw q618) (kw K hw q619) (kw K hw q320) (by decide) (Nat.le_of_ble_eq_true rfl) rfl rfl) ?_
  refine fs_c1 (fs_inv_virtual (pc := 42) (n := 142617611) C (Nat.le_of_ble_eq_true rfl) (Nat.le_of_ble_eq_true rfl) (fs_lk_init (idx := 34) (y := ⟨"BoardMachine$Board", "<init>", "(I)V"⟩) (bytes := prog_2_method_1_code) (maxL := 2) (d := 4) C (Nat.le_of_ble_eq_true rfl) (Nat.le_of_ble_eq_true rfl) (by decide +kernel) (kw K hw q622) (kw K hw q320) (kw K hw q621) (Or.inl (kw K hw q620)) rfl ⟨by decide, by decide⟩ rfl (Nat.le_of_ble_eq_true rfl) (Nat.le_of_ble_eq_true rfl)) fs_con_mono o2) ?_
  refine fs_c1 (fs_putf (pc := 45) (n := 792998158) (idx := 35) (ref := "BoardMachine$Machine") (O := "BoardMachine$Machine") (name := "board") (desc := "LBoardMachine$Board;") (fin := true) (ty := (.object "BoardMachine$Board")) C (by decide +kernel) (Or.inr ⟨rfl, kw K hw q2502, hnm, rfl⟩) (fun _ h => h) (Nat.le_of_ble_eq_true rfl) (Nat.le_of_ble_eq_true rfl) (Nat.le_of_ble_eq_true rfl) rfl rfl (by decide) (fs_one (⟨rfl, ff_67_189 s0 H0 oa D⟩))) ?_
  refine fs_c1 (fs_newr (pc := 50) (n := 195482) (t := 922) (idx := 39) (CC := "BoardMachine$Processor") C (by decide +kernel) (kw K hw q1067) (kO K hw q1068) rfl (Nat.le_of_ble_eq_true rfl) rfl rfl) ?_
  refine fs_c1 (fs_putf (pc := 53) (n := 797192462) (idx := 41) (ref := "BoardMachine$Machine") (O := "BoardMachine$Machine") (name := "processors") (desc := "[LBoardMachine$Processor;") (fin := true) (ty := (.array (.object "BoardMachine$Processor"))) C (by decide +kernel) (Or.inr ⟨rfl, kw K hw q2504, hnm, rfl⟩) (fun _ h => h) (Nat.le_of_ble_eq_true rfl) (Nat.le_of_ble_eq_true rfl) (Nat.le_of_ble_eq_true rfl) rfl rfl (by decide) (fs_one (⟨rfl, ff_67_190 s0 H0 oa D⟩))) ?_
  refine fs_c1 (fs_newo (pc := 56) (n := 3333) (idx := 45) (CC := "BoardMachine$Halves$ShortUnit") (T := fT_52) (N := 5) C (by decide +kernel) (kw K hw q1069) (kw K hw q1070) (kw K hw q345) (by decide) (Nat.le_of_ble_eq_true rfl) rfl rfl) ?_
  refine fs_c1 (fs_inv_virtual (pc := 60) (n := 205574196) C (Nat.le_of_ble_eq_true rfl) (Nat.le_of_ble_eq_true rfl) (fs_lk_init (idx := 47) (y := ⟨"BoardMachine$Halves$ShortUnit", "<init>", "()V"⟩) (bytes := prog_51_method_1_code) (maxL := 13) (d := 3) C (Nat.le_of_ble_eq_true rfl) (Nat.le_of_ble_eq_true rfl) (by decide +kernel) (kw K hw q1073) (kw K hw q345) (kw K hw q1072) (Or.inl (kw K hw q1071)) rfl ⟨by decide, by decide⟩ rfl (Nat.le_of_ble_eq_true rfl) (Nat.le_of_ble_eq_true rfl)) fs_con_mono o3) ?_
  refine fs_c1 (fs_getf (pc := 72) (n := 797192462) (idx := 41) (ref := "BoardMachine$Machine") (O := "BoardMachine$Machine") (name := "processors") (desc := "[LBoardMachine$Processor;") C (by decide +kernel) (Or.inl (kw K hw q2504)) (fun _ h => h) (Nat.le_of_ble_eq_true rfl) (Nat.le_of_ble_eq_true rfl) (fs_one (⟨_, ff_67_190 s0 H0 oa D⟩))) ?_
  refine fs_c1 (fs_newo (pc := 76) (n := 4813) (idx := 39) (CC := "BoardMachine$Processor") (T := fT_75) (N := 13) C (by decide +kernel) (kw K hw q1067) (kw K hw q1262) (kw K hw q357) (by decide) (Nat.le_of_ble_eq_true rfl) rfl rfl) ?_
  refine fs_c1 (fs_getf (pc := 82) (n := 792998158) (idx := 35) (ref := "BoardMachine$Machine") (O := "BoardMachine$Machine") (name := "board") (desc := "LBoardMachine$Board;") C (by decide +kernel) (Or.inl (kw K hw q2502)) (fun _ h => h) (Nat.le_of_ble_eq_true rfl) (Nat.le_of_ble_eq_true rfl) (fs_one (⟨_, ff_67_189 s0 H0 oa D⟩))) ?_
  refine fs_c1 (fs_inv_virtual (pc := 86) (n := 352398411) C (Nat.le_of_ble_eq_true rfl) (Nat.le_of_ble_eq_true rfl) (fs_lk_init (idx := 48) (y := ⟨"BoardMachine$Processor", "<init>", "(ILBoardMachine$Board;LBoardMachine$Halves$ShortUnit;)V"⟩) (bytes := prog_86_method_1_code) (maxL := 5) (d := 5) C (Nat.le_of_ble_eq_true rfl) (Nat.le_of_ble_eq_true rfl) (by decide +kernel) (kw K hw q1265) (kw K hw q357) (kw K hw q1264) (Or.inl (kw K hw q1263)) rfl ⟨by decide, by decide⟩ rfl (Nat.le_of_ble_eq_true rfl) (Nat.le_of_ble_eq_true rfl)) fs_con_mono o5) ?_
  refine fs_c1 (fs_astr (pc := 89) (n := 966863947) (EE := "BoardMachine$Processor") C (by decide +kernel) (Nat.le_of_ble_eq_true rfl) rfl rfl (Nat.le_of_ble_eq_true rfl) (Nat.le_of_ble_eq_true rfl) (fs_one (⟨_, rfl, Or.inl rfl⟩))) ?_
  refine fs_c1 (fs_newo (pc := 97) (n := 4227) (idx := 51) (CC := "BoardMachine$Loader") (T := fT_66) (N := 3) C (by decide +kernel) (kw K hw q2121) (kw K hw q2122) (kw K hw q401) (by decide) (Nat.le_of_ble_eq_true rfl) rfl rfl) ?_
  refine fs_c1 (fs_getf (pc := 102) (n := 801386766) (idx := 15) (ref := "BoardMachine$Machine") (O := "BoardMachine$Machine") (name := "tape") (desc := "LBoardMachine$Trees$Row;") C (by decide +kernel) (Or.inl (kw K hw q2506)) (fun _ h => h) (Nat.le_of_ble_eq_true rfl) (Nat.le_of_ble_eq_true rfl) (fs_one (⟨_, ff_67_191 s0 H0 oa D⟩))) ?_
  refine fs_c1 (fs_getf (pc := 106) (n := 792998158) (idx := 35) (ref := "BoardMachine$Machine") (O := "BoardMachine$Machine") (name := "board") (desc := "LBoardMachine$Board;") C (by decide +kernel) (Or.inl (kw K hw q2502)) (fun _ h => h) (Nat.le_of_ble_eq_true rfl) (Nat.le_of_ble_eq_true rfl) (fs_one (⟨_, ff_67_189 s0 H0 oa D⟩))) ?_
  refine fs_c1 (fs_getf (pc := 109) (n := 75542574) (idx := 53) (ref := "BoardMachine$Board") (O := "BoardMachine$Board") (name := "ram") (desc := "LBoardMachine$Memories$Ram;") C (by decide +kernel) (Or.inr ⟨_, kF K hw q1038⟩) (fun _ h => h) (Nat.le_of_ble_eq_true rfl) (Nat.le_of_ble_eq_true rfl) (fs_one (⟨_, ff_11_18 s0 H0 oa D⟩))) ?_
  refine fs_c1 (fs_inv_virtual (pc := 112) (n := 281086018) C (Nat.le_of_ble_eq_true rfl) (Nat.le_of_ble_eq_true rfl) (fs_lk_init (idx := 57) (y := ⟨"BoardMachine$Loader", "<init>", "(LBoardMachine$Trees$Row;LBoardMachine$Memories$Ram;)V"⟩) (bytes := prog_75_method_1_code) (maxL := 3) (d := 1) C (Nat.le_of_ble_eq_true rfl) (Nat.le_of_ble_eq_true rfl) (by decide +kernel) (kw K hw q2125) (kw K hw q401) (kw K hw q2124) (Or.inl (kw K hw q2123)) rfl ⟨by decide, by decide⟩ rfl (Nat.le_of_ble_eq_true rfl) (Nat.le_of_ble_eq_true rfl)) fs_con_mono o4) ?_
  refine fs_c1 (fs_putf (pc := 115) (n := 805581070) (idx := 60) (ref := "BoardMachine$Machine") (O := "BoardMachine$Machine") (name := "loader") (desc := "LBoardMachine$Loader;") (fin := true) (ty := (.object "BoardMachine$Loader")) C (by decide +kernel) (Or.inr ⟨rfl, kw K hw q2508, hnm, rfl⟩) (fun _ h => h) (Nat.le_of_ble_eq_true rfl) (Nat.le_of_ble_eq_true rfl) (Nat.le_of_ble_eq_true rfl) rfl rfl (by decide) (fs_one (⟨rfl, ff_67_192 s0 H0 oa D⟩))) ?_
  refine fs_c1 (fs_inv_virtual (pc := 119) (n := 407964739) C (Nat.le_of_ble_eq_true rfl) (Nat.le_of_ble_eq_true rfl) (fs_lk_virtual (idx := 64) (y := ⟨"BoardMachine$Machine", "start", "()I"⟩) (bytes := prog_76_method_2_code) (maxL := 6) (rt := (Option.some Jvm.ClassFile.FieldType.int)) (d := 11) C (Nat.le_of_ble_eq_true rfl) (Nat.le_of_ble_eq_true rfl) (by decide +kernel) (kw K hw q2142) (kw K hw q312) (kw K hw q2140) (Or.inl (kw K hw q2139)) ⟨by decide, by decide⟩ rfl (Nat.le_of_ble_eq_true rfl) (Nat.le_of_ble_eq_true rfl) (fs_one (⟨_, rfl, kw K hw q2141⟩))) fs_con_mono o6) ?_
  exact fs_c0
theorem hX1_init (n : Nat) : fe_H (sX1_init (FX2_init n)) cX1_init [0, 23, 24] fe_kv [] 22 (fun _ => dX1_init (FX1_init_0 n) (FX1_init_23 n) (FX1_init_24 n)) := by
  intro j pc L st M r hc h
  rcases fe_mem_c hc with rfl | hc
  · obtain ⟨w0, m0, h⟩ := fe_lR_d h
    obtain ⟨w1, m1, h⟩ := fe_lI_d h
    obtain ⟨rfl, hz⟩ := fe_t0_d h
    exact ⟨[(0, .ref w0), (1, .int w1)], (fe_cs m0 (fe_cs m1 fe_nl)), Or.inr ((bX1_init_0 (FX2_init n) (FX1_init_0 n ) (FX1_init_23 n ) (FX1_init_24 n ) w0 w1 M).symm.trans hz)⟩
  rcases fe_mem_c hc with rfl | hc
  · obtain ⟨s2, t2, rfl, g2⟩ := fe_tR_d h
    obtain ⟨s1, t1, rfl, g1⟩ := fe_tR_d g2
    obtain ⟨s0, t0, rfl, g0⟩ := fe_tR_d g1
    obtain ⟨rfl, hz⟩ := fe_t0_d g0
    exact ⟨[], fe_nl, Or.inr ((bX1_init_23 (FX2_init n) (FX1_init_0 n ) (FX1_init_23 n ) (FX1_init_24 n ) s0 s1 s2 M).symm.trans hz)⟩
  rcases fe_mem_c hc with rfl | hc
  · obtain ⟨s3, t3, rfl, g3⟩ := fe_tI_d h
    obtain ⟨s2, t2, rfl, g2⟩ := fe_tR_d g3
    obtain ⟨s1, t1, rfl, g1⟩ := fe_tR_d g2
    obtain ⟨s0, t0, rfl, g0⟩ := fe_tR_d g1
    obtain ⟨rfl, hz⟩ := fe_t0_d g0
    exact ⟨[], fe_nl, Or.inr ((bX1_init_24 (FX2_init n) (FX1_init_0 n ) (FX1_init_23 n ) (FX1_init_24 n ) s0 s1 s2 s3 M).symm.trans hz)⟩
  exact fe_mem_0 hc
theorem vX1_init (n : Nat) : fe_SB (sX1_init (FX2_init n)) := by
  refine ⟨?_, ?_, ?_, ?_⟩
  · intro i As M r h
    rcases fe_bc h with h | h
    · obtain ⟨v0, t0, rfl, g0⟩ := fe_tR_d h
      obtain ⟨v1, t1, rfl, g1⟩ := fe_tI_d g0
      obtain ⟨rfl, hz⟩ := fe_t0_d g1
      exact mX2_init n v0 v1 M r hz
    exact fe_no h
  · intro i As M r h
    exact fe_no h
  · intro i As M r h
    exact fe_no h
  · intro i As M r h
    exact fe_no h
theorem eX1_init (g0 : Nat → Int32 → FM → Option (FM)) (g23 : Nat → Nat → Nat → FM → Option (FM)) (g24 : Nat → Nat → Nat → Int32 → FM → Option (FM)) (a0 : Nat) (a1 : Int32) (M : FM) : dX1_init g0 g23 g24 0 [(0, .ref a0), (1, .int a1)] [] M = g0 a0 a1 M := by rfl
theorem mX1_init (n : Nat) (a0 : Nat) (a1 : Int32) (M : FM) (r : FM) (h : FX1_init n a0 a1 M = some r) : fm_nx M ≤ fm_nx r ∧ fm_ns M ≤ fm_ns r :=
  fe_mono (L0 := [(0, .ref a0), (1, .int a1)]) (vX1_init n) (by decide +kernel) (hX1_init n) (fe_kv_k r) 0 rfl ((eX1_init (FX1_init_0 n ) (FX1_init_23 n ) (FX1_init_24 n ) a0 a1 M).trans h)
theorem zX1_init {s0 : State} {H0 : Heap} {oa : Nat → Nat} {D : va_G} (K : fk s0 H0 oa D) (l : Launch) (n : Nat) (a0 : Nat) (a1 : Int32) (M : FM) (r : FM) (h : FX1_init n a0 a1 M = some r) : fs_Con (fk_E s0 H0 oa D) l 13 ⟨"BoardMachine", "<init>", "(I)V"⟩ prog_1_method_1_code 2 (Option.none : Option Jvm.ClassFile.FieldType) [.ref a0, .int a1] M none r := by
  have o0 : fs_OS (sX1_init (FX2_init n)) 0 0 (fs_Con (fk_E s0 H0 oa D) l 12 ⟨"BoardMachine$Machine", "<init>", "(I)V"⟩ prog_76_method_1_code 4 (Option.none : Option Jvm.ClassFile.FieldType)) := by
    intro As M r h
    obtain ⟨v0, t0, rfl, g0⟩ := fe_tR_d h
    obtain ⟨v1, t1, rfl, g1⟩ := fe_tI_d g0
    obtain ⟨rfl, hz⟩ := fe_t0_d g1
    exact zX2_init K l n v0 v1 M r hz
  refine fs_method (own := "BoardMachine") rfl (by decide) K.2.1 (by rw [fe_slen]; exact (Nat.le_of_ble_eq_true rfl)) (mX1_init n a0 a1 M r h) (hX1_init n) 0 rfl (L0 := [(0, .ref a0), (1, .int a1)]) (fun E => fe_args_e E [.ref a0, .int a1] 0) ((eX1_init (FX1_init_0 n ) (FX1_init_23 n ) (FX1_init_24 n ) a0 a1 M).trans h) (fe_kv_k r) (fun H hR => fs_nr_o (by decide) (by decide)) ?_
  intro p e s m args below meth c Q C hnm
  have hw : s0.WarmedH s.vm := C.2.2.2.2.1
  refine fe_all C fk_hwr cX1_init [1, 5, 24, 27] (by decide +kernel) (fe_fil (cps := [(1, 4, .monitorenter), (5, 8, .new 4297), (24, 27, .invokevirtual 8457283), (27, 30, .putfield 71344170)]) (by decide +kernel) ?_)
  refine fs_c1 (fs_init (pc := 1) (idx := 3) C (by decide +kernel) (kw K hw q440) (kw K hw q441) (kw K hw q442) ⟨(Nat.le_of_ble_eq_true rfl), (Nat.le_of_ble_eq_true rfl)⟩) ?_
  refine fs_c1 (fs_newo (pc := 5) (n := 4297) (idx := 9) (CC := "BoardMachine$Machine") (T := fT_67) (N := 9) C (by decide +kernel) (kw K hw q443) (kw K hw q444) (kw K hw q312) (by decide) (Nat.le_of_ble_eq_true rfl) rfl rfl) ?_
  refine fs_c1 (fs_inv_virtual (pc := 24) (n := 8457283) C (Nat.le_of_ble_eq_true rfl) (Nat.le_of_ble_eq_true rfl) (fs_lk_init (idx := 11) (y := ⟨"BoardMachine$Machine", "<init>", "(I)V"⟩) (bytes := prog_76_method_1_code) (maxL := 4) (d := 12) C (Nat.le_of_ble_eq_true rfl) (Nat.le_of_ble_eq_true rfl) (by decide +kernel) (kw K hw q447) (kw K hw q312) (kw K hw q446) (Or.inl (kw K hw q445)) rfl ⟨by decide, by decide⟩ rfl (Nat.le_of_ble_eq_true rfl) (Nat.le_of_ble_eq_true rfl)) fs_con_mono o0) ?_
  refine fs_c1 (fs_putf (pc := 27) (n := 71344170) (idx := 14) (ref := "BoardMachine") (O := "BoardMachine") (name := "machine") (desc := "LBoardMachine$Machine;") (fin := true) (ty := (.object "BoardMachine$Machine")) C (by decide +kernel) (Or.inr ⟨rfl, kw K hw q2534, hnm, rfl⟩) (fun _ h => h) (Nat.le_of_ble_eq_true rfl) (Nat.le_of_ble_eq_true rfl) (Nat.le_of_ble_eq_true rfl) rfl rfl (by decide) (fs_one (⟨rfl, ff_10_17 s0 H0 oa D⟩))) ?_
  exact fs_c0
theorem hX93_init : fe_H (sX93_init) cX93_init [0] fe_kv [] 28 (fun _ => dX93_init FX93_init_0) := by
  intro j pc L st M r hc h
  rcases fe_mem_c hc with rfl | hc
  · obtain ⟨w0, m0, h⟩ := fe_lR_d h
    obtain ⟨rfl, hz⟩ := fe_t0_d h
    exact ⟨[(0, .ref w0)], (fe_cs m0 fe_nl), Or.inr ((bX93_init_0 FX93_init_0 w0 M).symm.trans hz)⟩
  exact fe_mem_0 hc
theorem vX93_init : fe_SB (sX93_init) := by
  refine ⟨?_, ?_, ?_, ?_⟩
  · intro i As M r h
    exact fe_no h
  · intro i As M r h
    exact fe_no h
  · intro i As M r h
    exact fe_no h
  · intro i As M r h
    exact fe_no h
theorem eX93_init (g0 : Nat → FM → Option (FM)) (a0 : Nat) (M : FM) : dX93_init g0 0 [(0, .ref a0)] [] M = g0 a0 M := by rfl
theorem mX93_init (a0 : Nat) (M : FM) (r : FM) (h : FX93_init a0 M = some r) : fm_nx M ≤ fm_nx r ∧ fm_ns M ≤ fm_ns r :=
  fe_mono (L0 := [(0, .ref a0)]) (vX93_init) (by decide +kernel) (hX93_init) (fe_kv_k r) 0 rfl ((eX93_init FX93_init_0 a0 M).trans h)
theorem zX93_init {s0 : State} {H0 : Heap} {oa : Nat → Nat} {D : va_G} (K : fk s0 H0 oa D) (l : Launch) (a0 : Nat) (M : FM) (r : FM) (h : FX93_init a0 M = some r) : fs_Con (fk_E s0 H0 oa D) l 1 ⟨"BoardMachineModel$Ram", "<init>", "()V"⟩ prog_117_method_1_code 1 (Option.none : Option Jvm.ClassFile.FieldType) [.ref a0] M none r := by
  refine fs_method (own := "BoardMachineModel$Ram") rfl (by decide) K.2.1 (by rw [fe_slen]; exact (Nat.le_of_ble_eq_true rfl)) (mX93_init a0 M r h) (hX93_init) 0 rfl (L0 := [(0, .ref a0)]) (fun E => fe_args_e E [.ref a0] 0) ((eX93_init FX93_init_0 a0 M).trans h) (fe_kv_k r) (fun H hR => fs_nr_o (by decide) (by decide)) ?_
  intro p e s m args below meth c Q C hnm
  have hw : s0.WarmedH s.vm := C.2.2.2.2.1
  refine fe_all C fk_hwr cX93_init [1, 5, 7, 9, 14, 16, 21, 23, 27, 29, 31, 36, 38] (by decide +kernel) (fe_fil (cps := [(1, 4, .monitorenter), (5, 7, .iconst (524288)), (7, 9, .anewarray 398214), (9, 12, .putfield 1627791754), (14, 16, .anewarray 399238), (16, 19, .putfield 1631986058), (21, 23, .anewarray 400261), (23, 26, .putfield 1636180362), (27, 29, .iconst (524288)), (29, 31, .anewarray 401285), (31, 34, .putfield 1640374666), (36, 38, .anewarray 402309), (38, 41, .putfield 1644568970)]) (by decide +kernel) ?_)
  refine fs_c1 (fs_init (pc := 1) (idx := 1) C (by decide +kernel) (kw K hw q4570) (kw K hw q441) (kw K hw q442) ⟨(Nat.le_of_ble_eq_true rfl), (Nat.le_of_ble_eq_true rfl)⟩) ?_
  refine fs_c1 (fs_ldci (pc := 5) (idx := 7) (v := 524288) C (by decide +kernel) (kw K hw q4571)) ?_
  refine fs_c1 (fs_newL (pc := 7) (n := 398214) C (by decide +kernel) (kw K hw q648) rfl rfl) ?_
  refine fs_c1 (fs_putf (pc := 9) (n := 1627791754) (idx := 8) (ref := "BoardMachineModel$Ram") (O := "BoardMachineModel$Ram") (name := "words") (desc := "[J") (fin := true) (ty := (.array .long)) C (by decide +kernel) (Or.inr ⟨rfl, kw K hw q4572, hnm, rfl⟩) (fun _ h => h) (Nat.le_of_ble_eq_true rfl) (Nat.le_of_ble_eq_true rfl) (Nat.le_of_ble_eq_true rfl) rfl rfl (by decide) (fs_one (⟨rfl, ff_98_388 s0 H0 oa D⟩))) ?_
  refine fs_c1 (fs_newL (pc := 14) (n := 399238) C (by decide +kernel) (kw K hw q648) rfl rfl) ?_
  refine fs_c1 (fs_putf (pc := 16) (n := 1631986058) (idx := 14) (ref := "BoardMachineModel$Ram") (O := "BoardMachineModel$Ram") (name := "places") (desc := "[J") (fin := true) (ty := (.array .long)) C (by decide +kernel) (Or.inr ⟨rfl, kw K hw q4573, hnm, rfl⟩) (fun _ h => h) (Nat.le_of_ble_eq_true rfl) (Nat.le_of_ble_eq_true rfl) (Nat.le_of_ble_eq_true rfl) rfl rfl (by decide) (fs_one (⟨rfl, ff_98_389 s0 H0 oa D⟩))) ?_
  refine fs_c1 (fs_newI (pc := 21) (n := 400261) C (by decide +kernel) (kw K hw q966) rfl rfl) ?_
  refine fs_c1 (fs_putf (pc := 23) (n := 1636180362) (idx := 17) (ref := "BoardMachineModel$Ram") (O := "BoardMachineModel$Ram") (name := "sizes") (desc := "[I") (fin := true) (ty := (.array .int)) C (by decide +kernel) (Or.inr ⟨rfl, kw K hw q4574, hnm, rfl⟩) (fun _ h => h) (Nat.le_of_ble_eq_true rfl) (Nat.le_of_ble_eq_true rfl) (Nat.le_of_ble_eq_true rfl) rfl rfl (by decide) (fs_one (⟨rfl, ff_98_390 s0 H0 oa D⟩))) ?_
  refine fs_c1 (fs_ldci (pc := 27) (idx := 7) (v := 524288) C (by decide +kernel) (kw K hw q4571)) ?_
  refine fs_c1 (fs_newI (pc := 29) (n := 401285) C (by decide +kernel) (kw K hw q966) rfl rfl) ?_
  refine fs_c1 (fs_putf (pc := 31) (n := 1640374666) (idx := 21) (ref := "BoardMachineModel$Ram") (O := "BoardMachineModel$Ram") (name := "stores") (desc := "[I") (fin := true) (ty := (.array .int)) C (by decide +kernel) (Or.inr ⟨rfl, kw K hw q4575, hnm, rfl⟩) (fun _ h => h) (Nat.le_of_ble_eq_true rfl) (Nat.le_of_ble_eq_true rfl) (Nat.le_of_ble_eq_true rfl) rfl rfl (by decide) (fs_one (⟨rfl, ff_98_391 s0 H0 oa D⟩))) ?_
  refine fs_c1 (fs_newI (pc := 36) (n := 402309) C (by decide +kernel) (kw K hw q966) rfl rfl) ?_
  refine fs_c1 (fs_putf (pc := 38) (n := 1644568970) (idx := 24) (ref := "BoardMachineModel$Ram") (O := "BoardMachineModel$Ram") (name := "seen") (desc := "[I") (fin := true) (ty := (.array .int)) C (by decide +kernel) (Or.inr ⟨rfl, kw K hw q4576, hnm, rfl⟩) (fun _ h => h) (Nat.le_of_ble_eq_true rfl) (Nat.le_of_ble_eq_true rfl) (Nat.le_of_ble_eq_true rfl) rfl rfl (by decide) (fs_one (⟨rfl, ff_98_392 s0 H0 oa D⟩))) ?_
  exact fs_c0
theorem hX94_init : fe_H (sX94_init) cX94_init [0] fe_kv [] 20 (fun _ => dX94_init FX94_init_0) := by
  intro j pc L st M r hc h
  rcases fe_mem_c hc with rfl | hc
  · obtain ⟨w0, m0, h⟩ := fe_lR_d h
    obtain ⟨rfl, hz⟩ := fe_t0_d h
    exact ⟨[(0, .ref w0)], (fe_cs m0 fe_nl), Or.inr ((bX94_init_0 FX94_init_0 w0 M).symm.trans hz)⟩
  exact fe_mem_0 hc
theorem vX94_init : fe_SB (sX94_init) := by
  refine ⟨?_, ?_, ?_, ?_⟩
  · intro i As M r h
    exact fe_no h
  · intro i As M r h
    exact fe_no h
  · intro i As M r h
    exact fe_no h
  · intro i As M r h
    exact fe_no h
theorem eX94_init (g0 : Nat → FM → Option (FM)) (a0 : Nat) (M : FM) : dX94_init g0 0 [(0, .ref a0)] [] M = g0 a0 M := by rfl
theorem mX94_init (a0 : Nat) (M : FM) (r : FM) (h : FX94_init a0 M = some r) : fm_nx M ≤ fm_nx r ∧ fm_ns M ≤ fm_ns r :=
  fe_mono (L0 := [(0, .ref a0)]) (vX94_init) (by decide +kernel) (hX94_init) (fe_kv_k r) 0 rfl ((eX94_init FX94_init_0 a0 M).trans h)
theorem zX94_init {s0 : State} {H0 : Heap} {oa : Nat → Nat} {D : va_G} (K : fk s0 H0 oa D) (l : Launch) (a0 : Nat) (M : FM) (r : FM) (h : FX94_init a0 M = some r) : fs_Con (fk_E s0 H0 oa D) l 1 ⟨"BoardMachineModel$Halves", "<init>", "()V"⟩ prog_116_method_1_code 1 (Option.none : Option Jvm.ClassFile.FieldType) [.ref a0] M none r := by
  refine fs_method (own := "BoardMachineModel$Halves") rfl (by decide) K.2.1 (by rw [fe_slen]; exact (Nat.le_of_ble_eq_true rfl)) (mX94_init a0 M r h) (hX94_init) 0 rfl (L0 := [(0, .ref a0)]) (fun E => fe_args_e E [.ref a0] 0) ((eX94_init FX94_init_0 a0 M).trans h) (fe_kv_k r) (fun H hR => fs_nr_o (by decide) (by decide)) ?_
  intro p e s m args below meth c Q C hnm
  have hw : s0.WarmedH s.vm := C.2.2.2.2.1
  refine fe_all C fk_hwr cX94_init [1] (by decide +kernel) (fe_fil (cps := [(1, 4, .monitorenter)]) (by decide +kernel) ?_)
  refine fs_c1 (fs_init (pc := 1) (idx := 1) C (by decide +kernel) (kw K hw q4597) (kw K hw q441) (kw K hw q442) ⟨(Nat.le_of_ble_eq_true rfl), (Nat.le_of_ble_eq_true rfl)⟩) ?_
  exact fs_c0
theorem hX95_init : fe_H (sX95_init) cX95_init [0] fe_kv [] 37 (fun _ => dX95_init FX95_init_0) := by
  intro j pc L st M r hc h
  rcases fe_mem_c hc with rfl | hc
  · obtain ⟨w0, m0, h⟩ := fe_lR_d h
    obtain ⟨w1, m1, h⟩ := fe_lR_d h
    obtain ⟨rfl, hz⟩ := fe_t0_d h
    exact ⟨[(0, .ref w0), (1, .ref w1)], (fe_cs m0 (fe_cs m1 fe_nl)), Or.inr ((bX95_init_0 FX95_init_0 w0 w1 M).symm.trans hz)⟩
  exact fe_mem_0 hc
theorem vX95_init : fe_SB (sX95_init) := by
  refine ⟨?_, ?_, ?_, ?_⟩
  · intro i As M r h
    exact fe_no h
  · intro i As M r h
    exact fe_no h
  · intro i As M r h
    exact fe_no h
  · intro i As M r h
    exact fe_no h
theorem eX95_init (g0 : Nat → Nat → FM → Option (FM)) (a0 : Nat) (a1 : Nat) (M : FM) : dX95_init g0 0 [(0, .ref a0), (1, .ref a1)] [] M = g0 a0 a1 M := by rfl
theorem mX95_init (a0 : Nat) (a1 : Nat) (M : FM) (r : FM) (h : FX95_init a0 a1 M = some r) : fm_nx M ≤ fm_nx r ∧ fm_ns M ≤ fm_ns r :=
  fe_mono (L0 := [(0, .ref a0), (1, .ref a1)]) (vX95_init) (by decide +kernel) (hX95_init) (fe_kv_k r) 0 rfl ((eX95_init FX95_init_0 a0 a1 M).trans h)
theorem zX95_init {s0 : State} {H0 : Heap} {oa : Nat → Nat} {D : va_G} (K : fk s0 H0 oa D) (l : Launch) (a0 : Nat) (a1 : Nat) (M : FM) (r : FM) (h : FX95_init a0 a1 M = some r) : fs_Con (fk_E s0 H0 oa D) l 1 ⟨"BoardMachineModel$Block", "<init>", "(LBoardMachineModel$Ram;)V"⟩ prog_112_method_1_code 2 (Option.none : Option Jvm.ClassFile.FieldType) [.ref a0, .ref a1] M none r := by
  refine fs_method (own := "BoardMachineModel$Block") rfl (by decide) K.2.1 (by rw [fe_slen]; exact (Nat.le_of_ble_eq_true rfl)) (mX95_init a0 a1 M r h) (hX95_init) 0 rfl (L0 := [(0, .ref a0), (1, .ref a1)]) (fun E => fe_args_e E [.ref a0, .ref a1] 0) ((eX95_init FX95_init_0 a0 a1 M).trans h) (fe_kv_k r) (fun H hR => fs_nr_o (by decide) (by decide)) ?_
  intro p e s m args below meth c Q C hnm
  have hw : s0.WarmedH s.vm := C.2.2.2.2.1
  refine fe_all C fk_hwr cX95_init [1, 5, 7, 9, 15, 20, 22, 28, 30, 36, 38, 44, 46, 51, 58] (by decide +kernel) (fe_fil (cps := [(1, 4, .monitorenter), (5, 7, .iconst (131072)), (7, 9, .anewarray 335750), (9, 12, .putfield 1371918710), (15, 18, .putfield 1384501620), (20, 22, .anewarray 342918), (22, 25, .putfield 1401278838), (28, 30, .anewarray 349062), (30, 33, .putfield 1426444662), (36, 38, .anewarray 350086), (38, 41, .putfield 1430638966), (44, 46, .anewarray 351112), (46, 49, .putfield 1434833270), (51, 54, .putfield 1367724406), (58, 61, .putfield 1363530100)]) (by decide +kernel) ?_)
  refine fs_c1 (fs_init (pc := 1) (idx := 1) C (by decide +kernel) (kw K hw q4610) (kw K hw q441) (kw K hw q442) ⟨(Nat.le_of_ble_eq_true rfl), (Nat.le_of_ble_eq_true rfl)⟩) ?_
  refine fs_c1 (fs_ldci (pc := 5) (idx := 7) (v := 131072) C (by decide +kernel) (kw K hw q4611)) ?_
  refine fs_c1 (fs_newL (pc := 7) (n := 335750) C (by decide +kernel) (kw K hw q648) rfl rfl) ?_
  refine fs_c1 (fs_putf (pc := 9) (n := 1371918710) (idx := 8) (ref := "BoardMachineModel$Block") (O := "BoardMachineModel$Block") (name := "disk") (desc := "[J") (fin := true) (ty := (.array .long)) C (by decide +kernel) (Or.inr ⟨rfl, kw K hw q4615, hnm, rfl⟩) (fun _ h => h) (Nat.le_of_ble_eq_true rfl) (Nat.le_of_ble_eq_true rfl) (Nat.le_of_ble_eq_true rfl) rfl rfl (by decide) (fs_one (⟨rfl, ff_93_327 s0 H0 oa D⟩))) ?_
  refine fs_c1 (fs_putf (pc := 15) (n := 1384501620) (idx := 14) (ref := "BoardMachineModel$Block") (O := "BoardMachineModel$Block") (name := "size") (desc := "I") (fin := false) (ty := .int) C (by decide +kernel) (Or.inl ⟨rfl, Or.inl (kw K hw q4618)⟩) (fun _ h => h) (Nat.le_of_ble_eq_true rfl) (Nat.le_of_ble_eq_true rfl) (Nat.le_of_ble_eq_true rfl) rfl rfl (by decide) (fs_one (⟨rfl, ff_93_330 s0 H0 oa D⟩))) ?_
  refine fs_c1 (fs_newL (pc := 20) (n := 342918) C (by decide +kernel) (kw K hw q648) rfl rfl) ?_
  refine fs_c1 (fs_putf (pc := 22) (n := 1401278838) (idx := 18) (ref := "BoardMachineModel$Block") (O := "BoardMachineModel$Block") (name := "places") (desc := "[J") (fin := true) (ty := (.array .long)) C (by decide +kernel) (Or.inr ⟨rfl, kw K hw q4622, hnm, rfl⟩) (fun _ h => h) (Nat.le_of_ble_eq_true rfl) (Nat.le_of_ble_eq_true rfl) (Nat.le_of_ble_eq_true rfl) rfl rfl (by decide) (fs_one (⟨rfl, ff_93_334 s0 H0 oa D⟩))) ?_
  refine fs_c1 (fs_newL (pc := 28) (n := 349062) C (by decide +kernel) (kw K hw q648) rfl rfl) ?_
  refine fs_c1 (fs_putf (pc := 30) (n := 1426444662) (idx := 21) (ref := "BoardMachineModel$Block") (O := "BoardMachineModel$Block") (name := "starts") (desc := "[J") (fin := true) (ty := (.array .long)) C (by decide +kernel) (Or.inr ⟨rfl, kw K hw q4628, hnm, rfl⟩) (fun _ h => h) (Nat.le_of_ble_eq_true rfl) (Nat.le_of_ble_eq_true rfl) (Nat.le_of_ble_eq_true rfl) rfl rfl (by decide) (fs_one (⟨rfl, ff_93_340 s0 H0 oa D⟩))) ?_
  refine fs_c1 (fs_newL (pc := 36) (n := 350086) C (by decide +kernel) (kw K hw q648) rfl rfl) ?_
  refine fs_c1 (fs_putf (pc := 38) (n := 1430638966) (idx := 24) (ref := "BoardMachineModel$Block") (O := "BoardMachineModel$Block") (name := "lengths") (desc := "[J") (fin := true) (ty := (.array .long)) C (by decide +kernel) (Or.inr ⟨rfl, kw K hw q4629, hnm, rfl⟩) (fun _ h => h) (Nat.le_of_ble_eq_true rfl) (Nat.le_of_ble_eq_true rfl) (Nat.le_of_ble_eq_true rfl) rfl rfl (by decide) (fs_one (⟨rfl, ff_93_341 s0 H0 oa D⟩))) ?_
  refine fs_c1 (fs_newZ (pc := 44) (n := 351112) C (by decide +kernel) (kw K hw q4676) rfl rfl) ?_
  refine fs_c1 (fs_putf (pc := 46) (n := 1434833270) (idx := 27) (ref := "BoardMachineModel$Block") (O := "BoardMachineModel$Block") (name := "opens") (desc := "[Z") (fin := true) (ty := (.array .boolean)) C (by decide +kernel) (Or.inr ⟨rfl, kw K hw q4630, hnm, rfl⟩) (fun _ h => h) (Nat.le_of_ble_eq_true rfl) (Nat.le_of_ble_eq_true rfl) (Nat.le_of_ble_eq_true rfl) rfl rfl (by decide) (fs_one (⟨rfl, ff_93_342 s0 H0 oa D⟩))) ?_
  refine fs_c1 (fs_putf (pc := 51) (n := 1367724406) (idx := 31) (ref := "BoardMachineModel$Block") (O := "BoardMachineModel$Block") (name := "ram") (desc := "LBoardMachineModel$Ram;") (fin := true) (ty := (.object "BoardMachineModel$Ram")) C (by decide +kernel) (Or.inr ⟨rfl, kw K hw q4614, hnm, rfl⟩) (fun _ h => h) (Nat.le_of_ble_eq_true rfl) (Nat.le_of_ble_eq_true rfl) (Nat.le_of_ble_eq_true rfl) rfl rfl (by decide) (fs_one (⟨rfl, ff_93_326 s0 H0 oa D⟩))) ?_
  refine fs_c1 (fs_putf (pc := 58) (n := 1363530100) (idx := 35) (ref := "BoardMachineModel$Block") (O := "BoardMachineModel$Block") (name := "sectors") (desc := "I") (fin := true) (ty := .int) C (by decide +kernel) (Or.inr ⟨rfl, kw K hw q4613, hnm, rfl⟩) (fun _ h => h) (Nat.le_of_ble_eq_true rfl) (Nat.le_of_ble_eq_true rfl) (Nat.le_of_ble_eq_true rfl) rfl rfl (by decide) (fs_one (⟨rfl, ff_93_325 s0 H0 oa D⟩))) ?_
  exact fs_c0
theorem hX96_init (n : Nat) : fe_H (sX96_init) cX96_init [0, 109, 114, 119] fe_kv [119] 79 (fun j => dX96_init (FX96_init_0 n (FX96_init_L119 n j)) (FX96_init_109 n (FX96_init_L119 n j)) (FX96_init_114 n (FX96_init_L119 n j)) (FX96_init_L119 n j)) := by
  intro j pc L st M r hc h
  rcases fe_mem_c hc with rfl | hc
  · obtain ⟨w0, m0, h⟩ := fe_lR_d h
    obtain ⟨w1, m1, h⟩ := fe_lI_d h
    obtain ⟨rfl, hz⟩ := fe_t0_d h
    exact ⟨[(0, .ref w0), (1, .int w1)], (fe_cs m0 (fe_cs m1 fe_nl)), Or.inr ((bX96_init_0 (FX96_init_0 n (FX96_init_L119 n j)) (FX96_init_109 n (FX96_init_L119 n j)) (FX96_init_114 n (FX96_init_L119 n j)) (FX96_init_L119 n j) w0 w1 M).symm.trans hz)⟩
  rcases fe_mem_c hc with rfl | hc
  · obtain ⟨w0, m0, h⟩ := fe_lR_d h
    obtain ⟨s0, t0, rfl, g0⟩ := fe_tR_d h
    obtain ⟨rfl, hz⟩ := fe_t0_d g0
    exact ⟨[(0, .ref w0)], (fe_cs m0 fe_nl), Or.inr ((bX96_init_109 (FX96_init_0 n (FX96_init_L119 n j)) (FX96_init_109 n (FX96_init_L119 n j)) (FX96_init_114 n (FX96_init_L119 n j)) (FX96_init_L119 n j) w0 s0 M).symm.trans hz)⟩
  rcases fe_mem_c hc with rfl | hc
  · obtain ⟨w0, m0, h⟩ := fe_lR_d h
    obtain ⟨s1, t1, rfl, g1⟩ := fe_tI_d h
    obtain ⟨s0, t0, rfl, g0⟩ := fe_tR_d g1
    obtain ⟨rfl, hz⟩ := fe_t0_d g0
    exact ⟨[(0, .ref w0)], (fe_cs m0 fe_nl), Or.inr ((bX96_init_114 (FX96_init_0 n (FX96_init_L119 n j)) (FX96_init_109 n (FX96_init_L119 n j)) (FX96_init_114 n (FX96_init_L119 n j)) (FX96_init_L119 n j) w0 s0 s1 M).symm.trans hz)⟩
  rcases fe_mem_c hc with rfl | hc
  · obtain ⟨w0, m0, h⟩ := fe_lR_d h
    obtain ⟨w2, m2, h⟩ := fe_lI_d h
    obtain ⟨rfl, hz⟩ := fe_t0_d h
    cases j with
    | zero => exact fe_no hz
    | succ j => exact ⟨[(0, .ref w0), (2, .int w2)], (fe_cs m0 (fe_cs m2 fe_nl)), Or.inl ⟨j, rfl, (bX96_init_119 (FX96_init_0 n (FX96_init_L119 n j)) (FX96_init_109 n (FX96_init_L119 n j)) (FX96_init_114 n (FX96_init_L119 n j)) (FX96_init_L119 n j) w0 w2 M).symm.trans hz⟩⟩
  exact fe_mem_0 hc
theorem vX96_init (n : Nat) : fe_SB (sX96_init) := by
  refine ⟨?_, ?_, ?_, ?_⟩
  · intro i As M r h
    exact fe_no h
  · intro i As M r h
    exact fe_no h
  · intro i As M r h
    exact fe_no h
  · intro i As M r h
    exact fe_no h
theorem eX96_init (g0 : Nat → Int32 → FM → Option (FM)) (g109 : Nat → Nat → FM → Option (FM)) (g114 : Nat → Nat → Int32 → FM → Option (FM)) (k119 : Nat → Int32 → FM → Option (FM)) (a0 : Nat) (a1 : Int32) (M : FM) : dX96_init g0 g109 g114 k119 0 [(0, .ref a0), (1, .int a1)] [] M = g0 a0 a1 M := by rfl
theorem mX96_init (n : Nat) (a0 : Nat) (a1 : Int32) (M : FM) (r : FM) (h : FX96_init n a0 a1 M = some r) : fm_nx M ≤ fm_nx r ∧ fm_ns M ≤ fm_ns r :=
  fe_mono (L0 := [(0, .ref a0), (1, .int a1)]) (vX96_init n) (by decide +kernel) (hX96_init n) (fe_kv_k r) n rfl ((eX96_init (FX96_init_0 n (FX96_init_L119 n n)) (FX96_init_109 n (FX96_init_L119 n n)) (FX96_init_114 n (FX96_init_L119 n n)) (FX96_init_L119 n n) a0 a1 M).trans h)
theorem zX96_init {s0 : State} {H0 : Heap} {oa : Nat → Nat} {D : va_G} (K : fk s0 H0 oa D) (l : Launch) (n : Nat) (a0 : Nat) (a1 : Int32) (M : FM) (r : FM) (h : FX96_init n a0 a1 M = some r) : fs_Con (fk_E s0 H0 oa D) l 1 ⟨"BoardMachineModel$Signals", "<init>", "(I)V"⟩ prog_118_method_1_code 3 (Option.none : Option Jvm.ClassFile.FieldType) [.ref a0, .int a1] M none r := by
  refine fs_method (own := "BoardMachineModel$Signals") rfl (by decide) K.2.1 (by rw [fe_slen]; exact (Nat.le_of_ble_eq_true rfl)) (mX96_init n a0 a1 M r h) (hX96_init n) n rfl (L0 := [(0, .ref a0), (1, .int a1)]) (fun E => fe_args_e E [.ref a0, .int a1] 0) ((eX96_init (FX96_init_0 n (FX96_init_L119 n n)) (FX96_init_109 n (FX96_init_L119 n n)) (FX96_init_114 n (FX96_init_L119 n n)) (FX96_init_L119 n n) a0 a1 M).trans h) (fe_kv_k r) (fun H hR => fs_nr_o (by decide) (by decide)) ?_
  intro p e s m args below meth c Q C hnm
  have hw : s0.WarmedH s.vm := C.2.2.2.2.1
  refine fe_all C fk_hwr cX96_init [1, 6, 8, 13, 15, 21, 23, 29, 31, 37, 39, 45, 47, 53, 55, 61, 63, 69, 71, 76, 78, 84, 86, 93, 95, 114, 125, 129] (by decide +kernel) (fe_fil (cps := [(1, 4, .monitorenter), (6, 8, .anewarray 406408), (8, 11, .putfield 1661350286), (13, 15, .anewarray 407430), (15, 18, .putfield 1665544590), (21, 23, .anewarray 409480), (23, 26, .putfield 1673933198), (29, 31, .anewarray 410504), (31, 34, .putfield 1678127502), (37, 39, .anewarray 411528), (39, 42, .putfield 1682321806), (45, 47, .anewarray 412549), (47, 50, .putfield 1686516110), (53, 55, .anewarray 413573), (55, 58, .putfield 1690710414), (61, 63, .anewarray 414597), (63, 66, .putfield 1694904718), (69, 71, .anewarray 415621), (71, 74, .putfield 1699099022), (76, 78, .anewarray 416645), (78, 81, .putfield 1703293326), (84, 86, .anewarray 420741), (86, 89, .putfield 1720070542), (93, 95, .anewarray 422789), (95, 98, .putfield 1728459150), (114, 117, .putfield 1657155980), (125, 128, .getfield 1665544590), (129, 132, .jsr_w (-1))]) (by decide +kernel) ?_)
  refine fs_c1 (fs_init (pc := 1) (idx := 1) C (by decide +kernel) (kw K hw q4692) (kw K hw q441) (kw K hw q442) ⟨(Nat.le_of_ble_eq_true rfl), (Nat.le_of_ble_eq_true rfl)⟩) ?_
  refine fs_c1 (fs_newZ (pc := 6) (n := 406408) C (by decide +kernel) (kw K hw q4676) rfl rfl) ?_
  refine fs_c1 (fs_putf (pc := 8) (n := 1661350286) (idx := 7) (ref := "BoardMachineModel$Signals") (O := "BoardMachineModel$Signals") (name := "soft") (desc := "[Z") (fin := true) (ty := (.array .boolean)) C (by decide +kernel) (Or.inr ⟨rfl, kw K hw q4696, hnm, rfl⟩) (fun _ h => h) (Nat.le_of_ble_eq_true rfl) (Nat.le_of_ble_eq_true rfl) (Nat.le_of_ble_eq_true rfl) rfl rfl (by decide) (fs_one (⟨rfl, ff_99_396 s0 H0 oa D⟩))) ?_
  refine fs_c1 (fs_newL (pc := 13) (n := 407430) C (by decide +kernel) (kw K hw q648) rfl rfl) ?_
  refine fs_c1 (fs_putf (pc := 15) (n := 1665544590) (idx := 13) (ref := "BoardMachineModel$Signals") (O := "BoardMachineModel$Signals") (name := "compares") (desc := "[J") (fin := true) (ty := (.array .long)) C (by decide +kernel) (Or.inr ⟨rfl, kw K hw q4697, hnm, rfl⟩) (fun _ h => h) (Nat.le_of_ble_eq_true rfl) (Nat.le_of_ble_eq_true rfl) (Nat.le_of_ble_eq_true rfl) rfl rfl (by decide) (fs_one (⟨rfl, ff_99_397 s0 H0 oa D⟩))) ?_
  refine fs_c1 (fs_newZ (pc := 21) (n := 409480) C (by decide +kernel) (kw K hw q4676) rfl rfl) ?_
  refine fs_c1 (fs_putf (pc := 23) (n := 1673933198) (idx := 17) (ref := "BoardMachineModel$Signals") (O := "BoardMachineModel$Signals") (name := "signals") (desc := "[Z") (fin := true) (ty := (.array .boolean)) C (by decide +kernel) (Or.inr ⟨rfl, kw K hw q4700, hnm, rfl⟩) (fun _ h => h) (Nat.le_of_ble_eq_true rfl) (Nat.le_of_ble_eq_true rfl) (Nat.le_of_ble_eq_true rfl) rfl rfl (by decide) (fs_one (⟨rfl, ff_99_399 s0 H0 oa D⟩))) ?_
  refine fs_c1 (fs_newZ (pc := 29) (n := 410504) C (by decide +kernel) (kw K hw q4676) rfl rfl) ?_
  refine fs_c1 (fs_putf (pc := 31) (n := 1678127502) (idx := 20) (ref := "BoardMachineModel$Signals") (O := "BoardMachineModel$Signals") (name := "waits") (desc := "[Z") (fin := true) (ty := (.array .boolean)) C (by decide +kernel) (Or.inr ⟨rfl, kw K hw q4701, hnm, rfl⟩) (fun _ h => h) (Nat.le_of_ble_eq_true rfl) (Nat.le_of_ble_eq_true rfl) (Nat.le_of_ble_eq_true rfl) rfl rfl (by decide) (fs_one (⟨rfl, ff_99_400 s0 H0 oa D⟩))) ?_
  refine fs_c1 (fs_newZ (pc := 37) (n := 411528) C (by decide +kernel) (kw K hw q4676) rfl rfl) ?_
  refine fs_c1 (fs_putf (pc := 39) (n := 1682321806) (idx := 23) (ref := "BoardMachineModel$Signals") (O := "BoardMachineModel$Signals") (name := "served") (desc := "[Z") (fin := true) (ty := (.array .boolean)) C (by decide +kernel) (Or.inr ⟨rfl, kw K hw q4702, hnm, rfl⟩) (fun _ h => h) (Nat.le_of_ble_eq_true rfl) (Nat.le_of_ble_eq_true rfl) (Nat.le_of_ble_eq_true rfl) rfl rfl (by decide) (fs_one (⟨rfl, ff_99_401 s0 H0 oa D⟩))) ?_
  refine fs_c1 (fs_newI (pc := 45) (n := 412549) C (by decide +kernel) (kw K hw q966) rfl rfl) ?_
  refine fs_c1 (fs_putf (pc := 47) (n := 1686516110) (idx := 26) (ref := "BoardMachineModel$Signals") (O := "BoardMachineModel$Signals") (name := "priorities") (desc := "[I") (fin := true) (ty := (.array .int)) C (by decide +kernel) (Or.inr ⟨rfl, kw K hw q4703, hnm, rfl⟩) (fun _ h => h) (Nat.le_of_ble_eq_true rfl) (Nat.le_of_ble_eq_true rfl) (Nat.le_of_ble_eq_true rfl) rfl rfl (by decide) (fs_one (⟨rfl, ff_99_402 s0 H0 oa D⟩))) ?_
  refine fs_c1 (fs_newI (pc := 53) (n := 413573) C (by decide +kernel) (kw K hw q966) rfl rfl) ?_
  refine fs_c1 (fs_putf (pc := 55) (n := 1690710414) (idx := 30) (ref := "BoardMachineModel$Signals") (O := "BoardMachineModel$Signals") (name := "enabled") (desc := "[I") (fin := true) (ty := (.array .int)) C (by decide +kernel) (Or.inr ⟨rfl, kw K hw q4704, hnm, rfl⟩) (fun _ h => h) (Nat.le_of_ble_eq_true rfl) (Nat.le_of_ble_eq_true rfl) (Nat.le_of_ble_eq_true rfl) rfl rfl (by decide) (fs_one (⟨rfl, ff_99_403 s0 H0 oa D⟩))) ?_
  refine fs_c1 (fs_newI (pc := 61) (n := 414597) C (by decide +kernel) (kw K hw q966) rfl rfl) ?_
  refine fs_c1 (fs_putf (pc := 63) (n := 1694904718) (idx := 33) (ref := "BoardMachineModel$Signals") (O := "BoardMachineModel$Signals") (name := "thresholds") (desc := "[I") (fin := true) (ty := (.array .int)) C (by decide +kernel) (Or.inr ⟨rfl, kw K hw q4705, hnm, rfl⟩) (fun _ h => h) (Nat.le_of_ble_eq_true rfl) (Nat.le_of_ble_eq_true rfl) (Nat.le_of_ble_eq_true rfl) rfl rfl (by decide) (fs_one (⟨rfl, ff_99_404 s0 H0 oa D⟩))) ?_
  refine fs_c1 (fs_newI (pc := 69) (n := 415621) C (by decide +kernel) (kw K hw q966) rfl rfl) ?_
  refine fs_c1 (fs_putf (pc := 71) (n := 1699099022) (idx := 36) (ref := "BoardMachineModel$Signals") (O := "BoardMachineModel$Signals") (name := "registers") (desc := "[I") (fin := true) (ty := (.array .int)) C (by decide +kernel) (Or.inr ⟨rfl, kw K hw q4706, hnm, rfl⟩) (fun _ h => h) (Nat.le_of_ble_eq_true rfl) (Nat.le_of_ble_eq_true rfl) (Nat.le_of_ble_eq_true rfl) rfl rfl (by decide) (fs_one (⟨rfl, ff_99_405 s0 H0 oa D⟩))) ?_
  refine fs_c1 (fs_newI (pc := 76) (n := 416645) C (by decide +kernel) (kw K hw q966) rfl rfl) ?_
  refine fs_c1 (fs_putf (pc := 78) (n := 1703293326) (idx := 39) (ref := "BoardMachineModel$Signals") (O := "BoardMachineModel$Signals") (name := "others") (desc := "[I") (fin := true) (ty := (.array .int)) C (by decide +kernel) (Or.inr ⟨rfl, kw K hw q4707, hnm, rfl⟩) (fun _ h => h) (Nat.le_of_ble_eq_true rfl) (Nat.le_of_ble_eq_true rfl) (Nat.le_of_ble_eq_true rfl) rfl rfl (by decide) (fs_one (⟨rfl, ff_99_406 s0 H0 oa D⟩))) ?_
  refine fs_c1 (fs_newI (pc := 84) (n := 420741) C (by decide +kernel) (kw K hw q966) rfl rfl) ?_
  refine fs_c1 (fs_putf (pc := 86) (n := 1720070542) (idx := 42) (ref := "BoardMachineModel$Signals") (O := "BoardMachineModel$Signals") (name := "came") (desc := "[I") (fin := true) (ty := (.array .int)) C (by decide +kernel) (Or.inr ⟨rfl, kw K hw q4711, hnm, rfl⟩) (fun _ h => h) (Nat.le_of_ble_eq_true rfl) (Nat.le_of_ble_eq_true rfl) (Nat.le_of_ble_eq_true rfl) rfl rfl (by decide) (fs_one (⟨rfl, ff_99_410 s0 H0 oa D⟩))) ?_
  refine fs_c1 (fs_newI (pc := 93) (n := 422789) C (by decide +kernel) (kw K hw q966) rfl rfl) ?_
  refine fs_c1 (fs_putf (pc := 95) (n := 1728459150) (idx := 45) (ref := "BoardMachineModel$Signals") (O := "BoardMachineModel$Signals") (name := "out") (desc := "[I") (fin := true) (ty := (.array .int)) C (by decide +kernel) (Or.inr ⟨rfl, kw K hw q4713, hnm, rfl⟩) (fun _ h => h) (Nat.le_of_ble_eq_true rfl) (Nat.le_of_ble_eq_true rfl) (Nat.le_of_ble_eq_true rfl) rfl rfl (by decide) (fs_one (⟨rfl, ff_99_412 s0 H0 oa D⟩))) ?_
  refine fs_c1 (fs_putf (pc := 114) (n := 1657155980) (idx := 48) (ref := "BoardMachineModel$Signals") (O := "BoardMachineModel$Signals") (name := "processors") (desc := "I") (fin := true) (ty := .int) C (by decide +kernel) (Or.inr ⟨rfl, kw K hw q4695, hnm, rfl⟩) (fun _ h => h) (Nat.le_of_ble_eq_true rfl) (Nat.le_of_ble_eq_true rfl) (Nat.le_of_ble_eq_true rfl) rfl rfl (by decide) (fs_one (⟨rfl, ff_99_395 s0 H0 oa D⟩))) ?_
  refine fs_c1 (fs_getf (pc := 125) (n := 1665544590) (idx := 13) (ref := "BoardMachineModel$Signals") (O := "BoardMachineModel$Signals") (name := "compares") (desc := "[J") C (by decide +kernel) (Or.inl (kw K hw q4697)) (fun _ h => h) (Nat.le_of_ble_eq_true rfl) (Nat.le_of_ble_eq_true rfl) (fs_one (⟨_, ff_99_397 s0 H0 oa D⟩))) ?_
  refine fs_c1 (fs_ldcl (pc := 129) (idx := 52) (v := -1) C (by decide +kernel) (kw K hw q4693)) ?_
  exact fs_c0
theorem hX97_four (n : Nat) : fe_H (sX97_four) cX97_four [0, 2] fe_kv [2] 31 (fun j => dX97_four (FX97_four_0 n (FX97_four_L2 n j)) (FX97_four_L2 n j)) := by
  intro j pc L st M r hc h
  rcases fe_mem_c hc with rfl | hc
  · obtain ⟨w0, m0, h⟩ := fe_lR_d h
    obtain ⟨w1, m1, h⟩ := fe_lL_d h
    obtain ⟨rfl, hz⟩ := fe_t0_d h
    exact ⟨[(0, .ref w0), (1, .long w1)], (fe_cs m0 (fe_cs m1 fe_nl)), Or.inr ((bX97_four_0 (FX97_four_0 n (FX97_four_L2 n j)) (FX97_four_L2 n j) w0 w1 M).symm.trans hz)⟩
  rcases fe_mem_c hc with rfl | hc
  · obtain ⟨w0, m0, h⟩ := fe_lR_d h
    obtain ⟨w1, m1, h⟩ := fe_lL_d h
    obtain ⟨w3, m3, h⟩ := fe_lI_d h
    obtain ⟨rfl, hz⟩ := fe_t0_d h
    cases j with
    | zero => exact fe_no hz
    | succ j => exact ⟨[(0, .ref w0), (1, .long w1), (3, .int w3)], (fe_cs m0 (fe_cs m1 (fe_cs m3 fe_nl))), Or.inl ⟨j, rfl, (bX97_four_2 (FX97_four_0 n (FX97_four_L2 n j)) (FX97_four_L2 n j) w0 w1 w3 M).symm.trans hz⟩⟩
  exact fe_mem_0 hc
theorem vX97_four (n : Nat) : fe_SB (sX97_four) := by
  refine ⟨?_, ?_, ?_, ?_⟩
  · intro i As M r h
    exact fe_no h
  · intro i As M r h
    exact fe_no h
  · intro i As M r h
    exact fe_no h
  · intro i As M r h
    exact fe_no h
theorem eX97_four (g0 : Nat → Int64 → FM → Option (FM)) (k2 : Nat → Int64 → Int32 → FM → Option (FM)) (a0 : Nat) (a1 : Int64) (M : FM) : dX97_four g0 k2 0 [(0, .ref a0), (1, .long a1)] [] M = g0 a0 a1 M := by rfl
theorem mX97_four (n : Nat) (a0 : Nat) (a1 : Int64) (M : FM) (r : FM) (h : FX97_four n a0 a1 M = some r) : fm_nx M ≤ fm_nx r ∧ fm_ns M ≤ fm_ns r :=
  fe_mono (L0 := [(0, .ref a0), (1, .long a1)]) (vX97_four n) (by decide +kernel) (hX97_four n) (fe_kv_k r) n rfl ((eX97_four (FX97_four_0 n (FX97_four_L2 n n)) (FX97_four_L2 n n) a0 a1 M).trans h)
theorem zX97_four {s0 : State} {H0 : Heap} {oa : Nat → Nat} {D : va_G} (K : fk s0 H0 oa D) (l : Launch) (n : Nat) (a0 : Nat) (a1 : Int64) (M : FM) (r : FM) (h : FX97_four n a0 a1 M = some r) : fs_Con (fk_E s0 H0 oa D) l 1 ⟨"BoardMachineModel$Tree", "four", "(J)V"⟩ prog_119_method_2_code 4 (Option.none : Option Jvm.ClassFile.FieldType) [.ref a0, .long a1] M none r := by
  refine fs_method (own := "BoardMachineModel$Tree") rfl (by decide) K.2.1 (by rw [fe_slen]; exact (Nat.le_of_ble_eq_true rfl)) (mX97_four n a0 a1 M r h) (hX97_four n) n rfl (L0 := [(0, .ref a0), (1, .long a1)]) (fun E => fe_args_e E [.ref a0, .long a1] 0) ((eX97_four (FX97_four_0 n (FX97_four_L2 n n)) (FX97_four_L2 n n) a0 a1 M).trans h) (fe_kv_k r) (fun H hR => fs_nr_o (by decide) (by decide)) ?_
  intro p e s m args below meth c Q C hnm
  have hw : s0.WarmedH s.vm := C.2.2.2.2.1
  refine fe_all C fk_hwr cX97_four [7, 11, 28, 33] (by decide +kernel) (fe_fil (cps := [(7, 10, .getfield 1749434770), (11, 14, .getfield 1753629072), (28, 31, .getfield 1753629072), (33, 36, .putfield 1753629072)]) (by decide +kernel) ?_)
  refine fs_c1 (fs_getf (pc := 7) (n := 1749434770) (idx := 13) (ref := "BoardMachineModel$Tree") (O := "BoardMachineModel$Tree") (name := "structure") (desc := "[I") C (by decide +kernel) (Or.inl (kw K hw q4926)) (fun _ h => h) (Nat.le_of_ble_eq_true rfl) (Nat.le_of_ble_eq_true rfl) (fs_one (⟨_, ff_100_417 s0 H0 oa D⟩))) ?_
  refine fs_c1 (fs_getf (pc := 11) (n := 1753629072) (idx := 26) (ref := "BoardMachineModel$Tree") (O := "BoardMachineModel$Tree") (name := "size") (desc := "I") C (by decide +kernel) (Or.inl (kw K hw q4927)) (fun _ h => h) (Nat.le_of_ble_eq_true rfl) (Nat.le_of_ble_eq_true rfl) (fs_one (⟨_, ff_100_418 s0 H0 oa D⟩))) ?_
  refine fs_c1 (fs_getf (pc := 28) (n := 1753629072) (idx := 26) (ref := "BoardMachineModel$Tree") (O := "BoardMachineModel$Tree") (name := "size") (desc := "I") C (by decide +kernel) (Or.inl (kw K hw q4927)) (fun _ h => h) (Nat.le_of_ble_eq_true rfl) (Nat.le_of_ble_eq_true rfl) (fs_one (⟨_, ff_100_418 s0 H0 oa D⟩))) ?_
  refine fs_c1 (fs_putf (pc := 33) (n := 1753629072) (idx := 26) (ref := "BoardMachineModel$Tree") (O := "BoardMachineModel$Tree") (name := "size") (desc := "I") (fin := false) (ty := .int) C (by decide +kernel) (Or.inl ⟨rfl, Or.inl (kw K hw q4927)⟩) (fun _ h => h) (Nat.le_of_ble_eq_true rfl) (Nat.le_of_ble_eq_true rfl) (Nat.le_of_ble_eq_true rfl) rfl rfl (by decide) (fs_one (⟨rfl, ff_100_418 s0 H0 oa D⟩))) ?_
  exact fs_c0
theorem hX97_characters (n : Nat) : fe_H (sX97_characters FJ1_length FJ1_charAt) cX97_characters [0, 2] fe_kv [2] 40 (fun j => dX97_characters (FX97_characters_0 n (FX97_characters_L2 n j)) (FX97_characters_L2 n j)) := by
  intro j pc L st M r hc h
  rcases fe_mem_c hc with rfl | hc
  · obtain ⟨w0, m0, h⟩ := fe_lR_d h
    obtain ⟨w1, m1, h⟩ := fe_lR_d h
    obtain ⟨rfl, hz⟩ := fe_t0_d h
    exact ⟨[(0, .ref w0), (1, .ref w1)], (fe_cs m0 (fe_cs m1 fe_nl)), Or.inr ((bX97_characters_0 FJ1_length FJ1_charAt (FX97_characters_0 n (FX97_characters_L2 n j)) (FX97_characters_L2 n j) w0 w1 M).symm.trans hz)⟩
  rcases fe_mem_c hc with rfl | hc
  · obtain ⟨w0, m0, h⟩ := fe_lR_d h
    obtain ⟨w1, m1, h⟩ := fe_lR_d h
    obtain ⟨w2, m2, h⟩ := fe_lI_d h
    obtain ⟨rfl, hz⟩ := fe_t0_d h
    cases j with
    | zero => exact fe_no hz
    | succ j => exact ⟨[(0, .ref w0), (1, .ref w1), (2, .int w2)], (fe_cs m0 (fe_cs m1 (fe_cs m2 fe_nl))), Or.inl ⟨j, rfl, (bX97_characters_2 FJ1_length FJ1_charAt (FX97_characters_0 n (FX97_characters_L2 n j)) (FX97_characters_L2 n j) w0 w1 w2 M).symm.trans hz⟩⟩
  exact fe_mem_0 hc
theorem vX97_characters (n : Nat) : fe_SB (sX97_characters FJ1_length FJ1_charAt) := by
  refine ⟨?_, ?_, ?_, ?_⟩
  · intro i As M r h
    exact fe_no h
  · intro i As M r h
    rcases fe_bc h with h | h
    · obtain ⟨v0, t0, rfl, g0⟩ := fe_tR_d h
      obtain ⟨rfl, hz⟩ := fe_t0_d g0
      exact mJ1_length v0 M r hz
    rcases fe_bc h with h | h
    · obtain ⟨v0, t0, rfl, g0⟩ := fe_tR_d h
      obtain ⟨v1, t1, rfl, g1⟩ := fe_tI_d g0
      obtain ⟨rfl, hz⟩ := fe_t0_d g1
      exact mJ1_charAt v0 v1 M r hz
    exact fe_no h
  · intro i As M r h
    exact fe_no h
  · intro i As M r h
    exact fe_no h
theorem eX97_characters (g0 : Nat → Nat → FM → Option (FM)) (k2 : Nat → Nat → Int32 → FM → Option (FM)) (a0 : Nat) (a1 : Nat) (M : FM) : dX97_characters g0 k2 0 [(0, .ref a0), (1, .ref a1)] [] M = g0 a0 a1 M := by rfl
theorem mX97_characters (n : Nat) (a0 : Nat) (a1 : Nat) (M : FM) (r : FM) (h : FX97_characters n a0 a1 M = some r) : fm_nx M ≤ fm_nx r ∧ fm_ns M ≤ fm_ns r :=
  fe_mono (L0 := [(0, .ref a0), (1, .ref a1)]) (vX97_characters n) (by decide +kernel) (hX97_characters n) (fe_kv_k r) n rfl ((eX97_characters (FX97_characters_0 n (FX97_characters_L2 n n)) (FX97_characters_L2 n n) a0 a1 M).trans h)
theorem zX97_characters {s0 : State} {H0 : Heap} {oa : Nat → Nat} {D : va_G} (K : fk s0 H0 oa D) (l : Launch) (n : Nat) (a0 : Nat) (a1 : Nat) (M : FM) (r : FM) (h : FX97_characters n a0 a1 M = some r) : fs_Con (fk_E s0 H0 oa D) l 5 ⟨"BoardMachineModel$Tree", "characters", "(Ljava/lang/String;)V"⟩ prog_119_method_4_code 3 (Option.none : Option Jvm.ClassFile.FieldType) [.ref a0, .ref a1] M none r := by
  have o0 : fs_OS (sX97_characters FJ1_length FJ1_charAt) 0 1 (fs_Con (fk_E s0 H0 oa D) l 2 ⟨"java/lang/String", "length", "()I"⟩ prog_130_method_54_code 1 (Option.some Jvm.ClassFile.FieldType.int)) := by
    intro As M r h
    obtain ⟨v0, t0, rfl, g0⟩ := fe_tR_d h
    obtain ⟨rfl, hz⟩ := fe_t0_d g0
    exact zJ1_length K l v0 M r hz
  have o1 : fs_OS (sX97_characters FJ1_length FJ1_charAt) 1 1 (fs_Con (fk_E s0 H0 oa D) l 4 ⟨"java/lang/String", "charAt", "(I)C"⟩ prog_130_method_56_code 2 (Option.some Jvm.ClassFile.FieldType.char)) := by
    intro As M r h
    obtain ⟨v0, t0, rfl, g0⟩ := fe_tR_d h
    obtain ⟨v1, t1, rfl, g1⟩ := fe_tI_d g0
    obtain ⟨rfl, hz⟩ := fe_t0_d g1
    exact zJ1_charAt K l v0 v1 M r hz
  refine fs_method (own := "BoardMachineModel$Tree") rfl (by decide) K.2.1 (by rw [fe_slen]; exact (Nat.le_of_ble_eq_true rfl)) (mX97_characters n a0 a1 M r h) (hX97_characters n) n rfl (L0 := [(0, .ref a0), (1, .ref a1)]) (fun E => fe_args_e E [.ref a0, .ref a1] 0) ((eX97_characters (FX97_characters_0 n (FX97_characters_L2 n n)) (FX97_characters_L2 n n) a0 a1 M).trans h) (fe_kv_k r) (fun H hR => fs_nr_o (by decide) (by decide)) ?_
  intro p e s m args below meth c Q C hnm
  have hw : s0.WarmedH s.vm := C.2.2.2.2.1
  refine fe_all C fk_hwr cX97_characters [4, 11, 15, 20, 26, 31, 41, 45, 52, 57] (by decide +kernel) (fe_fil (cps := [(4, 7, .invokevirtual 5250055), (11, 14, .getfield 1749434770), (15, 18, .getfield 1753629072), (20, 23, .invokevirtual 76553223), (26, 29, .getfield 1753629072), (31, 34, .putfield 1753629072), (41, 44, .getfield 1749434770), (45, 48, .getfield 1753629072), (52, 55, .getfield 1753629072), (57, 60, .putfield 1753629072)]) (by decide +kernel) ?_)
  refine fs_c1 (fs_inv_virtual (pc := 4) (n := 5250055) C (Nat.le_of_ble_eq_true rfl) (Nat.le_of_ble_eq_true rfl) (fs_lk_virtual (idx := 34) (y := ⟨"java/lang/String", "length", "()I"⟩) (bytes := prog_130_method_54_code) (maxL := 1) (rt := (Option.some Jvm.ClassFile.FieldType.int)) (d := 2) C (Nat.le_of_ble_eq_true rfl) (Nat.le_of_ble_eq_true rfl) (by decide +kernel) (kw K hw q2168) (kw K hw q402) (kw K hw q2166) (Or.inl (kw K hw q4783)) ⟨by decide, by decide⟩ rfl (Nat.le_of_ble_eq_true rfl) (Nat.le_of_ble_eq_true rfl) (fs_one (⟨_, rfl, kw K hw q2167⟩))) fs_con_mono o0) ?_
  refine fs_c1 (fs_getf (pc := 11) (n := 1749434770) (idx := 13) (ref := "BoardMachineModel$Tree") (O := "BoardMachineModel$Tree") (name := "structure") (desc := "[I") C (by decide +kernel) (Or.inl (kw K hw q4926)) (fun _ h => h) (Nat.le_of_ble_eq_true rfl) (Nat.le_of_ble_eq_true rfl) (fs_one (⟨_, ff_100_417 s0 H0 oa D⟩))) ?_
  refine fs_c1 (fs_getf (pc := 15) (n := 1753629072) (idx := 26) (ref := "BoardMachineModel$Tree") (O := "BoardMachineModel$Tree") (name := "size") (desc := "I") C (by decide +kernel) (Or.inl (kw K hw q4927)) (fun _ h => h) (Nat.le_of_ble_eq_true rfl) (Nat.le_of_ble_eq_true rfl) (fs_one (⟨_, ff_100_418 s0 H0 oa D⟩))) ?_
  refine fs_c1 (fs_inv_virtual (pc := 20) (n := 76553223) C (Nat.le_of_ble_eq_true rfl) (Nat.le_of_ble_eq_true rfl) (fs_lk_virtual (idx := 40) (y := ⟨"java/lang/String", "charAt", "(I)C"⟩) (bytes := prog_130_method_56_code) (maxL := 2) (rt := (Option.some Jvm.ClassFile.FieldType.char)) (d := 4) C (Nat.le_of_ble_eq_true rfl) (Nat.le_of_ble_eq_true rfl) (by decide +kernel) (kw K hw q2178) (kw K hw q402) (kw K hw q2176) (Or.inl (kw K hw q4784)) ⟨by decide, by decide⟩ rfl (Nat.le_of_ble_eq_true rfl) (Nat.le_of_ble_eq_true rfl) (fs_one (⟨_, rfl, kw K hw q2177⟩))) fs_con_mono o1) ?_
  refine fs_c1 (fs_getf (pc := 26) (n := 1753629072) (idx := 26) (ref := "BoardMachineModel$Tree") (O := "BoardMachineModel$Tree") (name := "size") (desc := "I") C (by decide +kernel) (Or.inl (kw K hw q4927)) (fun _ h => h) (Nat.le_of_ble_eq_true rfl) (Nat.le_of_ble_eq_true rfl) (fs_one (⟨_, ff_100_418 s0 H0 oa D⟩))) ?_
  refine fs_c1 (fs_putf (pc := 31) (n := 1753629072) (idx := 26) (ref := "BoardMachineModel$Tree") (O := "BoardMachineModel$Tree") (name := "size") (desc := "I") (fin := false) (ty := .int) C (by decide +kernel) (Or.inl ⟨rfl, Or.inl (kw K hw q4927)⟩) (fun _ h => h) (Nat.le_of_ble_eq_true rfl) (Nat.le_of_ble_eq_true rfl) (Nat.le_of_ble_eq_true rfl) rfl rfl (by decide) (fs_one (⟨rfl, ff_100_418 s0 H0 oa D⟩))) ?_
  refine fs_c1 (fs_getf (pc := 41) (n := 1749434770) (idx := 13) (ref := "BoardMachineModel$Tree") (O := "BoardMachineModel$Tree") (name := "structure") (desc := "[I") C (by decide +kernel) (Or.inl (kw K hw q4926)) (fun _ h => h) (Nat.le_of_ble_eq_true rfl) (Nat.le_of_ble_eq_true rfl) (fs_one (⟨_, ff_100_417 s0 H0 oa D⟩))) ?_
  refine fs_c1 (fs_getf (pc := 45) (n := 1753629072) (idx := 26) (ref := "BoardMachineModel$Tree") (O := "BoardMachineModel$Tree") (name := "size") (desc := "I") C (by decide +kernel) (Or.inl (kw K hw q4927)) (fun _ h => h) (Nat.le_of_ble_eq_true rfl) (Nat.le_of_ble_eq_true rfl) (fs_one (⟨_, ff_100_418 s0 H0 oa D⟩))) ?_
  refine fs_c1 (fs_getf (pc := 52) (n := 1753629072) (idx := 26) (ref := "BoardMachineModel$Tree") (O := "BoardMachineModel$Tree") (name := "size") (desc := "I") C (by decide +kernel) (Or.inl (kw K hw q4927)) (fun _ h => h) (Nat.le_of_ble_eq_true rfl) (Nat.le_of_ble_eq_true rfl) (fs_one (⟨_, ff_100_418 s0 H0 oa D⟩))) ?_
  refine fs_c1 (fs_putf (pc := 57) (n := 1753629072) (idx := 26) (ref := "BoardMachineModel$Tree") (O := "BoardMachineModel$Tree") (name := "size") (desc := "I") (fin := false) (ty := .int) C (by decide +kernel) (Or.inl ⟨rfl, Or.inl (kw K hw q4927)⟩) (fun _ h => h) (Nat.le_of_ble_eq_true rfl) (Nat.le_of_ble_eq_true rfl) (Nat.le_of_ble_eq_true rfl) rfl rfl (by decide) (fs_one (⟨rfl, ff_100_418 s0 H0 oa D⟩))) ?_
  exact fs_c0
theorem hX97_fillUp (n : Nat) : fe_H (sX97_fillUp) cX97_fillUp [0] fe_kv [0] 24 (fun j => dX97_fillUp (FX97_fillUp_L0 n j)) := by
  intro j pc L st M r hc h
  rcases fe_mem_c hc with rfl | hc
  · obtain ⟨w0, m0, h⟩ := fe_lR_d h
    obtain ⟨rfl, hz⟩ := fe_t0_d h
    cases j with
    | zero => exact fe_no hz
    | succ j => exact ⟨[(0, .ref w0)], (fe_cs m0 fe_nl), Or.inl ⟨j, rfl, (bX97_fillUp_0 (FX97_fillUp_L0 n j) w0 M).symm.trans hz⟩⟩
  exact fe_mem_0 hc
theorem vX97_fillUp (n : Nat) : fe_SB (sX97_fillUp) := by
  refine ⟨?_, ?_, ?_, ?_⟩
  · intro i As M r h
    exact fe_no h
  · intro i As M r h
    exact fe_no h
  · intro i As M r h
    exact fe_no h
  · intro i As M r h
    exact fe_no h
theorem eX97_fillUp (k0 : Nat → FM → Option (FM)) (a0 : Nat) (M : FM) : dX97_fillUp k0 0 [(0, .ref a0)] [] M = k0 a0 M := by rfl
theorem mX97_fillUp (n : Nat) (a0 : Nat) (M : FM) (r : FM) (h : FX97_fillUp n a0 M = some r) : fm_nx M ≤ fm_nx r ∧ fm_ns M ≤ fm_ns r :=
  fe_mono (L0 := [(0, .ref a0)]) (vX97_fillUp n) (by decide +kernel) (hX97_fillUp n) (fe_kv_k r) n rfl ((eX97_fillUp (FX97_fillUp_L0 n n) a0 M).trans h)
theorem zX97_fillUp {s0 : State} {H0 : Heap} {oa : Nat → Nat} {D : va_G} (K : fk s0 H0 oa D) (l : Launch) (n : Nat) (a0 : Nat) (M : FM) (r : FM) (h : FX97_fillUp n a0 M = some r) : fs_Con (fk_E s0 H0 oa D) l 1 ⟨"BoardMachineModel$Tree", "fillUp", "()V"⟩ prog_119_method_5_code 1 (Option.none : Option Jvm.ClassFile.FieldType) [.ref a0] M none r := by
  refine fs_method (own := "BoardMachineModel$Tree") rfl (by decide) K.2.1 (by rw [fe_slen]; exact (Nat.le_of_ble_eq_true rfl)) (mX97_fillUp n a0 M r h) (hX97_fillUp n) n rfl (L0 := [(0, .ref a0)]) (fun E => fe_args_e E [.ref a0] 0) ((eX97_fillUp (FX97_fillUp_L0 n n) a0 M).trans h) (fe_kv_k r) (fun H hR => fs_nr_o (by decide) (by decide)) ?_
  intro p e s m args below meth c Q C hnm
  have hw : s0.WarmedH s.vm := C.2.2.2.2.1
  refine fe_all C fk_hwr cX97_fillUp [1, 10, 14, 21, 26] (by decide +kernel) (fe_fil (cps := [(1, 4, .getfield 1753629072), (10, 13, .getfield 1749434770), (14, 17, .getfield 1753629072), (21, 24, .getfield 1753629072), (26, 29, .putfield 1753629072)]) (by decide +kernel) ?_)
  refine fs_c1 (fs_getf (pc := 1) (n := 1753629072) (idx := 26) (ref := "BoardMachineModel$Tree") (O := "BoardMachineModel$Tree") (name := "size") (desc := "I") C (by decide +kernel) (Or.inl (kw K hw q4927)) (fun _ h => h) (Nat.le_of_ble_eq_true rfl) (Nat.le_of_ble_eq_true rfl) (fs_one (⟨_, ff_100_418 s0 H0 oa D⟩))) ?_
  refine fs_c1 (fs_getf (pc := 10) (n := 1749434770) (idx := 13) (ref := "BoardMachineModel$Tree") (O := "BoardMachineModel$Tree") (name := "structure") (desc := "[I") C (by decide +kernel) (Or.inl (kw K hw q4926)) (fun _ h => h) (Nat.le_of_ble_eq_true rfl) (Nat.le_of_ble_eq_true rfl) (fs_one (⟨_, ff_100_417 s0 H0 oa D⟩))) ?_
  refine fs_c1 (fs_getf (pc := 14) (n := 1753629072) (idx := 26) (ref := "BoardMachineModel$Tree") (O := "BoardMachineModel$Tree") (name := "size") (desc := "I") C (by decide +kernel) (Or.inl (kw K hw q4927)) (fun _ h => h) (Nat.le_of_ble_eq_true rfl) (Nat.le_of_ble_eq_true rfl) (fs_one (⟨_, ff_100_418 s0 H0 oa D⟩))) ?_
  refine fs_c1 (fs_getf (pc := 21) (n := 1753629072) (idx := 26) (ref := "BoardMachineModel$Tree") (O := "BoardMachineModel$Tree") (name := "size") (desc := "I") C (by decide +kernel) (Or.inl (kw K hw q4927)) (fun _ h => h) (Nat.le_of_ble_eq_true rfl) (Nat.le_of_ble_eq_true rfl) (fs_one (⟨_, ff_100_418 s0 H0 oa D⟩))) ?_
  refine fs_c1 (fs_putf (pc := 26) (n := 1753629072) (idx := 26) (ref := "BoardMachineModel$Tree") (O := "BoardMachineModel$Tree") (name := "size") (desc := "I") (fin := false) (ty := .int) C (by decide +kernel) (Or.inl ⟨rfl, Or.inl (kw K hw q4927)⟩) (fun _ h => h) (Nat.le_of_ble_eq_true rfl) (Nat.le_of_ble_eq_true rfl) (Nat.le_of_ble_eq_true rfl) rfl rfl (by decide) (fs_one (⟨rfl, ff_100_418 s0 H0 oa D⟩))) ?_
  exact fs_c0
theorem hX97_node (n : Nat) : fe_H (sX97_node (FX97_four n) (FX97_characters n) (FX97_fillUp n)) cX97_node [0] fe_kv [] 20 (fun _ => dX97_node (FX97_node_0 n)) := by
  intro j pc L st M r hc h
  rcases fe_mem_c hc with rfl | hc
  · obtain ⟨w0, m0, h⟩ := fe_lR_d h
    obtain ⟨w1, m1, h⟩ := fe_lR_d h
    obtain ⟨rfl, hz⟩ := fe_t0_d h
    exact ⟨[(0, .ref w0), (1, .ref w1)], (fe_cs m0 (fe_cs m1 fe_nl)), Or.inr ((bX97_node_0 (FX97_four n) (FX97_characters n) (FX97_fillUp n) (FX97_node_0 n ) w0 w1 M).symm.trans hz)⟩
  exact fe_mem_0 hc
theorem vX97_node (n : Nat) : fe_SB (sX97_node (FX97_four n) (FX97_characters n) (FX97_fillUp n)) := by
  refine ⟨?_, ?_, ?_, ?_⟩
  · intro i As M r h
    rcases fe_bc h with h | h
    · obtain ⟨v0, t0, rfl, g0⟩ := fe_tR_d h
      obtain ⟨v1, t1, rfl, g1⟩ := fe_tL_d g0
      obtain ⟨rfl, hz⟩ := fe_t0_d g1
      exact mX97_four n v0 v1 M r hz
    rcases fe_bc h with h | h
    · obtain ⟨v0, t0, rfl, g0⟩ := fe_tR_d h
      obtain ⟨v1, t1, rfl, g1⟩ := fe_tR_d g0
      obtain ⟨rfl, hz⟩ := fe_t0_d g1
      exact mX97_characters n v0 v1 M r hz
    rcases fe_bc h with h | h
    · obtain ⟨v0, t0, rfl, g0⟩ := fe_tR_d h
      obtain ⟨rfl, hz⟩ := fe_t0_d g0
      exact mX97_fillUp n v0 M r hz
    exact fe_no h
  · intro i As M r h
    exact fe_no h
  · intro i As M r h
    exact fe_no h
  · intro i As M r h
    exact fe_no h
theorem eX97_node (g0 : Nat → Nat → FM → Option (FM)) (a0 : Nat) (a1 : Nat) (M : FM) : dX97_node g0 0 [(0, .ref a0), (1, .ref a1)] [] M = g0 a0 a1 M := by rfl
theorem mX97_node (n : Nat) (a0 : Nat) (a1 : Nat) (M : FM) (r : FM) (h : FX97_node n a0 a1 M = some r) : fm_nx M ≤ fm_nx r ∧ fm_ns M ≤ fm_ns r :=
  fe_mono (L0 := [(0, .ref a0), (1, .ref a1)]) (vX97_node n) (by decide +kernel) (hX97_node n) (fe_kv_k r) 0 rfl ((eX97_node (FX97_node_0 n ) a0 a1 M).trans h)
theorem zX97_node {s0 : State} {H0 : Heap} {oa : Nat → Nat} {D : va_G} (K : fk s0 H0 oa D) (l : Launch) (n : Nat) (a0 : Nat) (a1 : Nat) (M : FM) (r : FM) (h : FX97_node n a0 a1 M = some r) : fs_Con (fk_E s0 H0 oa D) l 6 ⟨"BoardMachineModel$Tree", "node", "(Ljava/lang/String;)V"⟩ prog_119_method_6_code 2 (Option.none : Option Jvm.ClassFile.FieldType) [.ref a0, .ref a1] M none r := by
  have o0 : fs_OS (sX97_node (FX97_four n) (FX97_characters n) (FX97_fillUp n)) 0 0 (fs_Con (fk_E s0 H0 oa D) l 1 ⟨"BoardMachineModel$Tree", "four", "(J)V"⟩ prog_119_method_2_code 4 (Option.none : Option Jvm.ClassFile.FieldType)) := by
    intro As M r h
    obtain ⟨v0, t0, rfl, g0⟩ := fe_tR_d h
    obtain ⟨v1, t1, rfl, g1⟩ := fe_tL_d g0
    obtain ⟨rfl, hz⟩ := fe_t0_d g1
    exact zX97_four K l n v0 v1 M r hz
  have o1 : fs_OS (sX97_node (FX97_four n) (FX97_characters n) (FX97_fillUp n)) 1 0 (fs_Con (fk_E s0 H0 oa D) l 5 ⟨"BoardMachineModel$Tree", "characters", "(Ljava/lang/String;)V"⟩ prog_119_method_4_code 3 (Option.none : Option Jvm.ClassFile.FieldType)) := by
    intro As M r h
    obtain ⟨v0, t0, rfl, g0⟩ := fe_tR_d h
    obtain ⟨v1, t1, rfl, g1⟩ := fe_tR_d g0
    obtain ⟨rfl, hz⟩ := fe_t0_d g1
    exact zX97_characters K l n v0 v1 M r hz
  have o2 : fs_OS (sX97_node (FX97_four n) (FX97_characters n) (FX97_fillUp n)) 2 0 (fs_Con (fk_E s0 H0 oa D) l 1 ⟨"BoardMachineModel$Tree", "fillUp", "()V"⟩ prog_119_method_5_code 1 (Option.none : Option Jvm.ClassFile.FieldType)) := by
    intro As M r h
    obtain ⟨v0, t0, rfl, g0⟩ := fe_tR_d h
    obtain ⟨rfl, hz⟩ := fe_t0_d g0
    exact zX97_fillUp K l n v0 M r hz
  refine fs_method (own := "BoardMachineModel$Tree") rfl (by decide) K.2.1 (by rw [fe_slen]; exact (Nat.le_of_ble_eq_true rfl)) (mX97_node n a0 a1 M r h) (hX97_node n) 0 rfl (L0 := [(0, .ref a0), (1, .ref a1)]) (fun E => fe_args_e E [.ref a0, .ref a1] 0) ((eX97_node (FX97_node_0 n ) a0 a1 M).trans h) (fe_kv_k r) (fun H hR => fs_nr_o (by decide) (by decide)) ?_
  intro p e s m args below meth c Q C hnm
  have hw : s0.WarmedH s.vm := C.2.2.2.2.1
  refine fe_all C fk_hwr cX97_node [2, 7, 11] (by decide +kernel) (fe_fil (cps := [(2, 5, .invokevirtual 8491108), (7, 10, .invokevirtual 75599972), (11, 14, .invokevirtual 138514532)]) (by decide +kernel) ?_)
  refine fs_c1 (fs_inv_virtual (pc := 2) (n := 8491108) C (Nat.le_of_ble_eq_true rfl) (Nat.le_of_ble_eq_true rfl) (fs_lk_virtual (idx := 30) (y := ⟨"BoardMachineModel$Tree", "four", "(J)V"⟩) (bytes := prog_119_method_2_code) (maxL := 4) (rt := (Option.none : Option Jvm.ClassFile.FieldType)) (d := 1) C (Nat.le_of_ble_eq_true rfl) (Nat.le_of_ble_eq_true rfl) (by decide +kernel) (kw K hw q4778) (kw K hw q415) (kw K hw q4777) (Or.inl (kw K hw q4775)) ⟨by decide, by decide⟩ rfl (Nat.le_of_ble_eq_true rfl) (Nat.le_of_ble_eq_true rfl) (fs_one (⟨_, rfl, kw K hw qs127⟩))) fs_con_mono o0) ?_
  refine fs_c1 (fs_inv_virtual (pc := 7) (n := 75599972) C (Nat.le_of_ble_eq_true rfl) (Nat.le_of_ble_eq_true rfl) (fs_lk_virtual (idx := 44) (y := ⟨"BoardMachineModel$Tree", "characters", "(Ljava/lang/String;)V"⟩) (bytes := prog_119_method_4_code) (maxL := 3) (rt := (Option.none : Option Jvm.ClassFile.FieldType)) (d := 5) C (Nat.le_of_ble_eq_true rfl) (Nat.le_of_ble_eq_true rfl) (by decide +kernel) (kw K hw q4782) (kw K hw q415) (kw K hw q4781) (Or.inl (kw K hw q4779)) ⟨by decide, by decide⟩ rfl (Nat.le_of_ble_eq_true rfl) (Nat.le_of_ble_eq_true rfl) (fs_one (⟨_, rfl, kw K hw qs128⟩))) fs_con_mono o1) ?_
  refine fs_c1 (fs_inv_virtual (pc := 11) (n := 138514532) C (Nat.le_of_ble_eq_true rfl) (Nat.le_of_ble_eq_true rfl) (fs_lk_virtual (idx := 48) (y := ⟨"BoardMachineModel$Tree", "fillUp", "()V"⟩) (bytes := prog_119_method_5_code) (maxL := 1) (rt := (Option.none : Option Jvm.ClassFile.FieldType)) (d := 1) C (Nat.le_of_ble_eq_true rfl) (Nat.le_of_ble_eq_true rfl) (by decide +kernel) (kw K hw q4788) (kw K hw q415) (kw K hw q4787) (Or.inl (kw K hw q4785)) ⟨by decide, by decide⟩ rfl (Nat.le_of_ble_eq_true rfl) (Nat.le_of_ble_eq_true rfl) (fs_one (⟨_, rfl, kw K hw qs129⟩))) fs_con_mono o2) ?_
  exact fs_c0
theorem hX97_isAt (n : Nat) : fe_H (sX97_isAt FJ1_length FJ1_charAt) cX97_isAt [0, 31, 32, 36, 72, 79] fe_ki [36] 50 (fun j => dX97_isAt (FX97_isAt_0 n (FX97_isAt_L36 n j)) (FX97_isAt_31 n (FX97_isAt_L36 n j)) (FX97_isAt_32 n (FX97_isAt_L36 n j)) (FX97_isAt_72 n (FX97_isAt_L36 n j)) (FX97_isAt_79 n (FX97_isAt_L36 n j)) (FX97_isAt_L36 n j)) := by
  intro j pc L st M r hc h
  rcases fe_mem_c hc with rfl | hc
  · obtain ⟨w0, m0, h⟩ := fe_lR_d h
    obtain ⟨w1, m1, h⟩ := fe_lR_d h
    obtain ⟨w2, m2, h⟩ := fe_lI_d h
    obtain ⟨rfl, hz⟩ := fe_t0_d h
    exact ⟨[(0, .ref w0), (1, .ref w1), (2, .int w2)], (fe_cs m0 (fe_cs m1 (fe_cs m2 fe_nl))), Or.inr ((bX97_isAt_0 FJ1_length FJ1_charAt (FX97_isAt_0 n (FX97_isAt_L36 n j)) (FX97_isAt_31 n (FX97_isAt_L36 n j)) (FX97_isAt_32 n (FX97_isAt_L36 n j)) (FX97_isAt_72 n (FX97_isAt_L36 n j)) (FX97_isAt_79 n (FX97_isAt_L36 n j)) (FX97_isAt_L36 n j) w0 w1 w2 M).symm.trans hz)⟩
  rcases fe_mem_c hc with rfl | hc
  · obtain ⟨w0, m0, h⟩ := fe_lR_d h
    obtain ⟨w1, m1, h⟩ := fe_lR_d h
    obtain ⟨w2, m2, h⟩ := fe_lI_d h
    obtain ⟨rfl, hz⟩ := fe_t0_d h
    exact ⟨[(0, .ref w0), (1, .ref w1), (2, .int w2)], (fe_cs m0 (fe_cs m1 (fe_cs m2 fe_nl))), Or.inr ((bX97_isAt_31 FJ1_length FJ1_charAt (FX97_isAt_0 n (FX97_isAt_L36 n j)) (FX97_isAt_31 n (FX97_isAt_L36 n j)) (FX97_isAt_32 n (FX97_isAt_L36 n j)) (FX97_isAt_72 n (FX97_isAt_L36 n j)) (FX97_isAt_79 n (FX97_isAt_L36 n j)) (FX97_isAt_L36 n j) w0 w1 w2 M).symm.trans hz)⟩
  rcases fe_mem_c hc with rfl | hc
  · obtain ⟨w0, m0, h⟩ := fe_lR_d h
    obtain ⟨w1, m1, h⟩ := fe_lR_d h
    obtain ⟨w2, m2, h⟩ := fe_lI_d h
    obtain ⟨s0, t0, rfl, g0⟩ := fe_tI_d h
    obtain ⟨rfl, hz⟩ := fe_t0_d g0
    exact ⟨[(0, .ref w0), (1, .ref w1), (2, .int w2)], (fe_cs m0 (fe_cs m1 (fe_cs m2 fe_nl))), Or.inr ((bX97_isAt_32 FJ1_length FJ1_charAt (FX97_isAt_0 n (FX97_isAt_L36 n j)) (FX97_isAt_31 n (FX97_isAt_L36 n j)) (FX97_isAt_32 n (FX97_isAt_L36 n j)) (FX97_isAt_72 n (FX97_isAt_L36 n j)) (FX97_isAt_79 n (FX97_isAt_L36 n j)) (FX97_isAt_L36 n j) w0 w1 w2 s0 M).symm.trans hz)⟩
  rcases fe_mem_c hc with rfl | hc
  · obtain ⟨w0, m0, h⟩ := fe_lR_d h
    obtain ⟨w1, m1, h⟩ := fe_lR_d h
    obtain ⟨w2, m2, h⟩ := fe_lI_d h
    obtain ⟨w3, m3, h⟩ := fe_lI_d h
    obtain ⟨w4, m4, h⟩ := fe_lI_d h
    obtain ⟨rfl, hz⟩ := fe_t0_d h
    cases j with
    | zero => exact fe_no hz
    | succ j => exact ⟨[(0, .ref w0), (1, .ref w1), (2, .int w2), (3, .int w3), (4, .int w4)], (fe_cs m0 (fe_cs m1 (fe_cs m2 (fe_cs m3 (fe_cs m4 fe_nl))))), Or.inl ⟨j, rfl, (bX97_isAt_36 FJ1_length FJ1_charAt (FX97_isAt_0 n (FX97_isAt_L36 n j)) (FX97_isAt_31 n (FX97_isAt_L36 n j)) (FX97_isAt_32 n (FX97_isAt_L36 n j)) (FX97_isAt_72 n (FX97_isAt_L36 n j)) (FX97_isAt_79 n (FX97_isAt_L36 n j)) (FX97_isAt_L36 n j) w0 w1 w2 w3 w4 M).symm.trans hz⟩⟩
  rcases fe_mem_c hc with rfl | hc
  · obtain ⟨w0, m0, h⟩ := fe_lR_d h
    obtain ⟨w1, m1, h⟩ := fe_lR_d h
    obtain ⟨w2, m2, h⟩ := fe_lI_d h
    obtain ⟨w4, m4, h⟩ := fe_lI_d h
    obtain ⟨s0, t0, rfl, g0⟩ := fe_tI_d h
    obtain ⟨rfl, hz⟩ := fe_t0_d g0
    exact ⟨[(0, .ref w0), (1, .ref w1), (2, .int w2), (4, .int w4)], (fe_cs m0 (fe_cs m1 (fe_cs m2 (fe_cs m4 fe_nl)))), Or.inr ((bX97_isAt_72 FJ1_length FJ1_charAt (FX97_isAt_0 n (FX97_isAt_L36 n j)) (FX97_isAt_31 n (FX97_isAt_L36 n j)) (FX97_isAt_32 n (FX97_isAt_L36 n j)) (FX97_isAt_72 n (FX97_isAt_L36 n j)) (FX97_isAt_79 n (FX97_isAt_L36 n j)) (FX97_isAt_L36 n j) w0 w1 w2 w4 s0 M).symm.trans hz)⟩
  rcases fe_mem_c hc with rfl | hc
  · obtain ⟨w3, m3, h⟩ := fe_lI_d h
    obtain ⟨rfl, hz⟩ := fe_t0_d h
    exact ⟨[(3, .int w3)], (fe_cs m3 fe_nl), Or.inr ((bX97_isAt_79 FJ1_length FJ1_charAt (FX97_isAt_0 n (FX97_isAt_L36 n j)) (FX97_isAt_31 n (FX97_isAt_L36 n j)) (FX97_isAt_32 n (FX97_isAt_L36 n j)) (FX97_isAt_72 n (FX97_isAt_L36 n j)) (FX97_isAt_79 n (FX97_isAt_L36 n j)) (FX97_isAt_L36 n j) w3 M).symm.trans hz)⟩
  exact fe_mem_0 hc
theorem vX97_isAt (n : Nat) : fe_SB (sX97_isAt FJ1_length FJ1_charAt) := by
  refine ⟨?_, ?_, ?_, ?_⟩
  · intro i As M r h
    exact fe_no h
  · intro i As M r h
    rcases fe_bc h with h | h
    · obtain ⟨v0, t0, rfl, g0⟩ := fe_tR_d h
      obtain ⟨rfl, hz⟩ := fe_t0_d g0
      exact mJ1_length v0 M r hz
    rcases fe_bc h with h | h
    · obtain ⟨v0, t0, rfl, g0⟩ := fe_tR_d h
      obtain ⟨v1, t1, rfl, g1⟩ := fe_tI_d g0
      obtain ⟨rfl, hz⟩ := fe_t0_d g1
      exact mJ1_charAt v0 v1 M r hz
    exact fe_no h
  · intro i As M r h
    exact fe_no h
  · intro i As M r h
    exact fe_no h
theorem eX97_isAt (g0 : Nat → Nat → Int32 → FM → Option (Int32 × FM)) (g31 : Nat → Nat → Int32 → FM → Option (Int32 × FM)) (g32 : Nat → Nat → Int32 → Int32 → FM → Option (Int32 × FM)) (g72 : Nat → Nat → Int32 → Int32 → Int32 → FM → Option (Int32 × FM)) (g79 : Int32 → FM → Option (Int32 × FM)) (k36 : Nat → Nat → Int32 → Int32 → Int32 → FM → Option (Int32 × FM)) (a0 : Nat) (a1 : Nat) (a2 : Int32) (M : FM) : dX97_isAt g0 g31 g32 g72 g79 k36 0 [(0, .ref a0), (1, .ref a1), (2, .int a2)] [] M = g0 a0 a1 a2 M := by rfl
theorem mX97_isAt (n : Nat) (a0 : Nat) (a1 : Nat) (a2 : Int32) (M : FM) (r : Int32 × FM) (h : FX97_isAt n a0 a1 a2 M = some r) : fm_nx M ≤ fm_nx r.2 ∧ fm_ns M ≤ fm_ns r.2 :=
  fe_mono (L0 := [(0, .ref a0), (1, .ref a1), (2, .int a2)]) (vX97_isAt n) (by decide +kernel) (hX97_isAt n) (fe_ki_k r) n rfl ((eX97_isAt (FX97_isAt_0 n (FX97_isAt_L36 n n)) (FX97_isAt_31 n (FX97_isAt_L36 n n)) (FX97_isAt_32 n (FX97_isAt_L36 n n)) (FX97_isAt_72 n (FX97_isAt_L36 n n)) (FX97_isAt_79 n (FX97_isAt_L36 n n)) (FX97_isAt_L36 n n) a0 a1 a2 M).trans h)
theorem zX97_isAt {s0 : State} {H0 : Heap} {oa : Nat → Nat} {D : va_G} (K : fk s0 H0 oa D) (l : Launch) (n : Nat) (a0 : Nat) (a1 : Nat) (a2 : Int32) (M : FM) (r : Int32 × FM) (h : FX97_isAt n a0 a1 a2 M = some r) : fs_Con (fk_E s0 H0 oa D) l 5 ⟨"BoardMachineModel$Tree", "isAt", "(Ljava/lang/String;I)Z"⟩ prog_119_method_8_code 5 (Option.some Jvm.ClassFile.FieldType.boolean) [.ref a0, .ref a1, .int a2] M (some (.int r.1)) r.2 := by
  have o0 : fs_OS (sX97_isAt FJ1_length FJ1_charAt) 0 1 (fs_Con (fk_E s0 H0 oa D) l 2 ⟨"java/lang/String", "length", "()I"⟩ prog_130_method_54_code 1 (Option.some Jvm.ClassFile.FieldType.int)) := by
    intro As M r h
    obtain ⟨v0, t0, rfl, g0⟩ := fe_tR_d h
    obtain ⟨rfl, hz⟩ := fe_t0_d g0
    exact zJ1_length K l v0 M r hz
  have o1 : fs_OS (sX97_isAt FJ1_length FJ1_charAt) 1 1 (fs_Con (fk_E s0 H0 oa D) l 4 ⟨"java/lang/String", "charAt", "(I)C"⟩ prog_130_method_56_code 2 (Option.some Jvm.ClassFile.FieldType.char)) := by
    intro As M r h
    obtain ⟨v0, t0, rfl, g0⟩ := fe_tR_d h
    obtain ⟨v1, t1, rfl, g1⟩ := fe_tI_d g0
    obtain ⟨rfl, hz⟩ := fe_t0_d g1
    exact zJ1_charAt K l v0 v1 M r hz
  refine fs_method (own := "BoardMachineModel$Tree") rfl (by decide) K.2.1 (by rw [fe_slen]; exact (Nat.le_of_ble_eq_true rfl)) (mX97_isAt n a0 a1 a2 M r h) (hX97_isAt n) n rfl (L0 := [(0, .ref a0), (1, .ref a1), (2, .int a2)]) (fun E => fe_args_e E [.ref a0, .ref a1, .int a2] 0) ((eX97_isAt (FX97_isAt_0 n (FX97_isAt_L36 n n)) (FX97_isAt_31 n (FX97_isAt_L36 n n)) (FX97_isAt_32 n (FX97_isAt_L36 n n)) (FX97_isAt_72 n (FX97_isAt_L36 n n)) (FX97_isAt_79 n (FX97_isAt_L36 n n)) (FX97_isAt_L36 n n) a0 a1 a2 M).trans h) (fe_ki_k r) (fun H hR => fs_nr_o (by decide) (by decide)) ?_
  intro p e s m args below meth c Q C hnm
  have hw : s0.WarmedH s.vm := C.2.2.2.2.1
  refine fe_all C fk_hwr cX97_isAt [2, 7, 14, 19, 39, 50, 61] (by decide +kernel) (fe_fil (cps := [(2, 5, .invokevirtual 5250055), (7, 10, .getfield 1762017680), (14, 17, .getfield 1757823378), (19, 22, .invokevirtual 5250055), (39, 42, .invokevirtual 5250055), (50, 53, .getfield 1757823378), (61, 64, .invokevirtual 76553223)]) (by decide +kernel) ?_)
  refine fs_c1 (fs_inv_virtual (pc := 2) (n := 5250055) C (Nat.le_of_ble_eq_true rfl) (Nat.le_of_ble_eq_true rfl) (fs_lk_virtual (idx := 34) (y := ⟨"java/lang/String", "length", "()I"⟩) (bytes := prog_130_method_54_code) (maxL := 1) (rt := (Option.some Jvm.ClassFile.FieldType.int)) (d := 2) C (Nat.le_of_ble_eq_true rfl) (Nat.le_of_ble_eq_true rfl) (by decide +kernel) (kw K hw q2168) (kw K hw q402) (kw K hw q2166) (Or.inl (kw K hw q4783)) ⟨by decide, by decide⟩ rfl (Nat.le_of_ble_eq_true rfl) (Nat.le_of_ble_eq_true rfl) (fs_one (⟨_, rfl, kw K hw q2167⟩))) fs_con_mono o0) ?_
  refine fs_c1 (fs_getf (pc := 7) (n := 1762017680) (idx := 53) (ref := "BoardMachineModel$Tree") (O := "BoardMachineModel$Tree") (name := "nameSize") (desc := "I") C (by decide +kernel) (Or.inl (kw K hw q4929)) (fun _ h => h) (Nat.le_of_ble_eq_true rfl) (Nat.le_of_ble_eq_true rfl) (fs_one (⟨_, ff_100_420 s0 H0 oa D⟩))) ?_
  refine fs_c1 (fs_getf (pc := 14) (n := 1757823378) (idx := 16) (ref := "BoardMachineModel$Tree") (O := "BoardMachineModel$Tree") (name := "names") (desc := "[I") C (by decide +kernel) (Or.inl (kw K hw q4928)) (fun _ h => h) (Nat.le_of_ble_eq_true rfl) (Nat.le_of_ble_eq_true rfl) (fs_one (⟨_, ff_100_419 s0 H0 oa D⟩))) ?_
  refine fs_c1 (fs_inv_virtual (pc := 19) (n := 5250055) C (Nat.le_of_ble_eq_true rfl) (Nat.le_of_ble_eq_true rfl) (fs_lk_virtual (idx := 34) (y := ⟨"java/lang/String", "length", "()I"⟩) (bytes := prog_130_method_54_code) (maxL := 1) (rt := (Option.some Jvm.ClassFile.FieldType.int)) (d := 2) C (Nat.le_of_ble_eq_true rfl) (Nat.le_of_ble_eq_true rfl) (by decide +kernel) (kw K hw q2168) (kw K hw q402) (kw K hw q2166) (Or.inl (kw K hw q4783)) ⟨by decide, by decide⟩ rfl (Nat.le_of_ble_eq_true rfl) (Nat.le_of_ble_eq_true rfl) (fs_one (⟨_, rfl, kw K hw q2167⟩))) fs_con_mono o0) ?_
  refine fs_c1 (fs_inv_virtual (pc := 39) (n := 5250055) C (Nat.le_of_ble_eq_true rfl) (Nat.le_of_ble_eq_true rfl) (fs_lk_virtual (idx := 34) (y := ⟨"java/lang/String", "length", "()I"⟩) (bytes := prog_130_method_54_code) (maxL := 1) (rt := (Option.some Jvm.ClassFile.FieldType.int)) (d := 2) C (Nat.le_of_ble_eq_true rfl) (Nat.le_of_ble_eq_true rfl) (by decide +kernel) (kw K hw q2168) (kw K hw q402) (kw K hw q2166) (Or.inl (kw K hw q4783)) ⟨by decide, by decide⟩ rfl (Nat.le_of_ble_eq_true rfl) (Nat.le_of_ble_eq_true rfl) (fs_one (⟨_, rfl, kw K hw q2167⟩))) fs_con_mono o0) ?_
  refine fs_c1 (fs_getf (pc := 50) (n := 1757823378) (idx := 16) (ref := "BoardMachineModel$Tree") (O := "BoardMachineModel$Tree") (name := "names") (desc := "[I") C (by decide +kernel) (Or.inl (kw K hw q4928)) (fun _ h => h) (Nat.le_of_ble_eq_true rfl) (Nat.le_of_ble_eq_true rfl) (fs_one (⟨_, ff_100_419 s0 H0 oa D⟩))) ?_
  refine fs_c1 (fs_inv_virtual (pc := 61) (n := 76553223) C (Nat.le_of_ble_eq_true rfl) (Nat.le_of_ble_eq_true rfl) (fs_lk_virtual (idx := 40) (y := ⟨"java/lang/String", "charAt", "(I)C"⟩) (bytes := prog_130_method_56_code) (maxL := 2) (rt := (Option.some Jvm.ClassFile.FieldType.char)) (d := 4) C (Nat.le_of_ble_eq_true rfl) (Nat.le_of_ble_eq_true rfl) (by decide +kernel) (kw K hw q2178) (kw K hw q402) (kw K hw q2176) (Or.inl (kw K hw q4784)) ⟨by decide, by decide⟩ rfl (Nat.le_of_ble_eq_true rfl) (Nat.le_of_ble_eq_true rfl) (fs_one (⟨_, rfl, kw K hw q2177⟩))) fs_con_mono o1) ?_
  exact fs_c0
theorem hX97_placeOf (n : Nat) : fe_H (sX97_placeOf (FX97_isAt n) FJ1_length FJ1_charAt) cX97_placeOf [0, 2, 19, 40, 50, 108] fe_ki [2, 19, 50] 65 (fun j => dX97_placeOf (FX97_placeOf_0 n (FX97_placeOf_L n j).1 (FX97_placeOf_L n j).2.1 (FX97_placeOf_L n j).2.2) (FX97_placeOf_40 n (FX97_placeOf_L n j).1 (FX97_placeOf_L n j).2.1 (FX97_placeOf_L n j).2.2) (FX97_placeOf_108 n (FX97_placeOf_L n j).1 (FX97_placeOf_L n j).2.1 (FX97_placeOf_L n j).2.2) (FX97_placeOf_L n j).1 (FX97_placeOf_L n j).2.1 (FX97_placeOf_L n j).2.2) := by
  intro j pc L st M r hc h
  rcases fe_mem_c hc with rfl | hc
  · obtain ⟨w0, m0, h⟩ := fe_lR_d h
    obtain ⟨w1, m1, h⟩ := fe_lR_d h
    obtain ⟨rfl, hz⟩ := fe_t0_d h
    exact ⟨[(0, .ref w0), (1, .ref w1)], (fe_cs m0 (fe_cs m1 fe_nl)), Or.inr ((bX97_placeOf_0 (FX97_isAt n) FJ1_length FJ1_charAt (FX97_placeOf_0 n (FX97_placeOf_L n j).1 (FX97_placeOf_L n j).2.1 (FX97_placeOf_L n j).2.2) (FX97_placeOf_40 n (FX97_placeOf_L n j).1 (FX97_placeOf_L n j).2.1 (FX97_placeOf_L n j).2.2) (FX97_placeOf_108 n (FX97_placeOf_L n j).1 (FX97_placeOf_L n j).2.1 (FX97_placeOf_L n j).2.2) (FX97_placeOf_L n j).1 (FX97_placeOf_L n j).2.1 (FX97_placeOf_L n j).2.2 w0 w1 M).symm.trans hz)⟩
  rcases fe_mem_c hc with rfl | hc
  · obtain ⟨w0, m0, h⟩ := fe_lR_d h
    obtain ⟨w1, m1, h⟩ := fe_lR_d h
    obtain ⟨w2, m2, h⟩ := fe_lI_d h
    obtain ⟨rfl, hz⟩ := fe_t0_d h
    cases j with
    | zero => exact fe_no hz
    | succ j => exact ⟨[(0, .ref w0), (1, .ref w1), (2, .int w2)], (fe_cs m0 (fe_cs m1 (fe_cs m2 fe_nl))), Or.inl ⟨j, rfl, (bX97_placeOf_2 (FX97_isAt n) FJ1_length FJ1_charAt (FX97_placeOf_0 n (FX97_placeOf_L n j).1 (FX97_placeOf_L n j).2.1 (FX97_placeOf_L n j).2.2) (FX97_placeOf_40 n (FX97_placeOf_L n j).1 (FX97_placeOf_L n j).2.1 (FX97_placeOf_L n j).2.2) (FX97_placeOf_108 n (FX97_placeOf_L n j).1 (FX97_placeOf_L n j).2.1 (FX97_placeOf_L n j).2.2) (FX97_placeOf_L n j).1 (FX97_placeOf_L n j).2.1 (FX97_placeOf_L n j).2.2 w0 w1 w2 M).symm.trans hz⟩⟩
  rcases fe_mem_c hc with rfl | hc
  · obtain ⟨w0, m0, h⟩ := fe_lR_d h
    obtain ⟨w1, m1, h⟩ := fe_lR_d h
    obtain ⟨w2, m2, h⟩ := fe_lI_d h
    obtain ⟨rfl, hz⟩ := fe_t0_d h
    cases j with
    | zero => exact fe_no hz
    | succ j => exact ⟨[(0, .ref w0), (1, .ref w1), (2, .int w2)], (fe_cs m0 (fe_cs m1 (fe_cs m2 fe_nl))), Or.inl ⟨j, rfl, (bX97_placeOf_19 (FX97_isAt n) FJ1_length FJ1_charAt (FX97_placeOf_0 n (FX97_placeOf_L n j).1 (FX97_placeOf_L n j).2.1 (FX97_placeOf_L n j).2.2) (FX97_placeOf_40 n (FX97_placeOf_L n j).1 (FX97_placeOf_L n j).2.1 (FX97_placeOf_L n j).2.2) (FX97_placeOf_108 n (FX97_placeOf_L n j).1 (FX97_placeOf_L n j).2.1 (FX97_placeOf_L n j).2.2) (FX97_placeOf_L n j).1 (FX97_placeOf_L n j).2.1 (FX97_placeOf_L n j).2.2 w0 w1 w2 M).symm.trans hz⟩⟩
  rcases fe_mem_c hc with rfl | hc
  · obtain ⟨w0, m0, h⟩ := fe_lR_d h
    obtain ⟨w1, m1, h⟩ := fe_lR_d h
    obtain ⟨w2, m2, h⟩ := fe_lI_d h
    obtain ⟨rfl, hz⟩ := fe_t0_d h
    exact ⟨[(0, .ref w0), (1, .ref w1), (2, .int w2)], (fe_cs m0 (fe_cs m1 (fe_cs m2 fe_nl))), Or.inr ((bX97_placeOf_40 (FX97_isAt n) FJ1_length FJ1_charAt (FX97_placeOf_0 n (FX97_placeOf_L n j).1 (FX97_placeOf_L n j).2.1 (FX97_placeOf_L n j).2.2) (FX97_placeOf_40 n (FX97_placeOf_L n j).1 (FX97_placeOf_L n j).2.1 (FX97_placeOf_L n j).2.2) (FX97_placeOf_108 n (FX97_placeOf_L n j).1 (FX97_placeOf_L n j).2.1 (FX97_placeOf_L n j).2.2) (FX97_placeOf_L n j).1 (FX97_placeOf_L n j).2.1 (FX97_placeOf_L n j).2.2 w0 w1 w2 M).symm.trans hz)⟩
  rcases fe_mem_c hc with rfl | hc
  · obtain ⟨w0, m0, h⟩ := fe_lR_d h
    obtain ⟨w1, m1, h⟩ := fe_lR_d h
    obtain ⟨w2, m2, h⟩ := fe_lI_d h
    obtain ⟨w3, m3, h⟩ := fe_lI_d h
    obtain ⟨rfl, hz⟩ := fe_t0_d h
    cases j with
    | zero => exact fe_no hz
    | succ j => exact ⟨[(0, .ref w0), (1, .ref w1), (2, .int w2), (3, .int w3)], (fe_cs m0 (fe_cs m1 (fe_cs m2 (fe_cs m3 fe_nl)))), Or.inl ⟨j, rfl, (bX97_placeOf_50 (FX97_isAt n) FJ1_length FJ1_charAt (FX97_placeOf_0 n (FX97_placeOf_L n j).1 (FX97_placeOf_L n j).2.1 (FX97_placeOf_L n j).2.2) (FX97_placeOf_40 n (FX97_placeOf_L n j).1 (FX97_placeOf_L n j).2.1 (FX97_placeOf_L n j).2.2) (FX97_placeOf_108 n (FX97_placeOf_L n j).1 (FX97_placeOf_L n j).2.1 (FX97_placeOf_L n j).2.2) (FX97_placeOf_L n j).1 (FX97_placeOf_L n j).2.1 (FX97_placeOf_L n j).2.2 w0 w1 w2 w3 M).symm.trans hz⟩⟩
  rcases fe_mem_c hc with rfl | hc
  · obtain ⟨w2, m2, h⟩ := fe_lI_d h
    obtain ⟨rfl, hz⟩ := fe_t0_d h
    exact ⟨[(2, .int w2)], (fe_cs m2 fe_nl), Or.inr ((bX97_placeOf_108 (FX97_isAt n) FJ1_length FJ1_charAt (FX97_placeOf_0 n (FX97_placeOf_L n j).1 (FX97_placeOf_L n j).2.1 (FX97_placeOf_L n j).2.2) (FX97_placeOf_40 n (FX97_placeOf_L n j).1 (FX97_placeOf_L n j).2.1 (FX97_placeOf_L n j).2.2) (FX97_placeOf_108 n (FX97_placeOf_L n j).1 (FX97_placeOf_L n j).2.1 (FX97_placeOf_L n j).2.2) (FX97_placeOf_L n j).1 (FX97_placeOf_L n j).2.1 (FX97_placeOf_L n j).2.2 w2 M).symm.trans hz)⟩
  exact fe_mem_0 hc
theorem vX97_placeOf (n : Nat) : fe_SB (sX97_placeOf (FX97_isAt n) FJ1_length FJ1_charAt) := by
  refine ⟨?_, ?_, ?_, ?_⟩
  · intro i As M r h
    exact fe_no h
  · intro i As M r h
    rcases fe_bc h with h | h
    · obtain ⟨v0, t0, rfl, g0⟩ := fe_tR_d h
      obtain ⟨v1, t1, rfl, g1⟩ := fe_tR_d g0
      obtain ⟨v2, t2, rfl, g2⟩ := fe_tI_d g1
      obtain ⟨rfl, hz⟩ := fe_t0_d g2
      exact mX97_isAt n v0 v1 v2 M r hz
    rcases fe_bc h with h | h
    · obtain ⟨v0, t0, rfl, g0⟩ := fe_tR_d h
      obtain ⟨rfl, hz⟩ := fe_t0_d g0
      exact mJ1_length v0 M r hz
    rcases fe_bc h with h | h
    · obtain ⟨v0, t0, rfl, g0⟩ := fe_tR_d h
      obtain ⟨v1, t1, rfl, g1⟩ := fe_tI_d g0
      obtain ⟨rfl, hz⟩ := fe_t0_d g1
      exact mJ1_charAt v0 v1 M r hz
    exact fe_no h
  · intro i As M r h
    exact fe_no h
  · intro i As M r h
    exact fe_no h
theorem eX97_placeOf (g0 : Nat → Nat → FM → Option (Int32 × FM)) (g40 : Nat → Nat → Int32 → FM → Option (Int32 × FM)) (g108 : Int32 → FM → Option (Int32 × FM)) (k2 : Nat → Nat → Int32 → FM → Option (Int32 × FM)) (k19 : Nat → Nat → Int32 → FM → Option (Int32 × FM)) (k50 : Nat → Nat → Int32 → Int32 → FM → Option (Int32 × FM)) (a0 : Nat) (a1 : Nat) (M : FM) : dX97_placeOf g0 g40 g108 k2 k19 k50 0 [(0, .ref a0), (1, .ref a1)] [] M = g0 a0 a1 M := by rfl
theorem mX97_placeOf (n : Nat) (a0 : Nat) (a1 : Nat) (M : FM) (r : Int32 × FM) (h : FX97_placeOf n a0 a1 M = some r) : fm_nx M ≤ fm_nx r.2 ∧ fm_ns M ≤ fm_ns r.2 :=
  fe_mono (L0 := [(0, .ref a0), (1, .ref a1)]) (vX97_placeOf n) (by decide +kernel) (hX97_placeOf n) (fe_ki_k r) n rfl ((eX97_placeOf (FX97_placeOf_0 n (FX97_placeOf_L n n).1 (FX97_placeOf_L n n).2.1 (FX97_placeOf_L n n).2.2) (FX97_placeOf_40 n (FX97_placeOf_L n n).1 (FX97_placeOf_L n n).2.1 (FX97_placeOf_L n n).2.2) (FX97_placeOf_108 n (FX97_placeOf_L n n).1 (FX97_placeOf_L n n).2.1 (FX97_placeOf_L n n).2.2) (FX97_placeOf_L n n).1 (FX97_placeOf_L n n).2.1 (FX97_placeOf_L n n).2.2 a0 a1 M).trans h)
theorem zX97_placeOf {s0 : State} {H0 : Heap} {oa : Nat → Nat} {D : va_G} (K : fk s0 H0 oa D) (l : Launch) (n : Nat) (a0 : Nat) (a1 : Nat) (M : FM) (r : Int32 × FM) (h : FX97_placeOf n a0 a1 M = some r) : fs_Con (fk_E s0 H0 oa D) l 6 ⟨"BoardMachineModel$Tree", "placeOf", "(Ljava/lang/String;)I"⟩ prog_119_method_9_code 4 (Option.some Jvm.ClassFile.FieldType.int) [.ref a0, .ref a1] M (some (.int r.1)) r.2 := by
  have o0 : fs_OS (sX97_placeOf (FX97_isAt n) FJ1_length FJ1_charAt) 0 1 (fs_Con (fk_E s0 H0 oa D) l 5 ⟨"BoardMachineModel$Tree", "isAt", "(Ljava/lang/String;I)Z"⟩ prog_119_method_8_code 5 (Option.some Jvm.ClassFile.FieldType.boolean)) := by
    intro As M r h
    obtain ⟨v0, t0, rfl, g0⟩ := fe_tR_d h
    obtain ⟨v1, t1, rfl, g1⟩ := fe_tR_d g0
    obtain ⟨v2, t2, rfl, g2⟩ := fe_tI_d g1
    obtain ⟨rfl, hz⟩ := fe_t0_d g2
    exact zX97_isAt K l n v0 v1 v2 M r hz
  have o1 : fs_OS (sX97_placeOf (FX97_isAt n) FJ1_length FJ1_charAt) 1 1 (fs_Con (fk_E s0 H0 oa D) l 2 ⟨"java/lang/String", "length", "()I"⟩ prog_130_method_54_code 1 (Option.some Jvm.ClassFile.FieldType.int)) := by
    intro As M r h
    obtain ⟨v0, t0, rfl, g0⟩ := fe_tR_d h
    obtain ⟨rfl, hz⟩ := fe_t0_d g0
    exact zJ1_length K l v0 M r hz
  have o2 : fs_OS (sX97_placeOf (FX97_isAt n) FJ1_length FJ1_charAt) 2 1 (fs_Con (fk_E s0 H0 oa D) l 4 ⟨"java/lang/String", "charAt", "(I)C"⟩ prog_130_method_56_code 2 (Option.some Jvm.ClassFile.FieldType.char)) := by
    intro As M r h
    obtain ⟨v0, t0, rfl, g0⟩ := fe_tR_d h
    obtain ⟨v1, t1, rfl, g1⟩ := fe_tI_d g0
    obtain ⟨rfl, hz⟩ := fe_t0_d g1
    exact zJ1_charAt K l v0 v1 M r hz
  refine fs_method (own := "BoardMachineModel$Tree") rfl (by decide) K.2.1 (by rw [fe_slen]; exact (Nat.le_of_ble_eq_true rfl)) (mX97_placeOf n a0 a1 M r h) (hX97_placeOf n) n rfl (L0 := [(0, .ref a0), (1, .ref a1)]) (fun E => fe_args_e E [.ref a0, .ref a1] 0) ((eX97_placeOf (FX97_placeOf_0 n (FX97_placeOf_L n n).1 (FX97_placeOf_L n n).2.1 (FX97_placeOf_L n n).2.2) (FX97_placeOf_40 n (FX97_placeOf_L n n).1 (FX97_placeOf_L n n).2.1 (FX97_placeOf_L n n).2.2) (FX97_placeOf_108 n (FX97_placeOf_L n n).1 (FX97_placeOf_L n n).2.1 (FX97_placeOf_L n n).2.2) (FX97_placeOf_L n n).1 (FX97_placeOf_L n n).2.1 (FX97_placeOf_L n n).2.2 a0 a1 M).trans h) (fe_ki_k r) (fun H hR => fs_nr_o (by decide) (by decide)) ?_
  intro p e s m args below meth c Q C hnm
  have hw : s0.WarmedH s.vm := C.2.2.2.2.1
  refine fe_all C fk_hwr cX97_placeOf [4, 13, 20, 42, 52, 59, 63, 68, 74, 79, 89, 93, 100, 105] (by decide +kernel) (fe_fil (cps := [(4, 7, .getfield 1762017680), (13, 16, .invokevirtual 13733988), (20, 23, .getfield 1757823378), (42, 45, .getfield 1762017680), (52, 55, .invokevirtual 72358919), (59, 62, .getfield 1757823378), (63, 66, .getfield 1762017680), (68, 71, .invokevirtual 143662087), (74, 77, .getfield 1762017680), (79, 82, .putfield 1762017680), (89, 92, .getfield 1757823378), (93, 96, .getfield 1762017680), (100, 103, .getfield 1762017680), (105, 108, .putfield 1762017680)]) (by decide +kernel) ?_)
  refine fs_c1 (fs_getf (pc := 4) (n := 1762017680) (idx := 53) (ref := "BoardMachineModel$Tree") (O := "BoardMachineModel$Tree") (name := "nameSize") (desc := "I") C (by decide +kernel) (Or.inl (kw K hw q4929)) (fun _ h => h) (Nat.le_of_ble_eq_true rfl) (Nat.le_of_ble_eq_true rfl) (fs_one (⟨_, ff_100_420 s0 H0 oa D⟩))) ?_
  refine fs_c1 (fs_inv_virtual (pc := 13) (n := 13733988) C (Nat.le_of_ble_eq_true rfl) (Nat.le_of_ble_eq_true rfl) (fs_lk_virtual (idx := 56) (y := ⟨"BoardMachineModel$Tree", "isAt", "(Ljava/lang/String;I)Z"⟩) (bytes := prog_119_method_8_code) (maxL := 5) (rt := (Option.some Jvm.ClassFile.FieldType.boolean)) (d := 5) C (Nat.le_of_ble_eq_true rfl) (Nat.le_of_ble_eq_true rfl) (by decide +kernel) (kw K hw q4810) (kw K hw q415) (kw K hw q4809) (Or.inl (kw K hw q4807)) ⟨by decide, by decide⟩ rfl (Nat.le_of_ble_eq_true rfl) (Nat.le_of_ble_eq_true rfl) (fs_one (⟨_, rfl, kw K hw qs134⟩))) fs_con_mono o0) ?_
  refine fs_c1 (fs_getf (pc := 20) (n := 1757823378) (idx := 16) (ref := "BoardMachineModel$Tree") (O := "BoardMachineModel$Tree") (name := "names") (desc := "[I") C (by decide +kernel) (Or.inl (kw K hw q4928)) (fun _ h => h) (Nat.le_of_ble_eq_true rfl) (Nat.le_of_ble_eq_true rfl) (fs_one (⟨_, ff_100_419 s0 H0 oa D⟩))) ?_
  refine fs_c1 (fs_getf (pc := 42) (n := 1762017680) (idx := 53) (ref := "BoardMachineModel$Tree") (O := "BoardMachineModel$Tree") (name := "nameSize") (desc := "I") C (by decide +kernel) (Or.inl (kw K hw q4929)) (fun _ h => h) (Nat.le_of_ble_eq_true rfl) (Nat.le_of_ble_eq_true rfl) (fs_one (⟨_, ff_100_420 s0 H0 oa D⟩))) ?_
  refine fs_c1 (fs_inv_virtual (pc := 52) (n := 72358919) C (Nat.le_of_ble_eq_true rfl) (Nat.le_of_ble_eq_true rfl) (fs_lk_virtual (idx := 34) (y := ⟨"java/lang/String", "length", "()I"⟩) (bytes := prog_130_method_54_code) (maxL := 1) (rt := (Option.some Jvm.ClassFile.FieldType.int)) (d := 2) C (Nat.le_of_ble_eq_true rfl) (Nat.le_of_ble_eq_true rfl) (by decide +kernel) (kw K hw q2168) (kw K hw q402) (kw K hw q2166) (Or.inl (kw K hw q4783)) ⟨by decide, by decide⟩ rfl (Nat.le_of_ble_eq_true rfl) (Nat.le_of_ble_eq_true rfl) (fs_one (⟨_, rfl, kw K hw q2167⟩))) fs_con_mono o1) ?_
  refine fs_c1 (fs_getf (pc := 59) (n := 1757823378) (idx := 16) (ref := "BoardMachineModel$Tree") (O := "BoardMachineModel$Tree") (name := "names") (desc := "[I") C (by decide +kernel) (Or.inl (kw K hw q4928)) (fun _ h => h) (Nat.le_of_ble_eq_true rfl) (Nat.le_of_ble_eq_true rfl) (fs_one (⟨_, ff_100_419 s0 H0 oa D⟩))) ?_
  refine fs_c1 (fs_getf (pc := 63) (n := 1762017680) (idx := 53) (ref := "BoardMachineModel$Tree") (O := "BoardMachineModel$Tree") (name := "nameSize") (desc := "I") C (by decide +kernel) (Or.inl (kw K hw q4929)) (fun _ h => h) (Nat.le_of_ble_eq_true rfl) (Nat.le_of_ble_eq_true rfl) (fs_one (⟨_, ff_100_420 s0 H0 oa D⟩))) ?_
  refine fs_c1 (fs_inv_virtual (pc := 68) (n := 143662087) C (Nat.le_of_ble_eq_true rfl) (Nat.le_of_ble_eq_true rfl) (fs_lk_virtual (idx := 40) (y := ⟨"java/lang/String", "charAt", "(I)C"⟩) (bytes := prog_130_method_56_code) (maxL := 2) (rt := (Option.some Jvm.ClassFile.FieldType.char)) (d := 4) C (Nat.le_of_ble_eq_true rfl) (Nat.le_of_ble_eq_true rfl) (by decide +kernel) (kw K hw q2178) (kw K hw q402) (kw K hw q2176) (Or.inl (kw K hw q4784)) ⟨by decide, by decide⟩ rfl (Nat.le_of_ble_eq_true rfl) (Nat.le_of_ble_eq_true rfl) (fs_one (⟨_, rfl, kw K hw q2177⟩))) fs_con_mono o2) ?_
  refine fs_c1 (fs_getf (pc := 74) (n := 1762017680) (idx := 53) (ref := "BoardMachineModel$Tree") (O := "BoardMachineModel$Tree") (name := "nameSize") (desc := "I") C (by decide +kernel) (Or.inl (kw K hw q4929)) (fun _ h => h) (Nat.le_of_ble_eq_true rfl) (Nat.le_of_ble_eq_true rfl) (fs_one (⟨_, ff_100_420 s0 H0 oa D⟩))) ?_
  refine fs_c1 (fs_putf (pc := 79) (n := 1762017680) (idx := 53) (ref := "BoardMachineModel$Tree") (O := "BoardMachineModel$Tree") (name := "nameSize") (desc := "I") (fin := false) (ty := .int) C (by decide +kernel) (Or.inl ⟨rfl, Or.inl (kw K hw q4929)⟩) (fun _ h => h) (Nat.le_of_ble_eq_true rfl) (Nat.le_of_ble_eq_true rfl) (Nat.le_of_ble_eq_true rfl) rfl rfl (by decide) (fs_one (⟨rfl, ff_100_420 s0 H0 oa D⟩))) ?_
  refine fs_c1 (fs_getf (pc := 89) (n := 1757823378) (idx := 16) (ref := "BoardMachineModel$Tree") (O := "BoardMachineModel$Tree") (name := "names") (desc := "[I") C (by decide +kernel) (Or.inl (kw K hw q4928)) (fun _ h => h) (Nat.le_of_ble_eq_true rfl) (Nat.le_of_ble_eq_true rfl) (fs_one (⟨_, ff_100_419 s0 H0 oa D⟩))) ?_
  refine fs_c1 (fs_getf (pc := 93) (n := 1762017680) (idx := 53) (ref := "BoardMachineModel$Tree") (O := "BoardMachineModel$Tree") (name := "nameSize") (desc := "I") C (by decide +kernel) (Or.inl (kw K hw q4929)) (fun _ h => h) (Nat.le_of_ble_eq_true rfl) (Nat.le_of_ble_eq_true rfl) (fs_one (⟨_, ff_100_420 s0 H0 oa D⟩))) ?_
  refine fs_c1 (fs_getf (pc := 100) (n := 1762017680) (idx := 53) (ref := "BoardMachineModel$Tree") (O := "BoardMachineModel$Tree") (name := "nameSize") (desc := "I") C (by decide +kernel) (Or.inl (kw K hw q4929)) (fun _ h => h) (Nat.le_of_ble_eq_true rfl) (Nat.le_of_ble_eq_true rfl) (fs_one (⟨_, ff_100_420 s0 H0 oa D⟩))) ?_
  refine fs_c1 (fs_putf (pc := 105) (n := 1762017680) (idx := 53) (ref := "BoardMachineModel$Tree") (O := "BoardMachineModel$Tree") (name := "nameSize") (desc := "I") (fin := false) (ty := .int) C (by decide +kernel) (Or.inl ⟨rfl, Or.inl (kw K hw q4929)⟩) (fun _ h => h) (Nat.le_of_ble_eq_true rfl) (Nat.le_of_ble_eq_true rfl) (Nat.le_of_ble_eq_true rfl) rfl rfl (by decide) (fs_one (⟨rfl, ff_100_420 s0 H0 oa D⟩))) ?_
  exact fs_c0
