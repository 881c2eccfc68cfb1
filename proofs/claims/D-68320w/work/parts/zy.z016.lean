/-! contracts of methods, printed by gen/snd.py -/
set_option maxRecDepth 100000
set_option maxHeartbeats 4000000
theorem hX89_init : fe_H (sX89_init) cX89_init [0] fe_kv [] 20 (fun _ => dX89_init FX89_init_0) := by
  intro j pc L st M r hc h
  rcases fe_mem_c hc with rfl | hc
  · obtain ⟨w0, m0, h⟩ := fe_lR_d h
    obtain ⟨rfl, hz⟩ := fe_t0_d h
    exact ⟨[(0, .ref w0)], (fe_cs m0 fe_nl), Or.inr ((bX89_init_0 FX89_init_0 w0 M).symm.trans hz)⟩
  exact fe_mem_0 hc
theorem vX89_init : fe_SB (sX89_init) := by
  refine ⟨?_, ?_, ?_, ?_⟩
  · intro i As M r h
    exact fe_no h
  · intro i As M r h
    exact fe_no h
  · intro i As M r h
    exact fe_no h
  · intro i As M r h
    exact fe_no h
theorem eX89_init (g0 : Nat → FM → Option (FM)) (a0 : Nat) (M : FM) : dX89_init g0 0 [(0, .ref a0)] [] M = g0 a0 M := by rfl
theorem mX89_init (a0 : Nat) (M : FM) (r : FM) (h : FX89_init a0 M = some r) : fm_nx M ≤ fm_nx r ∧ fm_ns M ≤ fm_ns r :=
  fe_mono (L0 := [(0, .ref a0)]) (vX89_init) (by decide +kernel) (hX89_init) (fe_kv_k r) 0 rfl ((eX89_init FX89_init_0 a0 M).trans h)
theorem zX89_init {s0 : State} {H0 : Heap} {oa : Nat → Nat} {D : va_G} (K : fk s0 H0 oa D) (l : Launch) (a0 : Nat) (M : FM) (r : FM) (h : FX89_init a0 M = some r) : fs_Con (fk_E s0 H0 oa D) l 1 ⟨"BoardMachine$Kept", "<init>", "()V"⟩ prog_74_method_1_code 1 (Option.none : Option Jvm.ClassFile.FieldType) [.ref a0] M none r := by
  refine fs_method (own := "BoardMachine$Kept") rfl (by decide) K.2.1 (by rw [fe_slen]; exact (Nat.le_of_ble_eq_true rfl)) (mX89_init a0 M r h) (hX89_init) 0 rfl (L0 := [(0, .ref a0)]) (fun E => fe_args_e E [.ref a0] 0) ((eX89_init FX89_init_0 a0 M).trans h) (fe_kv_k r) (fun H hR => fs_nr_o (by decide) (by decide)) ?_
  intro p e s m args below meth c Q C hnm
  have hw : s0.WarmedH s.vm := C.2.2.2.2.1
  refine fe_all C fk_hwr cX89_init [1] (by decide +kernel) (fe_fil (cps := [(1, 4, .monitorenter)]) (by decide +kernel) ?_)
  refine fs_c1 (fs_init (pc := 1) (idx := 1) C (by decide +kernel) (kw K hw q2056) (kw K hw q441) (kw K hw q442) ⟨(Nat.le_of_ble_eq_true rfl), (Nat.le_of_ble_eq_true rfl)⟩) ?_
  exact fs_c0
theorem hX46_init (n : Nat) : fe_H (sX46_init FX47_init FX59_init FX73_init (FX74_init n) FX85_init (FX84_init n) FX89_init) cX46_init [0, 99] fe_kv [99] 66 (fun j => dX46_init (FX46_init_0 n (FX46_init_L99 n j)) (FX46_init_L99 n j)) := by
  intro j pc L st M r hc h
  rcases fe_mem_c hc with rfl | hc
  · obtain ⟨w0, m0, h⟩ := fe_lR_d h
    obtain ⟨w1, m1, h⟩ := fe_lI_d h
    obtain ⟨w2, m2, h⟩ := fe_lR_d h
    obtain ⟨w3, m3, h⟩ := fe_lR_d h
    obtain ⟨rfl, hz⟩ := fe_t0_d h
    exact ⟨[(0, .ref w0), (1, .int w1), (2, .ref w2), (3, .ref w3)], (fe_cs m0 (fe_cs m1 (fe_cs m2 (fe_cs m3 fe_nl)))), Or.inr ((bX46_init_0 FX47_init FX59_init FX73_init (FX74_init n) FX85_init (FX84_init n) FX89_init (FX46_init_0 n (FX46_init_L99 n j)) (FX46_init_L99 n j) w0 w1 w2 w3 M).symm.trans hz)⟩
  rcases fe_mem_c hc with rfl | hc
  · obtain ⟨w0, m0, h⟩ := fe_lR_d h
    obtain ⟨w4, m4, h⟩ := fe_lI_d h
    obtain ⟨rfl, hz⟩ := fe_t0_d h
    cases j with
    | zero => exact fe_no hz
    | succ j => exact ⟨[(0, .ref w0), (4, .int w4)], (fe_cs m0 (fe_cs m4 fe_nl)), Or.inl ⟨j, rfl, (bX46_init_99 FX47_init FX59_init FX73_init (FX74_init n) FX85_init (FX84_init n) FX89_init (FX46_init_0 n (FX46_init_L99 n j)) (FX46_init_L99 n j) w0 w4 M).symm.trans hz⟩⟩
  exact fe_mem_0 hc
theorem vX46_init (n : Nat) : fe_SB (sX46_init FX47_init FX59_init FX73_init (FX74_init n) FX85_init (FX84_init n) FX89_init) := by
  refine ⟨?_, ?_, ?_, ?_⟩
  · intro i As M r h
    rcases fe_bc h with h | h
    · obtain ⟨v0, t0, rfl, g0⟩ := fe_tR_d h
      obtain ⟨rfl, hz⟩ := fe_t0_d g0
      exact mX47_init v0 M r hz
    rcases fe_bc h with h | h
    · obtain ⟨v0, t0, rfl, g0⟩ := fe_tR_d h
      obtain ⟨rfl, hz⟩ := fe_t0_d g0
      exact mX59_init v0 M r hz
    rcases fe_bc h with h | h
    · obtain ⟨v0, t0, rfl, g0⟩ := fe_tR_d h
      obtain ⟨rfl, hz⟩ := fe_t0_d g0
      exact mX73_init v0 M r hz
    rcases fe_bc h with h | h
    · obtain ⟨v0, t0, rfl, g0⟩ := fe_tR_d h
      obtain ⟨v1, t1, rfl, g1⟩ := fe_tI_d g0
      obtain ⟨rfl, hz⟩ := fe_t0_d g1
      exact mX74_init n v0 v1 M r hz
    rcases fe_bc h with h | h
    · obtain ⟨v0, t0, rfl, g0⟩ := fe_tR_d h
      obtain ⟨v1, t1, rfl, g1⟩ := fe_tR_d g0
      obtain ⟨rfl, hz⟩ := fe_t0_d g1
      exact mX85_init v0 v1 M r hz
    rcases fe_bc h with h | h
    · obtain ⟨v0, t0, rfl, g0⟩ := fe_tR_d h
      obtain ⟨v1, t1, rfl, g1⟩ := fe_tR_d g0
      obtain ⟨rfl, hz⟩ := fe_t0_d g1
      exact mX84_init n v0 v1 M r hz
    rcases fe_bc h with h | h
    · obtain ⟨v0, t0, rfl, g0⟩ := fe_tR_d h
      obtain ⟨rfl, hz⟩ := fe_t0_d g0
      exact mX89_init v0 M r hz
    exact fe_no h
  · intro i As M r h
    exact fe_no h
  · intro i As M r h
    exact fe_no h
  · intro i As M r h
    exact fe_no h
theorem eX46_init (g0 : Nat → Int32 → Nat → Nat → FM → Option (FM)) (k99 : Nat → Int32 → FM → Option (FM)) (a0 : Nat) (a1 : Int32) (a2 : Nat) (a3 : Nat) (M : FM) : dX46_init g0 k99 0 [(0, .ref a0), (1, .int a1), (2, .ref a2), (3, .ref a3)] [] M = g0 a0 a1 a2 a3 M := by rfl
theorem mX46_init (n : Nat) (a0 : Nat) (a1 : Int32) (a2 : Nat) (a3 : Nat) (M : FM) (r : FM) (h : FX46_init n a0 a1 a2 a3 M = some r) : fm_nx M ≤ fm_nx r ∧ fm_ns M ≤ fm_ns r :=
  fe_mono (L0 := [(0, .ref a0), (1, .int a1), (2, .ref a2), (3, .ref a3)]) (vX46_init n) (by decide +kernel) (hX46_init n) (fe_kv_k r) n rfl ((eX46_init (FX46_init_0 n (FX46_init_L99 n n)) (FX46_init_L99 n n) a0 a1 a2 a3 M).trans h)
theorem zX46_init {s0 : State} {H0 : Heap} {oa : Nat → Nat} {D : va_G} (K : fk s0 H0 oa D) (l : Launch) (n : Nat) (a0 : Nat) (a1 : Int32) (a2 : Nat) (a3 : Nat) (M : FM) (r : FM) (h : FX46_init n a0 a1 a2 a3 M = some r) : fs_Con (fk_E s0 H0 oa D) l 5 ⟨"BoardMachine$Processor", "<init>", "(ILBoardMachine$Board;LBoardMachine$Halves$ShortUnit;)V"⟩ prog_86_method_1_code 5 (Option.none : Option Jvm.ClassFile.FieldType) [.ref a0, .int a1, .ref a2, .ref a3] M none r := by
  have o0 : fs_OS (sX46_init FX47_init FX59_init FX73_init (FX74_init n) FX85_init (FX84_init n) FX89_init) 0 0 (fs_Con (fk_E s0 H0 oa D) l 4 ⟨"BoardMachine$Integers$IntegerUnit", "<init>", "()V"⟩ prog_69_method_1_code 1 (Option.none : Option Jvm.ClassFile.FieldType)) := by
    intro As M r h
    obtain ⟨v0, t0, rfl, g0⟩ := fe_tR_d h
    obtain ⟨rfl, hz⟩ := fe_t0_d g0
    exact zX47_init K l v0 M r hz
  have o1 : fs_OS (sX46_init FX47_init FX59_init FX73_init (FX74_init n) FX85_init (FX84_init n) FX89_init) 1 0 (fs_Con (fk_E s0 H0 oa D) l 3 ⟨"BoardMachine$Floats$FloatUnit", "<init>", "()V"⟩ prog_29_method_1_code 1 (Option.none : Option Jvm.ClassFile.FieldType)) := by
    intro As M r h
    obtain ⟨v0, t0, rfl, g0⟩ := fe_tR_d h
    obtain ⟨rfl, hz⟩ := fe_t0_d g0
    exact zX59_init K l v0 M r hz
  have o2 : fs_OS (sX46_init FX47_init FX59_init FX73_init (FX74_init n) FX85_init (FX84_init n) FX89_init) 2 0 (fs_Con (fk_E s0 H0 oa D) l 1 ⟨"BoardMachine$Found", "<init>", "()V"⟩ prog_42_method_1_code 1 (Option.none : Option Jvm.ClassFile.FieldType)) := by
    intro As M r h
    obtain ⟨v0, t0, rfl, g0⟩ := fe_tR_d h
    obtain ⟨rfl, hz⟩ := fe_t0_d g0
    exact zX73_init K l v0 M r hz
  have o3 : fs_OS (sX46_init FX47_init FX59_init FX73_init (FX74_init n) FX85_init (FX84_init n) FX89_init) 3 0 (fs_Con (fk_E s0 H0 oa D) l 4 ⟨"BoardMachine$Controls$ControlUnit", "<init>", "(I)V"⟩ prog_5_method_1_code 3 (Option.none : Option Jvm.ClassFile.FieldType)) := by
    intro As M r h
    obtain ⟨v0, t0, rfl, g0⟩ := fe_tR_d h
    obtain ⟨v1, t1, rfl, g1⟩ := fe_tI_d g0
    obtain ⟨rfl, hz⟩ := fe_t0_d g1
    exact zX74_init K l n v0 v1 M r hz
  have o4 : fs_OS (sX46_init FX47_init FX59_init FX73_init (FX74_init n) FX85_init (FX84_init n) FX89_init) 4 0 (fs_Con (fk_E s0 H0 oa D) l 1 ⟨"BoardMachine$TableWords", "<init>", "(LBoardMachine$Memories$Ram;)V"⟩ prog_94_method_1_code 2 (Option.none : Option Jvm.ClassFile.FieldType)) := by
    intro As M r h
    obtain ⟨v0, t0, rfl, g0⟩ := fe_tR_d h
    obtain ⟨v1, t1, rfl, g1⟩ := fe_tR_d g0
    obtain ⟨rfl, hz⟩ := fe_t0_d g1
    exact zX85_init K l v0 v1 M r hz
  have o5 : fs_OS (sX46_init FX47_init FX59_init FX73_init (FX74_init n) FX85_init (FX84_init n) FX89_init) 5 0 (fs_Con (fk_E s0 H0 oa D) l 3 ⟨"BoardMachine$Walks$Translator", "<init>", "(LBoardMachine$Walks$Words;)V"⟩ prog_107_method_1_code 3 (Option.none : Option Jvm.ClassFile.FieldType)) := by
    intro As M r h
    obtain ⟨v0, t0, rfl, g0⟩ := fe_tR_d h
    obtain ⟨v1, t1, rfl, g1⟩ := fe_tR_d g0
    obtain ⟨rfl, hz⟩ := fe_t0_d g1
    exact zX84_init K l n v0 v1 M r hz
  have o6 : fs_OS (sX46_init FX47_init FX59_init FX73_init (FX74_init n) FX85_init (FX84_init n) FX89_init) 6 0 (fs_Con (fk_E s0 H0 oa D) l 1 ⟨"BoardMachine$Kept", "<init>", "()V"⟩ prog_74_method_1_code 1 (Option.none : Option Jvm.ClassFile.FieldType)) := by
    intro As M r h
    obtain ⟨v0, t0, rfl, g0⟩ := fe_tR_d h
    obtain ⟨rfl, hz⟩ := fe_t0_d g0
    exact zX89_init K l v0 M r hz
  refine fs_method (own := "BoardMachine$Processor") rfl (by decide) K.2.1 (by rw [fe_slen]; exact (Nat.le_of_ble_eq_true rfl)) (mX46_init n a0 a1 a2 a3 M r h) (hX46_init n) n rfl (L0 := [(0, .ref a0), (1, .int a1), (2, .ref a2), (3, .ref a3)]) (fun E => fe_args_e E [.ref a0, .int a1, .ref a2, .ref a3] 0) ((eX46_init (FX46_init_0 n (FX46_init_L99 n n)) (FX46_init_L99 n n) a0 a1 a2 a3 M).trans h) (fe_kv_k r) (fun H hR => fs_nr_o (by decide) (by decide)) ?_
  intro p e s m args below meth c Q C hnm
  have hw : s0.WarmedH s.vm := C.2.2.2.2.1
  refine fe_all C fk_hwr cX46_init [1, 5, 9, 12, 16, 20, 23, 30, 33, 37, 41, 44, 49, 54, 59, 63, 68, 71, 75, 79, 84, 87, 90, 93, 108, 113, 117, 120] (by decide +kernel) (fe_fil (cps := [(1, 4, .monitorenter), (5, 8, .new 4039), (9, 12, .invokevirtual 4258879), (12, 15, .putfield 885305646), (16, 19, .new 2064), (20, 23, .invokevirtual 71335968), (23, 26, .putfield 889499950), (30, 33, .anewarray 222102), (33, 36, .putfield 906277166), (37, 40, .new 2628), (41, 44, .invokevirtual 138454057), (44, 47, .putfield 910471470), (49, 52, .putfield 876917036), (54, 57, .putfield 881111342), (59, 62, .putfield 902082862), (63, 66, .new 784), (68, 71, .invokevirtual 209727500), (71, 74, .putfield 893694254), (75, 78, .new 5834), (79, 82, .new 5185), (84, 87, .getfield 75542574), (87, 90, .invokevirtual 276907089), (90, 93, .invokevirtual 344026203), (93, 96, .putfield 897888558), (108, 111, .getfield 906277166), (113, 116, .new 4166), (117, 120, .invokevirtual 406914113), (120, 121, .instanceof 962659393)]) (by decide +kernel) ?_)
  refine fs_c1 (fs_init (pc := 1) (idx := 3) C (by decide +kernel) (kw K hw q1266) (kw K hw q441) (kw K hw q442) ⟨(Nat.le_of_ble_eq_true rfl), (Nat.le_of_ble_eq_true rfl)⟩) ?_
  refine fs_c1 (fs_newo (pc := 5) (n := 4039) (idx := 9) (CC := "BoardMachine$Integers$IntegerUnit") (T := fT_63) (N := 7) C (by decide +kernel) (kw K hw q1267) (kw K hw q1268) (kw K hw q358) (by decide) (Nat.le_of_ble_eq_true rfl) rfl rfl) ?_
  refine fs_c1 (fs_inv_virtual (pc := 9) (n := 4258879) C (Nat.le_of_ble_eq_true rfl) (Nat.le_of_ble_eq_true rfl) (fs_lk_init (idx := 11) (y := ⟨"BoardMachine$Integers$IntegerUnit", "<init>", "()V"⟩) (bytes := prog_69_method_1_code) (maxL := 1) (d := 4) C (Nat.le_of_ble_eq_true rfl) (Nat.le_of_ble_eq_true rfl) (by decide +kernel) (kw K hw q1271) (kw K hw q358) (kw K hw q1270) (Or.inr ⟨_, kM K hw q1269⟩) rfl ⟨by decide, by decide⟩ rfl (Nat.le_of_ble_eq_true rfl) (Nat.le_of_ble_eq_true rfl)) fs_con_mono o0) ?_
  refine fs_c1 (fs_putf (pc := 12) (n := 885305646) (idx := 12) (ref := "BoardMachine$Processor") (O := "BoardMachine$Processor") (name := "integers") (desc := "LBoardMachine$Integers$IntegerUnit;") (fin := true) (ty := (.object "BoardMachine$Integers$IntegerUnit")) C (by decide +kernel) (Or.inr ⟨rfl, kw K hw q2078, hnm, rfl⟩) (fun _ h => h) (Nat.le_of_ble_eq_true rfl) (Nat.le_of_ble_eq_true rfl) (Nat.le_of_ble_eq_true rfl) rfl rfl (by decide) (fs_one (⟨rfl, ff_75_211 s0 H0 oa D⟩))) ?_
  refine fs_c1 (fs_newo (pc := 16) (n := 2064) (idx := 18) (CC := "BoardMachine$Floats$FloatUnit") (T := fT_32) (N := 16) C (by decide +kernel) (kw K hw q1427) (kw K hw q1428) (kw K hw q370) (by decide) (Nat.le_of_ble_eq_true rfl) rfl rfl) ?_
  refine fs_c1 (fs_inv_virtual (pc := 20) (n := 71335968) C (Nat.le_of_ble_eq_true rfl) (Nat.le_of_ble_eq_true rfl) (fs_lk_init (idx := 20) (y := ⟨"BoardMachine$Floats$FloatUnit", "<init>", "()V"⟩) (bytes := prog_29_method_1_code) (maxL := 1) (d := 3) C (Nat.le_of_ble_eq_true rfl) (Nat.le_of_ble_eq_true rfl) (by decide +kernel) (kw K hw q1431) (kw K hw q370) (kw K hw q1430) (Or.inr ⟨_, kM K hw q1429⟩) rfl ⟨by decide, by decide⟩ rfl (Nat.le_of_ble_eq_true rfl) (Nat.le_of_ble_eq_true rfl)) fs_con_mono o1) ?_
  refine fs_c1 (fs_putf (pc := 23) (n := 889499950) (idx := 21) (ref := "BoardMachine$Processor") (O := "BoardMachine$Processor") (name := "floats") (desc := "LBoardMachine$Floats$FloatUnit;") (fin := true) (ty := (.object "BoardMachine$Floats$FloatUnit")) C (by decide +kernel) (Or.inr ⟨rfl, kw K hw q2080, hnm, rfl⟩) (fun _ h => h) (Nat.le_of_ble_eq_true rfl) (Nat.le_of_ble_eq_true rfl) (Nat.le_of_ble_eq_true rfl) rfl rfl (by decide) (fs_one (⟨rfl, ff_75_212 s0 H0 oa D⟩))) ?_
  refine fs_c1 (fs_newr (pc := 30) (n := 222102) (t := 918) (idx := 25) (CC := "BoardMachine$Kept") C (by decide +kernel) (kw K hw q1660) (kO K hw q1661) rfl (Nat.le_of_ble_eq_true rfl) rfl rfl) ?_
  refine fs_c1 (fs_putf (pc := 33) (n := 906277166) (idx := 27) (ref := "BoardMachine$Processor") (O := "BoardMachine$Processor") (name := "kept") (desc := "[LBoardMachine$Kept;") (fin := true) (ty := (.array (.object "BoardMachine$Kept"))) C (by decide +kernel) (Or.inr ⟨rfl, kw K hw q2087, hnm, rfl⟩) (fun _ h => h) (Nat.le_of_ble_eq_true rfl) (Nat.le_of_ble_eq_true rfl) (Nat.le_of_ble_eq_true rfl) rfl rfl (by decide) (fs_one (⟨rfl, ff_75_216 s0 H0 oa D⟩))) ?_
  refine fs_c1 (fs_newo (pc := 37) (n := 2628) (idx := 31) (CC := "BoardMachine$Found") (T := fT_41) (N := 4) C (by decide +kernel) (kw K hw q1662) (kw K hw q1663) (kw K hw q384) (by decide) (Nat.le_of_ble_eq_true rfl) rfl rfl) ?_
  refine fs_c1 (fs_inv_virtual (pc := 41) (n := 138454057) C (Nat.le_of_ble_eq_true rfl) (Nat.le_of_ble_eq_true rfl) (fs_lk_init (idx := 33) (y := ⟨"BoardMachine$Found", "<init>", "()V"⟩) (bytes := prog_42_method_1_code) (maxL := 1) (d := 1) C (Nat.le_of_ble_eq_true rfl) (Nat.le_of_ble_eq_true rfl) (by decide +kernel) (kw K hw q1666) (kw K hw q384) (kw K hw q1665) (Or.inr ⟨_, kM K hw q1664⟩) rfl ⟨by decide, by decide⟩ rfl (Nat.le_of_ble_eq_true rfl) (Nat.le_of_ble_eq_true rfl)) fs_con_mono o2) ?_
  refine fs_c1 (fs_putf (pc := 44) (n := 910471470) (idx := 34) (ref := "BoardMachine$Processor") (O := "BoardMachine$Processor") (name := "data") (desc := "LBoardMachine$Found;") (fin := true) (ty := (.object "BoardMachine$Found")) C (by decide +kernel) (Or.inr ⟨rfl, kw K hw q2088, hnm, rfl⟩) (fun _ h => h) (Nat.le_of_ble_eq_true rfl) (Nat.le_of_ble_eq_true rfl) (Nat.le_of_ble_eq_true rfl) rfl rfl (by decide) (fs_one (⟨rfl, ff_75_217 s0 H0 oa D⟩))) ?_
  refine fs_c1 (fs_putf (pc := 49) (n := 876917036) (idx := 38) (ref := "BoardMachine$Processor") (O := "BoardMachine$Processor") (name := "number") (desc := "I") (fin := true) (ty := .int) C (by decide +kernel) (Or.inr ⟨rfl, kw K hw q2076, hnm, rfl⟩) (fun _ h => h) (Nat.le_of_ble_eq_true rfl) (Nat.le_of_ble_eq_true rfl) (Nat.le_of_ble_eq_true rfl) rfl rfl (by decide) (fs_one (⟨rfl, ff_75_209 s0 H0 oa D⟩))) ?_
  refine fs_c1 (fs_putf (pc := 54) (n := 881111342) (idx := 42) (ref := "BoardMachine$Processor") (O := "BoardMachine$Processor") (name := "board") (desc := "LBoardMachine$Board;") (fin := true) (ty := (.object "BoardMachine$Board")) C (by decide +kernel) (Or.inr ⟨rfl, kw K hw q2077, hnm, rfl⟩) (fun _ h => h) (Nat.le_of_ble_eq_true rfl) (Nat.le_of_ble_eq_true rfl) (Nat.le_of_ble_eq_true rfl) rfl rfl (by decide) (fs_one (⟨rfl, ff_75_210 s0 H0 oa D⟩))) ?_
  refine fs_c1 (fs_putf (pc := 59) (n := 902082862) (idx := 46) (ref := "BoardMachine$Processor") (O := "BoardMachine$Processor") (name := "halves") (desc := "LBoardMachine$Halves$ShortUnit;") (fin := true) (ty := (.object "BoardMachine$Halves$ShortUnit")) C (by decide +kernel) (Or.inr ⟨rfl, kw K hw q2086, hnm, rfl⟩) (fun _ h => h) (Nat.le_of_ble_eq_true rfl) (Nat.le_of_ble_eq_true rfl) (Nat.le_of_ble_eq_true rfl) rfl rfl (by decide) (fs_one (⟨rfl, ff_75_215 s0 H0 oa D⟩))) ?_
  refine fs_c1 (fs_newo (pc := 63) (n := 784) (idx := 50) (CC := "BoardMachine$Controls$ControlUnit") (T := fT_12) (N := 16) C (by decide +kernel) (kw K hw q1685) (kw K hw q1686) (kw K hw q385) (by decide) (Nat.le_of_ble_eq_true rfl) rfl rfl) ?_
  refine fs_c1 (fs_inv_virtual (pc := 68) (n := 209727500) C (Nat.le_of_ble_eq_true rfl) (Nat.le_of_ble_eq_true rfl) (fs_lk_init (idx := 52) (y := ⟨"BoardMachine$Controls$ControlUnit", "<init>", "(I)V"⟩) (bytes := prog_5_method_1_code) (maxL := 3) (d := 4) C (Nat.le_of_ble_eq_true rfl) (Nat.le_of_ble_eq_true rfl) (by decide +kernel) (kw K hw q1689) (kw K hw q385) (kw K hw q1688) (Or.inl (kw K hw q1687)) rfl ⟨by decide, by decide⟩ rfl (Nat.le_of_ble_eq_true rfl) (Nat.le_of_ble_eq_true rfl)) fs_con_mono o3) ?_
  refine fs_c1 (fs_putf (pc := 71) (n := 893694254) (idx := 55) (ref := "BoardMachine$Processor") (O := "BoardMachine$Processor") (name := "controls") (desc := "LBoardMachine$Controls$ControlUnit;") (fin := true) (ty := (.object "BoardMachine$Controls$ControlUnit")) C (by decide +kernel) (Or.inr ⟨rfl, kw K hw q2082, hnm, rfl⟩) (fun _ h => h) (Nat.le_of_ble_eq_true rfl) (Nat.le_of_ble_eq_true rfl) (Nat.le_of_ble_eq_true rfl) rfl rfl (by decide) (fs_one (⟨rfl, ff_75_213 s0 H0 oa D⟩))) ?_
  refine fs_c1 (fs_newo (pc := 75) (n := 5834) (idx := 59) (CC := "BoardMachine$Walks$Translator") (T := fT_91) (N := 10) C (by decide +kernel) (kw K hw q1917) (kw K hw q1918) (kw K hw q395) (by decide) (Nat.le_of_ble_eq_true rfl) rfl rfl) ?_
  refine fs_c1 (fs_newo (pc := 79) (n := 5185) (idx := 61) (CC := "BoardMachine$TableWords") (T := fT_81) (N := 1) C (by decide +kernel) (kw K hw q1919) (kw K hw q1920) (kw K hw q396) (by decide) (Nat.le_of_ble_eq_true rfl) rfl rfl) ?_
  refine fs_c1 (fs_getf (pc := 84) (n := 75542574) (idx := 63) (ref := "BoardMachine$Board") (O := "BoardMachine$Board") (name := "ram") (desc := "LBoardMachine$Memories$Ram;") C (by decide +kernel) (Or.inr ⟨_, kF K hw q1037⟩) (fun _ h => h) (Nat.le_of_ble_eq_true rfl) (Nat.le_of_ble_eq_true rfl) (fs_one (⟨_, ff_11_18 s0 H0 oa D⟩))) ?_
  refine fs_c1 (fs_inv_virtual (pc := 87) (n := 276907089) C (Nat.le_of_ble_eq_true rfl) (Nat.le_of_ble_eq_true rfl) (fs_lk_init (idx := 69) (y := ⟨"BoardMachine$TableWords", "<init>", "(LBoardMachine$Memories$Ram;)V"⟩) (bytes := prog_94_method_1_code) (maxL := 2) (d := 1) C (Nat.le_of_ble_eq_true rfl) (Nat.le_of_ble_eq_true rfl) (by decide +kernel) (kw K hw q1923) (kw K hw q396) (kw K hw q1922) (Or.inl (kw K hw q1921)) rfl ⟨by decide, by decide⟩ rfl (Nat.le_of_ble_eq_true rfl) (Nat.le_of_ble_eq_true rfl)) fs_con_mono o4) ?_
  refine fs_c1 (fs_inv_virtual (pc := 90) (n := 344026203) C (Nat.le_of_ble_eq_true rfl) (Nat.le_of_ble_eq_true rfl) (fs_lk_init (idx := 72) (y := ⟨"BoardMachine$Walks$Translator", "<init>", "(LBoardMachine$Walks$Words;)V"⟩) (bytes := prog_107_method_1_code) (maxL := 3) (d := 3) C (Nat.le_of_ble_eq_true rfl) (Nat.le_of_ble_eq_true rfl) (by decide +kernel) (kw K hw q1931) (kw K hw q395) (kw K hw q1930) (Or.inl (kw K hw q1929)) rfl ⟨by decide, by decide⟩ rfl (Nat.le_of_ble_eq_true rfl) (Nat.le_of_ble_eq_true rfl)) fs_con_mono o5) ?_
  refine fs_c1 (fs_putf (pc := 93) (n := 897888558) (idx := 75) (ref := "BoardMachine$Processor") (O := "BoardMachine$Processor") (name := "walks") (desc := "LBoardMachine$Walks$Translator;") (fin := true) (ty := (.object "BoardMachine$Walks$Translator")) C (by decide +kernel) (Or.inr ⟨rfl, kw K hw q2085, hnm, rfl⟩) (fun _ h => h) (Nat.le_of_ble_eq_true rfl) (Nat.le_of_ble_eq_true rfl) (Nat.le_of_ble_eq_true rfl) rfl rfl (by decide) (fs_one (⟨rfl, ff_75_214 s0 H0 oa D⟩))) ?_
  refine fs_c1 (fs_getf (pc := 108) (n := 906277166) (idx := 27) (ref := "BoardMachine$Processor") (O := "BoardMachine$Processor") (name := "kept") (desc := "[LBoardMachine$Kept;") C (by decide +kernel) (Or.inl (kw K hw q2087)) (fun _ h => h) (Nat.le_of_ble_eq_true rfl) (Nat.le_of_ble_eq_true rfl) (fs_one (⟨_, ff_75_216 s0 H0 oa D⟩))) ?_
  refine fs_c1 (fs_newo (pc := 113) (n := 4166) (idx := 25) (CC := "BoardMachine$Kept") (T := fT_65) (N := 6) C (by decide +kernel) (kw K hw q1660) (kw K hw q2052) (kw K hw q400) (by decide) (Nat.le_of_ble_eq_true rfl) rfl rfl) ?_
  refine fs_c1 (fs_inv_virtual (pc := 117) (n := 406914113) C (Nat.le_of_ble_eq_true rfl) (Nat.le_of_ble_eq_true rfl) (fs_lk_init (idx := 79) (y := ⟨"BoardMachine$Kept", "<init>", "()V"⟩) (bytes := prog_74_method_1_code) (maxL := 1) (d := 1) C (Nat.le_of_ble_eq_true rfl) (Nat.le_of_ble_eq_true rfl) (by decide +kernel) (kw K hw q2055) (kw K hw q400) (kw K hw q2054) (Or.inr ⟨_, kM K hw q2053⟩) rfl ⟨by decide, by decide⟩ rfl (Nat.le_of_ble_eq_true rfl) (Nat.le_of_ble_eq_true rfl)) fs_con_mono o6) ?_
  refine fs_c1 (fs_astr (pc := 120) (n := 962659393) (EE := "BoardMachine$Kept") C (by decide +kernel) (Nat.le_of_ble_eq_true rfl) rfl rfl (Nat.le_of_ble_eq_true rfl) (Nat.le_of_ble_eq_true rfl) (fs_one (⟨_, rfl, Or.inl rfl⟩))) ?_
  exact fs_c0
theorem fs_nr_c {x : Int32} (h : x = 0) : fs_nr (some .byte) (some (.int x)) := fun y e ty e2 _ => by
  cases e
  cases e2
  rw [h]
  rfl
theorem fs_nr_h {x : Int32} (h : ∃ z : Int32, x = (z.toUInt32 % 65536).toInt32) : fs_nr (some .char) (some (.int x)) := fun y e ty e2 _ => by
  cases e
  cases e2
  obtain ⟨z, rfl⟩ := h
  have e3 : (z.toUInt32 % 65536).toInt32.toUInt32.toUInt16.toUInt32 = z.toUInt32 % 65536 := by
    apply UInt32.toNat.inj
    simp
  show Value.int ((z.toUInt32 % 65536).toInt32.toUInt32.toUInt16.toUInt32).toInt32 = _
  rw [e3]
theorem nr_coder {s0 : State} {H0 : Heap} {oa : Nat → Nat} {D : va_G} (K : fk s0 H0 oa D) {a0 : Nat} {M : FM} {H : Heap} (hR : fs_Rel (fk_E s0 H0 oa D) M H) {r : Int32 × FM} (h : FJ1_coder a0 M = some r) : r.1 = 0 := by
  have h : BJ1_coder_0 BJ1_coder_14 a0 M = some r := h
  unfold BJ1_coder_0 at h
  rw [fi_neg (by decide)] at h
  by_cases q : fm_is M 7 7 a0 = true
  · rw [fi_pos q] at h
    obtain rfl := Option.some.inj h
    exact fs_str0 hR q rfl
  · rw [fi_neg q] at h
    cases h
theorem hJ1_coder : fe_H (sJ1_coder) cJ1_coder [0, 14] fe_ki [] 20 (fun _ => dJ1_coder FJ1_coder_0 FJ1_coder_14) := by
  intro j pc L st M r hc h
  rcases fe_mem_c hc with rfl | hc
  · obtain ⟨w0, m0, h⟩ := fe_lR_d h
    obtain ⟨rfl, hz⟩ := fe_t0_d h
    exact ⟨[(0, .ref w0)], (fe_cs m0 fe_nl), Or.inr ((bJ1_coder_0 FJ1_coder_0 FJ1_coder_14 w0 M).symm.trans hz)⟩
  rcases fe_mem_c hc with rfl | hc
  · obtain ⟨s0, t0, rfl, g0⟩ := fe_tI_d h
    obtain ⟨rfl, hz⟩ := fe_t0_d g0
    exact ⟨[], fe_nl, Or.inr ((bJ1_coder_14 FJ1_coder_0 FJ1_coder_14 s0 M).symm.trans hz)⟩
  exact fe_mem_0 hc
theorem vJ1_coder : fe_SB (sJ1_coder) := by
  refine ⟨?_, ?_, ?_, ?_⟩
  · intro i As M r h
    exact fe_no h
  · intro i As M r h
    exact fe_no h
  · intro i As M r h
    exact fe_no h
  · intro i As M r h
    exact fe_no h
theorem eJ1_coder (g0 : Nat → FM → Option (Int32 × FM)) (g14 : Int32 → FM → Option (Int32 × FM)) (a0 : Nat) (M : FM) : dJ1_coder g0 g14 0 [(0, .ref a0)] [] M = g0 a0 M := by rfl
theorem mJ1_coder (a0 : Nat) (M : FM) (r : Int32 × FM) (h : FJ1_coder a0 M = some r) : fm_nx M ≤ fm_nx r.2 ∧ fm_ns M ≤ fm_ns r.2 :=
  fe_mono (L0 := [(0, .ref a0)]) (vJ1_coder) (by decide +kernel) (hJ1_coder) (fe_ki_k r) 0 rfl ((eJ1_coder FJ1_coder_0 FJ1_coder_14 a0 M).trans h)
theorem zJ1_coder {s0 : State} {H0 : Heap} {oa : Nat → Nat} {D : va_G} (K : fk s0 H0 oa D) (l : Launch) (a0 : Nat) (M : FM) (r : Int32 × FM) (h : FJ1_coder a0 M = some r) : fs_Con (fk_E s0 H0 oa D) l 1 ⟨"java/lang/String", "coder", "()B"⟩ prog_130_method_152_code 1 (Option.some Jvm.ClassFile.FieldType.byte) [.ref a0] M (some (.int r.1)) r.2 := by
  refine fs_method (own := "java/lang/String") rfl (by decide) K.2.1 (by rw [fe_slen]; exact (Nat.le_of_ble_eq_true rfl)) (mJ1_coder a0 M r h) (hJ1_coder) 0 rfl (L0 := [(0, .ref a0)]) (fun E => fe_args_e E [.ref a0] 0) ((eJ1_coder FJ1_coder_0 FJ1_coder_14 a0 M).trans h) (fe_ki_k r) (fun H hR => fs_nr_c (nr_coder K hR h)) ?_
  intro p e s m args below meth c Q C hnm
  have hw : s0.WarmedH s.vm := C.2.2.2.2.1
  refine fe_all C fk_hwr cJ1_coder [0, 7] (by decide +kernel) (fe_fil (cps := [(0, 3, .iconst 1), (7, 10, .getfield 67137564)]) (by decide +kernel) ?_)
  refine fs_c1 (fs_gets_i (pc := 0) (idx := 38) (v := 1) (CC := "java/lang/String") (n := "COMPACT_STRINGS") (d := "Z") (ref := "java/lang/String") C (by decide +kernel) (kw K hw q2173) (fun _ h => h) K.2.2.2.2.1) ?_
  refine fs_c1 (fs_getf (pc := 7) (n := 67137564) (idx := 15) (ref := "java/lang/String") (O := "java/lang/String") (name := "coder") (desc := "B") C (by decide +kernel) (Or.inl (kw K hw q6554)) (fun _ h => h) (Nat.le_of_ble_eq_true rfl) (Nat.le_of_ble_eq_true rfl) (fs_one (⟨_, ff_7_16 s0 H0 oa D⟩))) ?_
  exact fs_c0
theorem hJ1_length : fe_H (sJ1_length FJ1_coder) cJ1_length [0] fe_ki [] 20 (fun _ => dJ1_length FJ1_length_0) := by
  intro j pc L st M r hc h
  rcases fe_mem_c hc with rfl | hc
  · obtain ⟨w0, m0, h⟩ := fe_lR_d h
    obtain ⟨rfl, hz⟩ := fe_t0_d h
    exact ⟨[(0, .ref w0)], (fe_cs m0 fe_nl), Or.inr ((bJ1_length_0 FJ1_coder FJ1_length_0 w0 M).symm.trans hz)⟩
  exact fe_mem_0 hc
theorem vJ1_length : fe_SB (sJ1_length FJ1_coder) := by
  refine ⟨?_, ?_, ?_, ?_⟩
  · intro i As M r h
    exact fe_no h
  · intro i As M r h
    rcases fe_bc h with h | h
    · obtain ⟨v0, t0, rfl, g0⟩ := fe_tR_d h
      obtain ⟨rfl, hz⟩ := fe_t0_d g0
      exact mJ1_coder v0 M r hz
    exact fe_no h
  · intro i As M r h
    exact fe_no h
  · intro i As M r h
    exact fe_no h
theorem eJ1_length (g0 : Nat → FM → Option (Int32 × FM)) (a0 : Nat) (M : FM) : dJ1_length g0 0 [(0, .ref a0)] [] M = g0 a0 M := by rfl
theorem mJ1_length (a0 : Nat) (M : FM) (r : Int32 × FM) (h : FJ1_length a0 M = some r) : fm_nx M ≤ fm_nx r.2 ∧ fm_ns M ≤ fm_ns r.2 :=
  fe_mono (L0 := [(0, .ref a0)]) (vJ1_length) (by decide +kernel) (hJ1_length) (fe_ki_k r) 0 rfl ((eJ1_length FJ1_length_0 a0 M).trans h)
theorem zJ1_length {s0 : State} {H0 : Heap} {oa : Nat → Nat} {D : va_G} (K : fk s0 H0 oa D) (l : Launch) (a0 : Nat) (M : FM) (r : Int32 × FM) (h : FJ1_length a0 M = some r) : fs_Con (fk_E s0 H0 oa D) l 2 ⟨"java/lang/String", "length", "()I"⟩ prog_130_method_54_code 1 (Option.some Jvm.ClassFile.FieldType.int) [.ref a0] M (some (.int r.1)) r.2 := by
  have o0 : fs_OS (sJ1_length FJ1_coder) 0 1 (fs_Con (fk_E s0 H0 oa D) l 1 ⟨"java/lang/String", "coder", "()B"⟩ prog_130_method_152_code 1 (Option.some Jvm.ClassFile.FieldType.byte)) := by
    intro As M r h
    obtain ⟨v0, t0, rfl, g0⟩ := fe_tR_d h
    obtain ⟨rfl, hz⟩ := fe_t0_d g0
    exact zJ1_coder K l v0 M r hz
  refine fs_method (own := "java/lang/String") rfl (by decide) K.2.1 (by rw [fe_slen]; exact (Nat.le_of_ble_eq_true rfl)) (mJ1_length a0 M r h) (hJ1_length) 0 rfl (L0 := [(0, .ref a0)]) (fun E => fe_args_e E [.ref a0] 0) ((eJ1_length FJ1_length_0 a0 M).trans h) (fe_ki_k r) (fun H hR => fs_nr_o (by decide) (by decide)) ?_
  intro p e s m args below meth c Q C hnm
  have hw : s0.WarmedH s.vm := C.2.2.2.2.1
  refine fe_all C fk_hwr cJ1_length [1, 6] (by decide +kernel) (fe_fil (cps := [(1, 4, .getfield 62943262), (6, 9, .invokevirtual 5250055)]) (by decide +kernel) ?_)
  refine fs_c1 (fs_getf (pc := 1) (n := 62943262) (idx := 9) (ref := "java/lang/String") (O := "java/lang/String") (name := "value") (desc := "[B") C (by decide +kernel) (Or.inl (kw K hw q6553)) (fun _ h => h) (Nat.le_of_ble_eq_true rfl) (Nat.le_of_ble_eq_true rfl) (fs_one (⟨_, ff_7_15 s0 H0 oa D⟩))) ?_
  refine fs_c1 (fs_inv_virtual (pc := 6) (n := 5250055) C (Nat.le_of_ble_eq_true rfl) (Nat.le_of_ble_eq_true rfl) (fs_lk_virtual (idx := 335) (y := ⟨"java/lang/String", "coder", "()B"⟩) (bytes := prog_130_method_152_code) (maxL := 1) (rt := (Option.some Jvm.ClassFile.FieldType.byte)) (d := 1) C (Nat.le_of_ble_eq_true rfl) (Nat.le_of_ble_eq_true rfl) (by decide +kernel) (kw K hw q2172) (kw K hw q402) (kw K hw q2170) (Or.inl (kw K hw q2169)) ⟨by decide, by decide⟩ rfl (Nat.le_of_ble_eq_true rfl) (Nat.le_of_ble_eq_true rfl) (fs_one (⟨_, rfl, kw K hw q2171⟩))) fs_con_mono o0) ?_
  exact fs_c0
theorem hJ1_isLatin1 : fe_H (sJ1_isLatin1) cJ1_isLatin1 [0, 17, 18] fe_ki [] 20 (fun _ => dJ1_isLatin1 FJ1_isLatin1_0 FJ1_isLatin1_17 FJ1_isLatin1_18) := by
  intro j pc L st M r hc h
  rcases fe_mem_c hc with rfl | hc
  · obtain ⟨w0, m0, h⟩ := fe_lR_d h
    obtain ⟨rfl, hz⟩ := fe_t0_d h
    exact ⟨[(0, .ref w0)], (fe_cs m0 fe_nl), Or.inr ((bJ1_isLatin1_0 FJ1_isLatin1_0 FJ1_isLatin1_17 FJ1_isLatin1_18 w0 M).symm.trans hz)⟩
  rcases fe_mem_c hc with rfl | hc
  · obtain ⟨rfl, hz⟩ := fe_t0_d h
    exact ⟨[], fe_nl, Or.inr ((bJ1_isLatin1_17 FJ1_isLatin1_0 FJ1_isLatin1_17 FJ1_isLatin1_18 M).symm.trans hz)⟩
  rcases fe_mem_c hc with rfl | hc
  · obtain ⟨s0, t0, rfl, g0⟩ := fe_tI_d h
    obtain ⟨rfl, hz⟩ := fe_t0_d g0
    exact ⟨[], fe_nl, Or.inr ((bJ1_isLatin1_18 FJ1_isLatin1_0 FJ1_isLatin1_17 FJ1_isLatin1_18 s0 M).symm.trans hz)⟩
  exact fe_mem_0 hc
theorem vJ1_isLatin1 : fe_SB (sJ1_isLatin1) := by
  refine ⟨?_, ?_, ?_, ?_⟩
  · intro i As M r h
    exact fe_no h
  · intro i As M r h
    exact fe_no h
  · intro i As M r h
    exact fe_no h
  · intro i As M r h
    exact fe_no h
theorem eJ1_isLatin1 (g0 : Nat → FM → Option (Int32 × FM)) (g17 : FM → Option (Int32 × FM)) (g18 : Int32 → FM → Option (Int32 × FM)) (a0 : Nat) (M : FM) : dJ1_isLatin1 g0 g17 g18 0 [(0, .ref a0)] [] M = g0 a0 M := by rfl
theorem mJ1_isLatin1 (a0 : Nat) (M : FM) (r : Int32 × FM) (h : FJ1_isLatin1 a0 M = some r) : fm_nx M ≤ fm_nx r.2 ∧ fm_ns M ≤ fm_ns r.2 :=
  fe_mono (L0 := [(0, .ref a0)]) (vJ1_isLatin1) (by decide +kernel) (hJ1_isLatin1) (fe_ki_k r) 0 rfl ((eJ1_isLatin1 FJ1_isLatin1_0 FJ1_isLatin1_17 FJ1_isLatin1_18 a0 M).trans h)
theorem zJ1_isLatin1 {s0 : State} {H0 : Heap} {oa : Nat → Nat} {D : va_G} (K : fk s0 H0 oa D) (l : Launch) (a0 : Nat) (M : FM) (r : Int32 × FM) (h : FJ1_isLatin1 a0 M = some r) : fs_Con (fk_E s0 H0 oa D) l 1 ⟨"java/lang/String", "isLatin1", "()Z"⟩ prog_130_method_154_code 1 (Option.some Jvm.ClassFile.FieldType.boolean) [.ref a0] M (some (.int r.1)) r.2 := by
  refine fs_method (own := "java/lang/String") rfl (by decide) K.2.1 (by rw [fe_slen]; exact (Nat.le_of_ble_eq_true rfl)) (mJ1_isLatin1 a0 M r h) (hJ1_isLatin1) 0 rfl (L0 := [(0, .ref a0)]) (fun E => fe_args_e E [.ref a0] 0) ((eJ1_isLatin1 FJ1_isLatin1_0 FJ1_isLatin1_17 FJ1_isLatin1_18 a0 M).trans h) (fe_ki_k r) (fun H hR => fs_nr_o (by decide) (by decide)) ?_
  intro p e s m args below meth c Q C hnm
  have hw : s0.WarmedH s.vm := C.2.2.2.2.1
  refine fe_all C fk_hwr cJ1_isLatin1 [0, 7] (by decide +kernel) (fe_fil (cps := [(0, 3, .iconst 1), (7, 10, .getfield 67137564)]) (by decide +kernel) ?_)
  refine fs_c1 (fs_gets_i (pc := 0) (idx := 38) (v := 1) (CC := "java/lang/String") (n := "COMPACT_STRINGS") (d := "Z") (ref := "java/lang/String") C (by decide +kernel) (kw K hw q2173) (fun _ h => h) K.2.2.2.2.1) ?_
  refine fs_c1 (fs_getf (pc := 7) (n := 67137564) (idx := 15) (ref := "java/lang/String") (O := "java/lang/String") (name := "coder") (desc := "B") C (by decide +kernel) (Or.inl (kw K hw q6554)) (fun _ h => h) (Nat.le_of_ble_eq_true rfl) (Nat.le_of_ble_eq_true rfl) (fs_one (⟨_, ff_7_16 s0 H0 oa D⟩))) ?_
  exact fs_c0
theorem hJ3_checkIndex : fe_H (sJ3_checkIndex) cJ3_checkIndex [0, 9] fe_ki [] 20 (fun _ => dJ3_checkIndex FJ3_checkIndex_0 FJ3_checkIndex_9) := by
  intro j pc L st M r hc h
  rcases fe_mem_c hc with rfl | hc
  · obtain ⟨w0, m0, h⟩ := fe_lI_d h
    obtain ⟨w1, m1, h⟩ := fe_lI_d h
    obtain ⟨w2, m2, h⟩ := fe_lR_d h
    obtain ⟨rfl, hz⟩ := fe_t0_d h
    exact ⟨[(0, .int w0), (1, .int w1), (2, .ref w2)], (fe_cs m0 (fe_cs m1 (fe_cs m2 fe_nl))), Or.inr ((bJ3_checkIndex_0 FJ3_checkIndex_0 FJ3_checkIndex_9 w0 w1 w2 M).symm.trans hz)⟩
  rcases fe_mem_c hc with rfl | hc
  · obtain ⟨w0, m0, h⟩ := fe_lI_d h
    obtain ⟨w1, m1, h⟩ := fe_lI_d h
    obtain ⟨w2, m2, h⟩ := fe_lR_d h
    obtain ⟨rfl, hz⟩ := fe_t0_d h
    exact ⟨[(0, .int w0), (1, .int w1), (2, .ref w2)], (fe_cs m0 (fe_cs m1 (fe_cs m2 fe_nl))), Or.inr ((bJ3_checkIndex_9 FJ3_checkIndex_0 FJ3_checkIndex_9 w0 w1 w2 M).symm.trans hz)⟩
  exact fe_mem_0 hc
theorem vJ3_checkIndex : fe_SB (sJ3_checkIndex) := by
  refine ⟨?_, ?_, ?_, ?_⟩
  · intro i As M r h
    exact fe_no h
  · intro i As M r h
    exact fe_no h
  · intro i As M r h
    exact fe_no h
  · intro i As M r h
    exact fe_no h
theorem eJ3_checkIndex (g0 : Int32 → Int32 → Nat → FM → Option (Int32 × FM)) (g9 : Int32 → Int32 → Nat → FM → Option (Int32 × FM)) (a0 : Int32) (a1 : Int32) (a2 : Nat) (M : FM) : dJ3_checkIndex g0 g9 0 [(0, .int a0), (1, .int a1), (2, .ref a2)] [] M = g0 a0 a1 a2 M := by rfl
theorem mJ3_checkIndex (a0 : Int32) (a1 : Int32) (a2 : Nat) (M : FM) (r : Int32 × FM) (h : FJ3_checkIndex a0 a1 a2 M = some r) : fm_nx M ≤ fm_nx r.2 ∧ fm_ns M ≤ fm_ns r.2 :=
  fe_mono (L0 := [(0, .int a0), (1, .int a1), (2, .ref a2)]) (vJ3_checkIndex) (by decide +kernel) (hJ3_checkIndex) (fe_ki_k r) 0 rfl ((eJ3_checkIndex FJ3_checkIndex_0 FJ3_checkIndex_9 a0 a1 a2 M).trans h)
theorem zJ3_checkIndex {s0 : State} {H0 : Heap} {oa : Nat → Nat} {D : va_G} (K : fk s0 H0 oa D) (l : Launch) (a0 : Int32) (a1 : Int32) (a2 : Nat) (M : FM) (r : Int32 × FM) (h : FJ3_checkIndex a0 a1 a2 M = some r) : fs_Con (fk_E s0 H0 oa D) l 1 ⟨"jdk/internal/util/Preconditions", "checkIndex", "(IILjava/util/function/BiFunction;)I"⟩ prog_135_method_11_code 3 (Option.some Jvm.ClassFile.FieldType.int) [.int a0, .int a1, .ref a2] M (some (.int r.1)) r.2 := by
  refine fs_method (own := "jdk/internal/util/Preconditions") rfl (by decide) K.2.1 (by rw [fe_slen]; exact (Nat.le_of_ble_eq_true rfl)) (mJ3_checkIndex a0 a1 a2 M r h) (hJ3_checkIndex) 0 rfl (L0 := [(0, .int a0), (1, .int a1), (2, .ref a2)]) (fun E => fe_args_e E [.int a0, .int a1, .ref a2] 0) ((eJ3_checkIndex FJ3_checkIndex_0 FJ3_checkIndex_9 a0 a1 a2 M).trans h) (fe_ki_k r) (fun H hR => fs_nr_o (by decide) (by decide)) ?_
  intro p e s m args below meth c Q C hnm
  have hw : s0.WarmedH s.vm := C.2.2.2.2.1
  refine fe_all C fk_hwr cJ3_checkIndex [12] (by decide +kernel) (fe_fil (cps := [(12, 15, .athrow)]) (by decide +kernel) ?_)
  refine fs_c1 (fs_stk (pc := 12) (nx := 15)) ?_
  exact fs_c0
def cJ1_checkIndexN : List (Nat × Nat × Instr) := [(0, 1, .iload 0), (1, 2, .iload 1), (2, 5, .getstatic 0), (5, 8, .invokestatic 13), (8, 9, .pop), (9, 10, .return_)]
theorem bJ1_checkIndexN_0 (f0 : Int32 → Int32 → Nat → FM → Option (Int32 × FM)) (g0 : Int32 → Int32 → FM → Option (FM)) (a0 : Int32) (a1 : Int32) (M : FM) : BJ1_checkIndex_0 f0 a0 a1 M = fx_ev (sJ1_checkIndex (fun a b _ M => f0 a b 60 M)) cJ1_checkIndexN [0] fe_kv (fun pc L st M => bif Nat.blt (fe_rank [] pc) (fe_rank [] 0) then dJ1_checkIndex g0 pc L st M else none) 20 (fe_from cJ1_checkIndexN 0) [(0, .int a0), (1, .int a1)] [] M := by rfl
theorem hJ1_checkIndex : fe_H (sJ1_checkIndex FJ3_checkIndex) cJ1_checkIndex [0] fe_kv [] 20 (fun _ => dJ1_checkIndex FJ1_checkIndex_0) := by
  intro j pc L st M r hc h
  rcases fe_mem_c hc with rfl | hc
  · obtain ⟨w0, m0, h⟩ := fe_lI_d h
    obtain ⟨w1, m1, h⟩ := fe_lI_d h
    obtain ⟨rfl, hz⟩ := fe_t0_d h
    exact ⟨[(0, .int w0), (1, .int w1)], (fe_cs m0 (fe_cs m1 fe_nl)), Or.inr ((bJ1_checkIndex_0 FJ3_checkIndex FJ1_checkIndex_0 w0 w1 M).symm.trans hz)⟩
  exact fe_mem_0 hc
theorem vJ1_checkIndex : fe_SB (sJ1_checkIndex FJ3_checkIndex) := by
  refine ⟨?_, ?_, ?_, ?_⟩
  · intro i As M r h
    exact fe_no h
  · intro i As M r h
    rcases fe_bc h with h | h
    · obtain ⟨v0, t0, rfl, g0⟩ := fe_tI_d h
      obtain ⟨v1, t1, rfl, g1⟩ := fe_tI_d g0
      obtain ⟨v2, t2, rfl, g2⟩ := fe_tR_d g1
      obtain ⟨rfl, hz⟩ := fe_t0_d g2
      exact mJ3_checkIndex v0 v1 v2 M r hz
    exact fe_no h
  · intro i As M r h
    exact fe_no h
  · intro i As M r h
    exact fe_no h
theorem eJ1_checkIndex (g0 : Int32 → Int32 → FM → Option (FM)) (a0 : Int32) (a1 : Int32) (M : FM) : dJ1_checkIndex g0 0 [(0, .int a0), (1, .int a1)] [] M = g0 a0 a1 M := by rfl
theorem mJ1_checkIndex (a0 : Int32) (a1 : Int32) (M : FM) (r : FM) (h : FJ1_checkIndex a0 a1 M = some r) : fm_nx M ≤ fm_nx r ∧ fm_ns M ≤ fm_ns r :=
  fe_mono (L0 := [(0, .int a0), (1, .int a1)]) (vJ1_checkIndex) (by decide +kernel) (hJ1_checkIndex) (fe_kv_k r) 0 rfl ((eJ1_checkIndex FJ1_checkIndex_0 a0 a1 M).trans h)
theorem hJ1_checkIndexN : fe_H (sJ1_checkIndex (fun a b _ M => FJ3_checkIndex a b 60 M)) cJ1_checkIndexN [0] fe_kv [] 20 (fun _ => dJ1_checkIndex FJ1_checkIndex_0) := by
  intro j pc L st M r hc h
  rcases fe_mem_c hc with rfl | hc
  · obtain ⟨w0, m0, h⟩ := fe_lI_d h
    obtain ⟨w1, m1, h⟩ := fe_lI_d h
    obtain ⟨rfl, hz⟩ := fe_t0_d h
    exact ⟨[(0, .int w0), (1, .int w1)], (fe_cs m0 (fe_cs m1 fe_nl)), Or.inr ((bJ1_checkIndexN_0 FJ3_checkIndex FJ1_checkIndex_0 w0 w1 M).symm.trans hz)⟩
  exact fe_mem_0 hc
theorem vJ1_checkIndexN : fe_SB (sJ1_checkIndex (fun a b _ M => FJ3_checkIndex a b 60 M)) := by
  refine ⟨?_, ?_, ?_, ?_⟩
  · intro i As M r h
    exact fe_no h
  · intro i As M r h
    rcases fe_bc h with h | h
    · obtain ⟨v0, t0, rfl, g0⟩ := fe_tI_d h
      obtain ⟨v1, t1, rfl, g1⟩ := fe_tI_d g0
      obtain ⟨v2, t2, rfl, g2⟩ := fe_tR_d g1
      obtain ⟨rfl, hz⟩ := fe_t0_d g2
      exact mJ3_checkIndex v0 v1 v2 M r hz
    exact fe_no h
  · intro i As M r h
    exact fe_no h
  · intro i As M r h
    exact fe_no h
theorem zJ1_checkIndexS {s0 : State} {H0 : Heap} {oa : Nat → Nat} {D : va_G} (K : fk s0 H0 oa D) (hS : (va_Z "jdk/internal/util/Preconditions" "SIOOBE_FORMATTER" "Ljava/util/function/BiFunction;" (fs_rv (fk_E s0 H0 oa D) 60) (fun a => H0.size ≤ a) s0 H0)) (l : Launch) (a0 : Int32) (a1 : Int32) (M : FM) (r : FM) (h : FJ1_checkIndex a0 a1 M = some r) : fs_Con (fk_E s0 H0 oa D) l 2 ⟨"java/lang/String", "checkIndex", "(II)V"⟩ prog_130_method_155_code 2 (Option.none : Option Jvm.ClassFile.FieldType) [.int a0, .int a1] M none r := by
  have o0 : fs_OS (sJ1_checkIndex FJ3_checkIndex) 0 1 (fs_Con (fk_E s0 H0 oa D) l 1 ⟨"jdk/internal/util/Preconditions", "checkIndex", "(IILjava/util/function/BiFunction;)I"⟩ prog_135_method_11_code 3 (Option.some Jvm.ClassFile.FieldType.int)) := by
    intro As M r h
    obtain ⟨v0, t0, rfl, g0⟩ := fe_tI_d h
    obtain ⟨v1, t1, rfl, g1⟩ := fe_tI_d g0
    obtain ⟨v2, t2, rfl, g2⟩ := fe_tR_d g1
    obtain ⟨rfl, hz⟩ := fe_t0_d g2
    exact zJ3_checkIndex K l v0 v1 v2 M r hz
  refine fs_method (own := "java/lang/String") rfl (by decide) K.2.1 (by rw [fe_slen]; exact (Nat.le_of_ble_eq_true rfl)) (mJ1_checkIndex a0 a1 M r h) (hJ1_checkIndex) 0 rfl (L0 := [(0, .int a0), (1, .int a1)]) (fun E => fe_args_e E [.int a0, .int a1] 0) ((eJ1_checkIndex FJ1_checkIndex_0 a0 a1 M).trans h) (fe_kv_k r) (fun H hR => fs_nr_o (by decide) (by decide)) ?_
  intro p e s m args below meth c Q C hnm
  have hw : s0.WarmedH s.vm := C.2.2.2.2.1
  refine fe_all C fk_hwr cJ1_checkIndex [2, 5] (by decide +kernel) (fe_fil (cps := [(2, 5, .getstatic 60), (5, 8, .invokestatic 13)]) (by decide +kernel) ?_)
  refine fs_c1 (fs_gets_r (pc := 2) (idx := 1053) (k := 60) (CC := "jdk/internal/util/Preconditions") (n := "SIOOBE_FORMATTER") (d := "Ljava/util/function/BiFunction;") (ref := "jdk/internal/util/Preconditions") C (by decide +kernel) (kw K hw q2189) (fun _ h => h) hS) ?_
  refine fs_c1 (fs_inv_static (pc := 5) (n := 13) C (fs_lk_static (idx := 1059) (y := ⟨"jdk/internal/util/Preconditions", "checkIndex", "(IILjava/util/function/BiFunction;)I"⟩) (bytes := prog_135_method_11_code) (maxL := 3) (rt := (Option.some Jvm.ClassFile.FieldType.int)) (d := 1) C (by decide +kernel) (kw K hw q2193) (kw K hw q404) (kw K hw q2192) (Or.inl (kw K hw q2191)) ⟨by decide, by decide⟩ rfl (Nat.le_of_ble_eq_true rfl) (Nat.le_of_ble_eq_true rfl)) fs_con_mono o0) ?_
  exact fs_c0
theorem zJ1_checkIndexN {s0 : State} {H0 : Heap} {oa : Nat → Nat} {D : va_G} (K : fk s0 H0 oa D) (hS : (va_Z "jdk/internal/util/Preconditions" "SIOOBE_FORMATTER" "Ljava/util/function/BiFunction;" (fs_rv (fk_E s0 H0 oa D) 0) (fun a => H0.size ≤ a) s0 H0)) (l : Launch) (a0 : Int32) (a1 : Int32) (M : FM) (r : FM) (h : FJ1_checkIndex a0 a1 M = some r) : fs_Con (fk_E s0 H0 oa D) l 2 ⟨"java/lang/String", "checkIndex", "(II)V"⟩ prog_130_method_155_code 2 (Option.none : Option Jvm.ClassFile.FieldType) [.int a0, .int a1] M none r := by
  have o0 : fs_OS (sJ1_checkIndex (fun a b _ M => FJ3_checkIndex a b 60 M)) 0 1 (fs_Con (fk_E s0 H0 oa D) l 1 ⟨"jdk/internal/util/Preconditions", "checkIndex", "(IILjava/util/function/BiFunction;)I"⟩ prog_135_method_11_code 3 (Option.some Jvm.ClassFile.FieldType.int)) := by
    intro As M r h
    obtain ⟨v0, t0, rfl, g0⟩ := fe_tI_d h
    obtain ⟨v1, t1, rfl, g1⟩ := fe_tI_d g0
    obtain ⟨v2, t2, rfl, g2⟩ := fe_tR_d g1
    obtain ⟨rfl, hz⟩ := fe_t0_d g2
    exact zJ3_checkIndex K l v0 v1 v2 M r hz
  refine fs_method (own := "java/lang/String") rfl (by decide) K.2.1 (by rw [fe_slen]; exact (Nat.le_of_ble_eq_true rfl)) (mJ1_checkIndex a0 a1 M r h) (hJ1_checkIndexN) 0 rfl (L0 := [(0, .int a0), (1, .int a1)]) (fun E => fe_args_e E [.int a0, .int a1] 0) ((eJ1_checkIndex FJ1_checkIndex_0 a0 a1 M).trans h) (fe_kv_k r) (fun H hR => fs_nr_o (by decide) (by decide)) ?_
  intro p e s m args below meth c Q C hnm
  have hw : s0.WarmedH s.vm := C.2.2.2.2.1
  refine fe_all C fk_hwr cJ1_checkIndexN [2, 5] (by decide +kernel) (fe_fil (cps := [(2, 5, .getstatic 0), (5, 8, .invokestatic 13)]) (by decide +kernel) ?_)
  refine fs_c1 (fs_gets_r (pc := 2) (idx := 1053) (k := 0) (CC := "jdk/internal/util/Preconditions") (n := "SIOOBE_FORMATTER") (d := "Ljava/util/function/BiFunction;") (ref := "jdk/internal/util/Preconditions") C (by decide +kernel) (kw K hw q2189) (fun _ h => h) hS) ?_
  refine fs_c1 (fs_inv_static (pc := 5) (n := 13) C (fs_lk_static (idx := 1059) (y := ⟨"jdk/internal/util/Preconditions", "checkIndex", "(IILjava/util/function/BiFunction;)I"⟩) (bytes := prog_135_method_11_code) (maxL := 3) (rt := (Option.some Jvm.ClassFile.FieldType.int)) (d := 1) C (by decide +kernel) (kw K hw q2193) (kw K hw q404) (kw K hw q2192) (Or.inl (kw K hw q2191)) ⟨by decide, by decide⟩ rfl (Nat.le_of_ble_eq_true rfl) (Nat.le_of_ble_eq_true rfl)) fs_con_mono o0) ?_
  exact fs_c0
theorem zJ1_checkIndex {s0 : State} {H0 : Heap} {oa : Nat → Nat} {D : va_G} (K : fk s0 H0 oa D) (l : Launch) (a0 : Int32) (a1 : Int32) (M : FM) (r : FM) (h : FJ1_checkIndex a0 a1 M = some r) : fs_Con (fk_E s0 H0 oa D) l 2 ⟨"java/lang/String", "checkIndex", "(II)V"⟩ prog_130_method_155_code 2 (Option.none : Option Jvm.ClassFile.FieldType) [.int a0, .int a1] M none r := by
  obtain ⟨k, hk, hS⟩ := K.2.2.2.2.2.1
  rcases hk with rfl | rfl
  · exact zJ1_checkIndexN K hS l a0 a1 M r h
  · exact zJ1_checkIndexS K hS l a0 a1 M r h
theorem nr_2charAt {a0 : Nat} {a1 : Int32} {M : FM} {r : Int32 × FM} (h : FJ2_charAt a0 a1 M = some r) : ∃ z : Int32, r.1 = (z.toUInt32 % 65536).toInt32 := by
  have h : BJ2_charAt_0 FJ1_checkIndex a0 a1 M = some r := h
  unfold BJ2_charAt_0 at h
  simp only [fi_if] at h
  split at h
  · obtain ⟨M1, _, h⟩ := Option.bind_eq_some_iff.mp h
    split at h
    · obtain rfl := Option.some.inj h
      exact ⟨_, rfl⟩
    · cases h
  · cases h
theorem hJ2_charAt : fe_H (sJ2_charAt FJ1_checkIndex) cJ2_charAt [0] fe_ki [] 20 (fun _ => dJ2_charAt FJ2_charAt_0) := by
  intro j pc L st M r hc h
  rcases fe_mem_c hc with rfl | hc
  · obtain ⟨w0, m0, h⟩ := fe_lR_d h
    obtain ⟨w1, m1, h⟩ := fe_lI_d h
    obtain ⟨rfl, hz⟩ := fe_t0_d h
    exact ⟨[(0, .ref w0), (1, .int w1)], (fe_cs m0 (fe_cs m1 fe_nl)), Or.inr ((bJ2_charAt_0 FJ1_checkIndex FJ2_charAt_0 w0 w1 M).symm.trans hz)⟩
  exact fe_mem_0 hc
theorem vJ2_charAt : fe_SB (sJ2_charAt FJ1_checkIndex) := by
  refine ⟨?_, ?_, ?_, ?_⟩
  · intro i As M r h
    rcases fe_bc h with h | h
    · obtain ⟨v0, t0, rfl, g0⟩ := fe_tI_d h
      obtain ⟨v1, t1, rfl, g1⟩ := fe_tI_d g0
      obtain ⟨rfl, hz⟩ := fe_t0_d g1
      exact mJ1_checkIndex v0 v1 M r hz
    exact fe_no h
  · intro i As M r h
    exact fe_no h
  · intro i As M r h
    exact fe_no h
  · intro i As M r h
    exact fe_no h
theorem eJ2_charAt (g0 : Nat → Int32 → FM → Option (Int32 × FM)) (a0 : Nat) (a1 : Int32) (M : FM) : dJ2_charAt g0 0 [(0, .ref a0), (1, .int a1)] [] M = g0 a0 a1 M := by rfl
theorem mJ2_charAt (a0 : Nat) (a1 : Int32) (M : FM) (r : Int32 × FM) (h : FJ2_charAt a0 a1 M = some r) : fm_nx M ≤ fm_nx r.2 ∧ fm_ns M ≤ fm_ns r.2 :=
  fe_mono (L0 := [(0, .ref a0), (1, .int a1)]) (vJ2_charAt) (by decide +kernel) (hJ2_charAt) (fe_ki_k r) 0 rfl ((eJ2_charAt FJ2_charAt_0 a0 a1 M).trans h)
theorem zJ2_charAt {s0 : State} {H0 : Heap} {oa : Nat → Nat} {D : va_G} (K : fk s0 H0 oa D) (l : Launch) (a0 : Nat) (a1 : Int32) (M : FM) (r : Int32 × FM) (h : FJ2_charAt a0 a1 M = some r) : fs_Con (fk_E s0 H0 oa D) l 3 ⟨"java/lang/StringLatin1", "charAt", "([BI)C"⟩ prog_131_method_2_code 2 (Option.some Jvm.ClassFile.FieldType.char) [.ref a0, .int a1] M (some (.int r.1)) r.2 := by
  have o0 : fs_OS (sJ2_charAt FJ1_checkIndex) 0 0 (fs_Con (fk_E s0 H0 oa D) l 2 ⟨"java/lang/String", "checkIndex", "(II)V"⟩ prog_130_method_155_code 2 (Option.none : Option Jvm.ClassFile.FieldType)) := by
    intro As M r h
    obtain ⟨v0, t0, rfl, g0⟩ := fe_tI_d h
    obtain ⟨v1, t1, rfl, g1⟩ := fe_tI_d g0
    obtain ⟨rfl, hz⟩ := fe_t0_d g1
    exact zJ1_checkIndex K l v0 v1 M r hz
  refine fs_method (own := "java/lang/StringLatin1") rfl (by decide) K.2.1 (by rw [fe_slen]; exact (Nat.le_of_ble_eq_true rfl)) (mJ2_charAt a0 a1 M r h) (hJ2_charAt) 0 rfl (L0 := [(0, .ref a0), (1, .int a1)]) (fun E => fe_args_e E [.ref a0, .int a1] 0) ((eJ2_charAt FJ2_charAt_0 a0 a1 M).trans h) (fe_ki_k r) (fun H hR => fs_nr_h (nr_2charAt h)) ?_
  intro p e s m args below meth c Q C hnm
  have hw : s0.WarmedH s.vm := C.2.2.2.2.1
  refine fe_all C fk_hwr cJ2_charAt [3] (by decide +kernel) (fe_fil (cps := [(3, 6, .invokestatic 8)]) (by decide +kernel) ?_)
  refine fs_c1 (fs_inv_static (pc := 3) (n := 8) C (fs_lk_static (idx := 9) (y := ⟨"java/lang/String", "checkIndex", "(II)V"⟩) (bytes := prog_130_method_155_code) (maxL := 2) (rt := (Option.none : Option Jvm.ClassFile.FieldType)) (d := 2) C (by decide +kernel) (kw K hw q2188) (kw K hw q402) (kw K hw q2187) (Or.inl (kw K hw q2186)) ⟨by decide, by decide⟩ rfl (Nat.le_of_ble_eq_true rfl) (Nat.le_of_ble_eq_true rfl)) fs_con_mono o0) ?_
  exact fs_c0
theorem nr_1charAt {a0 : Nat} {a1 : Int32} {M : FM} {r : Int32 × FM} (h : FJ1_charAt a0 a1 M = some r) : ∃ z : Int32, r.1 = (z.toUInt32 % 65536).toInt32 := by
  have h : BJ1_charAt_0 FJ1_isLatin1 FJ2_charAt a0 a1 M = some r := h
  unfold BJ1_charAt_0 at h
  simp only [fi_if] at h
  split at h
  · obtain ⟨r1, _, h⟩ := Option.bind_eq_some_iff.mp h
    split at h
    · split at h <;> cases h
    · split at h
      · obtain ⟨r2, e2, h⟩ := Option.bind_eq_some_iff.mp h
        obtain rfl := Option.some.inj h
        exact nr_2charAt e2
      · cases h
  · cases h
theorem hJ1_charAt : fe_H (sJ1_charAt FJ1_isLatin1 FJ2_charAt) cJ1_charAt [0] fe_ki [] 20 (fun _ => dJ1_charAt FJ1_charAt_0) := by
  intro j pc L st M r hc h
  rcases fe_mem_c hc with rfl | hc
  · obtain ⟨w0, m0, h⟩ := fe_lR_d h
    obtain ⟨w1, m1, h⟩ := fe_lI_d h
    obtain ⟨rfl, hz⟩ := fe_t0_d h
    exact ⟨[(0, .ref w0), (1, .int w1)], (fe_cs m0 (fe_cs m1 fe_nl)), Or.inr ((bJ1_charAt_0 FJ1_isLatin1 FJ2_charAt FJ1_charAt_0 w0 w1 M).symm.trans hz)⟩
  exact fe_mem_0 hc
theorem vJ1_charAt : fe_SB (sJ1_charAt FJ1_isLatin1 FJ2_charAt) := by
  refine ⟨?_, ?_, ?_, ?_⟩
  · intro i As M r h
    exact fe_no h
  · intro i As M r h
    rcases fe_bc h with h | h
    · obtain ⟨v0, t0, rfl, g0⟩ := fe_tR_d h
      obtain ⟨rfl, hz⟩ := fe_t0_d g0
      exact mJ1_isLatin1 v0 M r hz
    rcases fe_bc h with h | h
    · obtain ⟨v0, t0, rfl, g0⟩ := fe_tR_d h
      obtain ⟨v1, t1, rfl, g1⟩ := fe_tI_d g0
      obtain ⟨rfl, hz⟩ := fe_t0_d g1
      exact mJ2_charAt v0 v1 M r hz
    exact fe_no h
  · intro i As M r h
    exact fe_no h
  · intro i As M r h
    exact fe_no h
theorem eJ1_charAt (g0 : Nat → Int32 → FM → Option (Int32 × FM)) (a0 : Nat) (a1 : Int32) (M : FM) : dJ1_charAt g0 0 [(0, .ref a0), (1, .int a1)] [] M = g0 a0 a1 M := by rfl
theorem mJ1_charAt (a0 : Nat) (a1 : Int32) (M : FM) (r : Int32 × FM) (h : FJ1_charAt a0 a1 M = some r) : fm_nx M ≤ fm_nx r.2 ∧ fm_ns M ≤ fm_ns r.2 :=
  fe_mono (L0 := [(0, .ref a0), (1, .int a1)]) (vJ1_charAt) (by decide +kernel) (hJ1_charAt) (fe_ki_k r) 0 rfl ((eJ1_charAt FJ1_charAt_0 a0 a1 M).trans h)
theorem zJ1_charAt {s0 : State} {H0 : Heap} {oa : Nat → Nat} {D : va_G} (K : fk s0 H0 oa D) (l : Launch) (a0 : Nat) (a1 : Int32) (M : FM) (r : Int32 × FM) (h : FJ1_charAt a0 a1 M = some r) : fs_Con (fk_E s0 H0 oa D) l 4 ⟨"java/lang/String", "charAt", "(I)C"⟩ prog_130_method_56_code 2 (Option.some Jvm.ClassFile.FieldType.char) [.ref a0, .int a1] M (some (.int r.1)) r.2 := by
  have o0 : fs_OS (sJ1_charAt FJ1_isLatin1 FJ2_charAt) 0 1 (fs_Con (fk_E s0 H0 oa D) l 1 ⟨"java/lang/String", "isLatin1", "()Z"⟩ prog_130_method_154_code 1 (Option.some Jvm.ClassFile.FieldType.boolean)) := by
    intro As M r h
    obtain ⟨v0, t0, rfl, g0⟩ := fe_tR_d h
    obtain ⟨rfl, hz⟩ := fe_t0_d g0
    exact zJ1_isLatin1 K l v0 M r hz
  have o1 : fs_OS (sJ1_charAt FJ1_isLatin1 FJ2_charAt) 1 1 (fs_Con (fk_E s0 H0 oa D) l 3 ⟨"java/lang/StringLatin1", "charAt", "([BI)C"⟩ prog_131_method_2_code 2 (Option.some Jvm.ClassFile.FieldType.char)) := by
    intro As M r h
    obtain ⟨v0, t0, rfl, g0⟩ := fe_tR_d h
    obtain ⟨v1, t1, rfl, g1⟩ := fe_tI_d g0
    obtain ⟨rfl, hz⟩ := fe_t0_d g1
    exact zJ2_charAt K l v0 v1 M r hz
  refine fs_method (own := "java/lang/String") rfl (by decide) K.2.1 (by rw [fe_slen]; exact (Nat.le_of_ble_eq_true rfl)) (mJ1_charAt a0 a1 M r h) (hJ1_charAt) 0 rfl (L0 := [(0, .ref a0), (1, .int a1)]) (fun E => fe_args_e E [.ref a0, .int a1] 0) ((eJ1_charAt FJ1_charAt_0 a0 a1 M).trans h) (fe_ki_k r) (fun H hR => fs_nr_h (nr_1charAt h)) ?_
  intro p e s m args below meth c Q C hnm
  have hw : s0.WarmedH s.vm := C.2.2.2.2.1
  refine fe_all C fk_hwr cJ1_charAt [1, 8, 12, 17, 21] (by decide +kernel) (fe_fil (cps := [(1, 4, .invokevirtual 5250055), (8, 11, .getfield 62943262), (12, 15, .invokestatic 73), (17, 20, .getfield 62943262), (21, 24, .athrow)]) (by decide +kernel) ?_)
  refine fs_c1 (fs_inv_virtual (pc := 1) (n := 5250055) C (Nat.le_of_ble_eq_true rfl) (Nat.le_of_ble_eq_true rfl) (fs_lk_virtual (idx := 492) (y := ⟨"java/lang/String", "isLatin1", "()Z"⟩) (bytes := prog_130_method_154_code) (maxL := 1) (rt := (Option.some Jvm.ClassFile.FieldType.boolean)) (d := 1) C (Nat.le_of_ble_eq_true rfl) (Nat.le_of_ble_eq_true rfl) (by decide +kernel) (kw K hw q2182) (kw K hw q402) (kw K hw q2180) (Or.inl (kw K hw q2179)) ⟨by decide, by decide⟩ rfl (Nat.le_of_ble_eq_true rfl) (Nat.le_of_ble_eq_true rfl) (fs_one (⟨_, rfl, kw K hw q2181⟩))) fs_con_mono o0) ?_
  refine fs_c1 (fs_getf (pc := 8) (n := 62943262) (idx := 9) (ref := "java/lang/String") (O := "java/lang/String") (name := "value") (desc := "[B") C (by decide +kernel) (Or.inl (kw K hw q6553)) (fun _ h => h) (Nat.le_of_ble_eq_true rfl) (Nat.le_of_ble_eq_true rfl) (fs_one (⟨_, ff_7_15 s0 H0 oa D⟩))) ?_
  refine fs_c1 (fs_inv_static (pc := 12) (n := 73) C (fs_lk_static (idx := 495) (y := ⟨"java/lang/StringLatin1", "charAt", "([BI)C"⟩) (bytes := prog_131_method_2_code) (maxL := 2) (rt := (Option.some Jvm.ClassFile.FieldType.char)) (d := 3) C (by decide +kernel) (kw K hw q2185) (kw K hw q403) (kw K hw q2184) (Or.inl (kw K hw q2183)) ⟨by decide, by decide⟩ rfl (Nat.le_of_ble_eq_true rfl) (Nat.le_of_ble_eq_true rfl)) fs_con_mono o1) ?_
  refine fs_c1 (fs_getf (pc := 17) (n := 62943262) (idx := 9) (ref := "java/lang/String") (O := "java/lang/String") (name := "value") (desc := "[B") C (by decide +kernel) (Or.inl (kw K hw q6553)) (fun _ h => h) (Nat.le_of_ble_eq_true rfl) (Nat.le_of_ble_eq_true rfl) (fs_one (⟨_, ff_7_15 s0 H0 oa D⟩))) ?_
  refine fs_c1 (fs_stk (pc := 21) (nx := 24)) ?_
  exact fs_c0
theorem hX3_add : fe_H (sX3_add) cX3_add [0] fe_kv [] 20 (fun _ => dX3_add FX3_add_0) := by
  intro j pc L st M r hc h
  rcases fe_mem_c hc with rfl | hc
  · obtain ⟨w0, m0, h⟩ := fe_lR_d h
    obtain ⟨w1, m1, h⟩ := fe_lI_d h
    obtain ⟨rfl, hz⟩ := fe_t0_d h
    exact ⟨[(0, .ref w0), (1, .int w1)], (fe_cs m0 (fe_cs m1 fe_nl)), Or.inr ((bX3_add_0 FX3_add_0 w0 w1 M).symm.trans hz)⟩
  exact fe_mem_0 hc
theorem vX3_add : fe_SB (sX3_add) := by
  refine ⟨?_, ?_, ?_, ?_⟩
  · intro i As M r h
    exact fe_no h
  · intro i As M r h
    exact fe_no h
  · intro i As M r h
    exact fe_no h
  · intro i As M r h
    exact fe_no h
theorem eX3_add (g0 : Nat → Int32 → FM → Option (FM)) (a0 : Nat) (a1 : Int32) (M : FM) : dX3_add g0 0 [(0, .ref a0), (1, .int a1)] [] M = g0 a0 a1 M := by rfl
theorem mX3_add (a0 : Nat) (a1 : Int32) (M : FM) (r : FM) (h : FX3_add a0 a1 M = some r) : fm_nx M ≤ fm_nx r ∧ fm_ns M ≤ fm_ns r :=
  fe_mono (L0 := [(0, .ref a0), (1, .int a1)]) (vX3_add) (by decide +kernel) (hX3_add) (fe_kv_k r) 0 rfl ((eX3_add FX3_add_0 a0 a1 M).trans h)
theorem zX3_add {s0 : State} {H0 : Heap} {oa : Nat → Nat} {D : va_G} (K : fk s0 H0 oa D) (l : Launch) (a0 : Nat) (a1 : Int32) (M : FM) (r : FM) (h : FX3_add a0 a1 M = some r) : fs_Con (fk_E s0 H0 oa D) l 1 ⟨"BoardMachine$Trees$Row", "add", "(I)V"⟩ prog_100_method_3_code 2 (Option.none : Option Jvm.ClassFile.FieldType) [.ref a0, .int a1] M none r := by
  refine fs_method (own := "BoardMachine$Trees$Row") rfl (by decide) K.2.1 (by rw [fe_slen]; exact (Nat.le_of_ble_eq_true rfl)) (mX3_add a0 a1 M r h) (hX3_add) 0 rfl (L0 := [(0, .ref a0), (1, .int a1)]) (fun E => fe_args_e E [.ref a0, .int a1] 0) ((eX3_add FX3_add_0 a0 a1 M).trans h) (fe_kv_k r) (fun H hR => fs_nr_o (by decide) (by decide)) ?_
  intro p e s m args below meth c Q C hnm
  have hw : s0.WarmedH s.vm := C.2.2.2.2.1
  refine fe_all C fk_hwr cX3_add [1, 6, 12] (by decide +kernel) (fe_fil (cps := [(1, 4, .getfield 1095065946), (6, 9, .getfield 1099260248), (12, 15, .putfield 1099260248)]) (by decide +kernel) ?_)
  refine fs_c1 (fs_getf (pc := 1) (n := 1095065946) (idx := 7) (ref := "BoardMachine$Trees$Row") (O := "BoardMachine$Trees$Row") (name := "bytes") (desc := "[B") C (by decide +kernel) (Or.inl (kw K hw q456)) (fun _ h => h) (Nat.le_of_ble_eq_true rfl) (Nat.le_of_ble_eq_true rfl) (fs_one (⟨_, ff_86_261 s0 H0 oa D⟩))) ?_
  refine fs_c1 (fs_getf (pc := 6) (n := 1099260248) (idx := 13) (ref := "BoardMachine$Trees$Row") (O := "BoardMachine$Trees$Row") (name := "size") (desc := "I") C (by decide +kernel) (Or.inl (kw K hw q463)) (fun _ h => h) (Nat.le_of_ble_eq_true rfl) (Nat.le_of_ble_eq_true rfl) (fs_one (⟨_, ff_86_262 s0 H0 oa D⟩))) ?_
  refine fs_c1 (fs_putf (pc := 12) (n := 1099260248) (idx := 13) (ref := "BoardMachine$Trees$Row") (O := "BoardMachine$Trees$Row") (name := "size") (desc := "I") (fin := false) (ty := .int) C (by decide +kernel) (Or.inl ⟨rfl, Or.inl (kw K hw q463)⟩) (fun _ h => h) (Nat.le_of_ble_eq_true rfl) (Nat.le_of_ble_eq_true rfl) (Nat.le_of_ble_eq_true rfl) rfl rfl (by decide) (fs_one (⟨rfl, ff_86_262 s0 H0 oa D⟩))) ?_
  exact fs_c0
theorem hX4_text (n : Nat) : fe_H (sX4_text FJ1_length FJ1_charAt FX3_add) cX4_text [0, 2] fe_kv [2] 20 (fun j => dX4_text (FX4_text_0 n (FX4_text_L2 n j)) (FX4_text_L2 n j)) := by
  intro j pc L st M r hc h
  rcases fe_mem_c hc with rfl | hc
  · obtain ⟨w0, m0, h⟩ := fe_lR_d h
    obtain ⟨w1, m1, h⟩ := fe_lR_d h
    obtain ⟨rfl, hz⟩ := fe_t0_d h
    exact ⟨[(0, .ref w0), (1, .ref w1)], (fe_cs m0 (fe_cs m1 fe_nl)), Or.inr ((bX4_text_0 FJ1_length FJ1_charAt FX3_add (FX4_text_0 n (FX4_text_L2 n j)) (FX4_text_L2 n j) w0 w1 M).symm.trans hz)⟩
  rcases fe_mem_c hc with rfl | hc
  · obtain ⟨w0, m0, h⟩ := fe_lR_d h
    obtain ⟨w1, m1, h⟩ := fe_lR_d h
    obtain ⟨w2, m2, h⟩ := fe_lI_d h
    obtain ⟨rfl, hz⟩ := fe_t0_d h
    cases j with
    | zero => exact fe_no hz
    | succ j => exact ⟨[(0, .ref w0), (1, .ref w1), (2, .int w2)], (fe_cs m0 (fe_cs m1 (fe_cs m2 fe_nl))), Or.inl ⟨j, rfl, (bX4_text_2 FJ1_length FJ1_charAt FX3_add (FX4_text_0 n (FX4_text_L2 n j)) (FX4_text_L2 n j) w0 w1 w2 M).symm.trans hz⟩⟩
  exact fe_mem_0 hc
theorem vX4_text (n : Nat) : fe_SB (sX4_text FJ1_length FJ1_charAt FX3_add) := by
  refine ⟨?_, ?_, ?_, ?_⟩
  · intro i As M r h
    rcases fe_bc h with h | h
    · obtain ⟨v0, t0, rfl, g0⟩ := fe_tR_d h
      obtain ⟨v1, t1, rfl, g1⟩ := fe_tI_d g0
      obtain ⟨rfl, hz⟩ := fe_t0_d g1
      exact mX3_add v0 v1 M r hz
    exact fe_no h
  · intro i As M r h
    rcases fe_bc h with h | h
    · obtain ⟨v0, t0, rfl, g0⟩ := fe_tR_d h
      obtain ⟨rfl, hz⟩ := fe_t0_d g0
      exact mJ1_length v0 M r hz
    rcases fe_bc h with h | h
    · obtain ⟨v0, t0, rfl, g0⟩ := fe_tR_d h
      obtain ⟨v1, t1, rfl, g1⟩ := fe_tI_d g0
      obtain ⟨rfl, hz⟩ := fe_t0_d g1
      exact mJ1_charAt v0 v1 M r hz
    exact fe_no h
  · intro i As M r h
    exact fe_no h
  · intro i As M r h
    exact fe_no h
theorem eX4_text (g0 : Nat → Nat → FM → Option (FM)) (k2 : Nat → Nat → Int32 → FM → Option (FM)) (a0 : Nat) (a1 : Nat) (M : FM) : dX4_text g0 k2 0 [(0, .ref a0), (1, .ref a1)] [] M = g0 a0 a1 M := by rfl
theorem mX4_text (n : Nat) (a0 : Nat) (a1 : Nat) (M : FM) (r : FM) (h : FX4_text n a0 a1 M = some r) : fm_nx M ≤ fm_nx r ∧ fm_ns M ≤ fm_ns r :=
  fe_mono (L0 := [(0, .ref a0), (1, .ref a1)]) (vX4_text n) (by decide +kernel) (hX4_text n) (fe_kv_k r) n rfl ((eX4_text (FX4_text_0 n (FX4_text_L2 n n)) (FX4_text_L2 n n) a0 a1 M).trans h)
theorem zX4_text {s0 : State} {H0 : Heap} {oa : Nat → Nat} {D : va_G} (K : fk s0 H0 oa D) (l : Launch) (n : Nat) (a0 : Nat) (a1 : Nat) (M : FM) (r : FM) (h : FX4_text n a0 a1 M = some r) : fs_Con (fk_E s0 H0 oa D) l 5 ⟨"BoardMachine$Describer", "text", "(Ljava/lang/String;)V"⟩ prog_14_method_2_code 3 (Option.none : Option Jvm.ClassFile.FieldType) [.ref a0, .ref a1] M none r := by
  have o0 : fs_OS (sX4_text FJ1_length FJ1_charAt FX3_add) 0 1 (fs_Con (fk_E s0 H0 oa D) l 2 ⟨"java/lang/String", "length", "()I"⟩ prog_130_method_54_code 1 (Option.some Jvm.ClassFile.FieldType.int)) := by
    intro As M r h
    obtain ⟨v0, t0, rfl, g0⟩ := fe_tR_d h
    obtain ⟨rfl, hz⟩ := fe_t0_d g0
    exact zJ1_length K l v0 M r hz
  have o1 : fs_OS (sX4_text FJ1_length FJ1_charAt FX3_add) 1 1 (fs_Con (fk_E s0 H0 oa D) l 4 ⟨"java/lang/String", "charAt", "(I)C"⟩ prog_130_method_56_code 2 (Option.some Jvm.ClassFile.FieldType.char)) := by
    intro As M r h
    obtain ⟨v0, t0, rfl, g0⟩ := fe_tR_d h
    obtain ⟨v1, t1, rfl, g1⟩ := fe_tI_d g0
    obtain ⟨rfl, hz⟩ := fe_t0_d g1
    exact zJ1_charAt K l v0 v1 M r hz
  have o2 : fs_OS (sX4_text FJ1_length FJ1_charAt FX3_add) 2 0 (fs_Con (fk_E s0 H0 oa D) l 1 ⟨"BoardMachine$Trees$Row", "add", "(I)V"⟩ prog_100_method_3_code 2 (Option.none : Option Jvm.ClassFile.FieldType)) := by
    intro As M r h
    obtain ⟨v0, t0, rfl, g0⟩ := fe_tR_d h
    obtain ⟨v1, t1, rfl, g1⟩ := fe_tI_d g0
    obtain ⟨rfl, hz⟩ := fe_t0_d g1
    exact zX3_add K l v0 v1 M r hz
  refine fs_method (own := "BoardMachine$Describer") rfl (by decide) K.2.1 (by rw [fe_slen]; exact (Nat.le_of_ble_eq_true rfl)) (mX4_text n a0 a1 M r h) (hX4_text n) n rfl (L0 := [(0, .ref a0), (1, .ref a1)]) (fun E => fe_args_e E [.ref a0, .ref a1] 0) ((eX4_text (FX4_text_0 n (FX4_text_L2 n n)) (FX4_text_L2 n n) a0 a1 M).trans h) (fe_kv_k r) (fun H hR => fs_nr_o (by decide) (by decide)) ?_
  intro p e s m args below meth c Q C hnm
  have hw : s0.WarmedH s.vm := C.2.2.2.2.1
  refine fe_all C fk_hwr cX4_text [4, 11, 16, 19] (by decide +kernel) (fe_fil (cps := [(4, 7, .invokevirtual 5250055), (11, 14, .getfield 230772822), (16, 19, .invokevirtual 76553223), (19, 22, .invokevirtual 142694486)]) (by decide +kernel) ?_)
  refine fs_c1 (fs_inv_virtual (pc := 4) (n := 5250055) C (Nat.le_of_ble_eq_true rfl) (Nat.le_of_ble_eq_true rfl) (fs_lk_virtual (idx := 34) (y := ⟨"java/lang/String", "length", "()I"⟩) (bytes := prog_130_method_54_code) (maxL := 1) (rt := (Option.some Jvm.ClassFile.FieldType.int)) (d := 2) C (Nat.le_of_ble_eq_true rfl) (Nat.le_of_ble_eq_true rfl) (by decide +kernel) (kw K hw q2168) (kw K hw q402) (kw K hw q2166) (Or.inl (kw K hw q2165)) ⟨by decide, by decide⟩ rfl (Nat.le_of_ble_eq_true rfl) (Nat.le_of_ble_eq_true rfl) (fs_one (⟨_, rfl, kw K hw q2167⟩))) fs_con_mono o0) ?_
  refine fs_c1 (fs_getf (pc := 11) (n := 230772822) (idx := 14) (ref := "BoardMachine$Describer") (O := "BoardMachine$Describer") (name := "piece") (desc := "LBoardMachine$Trees$Row;") C (by decide +kernel) (Or.inl (kw K hw q607)) (fun _ h => h) (Nat.le_of_ble_eq_true rfl) (Nat.le_of_ble_eq_true rfl) (fs_one (⟨_, ff_21_55 s0 H0 oa D⟩))) ?_
  refine fs_c1 (fs_inv_virtual (pc := 16) (n := 76553223) C (Nat.le_of_ble_eq_true rfl) (Nat.le_of_ble_eq_true rfl) (fs_lk_virtual (idx := 40) (y := ⟨"java/lang/String", "charAt", "(I)C"⟩) (bytes := prog_130_method_56_code) (maxL := 2) (rt := (Option.some Jvm.ClassFile.FieldType.char)) (d := 4) C (Nat.le_of_ble_eq_true rfl) (Nat.le_of_ble_eq_true rfl) (by decide +kernel) (kw K hw q2178) (kw K hw q402) (kw K hw q2176) (Or.inl (kw K hw q2175)) ⟨by decide, by decide⟩ rfl (Nat.le_of_ble_eq_true rfl) (Nat.le_of_ble_eq_true rfl) (fs_one (⟨_, rfl, kw K hw q2177⟩))) fs_con_mono o1) ?_
  refine fs_c1 (fs_inv_virtual (pc := 19) (n := 142694486) C (Nat.le_of_ble_eq_true rfl) (Nat.le_of_ble_eq_true rfl) (fs_lk_virtual (idx := 44) (y := ⟨"BoardMachine$Trees$Row", "add", "(I)V"⟩) (bytes := prog_100_method_3_code) (maxL := 2) (rt := (Option.none : Option Jvm.ClassFile.FieldType)) (d := 1) C (Nat.le_of_ble_eq_true rfl) (Nat.le_of_ble_eq_true rfl) (by decide +kernel) (kw K hw q2216) (kw K hw q313) (kw K hw q2214) (Or.inl (kw K hw q2213)) ⟨by decide, by decide⟩ rfl (Nat.le_of_ble_eq_true rfl) (Nat.le_of_ble_eq_true rfl) (fs_one (⟨_, rfl, kw K hw q2215⟩))) fs_con_mono o2) ?_
  exact fs_c0
theorem hX4_begin (n : Nat) : fe_H (sX4_begin (FX4_text n)) cX4_begin [0] fe_kv [] 20 (fun _ => dX4_begin (FX4_begin_0 n)) := by
  intro j pc L st M r hc h
  rcases fe_mem_c hc with rfl | hc
  · obtain ⟨w0, m0, h⟩ := fe_lR_d h
    obtain ⟨w1, m1, h⟩ := fe_lR_d h
    obtain ⟨rfl, hz⟩ := fe_t0_d h
    exact ⟨[(0, .ref w0), (1, .ref w1)], (fe_cs m0 (fe_cs m1 fe_nl)), Or.inr ((bX4_begin_0 (FX4_text n) (FX4_begin_0 n ) w0 w1 M).symm.trans hz)⟩
  exact fe_mem_0 hc
theorem vX4_begin (n : Nat) : fe_SB (sX4_begin (FX4_text n)) := by
  refine ⟨?_, ?_, ?_, ?_⟩
  · intro i As M r h
    rcases fe_bc h with h | h
    · obtain ⟨v0, t0, rfl, g0⟩ := fe_tR_d h
      obtain ⟨v1, t1, rfl, g1⟩ := fe_tR_d g0
      obtain ⟨rfl, hz⟩ := fe_t0_d g1
      exact mX4_text n v0 v1 M r hz
    exact fe_no h
  · intro i As M r h
    exact fe_no h
  · intro i As M r h
    exact fe_no h
  · intro i As M r h
    exact fe_no h
theorem eX4_begin (g0 : Nat → Nat → FM → Option (FM)) (a0 : Nat) (a1 : Nat) (M : FM) : dX4_begin g0 0 [(0, .ref a0), (1, .ref a1)] [] M = g0 a0 a1 M := by rfl
theorem mX4_begin (n : Nat) (a0 : Nat) (a1 : Nat) (M : FM) (r : FM) (h : FX4_begin n a0 a1 M = some r) : fm_nx M ≤ fm_nx r ∧ fm_ns M ≤ fm_ns r :=
  fe_mono (L0 := [(0, .ref a0), (1, .ref a1)]) (vX4_begin n) (by decide +kernel) (hX4_begin n) (fe_kv_k r) 0 rfl ((eX4_begin (FX4_begin_0 n ) a0 a1 M).trans h)
theorem zX4_begin {s0 : State} {H0 : Heap} {oa : Nat → Nat} {D : va_G} (K : fk s0 H0 oa D) (l : Launch) (n : Nat) (a0 : Nat) (a1 : Nat) (M : FM) (r : FM) (h : FX4_begin n a0 a1 M = some r) : fs_Con (fk_E s0 H0 oa D) l 6 ⟨"BoardMachine$Describer", "begin", "(Ljava/lang/String;)V"⟩ prog_14_method_5_code 2 (Option.none : Option Jvm.ClassFile.FieldType) [.ref a0, .ref a1] M none r := by
  have o0 : fs_OS (sX4_begin (FX4_text n)) 0 0 (fs_Con (fk_E s0 H0 oa D) l 5 ⟨"BoardMachine$Describer", "text", "(Ljava/lang/String;)V"⟩ prog_14_method_2_code 3 (Option.none : Option Jvm.ClassFile.FieldType)) := by
    intro As M r h
    obtain ⟨v0, t0, rfl, g0⟩ := fe_tR_d h
    obtain ⟨v1, t1, rfl, g1⟩ := fe_tR_d g0
    obtain ⟨rfl, hz⟩ := fe_t0_d g1
    exact zX4_text K l n v0 v1 M r hz
  refine fs_method (own := "BoardMachine$Describer") rfl (by decide) K.2.1 (by rw [fe_slen]; exact (Nat.le_of_ble_eq_true rfl)) (mX4_begin n a0 a1 M r h) (hX4_begin n) 0 rfl (L0 := [(0, .ref a0), (1, .ref a1)]) (fun E => fe_args_e E [.ref a0, .ref a1] 0) ((eX4_begin (FX4_begin_0 n ) a0 a1 M).trans h) (fe_kv_k r) (fun H hR => fs_nr_o (by decide) (by decide)) ?_
  intro p e s m args below meth c Q C hnm
  have hw : s0.WarmedH s.vm := C.2.2.2.2.1
  refine fe_all C fk_hwr cX4_begin [1, 5, 10] (by decide +kernel) (fe_fil (cps := [(1, 4, .getfield 230772822), (5, 8, .putfield 1099260248), (10, 13, .invokevirtual 8410133)]) (by decide +kernel) ?_)
  refine fs_c1 (fs_getf (pc := 1) (n := 230772822) (idx := 14) (ref := "BoardMachine$Describer") (O := "BoardMachine$Describer") (name := "piece") (desc := "LBoardMachine$Trees$Row;") C (by decide +kernel) (Or.inl (kw K hw q607)) (fun _ h => h) (Nat.le_of_ble_eq_true rfl) (Nat.le_of_ble_eq_true rfl) (fs_one (⟨_, ff_21_55 s0 H0 oa D⟩))) ?_
  refine fs_c1 (fs_putf (pc := 5) (n := 1099260248) (idx := 47) (ref := "BoardMachine$Trees$Row") (O := "BoardMachine$Trees$Row") (name := "size") (desc := "I") (fin := false) (ty := .int) C (by decide +kernel) (Or.inl ⟨rfl, Or.inr ⟨_, kF K hw q462⟩⟩) (fun _ h => h) (Nat.le_of_ble_eq_true rfl) (Nat.le_of_ble_eq_true rfl) (Nat.le_of_ble_eq_true rfl) rfl rfl (by decide) (fs_one (⟨rfl, ff_86_262 s0 H0 oa D⟩))) ?_
  refine fs_c1 (fs_inv_virtual (pc := 10) (n := 8410133) C (Nat.le_of_ble_eq_true rfl) (Nat.le_of_ble_eq_true rfl) (fs_lk_virtual (idx := 51) (y := ⟨"BoardMachine$Describer", "text", "(Ljava/lang/String;)V"⟩) (bytes := prog_14_method_2_code) (maxL := 3) (rt := (Option.none : Option Jvm.ClassFile.FieldType)) (d := 5) C (Nat.le_of_ble_eq_true rfl) (Nat.le_of_ble_eq_true rfl) (by decide +kernel) (kw K hw q2164) (kw K hw q314) (kw K hw q2163) (Or.inl (kw K hw q2161)) ⟨by decide, by decide⟩ rfl (Nat.le_of_ble_eq_true rfl) (Nat.le_of_ble_eq_true rfl) (fs_one (⟨_, rfl, kw K hw qs7⟩))) fs_con_mono o0) ?_
  exact fs_c0
theorem hX3_addNumber (n : Nat) : fe_H (sX3_addNumber FX3_add) cX3_addNumber [0, 3] fe_kv [3] 20 (fun j => dX3_addNumber (FX3_addNumber_0 n (FX3_addNumber_L3 n j)) (FX3_addNumber_L3 n j)) := by
  intro j pc L st M r hc h
  rcases fe_mem_c hc with rfl | hc
  · obtain ⟨w0, m0, h⟩ := fe_lR_d h
    obtain ⟨w1, m1, h⟩ := fe_lI_d h
    obtain ⟨rfl, hz⟩ := fe_t0_d h
    exact ⟨[(0, .ref w0), (1, .int w1)], (fe_cs m0 (fe_cs m1 fe_nl)), Or.inr ((bX3_addNumber_0 FX3_add (FX3_addNumber_0 n (FX3_addNumber_L3 n j)) (FX3_addNumber_L3 n j) w0 w1 M).symm.trans hz)⟩
  rcases fe_mem_c hc with rfl | hc
  · obtain ⟨w0, m0, h⟩ := fe_lR_d h
    obtain ⟨w1, m1, h⟩ := fe_lI_d h
    obtain ⟨w2, m2, h⟩ := fe_lI_d h
    obtain ⟨rfl, hz⟩ := fe_t0_d h
    cases j with
    | zero => exact fe_no hz
    | succ j => exact ⟨[(0, .ref w0), (1, .int w1), (2, .int w2)], (fe_cs m0 (fe_cs m1 (fe_cs m2 fe_nl))), Or.inl ⟨j, rfl, (bX3_addNumber_3 FX3_add (FX3_addNumber_0 n (FX3_addNumber_L3 n j)) (FX3_addNumber_L3 n j) w0 w1 w2 M).symm.trans hz⟩⟩
  exact fe_mem_0 hc
theorem vX3_addNumber (n : Nat) : fe_SB (sX3_addNumber FX3_add) := by
  refine ⟨?_, ?_, ?_, ?_⟩
  · intro i As M r h
    rcases fe_bc h with h | h
    · obtain ⟨v0, t0, rfl, g0⟩ := fe_tR_d h
      obtain ⟨v1, t1, rfl, g1⟩ := fe_tI_d g0
      obtain ⟨rfl, hz⟩ := fe_t0_d g1
      exact mX3_add v0 v1 M r hz
    exact fe_no h
  · intro i As M r h
    exact fe_no h
  · intro i As M r h
    exact fe_no h
  · intro i As M r h
    exact fe_no h
theorem eX3_addNumber (g0 : Nat → Int32 → FM → Option (FM)) (k3 : Nat → Int32 → Int32 → FM → Option (FM)) (a0 : Nat) (a1 : Int32) (M : FM) : dX3_addNumber g0 k3 0 [(0, .ref a0), (1, .int a1)] [] M = g0 a0 a1 M := by rfl
theorem mX3_addNumber (n : Nat) (a0 : Nat) (a1 : Int32) (M : FM) (r : FM) (h : FX3_addNumber n a0 a1 M = some r) : fm_nx M ≤ fm_nx r ∧ fm_ns M ≤ fm_ns r :=
  fe_mono (L0 := [(0, .ref a0), (1, .int a1)]) (vX3_addNumber n) (by decide +kernel) (hX3_addNumber n) (fe_kv_k r) n rfl ((eX3_addNumber (FX3_addNumber_0 n (FX3_addNumber_L3 n n)) (FX3_addNumber_L3 n n) a0 a1 M).trans h)
theorem zX3_addNumber {s0 : State} {H0 : Heap} {oa : Nat → Nat} {D : va_G} (K : fk s0 H0 oa D) (l : Launch) (n : Nat) (a0 : Nat) (a1 : Int32) (M : FM) (r : FM) (h : FX3_addNumber n a0 a1 M = some r) : fs_Con (fk_E s0 H0 oa D) l 2 ⟨"BoardMachine$Trees$Row", "addNumber", "(I)V"⟩ prog_100_method_4_code 3 (Option.none : Option Jvm.ClassFile.FieldType) [.ref a0, .int a1] M none r := by
  have o0 : fs_OS (sX3_addNumber FX3_add) 0 0 (fs_Con (fk_E s0 H0 oa D) l 1 ⟨"BoardMachine$Trees$Row", "add", "(I)V"⟩ prog_100_method_3_code 2 (Option.none : Option Jvm.ClassFile.FieldType)) := by
    intro As M r h
    obtain ⟨v0, t0, rfl, g0⟩ := fe_tR_d h
    obtain ⟨v1, t1, rfl, g1⟩ := fe_tI_d g0
    obtain ⟨rfl, hz⟩ := fe_t0_d g1
    exact zX3_add K l v0 v1 M r hz
  refine fs_method (own := "BoardMachine$Trees$Row") rfl (by decide) K.2.1 (by rw [fe_slen]; exact (Nat.le_of_ble_eq_true rfl)) (mX3_addNumber n a0 a1 M r h) (hX3_addNumber n) n rfl (L0 := [(0, .ref a0), (1, .int a1)]) (fun E => fe_args_e E [.ref a0, .int a1] 0) ((eX3_addNumber (FX3_addNumber_0 n (FX3_addNumber_L3 n n)) (FX3_addNumber_L3 n n) a0 a1 M).trans h) (fe_kv_k r) (fun H hR => fs_nr_o (by decide) (by decide)) ?_
  intro p e s m args below meth c Q C hnm
  have hw : s0.WarmedH s.vm := C.2.2.2.2.1
  refine fe_all C fk_hwr cX3_addNumber [11] (by decide +kernel) (fe_fil (cps := [(11, 14, .invokevirtual 8476758)]) (by decide +kernel) ?_)
  refine fs_c1 (fs_inv_virtual (pc := 11) (n := 8476758) C (Nat.le_of_ble_eq_true rfl) (Nat.le_of_ble_eq_true rfl) (fs_lk_virtual (idx := 17) (y := ⟨"BoardMachine$Trees$Row", "add", "(I)V"⟩) (bytes := prog_100_method_3_code) (maxL := 2) (rt := (Option.none : Option Jvm.ClassFile.FieldType)) (d := 1) C (Nat.le_of_ble_eq_true rfl) (Nat.le_of_ble_eq_true rfl) (by decide +kernel) (kw K hw q2216) (kw K hw q313) (kw K hw q2214) (Or.inl (kw K hw q2221)) ⟨by decide, by decide⟩ rfl (Nat.le_of_ble_eq_true rfl) (Nat.le_of_ble_eq_true rfl) (fs_one (⟨_, rfl, kw K hw q2215⟩))) fs_con_mono o0) ?_
  exact fs_c0
theorem hX3_addAll : fe_H (sX3_addAll Fh_copy) cX3_addAll [0] fe_kv [] 21 (fun _ => dX3_addAll FX3_addAll_0) := by
  intro j pc L st M r hc h
  rcases fe_mem_c hc with rfl | hc
  · obtain ⟨w0, m0, h⟩ := fe_lR_d h
    obtain ⟨w1, m1, h⟩ := fe_lR_d h
    obtain ⟨w2, m2, h⟩ := fe_lI_d h
    obtain ⟨w3, m3, h⟩ := fe_lI_d h
    obtain ⟨rfl, hz⟩ := fe_t0_d h
    exact ⟨[(0, .ref w0), (1, .ref w1), (2, .int w2), (3, .int w3)], (fe_cs m0 (fe_cs m1 (fe_cs m2 (fe_cs m3 fe_nl)))), Or.inr ((bX3_addAll_0 Fh_copy FX3_addAll_0 w0 w1 w2 w3 M).symm.trans hz)⟩
  exact fe_mem_0 hc
theorem vX3_addAll : fe_SB (sX3_addAll Fh_copy) := by
  refine ⟨?_, ?_, ?_, ?_⟩
  · intro i As M r h
    rcases fe_bc h with h | h
    · obtain ⟨v0, t0, rfl, g0⟩ := fe_tR_d h
      obtain ⟨v1, t1, rfl, g1⟩ := fe_tI_d g0
      obtain ⟨v2, t2, rfl, g2⟩ := fe_tR_d g1
      obtain ⟨v3, t3, rfl, g3⟩ := fe_tI_d g2
      obtain ⟨v4, t4, rfl, g4⟩ := fe_tI_d g3
      obtain ⟨rfl, hz⟩ := fe_t0_d g4
      exact mh_copy v0 v1 v2 v3 v4 M r hz
    exact fe_no h
  · intro i As M r h
    exact fe_no h
  · intro i As M r h
    exact fe_no h
  · intro i As M r h
    exact fe_no h
theorem eX3_addAll (g0 : Nat → Nat → Int32 → Int32 → FM → Option (FM)) (a0 : Nat) (a1 : Nat) (a2 : Int32) (a3 : Int32) (M : FM) : dX3_addAll g0 0 [(0, .ref a0), (1, .ref a1), (2, .int a2), (3, .int a3)] [] M = g0 a0 a1 a2 a3 M := by rfl
theorem mX3_addAll (a0 : Nat) (a1 : Nat) (a2 : Int32) (a3 : Int32) (M : FM) (r : FM) (h : FX3_addAll a0 a1 a2 a3 M = some r) : fm_nx M ≤ fm_nx r ∧ fm_ns M ≤ fm_ns r :=
  fe_mono (L0 := [(0, .ref a0), (1, .ref a1), (2, .int a2), (3, .int a3)]) (vX3_addAll) (by decide +kernel) (hX3_addAll) (fe_kv_k r) 0 rfl ((eX3_addAll FX3_addAll_0 a0 a1 a2 a3 M).trans h)
theorem zX3_addAll {s0 : State} {H0 : Heap} {oa : Nat → Nat} {D : va_G} (K : fk s0 H0 oa D) (l : Launch) (a0 : Nat) (a1 : Nat) (a2 : Int32) (a3 : Int32) (M : FM) (r : FM) (h : FX3_addAll a0 a1 a2 a3 M = some r) : fs_Con (fk_E s0 H0 oa D) l 2 ⟨"BoardMachine$Trees$Row", "addAll", "(LBoardMachine$Trees$Row;II)V"⟩ prog_100_method_8_code 4 (Option.none : Option Jvm.ClassFile.FieldType) [.ref a0, .ref a1, .int a2, .int a3] M none r := by
  have o0 : fs_OS (sX3_addAll Fh_copy) 0 0 (fs_cpy) := by
    intro As M r h
    obtain ⟨v0, t0, rfl, g0⟩ := fe_tR_d h
    obtain ⟨v1, t1, rfl, g1⟩ := fe_tI_d g0
    obtain ⟨v2, t2, rfl, g2⟩ := fe_tR_d g1
    obtain ⟨v3, t3, rfl, g3⟩ := fe_tI_d g2
    obtain ⟨v4, t4, rfl, g4⟩ := fe_tI_d g3
    obtain ⟨rfl, hz⟩ := fe_t0_d g4
    exact ⟨v0, v1, v2, v3, v4, rfl, rfl, hz⟩
  refine fs_method (own := "BoardMachine$Trees$Row") rfl (by decide) K.2.1 (by rw [fe_slen]; exact (Nat.le_of_ble_eq_true rfl)) (mX3_addAll a0 a1 a2 a3 M r h) (hX3_addAll) 0 rfl (L0 := [(0, .ref a0), (1, .ref a1), (2, .int a2), (3, .int a3)]) (fun E => fe_args_e E [.ref a0, .ref a1, .int a2, .int a3] 0) ((eX3_addAll FX3_addAll_0 a0 a1 a2 a3 M).trans h) (fe_kv_k r) (fun H hR => fs_nr_o (by decide) (by decide)) ?_
  intro p e s m args below meth c Q C hnm
  have hw : s0.WarmedH s.vm := C.2.2.2.2.1
  refine fe_all C fk_hwr cX3_addAll [1, 6, 10, 14, 19, 24] (by decide +kernel) (fe_fil (cps := [(1, 4, .getfield 1095065946), (6, 9, .getfield 1095065946), (10, 13, .getfield 1099260248), (14, 17, .invokestatic 20), (19, 22, .getfield 1099260248), (24, 27, .putfield 1099260248)]) (by decide +kernel) ?_)
  refine fs_c1 (fs_getf (pc := 1) (n := 1095065946) (idx := 7) (ref := "BoardMachine$Trees$Row") (O := "BoardMachine$Trees$Row") (name := "bytes") (desc := "[B") C (by decide +kernel) (Or.inl (kw K hw q456)) (fun _ h => h) (Nat.le_of_ble_eq_true rfl) (Nat.le_of_ble_eq_true rfl) (fs_one (⟨_, ff_86_261 s0 H0 oa D⟩))) ?_
  refine fs_c1 (fs_getf (pc := 6) (n := 1095065946) (idx := 7) (ref := "BoardMachine$Trees$Row") (O := "BoardMachine$Trees$Row") (name := "bytes") (desc := "[B") C (by decide +kernel) (Or.inl (kw K hw q456)) (fun _ h => h) (Nat.le_of_ble_eq_true rfl) (Nat.le_of_ble_eq_true rfl) (fs_one (⟨_, ff_86_261 s0 H0 oa D⟩))) ?_
  refine fs_c1 (fs_getf (pc := 10) (n := 1099260248) (idx := 13) (ref := "BoardMachine$Trees$Row") (O := "BoardMachine$Trees$Row") (name := "size") (desc := "I") C (by decide +kernel) (Or.inl (kw K hw q463)) (fun _ h => h) (Nat.le_of_ble_eq_true rfl) (Nat.le_of_ble_eq_true rfl) (fs_one (⟨_, ff_86_262 s0 H0 oa D⟩))) ?_
  refine fs_c1 (fs_inv_static (pc := 14) (n := 20) C (fs_lk_copy (idx := 25) fk_hwr C (by decide +kernel) (kw K hw q2238) (kw K hw q2240) (kw K hw q2239) (kw K hw q406) (Nat.le_of_ble_eq_true rfl) (Nat.le_of_ble_eq_true rfl)) fs_cpy_mono o0) ?_
  refine fs_c1 (fs_getf (pc := 19) (n := 1099260248) (idx := 13) (ref := "BoardMachine$Trees$Row") (O := "BoardMachine$Trees$Row") (name := "size") (desc := "I") C (by decide +kernel) (Or.inl (kw K hw q463)) (fun _ h => h) (Nat.le_of_ble_eq_true rfl) (Nat.le_of_ble_eq_true rfl) (fs_one (⟨_, ff_86_262 s0 H0 oa D⟩))) ?_
  refine fs_c1 (fs_putf (pc := 24) (n := 1099260248) (idx := 13) (ref := "BoardMachine$Trees$Row") (O := "BoardMachine$Trees$Row") (name := "size") (desc := "I") (fin := false) (ty := .int) C (by decide +kernel) (Or.inl ⟨rfl, Or.inl (kw K hw q463)⟩) (fun _ h => h) (Nat.le_of_ble_eq_true rfl) (Nat.le_of_ble_eq_true rfl) (Nat.le_of_ble_eq_true rfl) rfl rfl (by decide) (fs_one (⟨rfl, ff_86_262 s0 H0 oa D⟩))) ?_
  exact fs_c0
theorem hX7_set : fe_H (sX7_set FX3_addAll) cX7_set [0] fe_kv [] 20 (fun _ => dX7_set FX7_set_0) := by
  intro j pc L st M r hc h
  rcases fe_mem_c hc with rfl | hc
  · obtain ⟨w0, m0, h⟩ := fe_lR_d h
    obtain ⟨w1, m1, h⟩ := fe_lR_d h
    obtain ⟨w2, m2, h⟩ := fe_lR_d h
    obtain ⟨w3, m3, h⟩ := fe_lI_d h
    obtain ⟨w4, m4, h⟩ := fe_lI_d h
    obtain ⟨rfl, hz⟩ := fe_t0_d h
    exact ⟨[(0, .ref w0), (1, .ref w1), (2, .ref w2), (3, .int w3), (4, .int w4)], (fe_cs m0 (fe_cs m1 (fe_cs m2 (fe_cs m3 (fe_cs m4 fe_nl))))), Or.inr ((bX7_set_0 FX3_addAll FX7_set_0 w0 w1 w2 w3 w4 M).symm.trans hz)⟩
  exact fe_mem_0 hc
theorem vX7_set : fe_SB (sX7_set FX3_addAll) := by
  refine ⟨?_, ?_, ?_, ?_⟩
  · intro i As M r h
    rcases fe_bc h with h | h
    · obtain ⟨v0, t0, rfl, g0⟩ := fe_tR_d h
      obtain ⟨v1, t1, rfl, g1⟩ := fe_tR_d g0
      obtain ⟨v2, t2, rfl, g2⟩ := fe_tI_d g1
      obtain ⟨v3, t3, rfl, g3⟩ := fe_tI_d g2
      obtain ⟨rfl, hz⟩ := fe_t0_d g3
      exact mX3_addAll v0 v1 v2 v3 M r hz
    exact fe_no h
  · intro i As M r h
    exact fe_no h
  · intro i As M r h
    exact fe_no h
  · intro i As M r h
    exact fe_no h
theorem eX7_set (g0 : Nat → Nat → Nat → Int32 → Int32 → FM → Option (FM)) (a0 : Nat) (a1 : Nat) (a2 : Nat) (a3 : Int32) (a4 : Int32) (M : FM) : dX7_set g0 0 [(0, .ref a0), (1, .ref a1), (2, .ref a2), (3, .int a3), (4, .int a4)] [] M = g0 a0 a1 a2 a3 a4 M := by rfl
theorem mX7_set (a0 : Nat) (a1 : Nat) (a2 : Nat) (a3 : Int32) (a4 : Int32) (M : FM) (r : FM) (h : FX7_set a0 a1 a2 a3 a4 M = some r) : fm_nx M ≤ fm_nx r ∧ fm_ns M ≤ fm_ns r :=
  fe_mono (L0 := [(0, .ref a0), (1, .ref a1), (2, .ref a2), (3, .int a3), (4, .int a4)]) (vX7_set) (by decide +kernel) (hX7_set) (fe_kv_k r) 0 rfl ((eX7_set FX7_set_0 a0 a1 a2 a3 a4 M).trans h)
theorem zX7_set {s0 : State} {H0 : Heap} {oa : Nat → Nat} {D : va_G} (K : fk s0 H0 oa D) (l : Launch) (a0 : Nat) (a1 : Nat) (a2 : Nat) (a3 : Int32) (a4 : Int32) (M : FM) (r : FM) (h : FX7_set a0 a1 a2 a3 a4 M = some r) : fs_Con (fk_E s0 H0 oa D) l 3 ⟨"BoardMachine$Trees$Piece", "set", "(LBoardMachine$Trees$Row;LBoardMachine$Trees$Row;II)V"⟩ prog_97_method_2_code 5 (Option.none : Option Jvm.ClassFile.FieldType) [.ref a0, .ref a1, .ref a2, .int a3, .int a4] M none r := by
  have o0 : fs_OS (sX7_set FX3_addAll) 0 0 (fs_Con (fk_E s0 H0 oa D) l 2 ⟨"BoardMachine$Trees$Row", "addAll", "(LBoardMachine$Trees$Row;II)V"⟩ prog_100_method_8_code 4 (Option.none : Option Jvm.ClassFile.FieldType)) := by
    intro As M r h
    obtain ⟨v0, t0, rfl, g0⟩ := fe_tR_d h
    obtain ⟨v1, t1, rfl, g1⟩ := fe_tR_d g0
    obtain ⟨v2, t2, rfl, g2⟩ := fe_tI_d g1
    obtain ⟨v3, t3, rfl, g3⟩ := fe_tI_d g2
    obtain ⟨rfl, hz⟩ := fe_t0_d g3
    exact zX3_addAll K l v0 v1 v2 v3 M r hz
  refine fs_method (own := "BoardMachine$Trees$Piece") rfl (by decide) K.2.1 (by rw [fe_slen]; exact (Nat.le_of_ble_eq_true rfl)) (mX7_set a0 a1 a2 a3 a4 M r h) (hX7_set) 0 rfl (L0 := [(0, .ref a0), (1, .ref a1), (2, .ref a2), (3, .int a3), (4, .int a4)]) (fun E => fe_args_e E [.ref a0, .ref a1, .ref a2, .int a3, .int a4] 0) ((eX7_set FX7_set_0 a0 a1 a2 a3 a4 M).trans h) (fe_kv_k r) (fun H hR => fs_nr_o (by decide) (by decide)) ?_
  intro p e s m args below meth c Q C hnm
  have hw : s0.WarmedH s.vm := C.2.2.2.2.1
  refine fe_all C fk_hwr cX7_set [2, 5, 11, 19] (by decide +kernel) (fe_fil (cps := [(2, 5, .getfield 1099260248), (5, 8, .putfield 1065693516), (11, 14, .putfield 1069887820), (19, 22, .invokevirtual 16865366)]) (by decide +kernel) ?_)
  refine fs_c1 (fs_getf (pc := 2) (n := 1099260248) (idx := 7) (ref := "BoardMachine$Trees$Row") (O := "BoardMachine$Trees$Row") (name := "size") (desc := "I") C (by decide +kernel) (Or.inr ⟨_, kF K hw q458⟩) (fun _ h => h) (Nat.le_of_ble_eq_true rfl) (Nat.le_of_ble_eq_true rfl) (fs_one (⟨_, ff_86_262 s0 H0 oa D⟩))) ?_
  refine fs_c1 (fs_putf (pc := 5) (n := 1065693516) (idx := 13) (ref := "BoardMachine$Trees$Piece") (O := "BoardMachine$Trees$Piece") (name := "from") (desc := "I") (fin := false) (ty := .int) C (by decide +kernel) (Or.inl ⟨rfl, Or.inl (kw K hw q503)⟩) (fun _ h => h) (Nat.le_of_ble_eq_true rfl) (Nat.le_of_ble_eq_true rfl) (Nat.le_of_ble_eq_true rfl) rfl rfl (by decide) (fs_one (⟨rfl, ff_83_254 s0 H0 oa D⟩))) ?_
  refine fs_c1 (fs_putf (pc := 11) (n := 1069887820) (idx := 18) (ref := "BoardMachine$Trees$Piece") (O := "BoardMachine$Trees$Piece") (name := "size") (desc := "I") (fin := false) (ty := .int) C (by decide +kernel) (Or.inl ⟨rfl, Or.inl (kw K hw q505)⟩) (fun _ h => h) (Nat.le_of_ble_eq_true rfl) (Nat.le_of_ble_eq_true rfl) (Nat.le_of_ble_eq_true rfl) rfl rfl (by decide) (fs_one (⟨rfl, ff_83_255 s0 H0 oa D⟩))) ?_
  refine fs_c1 (fs_inv_virtual (pc := 19) (n := 16865366) C (Nat.le_of_ble_eq_true rfl) (Nat.le_of_ble_eq_true rfl) (fs_lk_virtual (idx := 19) (y := ⟨"BoardMachine$Trees$Row", "addAll", "(LBoardMachine$Trees$Row;II)V"⟩) (bytes := prog_100_method_8_code) (maxL := 4) (rt := (Option.none : Option Jvm.ClassFile.FieldType)) (d := 2) C (Nat.le_of_ble_eq_true rfl) (Nat.le_of_ble_eq_true rfl) (by decide +kernel) (kw K hw q2237) (kw K hw q313) (kw K hw q2235) (Or.inl (kw K hw q2234)) ⟨by decide, by decide⟩ rfl (Nat.le_of_ble_eq_true rfl) (Nat.le_of_ble_eq_true rfl) (fs_one (⟨_, rfl, kw K hw q2236⟩))) fs_con_mono o0) ?_
  exact fs_c0
theorem hX5_property : fe_H (sX5_property FX7_set) cX5_property [0] fe_ka [] 40 (fun _ => dX5_property FX5_property_0) := by
  intro j pc L st M r hc h
  rcases fe_mem_c hc with rfl | hc
  · obtain ⟨w0, m0, h⟩ := fe_lR_d h
    obtain ⟨w1, m1, h⟩ := fe_lR_d h
    obtain ⟨w2, m2, h⟩ := fe_lI_d h
    obtain ⟨w3, m3, h⟩ := fe_lI_d h
    obtain ⟨rfl, hz⟩ := fe_t0_d h
    exact ⟨[(0, .ref w0), (1, .ref w1), (2, .int w2), (3, .int w3)], (fe_cs m0 (fe_cs m1 (fe_cs m2 (fe_cs m3 fe_nl)))), Or.inr ((bX5_property_0 FX7_set FX5_property_0 w0 w1 w2 w3 M).symm.trans hz)⟩
  exact fe_mem_0 hc
theorem vX5_property : fe_SB (sX5_property FX7_set) := by
  refine ⟨?_, ?_, ?_, ?_⟩
  · intro i As M r h
    rcases fe_bc h with h | h
    · obtain ⟨v0, t0, rfl, g0⟩ := fe_tR_d h
      obtain ⟨v1, t1, rfl, g1⟩ := fe_tR_d g0
      obtain ⟨v2, t2, rfl, g2⟩ := fe_tR_d g1
      obtain ⟨v3, t3, rfl, g3⟩ := fe_tI_d g2
      obtain ⟨v4, t4, rfl, g4⟩ := fe_tI_d g3
      obtain ⟨rfl, hz⟩ := fe_t0_d g4
      exact mX7_set v0 v1 v2 v3 v4 M r hz
    exact fe_no h
  · intro i As M r h
    exact fe_no h
  · intro i As M r h
    exact fe_no h
  · intro i As M r h
    exact fe_no h
theorem eX5_property (g0 : Nat → Nat → Int32 → Int32 → FM → Option (Nat × FM)) (a0 : Nat) (a1 : Nat) (a2 : Int32) (a3 : Int32) (M : FM) : dX5_property g0 0 [(0, .ref a0), (1, .ref a1), (2, .int a2), (3, .int a3)] [] M = g0 a0 a1 a2 a3 M := by rfl
theorem mX5_property (a0 : Nat) (a1 : Nat) (a2 : Int32) (a3 : Int32) (M : FM) (r : Nat × FM) (h : FX5_property a0 a1 a2 a3 M = some r) : fm_nx M ≤ fm_nx r.2 ∧ fm_ns M ≤ fm_ns r.2 :=
  fe_mono (L0 := [(0, .ref a0), (1, .ref a1), (2, .int a2), (3, .int a3)]) (vX5_property) (by decide +kernel) (hX5_property) (fe_ka_k r) 0 rfl ((eX5_property FX5_property_0 a0 a1 a2 a3 M).trans h)
theorem zX5_property {s0 : State} {H0 : Heap} {oa : Nat → Nat} {D : va_G} (K : fk s0 H0 oa D) (l : Launch) (a0 : Nat) (a1 : Nat) (a2 : Int32) (a3 : Int32) (M : FM) (r : Nat × FM) (h : FX5_property a0 a1 a2 a3 M = some r) : fs_Con (fk_E s0 H0 oa D) l 4 ⟨"BoardMachine$Trees$Tree", "property", "(LBoardMachine$Trees$Row;II)LBoardMachine$Trees$Property;"⟩ prog_101_method_7_code 5 (Option.some (Jvm.ClassFile.FieldType.object "BoardMachine$Trees$Property")) [.ref a0, .ref a1, .int a2, .int a3] M (some (.ref r.1)) r.2 := by
  have o0 : fs_OS (sX5_property FX7_set) 0 0 (fs_Con (fk_E s0 H0 oa D) l 3 ⟨"BoardMachine$Trees$Piece", "set", "(LBoardMachine$Trees$Row;LBoardMachine$Trees$Row;II)V"⟩ prog_97_method_2_code 5 (Option.none : Option Jvm.ClassFile.FieldType)) := by
    intro As M r h
    obtain ⟨v0, t0, rfl, g0⟩ := fe_tR_d h
    obtain ⟨v1, t1, rfl, g1⟩ := fe_tR_d g0
    obtain ⟨v2, t2, rfl, g2⟩ := fe_tR_d g1
    obtain ⟨v3, t3, rfl, g3⟩ := fe_tI_d g2
    obtain ⟨v4, t4, rfl, g4⟩ := fe_tI_d g3
    obtain ⟨rfl, hz⟩ := fe_t0_d g4
    exact zX7_set K l v0 v1 v2 v3 v4 M r hz
  refine fs_method (own := "BoardMachine$Trees$Tree") rfl (by decide) K.2.1 (by rw [fe_slen]; exact (Nat.le_of_ble_eq_true rfl)) (mX5_property a0 a1 a2 a3 M r h) (hX5_property) 0 rfl (L0 := [(0, .ref a0), (1, .ref a1), (2, .int a2), (3, .int a3)]) (fun E => fe_args_e E [.ref a0, .ref a1, .int a2, .int a3] 0) ((eX5_property FX5_property_0 a0 a1 a2 a3 M).trans h) (fe_ka_k r) (fun H hR => fs_nr_o (by decide) (by decide)) ?_
  intro p e s m args below meth c Q C hnm
  have hw : s0.WarmedH s.vm := C.2.2.2.2.1
  refine fe_all C fk_hwr cX5_property [1, 6, 12, 21, 24, 29, 33, 39, 43, 47, 52, 57] (by decide +kernel) (fe_fil (cps := [(1, 4, .getfield 1111847262), (6, 9, .getfield 1120235868), (12, 15, .putfield 1120235868), (21, 24, .getfield 1124430172), (24, 27, .putfield 1090867540), (29, 32, .getfield 1082478934), (33, 36, .getfield 1103458654), (39, 42, .invokevirtual 21056595), (43, 46, .getfield 1107652958), (47, 50, .getfield 1124430172), (52, 55, .getfield 1057300808), (57, 60, .putfield 1057300808)]) (by decide +kernel) ?_)
  refine fs_c1 (fs_getf (pc := 1) (n := 1111847262) (idx := 28) (ref := "BoardMachine$Trees$Tree") (O := "BoardMachine$Trees$Tree") (name := "properties") (desc := "[LBoardMachine$Trees$Property;") C (by decide +kernel) (Or.inl (kw K hw q571)) (fun _ h => h) (Nat.le_of_ble_eq_true rfl) (Nat.le_of_ble_eq_true rfl) (fs_one (⟨_, ff_87_265 s0 H0 oa D⟩))) ?_
  refine fs_c1 (fs_getf (pc := 6) (n := 1120235868) (idx := 44) (ref := "BoardMachine$Trees$Tree") (O := "BoardMachine$Trees$Tree") (name := "propertyCount") (desc := "I") C (by decide +kernel) (Or.inl (kw K hw q575)) (fun _ h => h) (Nat.le_of_ble_eq_true rfl) (Nat.le_of_ble_eq_true rfl) (fs_one (⟨_, ff_87_267 s0 H0 oa D⟩))) ?_
  refine fs_c1 (fs_putf (pc := 12) (n := 1120235868) (idx := 44) (ref := "BoardMachine$Trees$Tree") (O := "BoardMachine$Trees$Tree") (name := "propertyCount") (desc := "I") (fin := false) (ty := .int) C (by decide +kernel) (Or.inl ⟨rfl, Or.inl (kw K hw q575)⟩) (fun _ h => h) (Nat.le_of_ble_eq_true rfl) (Nat.le_of_ble_eq_true rfl) (Nat.le_of_ble_eq_true rfl) rfl rfl (by decide) (fs_one (⟨rfl, ff_87_267 s0 H0 oa D⟩))) ?_
  refine fs_c1 (fs_getf (pc := 21) (n := 1124430172) (idx := 73) (ref := "BoardMachine$Trees$Tree") (O := "BoardMachine$Trees$Tree") (name := "place") (desc := "I") C (by decide +kernel) (Or.inl (kw K hw q576)) (fun _ h => h) (Nat.le_of_ble_eq_true rfl) (Nat.le_of_ble_eq_true rfl) (fs_one (⟨_, ff_87_268 s0 H0 oa D⟩))) ?_
  refine fs_c1 (fs_putf (pc := 24) (n := 1090867540) (idx := 80) (ref := "BoardMachine$Trees$Property") (O := "BoardMachine$Trees$Property") (name := "node") (desc := "I") (fin := false) (ty := .int) C (by decide +kernel) (Or.inl ⟨rfl, Or.inr ⟨_, kF K hw q550⟩⟩) (fun _ h => h) (Nat.le_of_ble_eq_true rfl) (Nat.le_of_ble_eq_true rfl) (Nat.le_of_ble_eq_true rfl) rfl rfl (by decide) (fs_one (⟨rfl, ff_85_260 s0 H0 oa D⟩))) ?_
  refine fs_c1 (fs_getf (pc := 29) (n := 1082478934) (idx := 83) (ref := "BoardMachine$Trees$Property") (O := "BoardMachine$Trees$Property") (name := "name") (desc := "LBoardMachine$Trees$Piece;") C (by decide +kernel) (Or.inr ⟨_, kF K hw q546⟩) (fun _ h => h) (Nat.le_of_ble_eq_true rfl) (Nat.le_of_ble_eq_true rfl) (fs_one (⟨_, ff_85_258 s0 H0 oa D⟩))) ?_
  refine fs_c1 (fs_getf (pc := 33) (n := 1103458654) (idx := 14) (ref := "BoardMachine$Trees$Tree") (O := "BoardMachine$Trees$Tree") (name := "store") (desc := "LBoardMachine$Trees$Row;") C (by decide +kernel) (Or.inl (kw K hw q566)) (fun _ h => h) (Nat.le_of_ble_eq_true rfl) (Nat.le_of_ble_eq_true rfl) (fs_one (⟨_, ff_87_263 s0 H0 oa D⟩))) ?_
  refine fs_c1 (fs_inv_virtual (pc := 39) (n := 21056595) C (Nat.le_of_ble_eq_true rfl) (Nat.le_of_ble_eq_true rfl) (fs_lk_virtual (idx := 76) (y := ⟨"BoardMachine$Trees$Piece", "set", "(LBoardMachine$Trees$Row;LBoardMachine$Trees$Row;II)V"⟩) (bytes := prog_97_method_2_code) (maxL := 5) (rt := (Option.none : Option Jvm.ClassFile.FieldType)) (d := 3) C (Nat.le_of_ble_eq_true rfl) (Nat.le_of_ble_eq_true rfl) (by decide +kernel) (kw K hw q2233) (kw K hw q317) (kw K hw q2231) (Or.inl (kw K hw q2230)) ⟨by decide, by decide⟩ rfl (Nat.le_of_ble_eq_true rfl) (Nat.le_of_ble_eq_true rfl) (fs_one (⟨_, rfl, kw K hw q2232⟩))) fs_con_mono o0) ?_
  refine fs_c1 (fs_getf (pc := 43) (n := 1107652958) (idx := 22) (ref := "BoardMachine$Trees$Tree") (O := "BoardMachine$Trees$Tree") (name := "nodes") (desc := "[LBoardMachine$Trees$Node;") C (by decide +kernel) (Or.inl (kw K hw q569)) (fun _ h => h) (Nat.le_of_ble_eq_true rfl) (Nat.le_of_ble_eq_true rfl) (fs_one (⟨_, ff_87_264 s0 H0 oa D⟩))) ?_
  refine fs_c1 (fs_getf (pc := 47) (n := 1124430172) (idx := 73) (ref := "BoardMachine$Trees$Tree") (O := "BoardMachine$Trees$Tree") (name := "place") (desc := "I") C (by decide +kernel) (Or.inl (kw K hw q576)) (fun _ h => h) (Nat.le_of_ble_eq_true rfl) (Nat.le_of_ble_eq_true rfl) (fs_one (⟨_, ff_87_268 s0 H0 oa D⟩))) ?_
  refine fs_c1 (fs_getf (pc := 52) (n := 1057300808) (idx := 60) (ref := "BoardMachine$Trees$Node") (O := "BoardMachine$Trees$Node") (name := "properties") (desc := "I") C (by decide +kernel) (Or.inr ⟨_, kF K hw q521⟩) (fun _ h => h) (Nat.le_of_ble_eq_true rfl) (Nat.le_of_ble_eq_true rfl) (fs_one (⟨_, ff_82_252 s0 H0 oa D⟩))) ?_
  refine fs_c1 (fs_putf (pc := 57) (n := 1057300808) (idx := 60) (ref := "BoardMachine$Trees$Node") (O := "BoardMachine$Trees$Node") (name := "properties") (desc := "I") (fin := false) (ty := .int) C (by decide +kernel) (Or.inl ⟨rfl, Or.inr ⟨_, kF K hw q521⟩⟩) (fun _ h => h) (Nat.le_of_ble_eq_true rfl) (Nat.le_of_ble_eq_true rfl) (Nat.le_of_ble_eq_true rfl) rfl rfl (by decide) (fs_one (⟨rfl, ff_82_252 s0 H0 oa D⟩))) ?_
  exact fs_c0
theorem hX4_finish : fe_H (sX4_finish FJ1_length FX5_property FX7_set) cX4_finish [0] fe_kv [] 31 (fun _ => dX4_finish FX4_finish_0) := by
  intro j pc L st M r hc h
  rcases fe_mem_c hc with rfl | hc
  · obtain ⟨w0, m0, h⟩ := fe_lR_d h
    obtain ⟨w1, m1, h⟩ := fe_lR_d h
    obtain ⟨rfl, hz⟩ := fe_t0_d h
    exact ⟨[(0, .ref w0), (1, .ref w1)], (fe_cs m0 (fe_cs m1 fe_nl)), Or.inr ((bX4_finish_0 FJ1_length FX5_property FX7_set FX4_finish_0 w0 w1 M).symm.trans hz)⟩
  exact fe_mem_0 hc
theorem vX4_finish : fe_SB (sX4_finish FJ1_length FX5_property FX7_set) := by
  refine ⟨?_, ?_, ?_, ?_⟩
  · intro i As M r h
    rcases fe_bc h with h | h
    · obtain ⟨v0, t0, rfl, g0⟩ := fe_tR_d h
      obtain ⟨v1, t1, rfl, g1⟩ := fe_tR_d g0
      obtain ⟨v2, t2, rfl, g2⟩ := fe_tR_d g1
      obtain ⟨v3, t3, rfl, g3⟩ := fe_tI_d g2
      obtain ⟨v4, t4, rfl, g4⟩ := fe_tI_d g3
      obtain ⟨rfl, hz⟩ := fe_t0_d g4
      exact mX7_set v0 v1 v2 v3 v4 M r hz
    exact fe_no h
  · intro i As M r h
    rcases fe_bc h with h | h
    · obtain ⟨v0, t0, rfl, g0⟩ := fe_tR_d h
      obtain ⟨rfl, hz⟩ := fe_t0_d g0
      exact mJ1_length v0 M r hz
    exact fe_no h
  · intro i As M r h
    exact fe_no h
  · intro i As M r h
    rcases fe_bc h with h | h
    · obtain ⟨v0, t0, rfl, g0⟩ := fe_tR_d h
      obtain ⟨v1, t1, rfl, g1⟩ := fe_tR_d g0
      obtain ⟨v2, t2, rfl, g2⟩ := fe_tI_d g1
      obtain ⟨v3, t3, rfl, g3⟩ := fe_tI_d g2
      obtain ⟨rfl, hz⟩ := fe_t0_d g3
      exact mX5_property v0 v1 v2 v3 M r hz
    exact fe_no h
theorem eX4_finish (g0 : Nat → Nat → FM → Option (FM)) (a0 : Nat) (a1 : Nat) (M : FM) : dX4_finish g0 0 [(0, .ref a0), (1, .ref a1)] [] M = g0 a0 a1 M := by rfl
theorem mX4_finish (a0 : Nat) (a1 : Nat) (M : FM) (r : FM) (h : FX4_finish a0 a1 M = some r) : fm_nx M ≤ fm_nx r ∧ fm_ns M ≤ fm_ns r :=
  fe_mono (L0 := [(0, .ref a0), (1, .ref a1)]) (vX4_finish) (by decide +kernel) (hX4_finish) (fe_kv_k r) 0 rfl ((eX4_finish FX4_finish_0 a0 a1 M).trans h)
theorem zX4_finish {s0 : State} {H0 : Heap} {oa : Nat → Nat} {D : va_G} (K : fk s0 H0 oa D) (l : Launch) (a0 : Nat) (a1 : Nat) (M : FM) (r : FM) (h : FX4_finish a0 a1 M = some r) : fs_Con (fk_E s0 H0 oa D) l 5 ⟨"BoardMachine$Describer", "finish", "(Ljava/lang/String;)V"⟩ prog_14_method_6_code 4 (Option.none : Option Jvm.ClassFile.FieldType) [.ref a0, .ref a1] M none r := by
  have o0 : fs_OS (sX4_finish FJ1_length FX5_property FX7_set) 0 1 (fs_Con (fk_E s0 H0 oa D) l 2 ⟨"java/lang/String", "length", "()I"⟩ prog_130_method_54_code 1 (Option.some Jvm.ClassFile.FieldType.int)) := by
    intro As M r h
    obtain ⟨v0, t0, rfl, g0⟩ := fe_tR_d h
    obtain ⟨rfl, hz⟩ := fe_t0_d g0
    exact zJ1_length K l v0 M r hz
  have o1 : fs_OS (sX4_finish FJ1_length FX5_property FX7_set) 1 3 (fs_Con (fk_E s0 H0 oa D) l 4 ⟨"BoardMachine$Trees$Tree", "property", "(LBoardMachine$Trees$Row;II)LBoardMachine$Trees$Property;"⟩ prog_101_method_7_code 5 (Option.some (Jvm.ClassFile.FieldType.object "BoardMachine$Trees$Property"))) := by
    intro As M r h
    obtain ⟨v0, t0, rfl, g0⟩ := fe_tR_d h
    obtain ⟨v1, t1, rfl, g1⟩ := fe_tR_d g0
    obtain ⟨v2, t2, rfl, g2⟩ := fe_tI_d g1
    obtain ⟨v3, t3, rfl, g3⟩ := fe_tI_d g2
    obtain ⟨rfl, hz⟩ := fe_t0_d g3
    exact zX5_property K l v0 v1 v2 v3 M r hz
  have o2 : fs_OS (sX4_finish FJ1_length FX5_property FX7_set) 2 0 (fs_Con (fk_E s0 H0 oa D) l 3 ⟨"BoardMachine$Trees$Piece", "set", "(LBoardMachine$Trees$Row;LBoardMachine$Trees$Row;II)V"⟩ prog_97_method_2_code 5 (Option.none : Option Jvm.ClassFile.FieldType)) := by
    intro As M r h
    obtain ⟨v0, t0, rfl, g0⟩ := fe_tR_d h
    obtain ⟨v1, t1, rfl, g1⟩ := fe_tR_d g0
    obtain ⟨v2, t2, rfl, g2⟩ := fe_tR_d g1
    obtain ⟨v3, t3, rfl, g3⟩ := fe_tI_d g2
    obtain ⟨v4, t4, rfl, g4⟩ := fe_tI_d g3
    obtain ⟨rfl, hz⟩ := fe_t0_d g4
    exact zX7_set K l v0 v1 v2 v3 v4 M r hz
  refine fs_method (own := "BoardMachine$Describer") rfl (by decide) K.2.1 (by rw [fe_slen]; exact (Nat.le_of_ble_eq_true rfl)) (mX4_finish a0 a1 M r h) (hX4_finish) 0 rfl (L0 := [(0, .ref a0), (1, .ref a1)]) (fun E => fe_args_e E [.ref a0, .ref a1] 0) ((eX4_finish FX4_finish_0 a0 a1 M).trans h) (fe_kv_k r) (fun H hR => fs_nr_o (by decide) (by decide)) ?_
  intro p e s m args below meth c Q C hnm
  have hw : s0.WarmedH s.vm := C.2.2.2.2.1
  refine fe_all C fk_hwr cX4_finish [1, 6, 10, 15, 20, 24, 27, 31, 36, 39, 44] (by decide +kernel) (fe_fil (cps := [(1, 4, .invokevirtual 5250055), (6, 9, .getfield 234967126), (10, 13, .getfield 230772822), (15, 18, .invokevirtual 87120983), (20, 23, .getfield 1086673238), (24, 27, .getfield 234967126), (27, 30, .getfield 1103458654), (31, 34, .getfield 230772822), (36, 39, .getfield 230772822), (39, 42, .getfield 1099260248), (44, 47, .invokevirtual 155274323)]) (by decide +kernel) ?_)
  refine fs_c1 (fs_inv_virtual (pc := 1) (n := 5250055) C (Nat.le_of_ble_eq_true rfl) (Nat.le_of_ble_eq_true rfl) (fs_lk_virtual (idx := 34) (y := ⟨"java/lang/String", "length", "()I"⟩) (bytes := prog_130_method_54_code) (maxL := 1) (rt := (Option.some Jvm.ClassFile.FieldType.int)) (d := 2) C (Nat.le_of_ble_eq_true rfl) (Nat.le_of_ble_eq_true rfl) (by decide +kernel) (kw K hw q2168) (kw K hw q402) (kw K hw q2166) (Or.inl (kw K hw q2165)) ⟨by decide, by decide⟩ rfl (Nat.le_of_ble_eq_true rfl) (Nat.le_of_ble_eq_true rfl) (fs_one (⟨_, rfl, kw K hw q2167⟩))) fs_con_mono o0) ?_
  refine fs_c1 (fs_getf (pc := 6) (n := 234967126) (idx := 23) (ref := "BoardMachine$Describer") (O := "BoardMachine$Describer") (name := "tree") (desc := "LBoardMachine$Trees$Tree;") C (by decide +kernel) (Or.inl (kw K hw q608)) (fun _ h => h) (Nat.le_of_ble_eq_true rfl) (Nat.le_of_ble_eq_true rfl) (fs_one (⟨_, ff_21_56 s0 H0 oa D⟩))) ?_
  refine fs_c1 (fs_getf (pc := 10) (n := 230772822) (idx := 14) (ref := "BoardMachine$Describer") (O := "BoardMachine$Describer") (name := "piece") (desc := "LBoardMachine$Trees$Row;") C (by decide +kernel) (Or.inl (kw K hw q607)) (fun _ h => h) (Nat.le_of_ble_eq_true rfl) (Nat.le_of_ble_eq_true rfl) (fs_one (⟨_, ff_21_55 s0 H0 oa D⟩))) ?_
  refine fs_c1 (fs_inv_virtual (pc := 15) (n := 87120983) C (Nat.le_of_ble_eq_true rfl) (Nat.le_of_ble_eq_true rfl) (fs_lk_virtual (idx := 59) (y := ⟨"BoardMachine$Trees$Tree", "property", "(LBoardMachine$Trees$Row;II)LBoardMachine$Trees$Property;"⟩) (bytes := prog_101_method_7_code) (maxL := 5) (rt := (Option.some (Jvm.ClassFile.FieldType.object "BoardMachine$Trees$Property"))) (d := 4) C (Nat.le_of_ble_eq_true rfl) (Nat.le_of_ble_eq_true rfl) (by decide +kernel) (kw K hw q2229) (kw K hw q315) (kw K hw q2227) (Or.inl (kw K hw q2226)) ⟨by decide, by decide⟩ rfl (Nat.le_of_ble_eq_true rfl) (Nat.le_of_ble_eq_true rfl) (fs_one (⟨_, rfl, kw K hw q2228⟩))) fs_con_mono o1) ?_
  refine fs_c1 (fs_getf (pc := 20) (n := 1086673238) (idx := 63) (ref := "BoardMachine$Trees$Property") (O := "BoardMachine$Trees$Property") (name := "value") (desc := "LBoardMachine$Trees$Piece;") C (by decide +kernel) (Or.inr ⟨_, kF K hw q549⟩) (fun _ h => h) (Nat.le_of_ble_eq_true rfl) (Nat.le_of_ble_eq_true rfl) (fs_one (⟨_, ff_85_259 s0 H0 oa D⟩))) ?_
  refine fs_c1 (fs_getf (pc := 24) (n := 234967126) (idx := 23) (ref := "BoardMachine$Describer") (O := "BoardMachine$Describer") (name := "tree") (desc := "LBoardMachine$Trees$Tree;") C (by decide +kernel) (Or.inl (kw K hw q608)) (fun _ h => h) (Nat.le_of_ble_eq_true rfl) (Nat.le_of_ble_eq_true rfl) (fs_one (⟨_, ff_21_56 s0 H0 oa D⟩))) ?_
  refine fs_c1 (fs_getf (pc := 27) (n := 1103458654) (idx := 69) (ref := "BoardMachine$Trees$Tree") (O := "BoardMachine$Trees$Tree") (name := "store") (desc := "LBoardMachine$Trees$Row;") C (by decide +kernel) (Or.inr ⟨_, kF K hw q568⟩) (fun _ h => h) (Nat.le_of_ble_eq_true rfl) (Nat.le_of_ble_eq_true rfl) (fs_one (⟨_, ff_87_263 s0 H0 oa D⟩))) ?_
  refine fs_c1 (fs_getf (pc := 31) (n := 230772822) (idx := 14) (ref := "BoardMachine$Describer") (O := "BoardMachine$Describer") (name := "piece") (desc := "LBoardMachine$Trees$Row;") C (by decide +kernel) (Or.inl (kw K hw q607)) (fun _ h => h) (Nat.le_of_ble_eq_true rfl) (Nat.le_of_ble_eq_true rfl) (fs_one (⟨_, ff_21_55 s0 H0 oa D⟩))) ?_
  refine fs_c1 (fs_getf (pc := 36) (n := 230772822) (idx := 14) (ref := "BoardMachine$Describer") (O := "BoardMachine$Describer") (name := "piece") (desc := "LBoardMachine$Trees$Row;") C (by decide +kernel) (Or.inl (kw K hw q607)) (fun _ h => h) (Nat.le_of_ble_eq_true rfl) (Nat.le_of_ble_eq_true rfl) (fs_one (⟨_, ff_21_55 s0 H0 oa D⟩))) ?_
  refine fs_c1 (fs_getf (pc := 39) (n := 1099260248) (idx := 47) (ref := "BoardMachine$Trees$Row") (O := "BoardMachine$Trees$Row") (name := "size") (desc := "I") C (by decide +kernel) (Or.inr ⟨_, kF K hw q462⟩) (fun _ h => h) (Nat.le_of_ble_eq_true rfl) (Nat.le_of_ble_eq_true rfl) (fs_one (⟨_, ff_86_262 s0 H0 oa D⟩))) ?_
  refine fs_c1 (fs_inv_virtual (pc := 44) (n := 155274323) C (Nat.le_of_ble_eq_true rfl) (Nat.le_of_ble_eq_true rfl) (fs_lk_virtual (idx := 72) (y := ⟨"BoardMachine$Trees$Piece", "set", "(LBoardMachine$Trees$Row;LBoardMachine$Trees$Row;II)V"⟩) (bytes := prog_97_method_2_code) (maxL := 5) (rt := (Option.none : Option Jvm.ClassFile.FieldType)) (d := 3) C (Nat.le_of_ble_eq_true rfl) (Nat.le_of_ble_eq_true rfl) (by decide +kernel) (kw K hw q2233) (kw K hw q317) (kw K hw q2231) (Or.inl (kw K hw q2241)) ⟨by decide, by decide⟩ rfl (Nat.le_of_ble_eq_true rfl) (Nat.le_of_ble_eq_true rfl) (fs_one (⟨_, rfl, kw K hw q2232⟩))) fs_con_mono o2) ?_
  exact fs_c0
theorem hX4_number (n : Nat) : fe_H (sX4_number (FX4_begin n) (FX3_addNumber n) FX4_finish) cX4_number [0] fe_kv [] 20 (fun _ => dX4_number (FX4_number_0 n)) := by
  intro j pc L st M r hc h
  rcases fe_mem_c hc with rfl | hc
  · obtain ⟨w0, m0, h⟩ := fe_lR_d h
    obtain ⟨w1, m1, h⟩ := fe_lR_d h
    obtain ⟨w2, m2, h⟩ := fe_lI_d h
    obtain ⟨rfl, hz⟩ := fe_t0_d h
    exact ⟨[(0, .ref w0), (1, .ref w1), (2, .int w2)], (fe_cs m0 (fe_cs m1 (fe_cs m2 fe_nl))), Or.inr ((bX4_number_0 (FX4_begin n) (FX3_addNumber n) FX4_finish (FX4_number_0 n ) w0 w1 w2 M).symm.trans hz)⟩
  exact fe_mem_0 hc
theorem vX4_number (n : Nat) : fe_SB (sX4_number (FX4_begin n) (FX3_addNumber n) FX4_finish) := by
  refine ⟨?_, ?_, ?_, ?_⟩
  · intro i As M r h
    rcases fe_bc h with h | h
    · obtain ⟨v0, t0, rfl, g0⟩ := fe_tR_d h
      obtain ⟨v1, t1, rfl, g1⟩ := fe_tR_d g0
      obtain ⟨rfl, hz⟩ := fe_t0_d g1
      exact mX4_begin n v0 v1 M r hz
    rcases fe_bc h with h | h
    · obtain ⟨v0, t0, rfl, g0⟩ := fe_tR_d h
      obtain ⟨v1, t1, rfl, g1⟩ := fe_tI_d g0
      obtain ⟨rfl, hz⟩ := fe_t0_d g1
      exact mX3_addNumber n v0 v1 M r hz
    rcases fe_bc h with h | h
    · obtain ⟨v0, t0, rfl, g0⟩ := fe_tR_d h
      obtain ⟨v1, t1, rfl, g1⟩ := fe_tR_d g0
      obtain ⟨rfl, hz⟩ := fe_t0_d g1
      exact mX4_finish v0 v1 M r hz
    exact fe_no h
  · intro i As M r h
    exact fe_no h
  · intro i As M r h
    exact fe_no h
  · intro i As M r h
    exact fe_no h
theorem eX4_number (g0 : Nat → Nat → Int32 → FM → Option (FM)) (a0 : Nat) (a1 : Nat) (a2 : Int32) (M : FM) : dX4_number g0 0 [(0, .ref a0), (1, .ref a1), (2, .int a2)] [] M = g0 a0 a1 a2 M := by rfl
theorem mX4_number (n : Nat) (a0 : Nat) (a1 : Nat) (a2 : Int32) (M : FM) (r : FM) (h : FX4_number n a0 a1 a2 M = some r) : fm_nx M ≤ fm_nx r ∧ fm_ns M ≤ fm_ns r :=
  fe_mono (L0 := [(0, .ref a0), (1, .ref a1), (2, .int a2)]) (vX4_number n) (by decide +kernel) (hX4_number n) (fe_kv_k r) 0 rfl ((eX4_number (FX4_number_0 n ) a0 a1 a2 M).trans h)
theorem zX4_number {s0 : State} {H0 : Heap} {oa : Nat → Nat} {D : va_G} (K : fk s0 H0 oa D) (l : Launch) (n : Nat) (a0 : Nat) (a1 : Nat) (a2 : Int32) (M : FM) (r : FM) (h : FX4_number n a0 a1 a2 M = some r) : fs_Con (fk_E s0 H0 oa D) l 7 ⟨"BoardMachine$Describer", "number", "(Ljava/lang/String;I)V"⟩ prog_14_method_8_code 3 (Option.none : Option Jvm.ClassFile.FieldType) [.ref a0, .ref a1, .int a2] M none r := by
  have o0 : fs_OS (sX4_number (FX4_begin n) (FX3_addNumber n) FX4_finish) 0 0 (fs_Con (fk_E s0 H0 oa D) l 6 ⟨"BoardMachine$Describer", "begin", "(Ljava/lang/String;)V"⟩ prog_14_method_5_code 2 (Option.none : Option Jvm.ClassFile.FieldType)) := by
    intro As M r h
    obtain ⟨v0, t0, rfl, g0⟩ := fe_tR_d h
    obtain ⟨v1, t1, rfl, g1⟩ := fe_tR_d g0
    obtain ⟨rfl, hz⟩ := fe_t0_d g1
    exact zX4_begin K l n v0 v1 M r hz
  have o1 : fs_OS (sX4_number (FX4_begin n) (FX3_addNumber n) FX4_finish) 1 0 (fs_Con (fk_E s0 H0 oa D) l 2 ⟨"BoardMachine$Trees$Row", "addNumber", "(I)V"⟩ prog_100_method_4_code 3 (Option.none : Option Jvm.ClassFile.FieldType)) := by
    intro As M r h
    obtain ⟨v0, t0, rfl, g0⟩ := fe_tR_d h
    obtain ⟨v1, t1, rfl, g1⟩ := fe_tI_d g0
    obtain ⟨rfl, hz⟩ := fe_t0_d g1
    exact zX3_addNumber K l n v0 v1 M r hz
  have o2 : fs_OS (sX4_number (FX4_begin n) (FX3_addNumber n) FX4_finish) 2 0 (fs_Con (fk_E s0 H0 oa D) l 5 ⟨"BoardMachine$Describer", "finish", "(Ljava/lang/String;)V"⟩ prog_14_method_6_code 4 (Option.none : Option Jvm.ClassFile.FieldType)) := by
    intro As M r h
    obtain ⟨v0, t0, rfl, g0⟩ := fe_tR_d h
    obtain ⟨v1, t1, rfl, g1⟩ := fe_tR_d g0
    obtain ⟨rfl, hz⟩ := fe_t0_d g1
    exact zX4_finish K l v0 v1 M r hz
  refine fs_method (own := "BoardMachine$Describer") rfl (by decide) K.2.1 (by rw [fe_slen]; exact (Nat.le_of_ble_eq_true rfl)) (mX4_number n a0 a1 a2 M r h) (hX4_number n) 0 rfl (L0 := [(0, .ref a0), (1, .ref a1), (2, .int a2)]) (fun E => fe_args_e E [.ref a0, .ref a1, .int a2] 0) ((eX4_number (FX4_number_0 n ) a0 a1 a2 M).trans h) (fe_kv_k r) (fun H hR => fs_nr_o (by decide) (by decide)) ?_
  intro p e s m args below meth c Q C hnm
  have hw : s0.WarmedH s.vm := C.2.2.2.2.1
  refine fe_all C fk_hwr cX4_number [2, 6, 10, 15] (by decide +kernel) (fe_fil (cps := [(2, 5, .invokevirtual 8410133), (6, 9, .getfield 230772822), (10, 13, .invokevirtual 75585622), (15, 18, .invokevirtual 142627861)]) (by decide +kernel) ?_)
  refine fs_c1 (fs_inv_virtual (pc := 2) (n := 8410133) C (Nat.le_of_ble_eq_true rfl) (Nat.le_of_ble_eq_true rfl) (fs_lk_virtual (idx := 78) (y := ⟨"BoardMachine$Describer", "begin", "(Ljava/lang/String;)V"⟩) (bytes := prog_14_method_5_code) (maxL := 2) (rt := (Option.none : Option Jvm.ClassFile.FieldType)) (d := 6) C (Nat.le_of_ble_eq_true rfl) (Nat.le_of_ble_eq_true rfl) (by decide +kernel) (kw K hw q2160) (kw K hw q314) (kw K hw q2159) (Or.inl (kw K hw q2157)) ⟨by decide, by decide⟩ rfl (Nat.le_of_ble_eq_true rfl) (Nat.le_of_ble_eq_true rfl) (fs_one (⟨_, rfl, kw K hw qs6⟩))) fs_con_mono o0) ?_
  refine fs_c1 (fs_getf (pc := 6) (n := 230772822) (idx := 14) (ref := "BoardMachine$Describer") (O := "BoardMachine$Describer") (name := "piece") (desc := "LBoardMachine$Trees$Row;") C (by decide +kernel) (Or.inl (kw K hw q607)) (fun _ h => h) (Nat.le_of_ble_eq_true rfl) (Nat.le_of_ble_eq_true rfl) (fs_one (⟨_, ff_21_55 s0 H0 oa D⟩))) ?_
  refine fs_c1 (fs_inv_virtual (pc := 10) (n := 75585622) C (Nat.le_of_ble_eq_true rfl) (Nat.le_of_ble_eq_true rfl) (fs_lk_virtual (idx := 84) (y := ⟨"BoardMachine$Trees$Row", "addNumber", "(I)V"⟩) (bytes := prog_100_method_4_code) (maxL := 3) (rt := (Option.none : Option Jvm.ClassFile.FieldType)) (d := 2) C (Nat.le_of_ble_eq_true rfl) (Nat.le_of_ble_eq_true rfl) (by decide +kernel) (kw K hw q2220) (kw K hw q313) (kw K hw q2218) (Or.inl (kw K hw q2217)) ⟨by decide, by decide⟩ rfl (Nat.le_of_ble_eq_true rfl) (Nat.le_of_ble_eq_true rfl) (fs_one (⟨_, rfl, kw K hw q2219⟩))) fs_con_mono o1) ?_
  refine fs_c1 (fs_inv_virtual (pc := 15) (n := 142627861) C (Nat.le_of_ble_eq_true rfl) (Nat.le_of_ble_eq_true rfl) (fs_lk_virtual (idx := 81) (y := ⟨"BoardMachine$Describer", "finish", "(Ljava/lang/String;)V"⟩) (bytes := prog_14_method_6_code) (maxL := 4) (rt := (Option.none : Option Jvm.ClassFile.FieldType)) (d := 5) C (Nat.le_of_ble_eq_true rfl) (Nat.le_of_ble_eq_true rfl) (by decide +kernel) (kw K hw q2225) (kw K hw q314) (kw K hw q2224) (Or.inl (kw K hw q2222)) ⟨by decide, by decide⟩ rfl (Nat.le_of_ble_eq_true rfl) (Nat.le_of_ble_eq_true rfl) (fs_one (⟨_, rfl, kw K hw qs8⟩))) fs_con_mono o2) ?_
  exact fs_c0
theorem hX4_cells (n : Nat) : fe_H (sX4_cells (FX4_number n)) cX4_cells [0] fe_kv [] 20 (fun _ => dX4_cells (FX4_cells_0 n)) := by
  intro j pc L st M r hc h
  rcases fe_mem_c hc with rfl | hc
  · obtain ⟨w0, m0, h⟩ := fe_lR_d h
    obtain ⟨w1, m1, h⟩ := fe_lI_d h
    obtain ⟨w2, m2, h⟩ := fe_lI_d h
    obtain ⟨rfl, hz⟩ := fe_t0_d h
    exact ⟨[(0, .ref w0), (1, .int w1), (2, .int w2)], (fe_cs m0 (fe_cs m1 (fe_cs m2 fe_nl))), Or.inr ((bX4_cells_0 (FX4_number n) (FX4_cells_0 n ) w0 w1 w2 M).symm.trans hz)⟩
  exact fe_mem_0 hc
theorem vX4_cells (n : Nat) : fe_SB (sX4_cells (FX4_number n)) := by
  refine ⟨?_, ?_, ?_, ?_⟩
  · intro i As M r h
    rcases fe_bc h with h | h
    · obtain ⟨v0, t0, rfl, g0⟩ := fe_tR_d h
      obtain ⟨v1, t1, rfl, g1⟩ := fe_tR_d g0
      obtain ⟨v2, t2, rfl, g2⟩ := fe_tI_d g1
      obtain ⟨rfl, hz⟩ := fe_t0_d g2
      exact mX4_number n v0 v1 v2 M r hz
    exact fe_no h
  · intro i As M r h
    exact fe_no h
  · intro i As M r h
    exact fe_no h
  · intro i As M r h
    exact fe_no h
theorem eX4_cells (g0 : Nat → Int32 → Int32 → FM → Option (FM)) (a0 : Nat) (a1 : Int32) (a2 : Int32) (M : FM) : dX4_cells g0 0 [(0, .ref a0), (1, .int a1), (2, .int a2)] [] M = g0 a0 a1 a2 M := by rfl
theorem mX4_cells (n : Nat) (a0 : Nat) (a1 : Int32) (a2 : Int32) (M : FM) (r : FM) (h : FX4_cells n a0 a1 a2 M = some r) : fm_nx M ≤ fm_nx r ∧ fm_ns M ≤ fm_ns r :=
  fe_mono (L0 := [(0, .ref a0), (1, .int a1), (2, .int a2)]) (vX4_cells n) (by decide +kernel) (hX4_cells n) (fe_kv_k r) 0 rfl ((eX4_cells (FX4_cells_0 n ) a0 a1 a2 M).trans h)
theorem zX4_cells {s0 : State} {H0 : Heap} {oa : Nat → Nat} {D : va_G} (K : fk s0 H0 oa D) (l : Launch) (n : Nat) (a0 : Nat) (a1 : Int32) (a2 : Int32) (M : FM) (r : FM) (h : FX4_cells n a0 a1 a2 M = some r) : fs_Con (fk_E s0 H0 oa D) l 8 ⟨"BoardMachine$Describer", "cells", "(II)V"⟩ prog_14_method_12_code 3 (Option.none : Option Jvm.ClassFile.FieldType) [.ref a0, .int a1, .int a2] M none r := by
  have o0 : fs_OS (sX4_cells (FX4_number n)) 0 0 (fs_Con (fk_E s0 H0 oa D) l 7 ⟨"BoardMachine$Describer", "number", "(Ljava/lang/String;I)V"⟩ prog_14_method_8_code 3 (Option.none : Option Jvm.ClassFile.FieldType)) := by
    intro As M r h
    obtain ⟨v0, t0, rfl, g0⟩ := fe_tR_d h
    obtain ⟨v1, t1, rfl, g1⟩ := fe_tR_d g0
    obtain ⟨v2, t2, rfl, g2⟩ := fe_tI_d g1
    obtain ⟨rfl, hz⟩ := fe_t0_d g2
    exact zX4_number K l n v0 v1 v2 M r hz
  refine fs_method (own := "BoardMachine$Describer") rfl (by decide) K.2.1 (by rw [fe_slen]; exact (Nat.le_of_ble_eq_true rfl)) (mX4_cells n a0 a1 a2 M r h) (hX4_cells n) 0 rfl (L0 := [(0, .ref a0), (1, .int a1), (2, .int a2)]) (fun E => fe_args_e E [.ref a0, .int a1, .int a2] 0) ((eX4_cells (FX4_cells_0 n ) a0 a1 a2 M).trans h) (fe_kv_k r) (fun H hR => fs_nr_o (by decide) (by decide)) ?_
  intro p e s m args below meth c Q C hnm
  have hw : s0.WarmedH s.vm := C.2.2.2.2.1
  refine fe_all C fk_hwr cX4_cells [1, 4, 8, 11] (by decide +kernel) (fe_fil (cps := [(1, 3, .ldc 101), (4, 7, .invokevirtual 12604437), (8, 10, .ldc 103), (11, 14, .invokevirtual 12604437)]) (by decide +kernel) ?_)
  refine fs_c1 (fs_ldcs (pc := 1) (idx := 93) (n := 101) (tx := "#address-cells") C (by decide +kernel) (by decide) (kS K es_21_93)) ?_
  refine fs_c1 (fs_inv_virtual (pc := 4) (n := 12604437) C (Nat.le_of_ble_eq_true rfl) (Nat.le_of_ble_eq_true rfl) (fs_lk_virtual (idx := 95) (y := ⟨"BoardMachine$Describer", "number", "(Ljava/lang/String;I)V"⟩) (bytes := prog_14_method_8_code) (maxL := 3) (rt := (Option.none : Option Jvm.ClassFile.FieldType)) (d := 7) C (Nat.le_of_ble_eq_true rfl) (Nat.le_of_ble_eq_true rfl) (by decide +kernel) (kw K hw q2156) (kw K hw q314) (kw K hw q2155) (Or.inl (kw K hw q2153)) ⟨by decide, by decide⟩ rfl (Nat.le_of_ble_eq_true rfl) (Nat.le_of_ble_eq_true rfl) (fs_one (⟨_, rfl, kw K hw qs5⟩))) fs_con_mono o0) ?_
  refine fs_c1 (fs_ldcs (pc := 8) (idx := 99) (n := 103) (tx := "#size-cells") C (by decide +kernel) (by decide) (kS K es_21_99)) ?_
  refine fs_c1 (fs_inv_virtual (pc := 11) (n := 12604437) C (Nat.le_of_ble_eq_true rfl) (Nat.le_of_ble_eq_true rfl) (fs_lk_virtual (idx := 95) (y := ⟨"BoardMachine$Describer", "number", "(Ljava/lang/String;I)V"⟩) (bytes := prog_14_method_8_code) (maxL := 3) (rt := (Option.none : Option Jvm.ClassFile.FieldType)) (d := 7) C (Nat.le_of_ble_eq_true rfl) (Nat.le_of_ble_eq_true rfl) (by decide +kernel) (kw K hw q2156) (kw K hw q314) (kw K hw q2155) (Or.inl (kw K hw q2153)) ⟨by decide, by decide⟩ rfl (Nat.le_of_ble_eq_true rfl) (Nat.le_of_ble_eq_true rfl) (fs_one (⟨_, rfl, kw K hw qs5⟩))) fs_con_mono o0) ?_
  exact fs_c0
theorem hX4_string (n : Nat) : fe_H (sX4_string (FX4_begin n) (FX4_text n) FX3_add FX4_finish) cX4_string [0] fe_kv [] 20 (fun _ => dX4_string (FX4_string_0 n)) := by
  intro j pc L st M r hc h
  rcases fe_mem_c hc with rfl | hc
  · obtain ⟨w0, m0, h⟩ := fe_lR_d h
    obtain ⟨w1, m1, h⟩ := fe_lR_d h
    obtain ⟨w2, m2, h⟩ := fe_lR_d h
    obtain ⟨rfl, hz⟩ := fe_t0_d h
    exact ⟨[(0, .ref w0), (1, .ref w1), (2, .ref w2)], (fe_cs m0 (fe_cs m1 (fe_cs m2 fe_nl))), Or.inr ((bX4_string_0 (FX4_begin n) (FX4_text n) FX3_add FX4_finish (FX4_string_0 n ) w0 w1 w2 M).symm.trans hz)⟩
  exact fe_mem_0 hc
theorem vX4_string (n : Nat) : fe_SB (sX4_string (FX4_begin n) (FX4_text n) FX3_add FX4_finish) := by
  refine ⟨?_, ?_, ?_, ?_⟩
  · intro i As M r h
    rcases fe_bc h with h | h
    · obtain ⟨v0, t0, rfl, g0⟩ := fe_tR_d h
      obtain ⟨v1, t1, rfl, g1⟩ := fe_tR_d g0
      obtain ⟨rfl, hz⟩ := fe_t0_d g1
      exact mX4_begin n v0 v1 M r hz
    rcases fe_bc h with h | h
    · obtain ⟨v0, t0, rfl, g0⟩ := fe_tR_d h
      obtain ⟨v1, t1, rfl, g1⟩ := fe_tR_d g0
      obtain ⟨rfl, hz⟩ := fe_t0_d g1
      exact mX4_text n v0 v1 M r hz
    rcases fe_bc h with h | h
    · obtain ⟨v0, t0, rfl, g0⟩ := fe_tR_d h
      obtain ⟨v1, t1, rfl, g1⟩ := fe_tI_d g0
      obtain ⟨rfl, hz⟩ := fe_t0_d g1
      exact mX3_add v0 v1 M r hz
    rcases fe_bc h with h | h
    · obtain ⟨v0, t0, rfl, g0⟩ := fe_tR_d h
      obtain ⟨v1, t1, rfl, g1⟩ := fe_tR_d g0
      obtain ⟨rfl, hz⟩ := fe_t0_d g1
      exact mX4_finish v0 v1 M r hz
    exact fe_no h
  · intro i As M r h
    exact fe_no h
  · intro i As M r h
    exact fe_no h
  · intro i As M r h
    exact fe_no h
theorem eX4_string (g0 : Nat → Nat → Nat → FM → Option (FM)) (a0 : Nat) (a1 : Nat) (a2 : Nat) (M : FM) : dX4_string g0 0 [(0, .ref a0), (1, .ref a1), (2, .ref a2)] [] M = g0 a0 a1 a2 M := by rfl
theorem mX4_string (n : Nat) (a0 : Nat) (a1 : Nat) (a2 : Nat) (M : FM) (r : FM) (h : FX4_string n a0 a1 a2 M = some r) : fm_nx M ≤ fm_nx r ∧ fm_ns M ≤ fm_ns r :=
  fe_mono (L0 := [(0, .ref a0), (1, .ref a1), (2, .ref a2)]) (vX4_string n) (by decide +kernel) (hX4_string n) (fe_kv_k r) 0 rfl ((eX4_string (FX4_string_0 n ) a0 a1 a2 M).trans h)
theorem zX4_string {s0 : State} {H0 : Heap} {oa : Nat → Nat} {D : va_G} (K : fk s0 H0 oa D) (l : Launch) (n : Nat) (a0 : Nat) (a1 : Nat) (a2 : Nat) (M : FM) (r : FM) (h : FX4_string n a0 a1 a2 M = some r) : fs_Con (fk_E s0 H0 oa D) l 7 ⟨"BoardMachine$Describer", "string", "(Ljava/lang/String;Ljava/lang/String;)V"⟩ prog_14_method_7_code 3 (Option.none : Option Jvm.ClassFile.FieldType) [.ref a0, .ref a1, .ref a2] M none r := by
  have o0 : fs_OS (sX4_string (FX4_begin n) (FX4_text n) FX3_add FX4_finish) 0 0 (fs_Con (fk_E s0 H0 oa D) l 6 ⟨"BoardMachine$Describer", "begin", "(Ljava/lang/String;)V"⟩ prog_14_method_5_code 2 (Option.none : Option Jvm.ClassFile.FieldType)) := by
    intro As M r h
    obtain ⟨v0, t0, rfl, g0⟩ := fe_tR_d h
    obtain ⟨v1, t1, rfl, g1⟩ := fe_tR_d g0
    obtain ⟨rfl, hz⟩ := fe_t0_d g1
    exact zX4_begin K l n v0 v1 M r hz
  have o1 : fs_OS (sX4_string (FX4_begin n) (FX4_text n) FX3_add FX4_finish) 1 0 (fs_Con (fk_E s0 H0 oa D) l 5 ⟨"BoardMachine$Describer", "text", "(Ljava/lang/String;)V"⟩ prog_14_method_2_code 3 (Option.none : Option Jvm.ClassFile.FieldType)) := by
    intro As M r h
    obtain ⟨v0, t0, rfl, g0⟩ := fe_tR_d h
    obtain ⟨v1, t1, rfl, g1⟩ := fe_tR_d g0
    obtain ⟨rfl, hz⟩ := fe_t0_d g1
    exact zX4_text K l n v0 v1 M r hz
  have o2 : fs_OS (sX4_string (FX4_begin n) (FX4_text n) FX3_add FX4_finish) 2 0 (fs_Con (fk_E s0 H0 oa D) l 1 ⟨"BoardMachine$Trees$Row", "add", "(I)V"⟩ prog_100_method_3_code 2 (Option.none : Option Jvm.ClassFile.FieldType)) := by
    intro As M r h
    obtain ⟨v0, t0, rfl, g0⟩ := fe_tR_d h
    obtain ⟨v1, t1, rfl, g1⟩ := fe_tI_d g0
    obtain ⟨rfl, hz⟩ := fe_t0_d g1
    exact zX3_add K l v0 v1 M r hz
  have o3 : fs_OS (sX4_string (FX4_begin n) (FX4_text n) FX3_add FX4_finish) 3 0 (fs_Con (fk_E s0 H0 oa D) l 5 ⟨"BoardMachine$Describer", "finish", "(Ljava/lang/String;)V"⟩ prog_14_method_6_code 4 (Option.none : Option Jvm.ClassFile.FieldType)) := by
    intro As M r h
    obtain ⟨v0, t0, rfl, g0⟩ := fe_tR_d h
    obtain ⟨v1, t1, rfl, g1⟩ := fe_tR_d g0
    obtain ⟨rfl, hz⟩ := fe_t0_d g1
    exact zX4_finish K l v0 v1 M r hz
  refine fs_method (own := "BoardMachine$Describer") rfl (by decide) K.2.1 (by rw [fe_slen]; exact (Nat.le_of_ble_eq_true rfl)) (mX4_string n a0 a1 a2 M r h) (hX4_string n) 0 rfl (L0 := [(0, .ref a0), (1, .ref a1), (2, .ref a2)]) (fun E => fe_args_e E [.ref a0, .ref a1, .ref a2] 0) ((eX4_string (FX4_string_0 n ) a0 a1 a2 M).trans h) (fe_kv_k r) (fun H hR => fs_nr_o (by decide) (by decide)) ?_
  intro p e s m args below meth c Q C hnm
  have hw : s0.WarmedH s.vm := C.2.2.2.2.1
  refine fe_all C fk_hwr cX4_string [2, 7, 11, 15, 20] (by decide +kernel) (fe_fil (cps := [(2, 5, .invokevirtual 8410133), (7, 10, .invokevirtual 75518997), (11, 14, .getfield 230772822), (15, 18, .invokevirtual 142694486), (20, 23, .invokevirtual 209736725)]) (by decide +kernel) ?_)
  refine fs_c1 (fs_inv_virtual (pc := 2) (n := 8410133) C (Nat.le_of_ble_eq_true rfl) (Nat.le_of_ble_eq_true rfl) (fs_lk_virtual (idx := 78) (y := ⟨"BoardMachine$Describer", "begin", "(Ljava/lang/String;)V"⟩) (bytes := prog_14_method_5_code) (maxL := 2) (rt := (Option.none : Option Jvm.ClassFile.FieldType)) (d := 6) C (Nat.le_of_ble_eq_true rfl) (Nat.le_of_ble_eq_true rfl) (by decide +kernel) (kw K hw q2160) (kw K hw q314) (kw K hw q2159) (Or.inl (kw K hw q2157)) ⟨by decide, by decide⟩ rfl (Nat.le_of_ble_eq_true rfl) (Nat.le_of_ble_eq_true rfl) (fs_one (⟨_, rfl, kw K hw qs6⟩))) fs_con_mono o0) ?_
  refine fs_c1 (fs_inv_virtual (pc := 7) (n := 75518997) C (Nat.le_of_ble_eq_true rfl) (Nat.le_of_ble_eq_true rfl) (fs_lk_virtual (idx := 51) (y := ⟨"BoardMachine$Describer", "text", "(Ljava/lang/String;)V"⟩) (bytes := prog_14_method_2_code) (maxL := 3) (rt := (Option.none : Option Jvm.ClassFile.FieldType)) (d := 5) C (Nat.le_of_ble_eq_true rfl) (Nat.le_of_ble_eq_true rfl) (by decide +kernel) (kw K hw q2164) (kw K hw q314) (kw K hw q2163) (Or.inl (kw K hw q2161)) ⟨by decide, by decide⟩ rfl (Nat.le_of_ble_eq_true rfl) (Nat.le_of_ble_eq_true rfl) (fs_one (⟨_, rfl, kw K hw qs7⟩))) fs_con_mono o1) ?_
  refine fs_c1 (fs_getf (pc := 11) (n := 230772822) (idx := 14) (ref := "BoardMachine$Describer") (O := "BoardMachine$Describer") (name := "piece") (desc := "LBoardMachine$Trees$Row;") C (by decide +kernel) (Or.inl (kw K hw q607)) (fun _ h => h) (Nat.le_of_ble_eq_true rfl) (Nat.le_of_ble_eq_true rfl) (fs_one (⟨_, ff_21_55 s0 H0 oa D⟩))) ?_
  refine fs_c1 (fs_inv_virtual (pc := 15) (n := 142694486) C (Nat.le_of_ble_eq_true rfl) (Nat.le_of_ble_eq_true rfl) (fs_lk_virtual (idx := 44) (y := ⟨"BoardMachine$Trees$Row", "add", "(I)V"⟩) (bytes := prog_100_method_3_code) (maxL := 2) (rt := (Option.none : Option Jvm.ClassFile.FieldType)) (d := 1) C (Nat.le_of_ble_eq_true rfl) (Nat.le_of_ble_eq_true rfl) (by decide +kernel) (kw K hw q2216) (kw K hw q313) (kw K hw q2214) (Or.inl (kw K hw q2213)) ⟨by decide, by decide⟩ rfl (Nat.le_of_ble_eq_true rfl) (Nat.le_of_ble_eq_true rfl) (fs_one (⟨_, rfl, kw K hw q2215⟩))) fs_con_mono o2) ?_
  refine fs_c1 (fs_inv_virtual (pc := 20) (n := 209736725) C (Nat.le_of_ble_eq_true rfl) (Nat.le_of_ble_eq_true rfl) (fs_lk_virtual (idx := 81) (y := ⟨"BoardMachine$Describer", "finish", "(Ljava/lang/String;)V"⟩) (bytes := prog_14_method_6_code) (maxL := 4) (rt := (Option.none : Option Jvm.ClassFile.FieldType)) (d := 5) C (Nat.le_of_ble_eq_true rfl) (Nat.le_of_ble_eq_true rfl) (by decide +kernel) (kw K hw q2225) (kw K hw q314) (kw K hw q2224) (Or.inl (kw K hw q2222)) ⟨by decide, by decide⟩ rfl (Nat.le_of_ble_eq_true rfl) (Nat.le_of_ble_eq_true rfl) (fs_one (⟨_, rfl, kw K hw qs8⟩))) fs_con_mono o3) ?_
  exact fs_c0
theorem hX5_open : fe_H (sX5_open FX5_begin FX7_set) cX5_open [0] fe_ki [] 39 (fun _ => dX5_open FX5_open_0) := by
  intro j pc L st M r hc h
  rcases fe_mem_c hc with rfl | hc
  · obtain ⟨w0, m0, h⟩ := fe_lR_d h
    obtain ⟨w1, m1, h⟩ := fe_lR_d h
    obtain ⟨w2, m2, h⟩ := fe_lI_d h
    obtain ⟨w3, m3, h⟩ := fe_lI_d h
    obtain ⟨rfl, hz⟩ := fe_t0_d h
    exact ⟨[(0, .ref w0), (1, .ref w1), (2, .int w2), (3, .int w3)], (fe_cs m0 (fe_cs m1 (fe_cs m2 (fe_cs m3 fe_nl)))), Or.inr ((bX5_open_0 FX5_begin FX7_set FX5_open_0 w0 w1 w2 w3 M).symm.trans hz)⟩
  exact fe_mem_0 hc
theorem vX5_open : fe_SB (sX5_open FX5_begin FX7_set) := by
  refine ⟨?_, ?_, ?_, ?_⟩
  · intro i As M r h
    rcases fe_bc h with h | h
    · obtain ⟨v0, t0, rfl, g0⟩ := fe_tR_d h
      obtain ⟨v1, t1, rfl, g1⟩ := fe_tI_d g0
      obtain ⟨v2, t2, rfl, g2⟩ := fe_tI_d g1
      obtain ⟨rfl, hz⟩ := fe_t0_d g2
      exact mX5_begin v0 v1 v2 M r hz
    rcases fe_bc h with h | h
    · obtain ⟨v0, t0, rfl, g0⟩ := fe_tR_d h
      obtain ⟨v1, t1, rfl, g1⟩ := fe_tR_d g0
      obtain ⟨v2, t2, rfl, g2⟩ := fe_tR_d g1
      obtain ⟨v3, t3, rfl, g3⟩ := fe_tI_d g2
      obtain ⟨v4, t4, rfl, g4⟩ := fe_tI_d g3
      obtain ⟨rfl, hz⟩ := fe_t0_d g4
      exact mX7_set v0 v1 v2 v3 v4 M r hz
    exact fe_no h
  · intro i As M r h
    exact fe_no h
  · intro i As M r h
    exact fe_no h
  · intro i As M r h
    exact fe_no h
theorem eX5_open (g0 : Nat → Nat → Int32 → Int32 → FM → Option (Int32 × FM)) (a0 : Nat) (a1 : Nat) (a2 : Int32) (a3 : Int32) (M : FM) : dX5_open g0 0 [(0, .ref a0), (1, .ref a1), (2, .int a2), (3, .int a3)] [] M = g0 a0 a1 a2 a3 M := by rfl
theorem mX5_open (a0 : Nat) (a1 : Nat) (a2 : Int32) (a3 : Int32) (M : FM) (r : Int32 × FM) (h : FX5_open a0 a1 a2 a3 M = some r) : fm_nx M ≤ fm_nx r.2 ∧ fm_ns M ≤ fm_ns r.2 :=
  fe_mono (L0 := [(0, .ref a0), (1, .ref a1), (2, .int a2), (3, .int a3)]) (vX5_open) (by decide +kernel) (hX5_open) (fe_ki_k r) 0 rfl ((eX5_open FX5_open_0 a0 a1 a2 a3 M).trans h)
theorem zX5_open {s0 : State} {H0 : Heap} {oa : Nat → Nat} {D : va_G} (K : fk s0 H0 oa D) (l : Launch) (a0 : Nat) (a1 : Nat) (a2 : Int32) (a3 : Int32) (M : FM) (r : Int32 × FM) (h : FX5_open a0 a1 a2 a3 M = some r) : fs_Con (fk_E s0 H0 oa D) l 4 ⟨"BoardMachine$Trees$Tree", "open", "(LBoardMachine$Trees$Row;II)I"⟩ prog_101_method_6_code 5 (Option.some Jvm.ClassFile.FieldType.int) [.ref a0, .ref a1, .int a2, .int a3] M (some (.int r.1)) r.2 := by
  have o0 : fs_OS (sX5_open FX5_begin FX7_set) 0 0 (fs_Con (fk_E s0 H0 oa D) l 1 ⟨"BoardMachine$Trees$Tree", "begin", "(II)V"⟩ prog_101_method_3_code 4 (Option.none : Option Jvm.ClassFile.FieldType)) := by
    intro As M r h
    obtain ⟨v0, t0, rfl, g0⟩ := fe_tR_d h
    obtain ⟨v1, t1, rfl, g1⟩ := fe_tI_d g0
    obtain ⟨v2, t2, rfl, g2⟩ := fe_tI_d g1
    obtain ⟨rfl, hz⟩ := fe_t0_d g2
    exact zX5_begin K l v0 v1 v2 M r hz
  have o1 : fs_OS (sX5_open FX5_begin FX7_set) 1 0 (fs_Con (fk_E s0 H0 oa D) l 3 ⟨"BoardMachine$Trees$Piece", "set", "(LBoardMachine$Trees$Row;LBoardMachine$Trees$Row;II)V"⟩ prog_97_method_2_code 5 (Option.none : Option Jvm.ClassFile.FieldType)) := by
    intro As M r h
    obtain ⟨v0, t0, rfl, g0⟩ := fe_tR_d h
    obtain ⟨v1, t1, rfl, g1⟩ := fe_tR_d g0
    obtain ⟨v2, t2, rfl, g2⟩ := fe_tR_d g1
    obtain ⟨v3, t3, rfl, g3⟩ := fe_tI_d g2
    obtain ⟨v4, t4, rfl, g4⟩ := fe_tI_d g3
    obtain ⟨rfl, hz⟩ := fe_t0_d g4
    exact zX7_set K l v0 v1 v2 v3 v4 M r hz
  refine fs_method (own := "BoardMachine$Trees$Tree") rfl (by decide) K.2.1 (by rw [fe_slen]; exact (Nat.le_of_ble_eq_true rfl)) (mX5_open a0 a1 a2 a3 M r h) (hX5_open) 0 rfl (L0 := [(0, .ref a0), (1, .ref a1), (2, .int a2), (3, .int a3)]) (fun E => fe_args_e E [.ref a0, .ref a1, .int a2, .int a3] 0) ((eX5_open FX5_open_0 a0 a1 a2 a3 M).trans h) (fe_ki_k r) (fun H hR => fs_nr_o (by decide) (by decide)) ?_
  intro p e s m args below meth c Q C hnm
  have hw : s0.WarmedH s.vm := C.2.2.2.2.1
  refine fe_all C fk_hwr cX5_open [1, 7, 14, 21, 27, 32, 36, 40, 44, 48, 54, 58] (by decide +kernel) (fe_fil (cps := [(1, 4, .getfield 1124430172), (7, 10, .getfield 1107652958), (14, 17, .putfield 1061495115), (21, 24, .getfield 1107652958), (27, 30, .getfield 1048912200), (32, 35, .invokevirtual 12672087), (36, 39, .getfield 1107652958), (40, 43, .getfield 1124430172), (44, 47, .getfield 1040523594), (48, 51, .getfield 1103458654), (54, 57, .invokevirtual 88165459), (58, 61, .getfield 1124430172)]) (by decide +kernel) ?_)
  refine fs_c1 (fs_getf (pc := 1) (n := 1124430172) (idx := 73) (ref := "BoardMachine$Trees$Tree") (O := "BoardMachine$Trees$Tree") (name := "place") (desc := "I") C (by decide +kernel) (Or.inl (kw K hw q576)) (fun _ h => h) (Nat.le_of_ble_eq_true rfl) (Nat.le_of_ble_eq_true rfl) (fs_one (⟨_, ff_87_268 s0 H0 oa D⟩))) ?_
  refine fs_c1 (fs_getf (pc := 7) (n := 1107652958) (idx := 22) (ref := "BoardMachine$Trees$Tree") (O := "BoardMachine$Trees$Tree") (name := "nodes") (desc := "[LBoardMachine$Trees$Node;") C (by decide +kernel) (Or.inl (kw K hw q569)) (fun _ h => h) (Nat.le_of_ble_eq_true rfl) (Nat.le_of_ble_eq_true rfl) (fs_one (⟨_, ff_87_264 s0 H0 oa D⟩))) ?_
  refine fs_c1 (fs_putf (pc := 14) (n := 1061495115) (idx := 62) (ref := "BoardMachine$Trees$Node") (O := "BoardMachine$Trees$Node") (name := "hasNodes") (desc := "Z") (fin := false) (ty := .boolean) C (by decide +kernel) (Or.inl ⟨rfl, Or.inr ⟨_, kF K hw q523⟩⟩) (fun _ h => h) (Nat.le_of_ble_eq_true rfl) (Nat.le_of_ble_eq_true rfl) (Nat.le_of_ble_eq_true rfl) rfl rfl (by decide) (fs_one (⟨rfl, ff_82_253 s0 H0 oa D⟩))) ?_
  refine fs_c1 (fs_getf (pc := 21) (n := 1107652958) (idx := 22) (ref := "BoardMachine$Trees$Tree") (O := "BoardMachine$Trees$Tree") (name := "nodes") (desc := "[LBoardMachine$Trees$Node;") C (by decide +kernel) (Or.inl (kw K hw q569)) (fun _ h => h) (Nat.le_of_ble_eq_true rfl) (Nat.le_of_ble_eq_true rfl) (fs_one (⟨_, ff_87_264 s0 H0 oa D⟩))) ?_
  refine fs_c1 (fs_getf (pc := 27) (n := 1048912200) (idx := 54) (ref := "BoardMachine$Trees$Node") (O := "BoardMachine$Trees$Node") (name := "depth") (desc := "I") C (by decide +kernel) (Or.inr ⟨_, kF K hw q517⟩) (fun _ h => h) (Nat.le_of_ble_eq_true rfl) (Nat.le_of_ble_eq_true rfl) (fs_one (⟨_, ff_82_250 s0 H0 oa D⟩))) ?_
  refine fs_c1 (fs_inv_virtual (pc := 32) (n := 12672087) C (Nat.le_of_ble_eq_true rfl) (Nat.le_of_ble_eq_true rfl) (fs_lk_virtual (idx := 47) (y := ⟨"BoardMachine$Trees$Tree", "begin", "(II)V"⟩) (bytes := prog_101_method_3_code) (maxL := 4) (rt := (Option.none : Option Jvm.ClassFile.FieldType)) (d := 1) C (Nat.le_of_ble_eq_true rfl) (Nat.le_of_ble_eq_true rfl) (by decide +kernel) (kw K hw q565) (kw K hw q315) (kw K hw q564) (Or.inl (kw K hw q562)) ⟨by decide, by decide⟩ rfl (Nat.le_of_ble_eq_true rfl) (Nat.le_of_ble_eq_true rfl) (fs_one (⟨_, rfl, kw K hw qs0⟩))) fs_con_mono o0) ?_
  refine fs_c1 (fs_getf (pc := 36) (n := 1107652958) (idx := 22) (ref := "BoardMachine$Trees$Tree") (O := "BoardMachine$Trees$Tree") (name := "nodes") (desc := "[LBoardMachine$Trees$Node;") C (by decide +kernel) (Or.inl (kw K hw q569)) (fun _ h => h) (Nat.le_of_ble_eq_true rfl) (Nat.le_of_ble_eq_true rfl) (fs_one (⟨_, ff_87_264 s0 H0 oa D⟩))) ?_
  refine fs_c1 (fs_getf (pc := 40) (n := 1124430172) (idx := 73) (ref := "BoardMachine$Trees$Tree") (O := "BoardMachine$Trees$Tree") (name := "place") (desc := "I") C (by decide +kernel) (Or.inl (kw K hw q576)) (fun _ h => h) (Nat.le_of_ble_eq_true rfl) (Nat.le_of_ble_eq_true rfl) (fs_one (⟨_, ff_87_268 s0 H0 oa D⟩))) ?_
  refine fs_c1 (fs_getf (pc := 44) (n := 1040523594) (idx := 66) (ref := "BoardMachine$Trees$Node") (O := "BoardMachine$Trees$Node") (name := "name") (desc := "LBoardMachine$Trees$Piece;") C (by decide +kernel) (Or.inr ⟨_, kF K hw q515⟩) (fun _ h => h) (Nat.le_of_ble_eq_true rfl) (Nat.le_of_ble_eq_true rfl) (fs_one (⟨_, ff_82_248 s0 H0 oa D⟩))) ?_
  refine fs_c1 (fs_getf (pc := 48) (n := 1103458654) (idx := 14) (ref := "BoardMachine$Trees$Tree") (O := "BoardMachine$Trees$Tree") (name := "store") (desc := "LBoardMachine$Trees$Row;") C (by decide +kernel) (Or.inl (kw K hw q566)) (fun _ h => h) (Nat.le_of_ble_eq_true rfl) (Nat.le_of_ble_eq_true rfl) (fs_one (⟨_, ff_87_263 s0 H0 oa D⟩))) ?_
  refine fs_c1 (fs_inv_virtual (pc := 54) (n := 88165459) C (Nat.le_of_ble_eq_true rfl) (Nat.le_of_ble_eq_true rfl) (fs_lk_virtual (idx := 76) (y := ⟨"BoardMachine$Trees$Piece", "set", "(LBoardMachine$Trees$Row;LBoardMachine$Trees$Row;II)V"⟩) (bytes := prog_97_method_2_code) (maxL := 5) (rt := (Option.none : Option Jvm.ClassFile.FieldType)) (d := 3) C (Nat.le_of_ble_eq_true rfl) (Nat.le_of_ble_eq_true rfl) (by decide +kernel) (kw K hw q2233) (kw K hw q317) (kw K hw q2231) (Or.inl (kw K hw q2230)) ⟨by decide, by decide⟩ rfl (Nat.le_of_ble_eq_true rfl) (Nat.le_of_ble_eq_true rfl) (fs_one (⟨_, rfl, kw K hw q2232⟩))) fs_con_mono o1) ?_
  refine fs_c1 (fs_getf (pc := 58) (n := 1124430172) (idx := 73) (ref := "BoardMachine$Trees$Tree") (O := "BoardMachine$Trees$Tree") (name := "place") (desc := "I") C (by decide +kernel) (Or.inl (kw K hw q576)) (fun _ h => h) (Nat.le_of_ble_eq_true rfl) (Nat.le_of_ble_eq_true rfl) (fs_one (⟨_, ff_87_268 s0 H0 oa D⟩))) ?_
  exact fs_c0
theorem hX4_open (n : Nat) : fe_H (sX4_open (FX4_text n) FX5_open) cX4_open [0] fe_kv [] 23 (fun _ => dX4_open (FX4_open_0 n)) := by
  intro j pc L st M r hc h
  rcases fe_mem_c hc with rfl | hc
  · obtain ⟨w0, m0, h⟩ := fe_lR_d h
    obtain ⟨w1, m1, h⟩ := fe_lR_d h
    obtain ⟨rfl, hz⟩ := fe_t0_d h
    exact ⟨[(0, .ref w0), (1, .ref w1)], (fe_cs m0 (fe_cs m1 fe_nl)), Or.inr ((bX4_open_0 (FX4_text n) FX5_open (FX4_open_0 n ) w0 w1 M).symm.trans hz)⟩
  exact fe_mem_0 hc
theorem vX4_open (n : Nat) : fe_SB (sX4_open (FX4_text n) FX5_open) := by
  refine ⟨?_, ?_, ?_, ?_⟩
  · intro i As M r h
    rcases fe_bc h with h | h
    · obtain ⟨v0, t0, rfl, g0⟩ := fe_tR_d h
      obtain ⟨v1, t1, rfl, g1⟩ := fe_tR_d g0
      obtain ⟨rfl, hz⟩ := fe_t0_d g1
      exact mX4_text n v0 v1 M r hz
    exact fe_no h
  · intro i As M r h
    rcases fe_bc h with h | h
    · obtain ⟨v0, t0, rfl, g0⟩ := fe_tR_d h
      obtain ⟨v1, t1, rfl, g1⟩ := fe_tR_d g0
      obtain ⟨v2, t2, rfl, g2⟩ := fe_tI_d g1
      obtain ⟨v3, t3, rfl, g3⟩ := fe_tI_d g2
      obtain ⟨rfl, hz⟩ := fe_t0_d g3
      exact mX5_open v0 v1 v2 v3 M r hz
    exact fe_no h
  · intro i As M r h
    exact fe_no h
  · intro i As M r h
    exact fe_no h
theorem eX4_open (g0 : Nat → Nat → FM → Option (FM)) (a0 : Nat) (a1 : Nat) (M : FM) : dX4_open g0 0 [(0, .ref a0), (1, .ref a1)] [] M = g0 a0 a1 M := by rfl
theorem mX4_open (n : Nat) (a0 : Nat) (a1 : Nat) (M : FM) (r : FM) (h : FX4_open n a0 a1 M = some r) : fm_nx M ≤ fm_nx r ∧ fm_ns M ≤ fm_ns r :=
  fe_mono (L0 := [(0, .ref a0), (1, .ref a1)]) (vX4_open n) (by decide +kernel) (hX4_open n) (fe_kv_k r) 0 rfl ((eX4_open (FX4_open_0 n ) a0 a1 M).trans h)
theorem zX4_open {s0 : State} {H0 : Heap} {oa : Nat → Nat} {D : va_G} (K : fk s0 H0 oa D) (l : Launch) (n : Nat) (a0 : Nat) (a1 : Nat) (M : FM) (r : FM) (h : FX4_open n a0 a1 M = some r) : fs_Con (fk_E s0 H0 oa D) l 6 ⟨"BoardMachine$Describer", "open", "(Ljava/lang/String;)V"⟩ prog_14_method_3_code 2 (Option.none : Option Jvm.ClassFile.FieldType) [.ref a0, .ref a1] M none r := by
  have o0 : fs_OS (sX4_open (FX4_text n) FX5_open) 0 0 (fs_Con (fk_E s0 H0 oa D) l 5 ⟨"BoardMachine$Describer", "text", "(Ljava/lang/String;)V"⟩ prog_14_method_2_code 3 (Option.none : Option Jvm.ClassFile.FieldType)) := by
    intro As M r h
    obtain ⟨v0, t0, rfl, g0⟩ := fe_tR_d h
    obtain ⟨v1, t1, rfl, g1⟩ := fe_tR_d g0
    obtain ⟨rfl, hz⟩ := fe_t0_d g1
    exact zX4_text K l n v0 v1 M r hz
  have o1 : fs_OS (sX4_open (FX4_text n) FX5_open) 1 1 (fs_Con (fk_E s0 H0 oa D) l 4 ⟨"BoardMachine$Trees$Tree", "open", "(LBoardMachine$Trees$Row;II)I"⟩ prog_101_method_6_code 5 (Option.some Jvm.ClassFile.FieldType.int)) := by
    intro As M r h
    obtain ⟨v0, t0, rfl, g0⟩ := fe_tR_d h
    obtain ⟨v1, t1, rfl, g1⟩ := fe_tR_d g0
    obtain ⟨v2, t2, rfl, g2⟩ := fe_tI_d g1
    obtain ⟨v3, t3, rfl, g3⟩ := fe_tI_d g2
    obtain ⟨rfl, hz⟩ := fe_t0_d g3
    exact zX5_open K l v0 v1 v2 v3 M r hz
  refine fs_method (own := "BoardMachine$Describer") rfl (by decide) K.2.1 (by rw [fe_slen]; exact (Nat.le_of_ble_eq_true rfl)) (mX4_open n a0 a1 M r h) (hX4_open n) 0 rfl (L0 := [(0, .ref a0), (1, .ref a1)]) (fun E => fe_args_e E [.ref a0, .ref a1] 0) ((eX4_open (FX4_open_0 n ) a0 a1 M).trans h) (fe_kv_k r) (fun H hR => fs_nr_o (by decide) (by decide)) ?_
  intro p e s m args below meth c Q C hnm
  have hw : s0.WarmedH s.vm := C.2.2.2.2.1
  refine fe_all C fk_hwr cX4_open [1, 5, 10, 14, 18, 23, 26, 29] (by decide +kernel) (fe_fil (cps := [(1, 4, .getfield 230772822), (5, 8, .putfield 1099260248), (10, 13, .invokevirtual 8410133), (14, 17, .getfield 234967126), (18, 21, .getfield 230772822), (23, 26, .getfield 230772822), (26, 29, .getfield 1099260248), (29, 32, .invokevirtual 85023831)]) (by decide +kernel) ?_)
  refine fs_c1 (fs_getf (pc := 1) (n := 230772822) (idx := 14) (ref := "BoardMachine$Describer") (O := "BoardMachine$Describer") (name := "piece") (desc := "LBoardMachine$Trees$Row;") C (by decide +kernel) (Or.inl (kw K hw q607)) (fun _ h => h) (Nat.le_of_ble_eq_true rfl) (Nat.le_of_ble_eq_true rfl) (fs_one (⟨_, ff_21_55 s0 H0 oa D⟩))) ?_
  refine fs_c1 (fs_putf (pc := 5) (n := 1099260248) (idx := 47) (ref := "BoardMachine$Trees$Row") (O := "BoardMachine$Trees$Row") (name := "size") (desc := "I") (fin := false) (ty := .int) C (by decide +kernel) (Or.inl ⟨rfl, Or.inr ⟨_, kF K hw q462⟩⟩) (fun _ h => h) (Nat.le_of_ble_eq_true rfl) (Nat.le_of_ble_eq_true rfl) (Nat.le_of_ble_eq_true rfl) rfl rfl (by decide) (fs_one (⟨rfl, ff_86_262 s0 H0 oa D⟩))) ?_
  refine fs_c1 (fs_inv_virtual (pc := 10) (n := 8410133) C (Nat.le_of_ble_eq_true rfl) (Nat.le_of_ble_eq_true rfl) (fs_lk_virtual (idx := 51) (y := ⟨"BoardMachine$Describer", "text", "(Ljava/lang/String;)V"⟩) (bytes := prog_14_method_2_code) (maxL := 3) (rt := (Option.none : Option Jvm.ClassFile.FieldType)) (d := 5) C (Nat.le_of_ble_eq_true rfl) (Nat.le_of_ble_eq_true rfl) (by decide +kernel) (kw K hw q2164) (kw K hw q314) (kw K hw q2163) (Or.inl (kw K hw q2161)) ⟨by decide, by decide⟩ rfl (Nat.le_of_ble_eq_true rfl) (Nat.le_of_ble_eq_true rfl) (fs_one (⟨_, rfl, kw K hw qs7⟩))) fs_con_mono o0) ?_
  refine fs_c1 (fs_getf (pc := 14) (n := 234967126) (idx := 23) (ref := "BoardMachine$Describer") (O := "BoardMachine$Describer") (name := "tree") (desc := "LBoardMachine$Trees$Tree;") C (by decide +kernel) (Or.inl (kw K hw q608)) (fun _ h => h) (Nat.le_of_ble_eq_true rfl) (Nat.le_of_ble_eq_true rfl) (fs_one (⟨_, ff_21_56 s0 H0 oa D⟩))) ?_
  refine fs_c1 (fs_getf (pc := 18) (n := 230772822) (idx := 14) (ref := "BoardMachine$Describer") (O := "BoardMachine$Describer") (name := "piece") (desc := "LBoardMachine$Trees$Row;") C (by decide +kernel) (Or.inl (kw K hw q607)) (fun _ h => h) (Nat.le_of_ble_eq_true rfl) (Nat.le_of_ble_eq_true rfl) (fs_one (⟨_, ff_21_55 s0 H0 oa D⟩))) ?_
  refine fs_c1 (fs_getf (pc := 23) (n := 230772822) (idx := 14) (ref := "BoardMachine$Describer") (O := "BoardMachine$Describer") (name := "piece") (desc := "LBoardMachine$Trees$Row;") C (by decide +kernel) (Or.inl (kw K hw q607)) (fun _ h => h) (Nat.le_of_ble_eq_true rfl) (Nat.le_of_ble_eq_true rfl) (fs_one (⟨_, ff_21_55 s0 H0 oa D⟩))) ?_
  refine fs_c1 (fs_getf (pc := 26) (n := 1099260248) (idx := 47) (ref := "BoardMachine$Trees$Row") (O := "BoardMachine$Trees$Row") (name := "size") (desc := "I") C (by decide +kernel) (Or.inr ⟨_, kF K hw q462⟩) (fun _ h => h) (Nat.le_of_ble_eq_true rfl) (Nat.le_of_ble_eq_true rfl) (fs_one (⟨_, ff_86_262 s0 H0 oa D⟩))) ?_
  refine fs_c1 (fs_inv_virtual (pc := 29) (n := 85023831) C (Nat.le_of_ble_eq_true rfl) (Nat.le_of_ble_eq_true rfl) (fs_lk_virtual (idx := 55) (y := ⟨"BoardMachine$Trees$Tree", "open", "(LBoardMachine$Trees$Row;II)I"⟩) (bytes := prog_101_method_6_code) (maxL := 5) (rt := (Option.some Jvm.ClassFile.FieldType.int)) (d := 4) C (Nat.le_of_ble_eq_true rfl) (Nat.le_of_ble_eq_true rfl) (by decide +kernel) (kw K hw q2259) (kw K hw q315) (kw K hw q2257) (Or.inl (kw K hw q2256)) ⟨by decide, by decide⟩ rfl (Nat.le_of_ble_eq_true rfl) (Nat.le_of_ble_eq_true rfl) (fs_one (⟨_, rfl, kw K hw q2258⟩))) fs_con_mono o1) ?_
  exact fs_c0
theorem hX5_close : fe_H (sX5_close) cX5_close [0] fe_ki [] 20 (fun _ => dX5_close FX5_close_0) := by
  intro j pc L st M r hc h
  rcases fe_mem_c hc with rfl | hc
  · obtain ⟨w0, m0, h⟩ := fe_lR_d h
    obtain ⟨rfl, hz⟩ := fe_t0_d h
    exact ⟨[(0, .ref w0)], (fe_cs m0 fe_nl), Or.inr ((bX5_close_0 FX5_close_0 w0 M).symm.trans hz)⟩
  exact fe_mem_0 hc
theorem vX5_close : fe_SB (sX5_close) := by
  refine ⟨?_, ?_, ?_, ?_⟩
  · intro i As M r h
    exact fe_no h
  · intro i As M r h
    exact fe_no h
  · intro i As M r h
    exact fe_no h
  · intro i As M r h
    exact fe_no h
theorem eX5_close (g0 : Nat → FM → Option (Int32 × FM)) (a0 : Nat) (M : FM) : dX5_close g0 0 [(0, .ref a0)] [] M = g0 a0 M := by rfl
theorem mX5_close (a0 : Nat) (M : FM) (r : Int32 × FM) (h : FX5_close a0 M = some r) : fm_nx M ≤ fm_nx r.2 ∧ fm_ns M ≤ fm_ns r.2 :=
  fe_mono (L0 := [(0, .ref a0)]) (vX5_close) (by decide +kernel) (hX5_close) (fe_ki_k r) 0 rfl ((eX5_close FX5_close_0 a0 M).trans h)
theorem zX5_close {s0 : State} {H0 : Heap} {oa : Nat → Nat} {D : va_G} (K : fk s0 H0 oa D) (l : Launch) (a0 : Nat) (M : FM) (r : Int32 × FM) (h : FX5_close a0 M = some r) : fs_Con (fk_E s0 H0 oa D) l 1 ⟨"BoardMachine$Trees$Tree", "close", "()I"⟩ prog_101_method_9_code 1 (Option.some Jvm.ClassFile.FieldType.int) [.ref a0] M (some (.int r.1)) r.2 := by
  refine fs_method (own := "BoardMachine$Trees$Tree") rfl (by decide) K.2.1 (by rw [fe_slen]; exact (Nat.le_of_ble_eq_true rfl)) (mX5_close a0 M r h) (hX5_close) 0 rfl (L0 := [(0, .ref a0)]) (fun E => fe_args_e E [.ref a0] 0) ((eX5_close FX5_close_0 a0 M).trans h) (fe_ki_k r) (fun H hR => fs_nr_o (by decide) (by decide)) ?_
  intro p e s m args below meth c Q C hnm
  have hw : s0.WarmedH s.vm := C.2.2.2.2.1
  refine fe_all C fk_hwr cX5_close [2, 6, 10, 13, 17] (by decide +kernel) (fe_fil (cps := [(2, 5, .getfield 1107652958), (6, 9, .getfield 1124430172), (10, 13, .getfield 1044717896), (13, 16, .putfield 1124430172), (17, 20, .getfield 1124430172)]) (by decide +kernel) ?_)
  refine fs_c1 (fs_getf (pc := 2) (n := 1107652958) (idx := 22) (ref := "BoardMachine$Trees$Tree") (O := "BoardMachine$Trees$Tree") (name := "nodes") (desc := "[LBoardMachine$Trees$Node;") C (by decide +kernel) (Or.inl (kw K hw q569)) (fun _ h => h) (Nat.le_of_ble_eq_true rfl) (Nat.le_of_ble_eq_true rfl) (fs_one (⟨_, ff_87_264 s0 H0 oa D⟩))) ?_
  refine fs_c1 (fs_getf (pc := 6) (n := 1124430172) (idx := 73) (ref := "BoardMachine$Trees$Tree") (O := "BoardMachine$Trees$Tree") (name := "place") (desc := "I") C (by decide +kernel) (Or.inl (kw K hw q576)) (fun _ h => h) (Nat.le_of_ble_eq_true rfl) (Nat.le_of_ble_eq_true rfl) (fs_one (⟨_, ff_87_268 s0 H0 oa D⟩))) ?_
  refine fs_c1 (fs_getf (pc := 10) (n := 1044717896) (idx := 51) (ref := "BoardMachine$Trees$Node") (O := "BoardMachine$Trees$Node") (name := "parent") (desc := "I") C (by decide +kernel) (Or.inr ⟨_, kF K hw q516⟩) (fun _ h => h) (Nat.le_of_ble_eq_true rfl) (Nat.le_of_ble_eq_true rfl) (fs_one (⟨_, ff_82_249 s0 H0 oa D⟩))) ?_
  refine fs_c1 (fs_putf (pc := 13) (n := 1124430172) (idx := 73) (ref := "BoardMachine$Trees$Tree") (O := "BoardMachine$Trees$Tree") (name := "place") (desc := "I") (fin := false) (ty := .int) C (by decide +kernel) (Or.inl ⟨rfl, Or.inl (kw K hw q576)⟩) (fun _ h => h) (Nat.le_of_ble_eq_true rfl) (Nat.le_of_ble_eq_true rfl) (Nat.le_of_ble_eq_true rfl) rfl rfl (by decide) (fs_one (⟨rfl, ff_87_268 s0 H0 oa D⟩))) ?_
  refine fs_c1 (fs_getf (pc := 17) (n := 1124430172) (idx := 73) (ref := "BoardMachine$Trees$Tree") (O := "BoardMachine$Trees$Tree") (name := "place") (desc := "I") C (by decide +kernel) (Or.inl (kw K hw q576)) (fun _ h => h) (Nat.le_of_ble_eq_true rfl) (Nat.le_of_ble_eq_true rfl) (fs_one (⟨_, ff_87_268 s0 H0 oa D⟩))) ?_
  exact fs_c0
theorem hX4_openNumbered (n : Nat) : fe_H (sX4_openNumbered (FX4_text n) FX3_add FX5_open) cX4_openNumbered [0] fe_kv [] 29 (fun _ => dX4_openNumbered (FX4_openNumbered_0 n)) := by
  intro j pc L st M r hc h
  rcases fe_mem_c hc with rfl | hc
  · obtain ⟨w0, m0, h⟩ := fe_lR_d h
    obtain ⟨w1, m1, h⟩ := fe_lR_d h
    obtain ⟨w2, m2, h⟩ := fe_lI_d h
    obtain ⟨rfl, hz⟩ := fe_t0_d h
    exact ⟨[(0, .ref w0), (1, .ref w1), (2, .int w2)], (fe_cs m0 (fe_cs m1 (fe_cs m2 fe_nl))), Or.inr ((bX4_openNumbered_0 (FX4_text n) FX3_add FX5_open (FX4_openNumbered_0 n ) w0 w1 w2 M).symm.trans hz)⟩
  exact fe_mem_0 hc
theorem vX4_openNumbered (n : Nat) : fe_SB (sX4_openNumbered (FX4_text n) FX3_add FX5_open) := by
  refine ⟨?_, ?_, ?_, ?_⟩
  · intro i As M r h
    rcases fe_bc h with h | h
    · obtain ⟨v0, t0, rfl, g0⟩ := fe_tR_d h
      obtain ⟨v1, t1, rfl, g1⟩ := fe_tR_d g0
      obtain ⟨rfl, hz⟩ := fe_t0_d g1
      exact mX4_text n v0 v1 M r hz
    rcases fe_bc h with h | h
    · obtain ⟨v0, t0, rfl, g0⟩ := fe_tR_d h
      obtain ⟨v1, t1, rfl, g1⟩ := fe_tI_d g0
      obtain ⟨rfl, hz⟩ := fe_t0_d g1
      exact mX3_add v0 v1 M r hz
    exact fe_no h
  · intro i As M r h
    rcases fe_bc h with h | h
    · obtain ⟨v0, t0, rfl, g0⟩ := fe_tR_d h
      obtain ⟨v1, t1, rfl, g1⟩ := fe_tR_d g0
      obtain ⟨v2, t2, rfl, g2⟩ := fe_tI_d g1
      obtain ⟨v3, t3, rfl, g3⟩ := fe_tI_d g2
      obtain ⟨rfl, hz⟩ := fe_t0_d g3
      exact mX5_open v0 v1 v2 v3 M r hz
    exact fe_no h
  · intro i As M r h
    exact fe_no h
  · intro i As M r h
    exact fe_no h
theorem eX4_openNumbered (g0 : Nat → Nat → Int32 → FM → Option (FM)) (a0 : Nat) (a1 : Nat) (a2 : Int32) (M : FM) : dX4_openNumbered g0 0 [(0, .ref a0), (1, .ref a1), (2, .int a2)] [] M = g0 a0 a1 a2 M := by rfl
theorem mX4_openNumbered (n : Nat) (a0 : Nat) (a1 : Nat) (a2 : Int32) (M : FM) (r : FM) (h : FX4_openNumbered n a0 a1 a2 M = some r) : fm_nx M ≤ fm_nx r ∧ fm_ns M ≤ fm_ns r :=
  fe_mono (L0 := [(0, .ref a0), (1, .ref a1), (2, .int a2)]) (vX4_openNumbered n) (by decide +kernel) (hX4_openNumbered n) (fe_kv_k r) 0 rfl ((eX4_openNumbered (FX4_openNumbered_0 n ) a0 a1 a2 M).trans h)
theorem zX4_openNumbered {s0 : State} {H0 : Heap} {oa : Nat → Nat} {D : va_G} (K : fk s0 H0 oa D) (l : Launch) (n : Nat) (a0 : Nat) (a1 : Nat) (a2 : Int32) (M : FM) (r : FM) (h : FX4_openNumbered n a0 a1 a2 M = some r) : fs_Con (fk_E s0 H0 oa D) l 6 ⟨"BoardMachine$Describer", "openNumbered", "(Ljava/lang/String;I)V"⟩ prog_14_method_4_code 3 (Option.none : Option Jvm.ClassFile.FieldType) [.ref a0, .ref a1, .int a2] M none r := by
  have o0 : fs_OS (sX4_openNumbered (FX4_text n) FX3_add FX5_open) 0 0 (fs_Con (fk_E s0 H0 oa D) l 5 ⟨"BoardMachine$Describer", "text", "(Ljava/lang/String;)V"⟩ prog_14_method_2_code 3 (Option.none : Option Jvm.ClassFile.FieldType)) := by
    intro As M r h
    obtain ⟨v0, t0, rfl, g0⟩ := fe_tR_d h
    obtain ⟨v1, t1, rfl, g1⟩ := fe_tR_d g0
    obtain ⟨rfl, hz⟩ := fe_t0_d g1
    exact zX4_text K l n v0 v1 M r hz
  have o1 : fs_OS (sX4_openNumbered (FX4_text n) FX3_add FX5_open) 1 0 (fs_Con (fk_E s0 H0 oa D) l 1 ⟨"BoardMachine$Trees$Row", "add", "(I)V"⟩ prog_100_method_3_code 2 (Option.none : Option Jvm.ClassFile.FieldType)) := by
    intro As M r h
    obtain ⟨v0, t0, rfl, g0⟩ := fe_tR_d h
    obtain ⟨v1, t1, rfl, g1⟩ := fe_tI_d g0
    obtain ⟨rfl, hz⟩ := fe_t0_d g1
    exact zX3_add K l v0 v1 M r hz
  have o2 : fs_OS (sX4_openNumbered (FX4_text n) FX3_add FX5_open) 2 1 (fs_Con (fk_E s0 H0 oa D) l 4 ⟨"BoardMachine$Trees$Tree", "open", "(LBoardMachine$Trees$Row;II)I"⟩ prog_101_method_6_code 5 (Option.some Jvm.ClassFile.FieldType.int)) := by
    intro As M r h
    obtain ⟨v0, t0, rfl, g0⟩ := fe_tR_d h
    obtain ⟨v1, t1, rfl, g1⟩ := fe_tR_d g0
    obtain ⟨v2, t2, rfl, g2⟩ := fe_tI_d g1
    obtain ⟨v3, t3, rfl, g3⟩ := fe_tI_d g2
    obtain ⟨rfl, hz⟩ := fe_t0_d g3
    exact zX5_open K l v0 v1 v2 v3 M r hz
  refine fs_method (own := "BoardMachine$Describer") rfl (by decide) K.2.1 (by rw [fe_slen]; exact (Nat.le_of_ble_eq_true rfl)) (mX4_openNumbered n a0 a1 a2 M r h) (hX4_openNumbered n) 0 rfl (L0 := [(0, .ref a0), (1, .ref a1), (2, .int a2)]) (fun E => fe_args_e E [.ref a0, .ref a1, .int a2] 0) ((eX4_openNumbered (FX4_openNumbered_0 n ) a0 a1 a2 M).trans h) (fe_kv_k r) (fun H hR => fs_nr_o (by decide) (by decide)) ?_
  intro p e s m args below meth c Q C hnm
  have hw : s0.WarmedH s.vm := C.2.2.2.2.1
  refine fe_all C fk_hwr cX4_openNumbered [1, 5, 10, 14, 21, 25, 29, 34, 37, 40] (by decide +kernel) (fe_fil (cps := [(1, 4, .getfield 230772822), (5, 8, .putfield 1099260248), (10, 13, .invokevirtual 8410133), (14, 17, .getfield 230772822), (21, 24, .invokevirtual 75585622), (25, 28, .getfield 234967126), (29, 32, .getfield 230772822), (34, 37, .getfield 230772822), (37, 40, .getfield 1099260248), (40, 43, .invokevirtual 152132695)]) (by decide +kernel) ?_)
  refine fs_c1 (fs_getf (pc := 1) (n := 230772822) (idx := 14) (ref := "BoardMachine$Describer") (O := "BoardMachine$Describer") (name := "piece") (desc := "LBoardMachine$Trees$Row;") C (by decide +kernel) (Or.inl (kw K hw q607)) (fun _ h => h) (Nat.le_of_ble_eq_true rfl) (Nat.le_of_ble_eq_true rfl) (fs_one (⟨_, ff_21_55 s0 H0 oa D⟩))) ?_
  refine fs_c1 (fs_putf (pc := 5) (n := 1099260248) (idx := 47) (ref := "BoardMachine$Trees$Row") (O := "BoardMachine$Trees$Row") (name := "size") (desc := "I") (fin := false) (ty := .int) C (by decide +kernel) (Or.inl ⟨rfl, Or.inr ⟨_, kF K hw q462⟩⟩) (fun _ h => h) (Nat.le_of_ble_eq_true rfl) (Nat.le_of_ble_eq_true rfl) (Nat.le_of_ble_eq_true rfl) rfl rfl (by decide) (fs_one (⟨rfl, ff_86_262 s0 H0 oa D⟩))) ?_
  refine fs_c1 (fs_inv_virtual (pc := 10) (n := 8410133) C (Nat.le_of_ble_eq_true rfl) (Nat.le_of_ble_eq_true rfl) (fs_lk_virtual (idx := 51) (y := ⟨"BoardMachine$Describer", "text", "(Ljava/lang/String;)V"⟩) (bytes := prog_14_method_2_code) (maxL := 3) (rt := (Option.none : Option Jvm.ClassFile.FieldType)) (d := 5) C (Nat.le_of_ble_eq_true rfl) (Nat.le_of_ble_eq_true rfl) (by decide +kernel) (kw K hw q2164) (kw K hw q314) (kw K hw q2163) (Or.inl (kw K hw q2161)) ⟨by decide, by decide⟩ rfl (Nat.le_of_ble_eq_true rfl) (Nat.le_of_ble_eq_true rfl) (fs_one (⟨_, rfl, kw K hw qs7⟩))) fs_con_mono o0) ?_
  refine fs_c1 (fs_getf (pc := 14) (n := 230772822) (idx := 14) (ref := "BoardMachine$Describer") (O := "BoardMachine$Describer") (name := "piece") (desc := "LBoardMachine$Trees$Row;") C (by decide +kernel) (Or.inl (kw K hw q607)) (fun _ h => h) (Nat.le_of_ble_eq_true rfl) (Nat.le_of_ble_eq_true rfl) (fs_one (⟨_, ff_21_55 s0 H0 oa D⟩))) ?_
  refine fs_c1 (fs_inv_virtual (pc := 21) (n := 75585622) C (Nat.le_of_ble_eq_true rfl) (Nat.le_of_ble_eq_true rfl) (fs_lk_virtual (idx := 44) (y := ⟨"BoardMachine$Trees$Row", "add", "(I)V"⟩) (bytes := prog_100_method_3_code) (maxL := 2) (rt := (Option.none : Option Jvm.ClassFile.FieldType)) (d := 1) C (Nat.le_of_ble_eq_true rfl) (Nat.le_of_ble_eq_true rfl) (by decide +kernel) (kw K hw q2216) (kw K hw q313) (kw K hw q2214) (Or.inl (kw K hw q2213)) ⟨by decide, by decide⟩ rfl (Nat.le_of_ble_eq_true rfl) (Nat.le_of_ble_eq_true rfl) (fs_one (⟨_, rfl, kw K hw q2215⟩))) fs_con_mono o1) ?_
  refine fs_c1 (fs_getf (pc := 25) (n := 234967126) (idx := 23) (ref := "BoardMachine$Describer") (O := "BoardMachine$Describer") (name := "tree") (desc := "LBoardMachine$Trees$Tree;") C (by decide +kernel) (Or.inl (kw K hw q608)) (fun _ h => h) (Nat.le_of_ble_eq_true rfl) (Nat.le_of_ble_eq_true rfl) (fs_one (⟨_, ff_21_56 s0 H0 oa D⟩))) ?_
  refine fs_c1 (fs_getf (pc := 29) (n := 230772822) (idx := 14) (ref := "BoardMachine$Describer") (O := "BoardMachine$Describer") (name := "piece") (desc := "LBoardMachine$Trees$Row;") C (by decide +kernel) (Or.inl (kw K hw q607)) (fun _ h => h) (Nat.le_of_ble_eq_true rfl) (Nat.le_of_ble_eq_true rfl) (fs_one (⟨_, ff_21_55 s0 H0 oa D⟩))) ?_
  refine fs_c1 (fs_getf (pc := 34) (n := 230772822) (idx := 14) (ref := "BoardMachine$Describer") (O := "BoardMachine$Describer") (name := "piece") (desc := "LBoardMachine$Trees$Row;") C (by decide +kernel) (Or.inl (kw K hw q607)) (fun _ h => h) (Nat.le_of_ble_eq_true rfl) (Nat.le_of_ble_eq_true rfl) (fs_one (⟨_, ff_21_55 s0 H0 oa D⟩))) ?_
  refine fs_c1 (fs_getf (pc := 37) (n := 1099260248) (idx := 47) (ref := "BoardMachine$Trees$Row") (O := "BoardMachine$Trees$Row") (name := "size") (desc := "I") C (by decide +kernel) (Or.inr ⟨_, kF K hw q462⟩) (fun _ h => h) (Nat.le_of_ble_eq_true rfl) (Nat.le_of_ble_eq_true rfl) (fs_one (⟨_, ff_86_262 s0 H0 oa D⟩))) ?_
  refine fs_c1 (fs_inv_virtual (pc := 40) (n := 152132695) C (Nat.le_of_ble_eq_true rfl) (Nat.le_of_ble_eq_true rfl) (fs_lk_virtual (idx := 55) (y := ⟨"BoardMachine$Trees$Tree", "open", "(LBoardMachine$Trees$Row;II)I"⟩) (bytes := prog_101_method_6_code) (maxL := 5) (rt := (Option.some Jvm.ClassFile.FieldType.int)) (d := 4) C (Nat.le_of_ble_eq_true rfl) (Nat.le_of_ble_eq_true rfl) (by decide +kernel) (kw K hw q2259) (kw K hw q315) (kw K hw q2257) (Or.inl (kw K hw q2256)) ⟨by decide, by decide⟩ rfl (Nat.le_of_ble_eq_true rfl) (Nat.le_of_ble_eq_true rfl) (fs_one (⟨_, rfl, kw K hw q2258⟩))) fs_con_mono o2) ?_
  exact fs_c0
theorem hX4_nothing (n : Nat) : fe_H (sX4_nothing (FX4_begin n) FX4_finish) cX4_nothing [0] fe_kv [] 20 (fun _ => dX4_nothing (FX4_nothing_0 n)) := by
  intro j pc L st M r hc h
  rcases fe_mem_c hc with rfl | hc
  · obtain ⟨w0, m0, h⟩ := fe_lR_d h
    obtain ⟨w1, m1, h⟩ := fe_lR_d h
    obtain ⟨rfl, hz⟩ := fe_t0_d h
    exact ⟨[(0, .ref w0), (1, .ref w1)], (fe_cs m0 (fe_cs m1 fe_nl)), Or.inr ((bX4_nothing_0 (FX4_begin n) FX4_finish (FX4_nothing_0 n ) w0 w1 M).symm.trans hz)⟩
  exact fe_mem_0 hc
theorem vX4_nothing (n : Nat) : fe_SB (sX4_nothing (FX4_begin n) FX4_finish) := by
  refine ⟨?_, ?_, ?_, ?_⟩
  · intro i As M r h
    rcases fe_bc h with h | h
    · obtain ⟨v0, t0, rfl, g0⟩ := fe_tR_d h
      obtain ⟨v1, t1, rfl, g1⟩ := fe_tR_d g0
      obtain ⟨rfl, hz⟩ := fe_t0_d g1
      exact mX4_begin n v0 v1 M r hz
    rcases fe_bc h with h | h
    · obtain ⟨v0, t0, rfl, g0⟩ := fe_tR_d h
      obtain ⟨v1, t1, rfl, g1⟩ := fe_tR_d g0
      obtain ⟨rfl, hz⟩ := fe_t0_d g1
      exact mX4_finish v0 v1 M r hz
    exact fe_no h
  · intro i As M r h
    exact fe_no h
  · intro i As M r h
    exact fe_no h
  · intro i As M r h
    exact fe_no h
theorem eX4_nothing (g0 : Nat → Nat → FM → Option (FM)) (a0 : Nat) (a1 : Nat) (M : FM) : dX4_nothing g0 0 [(0, .ref a0), (1, .ref a1)] [] M = g0 a0 a1 M := by rfl
theorem mX4_nothing (n : Nat) (a0 : Nat) (a1 : Nat) (M : FM) (r : FM) (h : FX4_nothing n a0 a1 M = some r) : fm_nx M ≤ fm_nx r ∧ fm_ns M ≤ fm_ns r :=
  fe_mono (L0 := [(0, .ref a0), (1, .ref a1)]) (vX4_nothing n) (by decide +kernel) (hX4_nothing n) (fe_kv_k r) 0 rfl ((eX4_nothing (FX4_nothing_0 n ) a0 a1 M).trans h)
theorem zX4_nothing {s0 : State} {H0 : Heap} {oa : Nat → Nat} {D : va_G} (K : fk s0 H0 oa D) (l : Launch) (n : Nat) (a0 : Nat) (a1 : Nat) (M : FM) (r : FM) (h : FX4_nothing n a0 a1 M = some r) : fs_Con (fk_E s0 H0 oa D) l 7 ⟨"BoardMachine$Describer", "nothing", "(Ljava/lang/String;)V"⟩ prog_14_method_9_code 2 (Option.none : Option Jvm.ClassFile.FieldType) [.ref a0, .ref a1] M none r := by
  have o0 : fs_OS (sX4_nothing (FX4_begin n) FX4_finish) 0 0 (fs_Con (fk_E s0 H0 oa D) l 6 ⟨"BoardMachine$Describer", "begin", "(Ljava/lang/String;)V"⟩ prog_14_method_5_code 2 (Option.none : Option Jvm.ClassFile.FieldType)) := by
    intro As M r h
    obtain ⟨v0, t0, rfl, g0⟩ := fe_tR_d h
    obtain ⟨v1, t1, rfl, g1⟩ := fe_tR_d g0
    obtain ⟨rfl, hz⟩ := fe_t0_d g1
    exact zX4_begin K l n v0 v1 M r hz
  have o1 : fs_OS (sX4_nothing (FX4_begin n) FX4_finish) 1 0 (fs_Con (fk_E s0 H0 oa D) l 5 ⟨"BoardMachine$Describer", "finish", "(Ljava/lang/String;)V"⟩ prog_14_method_6_code 4 (Option.none : Option Jvm.ClassFile.FieldType)) := by
    intro As M r h
    obtain ⟨v0, t0, rfl, g0⟩ := fe_tR_d h
    obtain ⟨v1, t1, rfl, g1⟩ := fe_tR_d g0
    obtain ⟨rfl, hz⟩ := fe_t0_d g1
    exact zX4_finish K l v0 v1 M r hz
  refine fs_method (own := "BoardMachine$Describer") rfl (by decide) K.2.1 (by rw [fe_slen]; exact (Nat.le_of_ble_eq_true rfl)) (mX4_nothing n a0 a1 M r h) (hX4_nothing n) 0 rfl (L0 := [(0, .ref a0), (1, .ref a1)]) (fun E => fe_args_e E [.ref a0, .ref a1] 0) ((eX4_nothing (FX4_nothing_0 n ) a0 a1 M).trans h) (fe_kv_k r) (fun H hR => fs_nr_o (by decide) (by decide)) ?_
  intro p e s m args below meth c Q C hnm
  have hw : s0.WarmedH s.vm := C.2.2.2.2.1
  refine fe_all C fk_hwr cX4_nothing [2, 7] (by decide +kernel) (fe_fil (cps := [(2, 5, .invokevirtual 8410133), (7, 10, .invokevirtual 75518997)]) (by decide +kernel) ?_)
  refine fs_c1 (fs_inv_virtual (pc := 2) (n := 8410133) C (Nat.le_of_ble_eq_true rfl) (Nat.le_of_ble_eq_true rfl) (fs_lk_virtual (idx := 78) (y := ⟨"BoardMachine$Describer", "begin", "(Ljava/lang/String;)V"⟩) (bytes := prog_14_method_5_code) (maxL := 2) (rt := (Option.none : Option Jvm.ClassFile.FieldType)) (d := 6) C (Nat.le_of_ble_eq_true rfl) (Nat.le_of_ble_eq_true rfl) (by decide +kernel) (kw K hw q2160) (kw K hw q314) (kw K hw q2159) (Or.inl (kw K hw q2157)) ⟨by decide, by decide⟩ rfl (Nat.le_of_ble_eq_true rfl) (Nat.le_of_ble_eq_true rfl) (fs_one (⟨_, rfl, kw K hw qs6⟩))) fs_con_mono o0) ?_
  refine fs_c1 (fs_inv_virtual (pc := 7) (n := 75518997) C (Nat.le_of_ble_eq_true rfl) (Nat.le_of_ble_eq_true rfl) (fs_lk_virtual (idx := 81) (y := ⟨"BoardMachine$Describer", "finish", "(Ljava/lang/String;)V"⟩) (bytes := prog_14_method_6_code) (maxL := 4) (rt := (Option.none : Option Jvm.ClassFile.FieldType)) (d := 5) C (Nat.le_of_ble_eq_true rfl) (Nat.le_of_ble_eq_true rfl) (by decide +kernel) (kw K hw q2225) (kw K hw q314) (kw K hw q2224) (Or.inl (kw K hw q2222)) ⟨by decide, by decide⟩ rfl (Nat.le_of_ble_eq_true rfl) (Nat.le_of_ble_eq_true rfl) (fs_one (⟨_, rfl, kw K hw qs8⟩))) fs_con_mono o1) ?_
  exact fs_c0
theorem hX4_processor (n : Nat) : fe_H (sX4_processor (FX4_openNumbered n) (FX4_string n) (FX4_number n) (FX4_open n) (FX4_nothing n) FX5_close) cX4_processor [0] fe_kv [] 62 (fun _ => dX4_processor (FX4_processor_0 n)) := by
  intro j pc L st M r hc h
  rcases fe_mem_c hc with rfl | hc
  · obtain ⟨w0, m0, h⟩ := fe_lR_d h
    obtain ⟨w1, m1, h⟩ := fe_lI_d h
    obtain ⟨rfl, hz⟩ := fe_t0_d h
    exact ⟨[(0, .ref w0), (1, .int w1)], (fe_cs m0 (fe_cs m1 fe_nl)), Or.inr ((bX4_processor_0 (FX4_openNumbered n) (FX4_string n) (FX4_number n) (FX4_open n) (FX4_nothing n) FX5_close (FX4_processor_0 n ) w0 w1 M).symm.trans hz)⟩
  exact fe_mem_0 hc
theorem vX4_processor (n : Nat) : fe_SB (sX4_processor (FX4_openNumbered n) (FX4_string n) (FX4_number n) (FX4_open n) (FX4_nothing n) FX5_close) := by
  refine ⟨?_, ?_, ?_, ?_⟩
  · intro i As M r h
    rcases fe_bc h with h | h
    · obtain ⟨v0, t0, rfl, g0⟩ := fe_tR_d h
      obtain ⟨v1, t1, rfl, g1⟩ := fe_tR_d g0
      obtain ⟨v2, t2, rfl, g2⟩ := fe_tI_d g1
      obtain ⟨rfl, hz⟩ := fe_t0_d g2
      exact mX4_openNumbered n v0 v1 v2 M r hz
    rcases fe_bc h with h | h
    · obtain ⟨v0, t0, rfl, g0⟩ := fe_tR_d h
      obtain ⟨v1, t1, rfl, g1⟩ := fe_tR_d g0
      obtain ⟨v2, t2, rfl, g2⟩ := fe_tR_d g1
      obtain ⟨rfl, hz⟩ := fe_t0_d g2
      exact mX4_string n v0 v1 v2 M r hz
    rcases fe_bc h with h | h
    · obtain ⟨v0, t0, rfl, g0⟩ := fe_tR_d h
      obtain ⟨v1, t1, rfl, g1⟩ := fe_tR_d g0
      obtain ⟨v2, t2, rfl, g2⟩ := fe_tI_d g1
      obtain ⟨rfl, hz⟩ := fe_t0_d g2
      exact mX4_number n v0 v1 v2 M r hz
    rcases fe_bc h with h | h
    · obtain ⟨v0, t0, rfl, g0⟩ := fe_tR_d h
      obtain ⟨v1, t1, rfl, g1⟩ := fe_tR_d g0
      obtain ⟨rfl, hz⟩ := fe_t0_d g1
      exact mX4_open n v0 v1 M r hz
    rcases fe_bc h with h | h
    · obtain ⟨v0, t0, rfl, g0⟩ := fe_tR_d h
      obtain ⟨v1, t1, rfl, g1⟩ := fe_tR_d g0
      obtain ⟨rfl, hz⟩ := fe_t0_d g1
      exact mX4_nothing n v0 v1 M r hz
    exact fe_no h
  · intro i As M r h
    rcases fe_bc h with h | h
    · obtain ⟨v0, t0, rfl, g0⟩ := fe_tR_d h
      obtain ⟨rfl, hz⟩ := fe_t0_d g0
      exact mX5_close v0 M r hz
    exact fe_no h
  · intro i As M r h
    exact fe_no h
  · intro i As M r h
    exact fe_no h
theorem eX4_processor (g0 : Nat → Int32 → FM → Option (FM)) (a0 : Nat) (a1 : Int32) (M : FM) : dX4_processor g0 0 [(0, .ref a0), (1, .int a1)] [] M = g0 a0 a1 M := by rfl
theorem mX4_processor (n : Nat) (a0 : Nat) (a1 : Int32) (M : FM) (r : FM) (h : FX4_processor n a0 a1 M = some r) : fm_nx M ≤ fm_nx r ∧ fm_ns M ≤ fm_ns r :=
  fe_mono (L0 := [(0, .ref a0), (1, .int a1)]) (vX4_processor n) (by decide +kernel) (hX4_processor n) (fe_kv_k r) 0 rfl ((eX4_processor (FX4_processor_0 n ) a0 a1 M).trans h)
theorem zX4_processor {s0 : State} {H0 : Heap} {oa : Nat → Nat} {D : va_G} (K : fk s0 H0 oa D) (l : Launch) (n : Nat) (a0 : Nat) (a1 : Int32) (M : FM) (r : FM) (h : FX4_processor n a0 a1 M = some r) : fs_Con (fk_E s0 H0 oa D) l 8 ⟨"BoardMachine$Describer", "processor", "(I)V"⟩ prog_14_method_13_code 2 (Option.none : Option Jvm.ClassFile.FieldType) [.ref a0, .int a1] M none r := by
  have o0 : fs_OS (sX4_processor (FX4_openNumbered n) (FX4_string n) (FX4_number n) (FX4_open n) (FX4_nothing n) FX5_close) 0 0 (fs_Con (fk_E s0 H0 oa D) l 6 ⟨"BoardMachine$Describer", "openNumbered", "(Ljava/lang/String;I)V"⟩ prog_14_method_4_code 3 (Option.none : Option Jvm.ClassFile.FieldType)) := by
    intro As M r h
    obtain ⟨v0, t0, rfl, g0⟩ := fe_tR_d h
    obtain ⟨v1, t1, rfl, g1⟩ := fe_tR_d g0
    obtain ⟨v2, t2, rfl, g2⟩ := fe_tI_d g1
    obtain ⟨rfl, hz⟩ := fe_t0_d g2
    exact zX4_openNumbered K l n v0 v1 v2 M r hz
  have o1 : fs_OS (sX4_processor (FX4_openNumbered n) (FX4_string n) (FX4_number n) (FX4_open n) (FX4_nothing n) FX5_close) 1 0 (fs_Con (fk_E s0 H0 oa D) l 7 ⟨"BoardMachine$Describer", "string", "(Ljava/lang/String;Ljava/lang/String;)V"⟩ prog_14_method_7_code 3 (Option.none : Option Jvm.ClassFile.FieldType)) := by
    intro As M r h
    obtain ⟨v0, t0, rfl, g0⟩ := fe_tR_d h
    obtain ⟨v1, t1, rfl, g1⟩ := fe_tR_d g0
    obtain ⟨v2, t2, rfl, g2⟩ := fe_tR_d g1
    obtain ⟨rfl, hz⟩ := fe_t0_d g2
    exact zX4_string K l n v0 v1 v2 M r hz
  have o2 : fs_OS (sX4_processor (FX4_openNumbered n) (FX4_string n) (FX4_number n) (FX4_open n) (FX4_nothing n) FX5_close) 2 0 (fs_Con (fk_E s0 H0 oa D) l 7 ⟨"BoardMachine$Describer", "number", "(Ljava/lang/String;I)V"⟩ prog_14_method_8_code 3 (Option.none : Option Jvm.ClassFile.FieldType)) := by
    intro As M r h
    obtain ⟨v0, t0, rfl, g0⟩ := fe_tR_d h
    obtain ⟨v1, t1, rfl, g1⟩ := fe_tR_d g0
    obtain ⟨v2, t2, rfl, g2⟩ := fe_tI_d g1
    obtain ⟨rfl, hz⟩ := fe_t0_d g2
    exact zX4_number K l n v0 v1 v2 M r hz
  have o3 : fs_OS (sX4_processor (FX4_openNumbered n) (FX4_string n) (FX4_number n) (FX4_open n) (FX4_nothing n) FX5_close) 3 0 (fs_Con (fk_E s0 H0 oa D) l 6 ⟨"BoardMachine$Describer", "open", "(Ljava/lang/String;)V"⟩ prog_14_method_3_code 2 (Option.none : Option Jvm.ClassFile.FieldType)) := by
    intro As M r h
    obtain ⟨v0, t0, rfl, g0⟩ := fe_tR_d h
    obtain ⟨v1, t1, rfl, g1⟩ := fe_tR_d g0
    obtain ⟨rfl, hz⟩ := fe_t0_d g1
    exact zX4_open K l n v0 v1 M r hz
  have o4 : fs_OS (sX4_processor (FX4_openNumbered n) (FX4_string n) (FX4_number n) (FX4_open n) (FX4_nothing n) FX5_close) 4 0 (fs_Con (fk_E s0 H0 oa D) l 7 ⟨"BoardMachine$Describer", "nothing", "(Ljava/lang/String;)V"⟩ prog_14_method_9_code 2 (Option.none : Option Jvm.ClassFile.FieldType)) := by
    intro As M r h
    obtain ⟨v0, t0, rfl, g0⟩ := fe_tR_d h
    obtain ⟨v1, t1, rfl, g1⟩ := fe_tR_d g0
    obtain ⟨rfl, hz⟩ := fe_t0_d g1
    exact zX4_nothing K l n v0 v1 M r hz
  have o5 : fs_OS (sX4_processor (FX4_openNumbered n) (FX4_string n) (FX4_number n) (FX4_open n) (FX4_nothing n) FX5_close) 5 1 (fs_Con (fk_E s0 H0 oa D) l 1 ⟨"BoardMachine$Trees$Tree", "close", "()I"⟩ prog_101_method_9_code 1 (Option.some Jvm.ClassFile.FieldType.int)) := by
    intro As M r h
    obtain ⟨v0, t0, rfl, g0⟩ := fe_tR_d h
    obtain ⟨rfl, hz⟩ := fe_t0_d g0
    exact zX5_close K l v0 M r hz
  refine fs_method (own := "BoardMachine$Describer") rfl (by decide) K.2.1 (by rw [fe_slen]; exact (Nat.le_of_ble_eq_true rfl)) (mX4_processor n a0 a1 M r h) (hX4_processor n) 0 rfl (L0 := [(0, .ref a0), (1, .int a1)]) (fun E => fe_args_e E [.ref a0, .int a1] 0) ((eX4_processor (FX4_processor_0 n ) a0 a1 M).trans h) (fe_kv_k r) (fun H hR => fs_nr_o (by decide) (by decide)) ?_
  intro p e s m args below meth c Q C hnm
  have hw : s0.WarmedH s.vm := C.2.2.2.2.1
  refine fe_all C fk_hwr cX4_processor [1, 4, 8, 10, 12, 16, 19, 23, 25, 27, 31, 33, 35, 39, 41, 43, 47, 49, 51, 55, 57, 61, 64, 68, 70, 74, 76, 78, 82, 87, 91, 94, 99, 102] (by decide +kernel) (fe_fil (cps := [(1, 3, .ldc 111), (4, 7, .invokevirtual 12604437), (8, 10, .ldc 117), (10, 12, .ldc 110), (12, 15, .invokevirtual 79713301), (16, 18, .ldc 132), (19, 22, .invokevirtual 146822165), (23, 25, .ldc 137), (25, 27, .ldc 129), (27, 30, .invokevirtual 79713301), (31, 33, .ldc 109), (33, 35, .ldc 146), (35, 38, .invokevirtual 79713301), (39, 41, .ldc 124), (41, 43, .ldc 142), (43, 46, .invokevirtual 79713301), (47, 49, .ldc 127), (49, 51, .ldc 139), (51, 54, .invokevirtual 79713301), (55, 57, .ldc 119), (57, 60, .invokevirtual 209736725), (61, 63, .ldc 102), (64, 67, .invokevirtual 146822165), (68, 70, .ldc 119), (70, 73, .invokevirtual 276845589), (74, 76, .ldc 109), (76, 78, .ldc 148), (78, 81, .invokevirtual 79713301), (82, 84, .ldc 130), (87, 90, .invokevirtual 146822165), (91, 94, .getfield 234967126), (94, 97, .invokevirtual 340876375), (99, 102, .getfield 234967126), (102, 105, .invokevirtual 340876375)]) (by decide +kernel) ?_)
  refine fs_c1 (fs_ldcs (pc := 1) (idx := 101) (n := 111) (tx := "cpu@") C (by decide +kernel) (by decide) (kS K es_21_101)) ?_
  refine fs_c1 (fs_inv_virtual (pc := 4) (n := 12604437) C (Nat.le_of_ble_eq_true rfl) (Nat.le_of_ble_eq_true rfl) (fs_lk_virtual (idx := 103) (y := ⟨"BoardMachine$Describer", "openNumbered", "(Ljava/lang/String;I)V"⟩) (bytes := prog_14_method_4_code) (maxL := 3) (rt := (Option.none : Option Jvm.ClassFile.FieldType)) (d := 6) C (Nat.le_of_ble_eq_true rfl) (Nat.le_of_ble_eq_true rfl) (by decide +kernel) (kw K hw q2277) (kw K hw q314) (kw K hw q2276) (Or.inl (kw K hw q2274)) ⟨by decide, by decide⟩ rfl (Nat.le_of_ble_eq_true rfl) (Nat.le_of_ble_eq_true rfl) (fs_one (⟨_, rfl, kw K hw qs12⟩))) fs_con_mono o0) ?_
  refine fs_c1 (fs_ldcs (pc := 8) (idx := 106) (n := 117) (tx := "device_type") C (by decide +kernel) (by decide) (kS K es_21_106)) ?_
  refine fs_c1 (fs_ldcs (pc := 10) (idx := 108) (n := 110) (tx := "cpu") C (by decide +kernel) (by decide) (kS K es_21_108)) ?_
  refine fs_c1 (fs_inv_virtual (pc := 12) (n := 79713301) C (Nat.le_of_ble_eq_true rfl) (Nat.le_of_ble_eq_true rfl) (fs_lk_virtual (idx := 110) (y := ⟨"BoardMachine$Describer", "string", "(Ljava/lang/String;Ljava/lang/String;)V"⟩) (bytes := prog_14_method_7_code) (maxL := 3) (rt := (Option.none : Option Jvm.ClassFile.FieldType)) (d := 7) C (Nat.le_of_ble_eq_true rfl) (Nat.le_of_ble_eq_true rfl) (by decide +kernel) (kw K hw q2248) (kw K hw q314) (kw K hw q2247) (Or.inl (kw K hw q2245)) ⟨by decide, by decide⟩ rfl (Nat.le_of_ble_eq_true rfl) (Nat.le_of_ble_eq_true rfl) (fs_one (⟨_, rfl, kw K hw qs9⟩))) fs_con_mono o1) ?_
  refine fs_c1 (fs_ldcs (pc := 16) (idx := 87) (n := 132) (tx := "reg") C (by decide +kernel) (by decide) (kS K es_21_87)) ?_
  refine fs_c1 (fs_inv_virtual (pc := 19) (n := 146822165) C (Nat.le_of_ble_eq_true rfl) (Nat.le_of_ble_eq_true rfl) (fs_lk_virtual (idx := 95) (y := ⟨"BoardMachine$Describer", "number", "(Ljava/lang/String;I)V"⟩) (bytes := prog_14_method_8_code) (maxL := 3) (rt := (Option.none : Option Jvm.ClassFile.FieldType)) (d := 7) C (Nat.le_of_ble_eq_true rfl) (Nat.le_of_ble_eq_true rfl) (by decide +kernel) (kw K hw q2156) (kw K hw q314) (kw K hw q2155) (Or.inl (kw K hw q2153)) ⟨by decide, by decide⟩ rfl (Nat.le_of_ble_eq_true rfl) (Nat.le_of_ble_eq_true rfl) (fs_one (⟨_, rfl, kw K hw qs5⟩))) fs_con_mono o2) ?_
  refine fs_c1 (fs_ldcs (pc := 23) (idx := 114) (n := 137) (tx := "status") C (by decide +kernel) (by decide) (kS K es_21_114)) ?_
  refine fs_c1 (fs_ldcs (pc := 25) (idx := 116) (n := 129) (tx := "okay") C (by decide +kernel) (by decide) (kS K es_21_116)) ?_
  refine fs_c1 (fs_inv_virtual (pc := 27) (n := 79713301) C (Nat.le_of_ble_eq_true rfl) (Nat.le_of_ble_eq_true rfl) (fs_lk_virtual (idx := 110) (y := ⟨"BoardMachine$Describer", "string", "(Ljava/lang/String;Ljava/lang/String;)V"⟩) (bytes := prog_14_method_7_code) (maxL := 3) (rt := (Option.none : Option Jvm.ClassFile.FieldType)) (d := 7) C (Nat.le_of_ble_eq_true rfl) (Nat.le_of_ble_eq_true rfl) (by decide +kernel) (kw K hw q2248) (kw K hw q314) (kw K hw q2247) (Or.inl (kw K hw q2245)) ⟨by decide, by decide⟩ rfl (Nat.le_of_ble_eq_true rfl) (Nat.le_of_ble_eq_true rfl) (fs_one (⟨_, rfl, kw K hw qs9⟩))) fs_con_mono o1) ?_
  refine fs_c1 (fs_ldcs (pc := 31) (idx := 118) (n := 109) (tx := "compatible") C (by decide +kernel) (by decide) (kS K es_21_118)) ?_
  refine fs_c1 (fs_ldcs (pc := 33) (idx := 120) (n := 146) (tx := "whole,core") C (by decide +kernel) (by decide) (kS K es_21_120)) ?_
  refine fs_c1 (fs_inv_virtual (pc := 35) (n := 79713301) C (Nat.le_of_ble_eq_true rfl) (Nat.le_of_ble_eq_true rfl) (fs_lk_virtual (idx := 110) (y := ⟨"BoardMachine$Describer", "string", "(Ljava/lang/String;Ljava/lang/String;)V"⟩) (bytes := prog_14_method_7_code) (maxL := 3) (rt := (Option.none : Option Jvm.ClassFile.FieldType)) (d := 7) C (Nat.le_of_ble_eq_true rfl) (Nat.le_of_ble_eq_true rfl) (by decide +kernel) (kw K hw q2248) (kw K hw q314) (kw K hw q2247) (Or.inl (kw K hw q2245)) ⟨by decide, by decide⟩ rfl (Nat.le_of_ble_eq_true rfl) (Nat.le_of_ble_eq_true rfl) (fs_one (⟨_, rfl, kw K hw qs9⟩))) fs_con_mono o1) ?_
  refine fs_c1 (fs_ldcs (pc := 39) (idx := 122) (n := 124) (tx := "isa") C (by decide +kernel) (by decide) (kS K es_21_122)) ?_
  refine fs_c1 (fs_ldcs (pc := 41) (idx := 124) (n := 142) (tx := "w64") C (by decide +kernel) (by decide) (kS K es_21_124)) ?_
  refine fs_c1 (fs_inv_virtual (pc := 43) (n := 79713301) C (Nat.le_of_ble_eq_true rfl) (Nat.le_of_ble_eq_true rfl) (fs_lk_virtual (idx := 110) (y := ⟨"BoardMachine$Describer", "string", "(Ljava/lang/String;Ljava/lang/String;)V"⟩) (bytes := prog_14_method_7_code) (maxL := 3) (rt := (Option.none : Option Jvm.ClassFile.FieldType)) (d := 7) C (Nat.le_of_ble_eq_true rfl) (Nat.le_of_ble_eq_true rfl) (by decide +kernel) (kw K hw q2248) (kw K hw q314) (kw K hw q2247) (Or.inl (kw K hw q2245)) ⟨by decide, by decide⟩ rfl (Nat.le_of_ble_eq_true rfl) (Nat.le_of_ble_eq_true rfl) (fs_one (⟨_, rfl, kw K hw qs9⟩))) fs_con_mono o1) ?_
  refine fs_c1 (fs_ldcs (pc := 47) (idx := 126) (n := 127) (tx := "mmu-type") C (by decide +kernel) (by decide) (kS K es_21_126)) ?_
  refine fs_c1 (fs_ldcs (pc := 49) (idx := 128) (n := 139) (tx := "three,four") C (by decide +kernel) (by decide) (kS K es_21_128)) ?_
  refine fs_c1 (fs_inv_virtual (pc := 51) (n := 79713301) C (Nat.le_of_ble_eq_true rfl) (Nat.le_of_ble_eq_true rfl) (fs_lk_virtual (idx := 110) (y := ⟨"BoardMachine$Describer", "string", "(Ljava/lang/String;Ljava/lang/String;)V"⟩) (bytes := prog_14_method_7_code) (maxL := 3) (rt := (Option.none : Option Jvm.ClassFile.FieldType)) (d := 7) C (Nat.le_of_ble_eq_true rfl) (Nat.le_of_ble_eq_true rfl) (by decide +kernel) (kw K hw q2248) (kw K hw q314) (kw K hw q2247) (Or.inl (kw K hw q2245)) ⟨by decide, by decide⟩ rfl (Nat.le_of_ble_eq_true rfl) (Nat.le_of_ble_eq_true rfl) (fs_one (⟨_, rfl, kw K hw qs9⟩))) fs_con_mono o1) ?_
  refine fs_c1 (fs_ldcs (pc := 55) (idx := 130) (n := 119) (tx := "interrupt-controller") C (by decide +kernel) (by decide) (kS K es_21_130)) ?_
  refine fs_c1 (fs_inv_virtual (pc := 57) (n := 209736725) C (Nat.le_of_ble_eq_true rfl) (Nat.le_of_ble_eq_true rfl) (fs_lk_virtual (idx := 132) (y := ⟨"BoardMachine$Describer", "open", "(Ljava/lang/String;)V"⟩) (bytes := prog_14_method_3_code) (maxL := 2) (rt := (Option.none : Option Jvm.ClassFile.FieldType)) (d := 6) C (Nat.le_of_ble_eq_true rfl) (Nat.le_of_ble_eq_true rfl) (by decide +kernel) (kw K hw q2255) (kw K hw q314) (kw K hw q2254) (Or.inl (kw K hw q2252)) ⟨by decide, by decide⟩ rfl (Nat.le_of_ble_eq_true rfl) (Nat.le_of_ble_eq_true rfl) (fs_one (⟨_, rfl, kw K hw qs10⟩))) fs_con_mono o3) ?_
  refine fs_c1 (fs_ldcs (pc := 61) (idx := 134) (n := 102) (tx := "#interrupt-cells") C (by decide +kernel) (by decide) (kS K es_21_134)) ?_
  refine fs_c1 (fs_inv_virtual (pc := 64) (n := 146822165) C (Nat.le_of_ble_eq_true rfl) (Nat.le_of_ble_eq_true rfl) (fs_lk_virtual (idx := 95) (y := ⟨"BoardMachine$Describer", "number", "(Ljava/lang/String;I)V"⟩) (bytes := prog_14_method_8_code) (maxL := 3) (rt := (Option.none : Option Jvm.ClassFile.FieldType)) (d := 7) C (Nat.le_of_ble_eq_true rfl) (Nat.le_of_ble_eq_true rfl) (by decide +kernel) (kw K hw q2156) (kw K hw q314) (kw K hw q2155) (Or.inl (kw K hw q2153)) ⟨by decide, by decide⟩ rfl (Nat.le_of_ble_eq_true rfl) (Nat.le_of_ble_eq_true rfl) (fs_one (⟨_, rfl, kw K hw qs5⟩))) fs_con_mono o2) ?_
  refine fs_c1 (fs_ldcs (pc := 68) (idx := 130) (n := 119) (tx := "interrupt-controller") C (by decide +kernel) (by decide) (kS K es_21_130)) ?_
  refine fs_c1 (fs_inv_virtual (pc := 70) (n := 276845589) C (Nat.le_of_ble_eq_true rfl) (Nat.le_of_ble_eq_true rfl) (fs_lk_virtual (idx := 136) (y := ⟨"BoardMachine$Describer", "nothing", "(Ljava/lang/String;)V"⟩) (bytes := prog_14_method_9_code) (maxL := 2) (rt := (Option.none : Option Jvm.ClassFile.FieldType)) (d := 7) C (Nat.le_of_ble_eq_true rfl) (Nat.le_of_ble_eq_true rfl) (by decide +kernel) (kw K hw q2293) (kw K hw q314) (kw K hw q2292) (Or.inl (kw K hw q2290)) ⟨by decide, by decide⟩ rfl (Nat.le_of_ble_eq_true rfl) (Nat.le_of_ble_eq_true rfl) (fs_one (⟨_, rfl, kw K hw qs13⟩))) fs_con_mono o4) ?_
  refine fs_c1 (fs_ldcs (pc := 74) (idx := 118) (n := 109) (tx := "compatible") C (by decide +kernel) (by decide) (kS K es_21_118)) ?_
  refine fs_c1 (fs_ldcs (pc := 76) (idx := 139) (n := 148) (tx := "whole,lines") C (by decide +kernel) (by decide) (kS K es_21_139)) ?_
  refine fs_c1 (fs_inv_virtual (pc := 78) (n := 79713301) C (Nat.le_of_ble_eq_true rfl) (Nat.le_of_ble_eq_true rfl) (fs_lk_virtual (idx := 110) (y := ⟨"BoardMachine$Describer", "string", "(Ljava/lang/String;Ljava/lang/String;)V"⟩) (bytes := prog_14_method_7_code) (maxL := 3) (rt := (Option.none : Option Jvm.ClassFile.FieldType)) (d := 7) C (Nat.le_of_ble_eq_true rfl) (Nat.le_of_ble_eq_true rfl) (by decide +kernel) (kw K hw q2248) (kw K hw q314) (kw K hw q2247) (Or.inl (kw K hw q2245)) ⟨by decide, by decide⟩ rfl (Nat.le_of_ble_eq_true rfl) (Nat.le_of_ble_eq_true rfl) (fs_one (⟨_, rfl, kw K hw qs9⟩))) fs_con_mono o1) ?_
  refine fs_c1 (fs_ldcs (pc := 82) (idx := 141) (n := 130) (tx := "phandle") C (by decide +kernel) (by decide) (kS K es_21_141)) ?_
  refine fs_c1 (fs_inv_virtual (pc := 87) (n := 146822165) C (Nat.le_of_ble_eq_true rfl) (Nat.le_of_ble_eq_true rfl) (fs_lk_virtual (idx := 95) (y := ⟨"BoardMachine$Describer", "number", "(Ljava/lang/String;I)V"⟩) (bytes := prog_14_method_8_code) (maxL := 3) (rt := (Option.none : Option Jvm.ClassFile.FieldType)) (d := 7) C (Nat.le_of_ble_eq_true rfl) (Nat.le_of_ble_eq_true rfl) (by decide +kernel) (kw K hw q2156) (kw K hw q314) (kw K hw q2155) (Or.inl (kw K hw q2153)) ⟨by decide, by decide⟩ rfl (Nat.le_of_ble_eq_true rfl) (Nat.le_of_ble_eq_true rfl) (fs_one (⟨_, rfl, kw K hw qs5⟩))) fs_con_mono o2) ?_
  refine fs_c1 (fs_getf (pc := 91) (n := 234967126) (idx := 23) (ref := "BoardMachine$Describer") (O := "BoardMachine$Describer") (name := "tree") (desc := "LBoardMachine$Trees$Tree;") C (by decide +kernel) (Or.inl (kw K hw q608)) (fun _ h => h) (Nat.le_of_ble_eq_true rfl) (Nat.le_of_ble_eq_true rfl) (fs_one (⟨_, ff_21_56 s0 H0 oa D⟩))) ?_
  refine fs_c1 (fs_inv_virtual (pc := 94) (n := 340876375) C (Nat.le_of_ble_eq_true rfl) (Nat.le_of_ble_eq_true rfl) (fs_lk_virtual (idx := 143) (y := ⟨"BoardMachine$Trees$Tree", "close", "()I"⟩) (bytes := prog_101_method_9_code) (maxL := 1) (rt := (Option.some Jvm.ClassFile.FieldType.int)) (d := 1) C (Nat.le_of_ble_eq_true rfl) (Nat.le_of_ble_eq_true rfl) (by decide +kernel) (kw K hw q2265) (kw K hw q315) (kw K hw q2263) (Or.inl (kw K hw q2262)) ⟨by decide, by decide⟩ rfl (Nat.le_of_ble_eq_true rfl) (Nat.le_of_ble_eq_true rfl) (fs_one (⟨_, rfl, kw K hw q2264⟩))) fs_con_mono o5) ?_
  refine fs_c1 (fs_getf (pc := 99) (n := 234967126) (idx := 23) (ref := "BoardMachine$Describer") (O := "BoardMachine$Describer") (name := "tree") (desc := "LBoardMachine$Trees$Tree;") C (by decide +kernel) (Or.inl (kw K hw q608)) (fun _ h => h) (Nat.le_of_ble_eq_true rfl) (Nat.le_of_ble_eq_true rfl) (fs_one (⟨_, ff_21_56 s0 H0 oa D⟩))) ?_
  refine fs_c1 (fs_inv_virtual (pc := 102) (n := 340876375) C (Nat.le_of_ble_eq_true rfl) (Nat.le_of_ble_eq_true rfl) (fs_lk_virtual (idx := 143) (y := ⟨"BoardMachine$Trees$Tree", "close", "()I"⟩) (bytes := prog_101_method_9_code) (maxL := 1) (rt := (Option.some Jvm.ClassFile.FieldType.int)) (d := 1) C (Nat.le_of_ble_eq_true rfl) (Nat.le_of_ble_eq_true rfl) (by decide +kernel) (kw K hw q2265) (kw K hw q315) (kw K hw q2263) (Or.inl (kw K hw q2262)) ⟨by decide, by decide⟩ rfl (Nat.le_of_ble_eq_true rfl) (Nat.le_of_ble_eq_true rfl) (fs_one (⟨_, rfl, kw K hw q2264⟩))) fs_con_mono o5) ?_
  exact fs_c0
