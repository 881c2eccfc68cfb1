/-! contracts of methods, printed by gen/snd.py -/
set_option maxRecDepth 100000
set_option maxHeartbeats 4000000
theorem hX83_init : fe_H (sX83_init FX75_init) cX83_init [0] fe_kv [] 20 (fun _ => dX83_init FX83_init_0) := by
  intro j pc L st M r hc h
  rcases fe_mem_c hc with rfl | hc
  · obtain ⟨w0, m0, h⟩ := fe_lR_d h
    obtain ⟨w1, m1, h⟩ := fe_lR_d h
    obtain ⟨rfl, hz⟩ := fe_t0_d h
    exact ⟨[(0, .ref w0), (1, .ref w1)], (fe_cs m0 (fe_cs m1 fe_nl)), Or.inr ((bX83_init_0 FX75_init FX83_init_0 w0 w1 M).symm.trans hz)⟩
  exact fe_mem_0 hc
theorem vX83_init : fe_SB (sX83_init FX75_init) := by
  refine ⟨?_, ?_, ?_, ?_⟩
  · intro i As M r h
    rcases fe_bc h with h | h
    · obtain ⟨v0, t0, rfl, g0⟩ := fe_tR_d h
      obtain ⟨rfl, hz⟩ := fe_t0_d g0
      exact mX75_init v0 M r hz
    exact fe_no h
  · intro i As M r h
    exact fe_no h
  · intro i As M r h
    exact fe_no h
  · intro i As M r h
    exact fe_no h
theorem eX83_init (g0 : Nat → Nat → FM → Option (FM)) (a0 : Nat) (a1 : Nat) (M : FM) : dX83_init g0 0 [(0, .ref a0), (1, .ref a1)] [] M = g0 a0 a1 M := by rfl
theorem mX83_init (a0 : Nat) (a1 : Nat) (M : FM) (r : FM) (h : FX83_init a0 a1 M = some r) : fm_nx M ≤ fm_nx r ∧ fm_ns M ≤ fm_ns r :=
  fe_mono (L0 := [(0, .ref a0), (1, .ref a1)]) (vX83_init) (by decide +kernel) (hX83_init) (fe_kv_k r) 0 rfl ((eX83_init FX83_init_0 a0 a1 M).trans h)
theorem zX83_init {s0 : State} {H0 : Heap} {oa : Nat → Nat} {D : va_G} (K : fk s0 H0 oa D) (l : Launch) (a0 : Nat) (a1 : Nat) (M : FM) (r : FM) (h : FX83_init a0 a1 M = some r) : fs_Con (fk_E s0 H0 oa D) l 2 ⟨"BoardMachine$Controls$Shadow", "<init>", "(LBoardMachine$Controls$Register;)V"⟩ prog_9_method_1_code 2 (Option.none : Option Jvm.ClassFile.FieldType) [.ref a0, .ref a1] M none r := by
  have o0 : fs_OS (sX83_init FX75_init) 0 0 (fs_Con (fk_E s0 H0 oa D) l 1 ⟨"BoardMachine$Controls$Register", "<init>", "()V"⟩ prog_8_method_1_code 1 (Option.none : Option Jvm.ClassFile.FieldType)) := by
    intro As M r h
    obtain ⟨v0, t0, rfl, g0⟩ := fe_tR_d h
    obtain ⟨rfl, hz⟩ := fe_t0_d g0
    exact zX75_init K l v0 M r hz
  refine fs_method (own := "BoardMachine$Controls$Shadow") rfl (by decide) K.2.1 (by rw [fe_slen]; exact (Nat.le_of_ble_eq_true rfl)) (mX83_init a0 a1 M r h) (hX83_init) 0 rfl (L0 := [(0, .ref a0), (1, .ref a1)]) (fun E => fe_args_e E [.ref a0, .ref a1] 0) ((eX83_init FX83_init_0 a0 a1 M).trans h) (fe_kv_k r) (fun H hR => fs_nr_o (by decide) (by decide)) ?_
  intro p e s m args below meth c Q C hnm
  have hw : s0.WarmedH s.vm := C.2.2.2.2.1
  refine fe_all C fk_hwr cX83_init [1, 6] (by decide +kernel) (fe_fil (cps := [(1, 4, .invokevirtual 4212754), (6, 9, .putfield 184623178)]) (by decide +kernel) ?_)
  refine fs_c1 (fs_inv_virtual (pc := 1) (n := 4212754) C (Nat.le_of_ble_eq_true rfl) (Nat.le_of_ble_eq_true rfl) (fs_lk_init (idx := 1) (y := ⟨"BoardMachine$Controls$Register", "<init>", "()V"⟩) (bytes := prog_8_method_1_code) (maxL := 1) (d := 1) C (Nat.le_of_ble_eq_true rfl) (Nat.le_of_ble_eq_true rfl) (by decide +kernel) (kw K hw q1700) (kw K hw q386) (kw K hw q1699) (Or.inr ⟨_, kM K hw q1841⟩) rfl ⟨by decide, by decide⟩ rfl (Nat.le_of_ble_eq_true rfl) (Nat.le_of_ble_eq_true rfl)) fs_con_mono o0) ?_
  refine fs_c1 (fs_putf (pc := 6) (n := 184623178) (idx := 7) (ref := "BoardMachine$Controls$Shadow") (O := "BoardMachine$Controls$Shadow") (name := "other") (desc := "LBoardMachine$Controls$Register;") (fin := true) (ty := (.object "BoardMachine$Controls$Register")) C (by decide +kernel) (Or.inr ⟨rfl, kw K hw q1842, hnm, rfl⟩) (fun _ h => h) (Nat.le_of_ble_eq_true rfl) (Nat.le_of_ble_eq_true rfl) (Nat.le_of_ble_eq_true rfl) rfl rfl (by decide) (fs_one (⟨rfl, ff_18_44 s0 H0 oa D⟩))) ?_
  exact fs_c0
theorem hX74_fill (n : Nat) : fe_H (sX74_fill) cX74_fill [0, 3] fe_kv [3] 20 (fun j => dX74_fill (FX74_fill_0 n (FX74_fill_L3 n j)) (FX74_fill_L3 n j)) := by
  intro j pc L st M r hc h
  rcases fe_mem_c hc with rfl | hc
  · obtain ⟨w0, m0, h⟩ := fe_lR_d h
    obtain ⟨w1, m1, h⟩ := fe_lI_d h
    obtain ⟨w2, m2, h⟩ := fe_lI_d h
    obtain ⟨w3, m3, h⟩ := fe_lR_d h
    obtain ⟨rfl, hz⟩ := fe_t0_d h
    exact ⟨[(0, .ref w0), (1, .int w1), (2, .int w2), (3, .ref w3)], (fe_cs m0 (fe_cs m1 (fe_cs m2 (fe_cs m3 fe_nl)))), Or.inr ((bX74_fill_0 (FX74_fill_0 n (FX74_fill_L3 n j)) (FX74_fill_L3 n j) w0 w1 w2 w3 M).symm.trans hz)⟩
  rcases fe_mem_c hc with rfl | hc
  · obtain ⟨w0, m0, h⟩ := fe_lR_d h
    obtain ⟨w2, m2, h⟩ := fe_lI_d h
    obtain ⟨w3, m3, h⟩ := fe_lR_d h
    obtain ⟨w4, m4, h⟩ := fe_lI_d h
    obtain ⟨rfl, hz⟩ := fe_t0_d h
    cases j with
    | zero => exact fe_no hz
    | succ j => exact ⟨[(0, .ref w0), (2, .int w2), (3, .ref w3), (4, .int w4)], (fe_cs m0 (fe_cs m2 (fe_cs m3 (fe_cs m4 fe_nl)))), Or.inl ⟨j, rfl, (bX74_fill_3 (FX74_fill_0 n (FX74_fill_L3 n j)) (FX74_fill_L3 n j) w0 w2 w3 w4 M).symm.trans hz⟩⟩
  exact fe_mem_0 hc
theorem vX74_fill (n : Nat) : fe_SB (sX74_fill) := by
  refine ⟨?_, ?_, ?_, ?_⟩
  · intro i As M r h
    exact fe_no h
  · intro i As M r h
    exact fe_no h
  · intro i As M r h
    exact fe_no h
  · intro i As M r h
    exact fe_no h
theorem eX74_fill (g0 : Nat → Int32 → Int32 → Nat → FM → Option (FM)) (k3 : Nat → Int32 → Nat → Int32 → FM → Option (FM)) (a0 : Nat) (a1 : Int32) (a2 : Int32) (a3 : Nat) (M : FM) : dX74_fill g0 k3 0 [(0, .ref a0), (1, .int a1), (2, .int a2), (3, .ref a3)] [] M = g0 a0 a1 a2 a3 M := by rfl
theorem mX74_fill (n : Nat) (a0 : Nat) (a1 : Int32) (a2 : Int32) (a3 : Nat) (M : FM) (r : FM) (h : FX74_fill n a0 a1 a2 a3 M = some r) : fm_nx M ≤ fm_nx r ∧ fm_ns M ≤ fm_ns r :=
  fe_mono (L0 := [(0, .ref a0), (1, .int a1), (2, .int a2), (3, .ref a3)]) (vX74_fill n) (by decide +kernel) (hX74_fill n) (fe_kv_k r) n rfl ((eX74_fill (FX74_fill_0 n (FX74_fill_L3 n n)) (FX74_fill_L3 n n) a0 a1 a2 a3 M).trans h)
theorem zX74_fill {s0 : State} {H0 : Heap} {oa : Nat → Nat} {D : va_G} (K : fk s0 H0 oa D) (l : Launch) (n : Nat) (a0 : Nat) (a1 : Int32) (a2 : Int32) (a3 : Nat) (M : FM) (r : FM) (h : FX74_fill n a0 a1 a2 a3 M = some r) : fs_Con (fk_E s0 H0 oa D) l 1 ⟨"BoardMachine$Controls$ControlUnit", "fill", "(IILBoardMachine$Controls$Register;)V"⟩ prog_5_method_2_code 5 (Option.none : Option Jvm.ClassFile.FieldType) [.ref a0, .int a1, .int a2, .ref a3] M none r := by
  refine fs_method (own := "BoardMachine$Controls$ControlUnit") rfl (by decide) K.2.1 (by rw [fe_slen]; exact (Nat.le_of_ble_eq_true rfl)) (mX74_fill n a0 a1 a2 a3 M r h) (hX74_fill n) n rfl (L0 := [(0, .ref a0), (1, .int a1), (2, .int a2), (3, .ref a3)]) (fun E => fe_args_e E [.ref a0, .int a1, .int a2, .ref a3] 0) ((eX74_fill (FX74_fill_0 n (FX74_fill_L3 n n)) (FX74_fill_L3 n n) a0 a1 a2 a3 M).trans h) (fe_kv_k r) (fun H hR => fs_nr_o (by decide) (by decide)) ?_
  intro p e s m args below meth c Q C hnm
  have hw : s0.WarmedH s.vm := C.2.2.2.2.1
  refine fe_all C fk_hwr cX74_fill [10, 16] (by decide +kernel) (fe_fil (cps := [(10, 13, .getfield 104906802), (16, 17, .instanceof 954217491)]) (by decide +kernel) ?_)
  refine fs_c1 (fs_getf (pc := 10) (n := 104906802) (idx := 17) (ref := "BoardMachine$Controls$ControlUnit") (O := "BoardMachine$Controls$ControlUnit") (name := "table") (desc := "[LBoardMachine$Controls$Register;") C (by decide +kernel) (Or.inl (kw K hw q1851)) (fun _ h => h) (Nat.le_of_ble_eq_true rfl) (Nat.le_of_ble_eq_true rfl) (fs_one (⟨_, ff_12_25 s0 H0 oa D⟩))) ?_
  refine fs_c1 (fs_astr (pc := 16) (n := 954217491) (EE := "BoardMachine$Controls$Register") C (by decide +kernel) (Nat.le_of_ble_eq_true rfl) rfl rfl (Nat.le_of_ble_eq_true rfl) (Nat.le_of_ble_eq_true rfl) (fs_rc (⟨_, rfl, Or.inr (kC K hw q6546)⟩) (fs_rc (⟨_, rfl, Or.inr (kC K hw q6547)⟩) (fs_rc (⟨_, rfl, Or.inr (kC K hw q6548)⟩) (fs_rc (⟨_, rfl, Or.inr (kC K hw q6550)⟩) (fs_rc (⟨_, rfl, Or.inr (kC K hw q6551)⟩) (fs_rc (⟨_, rfl, Or.inr (kC K hw q6549)⟩) (fs_one (⟨_, rfl, Or.inr (kC K hw q6552)⟩))))))))) ?_
  exact fs_c0
theorem hX74_init (n : Nat) : fe_H (sX74_init FX76_init FX78_init FX77_init FX79_init FX80_init FX81_init FX82_init FX74_lay FX83_init (FX74_fill n)) cX74_init [0] fe_kv [] 283 (fun _ => dX74_init (FX74_init_0 n)) := by
  intro j pc L st M r hc h
  rcases fe_mem_c hc with rfl | hc
  · obtain ⟨w0, m0, h⟩ := fe_lR_d h
    obtain ⟨w1, m1, h⟩ := fe_lI_d h
    obtain ⟨rfl, hz⟩ := fe_t0_d h
    exact ⟨[(0, .ref w0), (1, .int w1)], (fe_cs m0 (fe_cs m1 fe_nl)), Or.inr ((bX74_init_0 FX76_init FX78_init FX77_init FX79_init FX80_init FX81_init FX82_init FX74_lay FX83_init (FX74_fill n) (FX74_init_0 n ) w0 w1 M).symm.trans hz)⟩
  exact fe_mem_0 hc
theorem vX74_init (n : Nat) : fe_SB (sX74_init FX76_init FX78_init FX77_init FX79_init FX80_init FX81_init FX82_init FX74_lay FX83_init (FX74_fill n)) := by
  refine ⟨?_, ?_, ?_, ?_⟩
  · intro i As M r h
    rcases fe_bc h with h | h
    · obtain ⟨v0, t0, rfl, g0⟩ := fe_tR_d h
      obtain ⟨v1, t1, rfl, g1⟩ := fe_tL_d g0
      obtain ⟨rfl, hz⟩ := fe_t0_d g1
      exact mX76_init v0 v1 M r hz
    rcases fe_bc h with h | h
    · obtain ⟨v0, t0, rfl, g0⟩ := fe_tR_d h
      obtain ⟨rfl, hz⟩ := fe_t0_d g0
      exact mX78_init v0 M r hz
    rcases fe_bc h with h | h
    · obtain ⟨v0, t0, rfl, g0⟩ := fe_tR_d h
      obtain ⟨v1, t1, rfl, g1⟩ := fe_tL_d g0
      obtain ⟨rfl, hz⟩ := fe_t0_d g1
      exact mX77_init v0 v1 M r hz
    rcases fe_bc h with h | h
    · obtain ⟨v0, t0, rfl, g0⟩ := fe_tR_d h
      obtain ⟨rfl, hz⟩ := fe_t0_d g0
      exact mX79_init v0 M r hz
    rcases fe_bc h with h | h
    · obtain ⟨v0, t0, rfl, g0⟩ := fe_tR_d h
      obtain ⟨rfl, hz⟩ := fe_t0_d g0
      exact mX80_init v0 M r hz
    rcases fe_bc h with h | h
    · obtain ⟨v0, t0, rfl, g0⟩ := fe_tR_d h
      obtain ⟨v1, t1, rfl, g1⟩ := fe_tR_d g0
      obtain ⟨v2, t2, rfl, g2⟩ := fe_tR_d g1
      obtain ⟨v3, t3, rfl, g3⟩ := fe_tL_d g2
      obtain ⟨v4, t4, rfl, g4⟩ := fe_tL_d g3
      obtain ⟨rfl, hz⟩ := fe_t0_d g4
      exact mX81_init v0 v1 v2 v3 v4 M r hz
    rcases fe_bc h with h | h
    · obtain ⟨v0, t0, rfl, g0⟩ := fe_tR_d h
      obtain ⟨rfl, hz⟩ := fe_t0_d g0
      exact mX82_init v0 M r hz
    rcases fe_bc h with h | h
    · obtain ⟨v0, t0, rfl, g0⟩ := fe_tR_d h
      obtain ⟨v1, t1, rfl, g1⟩ := fe_tR_d g0
      obtain ⟨v2, t2, rfl, g2⟩ := fe_tI_d g1
      obtain ⟨rfl, hz⟩ := fe_t0_d g2
      exact mX74_lay v0 v1 v2 M r hz
    rcases fe_bc h with h | h
    · obtain ⟨v0, t0, rfl, g0⟩ := fe_tR_d h
      obtain ⟨v1, t1, rfl, g1⟩ := fe_tR_d g0
      obtain ⟨rfl, hz⟩ := fe_t0_d g1
      exact mX83_init v0 v1 M r hz
    rcases fe_bc h with h | h
    · obtain ⟨v0, t0, rfl, g0⟩ := fe_tR_d h
      obtain ⟨v1, t1, rfl, g1⟩ := fe_tI_d g0
      obtain ⟨v2, t2, rfl, g2⟩ := fe_tI_d g1
      obtain ⟨v3, t3, rfl, g3⟩ := fe_tR_d g2
      obtain ⟨rfl, hz⟩ := fe_t0_d g3
      exact mX74_fill n v0 v1 v2 v3 M r hz
    exact fe_no h
  · intro i As M r h
    exact fe_no h
  · intro i As M r h
    exact fe_no h
  · intro i As M r h
    exact fe_no h
theorem eX74_init (g0 : Nat → Int32 → FM → Option (FM)) (a0 : Nat) (a1 : Int32) (M : FM) : dX74_init g0 0 [(0, .ref a0), (1, .int a1)] [] M = g0 a0 a1 M := by rfl
theorem mX74_init (n : Nat) (a0 : Nat) (a1 : Int32) (M : FM) (r : FM) (h : FX74_init n a0 a1 M = some r) : fm_nx M ≤ fm_nx r ∧ fm_ns M ≤ fm_ns r :=
  fe_mono (L0 := [(0, .ref a0), (1, .int a1)]) (vX74_init n) (by decide +kernel) (hX74_init n) (fe_kv_k r) 0 rfl ((eX74_init (FX74_init_0 n ) a0 a1 M).trans h)
theorem zX74_init {s0 : State} {H0 : Heap} {oa : Nat → Nat} {D : va_G} (K : fk s0 H0 oa D) (l : Launch) (n : Nat) (a0 : Nat) (a1 : Int32) (M : FM) (r : FM) (h : FX74_init n a0 a1 M = some r) : fs_Con (fk_E s0 H0 oa D) l 4 ⟨"BoardMachine$Controls$ControlUnit", "<init>", "(I)V"⟩ prog_5_method_1_code 3 (Option.none : Option Jvm.ClassFile.FieldType) [.ref a0, .int a1] M none r := by
  have o0 : fs_OS (sX74_init FX76_init FX78_init FX77_init FX79_init FX80_init FX81_init FX82_init FX74_lay FX83_init (FX74_fill n)) 0 0 (fs_Con (fk_E s0 H0 oa D) l 2 ⟨"BoardMachine$Controls$Constant", "<init>", "(J)V"⟩ prog_4_method_1_code 3 (Option.none : Option Jvm.ClassFile.FieldType)) := by
    intro As M r h
    obtain ⟨v0, t0, rfl, g0⟩ := fe_tR_d h
    obtain ⟨v1, t1, rfl, g1⟩ := fe_tL_d g0
    obtain ⟨rfl, hz⟩ := fe_t0_d g1
    exact zX76_init K l v0 v1 M r hz
  have o1 : fs_OS (sX74_init FX76_init FX78_init FX77_init FX79_init FX80_init FX81_init FX82_init FX74_lay FX83_init (FX74_fill n)) 1 0 (fs_Con (fk_E s0 H0 oa D) l 3 ⟨"BoardMachine$Controls$Status", "<init>", "()V"⟩ prog_10_method_1_code 1 (Option.none : Option Jvm.ClassFile.FieldType)) := by
    intro As M r h
    obtain ⟨v0, t0, rfl, g0⟩ := fe_tR_d h
    obtain ⟨rfl, hz⟩ := fe_t0_d g0
    exact zX78_init K l v0 M r hz
  have o2 : fs_OS (sX74_init FX76_init FX78_init FX77_init FX79_init FX80_init FX81_init FX82_init FX74_lay FX83_init (FX74_fill n)) 2 0 (fs_Con (fk_E s0 H0 oa D) l 2 ⟨"BoardMachine$Controls$Masked", "<init>", "(J)V"⟩ prog_6_method_1_code 3 (Option.none : Option Jvm.ClassFile.FieldType)) := by
    intro As M r h
    obtain ⟨v0, t0, rfl, g0⟩ := fe_tR_d h
    obtain ⟨v1, t1, rfl, g1⟩ := fe_tL_d g0
    obtain ⟨rfl, hz⟩ := fe_t0_d g1
    exact zX77_init K l v0 v1 M r hz
  have o3 : fs_OS (sX74_init FX76_init FX78_init FX77_init FX79_init FX80_init FX81_init FX82_init FX74_lay FX83_init (FX74_fill n)) 3 0 (fs_Con (fk_E s0 H0 oa D) l 3 ⟨"BoardMachine$Controls$Pending", "<init>", "()V"⟩ prog_7_method_1_code 1 (Option.none : Option Jvm.ClassFile.FieldType)) := by
    intro As M r h
    obtain ⟨v0, t0, rfl, g0⟩ := fe_tR_d h
    obtain ⟨rfl, hz⟩ := fe_t0_d g0
    exact zX79_init K l v0 M r hz
  have o4 : fs_OS (sX74_init FX76_init FX78_init FX77_init FX79_init FX80_init FX81_init FX82_init FX74_lay FX83_init (FX74_fill n)) 4 0 (fs_Con (fk_E s0 H0 oa D) l 3 ⟨"BoardMachine$Controls$TrapBank", "<init>", "()V"⟩ prog_12_method_1_code 1 (Option.none : Option Jvm.ClassFile.FieldType)) := by
    intro As M r h
    obtain ⟨v0, t0, rfl, g0⟩ := fe_tR_d h
    obtain ⟨rfl, hz⟩ := fe_t0_d g0
    exact zX80_init K l v0 M r hz
  have o5 : fs_OS (sX74_init FX76_init FX78_init FX77_init FX79_init FX80_init FX81_init FX82_init FX74_lay FX83_init (FX74_fill n)) 5 0 (fs_Con (fk_E s0 H0 oa D) l 2 ⟨"BoardMachine$Controls$Window", "<init>", "(LBoardMachine$Controls$Masked;LBoardMachine$Controls$Register;JJ)V"⟩ prog_13_method_1_code 7 (Option.none : Option Jvm.ClassFile.FieldType)) := by
    intro As M r h
    obtain ⟨v0, t0, rfl, g0⟩ := fe_tR_d h
    obtain ⟨v1, t1, rfl, g1⟩ := fe_tR_d g0
    obtain ⟨v2, t2, rfl, g2⟩ := fe_tR_d g1
    obtain ⟨v3, t3, rfl, g3⟩ := fe_tL_d g2
    obtain ⟨v4, t4, rfl, g4⟩ := fe_tL_d g3
    obtain ⟨rfl, hz⟩ := fe_t0_d g4
    exact zX81_init K l v0 v1 v2 v3 v4 M r hz
  have o6 : fs_OS (sX74_init FX76_init FX78_init FX77_init FX79_init FX80_init FX81_init FX82_init FX74_lay FX83_init (FX74_fill n)) 6 0 (fs_Con (fk_E s0 H0 oa D) l 3 ⟨"BoardMachine$Controls$TableRegister", "<init>", "()V"⟩ prog_11_method_1_code 1 (Option.none : Option Jvm.ClassFile.FieldType)) := by
    intro As M r h
    obtain ⟨v0, t0, rfl, g0⟩ := fe_tR_d h
    obtain ⟨rfl, hz⟩ := fe_t0_d g0
    exact zX82_init K l v0 M r hz
  have o7 : fs_OS (sX74_init FX76_init FX78_init FX77_init FX79_init FX80_init FX81_init FX82_init FX74_lay FX83_init (FX74_fill n)) 7 0 (fs_Con (fk_E s0 H0 oa D) l 1 ⟨"BoardMachine$Controls$ControlUnit", "lay", "(LBoardMachine$Controls$TrapBank;I)V"⟩ prog_5_method_3_code 3 (Option.none : Option Jvm.ClassFile.FieldType)) := by
    intro As M r h
    obtain ⟨v0, t0, rfl, g0⟩ := fe_tR_d h
    obtain ⟨v1, t1, rfl, g1⟩ := fe_tR_d g0
    obtain ⟨v2, t2, rfl, g2⟩ := fe_tI_d g1
    obtain ⟨rfl, hz⟩ := fe_t0_d g2
    exact zX74_lay K l v0 v1 v2 M r hz
  have o8 : fs_OS (sX74_init FX76_init FX78_init FX77_init FX79_init FX80_init FX81_init FX82_init FX74_lay FX83_init (FX74_fill n)) 8 0 (fs_Con (fk_E s0 H0 oa D) l 2 ⟨"BoardMachine$Controls$Shadow", "<init>", "(LBoardMachine$Controls$Register;)V"⟩ prog_9_method_1_code 2 (Option.none : Option Jvm.ClassFile.FieldType)) := by
    intro As M r h
    obtain ⟨v0, t0, rfl, g0⟩ := fe_tR_d h
    obtain ⟨v1, t1, rfl, g1⟩ := fe_tR_d g0
    obtain ⟨rfl, hz⟩ := fe_t0_d g1
    exact zX83_init K l v0 v1 M r hz
  have o9 : fs_OS (sX74_init FX76_init FX78_init FX77_init FX79_init FX80_init FX81_init FX82_init FX74_lay FX83_init (FX74_fill n)) 9 0 (fs_Con (fk_E s0 H0 oa D) l 1 ⟨"BoardMachine$Controls$ControlUnit", "fill", "(IILBoardMachine$Controls$Register;)V"⟩ prog_5_method_2_code 5 (Option.none : Option Jvm.ClassFile.FieldType)) := by
    intro As M r h
    obtain ⟨v0, t0, rfl, g0⟩ := fe_tR_d h
    obtain ⟨v1, t1, rfl, g1⟩ := fe_tI_d g0
    obtain ⟨v2, t2, rfl, g2⟩ := fe_tI_d g1
    obtain ⟨v3, t3, rfl, g3⟩ := fe_tR_d g2
    obtain ⟨rfl, hz⟩ := fe_t0_d g3
    exact zX74_fill K l n v0 v1 v2 v3 M r hz
  refine fs_method (own := "BoardMachine$Controls$ControlUnit") rfl (by decide) K.2.1 (by rw [fe_slen]; exact (Nat.le_of_ble_eq_true rfl)) (mX74_init n a0 a1 M r h) (hX74_init n) 0 rfl (L0 := [(0, .ref a0), (1, .int a1)]) (fun E => fe_args_e E [.ref a0, .int a1] 0) ((eX74_init (FX74_init_0 n ) a0 a1 M).trans h) (fe_kv_k r) (fun H hR => fs_nr_o (by decide) (by decide)) ?_
  intro p e s m args below meth c Q C hnm
  have hw : s0.WarmedH s.vm := C.2.2.2.2.1
  refine fe_all C fk_hwr cX74_init [1, 7, 36, 43, 46, 50, 55, 58, 62, 66, 69, 73, 77, 80, 83, 87, 91, 94, 97, 101, 105, 108, 111, 115, 119, 122, 126, 130, 133, 137, 141, 144, 148, 152, 155, 158, 162, 166, 169, 172, 176, 180, 183, 186, 191, 194, 198, 201, 206, 213, 216, 218, 224, 229, 233, 236, 239, 242, 244, 250, 254, 257, 260, 262, 269, 272, 274, 281, 284, 286, 293, 296, 298, 304, 309, 313, 316, 320, 323, 325, 332, 335, 337, 343, 348, 352, 355, 359, 362, 364, 370, 374, 377, 380, 386, 391, 397, 401, 408, 411, 413, 420, 423, 425, 431, 436, 439, 442, 444, 450, 455, 458, 461, 463, 469, 474, 477, 480, 488, 493, 496, 500, 506, 512, 515, 520, 523, 534, 537, 541, 548, 551, 553, 560, 563] (by decide +kernel) (fe_fil (cps := [(1, 4, .monitorenter), (7, 9, .anewarray 25477), (36, 39, .putfield 100712498), (43, 46, .anewarray 26510), (46, 49, .putfield 104906802), (50, 53, .new 833), (55, 58, .invokevirtual 8401933), (58, 61, .putfield 109101106), (62, 65, .new 1026), (66, 69, .invokevirtual 71319568), (69, 72, .putfield 113295410), (73, 76, .new 898), (77, 80, .jsr_w (46079)), (80, 83, .invokevirtual 142620686), (83, 86, .putfield 117489714), (87, 90, .new 898), (91, 94, .jsr_w (546)), (94, 97, .invokevirtual 142620686), (97, 100, .putfield 121684018), (101, 104, .new 898), (105, 108, .jsr_w (2730)), (108, 111, .invokevirtual 142620686), (111, 114, .putfield 125878322), (115, 118, .new 963), (119, 122, .invokevirtual 205536271), (122, 125, .putfield 130072626), (126, 129, .new 1286), (130, 133, .invokevirtual 272650260), (133, 136, .putfield 134266930), (137, 140, .new 1286), (141, 144, .invokevirtual 272650260), (144, 147, .putfield 138461234), (148, 151, .new 898), (152, 155, .jsr_w (-1)), (155, 158, .invokevirtual 142620686), (158, 161, .putfield 142655538), (162, 165, .new 898), (166, 169, .jsr_w (-1)), (169, 172, .invokevirtual 142620686), (172, 175, .putfield 146849842), (176, 179, .new 898), (180, 183, .jsr_w (-1)), (183, 186, .invokevirtual 142620686), (186, 189, .putfield 151044146), (191, 194, .putfield 155238448), (194, 197, .new 833), (198, 201, .jsr_w (811298)), (201, 204, .invokevirtual 8401933), (206, 209, .getfield 104906802), (213, 216, .getfield 113295410), (216, 217, .instanceof 954217491), (218, 221, .getfield 104906802), (224, 227, .new 1220), (229, 232, .getfield 113295410), (233, 236, .jsr_w (-1)), (236, 239, .jsr_w (-9223372028264841216)), (239, 242, .invokevirtual 356535315), (242, 243, .instanceof 954217491), (244, 247, .getfield 104906802), (250, 253, .new 833), (254, 257, .jsr_w (-9223372036853460691)), (257, 260, .invokevirtual 8401933), (260, 261, .instanceof 954217491), (262, 265, .getfield 104906802), (269, 272, .getfield 117489714), (272, 273, .instanceof 954217491), (274, 277, .getfield 104906802), (281, 284, .getfield 121684018), (284, 285, .instanceof 954217491), (286, 289, .getfield 104906802), (293, 296, .getfield 125878322), (296, 297, .instanceof 954217491), (298, 301, .getfield 104906802), (304, 307, .new 1220), (309, 312, .getfield 125878322), (313, 316, .getfield 121684018), (316, 319, .jsr_w (-1)), (320, 323, .invokevirtual 356535315), (323, 324, .instanceof 954217491), (325, 328, .getfield 104906802), (332, 335, .getfield 130072626), (335, 336, .instanceof 954217491), (337, 340, .getfield 104906802), (343, 346, .new 1220), (348, 351, .getfield 130072626), (352, 355, .getfield 121684018), (355, 358, .jsr_w (2)), (359, 362, .invokevirtual 356535315), (362, 363, .instanceof 954217491), (364, 367, .getfield 104906802), (370, 373, .new 1090), (374, 377, .invokevirtual 406864913), (377, 378, .instanceof 954217491), (380, 383, .getfield 134266930), (386, 389, .invokevirtual 482357260), (391, 394, .getfield 138461234), (397, 400, .invokevirtual 482357260), (401, 404, .getfield 104906802), (408, 411, .getfield 142655538), (411, 412, .instanceof 954217491), (413, 416, .getfield 104906802), (420, 423, .getfield 146849842), (423, 424, .instanceof 954217491), (425, 428, .getfield 104906802), (431, 434, .new 1153), (436, 439, .getfield 142655538), (439, 442, .invokevirtual 545277970), (442, 443, .instanceof 954217491), (444, 447, .getfield 104906802), (450, 453, .new 1153), (455, 458, .getfield 151044146), (458, 461, .invokevirtual 545277970), (461, 462, .instanceof 954217491), (463, 466, .getfield 104906802), (469, 472, .new 1153), (474, 477, .getfield 146849842), (477, 480, .invokevirtual 545277970), (480, 481, .instanceof 954217491), (488, 491, .new 833), (493, 496, .invokevirtual 8401933), (496, 499, .invokevirtual 620769292), (500, 503, .getfield 104906802), (506, 509, .new 833), (512, 515, .invokevirtual 8401933), (515, 516, .instanceof 954217491), (520, 523, .getfield 109101106), (523, 526, .invokevirtual 620769292), (534, 537, .getfield 109101106), (537, 540, .invokevirtual 620769292), (541, 544, .getfield 104906802), (548, 551, .getfield 109101106), (551, 552, .instanceof 954217491), (553, 556, .getfield 104906802), (560, 563, .getfield 109101106), (563, 564, .instanceof 954217491)]) (by decide +kernel) ?_)
  refine fs_c1 (fs_init (pc := 1) (idx := 3) C (by decide +kernel) (kw K hw q1690) (kw K hw q441) (kw K hw q442) ⟨(Nat.le_of_ble_eq_true rfl), (Nat.le_of_ble_eq_true rfl)⟩) ?_
  refine fs_c1 (fs_newI (pc := 7) (n := 25477) C (by decide +kernel) (kw K hw q966) rfl rfl) ?_
  refine fs_c1 (fs_putf (pc := 36) (n := 100712498) (idx := 9) (ref := "BoardMachine$Controls$ControlUnit") (O := "BoardMachine$Controls$ControlUnit") (name := "order") (desc := "[I") (fin := true) (ty := (.array .int)) C (by decide +kernel) (Or.inr ⟨rfl, kw K hw q1850, hnm, rfl⟩) (fun _ h => h) (Nat.le_of_ble_eq_true rfl) (Nat.le_of_ble_eq_true rfl) (Nat.le_of_ble_eq_true rfl) rfl rfl (by decide) (fs_one (⟨rfl, ff_12_24 s0 H0 oa D⟩))) ?_
  refine fs_c1 (fs_newr (pc := 43) (n := 26510) (t := 910) (idx := 15) (CC := "BoardMachine$Controls$Register") C (by decide +kernel) (kw K hw q1691) (kO K hw q1692) rfl (Nat.le_of_ble_eq_true rfl) rfl rfl) ?_
  refine fs_c1 (fs_putf (pc := 46) (n := 104906802) (idx := 17) (ref := "BoardMachine$Controls$ControlUnit") (O := "BoardMachine$Controls$ControlUnit") (name := "table") (desc := "[LBoardMachine$Controls$Register;") (fin := true) (ty := (.array (.object "BoardMachine$Controls$Register"))) C (by decide +kernel) (Or.inr ⟨rfl, kw K hw q1851, hnm, rfl⟩) (fun _ h => h) (Nat.le_of_ble_eq_true rfl) (Nat.le_of_ble_eq_true rfl) (Nat.le_of_ble_eq_true rfl) rfl rfl (by decide) (fs_one (⟨rfl, ff_12_25 s0 H0 oa D⟩))) ?_
  refine fs_c1 (fs_newo (pc := 50) (n := 833) (idx := 21) (CC := "BoardMachine$Controls$Constant") (T := fT_13) (N := 1) C (by decide +kernel) (kw K hw q1693) (kw K hw q1694) (kw K hw q387) (by decide) (Nat.le_of_ble_eq_true rfl) rfl rfl) ?_
  refine fs_c1 (fs_inv_virtual (pc := 55) (n := 8401933) C (Nat.le_of_ble_eq_true rfl) (Nat.le_of_ble_eq_true rfl) (fs_lk_init (idx := 23) (y := ⟨"BoardMachine$Controls$Constant", "<init>", "(J)V"⟩) (bytes := prog_4_method_1_code) (maxL := 3) (d := 2) C (Nat.le_of_ble_eq_true rfl) (Nat.le_of_ble_eq_true rfl) (by decide +kernel) (kw K hw q1697) (kw K hw q387) (kw K hw q1696) (Or.inl (kw K hw q1695)) rfl ⟨by decide, by decide⟩ rfl (Nat.le_of_ble_eq_true rfl) (Nat.le_of_ble_eq_true rfl)) fs_con_mono o0) ?_
  refine fs_c1 (fs_putf (pc := 58) (n := 109101106) (idx := 26) (ref := "BoardMachine$Controls$ControlUnit") (O := "BoardMachine$Controls$ControlUnit") (name := "elsewhere") (desc := "LBoardMachine$Controls$Register;") (fin := true) (ty := (.object "BoardMachine$Controls$Register")) C (by decide +kernel) (Or.inr ⟨rfl, kw K hw q1854, hnm, rfl⟩) (fun _ h => h) (Nat.le_of_ble_eq_true rfl) (Nat.le_of_ble_eq_true rfl) (Nat.le_of_ble_eq_true rfl) rfl rfl (by decide) (fs_one (⟨rfl, ff_12_26 s0 H0 oa D⟩))) ?_
  refine fs_c1 (fs_newo (pc := 62) (n := 1026) (idx := 30) (CC := "BoardMachine$Controls$Status") (T := fT_16) (N := 2) C (by decide +kernel) (kw K hw q1706) (kw K hw q1707) (kw K hw q389) (by decide) (Nat.le_of_ble_eq_true rfl) rfl rfl) ?_
  refine fs_c1 (fs_inv_virtual (pc := 66) (n := 71319568) C (Nat.le_of_ble_eq_true rfl) (Nat.le_of_ble_eq_true rfl) (fs_lk_init (idx := 32) (y := ⟨"BoardMachine$Controls$Status", "<init>", "()V"⟩) (bytes := prog_10_method_1_code) (maxL := 1) (d := 3) C (Nat.le_of_ble_eq_true rfl) (Nat.le_of_ble_eq_true rfl) (by decide +kernel) (kw K hw q1710) (kw K hw q389) (kw K hw q1709) (Or.inl (kw K hw q1708)) rfl ⟨by decide, by decide⟩ rfl (Nat.le_of_ble_eq_true rfl) (Nat.le_of_ble_eq_true rfl)) fs_con_mono o1) ?_
  refine fs_c1 (fs_putf (pc := 69) (n := 113295410) (idx := 33) (ref := "BoardMachine$Controls$ControlUnit") (O := "BoardMachine$Controls$ControlUnit") (name := "status") (desc := "LBoardMachine$Controls$Status;") (fin := true) (ty := (.object "BoardMachine$Controls$Status")) C (by decide +kernel) (Or.inr ⟨rfl, kw K hw q1856, hnm, rfl⟩) (fun _ h => h) (Nat.le_of_ble_eq_true rfl) (Nat.le_of_ble_eq_true rfl) (Nat.le_of_ble_eq_true rfl) rfl rfl (by decide) (fs_one (⟨rfl, ff_12_27 s0 H0 oa D⟩))) ?_
  refine fs_c1 (fs_newo (pc := 73) (n := 898) (idx := 37) (CC := "BoardMachine$Controls$Masked") (T := fT_14) (N := 2) C (by decide +kernel) (kw K hw q1732) (kw K hw q1733) (kw K hw q388) (by decide) (Nat.le_of_ble_eq_true rfl) rfl rfl) ?_
  refine fs_c1 (fs_ldcl (pc := 77) (idx := 39) (v := 46079) C (by decide +kernel) (kw K hw q1734)) ?_
  refine fs_c1 (fs_inv_virtual (pc := 80) (n := 142620686) C (Nat.le_of_ble_eq_true rfl) (Nat.le_of_ble_eq_true rfl) (fs_lk_init (idx := 41) (y := ⟨"BoardMachine$Controls$Masked", "<init>", "(J)V"⟩) (bytes := prog_6_method_1_code) (maxL := 3) (d := 2) C (Nat.le_of_ble_eq_true rfl) (Nat.le_of_ble_eq_true rfl) (by decide +kernel) (kw K hw q1714) (kw K hw q388) (kw K hw q1713) (Or.inl (kw K hw q1735)) rfl ⟨by decide, by decide⟩ rfl (Nat.le_of_ble_eq_true rfl) (Nat.le_of_ble_eq_true rfl)) fs_con_mono o2) ?_
  refine fs_c1 (fs_putf (pc := 83) (n := 117489714) (idx := 42) (ref := "BoardMachine$Controls$ControlUnit") (O := "BoardMachine$Controls$ControlUnit") (name := "exceptions") (desc := "LBoardMachine$Controls$Masked;") (fin := true) (ty := (.object "BoardMachine$Controls$Masked")) C (by decide +kernel) (Or.inr ⟨rfl, kw K hw q1858, hnm, rfl⟩) (fun _ h => h) (Nat.le_of_ble_eq_true rfl) (Nat.le_of_ble_eq_true rfl) (Nat.le_of_ble_eq_true rfl) rfl rfl (by decide) (fs_one (⟨rfl, ff_12_28 s0 H0 oa D⟩))) ?_
  refine fs_c1 (fs_newo (pc := 87) (n := 898) (idx := 37) (CC := "BoardMachine$Controls$Masked") (T := fT_14) (N := 2) C (by decide +kernel) (kw K hw q1732) (kw K hw q1733) (kw K hw q388) (by decide) (Nat.le_of_ble_eq_true rfl) rfl rfl) ?_
  refine fs_c1 (fs_ldcl (pc := 91) (idx := 46) (v := 546) C (by decide +kernel) (kw K hw q1739)) ?_
  refine fs_c1 (fs_inv_virtual (pc := 94) (n := 142620686) C (Nat.le_of_ble_eq_true rfl) (Nat.le_of_ble_eq_true rfl) (fs_lk_init (idx := 41) (y := ⟨"BoardMachine$Controls$Masked", "<init>", "(J)V"⟩) (bytes := prog_6_method_1_code) (maxL := 3) (d := 2) C (Nat.le_of_ble_eq_true rfl) (Nat.le_of_ble_eq_true rfl) (by decide +kernel) (kw K hw q1714) (kw K hw q388) (kw K hw q1713) (Or.inl (kw K hw q1735)) rfl ⟨by decide, by decide⟩ rfl (Nat.le_of_ble_eq_true rfl) (Nat.le_of_ble_eq_true rfl)) fs_con_mono o2) ?_
  refine fs_c1 (fs_putf (pc := 97) (n := 121684018) (idx := 48) (ref := "BoardMachine$Controls$ControlUnit") (O := "BoardMachine$Controls$ControlUnit") (name := "interrupts") (desc := "LBoardMachine$Controls$Masked;") (fin := true) (ty := (.object "BoardMachine$Controls$Masked")) C (by decide +kernel) (Or.inr ⟨rfl, kw K hw q1860, hnm, rfl⟩) (fun _ h => h) (Nat.le_of_ble_eq_true rfl) (Nat.le_of_ble_eq_true rfl) (Nat.le_of_ble_eq_true rfl) rfl rfl (by decide) (fs_one (⟨rfl, ff_12_29 s0 H0 oa D⟩))) ?_
  refine fs_c1 (fs_newo (pc := 101) (n := 898) (idx := 37) (CC := "BoardMachine$Controls$Masked") (T := fT_14) (N := 2) C (by decide +kernel) (kw K hw q1732) (kw K hw q1733) (kw K hw q388) (by decide) (Nat.le_of_ble_eq_true rfl) rfl rfl) ?_
  refine fs_c1 (fs_ldcl (pc := 105) (idx := 51) (v := 2730) C (by decide +kernel) (kw K hw q1740)) ?_
  refine fs_c1 (fs_inv_virtual (pc := 108) (n := 142620686) C (Nat.le_of_ble_eq_true rfl) (Nat.le_of_ble_eq_true rfl) (fs_lk_init (idx := 41) (y := ⟨"BoardMachine$Controls$Masked", "<init>", "(J)V"⟩) (bytes := prog_6_method_1_code) (maxL := 3) (d := 2) C (Nat.le_of_ble_eq_true rfl) (Nat.le_of_ble_eq_true rfl) (by decide +kernel) (kw K hw q1714) (kw K hw q388) (kw K hw q1713) (Or.inl (kw K hw q1735)) rfl ⟨by decide, by decide⟩ rfl (Nat.le_of_ble_eq_true rfl) (Nat.le_of_ble_eq_true rfl)) fs_con_mono o2) ?_
  refine fs_c1 (fs_putf (pc := 111) (n := 125878322) (idx := 53) (ref := "BoardMachine$Controls$ControlUnit") (O := "BoardMachine$Controls$ControlUnit") (name := "enabled") (desc := "LBoardMachine$Controls$Masked;") (fin := true) (ty := (.object "BoardMachine$Controls$Masked")) C (by decide +kernel) (Or.inr ⟨rfl, kw K hw q1862, hnm, rfl⟩) (fun _ h => h) (Nat.le_of_ble_eq_true rfl) (Nat.le_of_ble_eq_true rfl) (Nat.le_of_ble_eq_true rfl) rfl rfl (by decide) (fs_one (⟨rfl, ff_12_30 s0 H0 oa D⟩))) ?_
  refine fs_c1 (fs_newo (pc := 115) (n := 963) (idx := 56) (CC := "BoardMachine$Controls$Pending") (T := fT_15) (N := 3) C (by decide +kernel) (kw K hw q1741) (kw K hw q1742) (kw K hw q390) (by decide) (Nat.le_of_ble_eq_true rfl) rfl rfl) ?_
  refine fs_c1 (fs_inv_virtual (pc := 119) (n := 205536271) C (Nat.le_of_ble_eq_true rfl) (Nat.le_of_ble_eq_true rfl) (fs_lk_init (idx := 58) (y := ⟨"BoardMachine$Controls$Pending", "<init>", "()V"⟩) (bytes := prog_7_method_1_code) (maxL := 1) (d := 3) C (Nat.le_of_ble_eq_true rfl) (Nat.le_of_ble_eq_true rfl) (by decide +kernel) (kw K hw q1745) (kw K hw q390) (kw K hw q1744) (Or.inl (kw K hw q1743)) rfl ⟨by decide, by decide⟩ rfl (Nat.le_of_ble_eq_true rfl) (Nat.le_of_ble_eq_true rfl)) fs_con_mono o3) ?_
  refine fs_c1 (fs_putf (pc := 122) (n := 130072626) (idx := 59) (ref := "BoardMachine$Controls$ControlUnit") (O := "BoardMachine$Controls$ControlUnit") (name := "pending") (desc := "LBoardMachine$Controls$Pending;") (fin := true) (ty := (.object "BoardMachine$Controls$Pending")) C (by decide +kernel) (Or.inr ⟨rfl, kw K hw q1864, hnm, rfl⟩) (fun _ h => h) (Nat.le_of_ble_eq_true rfl) (Nat.le_of_ble_eq_true rfl) (Nat.le_of_ble_eq_true rfl) rfl rfl (by decide) (fs_one (⟨rfl, ff_12_31 s0 H0 oa D⟩))) ?_
  refine fs_c1 (fs_newo (pc := 126) (n := 1286) (idx := 63) (CC := "BoardMachine$Controls$TrapBank") (T := fT_20) (N := 6) C (by decide +kernel) (kw K hw q1755) (kw K hw q1756) (kw K hw q391) (by decide) (Nat.le_of_ble_eq_true rfl) rfl rfl) ?_
  refine fs_c1 (fs_inv_virtual (pc := 130) (n := 272650260) C (Nat.le_of_ble_eq_true rfl) (Nat.le_of_ble_eq_true rfl) (fs_lk_init (idx := 65) (y := ⟨"BoardMachine$Controls$TrapBank", "<init>", "()V"⟩) (bytes := prog_12_method_1_code) (maxL := 1) (d := 3) C (Nat.le_of_ble_eq_true rfl) (Nat.le_of_ble_eq_true rfl) (by decide +kernel) (kw K hw q1759) (kw K hw q391) (kw K hw q1758) (Or.inr ⟨_, kM K hw q1757⟩) rfl ⟨by decide, by decide⟩ rfl (Nat.le_of_ble_eq_true rfl) (Nat.le_of_ble_eq_true rfl)) fs_con_mono o4) ?_
  refine fs_c1 (fs_putf (pc := 133) (n := 134266930) (idx := 66) (ref := "BoardMachine$Controls$ControlUnit") (O := "BoardMachine$Controls$ControlUnit") (name := "machine") (desc := "LBoardMachine$Controls$TrapBank;") (fin := true) (ty := (.object "BoardMachine$Controls$TrapBank")) C (by decide +kernel) (Or.inr ⟨rfl, kw K hw q1866, hnm, rfl⟩) (fun _ h => h) (Nat.le_of_ble_eq_true rfl) (Nat.le_of_ble_eq_true rfl) (Nat.le_of_ble_eq_true rfl) rfl rfl (by decide) (fs_one (⟨rfl, ff_12_32 s0 H0 oa D⟩))) ?_
  refine fs_c1 (fs_newo (pc := 137) (n := 1286) (idx := 63) (CC := "BoardMachine$Controls$TrapBank") (T := fT_20) (N := 6) C (by decide +kernel) (kw K hw q1755) (kw K hw q1756) (kw K hw q391) (by decide) (Nat.le_of_ble_eq_true rfl) rfl rfl) ?_
  refine fs_c1 (fs_inv_virtual (pc := 141) (n := 272650260) C (Nat.le_of_ble_eq_true rfl) (Nat.le_of_ble_eq_true rfl) (fs_lk_init (idx := 65) (y := ⟨"BoardMachine$Controls$TrapBank", "<init>", "()V"⟩) (bytes := prog_12_method_1_code) (maxL := 1) (d := 3) C (Nat.le_of_ble_eq_true rfl) (Nat.le_of_ble_eq_true rfl) (by decide +kernel) (kw K hw q1759) (kw K hw q391) (kw K hw q1758) (Or.inr ⟨_, kM K hw q1757⟩) rfl ⟨by decide, by decide⟩ rfl (Nat.le_of_ble_eq_true rfl) (Nat.le_of_ble_eq_true rfl)) fs_con_mono o4) ?_
  refine fs_c1 (fs_putf (pc := 144) (n := 138461234) (idx := 70) (ref := "BoardMachine$Controls$ControlUnit") (O := "BoardMachine$Controls$ControlUnit") (name := "supervisor") (desc := "LBoardMachine$Controls$TrapBank;") (fin := true) (ty := (.object "BoardMachine$Controls$TrapBank")) C (by decide +kernel) (Or.inr ⟨rfl, kw K hw q1868, hnm, rfl⟩) (fun _ h => h) (Nat.le_of_ble_eq_true rfl) (Nat.le_of_ble_eq_true rfl) (Nat.le_of_ble_eq_true rfl) rfl rfl (by decide) (fs_one (⟨rfl, ff_12_33 s0 H0 oa D⟩))) ?_
  refine fs_c1 (fs_newo (pc := 148) (n := 898) (idx := 37) (CC := "BoardMachine$Controls$Masked") (T := fT_14) (N := 2) C (by decide +kernel) (kw K hw q1732) (kw K hw q1733) (kw K hw q388) (by decide) (Nat.le_of_ble_eq_true rfl) rfl rfl) ?_
  refine fs_c1 (fs_ldcl (pc := 152) (idx := 73) (v := -1) C (by decide +kernel) (kw K hw q1798)) ?_
  refine fs_c1 (fs_inv_virtual (pc := 155) (n := 142620686) C (Nat.le_of_ble_eq_true rfl) (Nat.le_of_ble_eq_true rfl) (fs_lk_init (idx := 41) (y := ⟨"BoardMachine$Controls$Masked", "<init>", "(J)V"⟩) (bytes := prog_6_method_1_code) (maxL := 3) (d := 2) C (Nat.le_of_ble_eq_true rfl) (Nat.le_of_ble_eq_true rfl) (by decide +kernel) (kw K hw q1714) (kw K hw q388) (kw K hw q1713) (Or.inl (kw K hw q1735)) rfl ⟨by decide, by decide⟩ rfl (Nat.le_of_ble_eq_true rfl) (Nat.le_of_ble_eq_true rfl)) fs_con_mono o2) ?_
  refine fs_c1 (fs_putf (pc := 158) (n := 142655538) (idx := 75) (ref := "BoardMachine$Controls$ControlUnit") (O := "BoardMachine$Controls$ControlUnit") (name := "cycles") (desc := "LBoardMachine$Controls$Masked;") (fin := true) (ty := (.object "BoardMachine$Controls$Masked")) C (by decide +kernel) (Or.inr ⟨rfl, kw K hw q1870, hnm, rfl⟩) (fun _ h => h) (Nat.le_of_ble_eq_true rfl) (Nat.le_of_ble_eq_true rfl) (Nat.le_of_ble_eq_true rfl) rfl rfl (by decide) (fs_one (⟨rfl, ff_12_34 s0 H0 oa D⟩))) ?_
  refine fs_c1 (fs_newo (pc := 162) (n := 898) (idx := 37) (CC := "BoardMachine$Controls$Masked") (T := fT_14) (N := 2) C (by decide +kernel) (kw K hw q1732) (kw K hw q1733) (kw K hw q388) (by decide) (Nat.le_of_ble_eq_true rfl) rfl rfl) ?_
  refine fs_c1 (fs_ldcl (pc := 166) (idx := 73) (v := -1) C (by decide +kernel) (kw K hw q1798)) ?_
  refine fs_c1 (fs_inv_virtual (pc := 169) (n := 142620686) C (Nat.le_of_ble_eq_true rfl) (Nat.le_of_ble_eq_true rfl) (fs_lk_init (idx := 41) (y := ⟨"BoardMachine$Controls$Masked", "<init>", "(J)V"⟩) (bytes := prog_6_method_1_code) (maxL := 3) (d := 2) C (Nat.le_of_ble_eq_true rfl) (Nat.le_of_ble_eq_true rfl) (by decide +kernel) (kw K hw q1714) (kw K hw q388) (kw K hw q1713) (Or.inl (kw K hw q1735)) rfl ⟨by decide, by decide⟩ rfl (Nat.le_of_ble_eq_true rfl) (Nat.le_of_ble_eq_true rfl)) fs_con_mono o2) ?_
  refine fs_c1 (fs_putf (pc := 172) (n := 146849842) (idx := 78) (ref := "BoardMachine$Controls$ControlUnit") (O := "BoardMachine$Controls$ControlUnit") (name := "instructions") (desc := "LBoardMachine$Controls$Masked;") (fin := true) (ty := (.object "BoardMachine$Controls$Masked")) C (by decide +kernel) (Or.inr ⟨rfl, kw K hw q1873, hnm, rfl⟩) (fun _ h => h) (Nat.le_of_ble_eq_true rfl) (Nat.le_of_ble_eq_true rfl) (Nat.le_of_ble_eq_true rfl) rfl rfl (by decide) (fs_one (⟨rfl, ff_12_35 s0 H0 oa D⟩))) ?_
  refine fs_c1 (fs_newo (pc := 176) (n := 898) (idx := 37) (CC := "BoardMachine$Controls$Masked") (T := fT_14) (N := 2) C (by decide +kernel) (kw K hw q1732) (kw K hw q1733) (kw K hw q388) (by decide) (Nat.le_of_ble_eq_true rfl) rfl rfl) ?_
  refine fs_c1 (fs_ldcl (pc := 180) (idx := 73) (v := -1) C (by decide +kernel) (kw K hw q1798)) ?_
  refine fs_c1 (fs_inv_virtual (pc := 183) (n := 142620686) C (Nat.le_of_ble_eq_true rfl) (Nat.le_of_ble_eq_true rfl) (fs_lk_init (idx := 41) (y := ⟨"BoardMachine$Controls$Masked", "<init>", "(J)V"⟩) (bytes := prog_6_method_1_code) (maxL := 3) (d := 2) C (Nat.le_of_ble_eq_true rfl) (Nat.le_of_ble_eq_true rfl) (by decide +kernel) (kw K hw q1714) (kw K hw q388) (kw K hw q1713) (Or.inl (kw K hw q1735)) rfl ⟨by decide, by decide⟩ rfl (Nat.le_of_ble_eq_true rfl) (Nat.le_of_ble_eq_true rfl)) fs_con_mono o2) ?_
  refine fs_c1 (fs_putf (pc := 186) (n := 151044146) (idx := 81) (ref := "BoardMachine$Controls$ControlUnit") (O := "BoardMachine$Controls$ControlUnit") (name := "clock") (desc := "LBoardMachine$Controls$Masked;") (fin := true) (ty := (.object "BoardMachine$Controls$Masked")) C (by decide +kernel) (Or.inr ⟨rfl, kw K hw q1875, hnm, rfl⟩) (fun _ h => h) (Nat.le_of_ble_eq_true rfl) (Nat.le_of_ble_eq_true rfl) (Nat.le_of_ble_eq_true rfl) rfl rfl (by decide) (fs_one (⟨rfl, ff_12_36 s0 H0 oa D⟩))) ?_
  refine fs_c1 (fs_putf (pc := 191) (n := 155238448) (idx := 84) (ref := "BoardMachine$Controls$ControlUnit") (O := "BoardMachine$Controls$ControlUnit") (name := "mode") (desc := "I") (fin := false) (ty := .int) C (by decide +kernel) (Or.inl ⟨rfl, Or.inl (kw K hw q1877)⟩) (fun _ h => h) (Nat.le_of_ble_eq_true rfl) (Nat.le_of_ble_eq_true rfl) (Nat.le_of_ble_eq_true rfl) rfl rfl (by decide) (fs_one (⟨rfl, ff_12_37 s0 H0 oa D⟩))) ?_
  refine fs_c1 (fs_newo (pc := 194) (n := 833) (idx := 21) (CC := "BoardMachine$Controls$Constant") (T := fT_13) (N := 1) C (by decide +kernel) (kw K hw q1693) (kw K hw q1694) (kw K hw q387) (by decide) (Nat.le_of_ble_eq_true rfl) rfl rfl) ?_
  refine fs_c1 (fs_ldcl (pc := 198) (idx := 88) (v := 811298) C (by decide +kernel) (kw K hw q1799)) ?_
  refine fs_c1 (fs_inv_virtual (pc := 201) (n := 8401933) C (Nat.le_of_ble_eq_true rfl) (Nat.le_of_ble_eq_true rfl) (fs_lk_init (idx := 23) (y := ⟨"BoardMachine$Controls$Constant", "<init>", "(J)V"⟩) (bytes := prog_4_method_1_code) (maxL := 3) (d := 2) C (Nat.le_of_ble_eq_true rfl) (Nat.le_of_ble_eq_true rfl) (by decide +kernel) (kw K hw q1697) (kw K hw q387) (kw K hw q1696) (Or.inl (kw K hw q1695)) rfl ⟨by decide, by decide⟩ rfl (Nat.le_of_ble_eq_true rfl) (Nat.le_of_ble_eq_true rfl)) fs_con_mono o0) ?_
  refine fs_c1 (fs_getf (pc := 206) (n := 104906802) (idx := 17) (ref := "BoardMachine$Controls$ControlUnit") (O := "BoardMachine$Controls$ControlUnit") (name := "table") (desc := "[LBoardMachine$Controls$Register;") C (by decide +kernel) (Or.inl (kw K hw q1851)) (fun _ h => h) (Nat.le_of_ble_eq_true rfl) (Nat.le_of_ble_eq_true rfl) (fs_one (⟨_, ff_12_25 s0 H0 oa D⟩))) ?_
  refine fs_c1 (fs_getf (pc := 213) (n := 113295410) (idx := 33) (ref := "BoardMachine$Controls$ControlUnit") (O := "BoardMachine$Controls$ControlUnit") (name := "status") (desc := "LBoardMachine$Controls$Status;") C (by decide +kernel) (Or.inl (kw K hw q1856)) (fun _ h => h) (Nat.le_of_ble_eq_true rfl) (Nat.le_of_ble_eq_true rfl) (fs_one (⟨_, ff_12_27 s0 H0 oa D⟩))) ?_
  refine fs_c1 (fs_astr (pc := 216) (n := 954217491) (EE := "BoardMachine$Controls$Register") C (by decide +kernel) (Nat.le_of_ble_eq_true rfl) rfl rfl (Nat.le_of_ble_eq_true rfl) (Nat.le_of_ble_eq_true rfl) (fs_rc (⟨_, rfl, Or.inr (kC K hw q6546)⟩) (fs_rc (⟨_, rfl, Or.inr (kC K hw q6547)⟩) (fs_rc (⟨_, rfl, Or.inr (kC K hw q6548)⟩) (fs_rc (⟨_, rfl, Or.inr (kC K hw q6550)⟩) (fs_rc (⟨_, rfl, Or.inr (kC K hw q6551)⟩) (fs_rc (⟨_, rfl, Or.inr (kC K hw q6549)⟩) (fs_one (⟨_, rfl, Or.inr (kC K hw q6552)⟩))))))))) ?_
  refine fs_c1 (fs_getf (pc := 218) (n := 104906802) (idx := 17) (ref := "BoardMachine$Controls$ControlUnit") (O := "BoardMachine$Controls$ControlUnit") (name := "table") (desc := "[LBoardMachine$Controls$Register;") C (by decide +kernel) (Or.inl (kw K hw q1851)) (fun _ h => h) (Nat.le_of_ble_eq_true rfl) (Nat.le_of_ble_eq_true rfl) (fs_one (⟨_, ff_12_25 s0 H0 oa D⟩))) ?_
  refine fs_c1 (fs_newo (pc := 224) (n := 1220) (idx := 90) (CC := "BoardMachine$Controls$Window") (T := fT_19) (N := 4) C (by decide +kernel) (kw K hw q1800) (kw K hw q1801) (kw K hw q392) (by decide) (Nat.le_of_ble_eq_true rfl) rfl rfl) ?_
  refine fs_c1 (fs_getf (pc := 229) (n := 113295410) (idx := 33) (ref := "BoardMachine$Controls$ControlUnit") (O := "BoardMachine$Controls$ControlUnit") (name := "status") (desc := "LBoardMachine$Controls$Status;") C (by decide +kernel) (Or.inl (kw K hw q1856)) (fun _ h => h) (Nat.le_of_ble_eq_true rfl) (Nat.le_of_ble_eq_true rfl) (fs_one (⟨_, ff_12_27 s0 H0 oa D⟩))) ?_
  refine fs_c1 (fs_ldcl (pc := 233) (idx := 73) (v := -1) C (by decide +kernel) (kw K hw q1798)) ?_
  refine fs_c1 (fs_ldcl (pc := 236) (idx := 94) (v := -9223372028264841216) C (by decide +kernel) (kw K hw q1802)) ?_
  refine fs_c1 (fs_inv_virtual (pc := 239) (n := 356535315) C (Nat.le_of_ble_eq_true rfl) (Nat.le_of_ble_eq_true rfl) (fs_lk_init (idx := 96) (y := ⟨"BoardMachine$Controls$Window", "<init>", "(LBoardMachine$Controls$Masked;LBoardMachine$Controls$Register;JJ)V"⟩) (bytes := prog_13_method_1_code) (maxL := 7) (d := 2) C (Nat.le_of_ble_eq_true rfl) (Nat.le_of_ble_eq_true rfl) (by decide +kernel) (kw K hw q1805) (kw K hw q392) (kw K hw q1804) (Or.inl (kw K hw q1803)) rfl ⟨by decide, by decide⟩ rfl (Nat.le_of_ble_eq_true rfl) (Nat.le_of_ble_eq_true rfl)) fs_con_mono o5) ?_
  refine fs_c1 (fs_astr (pc := 242) (n := 954217491) (EE := "BoardMachine$Controls$Register") C (by decide +kernel) (Nat.le_of_ble_eq_true rfl) rfl rfl (Nat.le_of_ble_eq_true rfl) (Nat.le_of_ble_eq_true rfl) (fs_rc (⟨_, rfl, Or.inr (kC K hw q6546)⟩) (fs_rc (⟨_, rfl, Or.inr (kC K hw q6547)⟩) (fs_rc (⟨_, rfl, Or.inr (kC K hw q6548)⟩) (fs_rc (⟨_, rfl, Or.inr (kC K hw q6550)⟩) (fs_rc (⟨_, rfl, Or.inr (kC K hw q6551)⟩) (fs_rc (⟨_, rfl, Or.inr (kC K hw q6549)⟩) (fs_one (⟨_, rfl, Or.inr (kC K hw q6552)⟩))))))))) ?_
  refine fs_c1 (fs_getf (pc := 244) (n := 104906802) (idx := 17) (ref := "BoardMachine$Controls$ControlUnit") (O := "BoardMachine$Controls$ControlUnit") (name := "table") (desc := "[LBoardMachine$Controls$Register;") C (by decide +kernel) (Or.inl (kw K hw q1851)) (fun _ h => h) (Nat.le_of_ble_eq_true rfl) (Nat.le_of_ble_eq_true rfl) (fs_one (⟨_, ff_12_25 s0 H0 oa D⟩))) ?_
  refine fs_c1 (fs_newo (pc := 250) (n := 833) (idx := 21) (CC := "BoardMachine$Controls$Constant") (T := fT_13) (N := 1) C (by decide +kernel) (kw K hw q1693) (kw K hw q1694) (kw K hw q387) (by decide) (Nat.le_of_ble_eq_true rfl) rfl rfl) ?_
  refine fs_c1 (fs_ldcl (pc := 254) (idx := 99) (v := -9223372036853460691) C (by decide +kernel) (kw K hw q1820)) ?_
  refine fs_c1 (fs_inv_virtual (pc := 257) (n := 8401933) C (Nat.le_of_ble_eq_true rfl) (Nat.le_of_ble_eq_true rfl) (fs_lk_init (idx := 23) (y := ⟨"BoardMachine$Controls$Constant", "<init>", "(J)V"⟩) (bytes := prog_4_method_1_code) (maxL := 3) (d := 2) C (Nat.le_of_ble_eq_true rfl) (Nat.le_of_ble_eq_true rfl) (by decide +kernel) (kw K hw q1697) (kw K hw q387) (kw K hw q1696) (Or.inl (kw K hw q1695)) rfl ⟨by decide, by decide⟩ rfl (Nat.le_of_ble_eq_true rfl) (Nat.le_of_ble_eq_true rfl)) fs_con_mono o0) ?_
  refine fs_c1 (fs_astr (pc := 260) (n := 954217491) (EE := "BoardMachine$Controls$Register") C (by decide +kernel) (Nat.le_of_ble_eq_true rfl) rfl rfl (Nat.le_of_ble_eq_true rfl) (Nat.le_of_ble_eq_true rfl) (fs_rc (⟨_, rfl, Or.inr (kC K hw q6546)⟩) (fs_rc (⟨_, rfl, Or.inr (kC K hw q6547)⟩) (fs_rc (⟨_, rfl, Or.inr (kC K hw q6548)⟩) (fs_rc (⟨_, rfl, Or.inr (kC K hw q6550)⟩) (fs_rc (⟨_, rfl, Or.inr (kC K hw q6551)⟩) (fs_rc (⟨_, rfl, Or.inr (kC K hw q6549)⟩) (fs_one (⟨_, rfl, Or.inr (kC K hw q6552)⟩))))))))) ?_
  refine fs_c1 (fs_getf (pc := 262) (n := 104906802) (idx := 17) (ref := "BoardMachine$Controls$ControlUnit") (O := "BoardMachine$Controls$ControlUnit") (name := "table") (desc := "[LBoardMachine$Controls$Register;") C (by decide +kernel) (Or.inl (kw K hw q1851)) (fun _ h => h) (Nat.le_of_ble_eq_true rfl) (Nat.le_of_ble_eq_true rfl) (fs_one (⟨_, ff_12_25 s0 H0 oa D⟩))) ?_
  refine fs_c1 (fs_getf (pc := 269) (n := 117489714) (idx := 42) (ref := "BoardMachine$Controls$ControlUnit") (O := "BoardMachine$Controls$ControlUnit") (name := "exceptions") (desc := "LBoardMachine$Controls$Masked;") C (by decide +kernel) (Or.inl (kw K hw q1858)) (fun _ h => h) (Nat.le_of_ble_eq_true rfl) (Nat.le_of_ble_eq_true rfl) (fs_one (⟨_, ff_12_28 s0 H0 oa D⟩))) ?_
  refine fs_c1 (fs_astr (pc := 272) (n := 954217491) (EE := "BoardMachine$Controls$Register") C (by decide +kernel) (Nat.le_of_ble_eq_true rfl) rfl rfl (Nat.le_of_ble_eq_true rfl) (Nat.le_of_ble_eq_true rfl) (fs_rc (⟨_, rfl, Or.inr (kC K hw q6546)⟩) (fs_rc (⟨_, rfl, Or.inr (kC K hw q6547)⟩) (fs_rc (⟨_, rfl, Or.inr (kC K hw q6548)⟩) (fs_rc (⟨_, rfl, Or.inr (kC K hw q6550)⟩) (fs_rc (⟨_, rfl, Or.inr (kC K hw q6551)⟩) (fs_rc (⟨_, rfl, Or.inr (kC K hw q6549)⟩) (fs_one (⟨_, rfl, Or.inr (kC K hw q6552)⟩))))))))) ?_
  refine fs_c1 (fs_getf (pc := 274) (n := 104906802) (idx := 17) (ref := "BoardMachine$Controls$ControlUnit") (O := "BoardMachine$Controls$ControlUnit") (name := "table") (desc := "[LBoardMachine$Controls$Register;") C (by decide +kernel) (Or.inl (kw K hw q1851)) (fun _ h => h) (Nat.le_of_ble_eq_true rfl) (Nat.le_of_ble_eq_true rfl) (fs_one (⟨_, ff_12_25 s0 H0 oa D⟩))) ?_
  refine fs_c1 (fs_getf (pc := 281) (n := 121684018) (idx := 48) (ref := "BoardMachine$Controls$ControlUnit") (O := "BoardMachine$Controls$ControlUnit") (name := "interrupts") (desc := "LBoardMachine$Controls$Masked;") C (by decide +kernel) (Or.inl (kw K hw q1860)) (fun _ h => h) (Nat.le_of_ble_eq_true rfl) (Nat.le_of_ble_eq_true rfl) (fs_one (⟨_, ff_12_29 s0 H0 oa D⟩))) ?_
  refine fs_c1 (fs_astr (pc := 284) (n := 954217491) (EE := "BoardMachine$Controls$Register") C (by decide +kernel) (Nat.le_of_ble_eq_true rfl) rfl rfl (Nat.le_of_ble_eq_true rfl) (Nat.le_of_ble_eq_true rfl) (fs_rc (⟨_, rfl, Or.inr (kC K hw q6546)⟩) (fs_rc (⟨_, rfl, Or.inr (kC K hw q6547)⟩) (fs_rc (⟨_, rfl, Or.inr (kC K hw q6548)⟩) (fs_rc (⟨_, rfl, Or.inr (kC K hw q6550)⟩) (fs_rc (⟨_, rfl, Or.inr (kC K hw q6551)⟩) (fs_rc (⟨_, rfl, Or.inr (kC K hw q6549)⟩) (fs_one (⟨_, rfl, Or.inr (kC K hw q6552)⟩))))))))) ?_
  refine fs_c1 (fs_getf (pc := 286) (n := 104906802) (idx := 17) (ref := "BoardMachine$Controls$ControlUnit") (O := "BoardMachine$Controls$ControlUnit") (name := "table") (desc := "[LBoardMachine$Controls$Register;") C (by decide +kernel) (Or.inl (kw K hw q1851)) (fun _ h => h) (Nat.le_of_ble_eq_true rfl) (Nat.le_of_ble_eq_true rfl) (fs_one (⟨_, ff_12_25 s0 H0 oa D⟩))) ?_
  refine fs_c1 (fs_getf (pc := 293) (n := 125878322) (idx := 53) (ref := "BoardMachine$Controls$ControlUnit") (O := "BoardMachine$Controls$ControlUnit") (name := "enabled") (desc := "LBoardMachine$Controls$Masked;") C (by decide +kernel) (Or.inl (kw K hw q1862)) (fun _ h => h) (Nat.le_of_ble_eq_true rfl) (Nat.le_of_ble_eq_true rfl) (fs_one (⟨_, ff_12_30 s0 H0 oa D⟩))) ?_
  refine fs_c1 (fs_astr (pc := 296) (n := 954217491) (EE := "BoardMachine$Controls$Register") C (by decide +kernel) (Nat.le_of_ble_eq_true rfl) rfl rfl (Nat.le_of_ble_eq_true rfl) (Nat.le_of_ble_eq_true rfl) (fs_rc (⟨_, rfl, Or.inr (kC K hw q6546)⟩) (fs_rc (⟨_, rfl, Or.inr (kC K hw q6547)⟩) (fs_rc (⟨_, rfl, Or.inr (kC K hw q6548)⟩) (fs_rc (⟨_, rfl, Or.inr (kC K hw q6550)⟩) (fs_rc (⟨_, rfl, Or.inr (kC K hw q6551)⟩) (fs_rc (⟨_, rfl, Or.inr (kC K hw q6549)⟩) (fs_one (⟨_, rfl, Or.inr (kC K hw q6552)⟩))))))))) ?_
  refine fs_c1 (fs_getf (pc := 298) (n := 104906802) (idx := 17) (ref := "BoardMachine$Controls$ControlUnit") (O := "BoardMachine$Controls$ControlUnit") (name := "table") (desc := "[LBoardMachine$Controls$Register;") C (by decide +kernel) (Or.inl (kw K hw q1851)) (fun _ h => h) (Nat.le_of_ble_eq_true rfl) (Nat.le_of_ble_eq_true rfl) (fs_one (⟨_, ff_12_25 s0 H0 oa D⟩))) ?_
  refine fs_c1 (fs_newo (pc := 304) (n := 1220) (idx := 90) (CC := "BoardMachine$Controls$Window") (T := fT_19) (N := 4) C (by decide +kernel) (kw K hw q1800) (kw K hw q1801) (kw K hw q392) (by decide) (Nat.le_of_ble_eq_true rfl) rfl rfl) ?_
  refine fs_c1 (fs_getf (pc := 309) (n := 125878322) (idx := 53) (ref := "BoardMachine$Controls$ControlUnit") (O := "BoardMachine$Controls$ControlUnit") (name := "enabled") (desc := "LBoardMachine$Controls$Masked;") C (by decide +kernel) (Or.inl (kw K hw q1862)) (fun _ h => h) (Nat.le_of_ble_eq_true rfl) (Nat.le_of_ble_eq_true rfl) (fs_one (⟨_, ff_12_30 s0 H0 oa D⟩))) ?_
  refine fs_c1 (fs_getf (pc := 313) (n := 121684018) (idx := 48) (ref := "BoardMachine$Controls$ControlUnit") (O := "BoardMachine$Controls$ControlUnit") (name := "interrupts") (desc := "LBoardMachine$Controls$Masked;") C (by decide +kernel) (Or.inl (kw K hw q1860)) (fun _ h => h) (Nat.le_of_ble_eq_true rfl) (Nat.le_of_ble_eq_true rfl) (fs_one (⟨_, ff_12_29 s0 H0 oa D⟩))) ?_
  refine fs_c1 (fs_ldcl (pc := 316) (idx := 73) (v := -1) C (by decide +kernel) (kw K hw q1798)) ?_
  refine fs_c1 (fs_inv_virtual (pc := 320) (n := 356535315) C (Nat.le_of_ble_eq_true rfl) (Nat.le_of_ble_eq_true rfl) (fs_lk_init (idx := 96) (y := ⟨"BoardMachine$Controls$Window", "<init>", "(LBoardMachine$Controls$Masked;LBoardMachine$Controls$Register;JJ)V"⟩) (bytes := prog_13_method_1_code) (maxL := 7) (d := 2) C (Nat.le_of_ble_eq_true rfl) (Nat.le_of_ble_eq_true rfl) (by decide +kernel) (kw K hw q1805) (kw K hw q392) (kw K hw q1804) (Or.inl (kw K hw q1803)) rfl ⟨by decide, by decide⟩ rfl (Nat.le_of_ble_eq_true rfl) (Nat.le_of_ble_eq_true rfl)) fs_con_mono o5) ?_
  refine fs_c1 (fs_astr (pc := 323) (n := 954217491) (EE := "BoardMachine$Controls$Register") C (by decide +kernel) (Nat.le_of_ble_eq_true rfl) rfl rfl (Nat.le_of_ble_eq_true rfl) (Nat.le_of_ble_eq_true rfl) (fs_rc (⟨_, rfl, Or.inr (kC K hw q6546)⟩) (fs_rc (⟨_, rfl, Or.inr (kC K hw q6547)⟩) (fs_rc (⟨_, rfl, Or.inr (kC K hw q6548)⟩) (fs_rc (⟨_, rfl, Or.inr (kC K hw q6550)⟩) (fs_rc (⟨_, rfl, Or.inr (kC K hw q6551)⟩) (fs_rc (⟨_, rfl, Or.inr (kC K hw q6549)⟩) (fs_one (⟨_, rfl, Or.inr (kC K hw q6552)⟩))))))))) ?_
  refine fs_c1 (fs_getf (pc := 325) (n := 104906802) (idx := 17) (ref := "BoardMachine$Controls$ControlUnit") (O := "BoardMachine$Controls$ControlUnit") (name := "table") (desc := "[LBoardMachine$Controls$Register;") C (by decide +kernel) (Or.inl (kw K hw q1851)) (fun _ h => h) (Nat.le_of_ble_eq_true rfl) (Nat.le_of_ble_eq_true rfl) (fs_one (⟨_, ff_12_25 s0 H0 oa D⟩))) ?_
  refine fs_c1 (fs_getf (pc := 332) (n := 130072626) (idx := 59) (ref := "BoardMachine$Controls$ControlUnit") (O := "BoardMachine$Controls$ControlUnit") (name := "pending") (desc := "LBoardMachine$Controls$Pending;") C (by decide +kernel) (Or.inl (kw K hw q1864)) (fun _ h => h) (Nat.le_of_ble_eq_true rfl) (Nat.le_of_ble_eq_true rfl) (fs_one (⟨_, ff_12_31 s0 H0 oa D⟩))) ?_
  refine fs_c1 (fs_astr (pc := 335) (n := 954217491) (EE := "BoardMachine$Controls$Register") C (by decide +kernel) (Nat.le_of_ble_eq_true rfl) rfl rfl (Nat.le_of_ble_eq_true rfl) (Nat.le_of_ble_eq_true rfl) (fs_rc (⟨_, rfl, Or.inr (kC K hw q6546)⟩) (fs_rc (⟨_, rfl, Or.inr (kC K hw q6547)⟩) (fs_rc (⟨_, rfl, Or.inr (kC K hw q6548)⟩) (fs_rc (⟨_, rfl, Or.inr (kC K hw q6550)⟩) (fs_rc (⟨_, rfl, Or.inr (kC K hw q6551)⟩) (fs_rc (⟨_, rfl, Or.inr (kC K hw q6549)⟩) (fs_one (⟨_, rfl, Or.inr (kC K hw q6552)⟩))))))))) ?_
  refine fs_c1 (fs_getf (pc := 337) (n := 104906802) (idx := 17) (ref := "BoardMachine$Controls$ControlUnit") (O := "BoardMachine$Controls$ControlUnit") (name := "table") (desc := "[LBoardMachine$Controls$Register;") C (by decide +kernel) (Or.inl (kw K hw q1851)) (fun _ h => h) (Nat.le_of_ble_eq_true rfl) (Nat.le_of_ble_eq_true rfl) (fs_one (⟨_, ff_12_25 s0 H0 oa D⟩))) ?_
  refine fs_c1 (fs_newo (pc := 343) (n := 1220) (idx := 90) (CC := "BoardMachine$Controls$Window") (T := fT_19) (N := 4) C (by decide +kernel) (kw K hw q1800) (kw K hw q1801) (kw K hw q392) (by decide) (Nat.le_of_ble_eq_true rfl) rfl rfl) ?_
  refine fs_c1 (fs_getf (pc := 348) (n := 130072626) (idx := 59) (ref := "BoardMachine$Controls$ControlUnit") (O := "BoardMachine$Controls$ControlUnit") (name := "pending") (desc := "LBoardMachine$Controls$Pending;") C (by decide +kernel) (Or.inl (kw K hw q1864)) (fun _ h => h) (Nat.le_of_ble_eq_true rfl) (Nat.le_of_ble_eq_true rfl) (fs_one (⟨_, ff_12_31 s0 H0 oa D⟩))) ?_
  refine fs_c1 (fs_getf (pc := 352) (n := 121684018) (idx := 48) (ref := "BoardMachine$Controls$ControlUnit") (O := "BoardMachine$Controls$ControlUnit") (name := "interrupts") (desc := "LBoardMachine$Controls$Masked;") C (by decide +kernel) (Or.inl (kw K hw q1860)) (fun _ h => h) (Nat.le_of_ble_eq_true rfl) (Nat.le_of_ble_eq_true rfl) (fs_one (⟨_, ff_12_29 s0 H0 oa D⟩))) ?_
  refine fs_c1 (fs_ldcl (pc := 355) (idx := 101) (v := 2) C (by decide +kernel) (kw K hw q1821)) ?_
  refine fs_c1 (fs_inv_virtual (pc := 359) (n := 356535315) C (Nat.le_of_ble_eq_true rfl) (Nat.le_of_ble_eq_true rfl) (fs_lk_init (idx := 96) (y := ⟨"BoardMachine$Controls$Window", "<init>", "(LBoardMachine$Controls$Masked;LBoardMachine$Controls$Register;JJ)V"⟩) (bytes := prog_13_method_1_code) (maxL := 7) (d := 2) C (Nat.le_of_ble_eq_true rfl) (Nat.le_of_ble_eq_true rfl) (by decide +kernel) (kw K hw q1805) (kw K hw q392) (kw K hw q1804) (Or.inl (kw K hw q1803)) rfl ⟨by decide, by decide⟩ rfl (Nat.le_of_ble_eq_true rfl) (Nat.le_of_ble_eq_true rfl)) fs_con_mono o5) ?_
  refine fs_c1 (fs_astr (pc := 362) (n := 954217491) (EE := "BoardMachine$Controls$Register") C (by decide +kernel) (Nat.le_of_ble_eq_true rfl) rfl rfl (Nat.le_of_ble_eq_true rfl) (Nat.le_of_ble_eq_true rfl) (fs_rc (⟨_, rfl, Or.inr (kC K hw q6546)⟩) (fs_rc (⟨_, rfl, Or.inr (kC K hw q6547)⟩) (fs_rc (⟨_, rfl, Or.inr (kC K hw q6548)⟩) (fs_rc (⟨_, rfl, Or.inr (kC K hw q6550)⟩) (fs_rc (⟨_, rfl, Or.inr (kC K hw q6551)⟩) (fs_rc (⟨_, rfl, Or.inr (kC K hw q6549)⟩) (fs_one (⟨_, rfl, Or.inr (kC K hw q6552)⟩))))))))) ?_
  refine fs_c1 (fs_getf (pc := 364) (n := 104906802) (idx := 17) (ref := "BoardMachine$Controls$ControlUnit") (O := "BoardMachine$Controls$ControlUnit") (name := "table") (desc := "[LBoardMachine$Controls$Register;") C (by decide +kernel) (Or.inl (kw K hw q1851)) (fun _ h => h) (Nat.le_of_ble_eq_true rfl) (Nat.le_of_ble_eq_true rfl) (fs_one (⟨_, ff_12_25 s0 H0 oa D⟩))) ?_
  refine fs_c1 (fs_newo (pc := 370) (n := 1090) (idx := 103) (CC := "BoardMachine$Controls$TableRegister") (T := fT_17) (N := 2) C (by decide +kernel) (kw K hw q1822) (kw K hw q1823) (kw K hw q393) (by decide) (Nat.le_of_ble_eq_true rfl) rfl rfl) ?_
  refine fs_c1 (fs_inv_virtual (pc := 374) (n := 406864913) C (Nat.le_of_ble_eq_true rfl) (Nat.le_of_ble_eq_true rfl) (fs_lk_init (idx := 105) (y := ⟨"BoardMachine$Controls$TableRegister", "<init>", "()V"⟩) (bytes := prog_11_method_1_code) (maxL := 1) (d := 3) C (Nat.le_of_ble_eq_true rfl) (Nat.le_of_ble_eq_true rfl) (by decide +kernel) (kw K hw q1826) (kw K hw q393) (kw K hw q1825) (Or.inl (kw K hw q1824)) rfl ⟨by decide, by decide⟩ rfl (Nat.le_of_ble_eq_true rfl) (Nat.le_of_ble_eq_true rfl)) fs_con_mono o6) ?_
  refine fs_c1 (fs_astr (pc := 377) (n := 954217491) (EE := "BoardMachine$Controls$Register") C (by decide +kernel) (Nat.le_of_ble_eq_true rfl) rfl rfl (Nat.le_of_ble_eq_true rfl) (Nat.le_of_ble_eq_true rfl) (fs_rc (⟨_, rfl, Or.inr (kC K hw q6546)⟩) (fs_rc (⟨_, rfl, Or.inr (kC K hw q6547)⟩) (fs_rc (⟨_, rfl, Or.inr (kC K hw q6548)⟩) (fs_rc (⟨_, rfl, Or.inr (kC K hw q6550)⟩) (fs_rc (⟨_, rfl, Or.inr (kC K hw q6551)⟩) (fs_rc (⟨_, rfl, Or.inr (kC K hw q6549)⟩) (fs_one (⟨_, rfl, Or.inr (kC K hw q6552)⟩))))))))) ?_
  refine fs_c1 (fs_getf (pc := 380) (n := 134266930) (idx := 66) (ref := "BoardMachine$Controls$ControlUnit") (O := "BoardMachine$Controls$ControlUnit") (name := "machine") (desc := "LBoardMachine$Controls$TrapBank;") C (by decide +kernel) (Or.inl (kw K hw q1866)) (fun _ h => h) (Nat.le_of_ble_eq_true rfl) (Nat.le_of_ble_eq_true rfl) (fs_one (⟨_, ff_12_32 s0 H0 oa D⟩))) ?_
  refine fs_c1 (fs_inv_virtual (pc := 386) (n := 482357260) C (Nat.le_of_ble_eq_true rfl) (Nat.le_of_ble_eq_true rfl) (fs_lk_virtual (idx := 106) (y := ⟨"BoardMachine$Controls$ControlUnit", "lay", "(LBoardMachine$Controls$TrapBank;I)V"⟩) (bytes := prog_5_method_3_code) (maxL := 3) (rt := (Option.none : Option Jvm.ClassFile.FieldType)) (d := 1) C (Nat.le_of_ble_eq_true rfl) (Nat.le_of_ble_eq_true rfl) (by decide +kernel) (kw K hw q1835) (kw K hw q385) (kw K hw q1834) (Or.inl (kw K hw q1832)) ⟨by decide, by decide⟩ rfl (Nat.le_of_ble_eq_true rfl) (Nat.le_of_ble_eq_true rfl) (fs_one (⟨_, rfl, kw K hw qs2⟩))) fs_con_mono o7) ?_
  refine fs_c1 (fs_getf (pc := 391) (n := 138461234) (idx := 70) (ref := "BoardMachine$Controls$ControlUnit") (O := "BoardMachine$Controls$ControlUnit") (name := "supervisor") (desc := "LBoardMachine$Controls$TrapBank;") C (by decide +kernel) (Or.inl (kw K hw q1868)) (fun _ h => h) (Nat.le_of_ble_eq_true rfl) (Nat.le_of_ble_eq_true rfl) (fs_one (⟨_, ff_12_33 s0 H0 oa D⟩))) ?_
  refine fs_c1 (fs_inv_virtual (pc := 397) (n := 482357260) C (Nat.le_of_ble_eq_true rfl) (Nat.le_of_ble_eq_true rfl) (fs_lk_virtual (idx := 106) (y := ⟨"BoardMachine$Controls$ControlUnit", "lay", "(LBoardMachine$Controls$TrapBank;I)V"⟩) (bytes := prog_5_method_3_code) (maxL := 3) (rt := (Option.none : Option Jvm.ClassFile.FieldType)) (d := 1) C (Nat.le_of_ble_eq_true rfl) (Nat.le_of_ble_eq_true rfl) (by decide +kernel) (kw K hw q1835) (kw K hw q385) (kw K hw q1834) (Or.inl (kw K hw q1832)) ⟨by decide, by decide⟩ rfl (Nat.le_of_ble_eq_true rfl) (Nat.le_of_ble_eq_true rfl) (fs_one (⟨_, rfl, kw K hw qs2⟩))) fs_con_mono o7) ?_
  refine fs_c1 (fs_getf (pc := 401) (n := 104906802) (idx := 17) (ref := "BoardMachine$Controls$ControlUnit") (O := "BoardMachine$Controls$ControlUnit") (name := "table") (desc := "[LBoardMachine$Controls$Register;") C (by decide +kernel) (Or.inl (kw K hw q1851)) (fun _ h => h) (Nat.le_of_ble_eq_true rfl) (Nat.le_of_ble_eq_true rfl) (fs_one (⟨_, ff_12_25 s0 H0 oa D⟩))) ?_
  refine fs_c1 (fs_getf (pc := 408) (n := 142655538) (idx := 75) (ref := "BoardMachine$Controls$ControlUnit") (O := "BoardMachine$Controls$ControlUnit") (name := "cycles") (desc := "LBoardMachine$Controls$Masked;") C (by decide +kernel) (Or.inl (kw K hw q1870)) (fun _ h => h) (Nat.le_of_ble_eq_true rfl) (Nat.le_of_ble_eq_true rfl) (fs_one (⟨_, ff_12_34 s0 H0 oa D⟩))) ?_
  refine fs_c1 (fs_astr (pc := 411) (n := 954217491) (EE := "BoardMachine$Controls$Register") C (by decide +kernel) (Nat.le_of_ble_eq_true rfl) rfl rfl (Nat.le_of_ble_eq_true rfl) (Nat.le_of_ble_eq_true rfl) (fs_rc (⟨_, rfl, Or.inr (kC K hw q6546)⟩) (fs_rc (⟨_, rfl, Or.inr (kC K hw q6547)⟩) (fs_rc (⟨_, rfl, Or.inr (kC K hw q6548)⟩) (fs_rc (⟨_, rfl, Or.inr (kC K hw q6550)⟩) (fs_rc (⟨_, rfl, Or.inr (kC K hw q6551)⟩) (fs_rc (⟨_, rfl, Or.inr (kC K hw q6549)⟩) (fs_one (⟨_, rfl, Or.inr (kC K hw q6552)⟩))))))))) ?_
  refine fs_c1 (fs_getf (pc := 413) (n := 104906802) (idx := 17) (ref := "BoardMachine$Controls$ControlUnit") (O := "BoardMachine$Controls$ControlUnit") (name := "table") (desc := "[LBoardMachine$Controls$Register;") C (by decide +kernel) (Or.inl (kw K hw q1851)) (fun _ h => h) (Nat.le_of_ble_eq_true rfl) (Nat.le_of_ble_eq_true rfl) (fs_one (⟨_, ff_12_25 s0 H0 oa D⟩))) ?_
  refine fs_c1 (fs_getf (pc := 420) (n := 146849842) (idx := 78) (ref := "BoardMachine$Controls$ControlUnit") (O := "BoardMachine$Controls$ControlUnit") (name := "instructions") (desc := "LBoardMachine$Controls$Masked;") C (by decide +kernel) (Or.inl (kw K hw q1873)) (fun _ h => h) (Nat.le_of_ble_eq_true rfl) (Nat.le_of_ble_eq_true rfl) (fs_one (⟨_, ff_12_35 s0 H0 oa D⟩))) ?_
  refine fs_c1 (fs_astr (pc := 423) (n := 954217491) (EE := "BoardMachine$Controls$Register") C (by decide +kernel) (Nat.le_of_ble_eq_true rfl) rfl rfl (Nat.le_of_ble_eq_true rfl) (Nat.le_of_ble_eq_true rfl) (fs_rc (⟨_, rfl, Or.inr (kC K hw q6546)⟩) (fs_rc (⟨_, rfl, Or.inr (kC K hw q6547)⟩) (fs_rc (⟨_, rfl, Or.inr (kC K hw q6548)⟩) (fs_rc (⟨_, rfl, Or.inr (kC K hw q6550)⟩) (fs_rc (⟨_, rfl, Or.inr (kC K hw q6551)⟩) (fs_rc (⟨_, rfl, Or.inr (kC K hw q6549)⟩) (fs_one (⟨_, rfl, Or.inr (kC K hw q6552)⟩))))))))) ?_
  refine fs_c1 (fs_getf (pc := 425) (n := 104906802) (idx := 17) (ref := "BoardMachine$Controls$ControlUnit") (O := "BoardMachine$Controls$ControlUnit") (name := "table") (desc := "[LBoardMachine$Controls$Register;") C (by decide +kernel) (Or.inl (kw K hw q1851)) (fun _ h => h) (Nat.le_of_ble_eq_true rfl) (Nat.le_of_ble_eq_true rfl) (fs_one (⟨_, ff_12_25 s0 H0 oa D⟩))) ?_
  refine fs_c1 (fs_newo (pc := 431) (n := 1153) (idx := 110) (CC := "BoardMachine$Controls$Shadow") (T := fT_18) (N := 1) C (by decide +kernel) (kw K hw q1836) (kw K hw q1837) (kw K hw q394) (by decide) (Nat.le_of_ble_eq_true rfl) rfl rfl) ?_
  refine fs_c1 (fs_getf (pc := 436) (n := 142655538) (idx := 75) (ref := "BoardMachine$Controls$ControlUnit") (O := "BoardMachine$Controls$ControlUnit") (name := "cycles") (desc := "LBoardMachine$Controls$Masked;") C (by decide +kernel) (Or.inl (kw K hw q1870)) (fun _ h => h) (Nat.le_of_ble_eq_true rfl) (Nat.le_of_ble_eq_true rfl) (fs_one (⟨_, ff_12_34 s0 H0 oa D⟩))) ?_
  refine fs_c1 (fs_inv_virtual (pc := 439) (n := 545277970) C (Nat.le_of_ble_eq_true rfl) (Nat.le_of_ble_eq_true rfl) (fs_lk_init (idx := 112) (y := ⟨"BoardMachine$Controls$Shadow", "<init>", "(LBoardMachine$Controls$Register;)V"⟩) (bytes := prog_9_method_1_code) (maxL := 2) (d := 2) C (Nat.le_of_ble_eq_true rfl) (Nat.le_of_ble_eq_true rfl) (by decide +kernel) (kw K hw q1840) (kw K hw q394) (kw K hw q1839) (Or.inl (kw K hw q1838)) rfl ⟨by decide, by decide⟩ rfl (Nat.le_of_ble_eq_true rfl) (Nat.le_of_ble_eq_true rfl)) fs_con_mono o8) ?_
  refine fs_c1 (fs_astr (pc := 442) (n := 954217491) (EE := "BoardMachine$Controls$Register") C (by decide +kernel) (Nat.le_of_ble_eq_true rfl) rfl rfl (Nat.le_of_ble_eq_true rfl) (Nat.le_of_ble_eq_true rfl) (fs_rc (⟨_, rfl, Or.inr (kC K hw q6546)⟩) (fs_rc (⟨_, rfl, Or.inr (kC K hw q6547)⟩) (fs_rc (⟨_, rfl, Or.inr (kC K hw q6548)⟩) (fs_rc (⟨_, rfl, Or.inr (kC K hw q6550)⟩) (fs_rc (⟨_, rfl, Or.inr (kC K hw q6551)⟩) (fs_rc (⟨_, rfl, Or.inr (kC K hw q6549)⟩) (fs_one (⟨_, rfl, Or.inr (kC K hw q6552)⟩))))))))) ?_
  refine fs_c1 (fs_getf (pc := 444) (n := 104906802) (idx := 17) (ref := "BoardMachine$Controls$ControlUnit") (O := "BoardMachine$Controls$ControlUnit") (name := "table") (desc := "[LBoardMachine$Controls$Register;") C (by decide +kernel) (Or.inl (kw K hw q1851)) (fun _ h => h) (Nat.le_of_ble_eq_true rfl) (Nat.le_of_ble_eq_true rfl) (fs_one (⟨_, ff_12_25 s0 H0 oa D⟩))) ?_
  refine fs_c1 (fs_newo (pc := 450) (n := 1153) (idx := 110) (CC := "BoardMachine$Controls$Shadow") (T := fT_18) (N := 1) C (by decide +kernel) (kw K hw q1836) (kw K hw q1837) (kw K hw q394) (by decide) (Nat.le_of_ble_eq_true rfl) rfl rfl) ?_
  refine fs_c1 (fs_getf (pc := 455) (n := 151044146) (idx := 81) (ref := "BoardMachine$Controls$ControlUnit") (O := "BoardMachine$Controls$ControlUnit") (name := "clock") (desc := "LBoardMachine$Controls$Masked;") C (by decide +kernel) (Or.inl (kw K hw q1875)) (fun _ h => h) (Nat.le_of_ble_eq_true rfl) (Nat.le_of_ble_eq_true rfl) (fs_one (⟨_, ff_12_36 s0 H0 oa D⟩))) ?_
  refine fs_c1 (fs_inv_virtual (pc := 458) (n := 545277970) C (Nat.le_of_ble_eq_true rfl) (Nat.le_of_ble_eq_true rfl) (fs_lk_init (idx := 112) (y := ⟨"BoardMachine$Controls$Shadow", "<init>", "(LBoardMachine$Controls$Register;)V"⟩) (bytes := prog_9_method_1_code) (maxL := 2) (d := 2) C (Nat.le_of_ble_eq_true rfl) (Nat.le_of_ble_eq_true rfl) (by decide +kernel) (kw K hw q1840) (kw K hw q394) (kw K hw q1839) (Or.inl (kw K hw q1838)) rfl ⟨by decide, by decide⟩ rfl (Nat.le_of_ble_eq_true rfl) (Nat.le_of_ble_eq_true rfl)) fs_con_mono o8) ?_
  refine fs_c1 (fs_astr (pc := 461) (n := 954217491) (EE := "BoardMachine$Controls$Register") C (by decide +kernel) (Nat.le_of_ble_eq_true rfl) rfl rfl (Nat.le_of_ble_eq_true rfl) (Nat.le_of_ble_eq_true rfl) (fs_rc (⟨_, rfl, Or.inr (kC K hw q6546)⟩) (fs_rc (⟨_, rfl, Or.inr (kC K hw q6547)⟩) (fs_rc (⟨_, rfl, Or.inr (kC K hw q6548)⟩) (fs_rc (⟨_, rfl, Or.inr (kC K hw q6550)⟩) (fs_rc (⟨_, rfl, Or.inr (kC K hw q6551)⟩) (fs_rc (⟨_, rfl, Or.inr (kC K hw q6549)⟩) (fs_one (⟨_, rfl, Or.inr (kC K hw q6552)⟩))))))))) ?_
  refine fs_c1 (fs_getf (pc := 463) (n := 104906802) (idx := 17) (ref := "BoardMachine$Controls$ControlUnit") (O := "BoardMachine$Controls$ControlUnit") (name := "table") (desc := "[LBoardMachine$Controls$Register;") C (by decide +kernel) (Or.inl (kw K hw q1851)) (fun _ h => h) (Nat.le_of_ble_eq_true rfl) (Nat.le_of_ble_eq_true rfl) (fs_one (⟨_, ff_12_25 s0 H0 oa D⟩))) ?_
  refine fs_c1 (fs_newo (pc := 469) (n := 1153) (idx := 110) (CC := "BoardMachine$Controls$Shadow") (T := fT_18) (N := 1) C (by decide +kernel) (kw K hw q1836) (kw K hw q1837) (kw K hw q394) (by decide) (Nat.le_of_ble_eq_true rfl) rfl rfl) ?_
  refine fs_c1 (fs_getf (pc := 474) (n := 146849842) (idx := 78) (ref := "BoardMachine$Controls$ControlUnit") (O := "BoardMachine$Controls$ControlUnit") (name := "instructions") (desc := "LBoardMachine$Controls$Masked;") C (by decide +kernel) (Or.inl (kw K hw q1873)) (fun _ h => h) (Nat.le_of_ble_eq_true rfl) (Nat.le_of_ble_eq_true rfl) (fs_one (⟨_, ff_12_35 s0 H0 oa D⟩))) ?_
  refine fs_c1 (fs_inv_virtual (pc := 477) (n := 545277970) C (Nat.le_of_ble_eq_true rfl) (Nat.le_of_ble_eq_true rfl) (fs_lk_init (idx := 112) (y := ⟨"BoardMachine$Controls$Shadow", "<init>", "(LBoardMachine$Controls$Register;)V"⟩) (bytes := prog_9_method_1_code) (maxL := 2) (d := 2) C (Nat.le_of_ble_eq_true rfl) (Nat.le_of_ble_eq_true rfl) (by decide +kernel) (kw K hw q1840) (kw K hw q394) (kw K hw q1839) (Or.inl (kw K hw q1838)) rfl ⟨by decide, by decide⟩ rfl (Nat.le_of_ble_eq_true rfl) (Nat.le_of_ble_eq_true rfl)) fs_con_mono o8) ?_
  refine fs_c1 (fs_astr (pc := 480) (n := 954217491) (EE := "BoardMachine$Controls$Register") C (by decide +kernel) (Nat.le_of_ble_eq_true rfl) rfl rfl (Nat.le_of_ble_eq_true rfl) (Nat.le_of_ble_eq_true rfl) (fs_rc (⟨_, rfl, Or.inr (kC K hw q6546)⟩) (fs_rc (⟨_, rfl, Or.inr (kC K hw q6547)⟩) (fs_rc (⟨_, rfl, Or.inr (kC K hw q6548)⟩) (fs_rc (⟨_, rfl, Or.inr (kC K hw q6550)⟩) (fs_rc (⟨_, rfl, Or.inr (kC K hw q6551)⟩) (fs_rc (⟨_, rfl, Or.inr (kC K hw q6549)⟩) (fs_one (⟨_, rfl, Or.inr (kC K hw q6552)⟩))))))))) ?_
  refine fs_c1 (fs_newo (pc := 488) (n := 833) (idx := 21) (CC := "BoardMachine$Controls$Constant") (T := fT_13) (N := 1) C (by decide +kernel) (kw K hw q1693) (kw K hw q1694) (kw K hw q387) (by decide) (Nat.le_of_ble_eq_true rfl) rfl rfl) ?_
  refine fs_c1 (fs_inv_virtual (pc := 493) (n := 8401933) C (Nat.le_of_ble_eq_true rfl) (Nat.le_of_ble_eq_true rfl) (fs_lk_init (idx := 23) (y := ⟨"BoardMachine$Controls$Constant", "<init>", "(J)V"⟩) (bytes := prog_4_method_1_code) (maxL := 3) (d := 2) C (Nat.le_of_ble_eq_true rfl) (Nat.le_of_ble_eq_true rfl) (by decide +kernel) (kw K hw q1697) (kw K hw q387) (kw K hw q1696) (Or.inl (kw K hw q1695)) rfl ⟨by decide, by decide⟩ rfl (Nat.le_of_ble_eq_true rfl) (Nat.le_of_ble_eq_true rfl)) fs_con_mono o0) ?_
  refine fs_c1 (fs_inv_virtual (pc := 496) (n := 620769292) C (Nat.le_of_ble_eq_true rfl) (Nat.le_of_ble_eq_true rfl) (fs_lk_virtual (idx := 115) (y := ⟨"BoardMachine$Controls$ControlUnit", "fill", "(IILBoardMachine$Controls$Register;)V"⟩) (bytes := prog_5_method_2_code) (maxL := 5) (rt := (Option.none : Option Jvm.ClassFile.FieldType)) (d := 1) C (Nat.le_of_ble_eq_true rfl) (Nat.le_of_ble_eq_true rfl) (by decide +kernel) (kw K hw q1849) (kw K hw q385) (kw K hw q1848) (Or.inl (kw K hw q1846)) ⟨by decide, by decide⟩ rfl (Nat.le_of_ble_eq_true rfl) (Nat.le_of_ble_eq_true rfl) (fs_one (⟨_, rfl, kw K hw qs3⟩))) fs_con_mono o9) ?_
  refine fs_c1 (fs_getf (pc := 500) (n := 104906802) (idx := 17) (ref := "BoardMachine$Controls$ControlUnit") (O := "BoardMachine$Controls$ControlUnit") (name := "table") (desc := "[LBoardMachine$Controls$Register;") C (by decide +kernel) (Or.inl (kw K hw q1851)) (fun _ h => h) (Nat.le_of_ble_eq_true rfl) (Nat.le_of_ble_eq_true rfl) (fs_one (⟨_, ff_12_25 s0 H0 oa D⟩))) ?_
  refine fs_c1 (fs_newo (pc := 506) (n := 833) (idx := 21) (CC := "BoardMachine$Controls$Constant") (T := fT_13) (N := 1) C (by decide +kernel) (kw K hw q1693) (kw K hw q1694) (kw K hw q387) (by decide) (Nat.le_of_ble_eq_true rfl) rfl rfl) ?_
  refine fs_c1 (fs_inv_virtual (pc := 512) (n := 8401933) C (Nat.le_of_ble_eq_true rfl) (Nat.le_of_ble_eq_true rfl) (fs_lk_init (idx := 23) (y := ⟨"BoardMachine$Controls$Constant", "<init>", "(J)V"⟩) (bytes := prog_4_method_1_code) (maxL := 3) (d := 2) C (Nat.le_of_ble_eq_true rfl) (Nat.le_of_ble_eq_true rfl) (by decide +kernel) (kw K hw q1697) (kw K hw q387) (kw K hw q1696) (Or.inl (kw K hw q1695)) rfl ⟨by decide, by decide⟩ rfl (Nat.le_of_ble_eq_true rfl) (Nat.le_of_ble_eq_true rfl)) fs_con_mono o0) ?_
  refine fs_c1 (fs_astr (pc := 515) (n := 954217491) (EE := "BoardMachine$Controls$Register") C (by decide +kernel) (Nat.le_of_ble_eq_true rfl) rfl rfl (Nat.le_of_ble_eq_true rfl) (Nat.le_of_ble_eq_true rfl) (fs_rc (⟨_, rfl, Or.inr (kC K hw q6546)⟩) (fs_rc (⟨_, rfl, Or.inr (kC K hw q6547)⟩) (fs_rc (⟨_, rfl, Or.inr (kC K hw q6548)⟩) (fs_rc (⟨_, rfl, Or.inr (kC K hw q6550)⟩) (fs_rc (⟨_, rfl, Or.inr (kC K hw q6551)⟩) (fs_rc (⟨_, rfl, Or.inr (kC K hw q6549)⟩) (fs_one (⟨_, rfl, Or.inr (kC K hw q6552)⟩))))))))) ?_
  refine fs_c1 (fs_getf (pc := 520) (n := 109101106) (idx := 26) (ref := "BoardMachine$Controls$ControlUnit") (O := "BoardMachine$Controls$ControlUnit") (name := "elsewhere") (desc := "LBoardMachine$Controls$Register;") C (by decide +kernel) (Or.inl (kw K hw q1854)) (fun _ h => h) (Nat.le_of_ble_eq_true rfl) (Nat.le_of_ble_eq_true rfl) (fs_one (⟨_, ff_12_26 s0 H0 oa D⟩))) ?_
  refine fs_c1 (fs_inv_virtual (pc := 523) (n := 620769292) C (Nat.le_of_ble_eq_true rfl) (Nat.le_of_ble_eq_true rfl) (fs_lk_virtual (idx := 115) (y := ⟨"BoardMachine$Controls$ControlUnit", "fill", "(IILBoardMachine$Controls$Register;)V"⟩) (bytes := prog_5_method_2_code) (maxL := 5) (rt := (Option.none : Option Jvm.ClassFile.FieldType)) (d := 1) C (Nat.le_of_ble_eq_true rfl) (Nat.le_of_ble_eq_true rfl) (by decide +kernel) (kw K hw q1849) (kw K hw q385) (kw K hw q1848) (Or.inl (kw K hw q1846)) ⟨by decide, by decide⟩ rfl (Nat.le_of_ble_eq_true rfl) (Nat.le_of_ble_eq_true rfl) (fs_one (⟨_, rfl, kw K hw qs3⟩))) fs_con_mono o9) ?_
  refine fs_c1 (fs_getf (pc := 534) (n := 109101106) (idx := 26) (ref := "BoardMachine$Controls$ControlUnit") (O := "BoardMachine$Controls$ControlUnit") (name := "elsewhere") (desc := "LBoardMachine$Controls$Register;") C (by decide +kernel) (Or.inl (kw K hw q1854)) (fun _ h => h) (Nat.le_of_ble_eq_true rfl) (Nat.le_of_ble_eq_true rfl) (fs_one (⟨_, ff_12_26 s0 H0 oa D⟩))) ?_
  refine fs_c1 (fs_inv_virtual (pc := 537) (n := 620769292) C (Nat.le_of_ble_eq_true rfl) (Nat.le_of_ble_eq_true rfl) (fs_lk_virtual (idx := 115) (y := ⟨"BoardMachine$Controls$ControlUnit", "fill", "(IILBoardMachine$Controls$Register;)V"⟩) (bytes := prog_5_method_2_code) (maxL := 5) (rt := (Option.none : Option Jvm.ClassFile.FieldType)) (d := 1) C (Nat.le_of_ble_eq_true rfl) (Nat.le_of_ble_eq_true rfl) (by decide +kernel) (kw K hw q1849) (kw K hw q385) (kw K hw q1848) (Or.inl (kw K hw q1846)) ⟨by decide, by decide⟩ rfl (Nat.le_of_ble_eq_true rfl) (Nat.le_of_ble_eq_true rfl) (fs_one (⟨_, rfl, kw K hw qs3⟩))) fs_con_mono o9) ?_
  refine fs_c1 (fs_getf (pc := 541) (n := 104906802) (idx := 17) (ref := "BoardMachine$Controls$ControlUnit") (O := "BoardMachine$Controls$ControlUnit") (name := "table") (desc := "[LBoardMachine$Controls$Register;") C (by decide +kernel) (Or.inl (kw K hw q1851)) (fun _ h => h) (Nat.le_of_ble_eq_true rfl) (Nat.le_of_ble_eq_true rfl) (fs_one (⟨_, ff_12_25 s0 H0 oa D⟩))) ?_
  refine fs_c1 (fs_getf (pc := 548) (n := 109101106) (idx := 26) (ref := "BoardMachine$Controls$ControlUnit") (O := "BoardMachine$Controls$ControlUnit") (name := "elsewhere") (desc := "LBoardMachine$Controls$Register;") C (by decide +kernel) (Or.inl (kw K hw q1854)) (fun _ h => h) (Nat.le_of_ble_eq_true rfl) (Nat.le_of_ble_eq_true rfl) (fs_one (⟨_, ff_12_26 s0 H0 oa D⟩))) ?_
  refine fs_c1 (fs_astr (pc := 551) (n := 954217491) (EE := "BoardMachine$Controls$Register") C (by decide +kernel) (Nat.le_of_ble_eq_true rfl) rfl rfl (Nat.le_of_ble_eq_true rfl) (Nat.le_of_ble_eq_true rfl) (fs_rc (⟨_, rfl, Or.inr (kC K hw q6546)⟩) (fs_rc (⟨_, rfl, Or.inr (kC K hw q6547)⟩) (fs_rc (⟨_, rfl, Or.inr (kC K hw q6548)⟩) (fs_rc (⟨_, rfl, Or.inr (kC K hw q6550)⟩) (fs_rc (⟨_, rfl, Or.inr (kC K hw q6551)⟩) (fs_rc (⟨_, rfl, Or.inr (kC K hw q6549)⟩) (fs_one (⟨_, rfl, Or.inr (kC K hw q6552)⟩))))))))) ?_
  refine fs_c1 (fs_getf (pc := 553) (n := 104906802) (idx := 17) (ref := "BoardMachine$Controls$ControlUnit") (O := "BoardMachine$Controls$ControlUnit") (name := "table") (desc := "[LBoardMachine$Controls$Register;") C (by decide +kernel) (Or.inl (kw K hw q1851)) (fun _ h => h) (Nat.le_of_ble_eq_true rfl) (Nat.le_of_ble_eq_true rfl) (fs_one (⟨_, ff_12_25 s0 H0 oa D⟩))) ?_
  refine fs_c1 (fs_getf (pc := 560) (n := 109101106) (idx := 26) (ref := "BoardMachine$Controls$ControlUnit") (O := "BoardMachine$Controls$ControlUnit") (name := "elsewhere") (desc := "LBoardMachine$Controls$Register;") C (by decide +kernel) (Or.inl (kw K hw q1854)) (fun _ h => h) (Nat.le_of_ble_eq_true rfl) (Nat.le_of_ble_eq_true rfl) (fs_one (⟨_, ff_12_26 s0 H0 oa D⟩))) ?_
  refine fs_c1 (fs_astr (pc := 563) (n := 954217491) (EE := "BoardMachine$Controls$Register") C (by decide +kernel) (Nat.le_of_ble_eq_true rfl) rfl rfl (Nat.le_of_ble_eq_true rfl) (Nat.le_of_ble_eq_true rfl) (fs_rc (⟨_, rfl, Or.inr (kC K hw q6546)⟩) (fs_rc (⟨_, rfl, Or.inr (kC K hw q6547)⟩) (fs_rc (⟨_, rfl, Or.inr (kC K hw q6548)⟩) (fs_rc (⟨_, rfl, Or.inr (kC K hw q6550)⟩) (fs_rc (⟨_, rfl, Or.inr (kC K hw q6551)⟩) (fs_rc (⟨_, rfl, Or.inr (kC K hw q6549)⟩) (fs_one (⟨_, rfl, Or.inr (kC K hw q6552)⟩))))))))) ?_
  exact fs_c0
theorem hX85_init : fe_H (sX85_init) cX85_init [0] fe_kv [] 20 (fun _ => dX85_init FX85_init_0) := by
  intro j pc L st M r hc h
  rcases fe_mem_c hc with rfl | hc
  · obtain ⟨w0, m0, h⟩ := fe_lR_d h
    obtain ⟨w1, m1, h⟩ := fe_lR_d h
    obtain ⟨rfl, hz⟩ := fe_t0_d h
    exact ⟨[(0, .ref w0), (1, .ref w1)], (fe_cs m0 (fe_cs m1 fe_nl)), Or.inr ((bX85_init_0 FX85_init_0 w0 w1 M).symm.trans hz)⟩
  exact fe_mem_0 hc
theorem vX85_init : fe_SB (sX85_init) := by
  refine ⟨?_, ?_, ?_, ?_⟩
  · intro i As M r h
    exact fe_no h
  · intro i As M r h
    exact fe_no h
  · intro i As M r h
    exact fe_no h
  · intro i As M r h
    exact fe_no h
theorem eX85_init (g0 : Nat → Nat → FM → Option (FM)) (a0 : Nat) (a1 : Nat) (M : FM) : dX85_init g0 0 [(0, .ref a0), (1, .ref a1)] [] M = g0 a0 a1 M := by rfl
theorem mX85_init (a0 : Nat) (a1 : Nat) (M : FM) (r : FM) (h : FX85_init a0 a1 M = some r) : fm_nx M ≤ fm_nx r ∧ fm_ns M ≤ fm_ns r :=
  fe_mono (L0 := [(0, .ref a0), (1, .ref a1)]) (vX85_init) (by decide +kernel) (hX85_init) (fe_kv_k r) 0 rfl ((eX85_init FX85_init_0 a0 a1 M).trans h)
theorem zX85_init {s0 : State} {H0 : Heap} {oa : Nat → Nat} {D : va_G} (K : fk s0 H0 oa D) (l : Launch) (a0 : Nat) (a1 : Nat) (M : FM) (r : FM) (h : FX85_init a0 a1 M = some r) : fs_Con (fk_E s0 H0 oa D) l 1 ⟨"BoardMachine$TableWords", "<init>", "(LBoardMachine$Memories$Ram;)V"⟩ prog_94_method_1_code 2 (Option.none : Option Jvm.ClassFile.FieldType) [.ref a0, .ref a1] M none r := by
  refine fs_method (own := "BoardMachine$TableWords") rfl (by decide) K.2.1 (by rw [fe_slen]; exact (Nat.le_of_ble_eq_true rfl)) (mX85_init a0 a1 M r h) (hX85_init) 0 rfl (L0 := [(0, .ref a0), (1, .ref a1)]) (fun E => fe_args_e E [.ref a0, .ref a1] 0) ((eX85_init FX85_init_0 a0 a1 M).trans h) (fe_kv_k r) (fun H hR => fs_nr_o (by decide) (by decide)) ?_
  intro p e s m args below meth c Q C hnm
  have hw : s0.WarmedH s.vm := C.2.2.2.2.1
  refine fe_all C fk_hwr cX85_init [1, 6] (by decide +kernel) (fe_fil (cps := [(1, 4, .monitorenter), (6, 9, .putfield 1036325190)]) (by decide +kernel) ?_)
  refine fs_c1 (fs_init (pc := 1) (idx := 1) C (by decide +kernel) (kw K hw q1924) (kw K hw q441) (kw K hw q442) ⟨(Nat.le_of_ble_eq_true rfl), (Nat.le_of_ble_eq_true rfl)⟩) ?_
  refine fs_c1 (fs_putf (pc := 6) (n := 1036325190) (idx := 7) (ref := "BoardMachine$TableWords") (O := "BoardMachine$TableWords") (name := "ram") (desc := "LBoardMachine$Memories$Ram;") (fin := true) (ty := (.object "BoardMachine$Memories$Ram")) C (by decide +kernel) (Or.inr ⟨rfl, kw K hw q1925, hnm, rfl⟩) (fun _ h => h) (Nat.le_of_ble_eq_true rfl) (Nat.le_of_ble_eq_true rfl) (Nat.le_of_ble_eq_true rfl) rfl rfl (by decide) (fs_one (⟨rfl, ff_81_247 s0 H0 oa D⟩))) ?_
  exact fs_c0
theorem hX87_init : fe_H (sX87_init) cX87_init [0] fe_kv [] 20 (fun _ => dX87_init FX87_init_0) := by
  intro j pc L st M r hc h
  rcases fe_mem_c hc with rfl | hc
  · obtain ⟨w0, m0, h⟩ := fe_lR_d h
    obtain ⟨rfl, hz⟩ := fe_t0_d h
    exact ⟨[(0, .ref w0)], (fe_cs m0 fe_nl), Or.inr ((bX87_init_0 FX87_init_0 w0 M).symm.trans hz)⟩
  exact fe_mem_0 hc
theorem vX87_init : fe_SB (sX87_init) := by
  refine ⟨?_, ?_, ?_, ?_⟩
  · intro i As M r h
    exact fe_no h
  · intro i As M r h
    exact fe_no h
  · intro i As M r h
    exact fe_no h
  · intro i As M r h
    exact fe_no h
theorem eX87_init (g0 : Nat → FM → Option (FM)) (a0 : Nat) (M : FM) : dX87_init g0 0 [(0, .ref a0)] [] M = g0 a0 M := by rfl
theorem mX87_init (a0 : Nat) (M : FM) (r : FM) (h : FX87_init a0 M = some r) : fm_nx M ≤ fm_nx r ∧ fm_ns M ≤ fm_ns r :=
  fe_mono (L0 := [(0, .ref a0)]) (vX87_init) (by decide +kernel) (hX87_init) (fe_kv_k r) 0 rfl ((eX87_init FX87_init_0 a0 M).trans h)
theorem zX87_init {s0 : State} {H0 : Heap} {oa : Nat → Nat} {D : va_G} (K : fk s0 H0 oa D) (l : Launch) (a0 : Nat) (M : FM) (r : FM) (h : FX87_init a0 M = some r) : fs_Con (fk_E s0 H0 oa D) l 1 ⟨"BoardMachine$Walks$Region", "<init>", "()V"⟩ prog_104_method_1_code 1 (Option.none : Option Jvm.ClassFile.FieldType) [.ref a0] M none r := by
  refine fs_method (own := "BoardMachine$Walks$Region") rfl (by decide) K.2.1 (by rw [fe_slen]; exact (Nat.le_of_ble_eq_true rfl)) (mX87_init a0 M r h) (hX87_init) 0 rfl (L0 := [(0, .ref a0)]) (fun E => fe_args_e E [.ref a0] 0) ((eX87_init FX87_init_0 a0 M).trans h) (fe_kv_k r) (fun H hR => fs_nr_o (by decide) (by decide)) ?_
  intro p e s m args below meth c Q C hnm
  have hw : s0.WarmedH s.vm := C.2.2.2.2.1
  refine fe_all C fk_hwr cX87_init [1] (by decide +kernel) (fe_fil (cps := [(1, 4, .monitorenter)]) (by decide +kernel) ?_)
  refine fs_c1 (fs_init (pc := 1) (idx := 3) C (by decide +kernel) (kw K hw q1947) (kw K hw q441) (kw K hw q442) ⟨(Nat.le_of_ble_eq_true rfl), (Nat.le_of_ble_eq_true rfl)⟩) ?_
  exact fs_c0
theorem hX86_init (n : Nat) : fe_H (sX86_init FX87_init) cX86_init [0, 15] fe_kv [15] 26 (fun j => dX86_init (FX86_init_0 n (FX86_init_L15 n j)) (FX86_init_L15 n j)) := by
  intro j pc L st M r hc h
  rcases fe_mem_c hc with rfl | hc
  · obtain ⟨w0, m0, h⟩ := fe_lR_d h
    obtain ⟨rfl, hz⟩ := fe_t0_d h
    exact ⟨[(0, .ref w0)], (fe_cs m0 fe_nl), Or.inr ((bX86_init_0 FX87_init (FX86_init_0 n (FX86_init_L15 n j)) (FX86_init_L15 n j) w0 M).symm.trans hz)⟩
  rcases fe_mem_c hc with rfl | hc
  · obtain ⟨w0, m0, h⟩ := fe_lR_d h
    obtain ⟨w1, m1, h⟩ := fe_lI_d h
    obtain ⟨rfl, hz⟩ := fe_t0_d h
    cases j with
    | zero => exact fe_no hz
    | succ j => exact ⟨[(0, .ref w0), (1, .int w1)], (fe_cs m0 (fe_cs m1 fe_nl)), Or.inl ⟨j, rfl, (bX86_init_15 FX87_init (FX86_init_0 n (FX86_init_L15 n j)) (FX86_init_L15 n j) w0 w1 M).symm.trans hz⟩⟩
  exact fe_mem_0 hc
theorem vX86_init (n : Nat) : fe_SB (sX86_init FX87_init) := by
  refine ⟨?_, ?_, ?_, ?_⟩
  · intro i As M r h
    rcases fe_bc h with h | h
    · obtain ⟨v0, t0, rfl, g0⟩ := fe_tR_d h
      obtain ⟨rfl, hz⟩ := fe_t0_d g0
      exact mX87_init v0 M r hz
    exact fe_no h
  · intro i As M r h
    exact fe_no h
  · intro i As M r h
    exact fe_no h
  · intro i As M r h
    exact fe_no h
theorem eX86_init (g0 : Nat → FM → Option (FM)) (k15 : Nat → Int32 → FM → Option (FM)) (a0 : Nat) (M : FM) : dX86_init g0 k15 0 [(0, .ref a0)] [] M = g0 a0 M := by rfl
theorem mX86_init (n : Nat) (a0 : Nat) (M : FM) (r : FM) (h : FX86_init n a0 M = some r) : fm_nx M ≤ fm_nx r ∧ fm_ns M ≤ fm_ns r :=
  fe_mono (L0 := [(0, .ref a0)]) (vX86_init n) (by decide +kernel) (hX86_init n) (fe_kv_k r) n rfl ((eX86_init (FX86_init_0 n (FX86_init_L15 n n)) (FX86_init_L15 n n) a0 M).trans h)
theorem zX86_init {s0 : State} {H0 : Heap} {oa : Nat → Nat} {D : va_G} (K : fk s0 H0 oa D) (l : Launch) (n : Nat) (a0 : Nat) (M : FM) (r : FM) (h : FX86_init n a0 M = some r) : fs_Con (fk_E s0 H0 oa D) l 2 ⟨"BoardMachine$Walks$Regions", "<init>", "()V"⟩ prog_105_method_1_code 2 (Option.none : Option Jvm.ClassFile.FieldType) [.ref a0] M none r := by
  have o0 : fs_OS (sX86_init FX87_init) 0 0 (fs_Con (fk_E s0 H0 oa D) l 1 ⟨"BoardMachine$Walks$Region", "<init>", "()V"⟩ prog_104_method_1_code 1 (Option.none : Option Jvm.ClassFile.FieldType)) := by
    intro As M r h
    obtain ⟨v0, t0, rfl, g0⟩ := fe_tR_d h
    obtain ⟨rfl, hz⟩ := fe_t0_d g0
    exact zX87_init K l v0 M r hz
  refine fs_method (own := "BoardMachine$Walks$Regions") rfl (by decide) K.2.1 (by rw [fe_slen]; exact (Nat.le_of_ble_eq_true rfl)) (mX86_init n a0 M r h) (hX86_init n) n rfl (L0 := [(0, .ref a0)]) (fun E => fe_args_e E [.ref a0] 0) ((eX86_init (FX86_init_0 n (FX86_init_L15 n n)) (FX86_init_L15 n n) a0 M).trans h) (fe_kv_k r) (fun H hR => fs_nr_o (by decide) (by decide)) ?_
  intro p e s m args below meth c Q C hnm
  have hw : s0.WarmedH s.vm := C.2.2.2.2.1
  refine fe_all C fk_hwr cX86_init [1, 7, 10, 22, 26, 30, 33] (by decide +kernel) (fe_fil (cps := [(1, 4, .monitorenter), (7, 10, .anewarray 291743), (10, 13, .putfield 1191551338), (22, 25, .getfield 1191551338), (26, 29, .new 5700), (30, 33, .invokevirtual 4285529), (33, 34, .instanceof 972121177)]) (by decide +kernel) ?_)
  refine fs_c1 (fs_init (pc := 1) (idx := 3) C (by decide +kernel) (kw K hw q1940) (kw K hw q441) (kw K hw q442) ⟨(Nat.le_of_ble_eq_true rfl), (Nat.le_of_ble_eq_true rfl)⟩) ?_
  refine fs_c1 (fs_newr (pc := 7) (n := 291743) (t := 927) (idx := 9) (CC := "BoardMachine$Walks$Region") C (by decide +kernel) (kw K hw q1941) (kO K hw q1942) rfl (Nat.le_of_ble_eq_true rfl) rfl rfl) ?_
  refine fs_c1 (fs_putf (pc := 10) (n := 1191551338) (idx := 11) (ref := "BoardMachine$Walks$Regions") (O := "BoardMachine$Walks$Regions") (name := "all") (desc := "[LBoardMachine$Walks$Region;") (fin := true) (ty := (.array (.object "BoardMachine$Walks$Region"))) C (by decide +kernel) (Or.inr ⟨rfl, kw K hw q1965, hnm, rfl⟩) (fun _ h => h) (Nat.le_of_ble_eq_true rfl) (Nat.le_of_ble_eq_true rfl) (Nat.le_of_ble_eq_true rfl) rfl rfl (by decide) (fs_one (⟨rfl, ff_90_284 s0 H0 oa D⟩))) ?_
  refine fs_c1 (fs_getf (pc := 22) (n := 1191551338) (idx := 11) (ref := "BoardMachine$Walks$Regions") (O := "BoardMachine$Walks$Regions") (name := "all") (desc := "[LBoardMachine$Walks$Region;") C (by decide +kernel) (Or.inl (kw K hw q1965)) (fun _ h => h) (Nat.le_of_ble_eq_true rfl) (Nat.le_of_ble_eq_true rfl) (fs_one (⟨_, ff_90_284 s0 H0 oa D⟩))) ?_
  refine fs_c1 (fs_newo (pc := 26) (n := 5700) (idx := 9) (CC := "BoardMachine$Walks$Region") (T := fT_89) (N := 4) C (by decide +kernel) (kw K hw q1941) (kw K hw q1943) (kw K hw q398) (by decide) (Nat.le_of_ble_eq_true rfl) rfl rfl) ?_
  refine fs_c1 (fs_inv_virtual (pc := 30) (n := 4285529) C (Nat.le_of_ble_eq_true rfl) (Nat.le_of_ble_eq_true rfl) (fs_lk_init (idx := 17) (y := ⟨"BoardMachine$Walks$Region", "<init>", "()V"⟩) (bytes := prog_104_method_1_code) (maxL := 1) (d := 1) C (Nat.le_of_ble_eq_true rfl) (Nat.le_of_ble_eq_true rfl) (by decide +kernel) (kw K hw q1946) (kw K hw q398) (kw K hw q1945) (Or.inr ⟨_, kM K hw q1944⟩) rfl ⟨by decide, by decide⟩ rfl (Nat.le_of_ble_eq_true rfl) (Nat.le_of_ble_eq_true rfl)) fs_con_mono o0) ?_
  refine fs_c1 (fs_astr (pc := 33) (n := 972121177) (EE := "BoardMachine$Walks$Region") C (by decide +kernel) (Nat.le_of_ble_eq_true rfl) rfl rfl (Nat.le_of_ble_eq_true rfl) (Nat.le_of_ble_eq_true rfl) (fs_one (⟨_, rfl, Or.inl rfl⟩))) ?_
  exact fs_c0
theorem hX88_init : fe_H (sX88_init) cX88_init [0] fe_kv [] 20 (fun _ => dX88_init FX88_init_0) := by
  intro j pc L st M r hc h
  rcases fe_mem_c hc with rfl | hc
  · obtain ⟨w0, m0, h⟩ := fe_lR_d h
    obtain ⟨rfl, hz⟩ := fe_t0_d h
    exact ⟨[(0, .ref w0)], (fe_cs m0 fe_nl), Or.inr ((bX88_init_0 FX88_init_0 w0 M).symm.trans hz)⟩
  exact fe_mem_0 hc
theorem vX88_init : fe_SB (sX88_init) := by
  refine ⟨?_, ?_, ?_, ?_⟩
  · intro i As M r h
    exact fe_no h
  · intro i As M r h
    exact fe_no h
  · intro i As M r h
    exact fe_no h
  · intro i As M r h
    exact fe_no h
theorem eX88_init (g0 : Nat → FM → Option (FM)) (a0 : Nat) (M : FM) : dX88_init g0 0 [(0, .ref a0)] [] M = g0 a0 M := by rfl
theorem mX88_init (a0 : Nat) (M : FM) (r : FM) (h : FX88_init a0 M = some r) : fm_nx M ≤ fm_nx r ∧ fm_ns M ≤ fm_ns r :=
  fe_mono (L0 := [(0, .ref a0)]) (vX88_init) (by decide +kernel) (hX88_init) (fe_kv_k r) 0 rfl ((eX88_init FX88_init_0 a0 M).trans h)
theorem zX88_init {s0 : State} {H0 : Heap} {oa : Nat → Nat} {D : va_G} (K : fk s0 H0 oa D) (l : Launch) (a0 : Nat) (M : FM) (r : FM) (h : FX88_init a0 M = some r) : fs_Con (fk_E s0 H0 oa D) l 1 ⟨"BoardMachine$Walks$Kept", "<init>", "()V"⟩ prog_103_method_1_code 1 (Option.none : Option Jvm.ClassFile.FieldType) [.ref a0] M none r := by
  refine fs_method (own := "BoardMachine$Walks$Kept") rfl (by decide) K.2.1 (by rw [fe_slen]; exact (Nat.le_of_ble_eq_true rfl)) (mX88_init a0 M r h) (hX88_init) 0 rfl (L0 := [(0, .ref a0)]) (fun E => fe_args_e E [.ref a0] 0) ((eX88_init FX88_init_0 a0 M).trans h) (fe_kv_k r) (fun H hR => fs_nr_o (by decide) (by decide)) ?_
  intro p e s m args below meth c Q C hnm
  have hw : s0.WarmedH s.vm := C.2.2.2.2.1
  refine fe_all C fk_hwr cX88_init [1, 6, 8, 13, 15] (by decide +kernel) (fe_fil (cps := [(1, 4, .monitorenter), (6, 8, .anewarray 285574), (8, 11, .putfield 1166377314), (13, 15, .anewarray 286598), (15, 18, .putfield 1170571618)]) (by decide +kernel) ?_)
  refine fs_c1 (fs_init (pc := 1) (idx := 1) C (by decide +kernel) (kw K hw q1980) (kw K hw q441) (kw K hw q442) ⟨(Nat.le_of_ble_eq_true rfl), (Nat.le_of_ble_eq_true rfl)⟩) ?_
  refine fs_c1 (fs_newL (pc := 6) (n := 285574) C (by decide +kernel) (kw K hw q648) rfl rfl) ?_
  refine fs_c1 (fs_putf (pc := 8) (n := 1166377314) (idx := 7) (ref := "BoardMachine$Walks$Kept") (O := "BoardMachine$Walks$Kept") (name := "entries") (desc := "[J") (fin := true) (ty := (.array .long)) C (by decide +kernel) (Or.inr ⟨rfl, kw K hw q1991, hnm, rfl⟩) (fun _ h => h) (Nat.le_of_ble_eq_true rfl) (Nat.le_of_ble_eq_true rfl) (Nat.le_of_ble_eq_true rfl) rfl rfl (by decide) (fs_one (⟨rfl, ff_88_278 s0 H0 oa D⟩))) ?_
  refine fs_c1 (fs_newL (pc := 13) (n := 286598) C (by decide +kernel) (kw K hw q648) rfl rfl) ?_
  refine fs_c1 (fs_putf (pc := 15) (n := 1170571618) (idx := 13) (ref := "BoardMachine$Walks$Kept") (O := "BoardMachine$Walks$Kept") (name := "writes") (desc := "[J") (fin := true) (ty := (.array .long)) C (by decide +kernel) (Or.inr ⟨rfl, kw K hw q1993, hnm, rfl⟩) (fun _ h => h) (Nat.le_of_ble_eq_true rfl) (Nat.le_of_ble_eq_true rfl) (Nat.le_of_ble_eq_true rfl) rfl rfl (by decide) (fs_one (⟨rfl, ff_88_279 s0 H0 oa D⟩))) ?_
  exact fs_c0
theorem hX84_init (n : Nat) : fe_H (sX84_init (FX86_init n) FX88_init) cX84_init [0, 92] fe_kv [92] 81 (fun j => dX84_init (FX84_init_0 n (FX84_init_L92 n j)) (FX84_init_L92 n j)) := by
  intro j pc L st M r hc h
  rcases fe_mem_c hc with rfl | hc
  · obtain ⟨w0, m0, h⟩ := fe_lR_d h
    obtain ⟨w1, m1, h⟩ := fe_lR_d h
    obtain ⟨rfl, hz⟩ := fe_t0_d h
    exact ⟨[(0, .ref w0), (1, .ref w1)], (fe_cs m0 (fe_cs m1 fe_nl)), Or.inr ((bX84_init_0 (FX86_init n) FX88_init (FX84_init_0 n (FX84_init_L92 n j)) (FX84_init_L92 n j) w0 w1 M).symm.trans hz)⟩
  rcases fe_mem_c hc with rfl | hc
  · obtain ⟨w0, m0, h⟩ := fe_lR_d h
    obtain ⟨w2, m2, h⟩ := fe_lI_d h
    obtain ⟨rfl, hz⟩ := fe_t0_d h
    cases j with
    | zero => exact fe_no hz
    | succ j => exact ⟨[(0, .ref w0), (2, .int w2)], (fe_cs m0 (fe_cs m2 fe_nl)), Or.inl ⟨j, rfl, (bX84_init_92 (FX86_init n) FX88_init (FX84_init_0 n (FX84_init_L92 n j)) (FX84_init_L92 n j) w0 w2 M).symm.trans hz⟩⟩
  exact fe_mem_0 hc
theorem vX84_init (n : Nat) : fe_SB (sX84_init (FX86_init n) FX88_init) := by
  refine ⟨?_, ?_, ?_, ?_⟩
  · intro i As M r h
    rcases fe_bc h with h | h
    · obtain ⟨v0, t0, rfl, g0⟩ := fe_tR_d h
      obtain ⟨rfl, hz⟩ := fe_t0_d g0
      exact mX86_init n v0 M r hz
    rcases fe_bc h with h | h
    · obtain ⟨v0, t0, rfl, g0⟩ := fe_tR_d h
      obtain ⟨rfl, hz⟩ := fe_t0_d g0
      exact mX88_init v0 M r hz
    exact fe_no h
  · intro i As M r h
    exact fe_no h
  · intro i As M r h
    exact fe_no h
  · intro i As M r h
    exact fe_no h
theorem eX84_init (g0 : Nat → Nat → FM → Option (FM)) (k92 : Nat → Int32 → FM → Option (FM)) (a0 : Nat) (a1 : Nat) (M : FM) : dX84_init g0 k92 0 [(0, .ref a0), (1, .ref a1)] [] M = g0 a0 a1 M := by rfl
theorem mX84_init (n : Nat) (a0 : Nat) (a1 : Nat) (M : FM) (r : FM) (h : FX84_init n a0 a1 M = some r) : fm_nx M ≤ fm_nx r ∧ fm_ns M ≤ fm_ns r :=
  fe_mono (L0 := [(0, .ref a0), (1, .ref a1)]) (vX84_init n) (by decide +kernel) (hX84_init n) (fe_kv_k r) n rfl ((eX84_init (FX84_init_0 n (FX84_init_L92 n n)) (FX84_init_L92 n n) a0 a1 M).trans h)
theorem zX84_init {s0 : State} {H0 : Heap} {oa : Nat → Nat} {D : va_G} (K : fk s0 H0 oa D) (l : Launch) (n : Nat) (a0 : Nat) (a1 : Nat) (M : FM) (r : FM) (h : FX84_init n a0 a1 M = some r) : fs_Con (fk_E s0 H0 oa D) l 3 ⟨"BoardMachine$Walks$Translator", "<init>", "(LBoardMachine$Walks$Words;)V"⟩ prog_107_method_1_code 3 (Option.none : Option Jvm.ClassFile.FieldType) [.ref a0, .ref a1] M none r := by
  have o0 : fs_OS (sX84_init (FX86_init n) FX88_init) 0 0 (fs_Con (fk_E s0 H0 oa D) l 2 ⟨"BoardMachine$Walks$Regions", "<init>", "()V"⟩ prog_105_method_1_code 2 (Option.none : Option Jvm.ClassFile.FieldType)) := by
    intro As M r h
    obtain ⟨v0, t0, rfl, g0⟩ := fe_tR_d h
    obtain ⟨rfl, hz⟩ := fe_t0_d g0
    exact zX86_init K l n v0 M r hz
  have o1 : fs_OS (sX84_init (FX86_init n) FX88_init) 1 0 (fs_Con (fk_E s0 H0 oa D) l 1 ⟨"BoardMachine$Walks$Kept", "<init>", "()V"⟩ prog_103_method_1_code 1 (Option.none : Option Jvm.ClassFile.FieldType)) := by
    intro As M r h
    obtain ⟨v0, t0, rfl, g0⟩ := fe_tR_d h
    obtain ⟨rfl, hz⟩ := fe_t0_d g0
    exact zX88_init K l v0 M r hz
  refine fs_method (own := "BoardMachine$Walks$Translator") rfl (by decide) K.2.1 (by rw [fe_slen]; exact (Nat.le_of_ble_eq_true rfl)) (mX84_init n a0 a1 M r h) (hX84_init n) n rfl (L0 := [(0, .ref a0), (1, .ref a1)]) (fun E => fe_args_e E [.ref a0, .ref a1] 0) ((eX84_init (FX84_init_0 n (FX84_init_L92 n n)) (FX84_init_L92 n n) a0 a1 M).trans h) (fe_kv_k r) (fun H hR => fs_nr_o (by decide) (by decide)) ?_
  intro p e s m args below meth c Q C hnm
  have hw : s0.WarmedH s.vm := C.2.2.2.2.1
  refine fe_all C fk_hwr cX84_init [1, 6, 12, 23, 27, 38, 42, 54, 55, 59, 63, 66, 72, 75, 80, 82, 87, 99, 103, 107, 110] (by decide +kernel) (fe_fil (cps := [(1, 4, .monitorenter), (6, 9, .anewarray 293797), (12, 14, .anewarray 9093), (23, 24, .instanceof 979244933), (27, 29, .anewarray 9093), (38, 39, .instanceof 979244933), (42, 44, .anewarray 9093), (54, 55, .instanceof 979244933), (55, 58, .putfield 1199944046), (59, 62, .new 5762), (63, 66, .invokevirtual 4286554), (66, 69, .putfield 1208332654), (72, 75, .anewarray 298910), (75, 78, .putfield 1220915566), (80, 82, .anewarray 302982), (82, 85, .putfield 1237692782), (87, 90, .putfield 1204138350), (99, 102, .getfield 1220915566), (103, 106, .new 5643), (107, 110, .invokevirtual 71393368), (110, 111, .instanceof 971071576)]) (by decide +kernel) ?_)
  refine fs_c1 (fs_init (pc := 1) (idx := 3) C (by decide +kernel) (kw K hw q1932) (kw K hw q441) (kw K hw q442) ⟨(Nat.le_of_ble_eq_true rfl), (Nat.le_of_ble_eq_true rfl)⟩) ?_
  refine fs_c1 (fs_newrr (pc := 6) (n := 293797) (t := 933) (idx := 9) C (by decide +kernel) (kw K hw q1933) (kAA K hw q1934) rfl (Nat.le_of_ble_eq_true rfl) rfl rfl) ?_
  refine fs_c1 (fs_newI (pc := 12) (n := 9093) C (by decide +kernel) (kw K hw q966) rfl rfl) ?_
  refine fs_c1 (fs_astrr (pc := 23) (n := 979244933) C (by decide +kernel) (kAA K hw q1934) (Nat.le_of_ble_eq_true rfl) rfl rfl rfl rfl) ?_
  refine fs_c1 (fs_newI (pc := 27) (n := 9093) C (by decide +kernel) (kw K hw q966) rfl rfl) ?_
  refine fs_c1 (fs_astrr (pc := 38) (n := 979244933) C (by decide +kernel) (kAA K hw q1934) (Nat.le_of_ble_eq_true rfl) rfl rfl rfl rfl) ?_
  refine fs_c1 (fs_newI (pc := 42) (n := 9093) C (by decide +kernel) (kw K hw q966) rfl rfl) ?_
  refine fs_c1 (fs_astrr (pc := 54) (n := 979244933) C (by decide +kernel) (kAA K hw q1934) (Nat.le_of_ble_eq_true rfl) rfl rfl rfl rfl) ?_
  refine fs_c1 (fs_putf (pc := 55) (n := 1199944046) (idx := 11) (ref := "BoardMachine$Walks$Translator") (O := "BoardMachine$Walks$Translator") (name := "faults") (desc := "[[I") (fin := true) (ty := (.array (.array .int))) C (by decide +kernel) (Or.inr ⟨rfl, kw K hw q2018, hnm, rfl⟩) (fun _ h => h) (Nat.le_of_ble_eq_true rfl) (Nat.le_of_ble_eq_true rfl) (Nat.le_of_ble_eq_true rfl) rfl rfl (by decide) (fs_one (⟨rfl, ff_91_286 s0 H0 oa D⟩))) ?_
  refine fs_c1 (fs_newo (pc := 59) (n := 5762) (idx := 17) (CC := "BoardMachine$Walks$Regions") (T := fT_90) (N := 2) C (by decide +kernel) (kw K hw q1935) (kw K hw q1936) (kw K hw q397) (by decide) (Nat.le_of_ble_eq_true rfl) rfl rfl) ?_
  refine fs_c1 (fs_inv_virtual (pc := 63) (n := 4286554) C (Nat.le_of_ble_eq_true rfl) (Nat.le_of_ble_eq_true rfl) (fs_lk_init (idx := 19) (y := ⟨"BoardMachine$Walks$Regions", "<init>", "()V"⟩) (bytes := prog_105_method_1_code) (maxL := 2) (d := 2) C (Nat.le_of_ble_eq_true rfl) (Nat.le_of_ble_eq_true rfl) (by decide +kernel) (kw K hw q1939) (kw K hw q397) (kw K hw q1938) (Or.inl (kw K hw q1937)) rfl ⟨by decide, by decide⟩ rfl (Nat.le_of_ble_eq_true rfl) (Nat.le_of_ble_eq_true rfl)) fs_con_mono o0) ?_
  refine fs_c1 (fs_putf (pc := 66) (n := 1208332654) (idx := 20) (ref := "BoardMachine$Walks$Translator") (O := "BoardMachine$Walks$Translator") (name := "regions") (desc := "LBoardMachine$Walks$Regions;") (fin := true) (ty := (.object "BoardMachine$Walks$Regions")) C (by decide +kernel) (Or.inr ⟨rfl, kw K hw q2020, hnm, rfl⟩) (fun _ h => h) (Nat.le_of_ble_eq_true rfl) (Nat.le_of_ble_eq_true rfl) (Nat.le_of_ble_eq_true rfl) rfl rfl (by decide) (fs_one (⟨rfl, ff_91_288 s0 H0 oa D⟩))) ?_
  refine fs_c1 (fs_newr (pc := 72) (n := 298910) (t := 926) (idx := 24) (CC := "BoardMachine$Walks$Kept") C (by decide +kernel) (kw K hw q1974) (kO K hw q1975) rfl (Nat.le_of_ble_eq_true rfl) rfl rfl) ?_
  refine fs_c1 (fs_putf (pc := 75) (n := 1220915566) (idx := 26) (ref := "BoardMachine$Walks$Translator") (O := "BoardMachine$Walks$Translator") (name := "kept") (desc := "[LBoardMachine$Walks$Kept;") (fin := true) (ty := (.array (.object "BoardMachine$Walks$Kept"))) C (by decide +kernel) (Or.inr ⟨rfl, kw K hw q2026, hnm, rfl⟩) (fun _ h => h) (Nat.le_of_ble_eq_true rfl) (Nat.le_of_ble_eq_true rfl) (Nat.le_of_ble_eq_true rfl) rfl rfl (by decide) (fs_one (⟨rfl, ff_91_291 s0 H0 oa D⟩))) ?_
  refine fs_c1 (fs_newL (pc := 80) (n := 302982) C (by decide +kernel) (kw K hw q648) rfl rfl) ?_
  refine fs_c1 (fs_putf (pc := 82) (n := 1237692782) (idx := 30) (ref := "BoardMachine$Walks$Translator") (O := "BoardMachine$Walks$Translator") (name := "trace") (desc := "[J") (fin := true) (ty := (.array .long)) C (by decide +kernel) (Or.inr ⟨rfl, kw K hw q2030, hnm, rfl⟩) (fun _ h => h) (Nat.le_of_ble_eq_true rfl) (Nat.le_of_ble_eq_true rfl) (Nat.le_of_ble_eq_true rfl) rfl rfl (by decide) (fs_one (⟨rfl, ff_91_295 s0 H0 oa D⟩))) ?_
  refine fs_c1 (fs_putf (pc := 87) (n := 1204138350) (idx := 34) (ref := "BoardMachine$Walks$Translator") (O := "BoardMachine$Walks$Translator") (name := "words") (desc := "LBoardMachine$Walks$Words;") (fin := true) (ty := (.object "BoardMachine$Walks$Words")) C (by decide +kernel) (Or.inr ⟨rfl, kw K hw q2019, hnm, rfl⟩) (fun _ h => h) (Nat.le_of_ble_eq_true rfl) (Nat.le_of_ble_eq_true rfl) (Nat.le_of_ble_eq_true rfl) rfl rfl (by decide) (fs_one (⟨rfl, ff_91_287 s0 H0 oa D⟩))) ?_
  refine fs_c1 (fs_getf (pc := 99) (n := 1220915566) (idx := 26) (ref := "BoardMachine$Walks$Translator") (O := "BoardMachine$Walks$Translator") (name := "kept") (desc := "[LBoardMachine$Walks$Kept;") C (by decide +kernel) (Or.inl (kw K hw q2026)) (fun _ h => h) (Nat.le_of_ble_eq_true rfl) (Nat.le_of_ble_eq_true rfl) (fs_one (⟨_, ff_91_291 s0 H0 oa D⟩))) ?_
  refine fs_c1 (fs_newo (pc := 103) (n := 5643) (idx := 24) (CC := "BoardMachine$Walks$Kept") (T := fT_88) (N := 11) C (by decide +kernel) (kw K hw q1974) (kw K hw q1976) (kw K hw q399) (by decide) (Nat.le_of_ble_eq_true rfl) rfl rfl) ?_
  refine fs_c1 (fs_inv_virtual (pc := 107) (n := 71393368) C (Nat.le_of_ble_eq_true rfl) (Nat.le_of_ble_eq_true rfl) (fs_lk_init (idx := 38) (y := ⟨"BoardMachine$Walks$Kept", "<init>", "()V"⟩) (bytes := prog_103_method_1_code) (maxL := 1) (d := 1) C (Nat.le_of_ble_eq_true rfl) (Nat.le_of_ble_eq_true rfl) (by decide +kernel) (kw K hw q1979) (kw K hw q399) (kw K hw q1978) (Or.inr ⟨_, kM K hw q1977⟩) rfl ⟨by decide, by decide⟩ rfl (Nat.le_of_ble_eq_true rfl) (Nat.le_of_ble_eq_true rfl)) fs_con_mono o1) ?_
  refine fs_c1 (fs_astr (pc := 110) (n := 971071576) (EE := "BoardMachine$Walks$Kept") C (by decide +kernel) (Nat.le_of_ble_eq_true rfl) rfl rfl (Nat.le_of_ble_eq_true rfl) (Nat.le_of_ble_eq_true rfl) (fs_one (⟨_, rfl, Or.inl rfl⟩))) ?_
  exact fs_c0
