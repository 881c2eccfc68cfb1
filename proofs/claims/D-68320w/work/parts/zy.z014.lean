/-! contracts of methods, printed by gen/snd.py -/
set_option maxRecDepth 100000
set_option maxHeartbeats 4000000
theorem hX90_init : fe_H (sX90_init) cX90_init [0] fe_kv [] 20 (fun _ => dX90_init FX90_init_0) := by
  intro j pc L st M r hc h
  rcases fe_mem_c hc with rfl | hc
  · obtain ⟨w0, m0, h⟩ := fe_lR_d h
    obtain ⟨w1, m1, h⟩ := fe_lR_d h
    obtain ⟨w2, m2, h⟩ := fe_lR_d h
    obtain ⟨rfl, hz⟩ := fe_t0_d h
    exact ⟨[(0, .ref w0), (1, .ref w1), (2, .ref w2)], (fe_cs m0 (fe_cs m1 (fe_cs m2 fe_nl))), Or.inr ((bX90_init_0 FX90_init_0 w0 w1 w2 M).symm.trans hz)⟩
  exact fe_mem_0 hc
theorem vX90_init : fe_SB (sX90_init) := by
  refine ⟨?_, ?_, ?_, ?_⟩
  · intro i As M r h
    exact fe_no h
  · intro i As M r h
    exact fe_no h
  · intro i As M r h
    exact fe_no h
  · intro i As M r h
    exact fe_no h
theorem eX90_init (g0 : Nat → Nat → Nat → FM → Option (FM)) (a0 : Nat) (a1 : Nat) (a2 : Nat) (M : FM) : dX90_init g0 0 [(0, .ref a0), (1, .ref a1), (2, .ref a2)] [] M = g0 a0 a1 a2 M := by rfl
theorem mX90_init (a0 : Nat) (a1 : Nat) (a2 : Nat) (M : FM) (r : FM) (h : FX90_init a0 a1 a2 M = some r) : fm_nx M ≤ fm_nx r ∧ fm_ns M ≤ fm_ns r :=
  fe_mono (L0 := [(0, .ref a0), (1, .ref a1), (2, .ref a2)]) (vX90_init) (by decide +kernel) (hX90_init) (fe_kv_k r) 0 rfl ((eX90_init FX90_init_0 a0 a1 a2 M).trans h)
theorem zX90_init {s0 : State} {H0 : Heap} {oa : Nat → Nat} {D : va_G} (K : fk s0 H0 oa D) (l : Launch) (a0 : Nat) (a1 : Nat) (a2 : Nat) (M : FM) (r : FM) (h : FX90_init a0 a1 a2 M = some r) : fs_Con (fk_E s0 H0 oa D) l 1 ⟨"BoardMachine$Loader", "<init>", "(LBoardMachine$Trees$Row;LBoardMachine$Memories$Ram;)V"⟩ prog_75_method_1_code 3 (Option.none : Option Jvm.ClassFile.FieldType) [.ref a0, .ref a1, .ref a2] M none r := by
  refine fs_method (own := "BoardMachine$Loader") rfl (by decide) K.2.1 (by rw [fe_slen]; exact (Nat.le_of_ble_eq_true rfl)) (mX90_init a0 a1 a2 M r h) (hX90_init) 0 rfl (L0 := [(0, .ref a0), (1, .ref a1), (2, .ref a2)]) (fun E => fe_args_e E [.ref a0, .ref a1, .ref a2] 0) ((eX90_init FX90_init_0 a0 a1 a2 M).trans h) (fe_kv_k r) (fun H hR => fs_nr_o (by decide) (by decide)) ?_
  intro p e s m args below meth c Q C hnm
  have hw : s0.WarmedH s.vm := C.2.2.2.2.1
  refine fe_all C fk_hwr cX90_init [1, 5, 8, 13, 18] (by decide +kernel) (fe_fil (cps := [(1, 4, .monitorenter), (5, 8, .jsr_w (2147483648)), (8, 11, .putfield 788799753), (13, 16, .putfield 780411146), (18, 21, .putfield 784605450)]) (by decide +kernel) ?_)
  refine fs_c1 (fs_init (pc := 1) (idx := 3) C (by decide +kernel) (kw K hw q2126) (kw K hw q441) (kw K hw q442) ⟨(Nat.le_of_ble_eq_true rfl), (Nat.le_of_ble_eq_true rfl)⟩) ?_
  refine fs_c1 (fs_ldcl (pc := 5) (idx := 9) (v := 2147483648) C (by decide +kernel) (kw K hw q2127)) ?_
  refine fs_c1 (fs_putf (pc := 8) (n := 788799753) (idx := 11) (ref := "BoardMachine$Loader") (O := "BoardMachine$Loader") (name := "entry") (desc := "J") (fin := false) (ty := .long) C (by decide +kernel) (Or.inl ⟨rfl, Or.inl (kw K hw q2130)⟩) (fun _ h => h) (Nat.le_of_ble_eq_true rfl) (Nat.le_of_ble_eq_true rfl) (Nat.le_of_ble_eq_true rfl) rfl rfl (by decide) (fs_one (⟨rfl, ff_66_188 s0 H0 oa D⟩))) ?_
  refine fs_c1 (fs_putf (pc := 13) (n := 780411146) (idx := 17) (ref := "BoardMachine$Loader") (O := "BoardMachine$Loader") (name := "in") (desc := "LBoardMachine$Trees$Row;") (fin := true) (ty := (.object "BoardMachine$Trees$Row")) C (by decide +kernel) (Or.inr ⟨rfl, kw K hw q2128, hnm, rfl⟩) (fun _ h => h) (Nat.le_of_ble_eq_true rfl) (Nat.le_of_ble_eq_true rfl) (Nat.le_of_ble_eq_true rfl) rfl rfl (by decide) (fs_one (⟨rfl, ff_66_186 s0 H0 oa D⟩))) ?_
  refine fs_c1 (fs_putf (pc := 18) (n := 784605450) (idx := 21) (ref := "BoardMachine$Loader") (O := "BoardMachine$Loader") (name := "ram") (desc := "LBoardMachine$Memories$Ram;") (fin := true) (ty := (.object "BoardMachine$Memories$Ram")) C (by decide +kernel) (Or.inr ⟨rfl, kw K hw q2129, hnm, rfl⟩) (fun _ h => h) (Nat.le_of_ble_eq_true rfl) (Nat.le_of_ble_eq_true rfl) (Nat.le_of_ble_eq_true rfl) rfl rfl (by decide) (fs_one (⟨rfl, ff_66_187 s0 H0 oa D⟩))) ?_
  exact fs_c0
theorem hX48_init : fe_H (sX48_init) cX48_init [0] fe_kv [] 20 (fun _ => dX48_init FX48_init_0) := by
  intro j pc L st M r hc h
  rcases fe_mem_c hc with rfl | hc
  · obtain ⟨w0, m0, h⟩ := fe_lR_d h
    obtain ⟨rfl, hz⟩ := fe_t0_d h
    exact ⟨[(0, .ref w0)], (fe_cs m0 fe_nl), Or.inr ((bX48_init_0 FX48_init_0 w0 M).symm.trans hz)⟩
  exact fe_mem_0 hc
theorem vX48_init : fe_SB (sX48_init) := by
  refine ⟨?_, ?_, ?_, ?_⟩
  · intro i As M r h
    exact fe_no h
  · intro i As M r h
    exact fe_no h
  · intro i As M r h
    exact fe_no h
  · intro i As M r h
    exact fe_no h
theorem eX48_init (g0 : Nat → FM → Option (FM)) (a0 : Nat) (M : FM) : dX48_init g0 0 [(0, .ref a0)] [] M = g0 a0 M := by rfl
theorem mX48_init (a0 : Nat) (M : FM) (r : FM) (h : FX48_init a0 M = some r) : fm_nx M ≤ fm_nx r ∧ fm_ns M ≤ fm_ns r :=
  fe_mono (L0 := [(0, .ref a0)]) (vX48_init) (by decide +kernel) (hX48_init) (fe_kv_k r) 0 rfl ((eX48_init FX48_init_0 a0 M).trans h)
theorem zX48_init {s0 : State} {H0 : Heap} {oa : Nat → Nat} {D : va_G} (K : fk s0 H0 oa D) (l : Launch) (a0 : Nat) (M : FM) (r : FM) (h : FX48_init a0 M = some r) : fs_Con (fk_E s0 H0 oa D) l 1 ⟨"BoardMachine$Integers$Registers", "<init>", "()V"⟩ prog_71_method_1_code 1 (Option.none : Option Jvm.ClassFile.FieldType) [.ref a0] M none r := by
  refine fs_method (own := "BoardMachine$Integers$Registers") rfl (by decide) K.2.1 (by rw [fe_slen]; exact (Nat.le_of_ble_eq_true rfl)) (mX48_init a0 M r h) (hX48_init) 0 rfl (L0 := [(0, .ref a0)]) (fun E => fe_args_e E [.ref a0] 0) ((eX48_init FX48_init_0 a0 M).trans h) (fe_kv_k r) (fun H hR => fs_nr_o (by decide) (by decide)) ?_
  intro p e s m args below meth c Q C hnm
  have hw : s0.WarmedH s.vm := C.2.2.2.2.1
  refine fe_all C fk_hwr cX48_init [1, 7, 9] (by decide +kernel) (fe_fil (cps := [(1, 4, .monitorenter), (7, 9, .anewarray 183174), (9, 12, .putfield 746848514)]) (by decide +kernel) ?_)
  refine fs_c1 (fs_init (pc := 1) (idx := 1) C (by decide +kernel) (kw K hw q1278) (kw K hw q441) (kw K hw q442) ⟨(Nat.le_of_ble_eq_true rfl), (Nat.le_of_ble_eq_true rfl)⟩) ?_
  refine fs_c1 (fs_newL (pc := 7) (n := 183174) C (by decide +kernel) (kw K hw q648) rfl rfl) ?_
  refine fs_c1 (fs_putf (pc := 9) (n := 746848514) (idx := 7) (ref := "BoardMachine$Integers$Registers") (O := "BoardMachine$Integers$Registers") (name := "held") (desc := "[J") (fin := true) (ty := (.array .long)) C (by decide +kernel) (Or.inr ⟨rfl, kw K hw q1279, hnm, rfl⟩) (fun _ h => h) (Nat.le_of_ble_eq_true rfl) (Nat.le_of_ble_eq_true rfl) (Nat.le_of_ble_eq_true rfl) rfl rfl (by decide) (fs_one (⟨rfl, ff_64_178 s0 H0 oa D⟩))) ?_
  exact fs_c0
theorem hX50_init : fe_H (sX50_init) cX50_init [0] fe_kv [] 20 (fun _ => dX50_init FX50_init_0) := by
  intro j pc L st M r hc h
  rcases fe_mem_c hc with rfl | hc
  · obtain ⟨w0, m0, h⟩ := fe_lR_d h
    obtain ⟨rfl, hz⟩ := fe_t0_d h
    exact ⟨[(0, .ref w0)], (fe_cs m0 fe_nl), Or.inr ((bX50_init_0 FX50_init_0 w0 M).symm.trans hz)⟩
  exact fe_mem_0 hc
theorem vX50_init : fe_SB (sX50_init) := by
  refine ⟨?_, ?_, ?_, ?_⟩
  · intro i As M r h
    exact fe_no h
  · intro i As M r h
    exact fe_no h
  · intro i As M r h
    exact fe_no h
  · intro i As M r h
    exact fe_no h
theorem eX50_init (g0 : Nat → FM → Option (FM)) (a0 : Nat) (M : FM) : dX50_init g0 0 [(0, .ref a0)] [] M = g0 a0 M := by rfl
theorem mX50_init (a0 : Nat) (M : FM) (r : FM) (h : FX50_init a0 M = some r) : fm_nx M ≤ fm_nx r ∧ fm_ns M ≤ fm_ns r :=
  fe_mono (L0 := [(0, .ref a0)]) (vX50_init) (by decide +kernel) (hX50_init) (fe_kv_k r) 0 rfl ((eX50_init FX50_init_0 a0 M).trans h)
theorem zX50_init {s0 : State} {H0 : Heap} {oa : Nat → Nat} {D : va_G} (K : fk s0 H0 oa D) (l : Launch) (a0 : Nat) (M : FM) (r : FM) (h : FX50_init a0 M = some r) : fs_Con (fk_E s0 H0 oa D) l 1 ⟨"BoardMachine$Integers$Action", "<init>", "()V"⟩ prog_59_method_1_code 1 (Option.none : Option Jvm.ClassFile.FieldType) [.ref a0] M none r := by
  refine fs_method (own := "BoardMachine$Integers$Action") rfl (by decide) K.2.1 (by rw [fe_slen]; exact (Nat.le_of_ble_eq_true rfl)) (mX50_init a0 M r h) (hX50_init) 0 rfl (L0 := [(0, .ref a0)]) (fun E => fe_args_e E [.ref a0] 0) ((eX50_init FX50_init_0 a0 M).trans h) (fe_kv_k r) (fun H hR => fs_nr_o (by decide) (by decide)) ?_
  intro p e s m args below meth c Q C hnm
  have hw : s0.WarmedH s.vm := C.2.2.2.2.1
  refine fe_all C fk_hwr cX50_init [1] (by decide +kernel) (fe_fil (cps := [(1, 4, .monitorenter)]) (by decide +kernel) ?_)
  refine fs_c1 (fs_init (pc := 1) (idx := 3) C (by decide +kernel) (kw K hw q1313) (kw K hw q441) (kw K hw q442) ⟨(Nat.le_of_ble_eq_true rfl), (Nat.le_of_ble_eq_true rfl)⟩) ?_
  exact fs_c0
theorem hX51_init : fe_H (sX51_init FX50_init) cX51_init [0] fe_kv [] 20 (fun _ => dX51_init FX51_init_0) := by
  intro j pc L st M r hc h
  rcases fe_mem_c hc with rfl | hc
  · obtain ⟨w0, m0, h⟩ := fe_lR_d h
    obtain ⟨rfl, hz⟩ := fe_t0_d h
    exact ⟨[(0, .ref w0)], (fe_cs m0 fe_nl), Or.inr ((bX51_init_0 FX50_init FX51_init_0 w0 M).symm.trans hz)⟩
  exact fe_mem_0 hc
theorem vX51_init : fe_SB (sX51_init FX50_init) := by
  refine ⟨?_, ?_, ?_, ?_⟩
  · intro i As M r h
    rcases fe_bc h with h | h
    · obtain ⟨v0, t0, rfl, g0⟩ := fe_tR_d h
      obtain ⟨rfl, hz⟩ := fe_t0_d g0
      exact mX50_init v0 M r hz
    exact fe_no h
  · intro i As M r h
    exact fe_no h
  · intro i As M r h
    exact fe_no h
  · intro i As M r h
    exact fe_no h
theorem eX51_init (g0 : Nat → FM → Option (FM)) (a0 : Nat) (M : FM) : dX51_init g0 0 [(0, .ref a0)] [] M = g0 a0 M := by rfl
theorem mX51_init (a0 : Nat) (M : FM) (r : FM) (h : FX51_init a0 M = some r) : fm_nx M ≤ fm_nx r ∧ fm_ns M ≤ fm_ns r :=
  fe_mono (L0 := [(0, .ref a0)]) (vX51_init) (by decide +kernel) (hX51_init) (fe_kv_k r) 0 rfl ((eX51_init FX51_init_0 a0 M).trans h)
theorem zX51_init {s0 : State} {H0 : Heap} {oa : Nat → Nat} {D : va_G} (K : fk s0 H0 oa D) (l : Launch) (a0 : Nat) (M : FM) (r : FM) (h : FX51_init a0 M = some r) : fs_Con (fk_E s0 H0 oa D) l 2 ⟨"BoardMachine$Integers$Illegal", "<init>", "()V"⟩ prog_68_method_1_code 1 (Option.none : Option Jvm.ClassFile.FieldType) [.ref a0] M none r := by
  have o0 : fs_OS (sX51_init FX50_init) 0 0 (fs_Con (fk_E s0 H0 oa D) l 1 ⟨"BoardMachine$Integers$Action", "<init>", "()V"⟩ prog_59_method_1_code 1 (Option.none : Option Jvm.ClassFile.FieldType)) := by
    intro As M r h
    obtain ⟨v0, t0, rfl, g0⟩ := fe_tR_d h
    obtain ⟨rfl, hz⟩ := fe_t0_d g0
    exact zX50_init K l v0 M r hz
  refine fs_method (own := "BoardMachine$Integers$Illegal") rfl (by decide) K.2.1 (by rw [fe_slen]; exact (Nat.le_of_ble_eq_true rfl)) (mX51_init a0 M r h) (hX51_init) 0 rfl (L0 := [(0, .ref a0)]) (fun E => fe_args_e E [.ref a0] 0) ((eX51_init FX51_init_0 a0 M).trans h) (fe_kv_k r) (fun H hR => fs_nr_o (by decide) (by decide)) ?_
  intro p e s m args below meth c Q C hnm
  have hw : s0.WarmedH s.vm := C.2.2.2.2.1
  refine fe_all C fk_hwr cX51_init [1] (by decide +kernel) (fe_fil (cps := [(1, 4, .invokevirtual 4253754)]) (by decide +kernel) ?_)
  refine fs_c1 (fs_inv_virtual (pc := 1) (n := 4253754) C (Nat.le_of_ble_eq_true rfl) (Nat.le_of_ble_eq_true rfl) (fs_lk_init (idx := 3) (y := ⟨"BoardMachine$Integers$Action", "<init>", "()V"⟩) (bytes := prog_59_method_1_code) (maxL := 1) (d := 1) C (Nat.le_of_ble_eq_true rfl) (Nat.le_of_ble_eq_true rfl) (by decide +kernel) (kw K hw q1312) (kw K hw q361) (kw K hw q1311) (Or.inr ⟨_, kM K hw q1310⟩) rfl ⟨by decide, by decide⟩ rfl (Nat.le_of_ble_eq_true rfl) (Nat.le_of_ble_eq_true rfl)) fs_con_mono o0) ?_
  exact fs_c0
theorem hX52_init : fe_H (sX52_init FX50_init) cX52_init [0] fe_kv [] 20 (fun _ => dX52_init FX52_init_0) := by
  intro j pc L st M r hc h
  rcases fe_mem_c hc with rfl | hc
  · obtain ⟨w0, m0, h⟩ := fe_lR_d h
    obtain ⟨rfl, hz⟩ := fe_t0_d h
    exact ⟨[(0, .ref w0)], (fe_cs m0 fe_nl), Or.inr ((bX52_init_0 FX50_init FX52_init_0 w0 M).symm.trans hz)⟩
  exact fe_mem_0 hc
theorem vX52_init : fe_SB (sX52_init FX50_init) := by
  refine ⟨?_, ?_, ?_, ?_⟩
  · intro i As M r h
    rcases fe_bc h with h | h
    · obtain ⟨v0, t0, rfl, g0⟩ := fe_tR_d h
      obtain ⟨rfl, hz⟩ := fe_t0_d g0
      exact mX50_init v0 M r hz
    exact fe_no h
  · intro i As M r h
    exact fe_no h
  · intro i As M r h
    exact fe_no h
  · intro i As M r h
    exact fe_no h
theorem eX52_init (g0 : Nat → FM → Option (FM)) (a0 : Nat) (M : FM) : dX52_init g0 0 [(0, .ref a0)] [] M = g0 a0 M := by rfl
theorem mX52_init (a0 : Nat) (M : FM) (r : FM) (h : FX52_init a0 M = some r) : fm_nx M ≤ fm_nx r ∧ fm_ns M ≤ fm_ns r :=
  fe_mono (L0 := [(0, .ref a0)]) (vX52_init) (by decide +kernel) (hX52_init) (fe_kv_k r) 0 rfl ((eX52_init FX52_init_0 a0 M).trans h)
theorem zX52_init {s0 : State} {H0 : Heap} {oa : Nat → Nat} {D : va_G} (K : fk s0 H0 oa D) (l : Launch) (a0 : Nat) (M : FM) (r : FM) (h : FX52_init a0 M = some r) : fs_Con (fk_E s0 H0 oa D) l 2 ⟨"BoardMachine$Integers$Fence", "<init>", "()V"⟩ prog_65_method_1_code 1 (Option.none : Option Jvm.ClassFile.FieldType) [.ref a0] M none r := by
  have o0 : fs_OS (sX52_init FX50_init) 0 0 (fs_Con (fk_E s0 H0 oa D) l 1 ⟨"BoardMachine$Integers$Action", "<init>", "()V"⟩ prog_59_method_1_code 1 (Option.none : Option Jvm.ClassFile.FieldType)) := by
    intro As M r h
    obtain ⟨v0, t0, rfl, g0⟩ := fe_tR_d h
    obtain ⟨rfl, hz⟩ := fe_t0_d g0
    exact zX50_init K l v0 M r hz
  refine fs_method (own := "BoardMachine$Integers$Fence") rfl (by decide) K.2.1 (by rw [fe_slen]; exact (Nat.le_of_ble_eq_true rfl)) (mX52_init a0 M r h) (hX52_init) 0 rfl (L0 := [(0, .ref a0)]) (fun E => fe_args_e E [.ref a0] 0) ((eX52_init FX52_init_0 a0 M).trans h) (fe_kv_k r) (fun H hR => fs_nr_o (by decide) (by decide)) ?_
  intro p e s m args below meth c Q C hnm
  have hw : s0.WarmedH s.vm := C.2.2.2.2.1
  refine fe_all C fk_hwr cX52_init [1] (by decide +kernel) (fe_fil (cps := [(1, 4, .invokevirtual 4251704)]) (by decide +kernel) ?_)
  refine fs_c1 (fs_inv_virtual (pc := 1) (n := 4251704) C (Nat.le_of_ble_eq_true rfl) (Nat.le_of_ble_eq_true rfl) (fs_lk_init (idx := 3) (y := ⟨"BoardMachine$Integers$Action", "<init>", "()V"⟩) (bytes := prog_59_method_1_code) (maxL := 1) (d := 1) C (Nat.le_of_ble_eq_true rfl) (Nat.le_of_ble_eq_true rfl) (by decide +kernel) (kw K hw q1312) (kw K hw q361) (kw K hw q1311) (Or.inr ⟨_, kM K hw q1320⟩) rfl ⟨by decide, by decide⟩ rfl (Nat.le_of_ble_eq_true rfl) (Nat.le_of_ble_eq_true rfl)) fs_con_mono o0) ?_
  exact fs_c0
theorem hX53_init : fe_H (sX53_init FX50_init) cX53_init [0] fe_kv [] 20 (fun _ => dX53_init FX53_init_0) := by
  intro j pc L st M r hc h
  rcases fe_mem_c hc with rfl | hc
  · obtain ⟨w0, m0, h⟩ := fe_lR_d h
    obtain ⟨w1, m1, h⟩ := fe_lI_d h
    obtain ⟨rfl, hz⟩ := fe_t0_d h
    exact ⟨[(0, .ref w0), (1, .int w1)], (fe_cs m0 (fe_cs m1 fe_nl)), Or.inr ((bX53_init_0 FX50_init FX53_init_0 w0 w1 M).symm.trans hz)⟩
  exact fe_mem_0 hc
theorem vX53_init : fe_SB (sX53_init FX50_init) := by
  refine ⟨?_, ?_, ?_, ?_⟩
  · intro i As M r h
    rcases fe_bc h with h | h
    · obtain ⟨v0, t0, rfl, g0⟩ := fe_tR_d h
      obtain ⟨rfl, hz⟩ := fe_t0_d g0
      exact mX50_init v0 M r hz
    exact fe_no h
  · intro i As M r h
    exact fe_no h
  · intro i As M r h
    exact fe_no h
  · intro i As M r h
    exact fe_no h
theorem eX53_init (g0 : Nat → Int32 → FM → Option (FM)) (a0 : Nat) (a1 : Int32) (M : FM) : dX53_init g0 0 [(0, .ref a0), (1, .int a1)] [] M = g0 a0 a1 M := by rfl
theorem mX53_init (a0 : Nat) (a1 : Int32) (M : FM) (r : FM) (h : FX53_init a0 a1 M = some r) : fm_nx M ≤ fm_nx r ∧ fm_ns M ≤ fm_ns r :=
  fe_mono (L0 := [(0, .ref a0), (1, .int a1)]) (vX53_init) (by decide +kernel) (hX53_init) (fe_kv_k r) 0 rfl ((eX53_init FX53_init_0 a0 a1 M).trans h)
theorem zX53_init {s0 : State} {H0 : Heap} {oa : Nat → Nat} {D : va_G} (K : fk s0 H0 oa D) (l : Launch) (a0 : Nat) (a1 : Int32) (M : FM) (r : FM) (h : FX53_init a0 a1 M = some r) : fs_Con (fk_E s0 H0 oa D) l 2 ⟨"BoardMachine$Integers$Upper", "<init>", "(Z)V"⟩ prog_73_method_1_code 2 (Option.none : Option Jvm.ClassFile.FieldType) [.ref a0, .int a1] M none r := by
  have o0 : fs_OS (sX53_init FX50_init) 0 0 (fs_Con (fk_E s0 H0 oa D) l 1 ⟨"BoardMachine$Integers$Action", "<init>", "()V"⟩ prog_59_method_1_code 1 (Option.none : Option Jvm.ClassFile.FieldType)) := by
    intro As M r h
    obtain ⟨v0, t0, rfl, g0⟩ := fe_tR_d h
    obtain ⟨rfl, hz⟩ := fe_t0_d g0
    exact zX50_init K l v0 M r hz
  refine fs_method (own := "BoardMachine$Integers$Upper") rfl (by decide) K.2.1 (by rw [fe_slen]; exact (Nat.le_of_ble_eq_true rfl)) (mX53_init a0 a1 M r h) (hX53_init) 0 rfl (L0 := [(0, .ref a0), (1, .int a1)]) (fun E => fe_args_e E [.ref a0, .int a1] 0) ((eX53_init FX53_init_0 a0 a1 M).trans h) (fe_kv_k r) (fun H hR => fs_nr_o (by decide) (by decide)) ?_
  intro p e s m args below meth c Q C hnm
  have hw : s0.WarmedH s.vm := C.2.2.2.2.1
  refine fe_all C fk_hwr cX53_init [1, 6] (by decide +kernel) (fe_fil (cps := [(1, 4, .invokevirtual 4255804), (6, 9, .putfield 621002995)]) (by decide +kernel) ?_)
  refine fs_c1 (fs_inv_virtual (pc := 1) (n := 4255804) C (Nat.le_of_ble_eq_true rfl) (Nat.le_of_ble_eq_true rfl) (fs_lk_init (idx := 3) (y := ⟨"BoardMachine$Integers$Action", "<init>", "()V"⟩) (bytes := prog_59_method_1_code) (maxL := 1) (d := 1) C (Nat.le_of_ble_eq_true rfl) (Nat.le_of_ble_eq_true rfl) (by decide +kernel) (kw K hw q1312) (kw K hw q361) (kw K hw q1311) (Or.inr ⟨_, kM K hw q1327⟩) rfl ⟨by decide, by decide⟩ rfl (Nat.le_of_ble_eq_true rfl) (Nat.le_of_ble_eq_true rfl)) fs_con_mono o0) ?_
  refine fs_c1 (fs_putf (pc := 6) (n := 621002995) (idx := 9) (ref := "BoardMachine$Integers$Upper") (O := "BoardMachine$Integers$Upper") (name := "fromCounter") (desc := "Z") (fin := true) (ty := .boolean) C (by decide +kernel) (Or.inr ⟨rfl, kw K hw q1328, hnm, rfl⟩) (fun _ h => h) (Nat.le_of_ble_eq_true rfl) (Nat.le_of_ble_eq_true rfl) (Nat.le_of_ble_eq_true rfl) rfl rfl (by decide) (fs_one (⟨rfl, ff_60_148 s0 H0 oa D⟩))) ?_
  exact fs_c0
theorem hX54_init : fe_H (sX54_init FX50_init) cX54_init [0] fe_kv [] 20 (fun _ => dX54_init FX54_init_0) := by
  intro j pc L st M r hc h
  rcases fe_mem_c hc with rfl | hc
  · obtain ⟨w0, m0, h⟩ := fe_lR_d h
    obtain ⟨w1, m1, h⟩ := fe_lI_d h
    obtain ⟨rfl, hz⟩ := fe_t0_d h
    exact ⟨[(0, .ref w0), (1, .int w1)], (fe_cs m0 (fe_cs m1 fe_nl)), Or.inr ((bX54_init_0 FX50_init FX54_init_0 w0 w1 M).symm.trans hz)⟩
  exact fe_mem_0 hc
theorem vX54_init : fe_SB (sX54_init FX50_init) := by
  refine ⟨?_, ?_, ?_, ?_⟩
  · intro i As M r h
    rcases fe_bc h with h | h
    · obtain ⟨v0, t0, rfl, g0⟩ := fe_tR_d h
      obtain ⟨rfl, hz⟩ := fe_t0_d g0
      exact mX50_init v0 M r hz
    exact fe_no h
  · intro i As M r h
    exact fe_no h
  · intro i As M r h
    exact fe_no h
  · intro i As M r h
    exact fe_no h
theorem eX54_init (g0 : Nat → Int32 → FM → Option (FM)) (a0 : Nat) (a1 : Int32) (M : FM) : dX54_init g0 0 [(0, .ref a0), (1, .int a1)] [] M = g0 a0 a1 M := by rfl
theorem mX54_init (a0 : Nat) (a1 : Int32) (M : FM) (r : FM) (h : FX54_init a0 a1 M = some r) : fm_nx M ≤ fm_nx r ∧ fm_ns M ≤ fm_ns r :=
  fe_mono (L0 := [(0, .ref a0), (1, .int a1)]) (vX54_init) (by decide +kernel) (hX54_init) (fe_kv_k r) 0 rfl ((eX54_init FX54_init_0 a0 a1 M).trans h)
theorem zX54_init {s0 : State} {H0 : Heap} {oa : Nat → Nat} {D : va_G} (K : fk s0 H0 oa D) (l : Launch) (a0 : Nat) (a1 : Int32) (M : FM) (r : FM) (h : FX54_init a0 a1 M = some r) : fs_Con (fk_E s0 H0 oa D) l 2 ⟨"BoardMachine$Integers$Jump", "<init>", "(Z)V"⟩ prog_70_method_1_code 2 (Option.none : Option Jvm.ClassFile.FieldType) [.ref a0, .int a1] M none r := by
  have o0 : fs_OS (sX54_init FX50_init) 0 0 (fs_Con (fk_E s0 H0 oa D) l 1 ⟨"BoardMachine$Integers$Action", "<init>", "()V"⟩ prog_59_method_1_code 1 (Option.none : Option Jvm.ClassFile.FieldType)) := by
    intro As M r h
    obtain ⟨v0, t0, rfl, g0⟩ := fe_tR_d h
    obtain ⟨rfl, hz⟩ := fe_t0_d g0
    exact zX50_init K l v0 M r hz
  refine fs_method (own := "BoardMachine$Integers$Jump") rfl (by decide) K.2.1 (by rw [fe_slen]; exact (Nat.le_of_ble_eq_true rfl)) (mX54_init a0 a1 M r h) (hX54_init) 0 rfl (L0 := [(0, .ref a0), (1, .int a1)]) (fun E => fe_args_e E [.ref a0, .int a1] 0) ((eX54_init FX54_init_0 a0 a1 M).trans h) (fe_kv_k r) (fun H hR => fs_nr_o (by decide) (by decide)) ?_
  intro p e s m args below meth c Q C hnm
  have hw : s0.WarmedH s.vm := C.2.2.2.2.1
  refine fe_all C fk_hwr cX54_init [1, 6] (by decide +kernel) (fe_fil (cps := [(1, 4, .invokevirtual 4254779), (6, 9, .putfield 616804591)]) (by decide +kernel) ?_)
  refine fs_c1 (fs_inv_virtual (pc := 1) (n := 4254779) C (Nat.le_of_ble_eq_true rfl) (Nat.le_of_ble_eq_true rfl) (fs_lk_init (idx := 3) (y := ⟨"BoardMachine$Integers$Action", "<init>", "()V"⟩) (bytes := prog_59_method_1_code) (maxL := 1) (d := 1) C (Nat.le_of_ble_eq_true rfl) (Nat.le_of_ble_eq_true rfl) (by decide +kernel) (kw K hw q1312) (kw K hw q361) (kw K hw q1311) (Or.inr ⟨_, kM K hw q1337⟩) rfl ⟨by decide, by decide⟩ rfl (Nat.le_of_ble_eq_true rfl) (Nat.le_of_ble_eq_true rfl)) fs_con_mono o0) ?_
  refine fs_c1 (fs_putf (pc := 6) (n := 616804591) (idx := 9) (ref := "BoardMachine$Integers$Jump") (O := "BoardMachine$Integers$Jump") (name := "byRegister") (desc := "Z") (fin := true) (ty := .boolean) C (by decide +kernel) (Or.inr ⟨rfl, kw K hw q1338, hnm, rfl⟩) (fun _ h => h) (Nat.le_of_ble_eq_true rfl) (Nat.le_of_ble_eq_true rfl) (Nat.le_of_ble_eq_true rfl) rfl rfl (by decide) (fs_one (⟨rfl, ff_59_147 s0 H0 oa D⟩))) ?_
  exact fs_c0
theorem hX55_init : fe_H (sX55_init FX50_init) cX55_init [0] fe_kv [] 20 (fun _ => dX55_init FX55_init_0) := by
  intro j pc L st M r hc h
  rcases fe_mem_c hc with rfl | hc
  · obtain ⟨w0, m0, h⟩ := fe_lR_d h
    obtain ⟨rfl, hz⟩ := fe_t0_d h
    exact ⟨[(0, .ref w0)], (fe_cs m0 fe_nl), Or.inr ((bX55_init_0 FX50_init FX55_init_0 w0 M).symm.trans hz)⟩
  exact fe_mem_0 hc
theorem vX55_init : fe_SB (sX55_init FX50_init) := by
  refine ⟨?_, ?_, ?_, ?_⟩
  · intro i As M r h
    rcases fe_bc h with h | h
    · obtain ⟨v0, t0, rfl, g0⟩ := fe_tR_d h
      obtain ⟨rfl, hz⟩ := fe_t0_d g0
      exact mX50_init v0 M r hz
    exact fe_no h
  · intro i As M r h
    exact fe_no h
  · intro i As M r h
    exact fe_no h
  · intro i As M r h
    exact fe_no h
theorem eX55_init (g0 : Nat → FM → Option (FM)) (a0 : Nat) (M : FM) : dX55_init g0 0 [(0, .ref a0)] [] M = g0 a0 M := by rfl
theorem mX55_init (a0 : Nat) (M : FM) (r : FM) (h : FX55_init a0 M = some r) : fm_nx M ≤ fm_nx r ∧ fm_ns M ≤ fm_ns r :=
  fe_mono (L0 := [(0, .ref a0)]) (vX55_init) (by decide +kernel) (hX55_init) (fe_kv_k r) 0 rfl ((eX55_init FX55_init_0 a0 M).trans h)
theorem zX55_init {s0 : State} {H0 : Heap} {oa : Nat → Nat} {D : va_G} (K : fk s0 H0 oa D) (l : Launch) (a0 : Nat) (M : FM) (r : FM) (h : FX55_init a0 M = some r) : fs_Con (fk_E s0 H0 oa D) l 2 ⟨"BoardMachine$Integers$Branch", "<init>", "()V"⟩ prog_61_method_1_code 1 (Option.none : Option Jvm.ClassFile.FieldType) [.ref a0] M none r := by
  have o0 : fs_OS (sX55_init FX50_init) 0 0 (fs_Con (fk_E s0 H0 oa D) l 1 ⟨"BoardMachine$Integers$Action", "<init>", "()V"⟩ prog_59_method_1_code 1 (Option.none : Option Jvm.ClassFile.FieldType)) := by
    intro As M r h
    obtain ⟨v0, t0, rfl, g0⟩ := fe_tR_d h
    obtain ⟨rfl, hz⟩ := fe_t0_d g0
    exact zX50_init K l v0 M r hz
  refine fs_method (own := "BoardMachine$Integers$Branch") rfl (by decide) K.2.1 (by rw [fe_slen]; exact (Nat.le_of_ble_eq_true rfl)) (mX55_init a0 M r h) (hX55_init) 0 rfl (L0 := [(0, .ref a0)]) (fun E => fe_args_e E [.ref a0] 0) ((eX55_init FX55_init_0 a0 M).trans h) (fe_kv_k r) (fun H hR => fs_nr_o (by decide) (by decide)) ?_
  intro p e s m args below meth c Q C hnm
  have hw : s0.WarmedH s.vm := C.2.2.2.2.1
  refine fe_all C fk_hwr cX55_init [1] (by decide +kernel) (fe_fil (cps := [(1, 4, .invokevirtual 4249654)]) (by decide +kernel) ?_)
  refine fs_c1 (fs_inv_virtual (pc := 1) (n := 4249654) C (Nat.le_of_ble_eq_true rfl) (Nat.le_of_ble_eq_true rfl) (fs_lk_init (idx := 3) (y := ⟨"BoardMachine$Integers$Action", "<init>", "()V"⟩) (bytes := prog_59_method_1_code) (maxL := 1) (d := 1) C (Nat.le_of_ble_eq_true rfl) (Nat.le_of_ble_eq_true rfl) (by decide +kernel) (kw K hw q1312) (kw K hw q361) (kw K hw q1311) (Or.inr ⟨_, kM K hw q1347⟩) rfl ⟨by decide, by decide⟩ rfl (Nat.le_of_ble_eq_true rfl) (Nat.le_of_ble_eq_true rfl)) fs_con_mono o0) ?_
  exact fs_c0
theorem hX56_init : fe_H (sX56_init FX50_init) cX56_init [0] fe_kv [] 20 (fun _ => dX56_init FX56_init_0) := by
  intro j pc L st M r hc h
  rcases fe_mem_c hc with rfl | hc
  · obtain ⟨w0, m0, h⟩ := fe_lR_d h
    obtain ⟨rfl, hz⟩ := fe_t0_d h
    exact ⟨[(0, .ref w0)], (fe_cs m0 fe_nl), Or.inr ((bX56_init_0 FX50_init FX56_init_0 w0 M).symm.trans hz)⟩
  exact fe_mem_0 hc
theorem vX56_init : fe_SB (sX56_init FX50_init) := by
  refine ⟨?_, ?_, ?_, ?_⟩
  · intro i As M r h
    rcases fe_bc h with h | h
    · obtain ⟨v0, t0, rfl, g0⟩ := fe_tR_d h
      obtain ⟨rfl, hz⟩ := fe_t0_d g0
      exact mX50_init v0 M r hz
    exact fe_no h
  · intro i As M r h
    exact fe_no h
  · intro i As M r h
    exact fe_no h
  · intro i As M r h
    exact fe_no h
theorem eX56_init (g0 : Nat → FM → Option (FM)) (a0 : Nat) (M : FM) : dX56_init g0 0 [(0, .ref a0)] [] M = g0 a0 M := by rfl
theorem mX56_init (a0 : Nat) (M : FM) (r : FM) (h : FX56_init a0 M = some r) : fm_nx M ≤ fm_nx r ∧ fm_ns M ≤ fm_ns r :=
  fe_mono (L0 := [(0, .ref a0)]) (vX56_init) (by decide +kernel) (hX56_init) (fe_kv_k r) 0 rfl ((eX56_init FX56_init_0 a0 M).trans h)
theorem zX56_init {s0 : State} {H0 : Heap} {oa : Nat → Nat} {D : va_G} (K : fk s0 H0 oa D) (l : Launch) (a0 : Nat) (M : FM) (r : FM) (h : FX56_init a0 M = some r) : fs_Con (fk_E s0 H0 oa D) l 2 ⟨"BoardMachine$Integers$Compute", "<init>", "()V"⟩ prog_62_method_1_code 1 (Option.none : Option Jvm.ClassFile.FieldType) [.ref a0] M none r := by
  have o0 : fs_OS (sX56_init FX50_init) 0 0 (fs_Con (fk_E s0 H0 oa D) l 1 ⟨"BoardMachine$Integers$Action", "<init>", "()V"⟩ prog_59_method_1_code 1 (Option.none : Option Jvm.ClassFile.FieldType)) := by
    intro As M r h
    obtain ⟨v0, t0, rfl, g0⟩ := fe_tR_d h
    obtain ⟨rfl, hz⟩ := fe_t0_d g0
    exact zX50_init K l v0 M r hz
  refine fs_method (own := "BoardMachine$Integers$Compute") rfl (by decide) K.2.1 (by rw [fe_slen]; exact (Nat.le_of_ble_eq_true rfl)) (mX56_init a0 M r h) (hX56_init) 0 rfl (L0 := [(0, .ref a0)]) (fun E => fe_args_e E [.ref a0] 0) ((eX56_init FX56_init_0 a0 M).trans h) (fe_kv_k r) (fun H hR => fs_nr_o (by decide) (by decide)) ?_
  intro p e s m args below meth c Q C hnm
  have hw : s0.WarmedH s.vm := C.2.2.2.2.1
  refine fe_all C fk_hwr cX56_init [1] (by decide +kernel) (fe_fil (cps := [(1, 4, .invokevirtual 4250679)]) (by decide +kernel) ?_)
  refine fs_c1 (fs_inv_virtual (pc := 1) (n := 4250679) C (Nat.le_of_ble_eq_true rfl) (Nat.le_of_ble_eq_true rfl) (fs_lk_init (idx := 3) (y := ⟨"BoardMachine$Integers$Action", "<init>", "()V"⟩) (bytes := prog_59_method_1_code) (maxL := 1) (d := 1) C (Nat.le_of_ble_eq_true rfl) (Nat.le_of_ble_eq_true rfl) (by decide +kernel) (kw K hw q1312) (kw K hw q361) (kw K hw q1311) (Or.inr ⟨_, kM K hw q1354⟩) rfl ⟨by decide, by decide⟩ rfl (Nat.le_of_ble_eq_true rfl) (Nat.le_of_ble_eq_true rfl)) fs_con_mono o0) ?_
  exact fs_c0
theorem hX57_init : fe_H (sX57_init FX50_init) cX57_init [0] fe_kv [] 20 (fun _ => dX57_init FX57_init_0) := by
  intro j pc L st M r hc h
  rcases fe_mem_c hc with rfl | hc
  · obtain ⟨w0, m0, h⟩ := fe_lR_d h
    obtain ⟨rfl, hz⟩ := fe_t0_d h
    exact ⟨[(0, .ref w0)], (fe_cs m0 fe_nl), Or.inr ((bX57_init_0 FX50_init FX57_init_0 w0 M).symm.trans hz)⟩
  exact fe_mem_0 hc
theorem vX57_init : fe_SB (sX57_init FX50_init) := by
  refine ⟨?_, ?_, ?_, ?_⟩
  · intro i As M r h
    rcases fe_bc h with h | h
    · obtain ⟨v0, t0, rfl, g0⟩ := fe_tR_d h
      obtain ⟨rfl, hz⟩ := fe_t0_d g0
      exact mX50_init v0 M r hz
    exact fe_no h
  · intro i As M r h
    exact fe_no h
  · intro i As M r h
    exact fe_no h
  · intro i As M r h
    exact fe_no h
theorem eX57_init (g0 : Nat → FM → Option (FM)) (a0 : Nat) (M : FM) : dX57_init g0 0 [(0, .ref a0)] [] M = g0 a0 M := by rfl
theorem mX57_init (a0 : Nat) (M : FM) (r : FM) (h : FX57_init a0 M = some r) : fm_nx M ≤ fm_nx r ∧ fm_ns M ≤ fm_ns r :=
  fe_mono (L0 := [(0, .ref a0)]) (vX57_init) (by decide +kernel) (hX57_init) (fe_kv_k r) 0 rfl ((eX57_init FX57_init_0 a0 M).trans h)
theorem zX57_init {s0 : State} {H0 : Heap} {oa : Nat → Nat} {D : va_G} (K : fk s0 H0 oa D) (l : Launch) (a0 : Nat) (M : FM) (r : FM) (h : FX57_init a0 M = some r) : fs_Con (fk_E s0 H0 oa D) l 2 ⟨"BoardMachine$Integers$Access", "<init>", "()V"⟩ prog_58_method_1_code 1 (Option.none : Option Jvm.ClassFile.FieldType) [.ref a0] M none r := by
  have o0 : fs_OS (sX57_init FX50_init) 0 0 (fs_Con (fk_E s0 H0 oa D) l 1 ⟨"BoardMachine$Integers$Action", "<init>", "()V"⟩ prog_59_method_1_code 1 (Option.none : Option Jvm.ClassFile.FieldType)) := by
    intro As M r h
    obtain ⟨v0, t0, rfl, g0⟩ := fe_tR_d h
    obtain ⟨rfl, hz⟩ := fe_t0_d g0
    exact zX50_init K l v0 M r hz
  refine fs_method (own := "BoardMachine$Integers$Access") rfl (by decide) K.2.1 (by rw [fe_slen]; exact (Nat.le_of_ble_eq_true rfl)) (mX57_init a0 M r h) (hX57_init) 0 rfl (L0 := [(0, .ref a0)]) (fun E => fe_args_e E [.ref a0] 0) ((eX57_init FX57_init_0 a0 M).trans h) (fe_kv_k r) (fun H hR => fs_nr_o (by decide) (by decide)) ?_
  intro p e s m args below meth c Q C hnm
  have hw : s0.WarmedH s.vm := C.2.2.2.2.1
  refine fe_all C fk_hwr cX57_init [1] (by decide +kernel) (fe_fil (cps := [(1, 4, .invokevirtual 4248629)]) (by decide +kernel) ?_)
  refine fs_c1 (fs_inv_virtual (pc := 1) (n := 4248629) C (Nat.le_of_ble_eq_true rfl) (Nat.le_of_ble_eq_true rfl) (fs_lk_init (idx := 3) (y := ⟨"BoardMachine$Integers$Action", "<init>", "()V"⟩) (bytes := prog_59_method_1_code) (maxL := 1) (d := 1) C (Nat.le_of_ble_eq_true rfl) (Nat.le_of_ble_eq_true rfl) (by decide +kernel) (kw K hw q1312) (kw K hw q361) (kw K hw q1311) (Or.inr ⟨_, kM K hw q1361⟩) rfl ⟨by decide, by decide⟩ rfl (Nat.le_of_ble_eq_true rfl) (Nat.le_of_ble_eq_true rfl)) fs_con_mono o0) ?_
  exact fs_c0
theorem hX58_init : fe_H (sX58_init FX50_init) cX58_init [0] fe_kv [] 20 (fun _ => dX58_init FX58_init_0) := by
  intro j pc L st M r hc h
  rcases fe_mem_c hc with rfl | hc
  · obtain ⟨w0, m0, h⟩ := fe_lR_d h
    obtain ⟨rfl, hz⟩ := fe_t0_d h
    exact ⟨[(0, .ref w0)], (fe_cs m0 fe_nl), Or.inr ((bX58_init_0 FX50_init FX58_init_0 w0 M).symm.trans hz)⟩
  exact fe_mem_0 hc
theorem vX58_init : fe_SB (sX58_init FX50_init) := by
  refine ⟨?_, ?_, ?_, ?_⟩
  · intro i As M r h
    rcases fe_bc h with h | h
    · obtain ⟨v0, t0, rfl, g0⟩ := fe_tR_d h
      obtain ⟨rfl, hz⟩ := fe_t0_d g0
      exact mX50_init v0 M r hz
    exact fe_no h
  · intro i As M r h
    exact fe_no h
  · intro i As M r h
    exact fe_no h
  · intro i As M r h
    exact fe_no h
theorem eX58_init (g0 : Nat → FM → Option (FM)) (a0 : Nat) (M : FM) : dX58_init g0 0 [(0, .ref a0)] [] M = g0 a0 M := by rfl
theorem mX58_init (a0 : Nat) (M : FM) (r : FM) (h : FX58_init a0 M = some r) : fm_nx M ≤ fm_nx r ∧ fm_ns M ≤ fm_ns r :=
  fe_mono (L0 := [(0, .ref a0)]) (vX58_init) (by decide +kernel) (hX58_init) (fe_kv_k r) 0 rfl ((eX58_init FX58_init_0 a0 M).trans h)
theorem zX58_init {s0 : State} {H0 : Heap} {oa : Nat → Nat} {D : va_G} (K : fk s0 H0 oa D) (l : Launch) (a0 : Nat) (M : FM) (r : FM) (h : FX58_init a0 M = some r) : fs_Con (fk_E s0 H0 oa D) l 2 ⟨"BoardMachine$Integers$Foreign", "<init>", "()V"⟩ prog_67_method_1_code 1 (Option.none : Option Jvm.ClassFile.FieldType) [.ref a0] M none r := by
  have o0 : fs_OS (sX58_init FX50_init) 0 0 (fs_Con (fk_E s0 H0 oa D) l 1 ⟨"BoardMachine$Integers$Action", "<init>", "()V"⟩ prog_59_method_1_code 1 (Option.none : Option Jvm.ClassFile.FieldType)) := by
    intro As M r h
    obtain ⟨v0, t0, rfl, g0⟩ := fe_tR_d h
    obtain ⟨rfl, hz⟩ := fe_t0_d g0
    exact zX50_init K l v0 M r hz
  refine fs_method (own := "BoardMachine$Integers$Foreign") rfl (by decide) K.2.1 (by rw [fe_slen]; exact (Nat.le_of_ble_eq_true rfl)) (mX58_init a0 M r h) (hX58_init) 0 rfl (L0 := [(0, .ref a0)]) (fun E => fe_args_e E [.ref a0] 0) ((eX58_init FX58_init_0 a0 M).trans h) (fe_kv_k r) (fun H hR => fs_nr_o (by decide) (by decide)) ?_
  intro p e s m args below meth c Q C hnm
  have hw : s0.WarmedH s.vm := C.2.2.2.2.1
  refine fe_all C fk_hwr cX58_init [1] (by decide +kernel) (fe_fil (cps := [(1, 4, .invokevirtual 4252729)]) (by decide +kernel) ?_)
  refine fs_c1 (fs_inv_virtual (pc := 1) (n := 4252729) C (Nat.le_of_ble_eq_true rfl) (Nat.le_of_ble_eq_true rfl) (fs_lk_init (idx := 1) (y := ⟨"BoardMachine$Integers$Action", "<init>", "()V"⟩) (bytes := prog_59_method_1_code) (maxL := 1) (d := 1) C (Nat.le_of_ble_eq_true rfl) (Nat.le_of_ble_eq_true rfl) (by decide +kernel) (kw K hw q1312) (kw K hw q361) (kw K hw q1311) (Or.inr ⟨_, kM K hw q1368⟩) rfl ⟨by decide, by decide⟩ rfl (Nat.le_of_ble_eq_true rfl) (Nat.le_of_ble_eq_true rfl)) fs_con_mono o0) ?_
  exact fs_c0
theorem hX49_init : fe_H (sX49_init FX51_init FX52_init FX53_init FX54_init FX55_init FX56_init FX57_init FX58_init) cX49_init [0] fe_kv [] 62 (fun _ => dX49_init FX49_init_0) := by
  intro j pc L st M r hc h
  rcases fe_mem_c hc with rfl | hc
  · obtain ⟨w0, m0, h⟩ := fe_lR_d h
    obtain ⟨rfl, hz⟩ := fe_t0_d h
    exact ⟨[(0, .ref w0)], (fe_cs m0 fe_nl), Or.inr ((bX49_init_0 FX51_init FX52_init FX53_init FX54_init FX55_init FX56_init FX57_init FX58_init FX49_init_0 w0 M).symm.trans hz)⟩
  exact fe_mem_0 hc
theorem vX49_init : fe_SB (sX49_init FX51_init FX52_init FX53_init FX54_init FX55_init FX56_init FX57_init FX58_init) := by
  refine ⟨?_, ?_, ?_, ?_⟩
  · intro i As M r h
    rcases fe_bc h with h | h
    · obtain ⟨v0, t0, rfl, g0⟩ := fe_tR_d h
      obtain ⟨rfl, hz⟩ := fe_t0_d g0
      exact mX51_init v0 M r hz
    rcases fe_bc h with h | h
    · obtain ⟨v0, t0, rfl, g0⟩ := fe_tR_d h
      obtain ⟨rfl, hz⟩ := fe_t0_d g0
      exact mX52_init v0 M r hz
    rcases fe_bc h with h | h
    · obtain ⟨v0, t0, rfl, g0⟩ := fe_tR_d h
      obtain ⟨v1, t1, rfl, g1⟩ := fe_tI_d g0
      obtain ⟨rfl, hz⟩ := fe_t0_d g1
      exact mX53_init v0 v1 M r hz
    rcases fe_bc h with h | h
    · obtain ⟨v0, t0, rfl, g0⟩ := fe_tR_d h
      obtain ⟨v1, t1, rfl, g1⟩ := fe_tI_d g0
      obtain ⟨rfl, hz⟩ := fe_t0_d g1
      exact mX54_init v0 v1 M r hz
    rcases fe_bc h with h | h
    · obtain ⟨v0, t0, rfl, g0⟩ := fe_tR_d h
      obtain ⟨rfl, hz⟩ := fe_t0_d g0
      exact mX55_init v0 M r hz
    rcases fe_bc h with h | h
    · obtain ⟨v0, t0, rfl, g0⟩ := fe_tR_d h
      obtain ⟨rfl, hz⟩ := fe_t0_d g0
      exact mX56_init v0 M r hz
    rcases fe_bc h with h | h
    · obtain ⟨v0, t0, rfl, g0⟩ := fe_tR_d h
      obtain ⟨rfl, hz⟩ := fe_t0_d g0
      exact mX57_init v0 M r hz
    rcases fe_bc h with h | h
    · obtain ⟨v0, t0, rfl, g0⟩ := fe_tR_d h
      obtain ⟨rfl, hz⟩ := fe_t0_d g0
      exact mX58_init v0 M r hz
    exact fe_no h
  · intro i As M r h
    exact fe_no h
  · intro i As M r h
    exact fe_no h
  · intro i As M r h
    exact fe_no h
theorem eX49_init (g0 : Nat → FM → Option (FM)) (a0 : Nat) (M : FM) : dX49_init g0 0 [(0, .ref a0)] [] M = g0 a0 M := by rfl
theorem mX49_init (a0 : Nat) (M : FM) (r : FM) (h : FX49_init a0 M = some r) : fm_nx M ≤ fm_nx r ∧ fm_ns M ≤ fm_ns r :=
  fe_mono (L0 := [(0, .ref a0)]) (vX49_init) (by decide +kernel) (hX49_init) (fe_kv_k r) 0 rfl ((eX49_init FX49_init_0 a0 M).trans h)
theorem zX49_init {s0 : State} {H0 : Heap} {oa : Nat → Nat} {D : va_G} (K : fk s0 H0 oa D) (l : Launch) (a0 : Nat) (M : FM) (r : FM) (h : FX49_init a0 M = some r) : fs_Con (fk_E s0 H0 oa D) l 3 ⟨"BoardMachine$Integers$Decoder", "<init>", "()V"⟩ prog_64_method_1_code 1 (Option.none : Option Jvm.ClassFile.FieldType) [.ref a0] M none r := by
  have o0 : fs_OS (sX49_init FX51_init FX52_init FX53_init FX54_init FX55_init FX56_init FX57_init FX58_init) 0 0 (fs_Con (fk_E s0 H0 oa D) l 2 ⟨"BoardMachine$Integers$Illegal", "<init>", "()V"⟩ prog_68_method_1_code 1 (Option.none : Option Jvm.ClassFile.FieldType)) := by
    intro As M r h
    obtain ⟨v0, t0, rfl, g0⟩ := fe_tR_d h
    obtain ⟨rfl, hz⟩ := fe_t0_d g0
    exact zX51_init K l v0 M r hz
  have o1 : fs_OS (sX49_init FX51_init FX52_init FX53_init FX54_init FX55_init FX56_init FX57_init FX58_init) 1 0 (fs_Con (fk_E s0 H0 oa D) l 2 ⟨"BoardMachine$Integers$Fence", "<init>", "()V"⟩ prog_65_method_1_code 1 (Option.none : Option Jvm.ClassFile.FieldType)) := by
    intro As M r h
    obtain ⟨v0, t0, rfl, g0⟩ := fe_tR_d h
    obtain ⟨rfl, hz⟩ := fe_t0_d g0
    exact zX52_init K l v0 M r hz
  have o2 : fs_OS (sX49_init FX51_init FX52_init FX53_init FX54_init FX55_init FX56_init FX57_init FX58_init) 2 0 (fs_Con (fk_E s0 H0 oa D) l 2 ⟨"BoardMachine$Integers$Upper", "<init>", "(Z)V"⟩ prog_73_method_1_code 2 (Option.none : Option Jvm.ClassFile.FieldType)) := by
    intro As M r h
    obtain ⟨v0, t0, rfl, g0⟩ := fe_tR_d h
    obtain ⟨v1, t1, rfl, g1⟩ := fe_tI_d g0
    obtain ⟨rfl, hz⟩ := fe_t0_d g1
    exact zX53_init K l v0 v1 M r hz
  have o3 : fs_OS (sX49_init FX51_init FX52_init FX53_init FX54_init FX55_init FX56_init FX57_init FX58_init) 3 0 (fs_Con (fk_E s0 H0 oa D) l 2 ⟨"BoardMachine$Integers$Jump", "<init>", "(Z)V"⟩ prog_70_method_1_code 2 (Option.none : Option Jvm.ClassFile.FieldType)) := by
    intro As M r h
    obtain ⟨v0, t0, rfl, g0⟩ := fe_tR_d h
    obtain ⟨v1, t1, rfl, g1⟩ := fe_tI_d g0
    obtain ⟨rfl, hz⟩ := fe_t0_d g1
    exact zX54_init K l v0 v1 M r hz
  have o4 : fs_OS (sX49_init FX51_init FX52_init FX53_init FX54_init FX55_init FX56_init FX57_init FX58_init) 4 0 (fs_Con (fk_E s0 H0 oa D) l 2 ⟨"BoardMachine$Integers$Branch", "<init>", "()V"⟩ prog_61_method_1_code 1 (Option.none : Option Jvm.ClassFile.FieldType)) := by
    intro As M r h
    obtain ⟨v0, t0, rfl, g0⟩ := fe_tR_d h
    obtain ⟨rfl, hz⟩ := fe_t0_d g0
    exact zX55_init K l v0 M r hz
  have o5 : fs_OS (sX49_init FX51_init FX52_init FX53_init FX54_init FX55_init FX56_init FX57_init FX58_init) 5 0 (fs_Con (fk_E s0 H0 oa D) l 2 ⟨"BoardMachine$Integers$Compute", "<init>", "()V"⟩ prog_62_method_1_code 1 (Option.none : Option Jvm.ClassFile.FieldType)) := by
    intro As M r h
    obtain ⟨v0, t0, rfl, g0⟩ := fe_tR_d h
    obtain ⟨rfl, hz⟩ := fe_t0_d g0
    exact zX56_init K l v0 M r hz
  have o6 : fs_OS (sX49_init FX51_init FX52_init FX53_init FX54_init FX55_init FX56_init FX57_init FX58_init) 6 0 (fs_Con (fk_E s0 H0 oa D) l 2 ⟨"BoardMachine$Integers$Access", "<init>", "()V"⟩ prog_58_method_1_code 1 (Option.none : Option Jvm.ClassFile.FieldType)) := by
    intro As M r h
    obtain ⟨v0, t0, rfl, g0⟩ := fe_tR_d h
    obtain ⟨rfl, hz⟩ := fe_t0_d g0
    exact zX57_init K l v0 M r hz
  have o7 : fs_OS (sX49_init FX51_init FX52_init FX53_init FX54_init FX55_init FX56_init FX57_init FX58_init) 7 0 (fs_Con (fk_E s0 H0 oa D) l 2 ⟨"BoardMachine$Integers$Foreign", "<init>", "()V"⟩ prog_67_method_1_code 1 (Option.none : Option Jvm.ClassFile.FieldType)) := by
    intro As M r h
    obtain ⟨v0, t0, rfl, g0⟩ := fe_tR_d h
    obtain ⟨rfl, hz⟩ := fe_t0_d g0
    exact zX58_init K l v0 M r hz
  refine fs_method (own := "BoardMachine$Integers$Decoder") rfl (by decide) K.2.1 (by rw [fe_slen]; exact (Nat.le_of_ble_eq_true rfl)) (mX49_init a0 M r h) (hX49_init) 0 rfl (L0 := [(0, .ref a0)]) (fun E => fe_args_e E [.ref a0] 0) ((eX49_init FX49_init_0 a0 M).trans h) (fe_kv_k r) (fun H hR => fs_nr_o (by decide) (by decide)) ?_
  intro p e s m args below meth c Q C hnm
  have hw : s0.WarmedH s.vm := C.2.2.2.2.1
  refine fe_all C fk_hwr cX49_init [1, 5, 9, 12, 16, 20, 23, 27, 32, 35, 39, 44, 47, 51, 56, 59, 63, 68, 71, 75, 79, 82, 86, 90, 93, 97, 101, 104, 108, 112, 115] (by decide +kernel) (fe_fil (cps := [(1, 4, .monitorenter), (5, 8, .new 3712), (9, 12, .invokevirtual 4253754), (12, 15, .putfield 675537146), (16, 19, .new 3584), (20, 23, .invokevirtual 71360568), (23, 26, .putfield 679731450), (27, 30, .new 3841), (32, 35, .invokevirtual 142667836), (35, 38, .putfield 683925754), (39, 42, .new 3841), (44, 47, .invokevirtual 142667836), (47, 50, .putfield 688120058), (51, 54, .new 3777), (56, 59, .invokevirtual 209775675), (59, 62, .putfield 692314362), (63, 66, .new 3777), (68, 71, .invokevirtual 209775675), (71, 74, .putfield 696508666), (75, 78, .new 3456), (79, 82, .invokevirtual 272685110), (82, 85, .putfield 700702970), (86, 89, .new 3520), (90, 93, .invokevirtual 339794999), (93, 96, .putfield 704897274), (97, 100, .new 3392), (101, 104, .invokevirtual 406901813), (104, 107, .putfield 709091578), (108, 111, .new 3648), (112, 115, .invokevirtual 474014777), (115, 118, .putfield 713285882)]) (by decide +kernel) ?_)
  refine fs_c1 (fs_init (pc := 1) (idx := 3) C (by decide +kernel) (kw K hw q1304) (kw K hw q441) (kw K hw q442) ⟨(Nat.le_of_ble_eq_true rfl), (Nat.le_of_ble_eq_true rfl)⟩) ?_
  refine fs_c1 (fs_newo (pc := 5) (n := 3712) (idx := 9) (CC := "BoardMachine$Integers$Illegal") (T := fT_58) (N := 0) C (by decide +kernel) (kw K hw q1305) (kw K hw q1306) (kw K hw q362) (by decide) (Nat.le_of_ble_eq_true rfl) rfl rfl) ?_
  refine fs_c1 (fs_inv_virtual (pc := 9) (n := 4253754) C (Nat.le_of_ble_eq_true rfl) (Nat.le_of_ble_eq_true rfl) (fs_lk_init (idx := 11) (y := ⟨"BoardMachine$Integers$Illegal", "<init>", "()V"⟩) (bytes := prog_68_method_1_code) (maxL := 1) (d := 2) C (Nat.le_of_ble_eq_true rfl) (Nat.le_of_ble_eq_true rfl) (by decide +kernel) (kw K hw q1309) (kw K hw q362) (kw K hw q1308) (Or.inr ⟨_, kM K hw q1307⟩) rfl ⟨by decide, by decide⟩ rfl (Nat.le_of_ble_eq_true rfl) (Nat.le_of_ble_eq_true rfl)) fs_con_mono o0) ?_
  refine fs_c1 (fs_putf (pc := 12) (n := 675537146) (idx := 12) (ref := "BoardMachine$Integers$Decoder") (O := "BoardMachine$Integers$Decoder") (name := "illegal") (desc := "LBoardMachine$Integers$Action;") (fin := true) (ty := (.object "BoardMachine$Integers$Action")) C (by decide +kernel) (Or.inr ⟨rfl, kw K hw q1370, hnm, rfl⟩) (fun _ h => h) (Nat.le_of_ble_eq_true rfl) (Nat.le_of_ble_eq_true rfl) (Nat.le_of_ble_eq_true rfl) rfl rfl (by decide) (fs_one (⟨rfl, ff_62_161 s0 H0 oa D⟩))) ?_
  refine fs_c1 (fs_newo (pc := 16) (n := 3584) (idx := 18) (CC := "BoardMachine$Integers$Fence") (T := fT_56) (N := 0) C (by decide +kernel) (kw K hw q1315) (kw K hw q1316) (kw K hw q363) (by decide) (Nat.le_of_ble_eq_true rfl) rfl rfl) ?_
  refine fs_c1 (fs_inv_virtual (pc := 20) (n := 71360568) C (Nat.le_of_ble_eq_true rfl) (Nat.le_of_ble_eq_true rfl) (fs_lk_init (idx := 20) (y := ⟨"BoardMachine$Integers$Fence", "<init>", "()V"⟩) (bytes := prog_65_method_1_code) (maxL := 1) (d := 2) C (Nat.le_of_ble_eq_true rfl) (Nat.le_of_ble_eq_true rfl) (by decide +kernel) (kw K hw q1319) (kw K hw q363) (kw K hw q1318) (Or.inr ⟨_, kM K hw q1317⟩) rfl ⟨by decide, by decide⟩ rfl (Nat.le_of_ble_eq_true rfl) (Nat.le_of_ble_eq_true rfl)) fs_con_mono o1) ?_
  refine fs_c1 (fs_putf (pc := 23) (n := 679731450) (idx := 21) (ref := "BoardMachine$Integers$Decoder") (O := "BoardMachine$Integers$Decoder") (name := "fence") (desc := "LBoardMachine$Integers$Action;") (fin := true) (ty := (.object "BoardMachine$Integers$Action")) C (by decide +kernel) (Or.inr ⟨rfl, kw K hw q1371, hnm, rfl⟩) (fun _ h => h) (Nat.le_of_ble_eq_true rfl) (Nat.le_of_ble_eq_true rfl) (Nat.le_of_ble_eq_true rfl) rfl rfl (by decide) (fs_one (⟨rfl, ff_62_162 s0 H0 oa D⟩))) ?_
  refine fs_c1 (fs_newo (pc := 27) (n := 3841) (idx := 24) (CC := "BoardMachine$Integers$Upper") (T := fT_60) (N := 1) C (by decide +kernel) (kw K hw q1322) (kw K hw q1323) (kw K hw q364) (by decide) (Nat.le_of_ble_eq_true rfl) rfl rfl) ?_
  refine fs_c1 (fs_inv_virtual (pc := 32) (n := 142667836) C (Nat.le_of_ble_eq_true rfl) (Nat.le_of_ble_eq_true rfl) (fs_lk_init (idx := 26) (y := ⟨"BoardMachine$Integers$Upper", "<init>", "(Z)V"⟩) (bytes := prog_73_method_1_code) (maxL := 2) (d := 2) C (Nat.le_of_ble_eq_true rfl) (Nat.le_of_ble_eq_true rfl) (by decide +kernel) (kw K hw q1326) (kw K hw q364) (kw K hw q1325) (Or.inl (kw K hw q1324)) rfl ⟨by decide, by decide⟩ rfl (Nat.le_of_ble_eq_true rfl) (Nat.le_of_ble_eq_true rfl)) fs_con_mono o2) ?_
  refine fs_c1 (fs_putf (pc := 35) (n := 683925754) (idx := 29) (ref := "BoardMachine$Integers$Decoder") (O := "BoardMachine$Integers$Decoder") (name := "upper") (desc := "LBoardMachine$Integers$Action;") (fin := true) (ty := (.object "BoardMachine$Integers$Action")) C (by decide +kernel) (Or.inr ⟨rfl, kw K hw q1372, hnm, rfl⟩) (fun _ h => h) (Nat.le_of_ble_eq_true rfl) (Nat.le_of_ble_eq_true rfl) (Nat.le_of_ble_eq_true rfl) rfl rfl (by decide) (fs_one (⟨rfl, ff_62_163 s0 H0 oa D⟩))) ?_
  refine fs_c1 (fs_newo (pc := 39) (n := 3841) (idx := 24) (CC := "BoardMachine$Integers$Upper") (T := fT_60) (N := 1) C (by decide +kernel) (kw K hw q1322) (kw K hw q1323) (kw K hw q364) (by decide) (Nat.le_of_ble_eq_true rfl) rfl rfl) ?_
  refine fs_c1 (fs_inv_virtual (pc := 44) (n := 142667836) C (Nat.le_of_ble_eq_true rfl) (Nat.le_of_ble_eq_true rfl) (fs_lk_init (idx := 26) (y := ⟨"BoardMachine$Integers$Upper", "<init>", "(Z)V"⟩) (bytes := prog_73_method_1_code) (maxL := 2) (d := 2) C (Nat.le_of_ble_eq_true rfl) (Nat.le_of_ble_eq_true rfl) (by decide +kernel) (kw K hw q1326) (kw K hw q364) (kw K hw q1325) (Or.inl (kw K hw q1324)) rfl ⟨by decide, by decide⟩ rfl (Nat.le_of_ble_eq_true rfl) (Nat.le_of_ble_eq_true rfl)) fs_con_mono o2) ?_
  refine fs_c1 (fs_putf (pc := 47) (n := 688120058) (idx := 32) (ref := "BoardMachine$Integers$Decoder") (O := "BoardMachine$Integers$Decoder") (name := "upperFromCounter") (desc := "LBoardMachine$Integers$Action;") (fin := true) (ty := (.object "BoardMachine$Integers$Action")) C (by decide +kernel) (Or.inr ⟨rfl, kw K hw q1373, hnm, rfl⟩) (fun _ h => h) (Nat.le_of_ble_eq_true rfl) (Nat.le_of_ble_eq_true rfl) (Nat.le_of_ble_eq_true rfl) rfl rfl (by decide) (fs_one (⟨rfl, ff_62_164 s0 H0 oa D⟩))) ?_
  refine fs_c1 (fs_newo (pc := 51) (n := 3777) (idx := 35) (CC := "BoardMachine$Integers$Jump") (T := fT_59) (N := 1) C (by decide +kernel) (kw K hw q1332) (kw K hw q1333) (kw K hw q365) (by decide) (Nat.le_of_ble_eq_true rfl) rfl rfl) ?_
  refine fs_c1 (fs_inv_virtual (pc := 56) (n := 209775675) C (Nat.le_of_ble_eq_true rfl) (Nat.le_of_ble_eq_true rfl) (fs_lk_init (idx := 37) (y := ⟨"BoardMachine$Integers$Jump", "<init>", "(Z)V"⟩) (bytes := prog_70_method_1_code) (maxL := 2) (d := 2) C (Nat.le_of_ble_eq_true rfl) (Nat.le_of_ble_eq_true rfl) (by decide +kernel) (kw K hw q1336) (kw K hw q365) (kw K hw q1335) (Or.inl (kw K hw q1334)) rfl ⟨by decide, by decide⟩ rfl (Nat.le_of_ble_eq_true rfl) (Nat.le_of_ble_eq_true rfl)) fs_con_mono o3) ?_
  refine fs_c1 (fs_putf (pc := 59) (n := 692314362) (idx := 38) (ref := "BoardMachine$Integers$Decoder") (O := "BoardMachine$Integers$Decoder") (name := "jump") (desc := "LBoardMachine$Integers$Action;") (fin := true) (ty := (.object "BoardMachine$Integers$Action")) C (by decide +kernel) (Or.inr ⟨rfl, kw K hw q1374, hnm, rfl⟩) (fun _ h => h) (Nat.le_of_ble_eq_true rfl) (Nat.le_of_ble_eq_true rfl) (Nat.le_of_ble_eq_true rfl) rfl rfl (by decide) (fs_one (⟨rfl, ff_62_165 s0 H0 oa D⟩))) ?_
  refine fs_c1 (fs_newo (pc := 63) (n := 3777) (idx := 35) (CC := "BoardMachine$Integers$Jump") (T := fT_59) (N := 1) C (by decide +kernel) (kw K hw q1332) (kw K hw q1333) (kw K hw q365) (by decide) (Nat.le_of_ble_eq_true rfl) rfl rfl) ?_
  refine fs_c1 (fs_inv_virtual (pc := 68) (n := 209775675) C (Nat.le_of_ble_eq_true rfl) (Nat.le_of_ble_eq_true rfl) (fs_lk_init (idx := 37) (y := ⟨"BoardMachine$Integers$Jump", "<init>", "(Z)V"⟩) (bytes := prog_70_method_1_code) (maxL := 2) (d := 2) C (Nat.le_of_ble_eq_true rfl) (Nat.le_of_ble_eq_true rfl) (by decide +kernel) (kw K hw q1336) (kw K hw q365) (kw K hw q1335) (Or.inl (kw K hw q1334)) rfl ⟨by decide, by decide⟩ rfl (Nat.le_of_ble_eq_true rfl) (Nat.le_of_ble_eq_true rfl)) fs_con_mono o3) ?_
  refine fs_c1 (fs_putf (pc := 71) (n := 696508666) (idx := 41) (ref := "BoardMachine$Integers$Decoder") (O := "BoardMachine$Integers$Decoder") (name := "jumpByRegister") (desc := "LBoardMachine$Integers$Action;") (fin := true) (ty := (.object "BoardMachine$Integers$Action")) C (by decide +kernel) (Or.inr ⟨rfl, kw K hw q1375, hnm, rfl⟩) (fun _ h => h) (Nat.le_of_ble_eq_true rfl) (Nat.le_of_ble_eq_true rfl) (Nat.le_of_ble_eq_true rfl) rfl rfl (by decide) (fs_one (⟨rfl, ff_62_166 s0 H0 oa D⟩))) ?_
  refine fs_c1 (fs_newo (pc := 75) (n := 3456) (idx := 44) (CC := "BoardMachine$Integers$Branch") (T := fT_54) (N := 0) C (by decide +kernel) (kw K hw q1342) (kw K hw q1343) (kw K hw q366) (by decide) (Nat.le_of_ble_eq_true rfl) rfl rfl) ?_
  refine fs_c1 (fs_inv_virtual (pc := 79) (n := 272685110) C (Nat.le_of_ble_eq_true rfl) (Nat.le_of_ble_eq_true rfl) (fs_lk_init (idx := 46) (y := ⟨"BoardMachine$Integers$Branch", "<init>", "()V"⟩) (bytes := prog_61_method_1_code) (maxL := 1) (d := 2) C (Nat.le_of_ble_eq_true rfl) (Nat.le_of_ble_eq_true rfl) (by decide +kernel) (kw K hw q1346) (kw K hw q366) (kw K hw q1345) (Or.inr ⟨_, kM K hw q1344⟩) rfl ⟨by decide, by decide⟩ rfl (Nat.le_of_ble_eq_true rfl) (Nat.le_of_ble_eq_true rfl)) fs_con_mono o4) ?_
  refine fs_c1 (fs_putf (pc := 82) (n := 700702970) (idx := 47) (ref := "BoardMachine$Integers$Decoder") (O := "BoardMachine$Integers$Decoder") (name := "branch") (desc := "LBoardMachine$Integers$Action;") (fin := true) (ty := (.object "BoardMachine$Integers$Action")) C (by decide +kernel) (Or.inr ⟨rfl, kw K hw q1376, hnm, rfl⟩) (fun _ h => h) (Nat.le_of_ble_eq_true rfl) (Nat.le_of_ble_eq_true rfl) (Nat.le_of_ble_eq_true rfl) rfl rfl (by decide) (fs_one (⟨rfl, ff_62_167 s0 H0 oa D⟩))) ?_
  refine fs_c1 (fs_newo (pc := 86) (n := 3520) (idx := 50) (CC := "BoardMachine$Integers$Compute") (T := fT_55) (N := 0) C (by decide +kernel) (kw K hw q1349) (kw K hw q1350) (kw K hw q367) (by decide) (Nat.le_of_ble_eq_true rfl) rfl rfl) ?_
  refine fs_c1 (fs_inv_virtual (pc := 90) (n := 339794999) C (Nat.le_of_ble_eq_true rfl) (Nat.le_of_ble_eq_true rfl) (fs_lk_init (idx := 52) (y := ⟨"BoardMachine$Integers$Compute", "<init>", "()V"⟩) (bytes := prog_62_method_1_code) (maxL := 1) (d := 2) C (Nat.le_of_ble_eq_true rfl) (Nat.le_of_ble_eq_true rfl) (by decide +kernel) (kw K hw q1353) (kw K hw q367) (kw K hw q1352) (Or.inr ⟨_, kM K hw q1351⟩) rfl ⟨by decide, by decide⟩ rfl (Nat.le_of_ble_eq_true rfl) (Nat.le_of_ble_eq_true rfl)) fs_con_mono o5) ?_
  refine fs_c1 (fs_putf (pc := 93) (n := 704897274) (idx := 53) (ref := "BoardMachine$Integers$Decoder") (O := "BoardMachine$Integers$Decoder") (name := "compute") (desc := "LBoardMachine$Integers$Action;") (fin := true) (ty := (.object "BoardMachine$Integers$Action")) C (by decide +kernel) (Or.inr ⟨rfl, kw K hw q1377, hnm, rfl⟩) (fun _ h => h) (Nat.le_of_ble_eq_true rfl) (Nat.le_of_ble_eq_true rfl) (Nat.le_of_ble_eq_true rfl) rfl rfl (by decide) (fs_one (⟨rfl, ff_62_168 s0 H0 oa D⟩))) ?_
  refine fs_c1 (fs_newo (pc := 97) (n := 3392) (idx := 56) (CC := "BoardMachine$Integers$Access") (T := fT_53) (N := 0) C (by decide +kernel) (kw K hw q1356) (kw K hw q1357) (kw K hw q368) (by decide) (Nat.le_of_ble_eq_true rfl) rfl rfl) ?_
  refine fs_c1 (fs_inv_virtual (pc := 101) (n := 406901813) C (Nat.le_of_ble_eq_true rfl) (Nat.le_of_ble_eq_true rfl) (fs_lk_init (idx := 58) (y := ⟨"BoardMachine$Integers$Access", "<init>", "()V"⟩) (bytes := prog_58_method_1_code) (maxL := 1) (d := 2) C (Nat.le_of_ble_eq_true rfl) (Nat.le_of_ble_eq_true rfl) (by decide +kernel) (kw K hw q1360) (kw K hw q368) (kw K hw q1359) (Or.inr ⟨_, kM K hw q1358⟩) rfl ⟨by decide, by decide⟩ rfl (Nat.le_of_ble_eq_true rfl) (Nat.le_of_ble_eq_true rfl)) fs_con_mono o6) ?_
  refine fs_c1 (fs_putf (pc := 104) (n := 709091578) (idx := 59) (ref := "BoardMachine$Integers$Decoder") (O := "BoardMachine$Integers$Decoder") (name := "access") (desc := "LBoardMachine$Integers$Action;") (fin := true) (ty := (.object "BoardMachine$Integers$Action")) C (by decide +kernel) (Or.inr ⟨rfl, kw K hw q1378, hnm, rfl⟩) (fun _ h => h) (Nat.le_of_ble_eq_true rfl) (Nat.le_of_ble_eq_true rfl) (Nat.le_of_ble_eq_true rfl) rfl rfl (by decide) (fs_one (⟨rfl, ff_62_169 s0 H0 oa D⟩))) ?_
  refine fs_c1 (fs_newo (pc := 108) (n := 3648) (idx := 62) (CC := "BoardMachine$Integers$Foreign") (T := fT_57) (N := 0) C (by decide +kernel) (kw K hw q1363) (kw K hw q1364) (kw K hw q369) (by decide) (Nat.le_of_ble_eq_true rfl) rfl rfl) ?_
  refine fs_c1 (fs_inv_virtual (pc := 112) (n := 474014777) C (Nat.le_of_ble_eq_true rfl) (Nat.le_of_ble_eq_true rfl) (fs_lk_init (idx := 64) (y := ⟨"BoardMachine$Integers$Foreign", "<init>", "()V"⟩) (bytes := prog_67_method_1_code) (maxL := 1) (d := 2) C (Nat.le_of_ble_eq_true rfl) (Nat.le_of_ble_eq_true rfl) (by decide +kernel) (kw K hw q1367) (kw K hw q369) (kw K hw q1366) (Or.inr ⟨_, kM K hw q1365⟩) rfl ⟨by decide, by decide⟩ rfl (Nat.le_of_ble_eq_true rfl) (Nat.le_of_ble_eq_true rfl)) fs_con_mono o7) ?_
  refine fs_c1 (fs_putf (pc := 115) (n := 713285882) (idx := 65) (ref := "BoardMachine$Integers$Decoder") (O := "BoardMachine$Integers$Decoder") (name := "foreign") (desc := "LBoardMachine$Integers$Action;") (fin := true) (ty := (.object "BoardMachine$Integers$Action")) C (by decide +kernel) (Or.inr ⟨rfl, kw K hw q1379, hnm, rfl⟩) (fun _ h => h) (Nat.le_of_ble_eq_true rfl) (Nat.le_of_ble_eq_true rfl) (Nat.le_of_ble_eq_true rfl) rfl rfl (by decide) (fs_one (⟨rfl, ff_62_170 s0 H0 oa D⟩))) ?_
  exact fs_c0
theorem hX47_init : fe_H (sX47_init FX48_init FX49_init) cX47_init [0] fe_kv [] 26 (fun _ => dX47_init FX47_init_0) := by
  intro j pc L st M r hc h
  rcases fe_mem_c hc with rfl | hc
  · obtain ⟨w0, m0, h⟩ := fe_lR_d h
    obtain ⟨rfl, hz⟩ := fe_t0_d h
    exact ⟨[(0, .ref w0)], (fe_cs m0 fe_nl), Or.inr ((bX47_init_0 FX48_init FX49_init FX47_init_0 w0 M).symm.trans hz)⟩
  exact fe_mem_0 hc
theorem vX47_init : fe_SB (sX47_init FX48_init FX49_init) := by
  refine ⟨?_, ?_, ?_, ?_⟩
  · intro i As M r h
    rcases fe_bc h with h | h
    · obtain ⟨v0, t0, rfl, g0⟩ := fe_tR_d h
      obtain ⟨rfl, hz⟩ := fe_t0_d g0
      exact mX48_init v0 M r hz
    rcases fe_bc h with h | h
    · obtain ⟨v0, t0, rfl, g0⟩ := fe_tR_d h
      obtain ⟨rfl, hz⟩ := fe_t0_d g0
      exact mX49_init v0 M r hz
    exact fe_no h
  · intro i As M r h
    exact fe_no h
  · intro i As M r h
    exact fe_no h
  · intro i As M r h
    exact fe_no h
theorem eX47_init (g0 : Nat → FM → Option (FM)) (a0 : Nat) (M : FM) : dX47_init g0 0 [(0, .ref a0)] [] M = g0 a0 M := by rfl
theorem mX47_init (a0 : Nat) (M : FM) (r : FM) (h : FX47_init a0 M = some r) : fm_nx M ≤ fm_nx r ∧ fm_ns M ≤ fm_ns r :=
  fe_mono (L0 := [(0, .ref a0)]) (vX47_init) (by decide +kernel) (hX47_init) (fe_kv_k r) 0 rfl ((eX47_init FX47_init_0 a0 M).trans h)
theorem zX47_init {s0 : State} {H0 : Heap} {oa : Nat → Nat} {D : va_G} (K : fk s0 H0 oa D) (l : Launch) (a0 : Nat) (M : FM) (r : FM) (h : FX47_init a0 M = some r) : fs_Con (fk_E s0 H0 oa D) l 4 ⟨"BoardMachine$Integers$IntegerUnit", "<init>", "()V"⟩ prog_69_method_1_code 1 (Option.none : Option Jvm.ClassFile.FieldType) [.ref a0] M none r := by
  have o0 : fs_OS (sX47_init FX48_init FX49_init) 0 0 (fs_Con (fk_E s0 H0 oa D) l 1 ⟨"BoardMachine$Integers$Registers", "<init>", "()V"⟩ prog_71_method_1_code 1 (Option.none : Option Jvm.ClassFile.FieldType)) := by
    intro As M r h
    obtain ⟨v0, t0, rfl, g0⟩ := fe_tR_d h
    obtain ⟨rfl, hz⟩ := fe_t0_d g0
    exact zX48_init K l v0 M r hz
  have o1 : fs_OS (sX47_init FX48_init FX49_init) 1 0 (fs_Con (fk_E s0 H0 oa D) l 3 ⟨"BoardMachine$Integers$Decoder", "<init>", "()V"⟩ prog_64_method_1_code 1 (Option.none : Option Jvm.ClassFile.FieldType)) := by
    intro As M r h
    obtain ⟨v0, t0, rfl, g0⟩ := fe_tR_d h
    obtain ⟨rfl, hz⟩ := fe_t0_d g0
    exact zX49_init K l v0 M r hz
  refine fs_method (own := "BoardMachine$Integers$IntegerUnit") rfl (by decide) K.2.1 (by rw [fe_slen]; exact (Nat.le_of_ble_eq_true rfl)) (mX47_init a0 M r h) (hX47_init) 0 rfl (L0 := [(0, .ref a0)]) (fun E => fe_args_e E [.ref a0] 0) ((eX47_init FX47_init_0 a0 M).trans h) (fe_kv_k r) (fun H hR => fs_nr_o (by decide) (by decide)) ?_
  intro p e s m args below meth c Q C hnm
  have hw : s0.WarmedH s.vm := C.2.2.2.2.1
  refine fe_all C fk_hwr cX47_init [1, 5, 9, 12, 16, 20, 23, 29, 32, 37, 39] (by decide +kernel) (fe_fil (cps := [(1, 4, .monitorenter), (5, 8, .new 4098), (9, 12, .invokevirtual 4259904), (12, 15, .putfield 717484286), (16, 19, .new 3978), (20, 23, .invokevirtual 71366718), (23, 26, .putfield 721678590), (29, 32, .anewarray 178069), (32, 35, .putfield 725872894), (37, 39, .anewarray 180102), (39, 42, .putfield 734261502)]) (by decide +kernel) ?_)
  refine fs_c1 (fs_init (pc := 1) (idx := 3) C (by decide +kernel) (kw K hw q1272) (kw K hw q441) (kw K hw q442) ⟨(Nat.le_of_ble_eq_true rfl), (Nat.le_of_ble_eq_true rfl)⟩) ?_
  refine fs_c1 (fs_newo (pc := 5) (n := 4098) (idx := 9) (CC := "BoardMachine$Integers$Registers") (T := fT_64) (N := 2) C (by decide +kernel) (kw K hw q1273) (kw K hw q1274) (kw K hw q359) (by decide) (Nat.le_of_ble_eq_true rfl) rfl rfl) ?_
  refine fs_c1 (fs_inv_virtual (pc := 9) (n := 4259904) C (Nat.le_of_ble_eq_true rfl) (Nat.le_of_ble_eq_true rfl) (fs_lk_init (idx := 11) (y := ⟨"BoardMachine$Integers$Registers", "<init>", "()V"⟩) (bytes := prog_71_method_1_code) (maxL := 1) (d := 1) C (Nat.le_of_ble_eq_true rfl) (Nat.le_of_ble_eq_true rfl) (by decide +kernel) (kw K hw q1277) (kw K hw q359) (kw K hw q1276) (Or.inr ⟨_, kM K hw q1275⟩) rfl ⟨by decide, by decide⟩ rfl (Nat.le_of_ble_eq_true rfl) (Nat.le_of_ble_eq_true rfl)) fs_con_mono o0) ?_
  refine fs_c1 (fs_putf (pc := 12) (n := 717484286) (idx := 12) (ref := "BoardMachine$Integers$IntegerUnit") (O := "BoardMachine$Integers$IntegerUnit") (name := "registers") (desc := "LBoardMachine$Integers$Registers;") (fin := true) (ty := (.object "BoardMachine$Integers$Registers")) C (by decide +kernel) (Or.inr ⟨rfl, kw K hw q1403, hnm, rfl⟩) (fun _ h => h) (Nat.le_of_ble_eq_true rfl) (Nat.le_of_ble_eq_true rfl) (Nat.le_of_ble_eq_true rfl) rfl rfl (by decide) (fs_one (⟨rfl, ff_63_171 s0 H0 oa D⟩))) ?_
  refine fs_c1 (fs_newo (pc := 16) (n := 3978) (idx := 18) (CC := "BoardMachine$Integers$Decoder") (T := fT_62) (N := 10) C (by decide +kernel) (kw K hw q1299) (kw K hw q1300) (kw K hw q360) (by decide) (Nat.le_of_ble_eq_true rfl) rfl rfl) ?_
  refine fs_c1 (fs_inv_virtual (pc := 20) (n := 71366718) C (Nat.le_of_ble_eq_true rfl) (Nat.le_of_ble_eq_true rfl) (fs_lk_init (idx := 20) (y := ⟨"BoardMachine$Integers$Decoder", "<init>", "()V"⟩) (bytes := prog_64_method_1_code) (maxL := 1) (d := 3) C (Nat.le_of_ble_eq_true rfl) (Nat.le_of_ble_eq_true rfl) (by decide +kernel) (kw K hw q1303) (kw K hw q360) (kw K hw q1302) (Or.inr ⟨_, kM K hw q1301⟩) rfl ⟨by decide, by decide⟩ rfl (Nat.le_of_ble_eq_true rfl) (Nat.le_of_ble_eq_true rfl)) fs_con_mono o1) ?_
  refine fs_c1 (fs_putf (pc := 23) (n := 721678590) (idx := 21) (ref := "BoardMachine$Integers$IntegerUnit") (O := "BoardMachine$Integers$IntegerUnit") (name := "decoder") (desc := "LBoardMachine$Integers$Decoder;") (fin := true) (ty := (.object "BoardMachine$Integers$Decoder")) C (by decide +kernel) (Or.inr ⟨rfl, kw K hw q1406, hnm, rfl⟩) (fun _ h => h) (Nat.le_of_ble_eq_true rfl) (Nat.le_of_ble_eq_true rfl) (Nat.le_of_ble_eq_true rfl) rfl rfl (by decide) (fs_one (⟨rfl, ff_63_172 s0 H0 oa D⟩))) ?_
  refine fs_c1 (fs_newr (pc := 29) (n := 178069) (t := 917) (idx := 25) (CC := "BoardMachine$Integers$Decoded") C (by decide +kernel) (kw K hw q1401) (kO K hw q1402) rfl (Nat.le_of_ble_eq_true rfl) rfl rfl) ?_
  refine fs_c1 (fs_putf (pc := 32) (n := 725872894) (idx := 27) (ref := "BoardMachine$Integers$IntegerUnit") (O := "BoardMachine$Integers$IntegerUnit") (name := "kept") (desc := "[LBoardMachine$Integers$Decoded;") (fin := true) (ty := (.array (.object "BoardMachine$Integers$Decoded"))) C (by decide +kernel) (Or.inr ⟨rfl, kw K hw q1407, hnm, rfl⟩) (fun _ h => h) (Nat.le_of_ble_eq_true rfl) (Nat.le_of_ble_eq_true rfl) (Nat.le_of_ble_eq_true rfl) rfl rfl (by decide) (fs_one (⟨rfl, ff_63_173 s0 H0 oa D⟩))) ?_
  refine fs_c1 (fs_newL (pc := 37) (n := 180102) C (by decide +kernel) (kw K hw q648) rfl rfl) ?_
  refine fs_c1 (fs_putf (pc := 39) (n := 734261502) (idx := 31) (ref := "BoardMachine$Integers$IntegerUnit") (O := "BoardMachine$Integers$IntegerUnit") (name := "wants") (desc := "[J") (fin := true) (ty := (.array .long)) C (by decide +kernel) (Or.inr ⟨rfl, kw K hw q1409, hnm, rfl⟩) (fun _ h => h) (Nat.le_of_ble_eq_true rfl) (Nat.le_of_ble_eq_true rfl) (Nat.le_of_ble_eq_true rfl) rfl rfl (by decide) (fs_one (⟨rfl, ff_63_175 s0 H0 oa D⟩))) ?_
  exact fs_c0
theorem hX60_init : fe_H (sX60_init) cX60_init [0] fe_kv [] 20 (fun _ => dX60_init FX60_init_0) := by
  intro j pc L st M r hc h
  rcases fe_mem_c hc with rfl | hc
  · obtain ⟨w0, m0, h⟩ := fe_lR_d h
    obtain ⟨rfl, hz⟩ := fe_t0_d h
    exact ⟨[(0, .ref w0)], (fe_cs m0 fe_nl), Or.inr ((bX60_init_0 FX60_init_0 w0 M).symm.trans hz)⟩
  exact fe_mem_0 hc
theorem vX60_init : fe_SB (sX60_init) := by
  refine ⟨?_, ?_, ?_, ?_⟩
  · intro i As M r h
    exact fe_no h
  · intro i As M r h
    exact fe_no h
  · intro i As M r h
    exact fe_no h
  · intro i As M r h
    exact fe_no h
theorem eX60_init (g0 : Nat → FM → Option (FM)) (a0 : Nat) (M : FM) : dX60_init g0 0 [(0, .ref a0)] [] M = g0 a0 M := by rfl
theorem mX60_init (a0 : Nat) (M : FM) (r : FM) (h : FX60_init a0 M = some r) : fm_nx M ≤ fm_nx r ∧ fm_ns M ≤ fm_ns r :=
  fe_mono (L0 := [(0, .ref a0)]) (vX60_init) (by decide +kernel) (hX60_init) (fe_kv_k r) 0 rfl ((eX60_init FX60_init_0 a0 M).trans h)
theorem zX60_init {s0 : State} {H0 : Heap} {oa : Nat → Nat} {D : va_G} (K : fk s0 H0 oa D) (l : Launch) (a0 : Nat) (M : FM) (r : FM) (h : FX60_init a0 M = some r) : fs_Con (fk_E s0 H0 oa D) l 1 ⟨"BoardMachine$Floats$Flags", "<init>", "()V"⟩ prog_28_method_1_code 1 (Option.none : Option Jvm.ClassFile.FieldType) [.ref a0] M none r := by
  refine fs_method (own := "BoardMachine$Floats$Flags") rfl (by decide) K.2.1 (by rw [fe_slen]; exact (Nat.le_of_ble_eq_true rfl)) (mX60_init a0 M r h) (hX60_init) 0 rfl (L0 := [(0, .ref a0)]) (fun E => fe_args_e E [.ref a0] 0) ((eX60_init FX60_init_0 a0 M).trans h) (fe_kv_k r) (fun H hR => fs_nr_o (by decide) (by decide)) ?_
  intro p e s m args below meth c Q C hnm
  have hw : s0.WarmedH s.vm := C.2.2.2.2.1
  refine fe_all C fk_hwr cX60_init [1] (by decide +kernel) (fe_fil (cps := [(1, 4, .monitorenter)]) (by decide +kernel) ?_)
  refine fs_c1 (fs_init (pc := 1) (idx := 1) C (by decide +kernel) (kw K hw q1438) (kw K hw q441) (kw K hw q442) ⟨(Nat.le_of_ble_eq_true rfl), (Nat.le_of_ble_eq_true rfl)⟩) ?_
  exact fs_c0
theorem hX62_init : fe_H (sX62_init) cX62_init [0] fe_kv [] 20 (fun _ => dX62_init FX62_init_0) := by
  intro j pc L st M r hc h
  rcases fe_mem_c hc with rfl | hc
  · obtain ⟨w0, m0, h⟩ := fe_lR_d h
    obtain ⟨rfl, hz⟩ := fe_t0_d h
    exact ⟨[(0, .ref w0)], (fe_cs m0 fe_nl), Or.inr ((bX62_init_0 FX62_init_0 w0 M).symm.trans hz)⟩
  exact fe_mem_0 hc
theorem vX62_init : fe_SB (sX62_init) := by
  refine ⟨?_, ?_, ?_, ?_⟩
  · intro i As M r h
    exact fe_no h
  · intro i As M r h
    exact fe_no h
  · intro i As M r h
    exact fe_no h
  · intro i As M r h
    exact fe_no h
theorem eX62_init (g0 : Nat → FM → Option (FM)) (a0 : Nat) (M : FM) : dX62_init g0 0 [(0, .ref a0)] [] M = g0 a0 M := by rfl
theorem mX62_init (a0 : Nat) (M : FM) (r : FM) (h : FX62_init a0 M = some r) : fm_nx M ≤ fm_nx r ∧ fm_ns M ≤ fm_ns r :=
  fe_mono (L0 := [(0, .ref a0)]) (vX62_init) (by decide +kernel) (hX62_init) (fe_kv_k r) 0 rfl ((eX62_init FX62_init_0 a0 M).trans h)
theorem zX62_init {s0 : State} {H0 : Heap} {oa : Nat → Nat} {D : va_G} (K : fk s0 H0 oa D) (l : Launch) (a0 : Nat) (M : FM) (r : FM) (h : FX62_init a0 M = some r) : fs_Con (fk_E s0 H0 oa D) l 1 ⟨"BoardMachine$Floats$Wide", "<init>", "()V"⟩ prog_41_method_1_code 1 (Option.none : Option Jvm.ClassFile.FieldType) [.ref a0] M none r := by
  refine fs_method (own := "BoardMachine$Floats$Wide") rfl (by decide) K.2.1 (by rw [fe_slen]; exact (Nat.le_of_ble_eq_true rfl)) (mX62_init a0 M r h) (hX62_init) 0 rfl (L0 := [(0, .ref a0)]) (fun E => fe_args_e E [.ref a0] 0) ((eX62_init FX62_init_0 a0 M).trans h) (fe_kv_k r) (fun H hR => fs_nr_o (by decide) (by decide)) ?_
  intro p e s m args below meth c Q C hnm
  have hw : s0.WarmedH s.vm := C.2.2.2.2.1
  refine fe_all C fk_hwr cX62_init [1] (by decide +kernel) (fe_fil (cps := [(1, 4, .monitorenter)]) (by decide +kernel) ?_)
  refine fs_c1 (fs_init (pc := 1) (idx := 3) C (by decide +kernel) (kw K hw q1461) (kw K hw q441) (kw K hw q442) ⟨(Nat.le_of_ble_eq_true rfl), (Nat.le_of_ble_eq_true rfl)⟩) ?_
  exact fs_c0
theorem hX61_init : fe_H (sX61_init FX62_init) cX61_init [0] fe_kv [] 22 (fun _ => dX61_init FX61_init_0) := by
  intro j pc L st M r hc h
  rcases fe_mem_c hc with rfl | hc
  · obtain ⟨w0, m0, h⟩ := fe_lR_d h
    obtain ⟨w1, m1, h⟩ := fe_lI_d h
    obtain ⟨w2, m2, h⟩ := fe_lI_d h
    obtain ⟨w3, m3, h⟩ := fe_lI_d h
    obtain ⟨rfl, hz⟩ := fe_t0_d h
    exact ⟨[(0, .ref w0), (1, .int w1), (2, .int w2), (3, .int w3)], (fe_cs m0 (fe_cs m1 (fe_cs m2 (fe_cs m3 fe_nl)))), Or.inr ((bX61_init_0 FX62_init FX61_init_0 w0 w1 w2 w3 M).symm.trans hz)⟩
  exact fe_mem_0 hc
theorem vX61_init : fe_SB (sX61_init FX62_init) := by
  refine ⟨?_, ?_, ?_, ?_⟩
  · intro i As M r h
    rcases fe_bc h with h | h
    · obtain ⟨v0, t0, rfl, g0⟩ := fe_tR_d h
      obtain ⟨rfl, hz⟩ := fe_t0_d g0
      exact mX62_init v0 M r hz
    exact fe_no h
  · intro i As M r h
    exact fe_no h
  · intro i As M r h
    exact fe_no h
  · intro i As M r h
    exact fe_no h
theorem eX61_init (g0 : Nat → Int32 → Int32 → Int32 → FM → Option (FM)) (a0 : Nat) (a1 : Int32) (a2 : Int32) (a3 : Int32) (M : FM) : dX61_init g0 0 [(0, .ref a0), (1, .int a1), (2, .int a2), (3, .int a3)] [] M = g0 a0 a1 a2 a3 M := by rfl
theorem mX61_init (a0 : Nat) (a1 : Int32) (a2 : Int32) (a3 : Int32) (M : FM) (r : FM) (h : FX61_init a0 a1 a2 a3 M = some r) : fm_nx M ≤ fm_nx r ∧ fm_ns M ≤ fm_ns r :=
  fe_mono (L0 := [(0, .ref a0), (1, .int a1), (2, .int a2), (3, .int a3)]) (vX61_init) (by decide +kernel) (hX61_init) (fe_kv_k r) 0 rfl ((eX61_init FX61_init_0 a0 a1 a2 a3 M).trans h)
theorem zX61_init {s0 : State} {H0 : Heap} {oa : Nat → Nat} {D : va_G} (K : fk s0 H0 oa D) (l : Launch) (a0 : Nat) (a1 : Int32) (a2 : Int32) (a3 : Int32) (M : FM) (r : FM) (h : FX61_init a0 a1 a2 a3 M = some r) : fs_Con (fk_E s0 H0 oa D) l 2 ⟨"BoardMachine$Floats$Format", "<init>", "(III)V"⟩ prog_30_method_1_code 4 (Option.none : Option Jvm.ClassFile.FieldType) [.ref a0, .int a1, .int a2, .int a3] M none r := by
  have o0 : fs_OS (sX61_init FX62_init) 0 0 (fs_Con (fk_E s0 H0 oa D) l 1 ⟨"BoardMachine$Floats$Wide", "<init>", "()V"⟩ prog_41_method_1_code 1 (Option.none : Option Jvm.ClassFile.FieldType)) := by
    intro As M r h
    obtain ⟨v0, t0, rfl, g0⟩ := fe_tR_d h
    obtain ⟨rfl, hz⟩ := fe_t0_d g0
    exact zX62_init K l v0 M r hz
  refine fs_method (own := "BoardMachine$Floats$Format") rfl (by decide) K.2.1 (by rw [fe_slen]; exact (Nat.le_of_ble_eq_true rfl)) (mX61_init a0 a1 a2 a3 M r h) (hX61_init) 0 rfl (L0 := [(0, .ref a0), (1, .int a1), (2, .int a2), (3, .int a3)]) (fun E => fe_args_e E [.ref a0, .int a1, .int a2, .int a3] 0) ((eX61_init FX61_init_0 a0 a1 a2 a3 M).trans h) (fe_kv_k r) (fun H hR => fs_nr_o (by decide) (by decide)) ?_
  intro p e s m args below meth c Q C hnm
  have hw : s0.WarmedH s.vm := C.2.2.2.2.1
  refine fe_all C fk_hwr cX61_init [1, 5, 9, 12, 17, 22, 27] (by decide +kernel) (fe_fil (cps := [(1, 4, .monitorenter), (5, 8, .new 2562), (9, 12, .invokevirtual 4235304), (12, 15, .putfield 469897350), (17, 20, .putfield 457314436), (22, 25, .putfield 461508740), (27, 30, .putfield 465703044)]) (by decide +kernel) ?_)
  refine fs_c1 (fs_init (pc := 1) (idx := 3) C (by decide +kernel) (kw K hw q1455) (kw K hw q441) (kw K hw q442) ⟨(Nat.le_of_ble_eq_true rfl), (Nat.le_of_ble_eq_true rfl)⟩) ?_
  refine fs_c1 (fs_newo (pc := 5) (n := 2562) (idx := 9) (CC := "BoardMachine$Floats$Wide") (T := fT_40) (N := 2) C (by decide +kernel) (kw K hw q1456) (kw K hw q1457) (kw K hw q373) (by decide) (Nat.le_of_ble_eq_true rfl) rfl rfl) ?_
  refine fs_c1 (fs_inv_virtual (pc := 9) (n := 4235304) C (Nat.le_of_ble_eq_true rfl) (Nat.le_of_ble_eq_true rfl) (fs_lk_init (idx := 11) (y := ⟨"BoardMachine$Floats$Wide", "<init>", "()V"⟩) (bytes := prog_41_method_1_code) (maxL := 1) (d := 1) C (Nat.le_of_ble_eq_true rfl) (Nat.le_of_ble_eq_true rfl) (by decide +kernel) (kw K hw q1460) (kw K hw q373) (kw K hw q1459) (Or.inr ⟨_, kM K hw q1458⟩) rfl ⟨by decide, by decide⟩ rfl (Nat.le_of_ble_eq_true rfl) (Nat.le_of_ble_eq_true rfl)) fs_con_mono o0) ?_
  refine fs_c1 (fs_putf (pc := 12) (n := 469897350) (idx := 12) (ref := "BoardMachine$Floats$Format") (O := "BoardMachine$Floats$Format") (name := "tried") (desc := "LBoardMachine$Floats$Wide;") (fin := true) (ty := (.object "BoardMachine$Floats$Wide")) C (by decide +kernel) (Or.inr ⟨rfl, kw K hw q1479, hnm, rfl⟩) (fun _ h => h) (Nat.le_of_ble_eq_true rfl) (Nat.le_of_ble_eq_true rfl) (Nat.le_of_ble_eq_true rfl) rfl rfl (by decide) (fs_one (⟨rfl, ff_33_112 s0 H0 oa D⟩))) ?_
  refine fs_c1 (fs_putf (pc := 17) (n := 457314436) (idx := 18) (ref := "BoardMachine$Floats$Format") (O := "BoardMachine$Floats$Format") (name := "fraction") (desc := "I") (fin := true) (ty := .int) C (by decide +kernel) (Or.inr ⟨rfl, kw K hw q1475, hnm, rfl⟩) (fun _ h => h) (Nat.le_of_ble_eq_true rfl) (Nat.le_of_ble_eq_true rfl) (Nat.le_of_ble_eq_true rfl) rfl rfl (by decide) (fs_one (⟨rfl, ff_33_109 s0 H0 oa D⟩))) ?_
  refine fs_c1 (fs_putf (pc := 22) (n := 461508740) (idx := 22) (ref := "BoardMachine$Floats$Format") (O := "BoardMachine$Floats$Format") (name := "middle") (desc := "I") (fin := true) (ty := .int) C (by decide +kernel) (Or.inr ⟨rfl, kw K hw q1476, hnm, rfl⟩) (fun _ h => h) (Nat.le_of_ble_eq_true rfl) (Nat.le_of_ble_eq_true rfl) (Nat.le_of_ble_eq_true rfl) rfl rfl (by decide) (fs_one (⟨rfl, ff_33_110 s0 H0 oa D⟩))) ?_
  refine fs_c1 (fs_putf (pc := 27) (n := 465703044) (idx := 25) (ref := "BoardMachine$Floats$Format") (O := "BoardMachine$Floats$Format") (name := "signPlace") (desc := "I") (fin := true) (ty := .int) C (by decide +kernel) (Or.inr ⟨rfl, kw K hw q1477, hnm, rfl⟩) (fun _ h => h) (Nat.le_of_ble_eq_true rfl) (Nat.le_of_ble_eq_true rfl) (Nat.le_of_ble_eq_true rfl) rfl rfl (by decide) (fs_one (⟨rfl, ff_33_111 s0 H0 oa D⟩))) ?_
  exact fs_c0
theorem mh_values_1 (M : FM) (r : Nat × FM) (h : Fh_values_1 M = some r) : fm_nx M ≤ fm_nx r.2 ∧ fm_ns M ≤ fm_ns r.2 := by
  obtain rfl := Option.some.inj h
  exact fs_vv_mono (t := 913) (st := 99) (n := 5) (c0 := 1)
theorem zh_values_1 {s0 : State} {H0 : Heap} {oa : Nat → Nat} {D : va_G} (K : fk s0 H0 oa D) (l : Launch) (M : FM) (r : Nat × FM) (h : Fh_values_1 M = some r) : fs_Con (fk_E s0 H0 oa D) l 1 ⟨"BoardMachine$Floats$Mode", "values", "()[LBoardMachine$Floats$Mode;"⟩ prog_31_method_1_code 0 (Option.some (Jvm.ClassFile.FieldType.array (Jvm.ClassFile.FieldType.object "BoardMachine$Floats$Mode"))) [] M (some (.ref r.1)) r.2 := by
  obtain rfl := Option.some.inj h
  exact fs_values (st := 99) K.2.1 l rfl (by decide) (by decide +kernel) (by decide +kernel) (by decide +kernel) (by decide +kernel) (fun args s hw => ⟨kw K hw q1492, kw K hw q1494, kw K hw q1495, kw K hw q919, kw K hw q920, kw K hw q1496, kC K hw q1497, kw K hw q1499⟩) K.2.2.2.2.2.2.1 (by decide) rfl (by decide) (by decide) (by decide) (by decide +kernel) M
theorem mh_values_3 (M : FM) (r : Nat × FM) (h : Fh_values_3 M = some r) : fm_nx M ≤ fm_nx r.2 ∧ fm_ns M ≤ fm_ns r.2 := by
  obtain rfl := Option.some.inj h
  exact fs_vv_mono (t := 915) (st := 100) (n := 4) (c0 := 11)
theorem zh_values_3 {s0 : State} {H0 : Heap} {oa : Nat → Nat} {D : va_G} (K : fk s0 H0 oa D) (l : Launch) (M : FM) (r : Nat × FM) (h : Fh_values_3 M = some r) : fs_Con (fk_E s0 H0 oa D) l 1 ⟨"BoardMachine$Floats$Whole", "values", "()[LBoardMachine$Floats$Whole;"⟩ prog_40_method_1_code 0 (Option.some (Jvm.ClassFile.FieldType.array (Jvm.ClassFile.FieldType.object "BoardMachine$Floats$Whole"))) [] M (some (.ref r.1)) r.2 := by
  obtain rfl := Option.some.inj h
  exact fs_values (st := 100) K.2.1 l rfl (by decide) (by decide +kernel) (by decide +kernel) (by decide +kernel) (by decide +kernel) (fun args s hw => ⟨kw K hw q1503, kw K hw q1505, kw K hw q1506, kw K hw q919, kw K hw q920, kw K hw q1507, kC K hw q1508, kw K hw q1510⟩) K.2.2.2.2.2.2.2.1 (by decide) rfl (by decide) (by decide) (by decide) (by decide +kernel) M
theorem hX65_init : fe_H (sX65_init) cX65_init [0] fe_kv [] 20 (fun _ => dX65_init FX65_init_0) := by
  intro j pc L st M r hc h
  rcases fe_mem_c hc with rfl | hc
  · obtain ⟨w0, m0, h⟩ := fe_lR_d h
    obtain ⟨rfl, hz⟩ := fe_t0_d h
    exact ⟨[(0, .ref w0)], (fe_cs m0 fe_nl), Or.inr ((bX65_init_0 FX65_init_0 w0 M).symm.trans hz)⟩
  exact fe_mem_0 hc
theorem vX65_init : fe_SB (sX65_init) := by
  refine ⟨?_, ?_, ?_, ?_⟩
  · intro i As M r h
    exact fe_no h
  · intro i As M r h
    exact fe_no h
  · intro i As M r h
    exact fe_no h
  · intro i As M r h
    exact fe_no h
theorem eX65_init (g0 : Nat → FM → Option (FM)) (a0 : Nat) (M : FM) : dX65_init g0 0 [(0, .ref a0)] [] M = g0 a0 M := by rfl
theorem mX65_init (a0 : Nat) (M : FM) (r : FM) (h : FX65_init a0 M = some r) : fm_nx M ≤ fm_nx r ∧ fm_ns M ≤ fm_ns r :=
  fe_mono (L0 := [(0, .ref a0)]) (vX65_init) (by decide +kernel) (hX65_init) (fe_kv_k r) 0 rfl ((eX65_init FX65_init_0 a0 M).trans h)
theorem zX65_init {s0 : State} {H0 : Heap} {oa : Nat → Nat} {D : va_G} (K : fk s0 H0 oa D) (l : Launch) (a0 : Nat) (M : FM) (r : FM) (h : FX65_init a0 M = some r) : fs_Con (fk_E s0 H0 oa D) l 1 ⟨"BoardMachine$Floats$Operation", "<init>", "()V"⟩ prog_32_method_1_code 1 (Option.none : Option Jvm.ClassFile.FieldType) [.ref a0] M none r := by
  refine fs_method (own := "BoardMachine$Floats$Operation") rfl (by decide) K.2.1 (by rw [fe_slen]; exact (Nat.le_of_ble_eq_true rfl)) (mX65_init a0 M r h) (hX65_init) 0 rfl (L0 := [(0, .ref a0)]) (fun E => fe_args_e E [.ref a0] 0) ((eX65_init FX65_init_0 a0 M).trans h) (fe_kv_k r) (fun H hR => fs_nr_o (by decide) (by decide)) ?_
  intro p e s m args below meth c Q C hnm
  have hw : s0.WarmedH s.vm := C.2.2.2.2.1
  refine fe_all C fk_hwr cX65_init [1] (by decide +kernel) (fe_fil (cps := [(1, 4, .monitorenter)]) (by decide +kernel) ?_)
  refine fs_c1 (fs_init (pc := 1) (idx := 3) C (by decide +kernel) (kw K hw q1521) (kw K hw q441) (kw K hw q442) ⟨(Nat.le_of_ble_eq_true rfl), (Nat.le_of_ble_eq_true rfl)⟩) ?_
  exact fs_c0
theorem hX66_init : fe_H (sX66_init FX65_init) cX66_init [0] fe_kv [] 20 (fun _ => dX66_init FX66_init_0) := by
  intro j pc L st M r hc h
  rcases fe_mem_c hc with rfl | hc
  · obtain ⟨w0, m0, h⟩ := fe_lR_d h
    obtain ⟨w1, m1, h⟩ := fe_lI_d h
    obtain ⟨rfl, hz⟩ := fe_t0_d h
    exact ⟨[(0, .ref w0), (1, .int w1)], (fe_cs m0 (fe_cs m1 fe_nl)), Or.inr ((bX66_init_0 FX65_init FX66_init_0 w0 w1 M).symm.trans hz)⟩
  exact fe_mem_0 hc
theorem vX66_init : fe_SB (sX66_init FX65_init) := by
  refine ⟨?_, ?_, ?_, ?_⟩
  · intro i As M r h
    rcases fe_bc h with h | h
    · obtain ⟨v0, t0, rfl, g0⟩ := fe_tR_d h
      obtain ⟨rfl, hz⟩ := fe_t0_d g0
      exact mX65_init v0 M r hz
    exact fe_no h
  · intro i As M r h
    exact fe_no h
  · intro i As M r h
    exact fe_no h
  · intro i As M r h
    exact fe_no h
theorem eX66_init (g0 : Nat → Int32 → FM → Option (FM)) (a0 : Nat) (a1 : Int32) (M : FM) : dX66_init g0 0 [(0, .ref a0), (1, .int a1)] [] M = g0 a0 a1 M := by rfl
theorem mX66_init (a0 : Nat) (a1 : Int32) (M : FM) (r : FM) (h : FX66_init a0 a1 M = some r) : fm_nx M ≤ fm_nx r ∧ fm_ns M ≤ fm_ns r :=
  fe_mono (L0 := [(0, .ref a0), (1, .int a1)]) (vX66_init) (by decide +kernel) (hX66_init) (fe_kv_k r) 0 rfl ((eX66_init FX66_init_0 a0 a1 M).trans h)
theorem zX66_init {s0 : State} {H0 : Heap} {oa : Nat → Nat} {D : va_G} (K : fk s0 H0 oa D) (l : Launch) (a0 : Nat) (a1 : Int32) (M : FM) (r : FM) (h : FX66_init a0 a1 M = some r) : fs_Con (fk_E s0 H0 oa D) l 2 ⟨"BoardMachine$Floats$Sum", "<init>", "(Z)V"⟩ prog_38_method_1_code 2 (Option.none : Option Jvm.ClassFile.FieldType) [.ref a0, .int a1] M none r := by
  have o0 : fs_OS (sX66_init FX65_init) 0 0 (fs_Con (fk_E s0 H0 oa D) l 1 ⟨"BoardMachine$Floats$Operation", "<init>", "()V"⟩ prog_32_method_1_code 1 (Option.none : Option Jvm.ClassFile.FieldType)) := by
    intro As M r h
    obtain ⟨v0, t0, rfl, g0⟩ := fe_tR_d h
    obtain ⟨rfl, hz⟩ := fe_t0_d g0
    exact zX65_init K l v0 M r hz
  refine fs_method (own := "BoardMachine$Floats$Sum") rfl (by decide) K.2.1 (by rw [fe_slen]; exact (Nat.le_of_ble_eq_true rfl)) (mX66_init a0 a1 M r h) (hX66_init) 0 rfl (L0 := [(0, .ref a0), (1, .int a1)]) (fun E => fe_args_e E [.ref a0, .int a1] 0) ((eX66_init FX66_init_0 a0 a1 M).trans h) (fe_kv_k r) (fun H hR => fs_nr_o (by decide) (by decide)) ?_
  intro p e s m args below meth c Q C hnm
  have hw : s0.WarmedH s.vm := C.2.2.2.2.1
  refine fe_all C fk_hwr cX66_init [1, 6] (by decide +kernel) (fe_fil (cps := [(1, 4, .invokevirtual 4233254), (6, 9, .putfield 474112155)]) (by decide +kernel) ?_)
  refine fs_c1 (fs_inv_virtual (pc := 1) (n := 4233254) C (Nat.le_of_ble_eq_true rfl) (Nat.le_of_ble_eq_true rfl) (fs_lk_init (idx := 1) (y := ⟨"BoardMachine$Floats$Operation", "<init>", "()V"⟩) (bytes := prog_32_method_1_code) (maxL := 1) (d := 1) C (Nat.le_of_ble_eq_true rfl) (Nat.le_of_ble_eq_true rfl) (by decide +kernel) (kw K hw q1520) (kw K hw q376) (kw K hw q1519) (Or.inr ⟨_, kM K hw q1518⟩) rfl ⟨by decide, by decide⟩ rfl (Nat.le_of_ble_eq_true rfl) (Nat.le_of_ble_eq_true rfl)) fs_con_mono o0) ?_
  refine fs_c1 (fs_putf (pc := 6) (n := 474112155) (idx := 7) (ref := "BoardMachine$Floats$Sum") (O := "BoardMachine$Floats$Sum") (name := "takesOff") (desc := "Z") (fin := true) (ty := .boolean) C (by decide +kernel) (Or.inr ⟨rfl, kw K hw q1522, hnm, rfl⟩) (fun _ h => h) (Nat.le_of_ble_eq_true rfl) (Nat.le_of_ble_eq_true rfl) (Nat.le_of_ble_eq_true rfl) rfl rfl (by decide) (fs_one (⟨rfl, ff_38_113 s0 H0 oa D⟩))) ?_
  exact fs_c0
theorem hX67_init : fe_H (sX67_init FX65_init) cX67_init [0] fe_kv [] 20 (fun _ => dX67_init FX67_init_0) := by
  intro j pc L st M r hc h
  rcases fe_mem_c hc with rfl | hc
  · obtain ⟨w0, m0, h⟩ := fe_lR_d h
    obtain ⟨rfl, hz⟩ := fe_t0_d h
    exact ⟨[(0, .ref w0)], (fe_cs m0 fe_nl), Or.inr ((bX67_init_0 FX65_init FX67_init_0 w0 M).symm.trans hz)⟩
  exact fe_mem_0 hc
theorem vX67_init : fe_SB (sX67_init FX65_init) := by
  refine ⟨?_, ?_, ?_, ?_⟩
  · intro i As M r h
    rcases fe_bc h with h | h
    · obtain ⟨v0, t0, rfl, g0⟩ := fe_tR_d h
      obtain ⟨rfl, hz⟩ := fe_t0_d g0
      exact mX65_init v0 M r hz
    exact fe_no h
  · intro i As M r h
    exact fe_no h
  · intro i As M r h
    exact fe_no h
  · intro i As M r h
    exact fe_no h
theorem eX67_init (g0 : Nat → FM → Option (FM)) (a0 : Nat) (M : FM) : dX67_init g0 0 [(0, .ref a0)] [] M = g0 a0 M := by rfl
theorem mX67_init (a0 : Nat) (M : FM) (r : FM) (h : FX67_init a0 M = some r) : fm_nx M ≤ fm_nx r ∧ fm_ns M ≤ fm_ns r :=
  fe_mono (L0 := [(0, .ref a0)]) (vX67_init) (by decide +kernel) (hX67_init) (fe_kv_k r) 0 rfl ((eX67_init FX67_init_0 a0 M).trans h)
theorem zX67_init {s0 : State} {H0 : Heap} {oa : Nat → Nat} {D : va_G} (K : fk s0 H0 oa D) (l : Launch) (a0 : Nat) (M : FM) (r : FM) (h : FX67_init a0 M = some r) : fs_Con (fk_E s0 H0 oa D) l 2 ⟨"BoardMachine$Floats$Product", "<init>", "()V"⟩ prog_33_method_1_code 1 (Option.none : Option Jvm.ClassFile.FieldType) [.ref a0] M none r := by
  have o0 : fs_OS (sX67_init FX65_init) 0 0 (fs_Con (fk_E s0 H0 oa D) l 1 ⟨"BoardMachine$Floats$Operation", "<init>", "()V"⟩ prog_32_method_1_code 1 (Option.none : Option Jvm.ClassFile.FieldType)) := by
    intro As M r h
    obtain ⟨v0, t0, rfl, g0⟩ := fe_tR_d h
    obtain ⟨rfl, hz⟩ := fe_t0_d g0
    exact zX65_init K l v0 M r hz
  refine fs_method (own := "BoardMachine$Floats$Product") rfl (by decide) K.2.1 (by rw [fe_slen]; exact (Nat.le_of_ble_eq_true rfl)) (mX67_init a0 M r h) (hX67_init) 0 rfl (L0 := [(0, .ref a0)]) (fun E => fe_args_e E [.ref a0] 0) ((eX67_init FX67_init_0 a0 M).trans h) (fe_kv_k r) (fun H hR => fs_nr_o (by decide) (by decide)) ?_
  intro p e s m args below meth c Q C hnm
  have hw : s0.WarmedH s.vm := C.2.2.2.2.1
  refine fe_all C fk_hwr cX67_init [1] (by decide +kernel) (fe_fil (cps := [(1, 4, .invokevirtual 4229154)]) (by decide +kernel) ?_)
  refine fs_c1 (fs_inv_virtual (pc := 1) (n := 4229154) C (Nat.le_of_ble_eq_true rfl) (Nat.le_of_ble_eq_true rfl) (fs_lk_init (idx := 1) (y := ⟨"BoardMachine$Floats$Operation", "<init>", "()V"⟩) (bytes := prog_32_method_1_code) (maxL := 1) (d := 1) C (Nat.le_of_ble_eq_true rfl) (Nat.le_of_ble_eq_true rfl) (by decide +kernel) (kw K hw q1520) (kw K hw q376) (kw K hw q1519) (Or.inr ⟨_, kM K hw q1531⟩) rfl ⟨by decide, by decide⟩ rfl (Nat.le_of_ble_eq_true rfl) (Nat.le_of_ble_eq_true rfl)) fs_con_mono o0) ?_
  exact fs_c0
theorem hX68_init : fe_H (sX68_init FX65_init) cX68_init [0] fe_kv [] 20 (fun _ => dX68_init FX68_init_0) := by
  intro j pc L st M r hc h
  rcases fe_mem_c hc with rfl | hc
  · obtain ⟨w0, m0, h⟩ := fe_lR_d h
    obtain ⟨rfl, hz⟩ := fe_t0_d h
    exact ⟨[(0, .ref w0)], (fe_cs m0 fe_nl), Or.inr ((bX68_init_0 FX65_init FX68_init_0 w0 M).symm.trans hz)⟩
  exact fe_mem_0 hc
theorem vX68_init : fe_SB (sX68_init FX65_init) := by
  refine ⟨?_, ?_, ?_, ?_⟩
  · intro i As M r h
    rcases fe_bc h with h | h
    · obtain ⟨v0, t0, rfl, g0⟩ := fe_tR_d h
      obtain ⟨rfl, hz⟩ := fe_t0_d g0
      exact mX65_init v0 M r hz
    exact fe_no h
  · intro i As M r h
    exact fe_no h
  · intro i As M r h
    exact fe_no h
  · intro i As M r h
    exact fe_no h
theorem eX68_init (g0 : Nat → FM → Option (FM)) (a0 : Nat) (M : FM) : dX68_init g0 0 [(0, .ref a0)] [] M = g0 a0 M := by rfl
theorem mX68_init (a0 : Nat) (M : FM) (r : FM) (h : FX68_init a0 M = some r) : fm_nx M ≤ fm_nx r ∧ fm_ns M ≤ fm_ns r :=
  fe_mono (L0 := [(0, .ref a0)]) (vX68_init) (by decide +kernel) (hX68_init) (fe_kv_k r) 0 rfl ((eX68_init FX68_init_0 a0 M).trans h)
theorem zX68_init {s0 : State} {H0 : Heap} {oa : Nat → Nat} {D : va_G} (K : fk s0 H0 oa D) (l : Launch) (a0 : Nat) (M : FM) (r : FM) (h : FX68_init a0 M = some r) : fs_Con (fk_E s0 H0 oa D) l 2 ⟨"BoardMachine$Floats$Quotient", "<init>", "()V"⟩ prog_34_method_1_code 1 (Option.none : Option Jvm.ClassFile.FieldType) [.ref a0] M none r := by
  have o0 : fs_OS (sX68_init FX65_init) 0 0 (fs_Con (fk_E s0 H0 oa D) l 1 ⟨"BoardMachine$Floats$Operation", "<init>", "()V"⟩ prog_32_method_1_code 1 (Option.none : Option Jvm.ClassFile.FieldType)) := by
    intro As M r h
    obtain ⟨v0, t0, rfl, g0⟩ := fe_tR_d h
    obtain ⟨rfl, hz⟩ := fe_t0_d g0
    exact zX65_init K l v0 M r hz
  refine fs_method (own := "BoardMachine$Floats$Quotient") rfl (by decide) K.2.1 (by rw [fe_slen]; exact (Nat.le_of_ble_eq_true rfl)) (mX68_init a0 M r h) (hX68_init) 0 rfl (L0 := [(0, .ref a0)]) (fun E => fe_args_e E [.ref a0] 0) ((eX68_init FX68_init_0 a0 M).trans h) (fe_kv_k r) (fun H hR => fs_nr_o (by decide) (by decide)) ?_
  intro p e s m args below meth c Q C hnm
  have hw : s0.WarmedH s.vm := C.2.2.2.2.1
  refine fe_all C fk_hwr cX68_init [1] (by decide +kernel) (fe_fil (cps := [(1, 4, .invokevirtual 4230179)]) (by decide +kernel) ?_)
  refine fs_c1 (fs_inv_virtual (pc := 1) (n := 4230179) C (Nat.le_of_ble_eq_true rfl) (Nat.le_of_ble_eq_true rfl) (fs_lk_init (idx := 3) (y := ⟨"BoardMachine$Floats$Operation", "<init>", "()V"⟩) (bytes := prog_32_method_1_code) (maxL := 1) (d := 1) C (Nat.le_of_ble_eq_true rfl) (Nat.le_of_ble_eq_true rfl) (by decide +kernel) (kw K hw q1520) (kw K hw q376) (kw K hw q1519) (Or.inr ⟨_, kM K hw q1538⟩) rfl ⟨by decide, by decide⟩ rfl (Nat.le_of_ble_eq_true rfl) (Nat.le_of_ble_eq_true rfl)) fs_con_mono o0) ?_
  exact fs_c0
theorem hX69_init : fe_H (sX69_init FX65_init) cX69_init [0] fe_kv [] 20 (fun _ => dX69_init FX69_init_0) := by
  intro j pc L st M r hc h
  rcases fe_mem_c hc with rfl | hc
  · obtain ⟨w0, m0, h⟩ := fe_lR_d h
    obtain ⟨rfl, hz⟩ := fe_t0_d h
    exact ⟨[(0, .ref w0)], (fe_cs m0 fe_nl), Or.inr ((bX69_init_0 FX65_init FX69_init_0 w0 M).symm.trans hz)⟩
  exact fe_mem_0 hc
theorem vX69_init : fe_SB (sX69_init FX65_init) := by
  refine ⟨?_, ?_, ?_, ?_⟩
  · intro i As M r h
    rcases fe_bc h with h | h
    · obtain ⟨v0, t0, rfl, g0⟩ := fe_tR_d h
      obtain ⟨rfl, hz⟩ := fe_t0_d g0
      exact mX65_init v0 M r hz
    exact fe_no h
  · intro i As M r h
    exact fe_no h
  · intro i As M r h
    exact fe_no h
  · intro i As M r h
    exact fe_no h
theorem eX69_init (g0 : Nat → FM → Option (FM)) (a0 : Nat) (M : FM) : dX69_init g0 0 [(0, .ref a0)] [] M = g0 a0 M := by rfl
theorem mX69_init (a0 : Nat) (M : FM) (r : FM) (h : FX69_init a0 M = some r) : fm_nx M ≤ fm_nx r ∧ fm_ns M ≤ fm_ns r :=
  fe_mono (L0 := [(0, .ref a0)]) (vX69_init) (by decide +kernel) (hX69_init) (fe_kv_k r) 0 rfl ((eX69_init FX69_init_0 a0 M).trans h)
theorem zX69_init {s0 : State} {H0 : Heap} {oa : Nat → Nat} {D : va_G} (K : fk s0 H0 oa D) (l : Launch) (a0 : Nat) (M : FM) (r : FM) (h : FX69_init a0 M = some r) : fs_Con (fk_E s0 H0 oa D) l 2 ⟨"BoardMachine$Floats$Root", "<init>", "()V"⟩ prog_35_method_1_code 1 (Option.none : Option Jvm.ClassFile.FieldType) [.ref a0] M none r := by
  have o0 : fs_OS (sX69_init FX65_init) 0 0 (fs_Con (fk_E s0 H0 oa D) l 1 ⟨"BoardMachine$Floats$Operation", "<init>", "()V"⟩ prog_32_method_1_code 1 (Option.none : Option Jvm.ClassFile.FieldType)) := by
    intro As M r h
    obtain ⟨v0, t0, rfl, g0⟩ := fe_tR_d h
    obtain ⟨rfl, hz⟩ := fe_t0_d g0
    exact zX65_init K l v0 M r hz
  refine fs_method (own := "BoardMachine$Floats$Root") rfl (by decide) K.2.1 (by rw [fe_slen]; exact (Nat.le_of_ble_eq_true rfl)) (mX69_init a0 M r h) (hX69_init) 0 rfl (L0 := [(0, .ref a0)]) (fun E => fe_args_e E [.ref a0] 0) ((eX69_init FX69_init_0 a0 M).trans h) (fe_kv_k r) (fun H hR => fs_nr_o (by decide) (by decide)) ?_
  intro p e s m args below meth c Q C hnm
  have hw : s0.WarmedH s.vm := C.2.2.2.2.1
  refine fe_all C fk_hwr cX69_init [1] (by decide +kernel) (fe_fil (cps := [(1, 4, .invokevirtual 4231204)]) (by decide +kernel) ?_)
  refine fs_c1 (fs_inv_virtual (pc := 1) (n := 4231204) C (Nat.le_of_ble_eq_true rfl) (Nat.le_of_ble_eq_true rfl) (fs_lk_init (idx := 3) (y := ⟨"BoardMachine$Floats$Operation", "<init>", "()V"⟩) (bytes := prog_32_method_1_code) (maxL := 1) (d := 1) C (Nat.le_of_ble_eq_true rfl) (Nat.le_of_ble_eq_true rfl) (by decide +kernel) (kw K hw q1520) (kw K hw q376) (kw K hw q1519) (Or.inr ⟨_, kM K hw q1545⟩) rfl ⟨by decide, by decide⟩ rfl (Nat.le_of_ble_eq_true rfl) (Nat.le_of_ble_eq_true rfl)) fs_con_mono o0) ?_
  exact fs_c0
theorem hX70_init : fe_H (sX70_init FX65_init) cX70_init [0] fe_kv [] 20 (fun _ => dX70_init FX70_init_0) := by
  intro j pc L st M r hc h
  rcases fe_mem_c hc with rfl | hc
  · obtain ⟨w0, m0, h⟩ := fe_lR_d h
    obtain ⟨rfl, hz⟩ := fe_t0_d h
    exact ⟨[(0, .ref w0)], (fe_cs m0 fe_nl), Or.inr ((bX70_init_0 FX65_init FX70_init_0 w0 M).symm.trans hz)⟩
  exact fe_mem_0 hc
theorem vX70_init : fe_SB (sX70_init FX65_init) := by
  refine ⟨?_, ?_, ?_, ?_⟩
  · intro i As M r h
    rcases fe_bc h with h | h
    · obtain ⟨v0, t0, rfl, g0⟩ := fe_tR_d h
      obtain ⟨rfl, hz⟩ := fe_t0_d g0
      exact mX65_init v0 M r hz
    exact fe_no h
  · intro i As M r h
    exact fe_no h
  · intro i As M r h
    exact fe_no h
  · intro i As M r h
    exact fe_no h
theorem eX70_init (g0 : Nat → FM → Option (FM)) (a0 : Nat) (M : FM) : dX70_init g0 0 [(0, .ref a0)] [] M = g0 a0 M := by rfl
theorem mX70_init (a0 : Nat) (M : FM) (r : FM) (h : FX70_init a0 M = some r) : fm_nx M ≤ fm_nx r ∧ fm_ns M ≤ fm_ns r :=
  fe_mono (L0 := [(0, .ref a0)]) (vX70_init) (by decide +kernel) (hX70_init) (fe_kv_k r) 0 rfl ((eX70_init FX70_init_0 a0 M).trans h)
theorem zX70_init {s0 : State} {H0 : Heap} {oa : Nat → Nat} {D : va_G} (K : fk s0 H0 oa D) (l : Launch) (a0 : Nat) (M : FM) (r : FM) (h : FX70_init a0 M = some r) : fs_Con (fk_E s0 H0 oa D) l 2 ⟨"BoardMachine$Floats$Same", "<init>", "()V"⟩ prog_36_method_1_code 1 (Option.none : Option Jvm.ClassFile.FieldType) [.ref a0] M none r := by
  have o0 : fs_OS (sX70_init FX65_init) 0 0 (fs_Con (fk_E s0 H0 oa D) l 1 ⟨"BoardMachine$Floats$Operation", "<init>", "()V"⟩ prog_32_method_1_code 1 (Option.none : Option Jvm.ClassFile.FieldType)) := by
    intro As M r h
    obtain ⟨v0, t0, rfl, g0⟩ := fe_tR_d h
    obtain ⟨rfl, hz⟩ := fe_t0_d g0
    exact zX65_init K l v0 M r hz
  refine fs_method (own := "BoardMachine$Floats$Same") rfl (by decide) K.2.1 (by rw [fe_slen]; exact (Nat.le_of_ble_eq_true rfl)) (mX70_init a0 M r h) (hX70_init) 0 rfl (L0 := [(0, .ref a0)]) (fun E => fe_args_e E [.ref a0] 0) ((eX70_init FX70_init_0 a0 M).trans h) (fe_kv_k r) (fun H hR => fs_nr_o (by decide) (by decide)) ?_
  intro p e s m args below meth c Q C hnm
  have hw : s0.WarmedH s.vm := C.2.2.2.2.1
  refine fe_all C fk_hwr cX70_init [1] (by decide +kernel) (fe_fil (cps := [(1, 4, .invokevirtual 4232229)]) (by decide +kernel) ?_)
  refine fs_c1 (fs_inv_virtual (pc := 1) (n := 4232229) C (Nat.le_of_ble_eq_true rfl) (Nat.le_of_ble_eq_true rfl) (fs_lk_init (idx := 1) (y := ⟨"BoardMachine$Floats$Operation", "<init>", "()V"⟩) (bytes := prog_32_method_1_code) (maxL := 1) (d := 1) C (Nat.le_of_ble_eq_true rfl) (Nat.le_of_ble_eq_true rfl) (by decide +kernel) (kw K hw q1520) (kw K hw q376) (kw K hw q1519) (Or.inr ⟨_, kM K hw q1552⟩) rfl ⟨by decide, by decide⟩ rfl (Nat.le_of_ble_eq_true rfl) (Nat.le_of_ble_eq_true rfl)) fs_con_mono o0) ?_
  exact fs_c0
theorem hX71_init : fe_H (sX71_init FX62_init) cX71_init [0] fe_kv [] 20 (fun _ => dX71_init FX71_init_0) := by
  intro j pc L st M r hc h
  rcases fe_mem_c hc with rfl | hc
  · obtain ⟨w0, m0, h⟩ := fe_lR_d h
    obtain ⟨rfl, hz⟩ := fe_t0_d h
    exact ⟨[(0, .ref w0)], (fe_cs m0 fe_nl), Or.inr ((bX71_init_0 FX62_init FX71_init_0 w0 M).symm.trans hz)⟩
  exact fe_mem_0 hc
theorem vX71_init : fe_SB (sX71_init FX62_init) := by
  refine ⟨?_, ?_, ?_, ?_⟩
  · intro i As M r h
    rcases fe_bc h with h | h
    · obtain ⟨v0, t0, rfl, g0⟩ := fe_tR_d h
      obtain ⟨rfl, hz⟩ := fe_t0_d g0
      exact mX62_init v0 M r hz
    exact fe_no h
  · intro i As M r h
    exact fe_no h
  · intro i As M r h
    exact fe_no h
  · intro i As M r h
    exact fe_no h
theorem eX71_init (g0 : Nat → FM → Option (FM)) (a0 : Nat) (M : FM) : dX71_init g0 0 [(0, .ref a0)] [] M = g0 a0 M := by rfl
theorem mX71_init (a0 : Nat) (M : FM) (r : FM) (h : FX71_init a0 M = some r) : fm_nx M ≤ fm_nx r ∧ fm_ns M ≤ fm_ns r :=
  fe_mono (L0 := [(0, .ref a0)]) (vX71_init) (by decide +kernel) (hX71_init) (fe_kv_k r) 0 rfl ((eX71_init FX71_init_0 a0 M).trans h)
theorem zX71_init {s0 : State} {H0 : Heap} {oa : Nat → Nat} {D : va_G} (K : fk s0 H0 oa D) (l : Launch) (a0 : Nat) (M : FM) (r : FM) (h : FX71_init a0 M = some r) : fs_Con (fk_E s0 H0 oa D) l 2 ⟨"BoardMachine$Floats$Taken", "<init>", "()V"⟩ prog_39_method_1_code 1 (Option.none : Option Jvm.ClassFile.FieldType) [.ref a0] M none r := by
  have o0 : fs_OS (sX71_init FX62_init) 0 0 (fs_Con (fk_E s0 H0 oa D) l 1 ⟨"BoardMachine$Floats$Wide", "<init>", "()V"⟩ prog_41_method_1_code 1 (Option.none : Option Jvm.ClassFile.FieldType)) := by
    intro As M r h
    obtain ⟨v0, t0, rfl, g0⟩ := fe_tR_d h
    obtain ⟨rfl, hz⟩ := fe_t0_d g0
    exact zX62_init K l v0 M r hz
  refine fs_method (own := "BoardMachine$Floats$Taken") rfl (by decide) K.2.1 (by rw [fe_slen]; exact (Nat.le_of_ble_eq_true rfl)) (mX71_init a0 M r h) (hX71_init) 0 rfl (L0 := [(0, .ref a0)]) (fun E => fe_args_e E [.ref a0] 0) ((eX71_init FX71_init_0 a0 M).trans h) (fe_kv_k r) (fun H hR => fs_nr_o (by decide) (by decide)) ?_
  intro p e s m args below meth c Q C hnm
  have hw : s0.WarmedH s.vm := C.2.2.2.2.1
  refine fe_all C fk_hwr cX71_init [1, 5, 8, 12, 16, 19] (by decide +kernel) (fe_fil (cps := [(1, 4, .monitorenter), (5, 8, .getstatic 6), (8, 11, .putfield 478310558), (12, 15, .new 2562), (16, 19, .invokevirtual 4235304), (19, 22, .putfield 490893470)]) (by decide +kernel) ?_)
  refine fs_c1 (fs_init (pc := 1) (idx := 1) C (by decide +kernel) (kw K hw q1559) (kw K hw q441) (kw K hw q442) ⟨(Nat.le_of_ble_eq_true rfl), (Nat.le_of_ble_eq_true rfl)⟩) ?_
  refine fs_c1 (fs_getst (pc := 5) (idx := 7) (k := 6) (CC := "BoardMachine$Floats$Sort") (n := "ZERO") (d := "LBoardMachine$Floats$Sort;") (ref := "BoardMachine$Floats$Sort") C (by decide +kernel) (kw K hw q1560) (fun _ h => h) (by decide) (kZ K 6 ez_6)) ?_
  refine fs_c1 (fs_putf (pc := 8) (n := 478310558) (idx := 13) (ref := "BoardMachine$Floats$Taken") (O := "BoardMachine$Floats$Taken") (name := "sort") (desc := "LBoardMachine$Floats$Sort;") (fin := false) (ty := (.object "BoardMachine$Floats$Sort")) C (by decide +kernel) (Or.inl ⟨rfl, Or.inl (kw K hw q1564)⟩) (fun _ h => h) (Nat.le_of_ble_eq_true rfl) (Nat.le_of_ble_eq_true rfl) (Nat.le_of_ble_eq_true rfl) rfl rfl (by decide) (fs_one (⟨rfl, ff_39_114 s0 H0 oa D⟩))) ?_
  refine fs_c1 (fs_newo (pc := 12) (n := 2562) (idx := 18) (CC := "BoardMachine$Floats$Wide") (T := fT_40) (N := 2) C (by decide +kernel) (kw K hw q1562) (kw K hw q1457) (kw K hw q373) (by decide) (Nat.le_of_ble_eq_true rfl) rfl rfl) ?_
  refine fs_c1 (fs_inv_virtual (pc := 16) (n := 4235304) C (Nat.le_of_ble_eq_true rfl) (Nat.le_of_ble_eq_true rfl) (fs_lk_init (idx := 20) (y := ⟨"BoardMachine$Floats$Wide", "<init>", "()V"⟩) (bytes := prog_41_method_1_code) (maxL := 1) (d := 1) C (Nat.le_of_ble_eq_true rfl) (Nat.le_of_ble_eq_true rfl) (by decide +kernel) (kw K hw q1460) (kw K hw q373) (kw K hw q1459) (Or.inr ⟨_, kM K hw q1563⟩) rfl ⟨by decide, by decide⟩ rfl (Nat.le_of_ble_eq_true rfl) (Nat.le_of_ble_eq_true rfl)) fs_con_mono o0) ?_
  refine fs_c1 (fs_putf (pc := 19) (n := 490893470) (idx := 21) (ref := "BoardMachine$Floats$Taken") (O := "BoardMachine$Floats$Taken") (name := "size") (desc := "LBoardMachine$Floats$Wide;") (fin := true) (ty := (.object "BoardMachine$Floats$Wide")) C (by decide +kernel) (Or.inr ⟨rfl, kw K hw q1586, hnm, rfl⟩) (fun _ h => h) (Nat.le_of_ble_eq_true rfl) (Nat.le_of_ble_eq_true rfl) (Nat.le_of_ble_eq_true rfl) rfl rfl (by decide) (fs_one (⟨rfl, ff_39_117 s0 H0 oa D⟩))) ?_
  exact fs_c0
theorem hX59_init : fe_H (sX59_init FX60_init FX61_init Fh_values_1 Fh_values_3 FX66_init FX67_init FX68_init FX69_init FX70_init FX71_init) cX59_init [0] fe_kv [] 111 (fun _ => dX59_init FX59_init_0) := by
  intro j pc L st M r hc h
  rcases fe_mem_c hc with rfl | hc
  · obtain ⟨w0, m0, h⟩ := fe_lR_d h
    obtain ⟨rfl, hz⟩ := fe_t0_d h
    exact ⟨[(0, .ref w0)], (fe_cs m0 fe_nl), Or.inr ((bX59_init_0 FX60_init FX61_init Fh_values_1 Fh_values_3 FX66_init FX67_init FX68_init FX69_init FX70_init FX71_init FX59_init_0 w0 M).symm.trans hz)⟩
  exact fe_mem_0 hc
theorem vX59_init : fe_SB (sX59_init FX60_init FX61_init Fh_values_1 Fh_values_3 FX66_init FX67_init FX68_init FX69_init FX70_init FX71_init) := by
  refine ⟨?_, ?_, ?_, ?_⟩
  · intro i As M r h
    rcases fe_bc h with h | h
    · obtain ⟨v0, t0, rfl, g0⟩ := fe_tR_d h
      obtain ⟨rfl, hz⟩ := fe_t0_d g0
      exact mX60_init v0 M r hz
    rcases fe_bc h with h | h
    · obtain ⟨v0, t0, rfl, g0⟩ := fe_tR_d h
      obtain ⟨v1, t1, rfl, g1⟩ := fe_tI_d g0
      obtain ⟨v2, t2, rfl, g2⟩ := fe_tI_d g1
      obtain ⟨v3, t3, rfl, g3⟩ := fe_tI_d g2
      obtain ⟨rfl, hz⟩ := fe_t0_d g3
      exact mX61_init v0 v1 v2 v3 M r hz
    rcases fe_bc h with h | h
    · obtain ⟨v0, t0, rfl, g0⟩ := fe_tR_d h
      obtain ⟨v1, t1, rfl, g1⟩ := fe_tI_d g0
      obtain ⟨rfl, hz⟩ := fe_t0_d g1
      exact mX66_init v0 v1 M r hz
    rcases fe_bc h with h | h
    · obtain ⟨v0, t0, rfl, g0⟩ := fe_tR_d h
      obtain ⟨rfl, hz⟩ := fe_t0_d g0
      exact mX67_init v0 M r hz
    rcases fe_bc h with h | h
    · obtain ⟨v0, t0, rfl, g0⟩ := fe_tR_d h
      obtain ⟨rfl, hz⟩ := fe_t0_d g0
      exact mX68_init v0 M r hz
    rcases fe_bc h with h | h
    · obtain ⟨v0, t0, rfl, g0⟩ := fe_tR_d h
      obtain ⟨rfl, hz⟩ := fe_t0_d g0
      exact mX69_init v0 M r hz
    rcases fe_bc h with h | h
    · obtain ⟨v0, t0, rfl, g0⟩ := fe_tR_d h
      obtain ⟨rfl, hz⟩ := fe_t0_d g0
      exact mX70_init v0 M r hz
    rcases fe_bc h with h | h
    · obtain ⟨v0, t0, rfl, g0⟩ := fe_tR_d h
      obtain ⟨rfl, hz⟩ := fe_t0_d g0
      exact mX71_init v0 M r hz
    exact fe_no h
  · intro i As M r h
    exact fe_no h
  · intro i As M r h
    exact fe_no h
  · intro i As M r h
    rcases fe_bc h with h | h
    · obtain ⟨rfl, hz⟩ := fe_t0_d h
      exact mh_values_1  M r hz
    rcases fe_bc h with h | h
    · obtain ⟨rfl, hz⟩ := fe_t0_d h
      exact mh_values_3  M r hz
    exact fe_no h
theorem eX59_init (g0 : Nat → FM → Option (FM)) (a0 : Nat) (M : FM) : dX59_init g0 0 [(0, .ref a0)] [] M = g0 a0 M := by rfl
theorem mX59_init (a0 : Nat) (M : FM) (r : FM) (h : FX59_init a0 M = some r) : fm_nx M ≤ fm_nx r ∧ fm_ns M ≤ fm_ns r :=
  fe_mono (L0 := [(0, .ref a0)]) (vX59_init) (by decide +kernel) (hX59_init) (fe_kv_k r) 0 rfl ((eX59_init FX59_init_0 a0 M).trans h)
theorem zX59_init {s0 : State} {H0 : Heap} {oa : Nat → Nat} {D : va_G} (K : fk s0 H0 oa D) (l : Launch) (a0 : Nat) (M : FM) (r : FM) (h : FX59_init a0 M = some r) : fs_Con (fk_E s0 H0 oa D) l 3 ⟨"BoardMachine$Floats$FloatUnit", "<init>", "()V"⟩ prog_29_method_1_code 1 (Option.none : Option Jvm.ClassFile.FieldType) [.ref a0] M none r := by
  have o0 : fs_OS (sX59_init FX60_init FX61_init Fh_values_1 Fh_values_3 FX66_init FX67_init FX68_init FX69_init FX70_init FX71_init) 0 0 (fs_Con (fk_E s0 H0 oa D) l 1 ⟨"BoardMachine$Floats$Flags", "<init>", "()V"⟩ prog_28_method_1_code 1 (Option.none : Option Jvm.ClassFile.FieldType)) := by
    intro As M r h
    obtain ⟨v0, t0, rfl, g0⟩ := fe_tR_d h
    obtain ⟨rfl, hz⟩ := fe_t0_d g0
    exact zX60_init K l v0 M r hz
  have o1 : fs_OS (sX59_init FX60_init FX61_init Fh_values_1 Fh_values_3 FX66_init FX67_init FX68_init FX69_init FX70_init FX71_init) 1 0 (fs_Con (fk_E s0 H0 oa D) l 2 ⟨"BoardMachine$Floats$Format", "<init>", "(III)V"⟩ prog_30_method_1_code 4 (Option.none : Option Jvm.ClassFile.FieldType)) := by
    intro As M r h
    obtain ⟨v0, t0, rfl, g0⟩ := fe_tR_d h
    obtain ⟨v1, t1, rfl, g1⟩ := fe_tI_d g0
    obtain ⟨v2, t2, rfl, g2⟩ := fe_tI_d g1
    obtain ⟨v3, t3, rfl, g3⟩ := fe_tI_d g2
    obtain ⟨rfl, hz⟩ := fe_t0_d g3
    exact zX61_init K l v0 v1 v2 v3 M r hz
  have o2 : fs_OS (sX59_init FX60_init FX61_init Fh_values_1 Fh_values_3 FX66_init FX67_init FX68_init FX69_init FX70_init FX71_init) 2 3 (fs_Con (fk_E s0 H0 oa D) l 1 ⟨"BoardMachine$Floats$Mode", "values", "()[LBoardMachine$Floats$Mode;"⟩ prog_31_method_1_code 0 (Option.some (Jvm.ClassFile.FieldType.array (Jvm.ClassFile.FieldType.object "BoardMachine$Floats$Mode")))) := by
    intro As M r h
    obtain ⟨rfl, hz⟩ := fe_t0_d h
    exact zh_values_1 K l M r hz
  have o3 : fs_OS (sX59_init FX60_init FX61_init Fh_values_1 Fh_values_3 FX66_init FX67_init FX68_init FX69_init FX70_init FX71_init) 3 3 (fs_Con (fk_E s0 H0 oa D) l 1 ⟨"BoardMachine$Floats$Whole", "values", "()[LBoardMachine$Floats$Whole;"⟩ prog_40_method_1_code 0 (Option.some (Jvm.ClassFile.FieldType.array (Jvm.ClassFile.FieldType.object "BoardMachine$Floats$Whole")))) := by
    intro As M r h
    obtain ⟨rfl, hz⟩ := fe_t0_d h
    exact zh_values_3 K l M r hz
  have o4 : fs_OS (sX59_init FX60_init FX61_init Fh_values_1 Fh_values_3 FX66_init FX67_init FX68_init FX69_init FX70_init FX71_init) 4 0 (fs_Con (fk_E s0 H0 oa D) l 2 ⟨"BoardMachine$Floats$Sum", "<init>", "(Z)V"⟩ prog_38_method_1_code 2 (Option.none : Option Jvm.ClassFile.FieldType)) := by
    intro As M r h
    obtain ⟨v0, t0, rfl, g0⟩ := fe_tR_d h
    obtain ⟨v1, t1, rfl, g1⟩ := fe_tI_d g0
    obtain ⟨rfl, hz⟩ := fe_t0_d g1
    exact zX66_init K l v0 v1 M r hz
  have o5 : fs_OS (sX59_init FX60_init FX61_init Fh_values_1 Fh_values_3 FX66_init FX67_init FX68_init FX69_init FX70_init FX71_init) 5 0 (fs_Con (fk_E s0 H0 oa D) l 2 ⟨"BoardMachine$Floats$Product", "<init>", "()V"⟩ prog_33_method_1_code 1 (Option.none : Option Jvm.ClassFile.FieldType)) := by
    intro As M r h
    obtain ⟨v0, t0, rfl, g0⟩ := fe_tR_d h
    obtain ⟨rfl, hz⟩ := fe_t0_d g0
    exact zX67_init K l v0 M r hz
  have o6 : fs_OS (sX59_init FX60_init FX61_init Fh_values_1 Fh_values_3 FX66_init FX67_init FX68_init FX69_init FX70_init FX71_init) 6 0 (fs_Con (fk_E s0 H0 oa D) l 2 ⟨"BoardMachine$Floats$Quotient", "<init>", "()V"⟩ prog_34_method_1_code 1 (Option.none : Option Jvm.ClassFile.FieldType)) := by
    intro As M r h
    obtain ⟨v0, t0, rfl, g0⟩ := fe_tR_d h
    obtain ⟨rfl, hz⟩ := fe_t0_d g0
    exact zX68_init K l v0 M r hz
  have o7 : fs_OS (sX59_init FX60_init FX61_init Fh_values_1 Fh_values_3 FX66_init FX67_init FX68_init FX69_init FX70_init FX71_init) 7 0 (fs_Con (fk_E s0 H0 oa D) l 2 ⟨"BoardMachine$Floats$Root", "<init>", "()V"⟩ prog_35_method_1_code 1 (Option.none : Option Jvm.ClassFile.FieldType)) := by
    intro As M r h
    obtain ⟨v0, t0, rfl, g0⟩ := fe_tR_d h
    obtain ⟨rfl, hz⟩ := fe_t0_d g0
    exact zX69_init K l v0 M r hz
  have o8 : fs_OS (sX59_init FX60_init FX61_init Fh_values_1 Fh_values_3 FX66_init FX67_init FX68_init FX69_init FX70_init FX71_init) 8 0 (fs_Con (fk_E s0 H0 oa D) l 2 ⟨"BoardMachine$Floats$Same", "<init>", "()V"⟩ prog_36_method_1_code 1 (Option.none : Option Jvm.ClassFile.FieldType)) := by
    intro As M r h
    obtain ⟨v0, t0, rfl, g0⟩ := fe_tR_d h
    obtain ⟨rfl, hz⟩ := fe_t0_d g0
    exact zX70_init K l v0 M r hz
  have o9 : fs_OS (sX59_init FX60_init FX61_init Fh_values_1 Fh_values_3 FX66_init FX67_init FX68_init FX69_init FX70_init FX71_init) 9 0 (fs_Con (fk_E s0 H0 oa D) l 2 ⟨"BoardMachine$Floats$Taken", "<init>", "()V"⟩ prog_39_method_1_code 1 (Option.none : Option Jvm.ClassFile.FieldType)) := by
    intro As M r h
    obtain ⟨v0, t0, rfl, g0⟩ := fe_tR_d h
    obtain ⟨rfl, hz⟩ := fe_t0_d g0
    exact zX71_init K l v0 M r hz
  refine fs_method (own := "BoardMachine$Floats$FloatUnit") rfl (by decide) K.2.1 (by rw [fe_slen]; exact (Nat.le_of_ble_eq_true rfl)) (mX59_init a0 M r h) (hX59_init) 0 rfl (L0 := [(0, .ref a0)]) (fun E => fe_args_e E [.ref a0] 0) ((eX59_init FX59_init_0 a0 M).trans h) (fe_kv_k r) (fun H hR => fs_nr_o (by decide) (by decide)) ?_
  intro p e s m args below meth c Q C hnm
  have hw : s0.WarmedH s.vm := C.2.2.2.2.1
  refine fe_all C fk_hwr cX59_init [1, 7, 9, 13, 17, 20, 25, 30, 40, 43, 46, 57, 60, 61, 65, 68, 72, 75, 80, 85, 90, 93, 96, 101, 104, 107, 111, 114, 117, 121, 124, 125, 130, 135, 139, 143, 146, 150, 154, 157, 161, 165, 168, 172, 176, 179, 183, 187, 190, 194, 198, 201] (by decide +kernel) (fe_fil (cps := [(1, 4, .monitorenter), (7, 9, .anewarray 96134), (9, 12, .putfield 390201474), (13, 16, .new 1986), (17, 20, .invokevirtual 4226079), (20, 23, .putfield 394395778), (25, 28, .anewarray 101264), (30, 33, .new 2116), (40, 43, .invokevirtual 83919905), (43, 44, .instanceof 956335137), (46, 49, .new 2116), (57, 60, .invokevirtual 83919905), (60, 61, .instanceof 956335137), (61, 64, .putfield 411172994), (65, 68, .invokestatic 131), (68, 71, .putfield 415367298), (72, 75, .invokestatic 195), (75, 78, .putfield 419561602), (80, 83, .anewarray 104338), (85, 88, .new 2433), (90, 93, .invokevirtual 276863014), (93, 94, .instanceof 958433318), (96, 99, .new 2433), (101, 104, .invokevirtual 276863014), (104, 105, .instanceof 958433318), (107, 110, .new 2176), (111, 114, .invokevirtual 339773474), (114, 115, .instanceof 958433318), (117, 120, .new 2240), (121, 124, .invokevirtual 406883363), (124, 125, .instanceof 958433318), (125, 128, .putfield 423755906), (130, 133, .getfield 423755906), (135, 138, .putfield 427950210), (139, 142, .new 2304), (143, 146, .invokevirtual 473993252), (146, 149, .putfield 432144514), (150, 153, .new 2368), (154, 157, .invokevirtual 541103141), (157, 160, .putfield 436338818), (161, 164, .new 2501), (165, 168, .invokevirtual 608214055), (168, 171, .putfield 440533122), (172, 175, .new 2501), (176, 179, .invokevirtual 608214055), (179, 182, .putfield 444727426), (183, 186, .new 2501), (187, 190, .invokevirtual 608214055), (190, 193, .putfield 448921730), (194, 197, .new 2501), (198, 201, .invokevirtual 608214055), (201, 204, .putfield 453116034)]) (by decide +kernel) ?_)
  refine fs_c1 (fs_init (pc := 1) (idx := 3) C (by decide +kernel) (kw K hw q1432) (kw K hw q441) (kw K hw q442) ⟨(Nat.le_of_ble_eq_true rfl), (Nat.le_of_ble_eq_true rfl)⟩) ?_
  refine fs_c1 (fs_newL (pc := 7) (n := 96134) C (by decide +kernel) (kw K hw q648) rfl rfl) ?_
  refine fs_c1 (fs_putf (pc := 9) (n := 390201474) (idx := 9) (ref := "BoardMachine$Floats$FloatUnit") (O := "BoardMachine$Floats$FloatUnit") (name := "registers") (desc := "[J") (fin := true) (ty := (.array .long)) C (by decide +kernel) (Or.inr ⟨rfl, kw K hw q1606, hnm, rfl⟩) (fun _ h => h) (Nat.le_of_ble_eq_true rfl) (Nat.le_of_ble_eq_true rfl) (Nat.le_of_ble_eq_true rfl) rfl rfl (by decide) (fs_one (⟨rfl, ff_32_93 s0 H0 oa D⟩))) ?_
  refine fs_c1 (fs_newo (pc := 13) (n := 1986) (idx := 15) (CC := "BoardMachine$Floats$Flags") (T := fT_31) (N := 2) C (by decide +kernel) (kw K hw q1433) (kw K hw q1434) (kw K hw q371) (by decide) (Nat.le_of_ble_eq_true rfl) rfl rfl) ?_
  refine fs_c1 (fs_inv_virtual (pc := 17) (n := 4226079) C (Nat.le_of_ble_eq_true rfl) (Nat.le_of_ble_eq_true rfl) (fs_lk_init (idx := 17) (y := ⟨"BoardMachine$Floats$Flags", "<init>", "()V"⟩) (bytes := prog_28_method_1_code) (maxL := 1) (d := 1) C (Nat.le_of_ble_eq_true rfl) (Nat.le_of_ble_eq_true rfl) (by decide +kernel) (kw K hw q1437) (kw K hw q371) (kw K hw q1436) (Or.inr ⟨_, kM K hw q1435⟩) rfl ⟨by decide, by decide⟩ rfl (Nat.le_of_ble_eq_true rfl) (Nat.le_of_ble_eq_true rfl)) fs_con_mono o0) ?_
  refine fs_c1 (fs_putf (pc := 20) (n := 394395778) (idx := 18) (ref := "BoardMachine$Floats$FloatUnit") (O := "BoardMachine$Floats$FloatUnit") (name := "flags") (desc := "LBoardMachine$Floats$Flags;") (fin := true) (ty := (.object "BoardMachine$Floats$Flags")) C (by decide +kernel) (Or.inr ⟨rfl, kw K hw q1609, hnm, rfl⟩) (fun _ h => h) (Nat.le_of_ble_eq_true rfl) (Nat.le_of_ble_eq_true rfl) (Nat.le_of_ble_eq_true rfl) rfl rfl (by decide) (fs_one (⟨rfl, ff_32_94 s0 H0 oa D⟩))) ?_
  refine fs_c1 (fs_newr (pc := 25) (n := 101264) (t := 912) (idx := 22) (CC := "BoardMachine$Floats$Format") C (by decide +kernel) (kw K hw q1449) (kO K hw q1450) rfl (Nat.le_of_ble_eq_true rfl) rfl rfl) ?_
  refine fs_c1 (fs_newo (pc := 30) (n := 2116) (idx := 22) (CC := "BoardMachine$Floats$Format") (T := fT_33) (N := 4) C (by decide +kernel) (kw K hw q1449) (kw K hw q1451) (kw K hw q372) (by decide) (Nat.le_of_ble_eq_true rfl) rfl rfl) ?_
  refine fs_c1 (fs_inv_virtual (pc := 40) (n := 83919905) C (Nat.le_of_ble_eq_true rfl) (Nat.le_of_ble_eq_true rfl) (fs_lk_init (idx := 24) (y := ⟨"BoardMachine$Floats$Format", "<init>", "(III)V"⟩) (bytes := prog_30_method_1_code) (maxL := 4) (d := 2) C (Nat.le_of_ble_eq_true rfl) (Nat.le_of_ble_eq_true rfl) (by decide +kernel) (kw K hw q1454) (kw K hw q372) (kw K hw q1453) (Or.inl (kw K hw q1452)) rfl ⟨by decide, by decide⟩ rfl (Nat.le_of_ble_eq_true rfl) (Nat.le_of_ble_eq_true rfl)) fs_con_mono o1) ?_
  refine fs_c1 (fs_astr (pc := 43) (n := 956335137) (EE := "BoardMachine$Floats$Format") C (by decide +kernel) (Nat.le_of_ble_eq_true rfl) rfl rfl (Nat.le_of_ble_eq_true rfl) (Nat.le_of_ble_eq_true rfl) (fs_one (⟨_, rfl, Or.inl rfl⟩))) ?_
  refine fs_c1 (fs_newo (pc := 46) (n := 2116) (idx := 22) (CC := "BoardMachine$Floats$Format") (T := fT_33) (N := 4) C (by decide +kernel) (kw K hw q1449) (kw K hw q1451) (kw K hw q372) (by decide) (Nat.le_of_ble_eq_true rfl) rfl rfl) ?_
  refine fs_c1 (fs_inv_virtual (pc := 57) (n := 83919905) C (Nat.le_of_ble_eq_true rfl) (Nat.le_of_ble_eq_true rfl) (fs_lk_init (idx := 24) (y := ⟨"BoardMachine$Floats$Format", "<init>", "(III)V"⟩) (bytes := prog_30_method_1_code) (maxL := 4) (d := 2) C (Nat.le_of_ble_eq_true rfl) (Nat.le_of_ble_eq_true rfl) (by decide +kernel) (kw K hw q1454) (kw K hw q372) (kw K hw q1453) (Or.inl (kw K hw q1452)) rfl ⟨by decide, by decide⟩ rfl (Nat.le_of_ble_eq_true rfl) (Nat.le_of_ble_eq_true rfl)) fs_con_mono o1) ?_
  refine fs_c1 (fs_astr (pc := 60) (n := 956335137) (EE := "BoardMachine$Floats$Format") C (by decide +kernel) (Nat.le_of_ble_eq_true rfl) rfl rfl (Nat.le_of_ble_eq_true rfl) (Nat.le_of_ble_eq_true rfl) (fs_one (⟨_, rfl, Or.inl rfl⟩))) ?_
  refine fs_c1 (fs_putf (pc := 61) (n := 411172994) (idx := 27) (ref := "BoardMachine$Floats$FloatUnit") (O := "BoardMachine$Floats$FloatUnit") (name := "formats") (desc := "[LBoardMachine$Floats$Format;") (fin := true) (ty := (.array (.object "BoardMachine$Floats$Format"))) C (by decide +kernel) (Or.inr ⟨rfl, kw K hw q1616, hnm, rfl⟩) (fun _ h => h) (Nat.le_of_ble_eq_true rfl) (Nat.le_of_ble_eq_true rfl) (Nat.le_of_ble_eq_true rfl) rfl rfl (by decide) (fs_one (⟨rfl, ff_32_98 s0 H0 oa D⟩))) ?_
  refine fs_c1 (fs_inv_static (pc := 65) (n := 131) C (fs_lk_static (idx := 31) (y := ⟨"BoardMachine$Floats$Mode", "values", "()[LBoardMachine$Floats$Mode;"⟩) (bytes := prog_31_method_1_code) (maxL := 0) (rt := (Option.some (Jvm.ClassFile.FieldType.array (Jvm.ClassFile.FieldType.object "BoardMachine$Floats$Mode")))) (d := 1) C (by decide +kernel) (kw K hw q1491) (kw K hw q374) (kw K hw q1490) (Or.inl (kw K hw q1489)) ⟨by decide, by decide⟩ rfl (Nat.le_of_ble_eq_true rfl) (Nat.le_of_ble_eq_true rfl)) fs_con_mono o2) ?_
  refine fs_c1 (fs_putf (pc := 68) (n := 415367298) (idx := 37) (ref := "BoardMachine$Floats$FloatUnit") (O := "BoardMachine$Floats$FloatUnit") (name := "modes") (desc := "[LBoardMachine$Floats$Mode;") (fin := true) (ty := (.array (.object "BoardMachine$Floats$Mode"))) C (by decide +kernel) (Or.inr ⟨rfl, kw K hw q1617, hnm, rfl⟩) (fun _ h => h) (Nat.le_of_ble_eq_true rfl) (Nat.le_of_ble_eq_true rfl) (Nat.le_of_ble_eq_true rfl) rfl rfl (by decide) (fs_one (⟨rfl, ff_32_99 s0 H0 oa D⟩))) ?_
  refine fs_c1 (fs_inv_static (pc := 72) (n := 195) C (fs_lk_static (idx := 41) (y := ⟨"BoardMachine$Floats$Whole", "values", "()[LBoardMachine$Floats$Whole;"⟩) (bytes := prog_40_method_1_code) (maxL := 0) (rt := (Option.some (Jvm.ClassFile.FieldType.array (Jvm.ClassFile.FieldType.object "BoardMachine$Floats$Whole")))) (d := 1) C (by decide +kernel) (kw K hw q1502) (kw K hw q375) (kw K hw q1501) (Or.inl (kw K hw q1500)) ⟨by decide, by decide⟩ rfl (Nat.le_of_ble_eq_true rfl) (Nat.le_of_ble_eq_true rfl)) fs_con_mono o3) ?_
  refine fs_c1 (fs_putf (pc := 75) (n := 419561602) (idx := 46) (ref := "BoardMachine$Floats$FloatUnit") (O := "BoardMachine$Floats$FloatUnit") (name := "wholes") (desc := "[LBoardMachine$Floats$Whole;") (fin := true) (ty := (.array (.object "BoardMachine$Floats$Whole"))) C (by decide +kernel) (Or.inr ⟨rfl, kw K hw q1618, hnm, rfl⟩) (fun _ h => h) (Nat.le_of_ble_eq_true rfl) (Nat.le_of_ble_eq_true rfl) (Nat.le_of_ble_eq_true rfl) rfl rfl (by decide) (fs_one (⟨rfl, ff_32_100 s0 H0 oa D⟩))) ?_
  refine fs_c1 (fs_newr (pc := 80) (n := 104338) (t := 914) (idx := 50) (CC := "BoardMachine$Floats$Operation") C (by decide +kernel) (kw K hw q1511) (kO K hw q1512) rfl (Nat.le_of_ble_eq_true rfl) rfl rfl) ?_
  refine fs_c1 (fs_newo (pc := 85) (n := 2433) (idx := 52) (CC := "BoardMachine$Floats$Sum") (T := fT_38) (N := 1) C (by decide +kernel) (kw K hw q1513) (kw K hw q1514) (kw K hw q377) (by decide) (Nat.le_of_ble_eq_true rfl) rfl rfl) ?_
  refine fs_c1 (fs_inv_virtual (pc := 90) (n := 276863014) C (Nat.le_of_ble_eq_true rfl) (Nat.le_of_ble_eq_true rfl) (fs_lk_init (idx := 54) (y := ⟨"BoardMachine$Floats$Sum", "<init>", "(Z)V"⟩) (bytes := prog_38_method_1_code) (maxL := 2) (d := 2) C (Nat.le_of_ble_eq_true rfl) (Nat.le_of_ble_eq_true rfl) (by decide +kernel) (kw K hw q1517) (kw K hw q377) (kw K hw q1516) (Or.inl (kw K hw q1515)) rfl ⟨by decide, by decide⟩ rfl (Nat.le_of_ble_eq_true rfl) (Nat.le_of_ble_eq_true rfl)) fs_con_mono o4) ?_
  refine fs_c1 (fs_astr (pc := 93) (n := 958433318) (EE := "BoardMachine$Floats$Operation") C (by decide +kernel) (Nat.le_of_ble_eq_true rfl) rfl rfl (Nat.le_of_ble_eq_true rfl) (Nat.le_of_ble_eq_true rfl) (fs_rc (⟨_, rfl, Or.inr (kC K hw q6541)⟩) (fs_rc (⟨_, rfl, Or.inr (kC K hw q6542)⟩) (fs_rc (⟨_, rfl, Or.inr (kC K hw q6543)⟩) (fs_rc (⟨_, rfl, Or.inr (kC K hw q6544)⟩) (fs_one (⟨_, rfl, Or.inr (kC K hw q6545)⟩))))))) ?_
  refine fs_c1 (fs_newo (pc := 96) (n := 2433) (idx := 52) (CC := "BoardMachine$Floats$Sum") (T := fT_38) (N := 1) C (by decide +kernel) (kw K hw q1513) (kw K hw q1514) (kw K hw q377) (by decide) (Nat.le_of_ble_eq_true rfl) rfl rfl) ?_
  refine fs_c1 (fs_inv_virtual (pc := 101) (n := 276863014) C (Nat.le_of_ble_eq_true rfl) (Nat.le_of_ble_eq_true rfl) (fs_lk_init (idx := 54) (y := ⟨"BoardMachine$Floats$Sum", "<init>", "(Z)V"⟩) (bytes := prog_38_method_1_code) (maxL := 2) (d := 2) C (Nat.le_of_ble_eq_true rfl) (Nat.le_of_ble_eq_true rfl) (by decide +kernel) (kw K hw q1517) (kw K hw q377) (kw K hw q1516) (Or.inl (kw K hw q1515)) rfl ⟨by decide, by decide⟩ rfl (Nat.le_of_ble_eq_true rfl) (Nat.le_of_ble_eq_true rfl)) fs_con_mono o4) ?_
  refine fs_c1 (fs_astr (pc := 104) (n := 958433318) (EE := "BoardMachine$Floats$Operation") C (by decide +kernel) (Nat.le_of_ble_eq_true rfl) rfl rfl (Nat.le_of_ble_eq_true rfl) (Nat.le_of_ble_eq_true rfl) (fs_rc (⟨_, rfl, Or.inr (kC K hw q6541)⟩) (fs_rc (⟨_, rfl, Or.inr (kC K hw q6542)⟩) (fs_rc (⟨_, rfl, Or.inr (kC K hw q6543)⟩) (fs_rc (⟨_, rfl, Or.inr (kC K hw q6544)⟩) (fs_one (⟨_, rfl, Or.inr (kC K hw q6545)⟩))))))) ?_
  refine fs_c1 (fs_newo (pc := 107) (n := 2176) (idx := 57) (CC := "BoardMachine$Floats$Product") (T := fT_34) (N := 0) C (by decide +kernel) (kw K hw q1526) (kw K hw q1527) (kw K hw q378) (by decide) (Nat.le_of_ble_eq_true rfl) rfl rfl) ?_
  refine fs_c1 (fs_inv_virtual (pc := 111) (n := 339773474) C (Nat.le_of_ble_eq_true rfl) (Nat.le_of_ble_eq_true rfl) (fs_lk_init (idx := 59) (y := ⟨"BoardMachine$Floats$Product", "<init>", "()V"⟩) (bytes := prog_33_method_1_code) (maxL := 1) (d := 2) C (Nat.le_of_ble_eq_true rfl) (Nat.le_of_ble_eq_true rfl) (by decide +kernel) (kw K hw q1530) (kw K hw q378) (kw K hw q1529) (Or.inr ⟨_, kM K hw q1528⟩) rfl ⟨by decide, by decide⟩ rfl (Nat.le_of_ble_eq_true rfl) (Nat.le_of_ble_eq_true rfl)) fs_con_mono o5) ?_
  refine fs_c1 (fs_astr (pc := 114) (n := 958433318) (EE := "BoardMachine$Floats$Operation") C (by decide +kernel) (Nat.le_of_ble_eq_true rfl) rfl rfl (Nat.le_of_ble_eq_true rfl) (Nat.le_of_ble_eq_true rfl) (fs_rc (⟨_, rfl, Or.inr (kC K hw q6541)⟩) (fs_rc (⟨_, rfl, Or.inr (kC K hw q6542)⟩) (fs_rc (⟨_, rfl, Or.inr (kC K hw q6543)⟩) (fs_rc (⟨_, rfl, Or.inr (kC K hw q6544)⟩) (fs_one (⟨_, rfl, Or.inr (kC K hw q6545)⟩))))))) ?_
  refine fs_c1 (fs_newo (pc := 117) (n := 2240) (idx := 60) (CC := "BoardMachine$Floats$Quotient") (T := fT_35) (N := 0) C (by decide +kernel) (kw K hw q1533) (kw K hw q1534) (kw K hw q379) (by decide) (Nat.le_of_ble_eq_true rfl) rfl rfl) ?_
  refine fs_c1 (fs_inv_virtual (pc := 121) (n := 406883363) C (Nat.le_of_ble_eq_true rfl) (Nat.le_of_ble_eq_true rfl) (fs_lk_init (idx := 62) (y := ⟨"BoardMachine$Floats$Quotient", "<init>", "()V"⟩) (bytes := prog_34_method_1_code) (maxL := 1) (d := 2) C (Nat.le_of_ble_eq_true rfl) (Nat.le_of_ble_eq_true rfl) (by decide +kernel) (kw K hw q1537) (kw K hw q379) (kw K hw q1536) (Or.inr ⟨_, kM K hw q1535⟩) rfl ⟨by decide, by decide⟩ rfl (Nat.le_of_ble_eq_true rfl) (Nat.le_of_ble_eq_true rfl)) fs_con_mono o6) ?_
  refine fs_c1 (fs_astr (pc := 124) (n := 958433318) (EE := "BoardMachine$Floats$Operation") C (by decide +kernel) (Nat.le_of_ble_eq_true rfl) rfl rfl (Nat.le_of_ble_eq_true rfl) (Nat.le_of_ble_eq_true rfl) (fs_rc (⟨_, rfl, Or.inr (kC K hw q6541)⟩) (fs_rc (⟨_, rfl, Or.inr (kC K hw q6542)⟩) (fs_rc (⟨_, rfl, Or.inr (kC K hw q6543)⟩) (fs_rc (⟨_, rfl, Or.inr (kC K hw q6544)⟩) (fs_one (⟨_, rfl, Or.inr (kC K hw q6545)⟩))))))) ?_
  refine fs_c1 (fs_putf (pc := 125) (n := 423755906) (idx := 63) (ref := "BoardMachine$Floats$FloatUnit") (O := "BoardMachine$Floats$FloatUnit") (name := "operations") (desc := "[LBoardMachine$Floats$Operation;") (fin := true) (ty := (.array (.object "BoardMachine$Floats$Operation"))) C (by decide +kernel) (Or.inr ⟨rfl, kw K hw q1619, hnm, rfl⟩) (fun _ h => h) (Nat.le_of_ble_eq_true rfl) (Nat.le_of_ble_eq_true rfl) (Nat.le_of_ble_eq_true rfl) rfl rfl (by decide) (fs_one (⟨rfl, ff_32_101 s0 H0 oa D⟩))) ?_
  refine fs_c1 (fs_getf (pc := 130) (n := 423755906) (idx := 63) (ref := "BoardMachine$Floats$FloatUnit") (O := "BoardMachine$Floats$FloatUnit") (name := "operations") (desc := "[LBoardMachine$Floats$Operation;") C (by decide +kernel) (Or.inl (kw K hw q1619)) (fun _ h => h) (Nat.le_of_ble_eq_true rfl) (Nat.le_of_ble_eq_true rfl) (fs_one (⟨_, ff_32_101 s0 H0 oa D⟩))) ?_
  refine fs_c1 (fs_putf (pc := 135) (n := 427950210) (idx := 67) (ref := "BoardMachine$Floats$FloatUnit") (O := "BoardMachine$Floats$FloatUnit") (name := "product") (desc := "LBoardMachine$Floats$Operation;") (fin := true) (ty := (.object "BoardMachine$Floats$Operation")) C (by decide +kernel) (Or.inr ⟨rfl, kw K hw q1620, hnm, rfl⟩) (fun _ h => h) (Nat.le_of_ble_eq_true rfl) (Nat.le_of_ble_eq_true rfl) (Nat.le_of_ble_eq_true rfl) rfl rfl (by decide) (fs_one (⟨rfl, ff_32_102 s0 H0 oa D⟩))) ?_
  refine fs_c1 (fs_newo (pc := 139) (n := 2304) (idx := 71) (CC := "BoardMachine$Floats$Root") (T := fT_36) (N := 0) C (by decide +kernel) (kw K hw q1540) (kw K hw q1541) (kw K hw q380) (by decide) (Nat.le_of_ble_eq_true rfl) rfl rfl) ?_
  refine fs_c1 (fs_inv_virtual (pc := 143) (n := 473993252) C (Nat.le_of_ble_eq_true rfl) (Nat.le_of_ble_eq_true rfl) (fs_lk_init (idx := 73) (y := ⟨"BoardMachine$Floats$Root", "<init>", "()V"⟩) (bytes := prog_35_method_1_code) (maxL := 1) (d := 2) C (Nat.le_of_ble_eq_true rfl) (Nat.le_of_ble_eq_true rfl) (by decide +kernel) (kw K hw q1544) (kw K hw q380) (kw K hw q1543) (Or.inr ⟨_, kM K hw q1542⟩) rfl ⟨by decide, by decide⟩ rfl (Nat.le_of_ble_eq_true rfl) (Nat.le_of_ble_eq_true rfl)) fs_con_mono o7) ?_
  refine fs_c1 (fs_putf (pc := 146) (n := 432144514) (idx := 74) (ref := "BoardMachine$Floats$FloatUnit") (O := "BoardMachine$Floats$FloatUnit") (name := "root") (desc := "LBoardMachine$Floats$Operation;") (fin := true) (ty := (.object "BoardMachine$Floats$Operation")) C (by decide +kernel) (Or.inr ⟨rfl, kw K hw q1621, hnm, rfl⟩) (fun _ h => h) (Nat.le_of_ble_eq_true rfl) (Nat.le_of_ble_eq_true rfl) (Nat.le_of_ble_eq_true rfl) rfl rfl (by decide) (fs_one (⟨rfl, ff_32_103 s0 H0 oa D⟩))) ?_
  refine fs_c1 (fs_newo (pc := 150) (n := 2368) (idx := 77) (CC := "BoardMachine$Floats$Same") (T := fT_37) (N := 0) C (by decide +kernel) (kw K hw q1547) (kw K hw q1548) (kw K hw q381) (by decide) (Nat.le_of_ble_eq_true rfl) rfl rfl) ?_
  refine fs_c1 (fs_inv_virtual (pc := 154) (n := 541103141) C (Nat.le_of_ble_eq_true rfl) (Nat.le_of_ble_eq_true rfl) (fs_lk_init (idx := 79) (y := ⟨"BoardMachine$Floats$Same", "<init>", "()V"⟩) (bytes := prog_36_method_1_code) (maxL := 1) (d := 2) C (Nat.le_of_ble_eq_true rfl) (Nat.le_of_ble_eq_true rfl) (by decide +kernel) (kw K hw q1551) (kw K hw q381) (kw K hw q1550) (Or.inr ⟨_, kM K hw q1549⟩) rfl ⟨by decide, by decide⟩ rfl (Nat.le_of_ble_eq_true rfl) (Nat.le_of_ble_eq_true rfl)) fs_con_mono o8) ?_
  refine fs_c1 (fs_putf (pc := 157) (n := 436338818) (idx := 80) (ref := "BoardMachine$Floats$FloatUnit") (O := "BoardMachine$Floats$FloatUnit") (name := "same") (desc := "LBoardMachine$Floats$Operation;") (fin := true) (ty := (.object "BoardMachine$Floats$Operation")) C (by decide +kernel) (Or.inr ⟨rfl, kw K hw q1622, hnm, rfl⟩) (fun _ h => h) (Nat.le_of_ble_eq_true rfl) (Nat.le_of_ble_eq_true rfl) (Nat.le_of_ble_eq_true rfl) rfl rfl (by decide) (fs_one (⟨rfl, ff_32_104 s0 H0 oa D⟩))) ?_
  refine fs_c1 (fs_newo (pc := 161) (n := 2501) (idx := 83) (CC := "BoardMachine$Floats$Taken") (T := fT_39) (N := 5) C (by decide +kernel) (kw K hw q1554) (kw K hw q1555) (kw K hw q382) (by decide) (Nat.le_of_ble_eq_true rfl) rfl rfl) ?_
  refine fs_c1 (fs_inv_virtual (pc := 165) (n := 608214055) C (Nat.le_of_ble_eq_true rfl) (Nat.le_of_ble_eq_true rfl) (fs_lk_init (idx := 85) (y := ⟨"BoardMachine$Floats$Taken", "<init>", "()V"⟩) (bytes := prog_39_method_1_code) (maxL := 1) (d := 2) C (Nat.le_of_ble_eq_true rfl) (Nat.le_of_ble_eq_true rfl) (by decide +kernel) (kw K hw q1558) (kw K hw q382) (kw K hw q1557) (Or.inr ⟨_, kM K hw q1556⟩) rfl ⟨by decide, by decide⟩ rfl (Nat.le_of_ble_eq_true rfl) (Nat.le_of_ble_eq_true rfl)) fs_con_mono o9) ?_
  refine fs_c1 (fs_putf (pc := 168) (n := 440533122) (idx := 86) (ref := "BoardMachine$Floats$FloatUnit") (O := "BoardMachine$Floats$FloatUnit") (name := "first") (desc := "LBoardMachine$Floats$Taken;") (fin := true) (ty := (.object "BoardMachine$Floats$Taken")) C (by decide +kernel) (Or.inr ⟨rfl, kw K hw q1623, hnm, rfl⟩) (fun _ h => h) (Nat.le_of_ble_eq_true rfl) (Nat.le_of_ble_eq_true rfl) (Nat.le_of_ble_eq_true rfl) rfl rfl (by decide) (fs_one (⟨rfl, ff_32_105 s0 H0 oa D⟩))) ?_
  refine fs_c1 (fs_newo (pc := 172) (n := 2501) (idx := 83) (CC := "BoardMachine$Floats$Taken") (T := fT_39) (N := 5) C (by decide +kernel) (kw K hw q1554) (kw K hw q1555) (kw K hw q382) (by decide) (Nat.le_of_ble_eq_true rfl) rfl rfl) ?_
  refine fs_c1 (fs_inv_virtual (pc := 176) (n := 608214055) C (Nat.le_of_ble_eq_true rfl) (Nat.le_of_ble_eq_true rfl) (fs_lk_init (idx := 85) (y := ⟨"BoardMachine$Floats$Taken", "<init>", "()V"⟩) (bytes := prog_39_method_1_code) (maxL := 1) (d := 2) C (Nat.le_of_ble_eq_true rfl) (Nat.le_of_ble_eq_true rfl) (by decide +kernel) (kw K hw q1558) (kw K hw q382) (kw K hw q1557) (Or.inr ⟨_, kM K hw q1556⟩) rfl ⟨by decide, by decide⟩ rfl (Nat.le_of_ble_eq_true rfl) (Nat.le_of_ble_eq_true rfl)) fs_con_mono o9) ?_
  refine fs_c1 (fs_putf (pc := 179) (n := 444727426) (idx := 90) (ref := "BoardMachine$Floats$FloatUnit") (O := "BoardMachine$Floats$FloatUnit") (name := "second") (desc := "LBoardMachine$Floats$Taken;") (fin := true) (ty := (.object "BoardMachine$Floats$Taken")) C (by decide +kernel) (Or.inr ⟨rfl, kw K hw q1624, hnm, rfl⟩) (fun _ h => h) (Nat.le_of_ble_eq_true rfl) (Nat.le_of_ble_eq_true rfl) (Nat.le_of_ble_eq_true rfl) rfl rfl (by decide) (fs_one (⟨rfl, ff_32_106 s0 H0 oa D⟩))) ?_
  refine fs_c1 (fs_newo (pc := 183) (n := 2501) (idx := 83) (CC := "BoardMachine$Floats$Taken") (T := fT_39) (N := 5) C (by decide +kernel) (kw K hw q1554) (kw K hw q1555) (kw K hw q382) (by decide) (Nat.le_of_ble_eq_true rfl) rfl rfl) ?_
  refine fs_c1 (fs_inv_virtual (pc := 187) (n := 608214055) C (Nat.le_of_ble_eq_true rfl) (Nat.le_of_ble_eq_true rfl) (fs_lk_init (idx := 85) (y := ⟨"BoardMachine$Floats$Taken", "<init>", "()V"⟩) (bytes := prog_39_method_1_code) (maxL := 1) (d := 2) C (Nat.le_of_ble_eq_true rfl) (Nat.le_of_ble_eq_true rfl) (by decide +kernel) (kw K hw q1558) (kw K hw q382) (kw K hw q1557) (Or.inr ⟨_, kM K hw q1556⟩) rfl ⟨by decide, by decide⟩ rfl (Nat.le_of_ble_eq_true rfl) (Nat.le_of_ble_eq_true rfl)) fs_con_mono o9) ?_
  refine fs_c1 (fs_putf (pc := 190) (n := 448921730) (idx := 93) (ref := "BoardMachine$Floats$FloatUnit") (O := "BoardMachine$Floats$FloatUnit") (name := "third") (desc := "LBoardMachine$Floats$Taken;") (fin := true) (ty := (.object "BoardMachine$Floats$Taken")) C (by decide +kernel) (Or.inr ⟨rfl, kw K hw q1625, hnm, rfl⟩) (fun _ h => h) (Nat.le_of_ble_eq_true rfl) (Nat.le_of_ble_eq_true rfl) (Nat.le_of_ble_eq_true rfl) rfl rfl (by decide) (fs_one (⟨rfl, ff_32_107 s0 H0 oa D⟩))) ?_
  refine fs_c1 (fs_newo (pc := 194) (n := 2501) (idx := 83) (CC := "BoardMachine$Floats$Taken") (T := fT_39) (N := 5) C (by decide +kernel) (kw K hw q1554) (kw K hw q1555) (kw K hw q382) (by decide) (Nat.le_of_ble_eq_true rfl) rfl rfl) ?_
  refine fs_c1 (fs_inv_virtual (pc := 198) (n := 608214055) C (Nat.le_of_ble_eq_true rfl) (Nat.le_of_ble_eq_true rfl) (fs_lk_init (idx := 85) (y := ⟨"BoardMachine$Floats$Taken", "<init>", "()V"⟩) (bytes := prog_39_method_1_code) (maxL := 1) (d := 2) C (Nat.le_of_ble_eq_true rfl) (Nat.le_of_ble_eq_true rfl) (by decide +kernel) (kw K hw q1558) (kw K hw q382) (kw K hw q1557) (Or.inr ⟨_, kM K hw q1556⟩) rfl ⟨by decide, by decide⟩ rfl (Nat.le_of_ble_eq_true rfl) (Nat.le_of_ble_eq_true rfl)) fs_con_mono o9) ?_
  refine fs_c1 (fs_putf (pc := 201) (n := 453116034) (idx := 96) (ref := "BoardMachine$Floats$FloatUnit") (O := "BoardMachine$Floats$FloatUnit") (name := "out") (desc := "LBoardMachine$Floats$Taken;") (fin := true) (ty := (.object "BoardMachine$Floats$Taken")) C (by decide +kernel) (Or.inr ⟨rfl, kw K hw q1626, hnm, rfl⟩) (fun _ h => h) (Nat.le_of_ble_eq_true rfl) (Nat.le_of_ble_eq_true rfl) (Nat.le_of_ble_eq_true rfl) rfl rfl (by decide) (fs_one (⟨rfl, ff_32_108 s0 H0 oa D⟩))) ?_
  exact fs_c0
theorem hX73_init : fe_H (sX73_init) cX73_init [0] fe_kv [] 20 (fun _ => dX73_init FX73_init_0) := by
  intro j pc L st M r hc h
  rcases fe_mem_c hc with rfl | hc
  · obtain ⟨w0, m0, h⟩ := fe_lR_d h
    obtain ⟨rfl, hz⟩ := fe_t0_d h
    exact ⟨[(0, .ref w0)], (fe_cs m0 fe_nl), Or.inr ((bX73_init_0 FX73_init_0 w0 M).symm.trans hz)⟩
  exact fe_mem_0 hc
theorem vX73_init : fe_SB (sX73_init) := by
  refine ⟨?_, ?_, ?_, ?_⟩
  · intro i As M r h
    exact fe_no h
  · intro i As M r h
    exact fe_no h
  · intro i As M r h
    exact fe_no h
  · intro i As M r h
    exact fe_no h
theorem eX73_init (g0 : Nat → FM → Option (FM)) (a0 : Nat) (M : FM) : dX73_init g0 0 [(0, .ref a0)] [] M = g0 a0 M := by rfl
theorem mX73_init (a0 : Nat) (M : FM) (r : FM) (h : FX73_init a0 M = some r) : fm_nx M ≤ fm_nx r ∧ fm_ns M ≤ fm_ns r :=
  fe_mono (L0 := [(0, .ref a0)]) (vX73_init) (by decide +kernel) (hX73_init) (fe_kv_k r) 0 rfl ((eX73_init FX73_init_0 a0 M).trans h)
theorem zX73_init {s0 : State} {H0 : Heap} {oa : Nat → Nat} {D : va_G} (K : fk s0 H0 oa D) (l : Launch) (a0 : Nat) (M : FM) (r : FM) (h : FX73_init a0 M = some r) : fs_Con (fk_E s0 H0 oa D) l 1 ⟨"BoardMachine$Found", "<init>", "()V"⟩ prog_42_method_1_code 1 (Option.none : Option Jvm.ClassFile.FieldType) [.ref a0] M none r := by
  refine fs_method (own := "BoardMachine$Found") rfl (by decide) K.2.1 (by rw [fe_slen]; exact (Nat.le_of_ble_eq_true rfl)) (mX73_init a0 M r h) (hX73_init) 0 rfl (L0 := [(0, .ref a0)]) (fun E => fe_args_e E [.ref a0] 0) ((eX73_init FX73_init_0 a0 M).trans h) (fe_kv_k r) (fun H hR => fs_nr_o (by decide) (by decide)) ?_
  intro p e s m args below meth c Q C hnm
  have hw : s0.WarmedH s.vm := C.2.2.2.2.1
  refine fe_all C fk_hwr cX73_init [1, 7, 9] (by decide +kernel) (fe_fil (cps := [(1, 4, .monitorenter), (7, 9, .anewarray 124806), (9, 12, .putfield 507678886)]) (by decide +kernel) ?_)
  refine fs_c1 (fs_init (pc := 1) (idx := 1) C (by decide +kernel) (kw K hw q1667) (kw K hw q441) (kw K hw q442) ⟨(Nat.le_of_ble_eq_true rfl), (Nat.le_of_ble_eq_true rfl)⟩) ?_
  refine fs_c1 (fs_newL (pc := 7) (n := 124806) C (by decide +kernel) (kw K hw q648) rfl rfl) ?_
  refine fs_c1 (fs_putf (pc := 9) (n := 507678886) (idx := 7) (ref := "BoardMachine$Found") (O := "BoardMachine$Found") (name := "places") (desc := "[J") (fin := true) (ty := (.array .long)) C (by decide +kernel) (Or.inr ⟨rfl, kw K hw q1668, hnm, rfl⟩) (fun _ h => h) (Nat.le_of_ble_eq_true rfl) (Nat.le_of_ble_eq_true rfl) (Nat.le_of_ble_eq_true rfl) rfl rfl (by decide) (fs_one (⟨rfl, ff_41_121 s0 H0 oa D⟩))) ?_
  exact fs_c0
theorem hX75_init : fe_H (sX75_init) cX75_init [0] fe_kv [] 20 (fun _ => dX75_init FX75_init_0) := by
  intro j pc L st M r hc h
  rcases fe_mem_c hc with rfl | hc
  · obtain ⟨w0, m0, h⟩ := fe_lR_d h
    obtain ⟨rfl, hz⟩ := fe_t0_d h
    exact ⟨[(0, .ref w0)], (fe_cs m0 fe_nl), Or.inr ((bX75_init_0 FX75_init_0 w0 M).symm.trans hz)⟩
  exact fe_mem_0 hc
theorem vX75_init : fe_SB (sX75_init) := by
  refine ⟨?_, ?_, ?_, ?_⟩
  · intro i As M r h
    exact fe_no h
  · intro i As M r h
    exact fe_no h
  · intro i As M r h
    exact fe_no h
  · intro i As M r h
    exact fe_no h
theorem eX75_init (g0 : Nat → FM → Option (FM)) (a0 : Nat) (M : FM) : dX75_init g0 0 [(0, .ref a0)] [] M = g0 a0 M := by rfl
theorem mX75_init (a0 : Nat) (M : FM) (r : FM) (h : FX75_init a0 M = some r) : fm_nx M ≤ fm_nx r ∧ fm_ns M ≤ fm_ns r :=
  fe_mono (L0 := [(0, .ref a0)]) (vX75_init) (by decide +kernel) (hX75_init) (fe_kv_k r) 0 rfl ((eX75_init FX75_init_0 a0 M).trans h)
theorem zX75_init {s0 : State} {H0 : Heap} {oa : Nat → Nat} {D : va_G} (K : fk s0 H0 oa D) (l : Launch) (a0 : Nat) (M : FM) (r : FM) (h : FX75_init a0 M = some r) : fs_Con (fk_E s0 H0 oa D) l 1 ⟨"BoardMachine$Controls$Register", "<init>", "()V"⟩ prog_8_method_1_code 1 (Option.none : Option Jvm.ClassFile.FieldType) [.ref a0] M none r := by
  refine fs_method (own := "BoardMachine$Controls$Register") rfl (by decide) K.2.1 (by rw [fe_slen]; exact (Nat.le_of_ble_eq_true rfl)) (mX75_init a0 M r h) (hX75_init) 0 rfl (L0 := [(0, .ref a0)]) (fun E => fe_args_e E [.ref a0] 0) ((eX75_init FX75_init_0 a0 M).trans h) (fe_kv_k r) (fun H hR => fs_nr_o (by decide) (by decide)) ?_
  intro p e s m args below meth c Q C hnm
  have hw : s0.WarmedH s.vm := C.2.2.2.2.1
  refine fe_all C fk_hwr cX75_init [1] (by decide +kernel) (fe_fil (cps := [(1, 4, .monitorenter)]) (by decide +kernel) ?_)
  refine fs_c1 (fs_init (pc := 1) (idx := 1) C (by decide +kernel) (kw K hw q1701) (kw K hw q441) (kw K hw q442) ⟨(Nat.le_of_ble_eq_true rfl), (Nat.le_of_ble_eq_true rfl)⟩) ?_
  exact fs_c0
theorem hX76_init : fe_H (sX76_init FX75_init) cX76_init [0] fe_kv [] 20 (fun _ => dX76_init FX76_init_0) := by
  intro j pc L st M r hc h
  rcases fe_mem_c hc with rfl | hc
  · obtain ⟨w0, m0, h⟩ := fe_lR_d h
    obtain ⟨w1, m1, h⟩ := fe_lL_d h
    obtain ⟨rfl, hz⟩ := fe_t0_d h
    exact ⟨[(0, .ref w0), (1, .long w1)], (fe_cs m0 (fe_cs m1 fe_nl)), Or.inr ((bX76_init_0 FX75_init FX76_init_0 w0 w1 M).symm.trans hz)⟩
  exact fe_mem_0 hc
theorem vX76_init : fe_SB (sX76_init FX75_init) := by
  refine ⟨?_, ?_, ?_, ?_⟩
  · intro i As M r h
    rcases fe_bc h with h | h
    · obtain ⟨v0, t0, rfl, g0⟩ := fe_tR_d h
      obtain ⟨rfl, hz⟩ := fe_t0_d g0
      exact mX75_init v0 M r hz
    exact fe_no h
  · intro i As M r h
    exact fe_no h
  · intro i As M r h
    exact fe_no h
  · intro i As M r h
    exact fe_no h
theorem eX76_init (g0 : Nat → Int64 → FM → Option (FM)) (a0 : Nat) (a1 : Int64) (M : FM) : dX76_init g0 0 [(0, .ref a0), (1, .long a1)] [] M = g0 a0 a1 M := by rfl
theorem mX76_init (a0 : Nat) (a1 : Int64) (M : FM) (r : FM) (h : FX76_init a0 a1 M = some r) : fm_nx M ≤ fm_nx r ∧ fm_ns M ≤ fm_ns r :=
  fe_mono (L0 := [(0, .ref a0), (1, .long a1)]) (vX76_init) (by decide +kernel) (hX76_init) (fe_kv_k r) 0 rfl ((eX76_init FX76_init_0 a0 a1 M).trans h)
theorem zX76_init {s0 : State} {H0 : Heap} {oa : Nat → Nat} {D : va_G} (K : fk s0 H0 oa D) (l : Launch) (a0 : Nat) (a1 : Int64) (M : FM) (r : FM) (h : FX76_init a0 a1 M = some r) : fs_Con (fk_E s0 H0 oa D) l 2 ⟨"BoardMachine$Controls$Constant", "<init>", "(J)V"⟩ prog_4_method_1_code 3 (Option.none : Option Jvm.ClassFile.FieldType) [.ref a0, .long a1] M none r := by
  have o0 : fs_OS (sX76_init FX75_init) 0 0 (fs_Con (fk_E s0 H0 oa D) l 1 ⟨"BoardMachine$Controls$Register", "<init>", "()V"⟩ prog_8_method_1_code 1 (Option.none : Option Jvm.ClassFile.FieldType)) := by
    intro As M r h
    obtain ⟨v0, t0, rfl, g0⟩ := fe_tR_d h
    obtain ⟨rfl, hz⟩ := fe_t0_d g0
    exact zX75_init K l v0 M r hz
  refine fs_method (own := "BoardMachine$Controls$Constant") rfl (by decide) K.2.1 (by rw [fe_slen]; exact (Nat.le_of_ble_eq_true rfl)) (mX76_init a0 a1 M r h) (hX76_init) 0 rfl (L0 := [(0, .ref a0), (1, .long a1)]) (fun E => fe_args_e E [.ref a0, .long a1] 0) ((eX76_init FX76_init_0 a0 a1 M).trans h) (fe_kv_k r) (fun H hR => fs_nr_o (by decide) (by decide)) ?_
  intro p e s m args below meth c Q C hnm
  have hw : s0.WarmedH s.vm := C.2.2.2.2.1
  refine fe_all C fk_hwr cX76_init [1, 6] (by decide +kernel) (fe_fil (cps := [(1, 4, .invokevirtual 4207629), (6, 9, .putfield 167825461)]) (by decide +kernel) ?_)
  refine fs_c1 (fs_inv_virtual (pc := 1) (n := 4207629) C (Nat.le_of_ble_eq_true rfl) (Nat.le_of_ble_eq_true rfl) (fs_lk_init (idx := 1) (y := ⟨"BoardMachine$Controls$Register", "<init>", "()V"⟩) (bytes := prog_8_method_1_code) (maxL := 1) (d := 1) C (Nat.le_of_ble_eq_true rfl) (Nat.le_of_ble_eq_true rfl) (by decide +kernel) (kw K hw q1700) (kw K hw q386) (kw K hw q1699) (Or.inr ⟨_, kM K hw q1698⟩) rfl ⟨by decide, by decide⟩ rfl (Nat.le_of_ble_eq_true rfl) (Nat.le_of_ble_eq_true rfl)) fs_con_mono o0) ?_
  refine fs_c1 (fs_putf (pc := 6) (n := 167825461) (idx := 7) (ref := "BoardMachine$Controls$Constant") (O := "BoardMachine$Controls$Constant") (name := "shown") (desc := "J") (fin := true) (ty := .long) C (by decide +kernel) (Or.inr ⟨rfl, kw K hw q1702, hnm, rfl⟩) (fun _ h => h) (Nat.le_of_ble_eq_true rfl) (Nat.le_of_ble_eq_true rfl) (Nat.le_of_ble_eq_true rfl) rfl rfl (by decide) (fs_one (⟨rfl, ff_13_40 s0 H0 oa D⟩))) ?_
  exact fs_c0
theorem hX77_init : fe_H (sX77_init FX75_init) cX77_init [0] fe_kv [] 20 (fun _ => dX77_init FX77_init_0) := by
  intro j pc L st M r hc h
  rcases fe_mem_c hc with rfl | hc
  · obtain ⟨w0, m0, h⟩ := fe_lR_d h
    obtain ⟨w1, m1, h⟩ := fe_lL_d h
    obtain ⟨rfl, hz⟩ := fe_t0_d h
    exact ⟨[(0, .ref w0), (1, .long w1)], (fe_cs m0 (fe_cs m1 fe_nl)), Or.inr ((bX77_init_0 FX75_init FX77_init_0 w0 w1 M).symm.trans hz)⟩
  exact fe_mem_0 hc
theorem vX77_init : fe_SB (sX77_init FX75_init) := by
  refine ⟨?_, ?_, ?_, ?_⟩
  · intro i As M r h
    rcases fe_bc h with h | h
    · obtain ⟨v0, t0, rfl, g0⟩ := fe_tR_d h
      obtain ⟨rfl, hz⟩ := fe_t0_d g0
      exact mX75_init v0 M r hz
    exact fe_no h
  · intro i As M r h
    exact fe_no h
  · intro i As M r h
    exact fe_no h
  · intro i As M r h
    exact fe_no h
theorem eX77_init (g0 : Nat → Int64 → FM → Option (FM)) (a0 : Nat) (a1 : Int64) (M : FM) : dX77_init g0 0 [(0, .ref a0), (1, .long a1)] [] M = g0 a0 a1 M := by rfl
theorem mX77_init (a0 : Nat) (a1 : Int64) (M : FM) (r : FM) (h : FX77_init a0 a1 M = some r) : fm_nx M ≤ fm_nx r ∧ fm_ns M ≤ fm_ns r :=
  fe_mono (L0 := [(0, .ref a0), (1, .long a1)]) (vX77_init) (by decide +kernel) (hX77_init) (fe_kv_k r) 0 rfl ((eX77_init FX77_init_0 a0 a1 M).trans h)
theorem zX77_init {s0 : State} {H0 : Heap} {oa : Nat → Nat} {D : va_G} (K : fk s0 H0 oa D) (l : Launch) (a0 : Nat) (a1 : Int64) (M : FM) (r : FM) (h : FX77_init a0 a1 M = some r) : fs_Con (fk_E s0 H0 oa D) l 2 ⟨"BoardMachine$Controls$Masked", "<init>", "(J)V"⟩ prog_6_method_1_code 3 (Option.none : Option Jvm.ClassFile.FieldType) [.ref a0, .long a1] M none r := by
  have o0 : fs_OS (sX77_init FX75_init) 0 0 (fs_Con (fk_E s0 H0 oa D) l 1 ⟨"BoardMachine$Controls$Register", "<init>", "()V"⟩ prog_8_method_1_code 1 (Option.none : Option Jvm.ClassFile.FieldType)) := by
    intro As M r h
    obtain ⟨v0, t0, rfl, g0⟩ := fe_tR_d h
    obtain ⟨rfl, hz⟩ := fe_t0_d g0
    exact zX75_init K l v0 M r hz
  refine fs_method (own := "BoardMachine$Controls$Masked") rfl (by decide) K.2.1 (by rw [fe_slen]; exact (Nat.le_of_ble_eq_true rfl)) (mX77_init a0 a1 M r h) (hX77_init) 0 rfl (L0 := [(0, .ref a0), (1, .long a1)]) (fun E => fe_args_e E [.ref a0, .long a1] 0) ((eX77_init FX77_init_0 a0 a1 M).trans h) (fe_kv_k r) (fun H hR => fs_nr_o (by decide) (by decide)) ?_
  intro p e s m args below meth c Q C hnm
  have hw : s0.WarmedH s.vm := C.2.2.2.2.1
  refine fe_all C fk_hwr cX77_init [1, 6] (by decide +kernel) (fe_fil (cps := [(1, 4, .invokevirtual 4208657), (6, 9, .putfield 176218181)]) (by decide +kernel) ?_)
  refine fs_c1 (fs_inv_virtual (pc := 1) (n := 4208657) C (Nat.le_of_ble_eq_true rfl) (Nat.le_of_ble_eq_true rfl) (fs_lk_init (idx := 1) (y := ⟨"BoardMachine$Controls$Register", "<init>", "()V"⟩) (bytes := prog_8_method_1_code) (maxL := 1) (d := 1) C (Nat.le_of_ble_eq_true rfl) (Nat.le_of_ble_eq_true rfl) (by decide +kernel) (kw K hw q1700) (kw K hw q386) (kw K hw q1699) (Or.inr ⟨_, kM K hw q1715⟩) rfl ⟨by decide, by decide⟩ rfl (Nat.le_of_ble_eq_true rfl) (Nat.le_of_ble_eq_true rfl)) fs_con_mono o0) ?_
  refine fs_c1 (fs_putf (pc := 6) (n := 176218181) (idx := 7) (ref := "BoardMachine$Controls$Masked") (O := "BoardMachine$Controls$Masked") (name := "mask") (desc := "J") (fin := false) (ty := .long) C (by decide +kernel) (Or.inl ⟨rfl, Or.inl (kw K hw q1726)⟩) (fun _ h => h) (Nat.le_of_ble_eq_true rfl) (Nat.le_of_ble_eq_true rfl) (Nat.le_of_ble_eq_true rfl) rfl rfl (by decide) (fs_rc (⟨rfl, ff_14_42 s0 H0 oa D⟩) (fs_rc (⟨rfl, ff_15_42 s0 H0 oa D⟩) (fs_rc (⟨rfl, ff_16_42 s0 H0 oa D⟩) (fs_one (⟨rfl, ff_17_42 s0 H0 oa D⟩)))))) ?_
  exact fs_c0
theorem hX78_init : fe_H (sX78_init FX77_init) cX78_init [0] fe_kv [] 20 (fun _ => dX78_init FX78_init_0) := by
  intro j pc L st M r hc h
  rcases fe_mem_c hc with rfl | hc
  · obtain ⟨w0, m0, h⟩ := fe_lR_d h
    obtain ⟨rfl, hz⟩ := fe_t0_d h
    exact ⟨[(0, .ref w0)], (fe_cs m0 fe_nl), Or.inr ((bX78_init_0 FX77_init FX78_init_0 w0 M).symm.trans hz)⟩
  exact fe_mem_0 hc
theorem vX78_init : fe_SB (sX78_init FX77_init) := by
  refine ⟨?_, ?_, ?_, ?_⟩
  · intro i As M r h
    rcases fe_bc h with h | h
    · obtain ⟨v0, t0, rfl, g0⟩ := fe_tR_d h
      obtain ⟨v1, t1, rfl, g1⟩ := fe_tL_d g0
      obtain ⟨rfl, hz⟩ := fe_t0_d g1
      exact mX77_init v0 v1 M r hz
    exact fe_no h
  · intro i As M r h
    exact fe_no h
  · intro i As M r h
    exact fe_no h
  · intro i As M r h
    exact fe_no h
theorem eX78_init (g0 : Nat → FM → Option (FM)) (a0 : Nat) (M : FM) : dX78_init g0 0 [(0, .ref a0)] [] M = g0 a0 M := by rfl
theorem mX78_init (a0 : Nat) (M : FM) (r : FM) (h : FX78_init a0 M = some r) : fm_nx M ≤ fm_nx r ∧ fm_ns M ≤ fm_ns r :=
  fe_mono (L0 := [(0, .ref a0)]) (vX78_init) (by decide +kernel) (hX78_init) (fe_kv_k r) 0 rfl ((eX78_init FX78_init_0 a0 M).trans h)
theorem zX78_init {s0 : State} {H0 : Heap} {oa : Nat → Nat} {D : va_G} (K : fk s0 H0 oa D) (l : Launch) (a0 : Nat) (M : FM) (r : FM) (h : FX78_init a0 M = some r) : fs_Con (fk_E s0 H0 oa D) l 3 ⟨"BoardMachine$Controls$Status", "<init>", "()V"⟩ prog_10_method_1_code 1 (Option.none : Option Jvm.ClassFile.FieldType) [.ref a0] M none r := by
  have o0 : fs_OS (sX78_init FX77_init) 0 0 (fs_Con (fk_E s0 H0 oa D) l 2 ⟨"BoardMachine$Controls$Masked", "<init>", "(J)V"⟩ prog_6_method_1_code 3 (Option.none : Option Jvm.ClassFile.FieldType)) := by
    intro As M r h
    obtain ⟨v0, t0, rfl, g0⟩ := fe_tR_d h
    obtain ⟨v1, t1, rfl, g1⟩ := fe_tL_d g0
    obtain ⟨rfl, hz⟩ := fe_t0_d g1
    exact zX77_init K l v0 v1 M r hz
  refine fs_method (own := "BoardMachine$Controls$Status") rfl (by decide) K.2.1 (by rw [fe_slen]; exact (Nat.le_of_ble_eq_true rfl)) (mX78_init a0 M r h) (hX78_init) 0 rfl (L0 := [(0, .ref a0)]) (fun E => fe_args_e E [.ref a0] 0) ((eX78_init FX78_init_0 a0 M).trans h) (fe_kv_k r) (fun H hR => fs_nr_o (by decide) (by decide)) ?_
  intro p e s m args below meth c Q C hnm
  have hw : s0.WarmedH s.vm := C.2.2.2.2.1
  refine fe_all C fk_hwr cX78_init [1, 4] (by decide +kernel) (fe_fil (cps := [(1, 4, .jsr_w (8288682)), (4, 7, .invokevirtual 8405008)]) (by decide +kernel) ?_)
  refine fs_c1 (fs_ldcl (pc := 1) (idx := 3) (v := 8288682) C (by decide +kernel) (kw K hw q1711)) ?_
  refine fs_c1 (fs_inv_virtual (pc := 4) (n := 8405008) C (Nat.le_of_ble_eq_true rfl) (Nat.le_of_ble_eq_true rfl) (fs_lk_init (idx := 5) (y := ⟨"BoardMachine$Controls$Masked", "<init>", "(J)V"⟩) (bytes := prog_6_method_1_code) (maxL := 3) (d := 2) C (Nat.le_of_ble_eq_true rfl) (Nat.le_of_ble_eq_true rfl) (by decide +kernel) (kw K hw q1714) (kw K hw q388) (kw K hw q1713) (Or.inl (kw K hw q1712)) rfl ⟨by decide, by decide⟩ rfl (Nat.le_of_ble_eq_true rfl) (Nat.le_of_ble_eq_true rfl)) fs_con_mono o0) ?_
  exact fs_c0
theorem hX79_init : fe_H (sX79_init FX77_init) cX79_init [0] fe_kv [] 20 (fun _ => dX79_init FX79_init_0) := by
  intro j pc L st M r hc h
  rcases fe_mem_c hc with rfl | hc
  · obtain ⟨w0, m0, h⟩ := fe_lR_d h
    obtain ⟨rfl, hz⟩ := fe_t0_d h
    exact ⟨[(0, .ref w0)], (fe_cs m0 fe_nl), Or.inr ((bX79_init_0 FX77_init FX79_init_0 w0 M).symm.trans hz)⟩
  exact fe_mem_0 hc
theorem vX79_init : fe_SB (sX79_init FX77_init) := by
  refine ⟨?_, ?_, ?_, ?_⟩
  · intro i As M r h
    rcases fe_bc h with h | h
    · obtain ⟨v0, t0, rfl, g0⟩ := fe_tR_d h
      obtain ⟨v1, t1, rfl, g1⟩ := fe_tL_d g0
      obtain ⟨rfl, hz⟩ := fe_t0_d g1
      exact mX77_init v0 v1 M r hz
    exact fe_no h
  · intro i As M r h
    exact fe_no h
  · intro i As M r h
    exact fe_no h
  · intro i As M r h
    exact fe_no h
theorem eX79_init (g0 : Nat → FM → Option (FM)) (a0 : Nat) (M : FM) : dX79_init g0 0 [(0, .ref a0)] [] M = g0 a0 M := by rfl
theorem mX79_init (a0 : Nat) (M : FM) (r : FM) (h : FX79_init a0 M = some r) : fm_nx M ≤ fm_nx r ∧ fm_ns M ≤ fm_ns r :=
  fe_mono (L0 := [(0, .ref a0)]) (vX79_init) (by decide +kernel) (hX79_init) (fe_kv_k r) 0 rfl ((eX79_init FX79_init_0 a0 M).trans h)
theorem zX79_init {s0 : State} {H0 : Heap} {oa : Nat → Nat} {D : va_G} (K : fk s0 H0 oa D) (l : Launch) (a0 : Nat) (M : FM) (r : FM) (h : FX79_init a0 M = some r) : fs_Con (fk_E s0 H0 oa D) l 3 ⟨"BoardMachine$Controls$Pending", "<init>", "()V"⟩ prog_7_method_1_code 1 (Option.none : Option Jvm.ClassFile.FieldType) [.ref a0] M none r := by
  have o0 : fs_OS (sX79_init FX77_init) 0 0 (fs_Con (fk_E s0 H0 oa D) l 2 ⟨"BoardMachine$Controls$Masked", "<init>", "(J)V"⟩ prog_6_method_1_code 3 (Option.none : Option Jvm.ClassFile.FieldType)) := by
    intro As M r h
    obtain ⟨v0, t0, rfl, g0⟩ := fe_tR_d h
    obtain ⟨v1, t1, rfl, g1⟩ := fe_tL_d g0
    obtain ⟨rfl, hz⟩ := fe_t0_d g1
    exact zX77_init K l v0 v1 M r hz
  refine fs_method (own := "BoardMachine$Controls$Pending") rfl (by decide) K.2.1 (by rw [fe_slen]; exact (Nat.le_of_ble_eq_true rfl)) (mX79_init a0 M r h) (hX79_init) 0 rfl (L0 := [(0, .ref a0)]) (fun E => fe_args_e E [.ref a0] 0) ((eX79_init FX79_init_0 a0 M).trans h) (fe_kv_k r) (fun H hR => fs_nr_o (by decide) (by decide)) ?_
  intro p e s m args below meth c Q C hnm
  have hw : s0.WarmedH s.vm := C.2.2.2.2.1
  refine fe_all C fk_hwr cX79_init [1, 4] (by decide +kernel) (fe_fil (cps := [(1, 4, .jsr_w (546)), (4, 7, .invokevirtual 8403983)]) (by decide +kernel) ?_)
  refine fs_c1 (fs_ldcl (pc := 1) (idx := 1) (v := 546) C (by decide +kernel) (kw K hw q1746)) ?_
  refine fs_c1 (fs_inv_virtual (pc := 4) (n := 8403983) C (Nat.le_of_ble_eq_true rfl) (Nat.le_of_ble_eq_true rfl) (fs_lk_init (idx := 3) (y := ⟨"BoardMachine$Controls$Masked", "<init>", "(J)V"⟩) (bytes := prog_6_method_1_code) (maxL := 3) (d := 2) C (Nat.le_of_ble_eq_true rfl) (Nat.le_of_ble_eq_true rfl) (by decide +kernel) (kw K hw q1714) (kw K hw q388) (kw K hw q1713) (Or.inl (kw K hw q1747)) rfl ⟨by decide, by decide⟩ rfl (Nat.le_of_ble_eq_true rfl) (Nat.le_of_ble_eq_true rfl)) fs_con_mono o0) ?_
  exact fs_c0
theorem hX80_init : fe_H (sX80_init FX77_init) cX80_init [0] fe_kv [] 44 (fun _ => dX80_init FX80_init_0) := by
  intro j pc L st M r hc h
  rcases fe_mem_c hc with rfl | hc
  · obtain ⟨w0, m0, h⟩ := fe_lR_d h
    obtain ⟨rfl, hz⟩ := fe_t0_d h
    exact ⟨[(0, .ref w0)], (fe_cs m0 fe_nl), Or.inr ((bX80_init_0 FX77_init FX80_init_0 w0 M).symm.trans hz)⟩
  exact fe_mem_0 hc
theorem vX80_init : fe_SB (sX80_init FX77_init) := by
  refine ⟨?_, ?_, ?_, ?_⟩
  · intro i As M r h
    rcases fe_bc h with h | h
    · obtain ⟨v0, t0, rfl, g0⟩ := fe_tR_d h
      obtain ⟨v1, t1, rfl, g1⟩ := fe_tL_d g0
      obtain ⟨rfl, hz⟩ := fe_t0_d g1
      exact mX77_init v0 v1 M r hz
    exact fe_no h
  · intro i As M r h
    exact fe_no h
  · intro i As M r h
    exact fe_no h
  · intro i As M r h
    exact fe_no h
theorem eX80_init (g0 : Nat → FM → Option (FM)) (a0 : Nat) (M : FM) : dX80_init g0 0 [(0, .ref a0)] [] M = g0 a0 M := by rfl
theorem mX80_init (a0 : Nat) (M : FM) (r : FM) (h : FX80_init a0 M = some r) : fm_nx M ≤ fm_nx r ∧ fm_ns M ≤ fm_ns r :=
  fe_mono (L0 := [(0, .ref a0)]) (vX80_init) (by decide +kernel) (hX80_init) (fe_kv_k r) 0 rfl ((eX80_init FX80_init_0 a0 M).trans h)
theorem zX80_init {s0 : State} {H0 : Heap} {oa : Nat → Nat} {D : va_G} (K : fk s0 H0 oa D) (l : Launch) (a0 : Nat) (M : FM) (r : FM) (h : FX80_init a0 M = some r) : fs_Con (fk_E s0 H0 oa D) l 3 ⟨"BoardMachine$Controls$TrapBank", "<init>", "()V"⟩ prog_12_method_1_code 1 (Option.none : Option Jvm.ClassFile.FieldType) [.ref a0] M none r := by
  have o0 : fs_OS (sX80_init FX77_init) 0 0 (fs_Con (fk_E s0 H0 oa D) l 2 ⟨"BoardMachine$Controls$Masked", "<init>", "(J)V"⟩ prog_6_method_1_code 3 (Option.none : Option Jvm.ClassFile.FieldType)) := by
    intro As M r h
    obtain ⟨v0, t0, rfl, g0⟩ := fe_tR_d h
    obtain ⟨v1, t1, rfl, g1⟩ := fe_tL_d g0
    obtain ⟨rfl, hz⟩ := fe_t0_d g1
    exact zX77_init K l v0 v1 M r hz
  refine fs_method (own := "BoardMachine$Controls$TrapBank") rfl (by decide) K.2.1 (by rw [fe_slen]; exact (Nat.le_of_ble_eq_true rfl)) (mX80_init a0 M r h) (hX80_init) 0 rfl (L0 := [(0, .ref a0)]) (fun E => fe_args_e E [.ref a0] 0) ((eX80_init FX80_init_0 a0 M).trans h) (fe_kv_k r) (fun H hR => fs_nr_o (by decide) (by decide)) ?_
  intro p e s m args below meth c Q C hnm
  have hw : s0.WarmedH s.vm := C.2.2.2.2.1
  refine fe_all C fk_hwr cX80_init [1, 5, 9, 12, 15, 19, 23, 26, 29, 33, 37, 40, 43, 47, 51, 54, 57, 61, 65, 68, 71, 75, 79, 82, 85] (by decide +kernel) (fe_fil (cps := [(1, 4, .monitorenter), (5, 8, .new 898), (9, 12, .jsr_w (-3)), (12, 15, .invokevirtual 8402958), (15, 18, .putfield 205602898), (19, 22, .new 898), (23, 26, .jsr_w (-1)), (26, 29, .invokevirtual 8402958), (29, 32, .putfield 209797202), (33, 36, .new 898), (37, 40, .jsr_w (-2)), (40, 43, .invokevirtual 8402958), (43, 46, .putfield 213991506), (47, 50, .new 898), (51, 54, .jsr_w (-1)), (54, 57, .invokevirtual 8402958), (57, 60, .putfield 218185810), (61, 64, .new 898), (65, 68, .jsr_w (-1)), (68, 71, .invokevirtual 8402958), (71, 74, .putfield 222380114), (75, 78, .new 898), (79, 82, .jsr_w (7)), (82, 85, .invokevirtual 8402958), (85, 88, .putfield 226574418)]) (by decide +kernel) ?_)
  refine fs_c1 (fs_init (pc := 1) (idx := 1) C (by decide +kernel) (kw K hw q1760) (kw K hw q441) (kw K hw q442) ⟨(Nat.le_of_ble_eq_true rfl), (Nat.le_of_ble_eq_true rfl)⟩) ?_
  refine fs_c1 (fs_newo (pc := 5) (n := 898) (idx := 7) (CC := "BoardMachine$Controls$Masked") (T := fT_14) (N := 2) C (by decide +kernel) (kw K hw q1761) (kw K hw q1733) (kw K hw q388) (by decide) (Nat.le_of_ble_eq_true rfl) rfl rfl) ?_
  refine fs_c1 (fs_ldcl (pc := 9) (idx := 9) (v := -3) C (by decide +kernel) (kw K hw q1762)) ?_
  refine fs_c1 (fs_inv_virtual (pc := 12) (n := 8402958) C (Nat.le_of_ble_eq_true rfl) (Nat.le_of_ble_eq_true rfl) (fs_lk_init (idx := 11) (y := ⟨"BoardMachine$Controls$Masked", "<init>", "(J)V"⟩) (bytes := prog_6_method_1_code) (maxL := 3) (d := 2) C (Nat.le_of_ble_eq_true rfl) (Nat.le_of_ble_eq_true rfl) (by decide +kernel) (kw K hw q1714) (kw K hw q388) (kw K hw q1713) (Or.inl (kw K hw q1763)) rfl ⟨by decide, by decide⟩ rfl (Nat.le_of_ble_eq_true rfl) (Nat.le_of_ble_eq_true rfl)) fs_con_mono o0) ?_
  refine fs_c1 (fs_putf (pc := 15) (n := 205602898) (idx := 14) (ref := "BoardMachine$Controls$TrapBank") (O := "BoardMachine$Controls$TrapBank") (name := "vectors") (desc := "LBoardMachine$Controls$Masked;") (fin := true) (ty := (.object "BoardMachine$Controls$Masked")) C (by decide +kernel) (Or.inr ⟨rfl, kw K hw q1767, hnm, rfl⟩) (fun _ h => h) (Nat.le_of_ble_eq_true rfl) (Nat.le_of_ble_eq_true rfl) (Nat.le_of_ble_eq_true rfl) rfl rfl (by decide) (fs_one (⟨rfl, ff_20_49 s0 H0 oa D⟩))) ?_
  refine fs_c1 (fs_newo (pc := 19) (n := 898) (idx := 7) (CC := "BoardMachine$Controls$Masked") (T := fT_14) (N := 2) C (by decide +kernel) (kw K hw q1761) (kw K hw q1733) (kw K hw q388) (by decide) (Nat.le_of_ble_eq_true rfl) rfl rfl) ?_
  refine fs_c1 (fs_ldcl (pc := 23) (idx := 20) (v := -1) C (by decide +kernel) (kw K hw q1764)) ?_
  refine fs_c1 (fs_inv_virtual (pc := 26) (n := 8402958) C (Nat.le_of_ble_eq_true rfl) (Nat.le_of_ble_eq_true rfl) (fs_lk_init (idx := 11) (y := ⟨"BoardMachine$Controls$Masked", "<init>", "(J)V"⟩) (bytes := prog_6_method_1_code) (maxL := 3) (d := 2) C (Nat.le_of_ble_eq_true rfl) (Nat.le_of_ble_eq_true rfl) (by decide +kernel) (kw K hw q1714) (kw K hw q388) (kw K hw q1713) (Or.inl (kw K hw q1763)) rfl ⟨by decide, by decide⟩ rfl (Nat.le_of_ble_eq_true rfl) (Nat.le_of_ble_eq_true rfl)) fs_con_mono o0) ?_
  refine fs_c1 (fs_putf (pc := 29) (n := 209797202) (idx := 22) (ref := "BoardMachine$Controls$TrapBank") (O := "BoardMachine$Controls$TrapBank") (name := "scratch") (desc := "LBoardMachine$Controls$Masked;") (fin := true) (ty := (.object "BoardMachine$Controls$Masked")) C (by decide +kernel) (Or.inr ⟨rfl, kw K hw q1770, hnm, rfl⟩) (fun _ h => h) (Nat.le_of_ble_eq_true rfl) (Nat.le_of_ble_eq_true rfl) (Nat.le_of_ble_eq_true rfl) rfl rfl (by decide) (fs_one (⟨rfl, ff_20_50 s0 H0 oa D⟩))) ?_
  refine fs_c1 (fs_newo (pc := 33) (n := 898) (idx := 7) (CC := "BoardMachine$Controls$Masked") (T := fT_14) (N := 2) C (by decide +kernel) (kw K hw q1761) (kw K hw q1733) (kw K hw q388) (by decide) (Nat.le_of_ble_eq_true rfl) rfl rfl) ?_
  refine fs_c1 (fs_ldcl (pc := 37) (idx := 25) (v := -2) C (by decide +kernel) (kw K hw q1765)) ?_
  refine fs_c1 (fs_inv_virtual (pc := 40) (n := 8402958) C (Nat.le_of_ble_eq_true rfl) (Nat.le_of_ble_eq_true rfl) (fs_lk_init (idx := 11) (y := ⟨"BoardMachine$Controls$Masked", "<init>", "(J)V"⟩) (bytes := prog_6_method_1_code) (maxL := 3) (d := 2) C (Nat.le_of_ble_eq_true rfl) (Nat.le_of_ble_eq_true rfl) (by decide +kernel) (kw K hw q1714) (kw K hw q388) (kw K hw q1713) (Or.inl (kw K hw q1763)) rfl ⟨by decide, by decide⟩ rfl (Nat.le_of_ble_eq_true rfl) (Nat.le_of_ble_eq_true rfl)) fs_con_mono o0) ?_
  refine fs_c1 (fs_putf (pc := 43) (n := 213991506) (idx := 27) (ref := "BoardMachine$Controls$TrapBank") (O := "BoardMachine$Controls$TrapBank") (name := "place") (desc := "LBoardMachine$Controls$Masked;") (fin := true) (ty := (.object "BoardMachine$Controls$Masked")) C (by decide +kernel) (Or.inr ⟨rfl, kw K hw q1773, hnm, rfl⟩) (fun _ h => h) (Nat.le_of_ble_eq_true rfl) (Nat.le_of_ble_eq_true rfl) (Nat.le_of_ble_eq_true rfl) rfl rfl (by decide) (fs_one (⟨rfl, ff_20_51 s0 H0 oa D⟩))) ?_
  refine fs_c1 (fs_newo (pc := 47) (n := 898) (idx := 7) (CC := "BoardMachine$Controls$Masked") (T := fT_14) (N := 2) C (by decide +kernel) (kw K hw q1761) (kw K hw q1733) (kw K hw q388) (by decide) (Nat.le_of_ble_eq_true rfl) rfl rfl) ?_
  refine fs_c1 (fs_ldcl (pc := 51) (idx := 20) (v := -1) C (by decide +kernel) (kw K hw q1764)) ?_
  refine fs_c1 (fs_inv_virtual (pc := 54) (n := 8402958) C (Nat.le_of_ble_eq_true rfl) (Nat.le_of_ble_eq_true rfl) (fs_lk_init (idx := 11) (y := ⟨"BoardMachine$Controls$Masked", "<init>", "(J)V"⟩) (bytes := prog_6_method_1_code) (maxL := 3) (d := 2) C (Nat.le_of_ble_eq_true rfl) (Nat.le_of_ble_eq_true rfl) (by decide +kernel) (kw K hw q1714) (kw K hw q388) (kw K hw q1713) (Or.inl (kw K hw q1763)) rfl ⟨by decide, by decide⟩ rfl (Nat.le_of_ble_eq_true rfl) (Nat.le_of_ble_eq_true rfl)) fs_con_mono o0) ?_
  refine fs_c1 (fs_putf (pc := 57) (n := 218185810) (idx := 30) (ref := "BoardMachine$Controls$TrapBank") (O := "BoardMachine$Controls$TrapBank") (name := "cause") (desc := "LBoardMachine$Controls$Masked;") (fin := true) (ty := (.object "BoardMachine$Controls$Masked")) C (by decide +kernel) (Or.inr ⟨rfl, kw K hw q1776, hnm, rfl⟩) (fun _ h => h) (Nat.le_of_ble_eq_true rfl) (Nat.le_of_ble_eq_true rfl) (Nat.le_of_ble_eq_true rfl) rfl rfl (by decide) (fs_one (⟨rfl, ff_20_52 s0 H0 oa D⟩))) ?_
  refine fs_c1 (fs_newo (pc := 61) (n := 898) (idx := 7) (CC := "BoardMachine$Controls$Masked") (T := fT_14) (N := 2) C (by decide +kernel) (kw K hw q1761) (kw K hw q1733) (kw K hw q388) (by decide) (Nat.le_of_ble_eq_true rfl) rfl rfl) ?_
  refine fs_c1 (fs_ldcl (pc := 65) (idx := 20) (v := -1) C (by decide +kernel) (kw K hw q1764)) ?_
  refine fs_c1 (fs_inv_virtual (pc := 68) (n := 8402958) C (Nat.le_of_ble_eq_true rfl) (Nat.le_of_ble_eq_true rfl) (fs_lk_init (idx := 11) (y := ⟨"BoardMachine$Controls$Masked", "<init>", "(J)V"⟩) (bytes := prog_6_method_1_code) (maxL := 3) (d := 2) C (Nat.le_of_ble_eq_true rfl) (Nat.le_of_ble_eq_true rfl) (by decide +kernel) (kw K hw q1714) (kw K hw q388) (kw K hw q1713) (Or.inl (kw K hw q1763)) rfl ⟨by decide, by decide⟩ rfl (Nat.le_of_ble_eq_true rfl) (Nat.le_of_ble_eq_true rfl)) fs_con_mono o0) ?_
  refine fs_c1 (fs_putf (pc := 71) (n := 222380114) (idx := 33) (ref := "BoardMachine$Controls$TrapBank") (O := "BoardMachine$Controls$TrapBank") (name := "value") (desc := "LBoardMachine$Controls$Masked;") (fin := true) (ty := (.object "BoardMachine$Controls$Masked")) C (by decide +kernel) (Or.inr ⟨rfl, kw K hw q1779, hnm, rfl⟩) (fun _ h => h) (Nat.le_of_ble_eq_true rfl) (Nat.le_of_ble_eq_true rfl) (Nat.le_of_ble_eq_true rfl) rfl rfl (by decide) (fs_one (⟨rfl, ff_20_53 s0 H0 oa D⟩))) ?_
  refine fs_c1 (fs_newo (pc := 75) (n := 898) (idx := 7) (CC := "BoardMachine$Controls$Masked") (T := fT_14) (N := 2) C (by decide +kernel) (kw K hw q1761) (kw K hw q1733) (kw K hw q388) (by decide) (Nat.le_of_ble_eq_true rfl) rfl rfl) ?_
  refine fs_c1 (fs_ldcl (pc := 79) (idx := 36) (v := 7) C (by decide +kernel) (kw K hw q1766)) ?_
  refine fs_c1 (fs_inv_virtual (pc := 82) (n := 8402958) C (Nat.le_of_ble_eq_true rfl) (Nat.le_of_ble_eq_true rfl) (fs_lk_init (idx := 11) (y := ⟨"BoardMachine$Controls$Masked", "<init>", "(J)V"⟩) (bytes := prog_6_method_1_code) (maxL := 3) (d := 2) C (Nat.le_of_ble_eq_true rfl) (Nat.le_of_ble_eq_true rfl) (by decide +kernel) (kw K hw q1714) (kw K hw q388) (kw K hw q1713) (Or.inl (kw K hw q1763)) rfl ⟨by decide, by decide⟩ rfl (Nat.le_of_ble_eq_true rfl) (Nat.le_of_ble_eq_true rfl)) fs_con_mono o0) ?_
  refine fs_c1 (fs_putf (pc := 85) (n := 226574418) (idx := 38) (ref := "BoardMachine$Controls$TrapBank") (O := "BoardMachine$Controls$TrapBank") (name := "counts") (desc := "LBoardMachine$Controls$Masked;") (fin := true) (ty := (.object "BoardMachine$Controls$Masked")) C (by decide +kernel) (Or.inr ⟨rfl, kw K hw q1782, hnm, rfl⟩) (fun _ h => h) (Nat.le_of_ble_eq_true rfl) (Nat.le_of_ble_eq_true rfl) (Nat.le_of_ble_eq_true rfl) rfl rfl (by decide) (fs_one (⟨rfl, ff_20_54 s0 H0 oa D⟩))) ?_
  exact fs_c0
theorem hX81_init : fe_H (sX81_init FX75_init) cX81_init [0] fe_kv [] 20 (fun _ => dX81_init FX81_init_0) := by
  intro j pc L st M r hc h
  rcases fe_mem_c hc with rfl | hc
  · obtain ⟨w0, m0, h⟩ := fe_lR_d h
    obtain ⟨w1, m1, h⟩ := fe_lR_d h
    obtain ⟨w2, m2, h⟩ := fe_lR_d h
    obtain ⟨w3, m3, h⟩ := fe_lL_d h
    obtain ⟨w5, m5, h⟩ := fe_lL_d h
    obtain ⟨rfl, hz⟩ := fe_t0_d h
    exact ⟨[(0, .ref w0), (1, .ref w1), (2, .ref w2), (3, .long w3), (5, .long w5)], (fe_cs m0 (fe_cs m1 (fe_cs m2 (fe_cs m3 (fe_cs m5 fe_nl))))), Or.inr ((bX81_init_0 FX75_init FX81_init_0 w0 w1 w2 w3 w5 M).symm.trans hz)⟩
  exact fe_mem_0 hc
theorem vX81_init : fe_SB (sX81_init FX75_init) := by
  refine ⟨?_, ?_, ?_, ?_⟩
  · intro i As M r h
    rcases fe_bc h with h | h
    · obtain ⟨v0, t0, rfl, g0⟩ := fe_tR_d h
      obtain ⟨rfl, hz⟩ := fe_t0_d g0
      exact mX75_init v0 M r hz
    exact fe_no h
  · intro i As M r h
    exact fe_no h
  · intro i As M r h
    exact fe_no h
  · intro i As M r h
    exact fe_no h
theorem eX81_init (g0 : Nat → Nat → Nat → Int64 → Int64 → FM → Option (FM)) (a0 : Nat) (a1 : Nat) (a2 : Nat) (a3 : Int64) (a5 : Int64) (M : FM) : dX81_init g0 0 [(0, .ref a0), (1, .ref a1), (2, .ref a2), (3, .long a3), (5, .long a5)] [] M = g0 a0 a1 a2 a3 a5 M := by rfl
theorem mX81_init (a0 : Nat) (a1 : Nat) (a2 : Nat) (a3 : Int64) (a5 : Int64) (M : FM) (r : FM) (h : FX81_init a0 a1 a2 a3 a5 M = some r) : fm_nx M ≤ fm_nx r ∧ fm_ns M ≤ fm_ns r :=
  fe_mono (L0 := [(0, .ref a0), (1, .ref a1), (2, .ref a2), (3, .long a3), (5, .long a5)]) (vX81_init) (by decide +kernel) (hX81_init) (fe_kv_k r) 0 rfl ((eX81_init FX81_init_0 a0 a1 a2 a3 a5 M).trans h)
theorem zX81_init {s0 : State} {H0 : Heap} {oa : Nat → Nat} {D : va_G} (K : fk s0 H0 oa D) (l : Launch) (a0 : Nat) (a1 : Nat) (a2 : Nat) (a3 : Int64) (a5 : Int64) (M : FM) (r : FM) (h : FX81_init a0 a1 a2 a3 a5 M = some r) : fs_Con (fk_E s0 H0 oa D) l 2 ⟨"BoardMachine$Controls$Window", "<init>", "(LBoardMachine$Controls$Masked;LBoardMachine$Controls$Register;JJ)V"⟩ prog_13_method_1_code 7 (Option.none : Option Jvm.ClassFile.FieldType) [.ref a0, .ref a1, .ref a2, .long a3, .long a5] M none r := by
  have o0 : fs_OS (sX81_init FX75_init) 0 0 (fs_Con (fk_E s0 H0 oa D) l 1 ⟨"BoardMachine$Controls$Register", "<init>", "()V"⟩ prog_8_method_1_code 1 (Option.none : Option Jvm.ClassFile.FieldType)) := by
    intro As M r h
    obtain ⟨v0, t0, rfl, g0⟩ := fe_tR_d h
    obtain ⟨rfl, hz⟩ := fe_t0_d g0
    exact zX75_init K l v0 M r hz
  refine fs_method (own := "BoardMachine$Controls$Window") rfl (by decide) K.2.1 (by rw [fe_slen]; exact (Nat.le_of_ble_eq_true rfl)) (mX81_init a0 a1 a2 a3 a5 M r h) (hX81_init) 0 rfl (L0 := [(0, .ref a0), (1, .ref a1), (2, .ref a2), (3, .long a3), (5, .long a5)]) (fun E => fe_args_e E [.ref a0, .ref a1, .ref a2, .long a3, .long a5] 0) ((eX81_init FX81_init_0 a0 a1 a2 a3 a5 M).trans h) (fe_kv_k r) (fun H hR => fs_nr_o (by decide) (by decide)) ?_
  intro p e s m args below meth c Q C hnm
  have hw : s0.WarmedH s.vm := C.2.2.2.2.1
  refine fe_all C fk_hwr cX81_init [1, 6, 11, 16, 22] (by decide +kernel) (fe_fil (cps := [(1, 4, .invokevirtual 4213779), (6, 9, .putfield 188821582), (11, 14, .putfield 193015886), (16, 19, .putfield 197210189), (22, 25, .putfield 201404493)]) (by decide +kernel) ?_)
  refine fs_c1 (fs_inv_virtual (pc := 1) (n := 4213779) C (Nat.le_of_ble_eq_true rfl) (Nat.le_of_ble_eq_true rfl) (fs_lk_init (idx := 1) (y := ⟨"BoardMachine$Controls$Register", "<init>", "()V"⟩) (bytes := prog_8_method_1_code) (maxL := 1) (d := 1) C (Nat.le_of_ble_eq_true rfl) (Nat.le_of_ble_eq_true rfl) (by decide +kernel) (kw K hw q1700) (kw K hw q386) (kw K hw q1699) (Or.inr ⟨_, kM K hw q1806⟩) rfl ⟨by decide, by decide⟩ rfl (Nat.le_of_ble_eq_true rfl) (Nat.le_of_ble_eq_true rfl)) fs_con_mono o0) ?_
  refine fs_c1 (fs_putf (pc := 6) (n := 188821582) (idx := 7) (ref := "BoardMachine$Controls$Window") (O := "BoardMachine$Controls$Window") (name := "other") (desc := "LBoardMachine$Controls$Masked;") (fin := true) (ty := (.object "BoardMachine$Controls$Masked")) C (by decide +kernel) (Or.inr ⟨rfl, kw K hw q1807, hnm, rfl⟩) (fun _ h => h) (Nat.le_of_ble_eq_true rfl) (Nat.le_of_ble_eq_true rfl) (Nat.le_of_ble_eq_true rfl) rfl rfl (by decide) (fs_one (⟨rfl, ff_19_45 s0 H0 oa D⟩))) ?_
  refine fs_c1 (fs_putf (pc := 11) (n := 193015886) (idx := 13) (ref := "BoardMachine$Controls$Window") (O := "BoardMachine$Controls$Window") (name := "seen") (desc := "LBoardMachine$Controls$Register;") (fin := true) (ty := (.object "BoardMachine$Controls$Register")) C (by decide +kernel) (Or.inr ⟨rfl, kw K hw q1808, hnm, rfl⟩) (fun _ h => h) (Nat.le_of_ble_eq_true rfl) (Nat.le_of_ble_eq_true rfl) (Nat.le_of_ble_eq_true rfl) rfl rfl (by decide) (fs_one (⟨rfl, ff_19_46 s0 H0 oa D⟩))) ?_
  refine fs_c1 (fs_putf (pc := 16) (n := 197210189) (idx := 17) (ref := "BoardMachine$Controls$Window") (O := "BoardMachine$Controls$Window") (name := "changed") (desc := "J") (fin := true) (ty := .long) C (by decide +kernel) (Or.inr ⟨rfl, kw K hw q1809, hnm, rfl⟩) (fun _ h => h) (Nat.le_of_ble_eq_true rfl) (Nat.le_of_ble_eq_true rfl) (Nat.le_of_ble_eq_true rfl) rfl rfl (by decide) (fs_one (⟨rfl, ff_19_47 s0 H0 oa D⟩))) ?_
  refine fs_c1 (fs_putf (pc := 22) (n := 201404493) (idx := 21) (ref := "BoardMachine$Controls$Window") (O := "BoardMachine$Controls$Window") (name := "besides") (desc := "J") (fin := true) (ty := .long) C (by decide +kernel) (Or.inr ⟨rfl, kw K hw q1810, hnm, rfl⟩) (fun _ h => h) (Nat.le_of_ble_eq_true rfl) (Nat.le_of_ble_eq_true rfl) (Nat.le_of_ble_eq_true rfl) rfl rfl (by decide) (fs_one (⟨rfl, ff_19_48 s0 H0 oa D⟩))) ?_
  exact fs_c0
theorem hX82_init : fe_H (sX82_init FX77_init) cX82_init [0] fe_kv [] 20 (fun _ => dX82_init FX82_init_0) := by
  intro j pc L st M r hc h
  rcases fe_mem_c hc with rfl | hc
  · obtain ⟨w0, m0, h⟩ := fe_lR_d h
    obtain ⟨rfl, hz⟩ := fe_t0_d h
    exact ⟨[(0, .ref w0)], (fe_cs m0 fe_nl), Or.inr ((bX82_init_0 FX77_init FX82_init_0 w0 M).symm.trans hz)⟩
  exact fe_mem_0 hc
theorem vX82_init : fe_SB (sX82_init FX77_init) := by
  refine ⟨?_, ?_, ?_, ?_⟩
  · intro i As M r h
    rcases fe_bc h with h | h
    · obtain ⟨v0, t0, rfl, g0⟩ := fe_tR_d h
      obtain ⟨v1, t1, rfl, g1⟩ := fe_tL_d g0
      obtain ⟨rfl, hz⟩ := fe_t0_d g1
      exact mX77_init v0 v1 M r hz
    exact fe_no h
  · intro i As M r h
    exact fe_no h
  · intro i As M r h
    exact fe_no h
  · intro i As M r h
    exact fe_no h
theorem eX82_init (g0 : Nat → FM → Option (FM)) (a0 : Nat) (M : FM) : dX82_init g0 0 [(0, .ref a0)] [] M = g0 a0 M := by rfl
theorem mX82_init (a0 : Nat) (M : FM) (r : FM) (h : FX82_init a0 M = some r) : fm_nx M ≤ fm_nx r ∧ fm_ns M ≤ fm_ns r :=
  fe_mono (L0 := [(0, .ref a0)]) (vX82_init) (by decide +kernel) (hX82_init) (fe_kv_k r) 0 rfl ((eX82_init FX82_init_0 a0 M).trans h)
theorem zX82_init {s0 : State} {H0 : Heap} {oa : Nat → Nat} {D : va_G} (K : fk s0 H0 oa D) (l : Launch) (a0 : Nat) (M : FM) (r : FM) (h : FX82_init a0 M = some r) : fs_Con (fk_E s0 H0 oa D) l 3 ⟨"BoardMachine$Controls$TableRegister", "<init>", "()V"⟩ prog_11_method_1_code 1 (Option.none : Option Jvm.ClassFile.FieldType) [.ref a0] M none r := by
  have o0 : fs_OS (sX82_init FX77_init) 0 0 (fs_Con (fk_E s0 H0 oa D) l 2 ⟨"BoardMachine$Controls$Masked", "<init>", "(J)V"⟩ prog_6_method_1_code 3 (Option.none : Option Jvm.ClassFile.FieldType)) := by
    intro As M r h
    obtain ⟨v0, t0, rfl, g0⟩ := fe_tR_d h
    obtain ⟨v1, t1, rfl, g1⟩ := fe_tL_d g0
    obtain ⟨rfl, hz⟩ := fe_t0_d g1
    exact zX77_init K l v0 v1 M r hz
  refine fs_method (own := "BoardMachine$Controls$TableRegister") rfl (by decide) K.2.1 (by rw [fe_slen]; exact (Nat.le_of_ble_eq_true rfl)) (mX82_init a0 M r h) (hX82_init) 0 rfl (L0 := [(0, .ref a0)]) (fun E => fe_args_e E [.ref a0] 0) ((eX82_init FX82_init_0 a0 M).trans h) (fe_kv_k r) (fun H hR => fs_nr_o (by decide) (by decide)) ?_
  intro p e s m args below meth c Q C hnm
  have hw : s0.WarmedH s.vm := C.2.2.2.2.1
  refine fe_all C fk_hwr cX82_init [1, 4] (by decide +kernel) (fe_fil (cps := [(1, 4, .jsr_w (-1)), (4, 7, .invokevirtual 8406033)]) (by decide +kernel) ?_)
  refine fs_c1 (fs_ldcl (pc := 1) (idx := 1) (v := -1) C (by decide +kernel) (kw K hw q1827)) ?_
  refine fs_c1 (fs_inv_virtual (pc := 4) (n := 8406033) C (Nat.le_of_ble_eq_true rfl) (Nat.le_of_ble_eq_true rfl) (fs_lk_init (idx := 3) (y := ⟨"BoardMachine$Controls$Masked", "<init>", "(J)V"⟩) (bytes := prog_6_method_1_code) (maxL := 3) (d := 2) C (Nat.le_of_ble_eq_true rfl) (Nat.le_of_ble_eq_true rfl) (by decide +kernel) (kw K hw q1714) (kw K hw q388) (kw K hw q1713) (Or.inl (kw K hw q1828)) rfl ⟨by decide, by decide⟩ rfl (Nat.le_of_ble_eq_true rfl) (Nat.le_of_ble_eq_true rfl)) fs_con_mono o0) ?_
  exact fs_c0
theorem hX74_lay : fe_H (sX74_lay) cX74_lay [0] fe_kv [] 52 (fun _ => dX74_lay FX74_lay_0) := by
  intro j pc L st M r hc h
  rcases fe_mem_c hc with rfl | hc
  · obtain ⟨w0, m0, h⟩ := fe_lR_d h
    obtain ⟨w1, m1, h⟩ := fe_lR_d h
    obtain ⟨w2, m2, h⟩ := fe_lI_d h
    obtain ⟨rfl, hz⟩ := fe_t0_d h
    exact ⟨[(0, .ref w0), (1, .ref w1), (2, .int w2)], (fe_cs m0 (fe_cs m1 (fe_cs m2 fe_nl))), Or.inr ((bX74_lay_0 FX74_lay_0 w0 w1 w2 M).symm.trans hz)⟩
  exact fe_mem_0 hc
theorem vX74_lay : fe_SB (sX74_lay) := by
  refine ⟨?_, ?_, ?_, ?_⟩
  · intro i As M r h
    exact fe_no h
  · intro i As M r h
    exact fe_no h
  · intro i As M r h
    exact fe_no h
  · intro i As M r h
    exact fe_no h
theorem eX74_lay (g0 : Nat → Nat → Int32 → FM → Option (FM)) (a0 : Nat) (a1 : Nat) (a2 : Int32) (M : FM) : dX74_lay g0 0 [(0, .ref a0), (1, .ref a1), (2, .int a2)] [] M = g0 a0 a1 a2 M := by rfl
theorem mX74_lay (a0 : Nat) (a1 : Nat) (a2 : Int32) (M : FM) (r : FM) (h : FX74_lay a0 a1 a2 M = some r) : fm_nx M ≤ fm_nx r ∧ fm_ns M ≤ fm_ns r :=
  fe_mono (L0 := [(0, .ref a0), (1, .ref a1), (2, .int a2)]) (vX74_lay) (by decide +kernel) (hX74_lay) (fe_kv_k r) 0 rfl ((eX74_lay FX74_lay_0 a0 a1 a2 M).trans h)
theorem zX74_lay {s0 : State} {H0 : Heap} {oa : Nat → Nat} {D : va_G} (K : fk s0 H0 oa D) (l : Launch) (a0 : Nat) (a1 : Nat) (a2 : Int32) (M : FM) (r : FM) (h : FX74_lay a0 a1 a2 M = some r) : fs_Con (fk_E s0 H0 oa D) l 1 ⟨"BoardMachine$Controls$ControlUnit", "lay", "(LBoardMachine$Controls$TrapBank;I)V"⟩ prog_5_method_3_code 3 (Option.none : Option Jvm.ClassFile.FieldType) [.ref a0, .ref a1, .int a2] M none r := by
  refine fs_method (own := "BoardMachine$Controls$ControlUnit") rfl (by decide) K.2.1 (by rw [fe_slen]; exact (Nat.le_of_ble_eq_true rfl)) (mX74_lay a0 a1 a2 M r h) (hX74_lay) 0 rfl (L0 := [(0, .ref a0), (1, .ref a1), (2, .int a2)]) (fun E => fe_args_e E [.ref a0, .ref a1, .int a2] 0) ((eX74_lay FX74_lay_0 a0 a1 a2 M).trans h) (fe_kv_k r) (fun H hR => fs_nr_o (by decide) (by decide)) ?_
  intro p e s m args below meth c Q C hnm
  have hw : s0.WarmedH s.vm := C.2.2.2.2.1
  refine fe_all C fk_hwr cX74_lay [1, 6, 9, 11, 18, 21, 23, 31, 34, 36, 44, 47, 49, 57, 60, 62, 70, 73] (by decide +kernel) (fe_fil (cps := [(1, 4, .getfield 104906802), (6, 9, .getfield 205602898), (9, 10, .instanceof 954217491), (11, 14, .getfield 104906802), (18, 21, .getfield 226574418), (21, 22, .instanceof 954217491), (23, 26, .getfield 104906802), (31, 34, .getfield 209797202), (34, 35, .instanceof 954217491), (36, 39, .getfield 104906802), (44, 47, .getfield 213991506), (47, 48, .instanceof 954217491), (49, 52, .getfield 104906802), (57, 60, .getfield 218185810), (60, 61, .instanceof 954217491), (62, 65, .getfield 104906802), (70, 73, .getfield 222380114), (73, 74, .instanceof 954217491)]) (by decide +kernel) ?_)
  refine fs_c1 (fs_getf (pc := 1) (n := 104906802) (idx := 17) (ref := "BoardMachine$Controls$ControlUnit") (O := "BoardMachine$Controls$ControlUnit") (name := "table") (desc := "[LBoardMachine$Controls$Register;") C (by decide +kernel) (Or.inl (kw K hw q1851)) (fun _ h => h) (Nat.le_of_ble_eq_true rfl) (Nat.le_of_ble_eq_true rfl) (fs_one (⟨_, ff_12_25 s0 H0 oa D⟩))) ?_
  refine fs_c1 (fs_getf (pc := 6) (n := 205602898) (idx := 119) (ref := "BoardMachine$Controls$TrapBank") (O := "BoardMachine$Controls$TrapBank") (name := "vectors") (desc := "LBoardMachine$Controls$Masked;") C (by decide +kernel) (Or.inr ⟨_, kF K hw q1768⟩) (fun _ h => h) (Nat.le_of_ble_eq_true rfl) (Nat.le_of_ble_eq_true rfl) (fs_one (⟨_, ff_20_49 s0 H0 oa D⟩))) ?_
  refine fs_c1 (fs_astr (pc := 9) (n := 954217491) (EE := "BoardMachine$Controls$Register") C (by decide +kernel) (Nat.le_of_ble_eq_true rfl) rfl rfl (Nat.le_of_ble_eq_true rfl) (Nat.le_of_ble_eq_true rfl) (fs_rc (⟨_, rfl, Or.inr (kC K hw q6546)⟩) (fs_rc (⟨_, rfl, Or.inr (kC K hw q6547)⟩) (fs_rc (⟨_, rfl, Or.inr (kC K hw q6548)⟩) (fs_rc (⟨_, rfl, Or.inr (kC K hw q6550)⟩) (fs_rc (⟨_, rfl, Or.inr (kC K hw q6551)⟩) (fs_rc (⟨_, rfl, Or.inr (kC K hw q6549)⟩) (fs_one (⟨_, rfl, Or.inr (kC K hw q6552)⟩))))))))) ?_
  refine fs_c1 (fs_getf (pc := 11) (n := 104906802) (idx := 17) (ref := "BoardMachine$Controls$ControlUnit") (O := "BoardMachine$Controls$ControlUnit") (name := "table") (desc := "[LBoardMachine$Controls$Register;") C (by decide +kernel) (Or.inl (kw K hw q1851)) (fun _ h => h) (Nat.le_of_ble_eq_true rfl) (Nat.le_of_ble_eq_true rfl) (fs_one (⟨_, ff_12_25 s0 H0 oa D⟩))) ?_
  refine fs_c1 (fs_getf (pc := 18) (n := 226574418) (idx := 122) (ref := "BoardMachine$Controls$TrapBank") (O := "BoardMachine$Controls$TrapBank") (name := "counts") (desc := "LBoardMachine$Controls$Masked;") C (by decide +kernel) (Or.inr ⟨_, kF K hw q1783⟩) (fun _ h => h) (Nat.le_of_ble_eq_true rfl) (Nat.le_of_ble_eq_true rfl) (fs_one (⟨_, ff_20_54 s0 H0 oa D⟩))) ?_
  refine fs_c1 (fs_astr (pc := 21) (n := 954217491) (EE := "BoardMachine$Controls$Register") C (by decide +kernel) (Nat.le_of_ble_eq_true rfl) rfl rfl (Nat.le_of_ble_eq_true rfl) (Nat.le_of_ble_eq_true rfl) (fs_rc (⟨_, rfl, Or.inr (kC K hw q6546)⟩) (fs_rc (⟨_, rfl, Or.inr (kC K hw q6547)⟩) (fs_rc (⟨_, rfl, Or.inr (kC K hw q6548)⟩) (fs_rc (⟨_, rfl, Or.inr (kC K hw q6550)⟩) (fs_rc (⟨_, rfl, Or.inr (kC K hw q6551)⟩) (fs_rc (⟨_, rfl, Or.inr (kC K hw q6549)⟩) (fs_one (⟨_, rfl, Or.inr (kC K hw q6552)⟩))))))))) ?_
  refine fs_c1 (fs_getf (pc := 23) (n := 104906802) (idx := 17) (ref := "BoardMachine$Controls$ControlUnit") (O := "BoardMachine$Controls$ControlUnit") (name := "table") (desc := "[LBoardMachine$Controls$Register;") C (by decide +kernel) (Or.inl (kw K hw q1851)) (fun _ h => h) (Nat.le_of_ble_eq_true rfl) (Nat.le_of_ble_eq_true rfl) (fs_one (⟨_, ff_12_25 s0 H0 oa D⟩))) ?_
  refine fs_c1 (fs_getf (pc := 31) (n := 209797202) (idx := 125) (ref := "BoardMachine$Controls$TrapBank") (O := "BoardMachine$Controls$TrapBank") (name := "scratch") (desc := "LBoardMachine$Controls$Masked;") C (by decide +kernel) (Or.inr ⟨_, kF K hw q1771⟩) (fun _ h => h) (Nat.le_of_ble_eq_true rfl) (Nat.le_of_ble_eq_true rfl) (fs_one (⟨_, ff_20_50 s0 H0 oa D⟩))) ?_
  refine fs_c1 (fs_astr (pc := 34) (n := 954217491) (EE := "BoardMachine$Controls$Register") C (by decide +kernel) (Nat.le_of_ble_eq_true rfl) rfl rfl (Nat.le_of_ble_eq_true rfl) (Nat.le_of_ble_eq_true rfl) (fs_rc (⟨_, rfl, Or.inr (kC K hw q6546)⟩) (fs_rc (⟨_, rfl, Or.inr (kC K hw q6547)⟩) (fs_rc (⟨_, rfl, Or.inr (kC K hw q6548)⟩) (fs_rc (⟨_, rfl, Or.inr (kC K hw q6550)⟩) (fs_rc (⟨_, rfl, Or.inr (kC K hw q6551)⟩) (fs_rc (⟨_, rfl, Or.inr (kC K hw q6549)⟩) (fs_one (⟨_, rfl, Or.inr (kC K hw q6552)⟩))))))))) ?_
  refine fs_c1 (fs_getf (pc := 36) (n := 104906802) (idx := 17) (ref := "BoardMachine$Controls$ControlUnit") (O := "BoardMachine$Controls$ControlUnit") (name := "table") (desc := "[LBoardMachine$Controls$Register;") C (by decide +kernel) (Or.inl (kw K hw q1851)) (fun _ h => h) (Nat.le_of_ble_eq_true rfl) (Nat.le_of_ble_eq_true rfl) (fs_one (⟨_, ff_12_25 s0 H0 oa D⟩))) ?_
  refine fs_c1 (fs_getf (pc := 44) (n := 213991506) (idx := 128) (ref := "BoardMachine$Controls$TrapBank") (O := "BoardMachine$Controls$TrapBank") (name := "place") (desc := "LBoardMachine$Controls$Masked;") C (by decide +kernel) (Or.inr ⟨_, kF K hw q1774⟩) (fun _ h => h) (Nat.le_of_ble_eq_true rfl) (Nat.le_of_ble_eq_true rfl) (fs_one (⟨_, ff_20_51 s0 H0 oa D⟩))) ?_
  refine fs_c1 (fs_astr (pc := 47) (n := 954217491) (EE := "BoardMachine$Controls$Register") C (by decide +kernel) (Nat.le_of_ble_eq_true rfl) rfl rfl (Nat.le_of_ble_eq_true rfl) (Nat.le_of_ble_eq_true rfl) (fs_rc (⟨_, rfl, Or.inr (kC K hw q6546)⟩) (fs_rc (⟨_, rfl, Or.inr (kC K hw q6547)⟩) (fs_rc (⟨_, rfl, Or.inr (kC K hw q6548)⟩) (fs_rc (⟨_, rfl, Or.inr (kC K hw q6550)⟩) (fs_rc (⟨_, rfl, Or.inr (kC K hw q6551)⟩) (fs_rc (⟨_, rfl, Or.inr (kC K hw q6549)⟩) (fs_one (⟨_, rfl, Or.inr (kC K hw q6552)⟩))))))))) ?_
  refine fs_c1 (fs_getf (pc := 49) (n := 104906802) (idx := 17) (ref := "BoardMachine$Controls$ControlUnit") (O := "BoardMachine$Controls$ControlUnit") (name := "table") (desc := "[LBoardMachine$Controls$Register;") C (by decide +kernel) (Or.inl (kw K hw q1851)) (fun _ h => h) (Nat.le_of_ble_eq_true rfl) (Nat.le_of_ble_eq_true rfl) (fs_one (⟨_, ff_12_25 s0 H0 oa D⟩))) ?_
  refine fs_c1 (fs_getf (pc := 57) (n := 218185810) (idx := 131) (ref := "BoardMachine$Controls$TrapBank") (O := "BoardMachine$Controls$TrapBank") (name := "cause") (desc := "LBoardMachine$Controls$Masked;") C (by decide +kernel) (Or.inr ⟨_, kF K hw q1777⟩) (fun _ h => h) (Nat.le_of_ble_eq_true rfl) (Nat.le_of_ble_eq_true rfl) (fs_one (⟨_, ff_20_52 s0 H0 oa D⟩))) ?_
  refine fs_c1 (fs_astr (pc := 60) (n := 954217491) (EE := "BoardMachine$Controls$Register") C (by decide +kernel) (Nat.le_of_ble_eq_true rfl) rfl rfl (Nat.le_of_ble_eq_true rfl) (Nat.le_of_ble_eq_true rfl) (fs_rc (⟨_, rfl, Or.inr (kC K hw q6546)⟩) (fs_rc (⟨_, rfl, Or.inr (kC K hw q6547)⟩) (fs_rc (⟨_, rfl, Or.inr (kC K hw q6548)⟩) (fs_rc (⟨_, rfl, Or.inr (kC K hw q6550)⟩) (fs_rc (⟨_, rfl, Or.inr (kC K hw q6551)⟩) (fs_rc (⟨_, rfl, Or.inr (kC K hw q6549)⟩) (fs_one (⟨_, rfl, Or.inr (kC K hw q6552)⟩))))))))) ?_
  refine fs_c1 (fs_getf (pc := 62) (n := 104906802) (idx := 17) (ref := "BoardMachine$Controls$ControlUnit") (O := "BoardMachine$Controls$ControlUnit") (name := "table") (desc := "[LBoardMachine$Controls$Register;") C (by decide +kernel) (Or.inl (kw K hw q1851)) (fun _ h => h) (Nat.le_of_ble_eq_true rfl) (Nat.le_of_ble_eq_true rfl) (fs_one (⟨_, ff_12_25 s0 H0 oa D⟩))) ?_
  refine fs_c1 (fs_getf (pc := 70) (n := 222380114) (idx := 134) (ref := "BoardMachine$Controls$TrapBank") (O := "BoardMachine$Controls$TrapBank") (name := "value") (desc := "LBoardMachine$Controls$Masked;") C (by decide +kernel) (Or.inr ⟨_, kF K hw q1780⟩) (fun _ h => h) (Nat.le_of_ble_eq_true rfl) (Nat.le_of_ble_eq_true rfl) (fs_one (⟨_, ff_20_53 s0 H0 oa D⟩))) ?_
  refine fs_c1 (fs_astr (pc := 73) (n := 954217491) (EE := "BoardMachine$Controls$Register") C (by decide +kernel) (Nat.le_of_ble_eq_true rfl) rfl rfl (Nat.le_of_ble_eq_true rfl) (Nat.le_of_ble_eq_true rfl) (fs_rc (⟨_, rfl, Or.inr (kC K hw q6546)⟩) (fs_rc (⟨_, rfl, Or.inr (kC K hw q6547)⟩) (fs_rc (⟨_, rfl, Or.inr (kC K hw q6548)⟩) (fs_rc (⟨_, rfl, Or.inr (kC K hw q6550)⟩) (fs_rc (⟨_, rfl, Or.inr (kC K hw q6551)⟩) (fs_rc (⟨_, rfl, Or.inr (kC K hw q6549)⟩) (fs_one (⟨_, rfl, Or.inr (kC K hw q6552)⟩))))))))) ?_
  exact fs_c0
