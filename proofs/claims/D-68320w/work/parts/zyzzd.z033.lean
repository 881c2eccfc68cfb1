/-! contracts of methods, printed by gen/snd.py -/
set_option maxRecDepth 100000
set_option maxHeartbeats 4000000
theorem hX10_isRegister : fe_H (sX10_isRegister) cX10_isRegister [0, 27, 28] fe_ki [] 22 (fun _ => dX10_isRegister FX10_isRegister_0 FX10_isRegister_27 FX10_isRegister_28) := by
  intro j pc L st M r hc h
  rcases fe_mem_c hc with rfl | hc
  · obtain ⟨w0, m0, h⟩ := fe_lL_d h
    obtain ⟨w2, m2, h⟩ := fe_lI_d h
    obtain ⟨rfl, hz⟩ := fe_t0_d h
    exact ⟨[(0, .long w0), (2, .int w2)], (fe_cs m0 (fe_cs m2 fe_nl)), Or.inr ((bX10_isRegister_0 FX10_isRegister_0 FX10_isRegister_27 FX10_isRegister_28 w0 w2 M).symm.trans hz)⟩
  rcases fe_mem_c hc with rfl | hc
  · obtain ⟨rfl, hz⟩ := fe_t0_d h
    exact ⟨[], fe_nl, Or.inr ((bX10_isRegister_27 FX10_isRegister_0 FX10_isRegister_27 FX10_isRegister_28 M).symm.trans hz)⟩
  rcases fe_mem_c hc with rfl | hc
  · obtain ⟨s0, t0, rfl, g0⟩ := fe_tI_d h
    obtain ⟨rfl, hz⟩ := fe_t0_d g0
    exact ⟨[], fe_nl, Or.inr ((bX10_isRegister_28 FX10_isRegister_0 FX10_isRegister_27 FX10_isRegister_28 s0 M).symm.trans hz)⟩
  exact fe_mem_0 hc
theorem vX10_isRegister : fe_SB (sX10_isRegister) := by
  refine ⟨?_, ?_, ?_, ?_⟩
  · intro i As M r h
    exact fe_no h
  · intro i As M r h
    exact fe_no h
  · intro i As M r h
    exact fe_no h
  · intro i As M r h
    exact fe_no h
theorem eX10_isRegister (g0 : Int64 → Int32 → FM → Option (Int32 × FM)) (g27 : FM → Option (Int32 × FM)) (g28 : Int32 → FM → Option (Int32 × FM)) (a0 : Int64) (a2 : Int32) (M : FM) : dX10_isRegister g0 g27 g28 0 [(0, .long a0), (2, .int a2)] [] M = g0 a0 a2 M := by rfl
theorem mX10_isRegister (a0 : Int64) (a2 : Int32) (M : FM) (r : Int32 × FM) (h : FX10_isRegister a0 a2 M = some r) : fm_nx M ≤ fm_nx r.2 ∧ fm_ns M ≤ fm_ns r.2 :=
  fe_mono (L0 := [(0, .long a0), (2, .int a2)]) (vX10_isRegister) (by decide +kernel) (hX10_isRegister) (fe_ki_k r) 0 rfl ((eX10_isRegister FX10_isRegister_0 FX10_isRegister_27 FX10_isRegister_28 a0 a2 M).trans h)
theorem zX10_isRegister {s0 : State} {H0 : Heap} {oa : Nat → Nat} {D : va_G} (K : fk s0 H0 oa D) (l : Launch) (a0 : Int64) (a2 : Int32) (M : FM) (r : Int32 × FM) (h : FX10_isRegister a0 a2 M = some r) : fs_Con (fk_E s0 H0 oa D) l 1 ⟨"BoardMachine$Board", "isRegister", "(JI)Z"⟩ prog_2_method_3_code 3 (Option.some Jvm.ClassFile.FieldType.boolean) [.long a0, .int a2] M (some (.int r.1)) r.2 := by
  refine fs_method (own := "BoardMachine$Board") rfl (by decide) K.2.1 (by rw [fe_slen]; exact (Nat.le_of_ble_eq_true rfl)) (mX10_isRegister a0 a2 M r h) (hX10_isRegister) 0 rfl (L0 := [(0, .long a0), (2, .int a2)]) (fun E => fe_args_e E [.long a0, .int a2] 0) ((eX10_isRegister FX10_isRegister_0 FX10_isRegister_27 FX10_isRegister_28 a0 a2 M).trans h) (fe_ki_k r) (fun H hR => fs_nr_o (by decide) (by decide)) ?_
  intro p e s m args below meth c Q C hnm
  have hw : s0.WarmedH s.vm := C.2.2.2.2.1
  refine fe_all C fk_hwr cX10_isRegister [6, 16] (by decide +kernel) (fe_fil (cps := [(6, 9, .jsr_w (3)), (16, 19, .jsr_w (512))]) (by decide +kernel) ?_)
  refine fs_c1 (fs_ldcl (pc := 6) (idx := 59) (v := 3) C (by decide +kernel) (kw K hw q3633)) ?_
  refine fs_c1 (fs_ldcl (pc := 16) (idx := 61) (v := 512) C (by decide +kernel) (kw K hw q3634)) ?_
  exact fs_c0
theorem hX33_contextAt : fe_H (sX33_contextAt) cX33_contextAt [0, 47, 48, 62] fe_ki [] 46 (fun _ => dX33_contextAt FX33_contextAt_0 FX33_contextAt_47 FX33_contextAt_48 FX33_contextAt_62) := by
  intro j pc L st M r hc h
  rcases fe_mem_c hc with rfl | hc
  · obtain ⟨w0, m0, h⟩ := fe_lR_d h
    obtain ⟨w1, m1, h⟩ := fe_lL_d h
    obtain ⟨w3, m3, h⟩ := fe_lI_d h
    obtain ⟨w4, m4, h⟩ := fe_lI_d h
    obtain ⟨w5, m5, h⟩ := fe_lI_d h
    obtain ⟨rfl, hz⟩ := fe_t0_d h
    exact ⟨[(0, .ref w0), (1, .long w1), (3, .int w3), (4, .int w4), (5, .int w5)], (fe_cs m0 (fe_cs m1 (fe_cs m3 (fe_cs m4 (fe_cs m5 fe_nl))))), Or.inr ((bX33_contextAt_0 FX33_contextAt_0 FX33_contextAt_47 FX33_contextAt_48 FX33_contextAt_62 w0 w1 w3 w4 w5 M).symm.trans hz)⟩
  rcases fe_mem_c hc with rfl | hc
  · obtain ⟨w6, m6, h⟩ := fe_lL_d h
    obtain ⟨rfl, hz⟩ := fe_t0_d h
    exact ⟨[(6, .long w6)], (fe_cs m6 fe_nl), Or.inr ((bX33_contextAt_47 FX33_contextAt_0 FX33_contextAt_47 FX33_contextAt_48 FX33_contextAt_62 w6 M).symm.trans hz)⟩
  rcases fe_mem_c hc with rfl | hc
  · obtain ⟨w6, m6, h⟩ := fe_lL_d h
    obtain ⟨s0, t0, rfl, g0⟩ := fe_tI_d h
    obtain ⟨rfl, hz⟩ := fe_t0_d g0
    exact ⟨[(6, .long w6)], (fe_cs m6 fe_nl), Or.inr ((bX33_contextAt_48 FX33_contextAt_0 FX33_contextAt_47 FX33_contextAt_48 FX33_contextAt_62 w6 s0 M).symm.trans hz)⟩
  rcases fe_mem_c hc with rfl | hc
  · obtain ⟨s0, t0, rfl, g0⟩ := fe_tI_d h
    obtain ⟨rfl, hz⟩ := fe_t0_d g0
    exact ⟨[], fe_nl, Or.inr ((bX33_contextAt_62 FX33_contextAt_0 FX33_contextAt_47 FX33_contextAt_48 FX33_contextAt_62 s0 M).symm.trans hz)⟩
  exact fe_mem_0 hc
theorem vX33_contextAt : fe_SB (sX33_contextAt) := by
  refine ⟨?_, ?_, ?_, ?_⟩
  · intro i As M r h
    exact fe_no h
  · intro i As M r h
    exact fe_no h
  · intro i As M r h
    exact fe_no h
  · intro i As M r h
    exact fe_no h
theorem eX33_contextAt (g0 : Nat → Int64 → Int32 → Int32 → Int32 → FM → Option (Int32 × FM)) (g47 : Int64 → FM → Option (Int32 × FM)) (g48 : Int64 → Int32 → FM → Option (Int32 × FM)) (g62 : Int32 → FM → Option (Int32 × FM)) (a0 : Nat) (a1 : Int64) (a3 : Int32) (a4 : Int32) (a5 : Int32) (M : FM) : dX33_contextAt g0 g47 g48 g62 0 [(0, .ref a0), (1, .long a1), (3, .int a3), (4, .int a4), (5, .int a5)] [] M = g0 a0 a1 a3 a4 a5 M := by rfl
theorem mX33_contextAt (a0 : Nat) (a1 : Int64) (a3 : Int32) (a4 : Int32) (a5 : Int32) (M : FM) (r : Int32 × FM) (h : FX33_contextAt a0 a1 a3 a4 a5 M = some r) : fm_nx M ≤ fm_nx r.2 ∧ fm_ns M ≤ fm_ns r.2 :=
  fe_mono (L0 := [(0, .ref a0), (1, .long a1), (3, .int a3), (4, .int a4), (5, .int a5)]) (vX33_contextAt) (by decide +kernel) (hX33_contextAt) (fe_ki_k r) 0 rfl ((eX33_contextAt FX33_contextAt_0 FX33_contextAt_47 FX33_contextAt_48 FX33_contextAt_62 a0 a1 a3 a4 a5 M).trans h)
theorem zX33_contextAt {s0 : State} {H0 : Heap} {oa : Nat → Nat} {D : va_G} (K : fk s0 H0 oa D) (l : Launch) (a0 : Nat) (a1 : Int64) (a3 : Int32) (a4 : Int32) (a5 : Int32) (M : FM) (r : Int32 × FM) (h : FX33_contextAt a0 a1 a3 a4 a5 M = some r) : fs_Con (fk_E s0 H0 oa D) l 1 ⟨"BoardMachine$Signals$Controller", "contextAt", "(JIII)I"⟩ prog_89_method_7_code 9 (Option.some Jvm.ClassFile.FieldType.int) [.ref a0, .long a1, .int a3, .int a4, .int a5] M (some (.int r.1)) r.2 := by
  refine fs_method (own := "BoardMachine$Signals$Controller") rfl (by decide) K.2.1 (by rw [fe_slen]; exact (Nat.le_of_ble_eq_true rfl)) (mX33_contextAt a0 a1 a3 a4 a5 M r h) (hX33_contextAt) 0 rfl (L0 := [(0, .ref a0), (1, .long a1), (3, .int a3), (4, .int a4), (5, .int a5)]) (fun E => fe_args_e E [.ref a0, .long a1, .int a3, .int a4, .int a5] 0) ((eX33_contextAt FX33_contextAt_0 FX33_contextAt_47 FX33_contextAt_48 FX33_contextAt_62 a0 a1 a3 a4 a5 M).trans h) (fe_ki_k r) (fun H hR => fs_nr_o (by decide) (by decide)) ?_
  intro p e s m args below meth c Q C hnm
  have hw : s0.WarmedH s.vm := C.2.2.2.2.1
  refine fe_all C fk_hwr cX33_contextAt [35] (by decide +kernel) (fe_fil (cps := [(35, 38, .getfield 935645492)]) (by decide +kernel) ?_)
  refine fs_c1 (fs_getf (pc := 35) (n := 935645492) (idx := 21) (ref := "BoardMachine$Signals$Controller") (O := "BoardMachine$Signals$Controller") (name := "contexts") (desc := "I") C (by decide +kernel) (Or.inl (kw K hw q994)) (fun _ h => h) (Nat.le_of_ble_eq_true rfl) (Nat.le_of_ble_eq_true rfl) (fs_one (⟨_, ff_77_223 s0 H0 oa D⟩))) ?_
  exact fs_c0
theorem hX33_claim (n : Nat) : fe_H (sX33_claim (FX33_best n)) cX33_claim [0, 47] fe_ki [] 38 (fun _ => dX33_claim (FX33_claim_0 n) (FX33_claim_47 n)) := by
  intro j pc L st M r hc h
  rcases fe_mem_c hc with rfl | hc
  · obtain ⟨w0, m0, h⟩ := fe_lR_d h
    obtain ⟨w1, m1, h⟩ := fe_lI_d h
    obtain ⟨rfl, hz⟩ := fe_t0_d h
    exact ⟨[(0, .ref w0), (1, .int w1)], (fe_cs m0 (fe_cs m1 fe_nl)), Or.inr ((bX33_claim_0 (FX33_best n) (FX33_claim_0 n ) (FX33_claim_47 n ) w0 w1 M).symm.trans hz)⟩
  rcases fe_mem_c hc with rfl | hc
  · obtain ⟨w2, m2, h⟩ := fe_lI_d h
    obtain ⟨rfl, hz⟩ := fe_t0_d h
    exact ⟨[(2, .int w2)], (fe_cs m2 fe_nl), Or.inr ((bX33_claim_47 (FX33_best n) (FX33_claim_0 n ) (FX33_claim_47 n ) w2 M).symm.trans hz)⟩
  exact fe_mem_0 hc
theorem vX33_claim (n : Nat) : fe_SB (sX33_claim (FX33_best n)) := by
  refine ⟨?_, ?_, ?_, ?_⟩
  · intro i As M r h
    exact fe_no h
  · intro i As M r h
    rcases fe_bc h with h | h
    · obtain ⟨v0, t0, rfl, g0⟩ := fe_tR_d h
      obtain ⟨v1, t1, rfl, g1⟩ := fe_tI_d g0
      obtain ⟨v2, t2, rfl, g2⟩ := fe_tI_d g1
      obtain ⟨rfl, hz⟩ := fe_t0_d g2
      exact mX33_best n v0 v1 v2 M r hz
    exact fe_no h
  · intro i As M r h
    exact fe_no h
  · intro i As M r h
    exact fe_no h
theorem eX33_claim (g0 : Nat → Int32 → FM → Option (Int32 × FM)) (g47 : Int32 → FM → Option (Int32 × FM)) (a0 : Nat) (a1 : Int32) (M : FM) : dX33_claim g0 g47 0 [(0, .ref a0), (1, .int a1)] [] M = g0 a0 a1 M := by rfl
theorem mX33_claim (n : Nat) (a0 : Nat) (a1 : Int32) (M : FM) (r : Int32 × FM) (h : FX33_claim n a0 a1 M = some r) : fm_nx M ≤ fm_nx r.2 ∧ fm_ns M ≤ fm_ns r.2 :=
  fe_mono (L0 := [(0, .ref a0), (1, .int a1)]) (vX33_claim n) (by decide +kernel) (hX33_claim n) (fe_ki_k r) 0 rfl ((eX33_claim (FX33_claim_0 n ) (FX33_claim_47 n ) a0 a1 M).trans h)
theorem zX33_claim {s0 : State} {H0 : Heap} {oa : Nat → Nat} {D : va_G} (K : fk s0 H0 oa D) (l : Launch) (n : Nat) (a0 : Nat) (a1 : Int32) (M : FM) (r : Int32 × FM) (h : FX33_claim n a0 a1 M = some r) : fs_Con (fk_E s0 H0 oa D) l 2 ⟨"BoardMachine$Signals$Controller", "claim", "(I)I"⟩ prog_89_method_5_code 3 (Option.some Jvm.ClassFile.FieldType.int) [.ref a0, .int a1] M (some (.int r.1)) r.2 := by
  have o0 : fs_OS (sX33_claim (FX33_best n)) 0 1 (fs_Con (fk_E s0 H0 oa D) l 1 ⟨"BoardMachine$Signals$Controller", "best", "(II)I"⟩ prog_89_method_4_code 6 (Option.some Jvm.ClassFile.FieldType.int)) := by
    intro As M r h
    obtain ⟨v0, t0, rfl, g0⟩ := fe_tR_d h
    obtain ⟨v1, t1, rfl, g1⟩ := fe_tI_d g0
    obtain ⟨v2, t2, rfl, g2⟩ := fe_tI_d g1
    obtain ⟨rfl, hz⟩ := fe_t0_d g2
    exact zX33_best K l n v0 v1 v2 M r hz
  refine fs_method (own := "BoardMachine$Signals$Controller") rfl (by decide) K.2.1 (by rw [fe_slen]; exact (Nat.le_of_ble_eq_true rfl)) (mX33_claim n a0 a1 M r h) (hX33_claim n) 0 rfl (L0 := [(0, .ref a0), (1, .int a1)]) (fun E => fe_args_e E [.ref a0, .int a1] 0) ((eX33_claim (FX33_claim_0 n ) (FX33_claim_47 n ) a0 a1 M).trans h) (fe_ki_k r) (fun H hR => fs_nr_o (by decide) (by decide)) ?_
  intro p e s m args below meth c Q C hnm
  have hw : s0.WarmedH s.vm := C.2.2.2.2.1
  refine fe_all C fk_hwr cX33_claim [2, 6, 13, 23, 32, 37, 44] (by decide +kernel) (fe_fil (cps := [(2, 5, .getfield 956617012), (6, 9, .getfield 944034102), (13, 16, .invokevirtual 13710413), (23, 26, .getfield 956617012), (32, 35, .putfield 956617012), (37, 40, .getfield 960811316), (44, 47, .putfield 960811316)]) (by decide +kernel) ?_)
  refine fs_c1 (fs_getf (pc := 2) (n := 956617012) (idx := 25) (ref := "BoardMachine$Signals$Controller") (O := "BoardMachine$Signals$Controller") (name := "waiting") (desc := "I") C (by decide +kernel) (Or.inl (kw K hw q999)) (fun _ h => h) (Nat.le_of_ble_eq_true rfl) (Nat.le_of_ble_eq_true rfl) (fs_one (⟨_, ff_77_228 s0 H0 oa D⟩))) ?_
  refine fs_c1 (fs_getf (pc := 6) (n := 944034102) (idx := 15) (ref := "BoardMachine$Signals$Controller") (O := "BoardMachine$Signals$Controller") (name := "enables") (desc := "[I") C (by decide +kernel) (Or.inl (kw K hw q996)) (fun _ h => h) (Nat.le_of_ble_eq_true rfl) (Nat.le_of_ble_eq_true rfl) (fs_one (⟨_, ff_77_225 s0 H0 oa D⟩))) ?_
  refine fs_c1 (fs_inv_virtual (pc := 13) (n := 13710413) C (Nat.le_of_ble_eq_true rfl) (Nat.le_of_ble_eq_true rfl) (fs_lk_virtual (idx := 37) (y := ⟨"BoardMachine$Signals$Controller", "best", "(II)I"⟩) (bytes := prog_89_method_4_code) (maxL := 6) (rt := (Option.some Jvm.ClassFile.FieldType.int)) (d := 1) C (Nat.le_of_ble_eq_true rfl) (Nat.le_of_ble_eq_true rfl) (by decide +kernel) (kw K hw q2880) (kw K hw q344) (kw K hw q2879) (Or.inl (kw K hw q2877)) ⟨by decide, by decide⟩ rfl (Nat.le_of_ble_eq_true rfl) (Nat.le_of_ble_eq_true rfl) (fs_one (⟨_, rfl, kw K hw qs36⟩))) fs_con_mono o0) ?_
  refine fs_c1 (fs_getf (pc := 23) (n := 956617012) (idx := 25) (ref := "BoardMachine$Signals$Controller") (O := "BoardMachine$Signals$Controller") (name := "waiting") (desc := "I") C (by decide +kernel) (Or.inl (kw K hw q999)) (fun _ h => h) (Nat.le_of_ble_eq_true rfl) (Nat.le_of_ble_eq_true rfl) (fs_one (⟨_, ff_77_228 s0 H0 oa D⟩))) ?_
  refine fs_c1 (fs_putf (pc := 32) (n := 956617012) (idx := 25) (ref := "BoardMachine$Signals$Controller") (O := "BoardMachine$Signals$Controller") (name := "waiting") (desc := "I") (fin := false) (ty := .int) C (by decide +kernel) (Or.inl ⟨rfl, Or.inl (kw K hw q999)⟩) (fun _ h => h) (Nat.le_of_ble_eq_true rfl) (Nat.le_of_ble_eq_true rfl) (Nat.le_of_ble_eq_true rfl) rfl rfl (by decide) (fs_one (⟨rfl, ff_77_228 s0 H0 oa D⟩))) ?_
  refine fs_c1 (fs_getf (pc := 37) (n := 960811316) (idx := 31) (ref := "BoardMachine$Signals$Controller") (O := "BoardMachine$Signals$Controller") (name := "served") (desc := "I") C (by decide +kernel) (Or.inl (kw K hw q1000)) (fun _ h => h) (Nat.le_of_ble_eq_true rfl) (Nat.le_of_ble_eq_true rfl) (fs_one (⟨_, ff_77_229 s0 H0 oa D⟩))) ?_
  refine fs_c1 (fs_putf (pc := 44) (n := 960811316) (idx := 31) (ref := "BoardMachine$Signals$Controller") (O := "BoardMachine$Signals$Controller") (name := "served") (desc := "I") (fin := false) (ty := .int) C (by decide +kernel) (Or.inl ⟨rfl, Or.inl (kw K hw q1000)⟩) (fun _ h => h) (Nat.le_of_ble_eq_true rfl) (Nat.le_of_ble_eq_true rfl) (Nat.le_of_ble_eq_true rfl) rfl rfl (by decide) (fs_one (⟨rfl, ff_77_229 s0 H0 oa D⟩))) ?_
  exact fs_c0
theorem hX33_read (n : Nat) : fe_H (sX33_read FX33_contextAt (FX33_claim n)) cX33_read [0, 15, 144] fe_kl [] 87 (fun _ => dX33_read (FX33_read_0 n) (FX33_read_15 n) (FX33_read_144 n)) := by
  intro j pc L st M r hc h
  rcases fe_mem_c hc with rfl | hc
  · obtain ⟨w0, m0, h⟩ := fe_lR_d h
    obtain ⟨w1, m1, h⟩ := fe_lL_d h
    obtain ⟨w3, m3, h⟩ := fe_lI_d h
    obtain ⟨rfl, hz⟩ := fe_t0_d h
    exact ⟨[(0, .ref w0), (1, .long w1), (3, .int w3)], (fe_cs m0 (fe_cs m1 (fe_cs m3 fe_nl))), Or.inr ((bX33_read_0 FX33_contextAt (FX33_claim n) (FX33_read_0 n ) (FX33_read_15 n ) (FX33_read_144 n ) w0 w1 w3 M).symm.trans hz)⟩
  rcases fe_mem_c hc with rfl | hc
  · obtain ⟨rfl, hz⟩ := fe_t0_d h
    exact ⟨[], fe_nl, Or.inr ((bX33_read_15 FX33_contextAt (FX33_claim n) (FX33_read_0 n ) (FX33_read_15 n ) (FX33_read_144 n ) M).symm.trans hz)⟩
  rcases fe_mem_c hc with rfl | hc
  · obtain ⟨s0, t0, rfl, g0⟩ := fe_tL_d h
    obtain ⟨rfl, hz⟩ := fe_t0_d g0
    exact ⟨[], fe_nl, Or.inr ((bX33_read_144 FX33_contextAt (FX33_claim n) (FX33_read_0 n ) (FX33_read_15 n ) (FX33_read_144 n ) s0 M).symm.trans hz)⟩
  exact fe_mem_0 hc
theorem vX33_read (n : Nat) : fe_SB (sX33_read FX33_contextAt (FX33_claim n)) := by
  refine ⟨?_, ?_, ?_, ?_⟩
  · intro i As M r h
    exact fe_no h
  · intro i As M r h
    rcases fe_bc h with h | h
    · obtain ⟨v0, t0, rfl, g0⟩ := fe_tR_d h
      obtain ⟨v1, t1, rfl, g1⟩ := fe_tL_d g0
      obtain ⟨v2, t2, rfl, g2⟩ := fe_tI_d g1
      obtain ⟨v3, t3, rfl, g3⟩ := fe_tI_d g2
      obtain ⟨v4, t4, rfl, g4⟩ := fe_tI_d g3
      obtain ⟨rfl, hz⟩ := fe_t0_d g4
      exact mX33_contextAt v0 v1 v2 v3 v4 M r hz
    rcases fe_bc h with h | h
    · obtain ⟨v0, t0, rfl, g0⟩ := fe_tR_d h
      obtain ⟨v1, t1, rfl, g1⟩ := fe_tI_d g0
      obtain ⟨rfl, hz⟩ := fe_t0_d g1
      exact mX33_claim n v0 v1 M r hz
    exact fe_no h
  · intro i As M r h
    exact fe_no h
  · intro i As M r h
    exact fe_no h
theorem eX33_read (g0 : Nat → Int64 → Int32 → FM → Option (Int64 × FM)) (g15 : FM → Option (Int64 × FM)) (g144 : Int64 → FM → Option (Int64 × FM)) (a0 : Nat) (a1 : Int64) (a3 : Int32) (M : FM) : dX33_read g0 g15 g144 0 [(0, .ref a0), (1, .long a1), (3, .int a3)] [] M = g0 a0 a1 a3 M := by rfl
theorem mX33_read (n : Nat) (a0 : Nat) (a1 : Int64) (a3 : Int32) (M : FM) (r : Int64 × FM) (h : FX33_read n a0 a1 a3 M = some r) : fm_nx M ≤ fm_nx r.2 ∧ fm_ns M ≤ fm_ns r.2 :=
  fe_mono (L0 := [(0, .ref a0), (1, .long a1), (3, .int a3)]) (vX33_read n) (by decide +kernel) (hX33_read n) (fe_kl_k r) 0 rfl ((eX33_read (FX33_read_0 n ) (FX33_read_15 n ) (FX33_read_144 n ) a0 a1 a3 M).trans h)
theorem zX33_read {s0 : State} {H0 : Heap} {oa : Nat → Nat} {D : va_G} (K : fk s0 H0 oa D) (l : Launch) (n : Nat) (a0 : Nat) (a1 : Int64) (a3 : Int32) (M : FM) (r : Int64 × FM) (h : FX33_read n a0 a1 a3 M = some r) : fs_Con (fk_E s0 H0 oa D) l 3 ⟨"BoardMachine$Signals$Controller", "read", "(JI)J"⟩ prog_89_method_8_code 7 (Option.some Jvm.ClassFile.FieldType.long) [.ref a0, .long a1, .int a3] M (some (.long r.1)) r.2 := by
  have o0 : fs_OS (sX33_read FX33_contextAt (FX33_claim n)) 0 1 (fs_Con (fk_E s0 H0 oa D) l 1 ⟨"BoardMachine$Signals$Controller", "contextAt", "(JIII)I"⟩ prog_89_method_7_code 9 (Option.some Jvm.ClassFile.FieldType.int)) := by
    intro As M r h
    obtain ⟨v0, t0, rfl, g0⟩ := fe_tR_d h
    obtain ⟨v1, t1, rfl, g1⟩ := fe_tL_d g0
    obtain ⟨v2, t2, rfl, g2⟩ := fe_tI_d g1
    obtain ⟨v3, t3, rfl, g3⟩ := fe_tI_d g2
    obtain ⟨v4, t4, rfl, g4⟩ := fe_tI_d g3
    obtain ⟨rfl, hz⟩ := fe_t0_d g4
    exact zX33_contextAt K l v0 v1 v2 v3 v4 M r hz
  have o1 : fs_OS (sX33_read FX33_contextAt (FX33_claim n)) 1 1 (fs_Con (fk_E s0 H0 oa D) l 2 ⟨"BoardMachine$Signals$Controller", "claim", "(I)I"⟩ prog_89_method_5_code 3 (Option.some Jvm.ClassFile.FieldType.int)) := by
    intro As M r h
    obtain ⟨v0, t0, rfl, g0⟩ := fe_tR_d h
    obtain ⟨v1, t1, rfl, g1⟩ := fe_tI_d g0
    obtain ⟨rfl, hz⟩ := fe_t0_d g1
    exact zX33_claim K l n v0 v1 M r hz
  refine fs_method (own := "BoardMachine$Signals$Controller") rfl (by decide) K.2.1 (by rw [fe_slen]; exact (Nat.le_of_ble_eq_true rfl)) (mX33_read n a0 a1 a3 M r h) (hX33_read n) 0 rfl (L0 := [(0, .ref a0), (1, .long a1), (3, .int a3)]) (fun E => fe_args_e E [.ref a0, .long a1, .int a3] 0) ((eX33_read (FX33_read_0 n ) (FX33_read_15 n ) (FX33_read_144 n ) a0 a1 a3 M).trans h) (fe_kl_k r) (fun H hR => fs_nr_o (by decide) (by decide)) ?_
  intro p e s m args below meth c Q C hnm
  have hw : s0.WarmedH s.vm := C.2.2.2.2.1
  refine fe_all C fk_hwr cX33_read [6, 26, 33, 39, 46, 52, 58, 66, 77, 85, 89, 100, 107, 118, 136] (by decide +kernel) (fe_fil (cps := [(6, 9, .jsr_w (3)), (26, 29, .invokevirtual 22099021), (33, 35, .iconst (2097152)), (39, 42, .invokevirtual 22099021), (46, 48, .iconst (2097152)), (52, 55, .invokevirtual 22099021), (58, 61, .jsr_w (128)), (66, 69, .getfield 939839798), (77, 80, .jsr_w (4096)), (85, 88, .getfield 956617012), (89, 92, .jsr_w (4294967295)), (100, 103, .getfield 944034102), (107, 110, .jsr_w (4294967295)), (118, 121, .getfield 948228406), (136, 139, .invokevirtual 76624973)]) (by decide +kernel) ?_)
  refine fs_c1 (fs_ldcl (pc := 6) (idx := 43) (v := 3) C (by decide +kernel) (kw K hw q3548)) ?_
  refine fs_c1 (fs_inv_virtual (pc := 26) (n := 22099021) C (Nat.le_of_ble_eq_true rfl) (Nat.le_of_ble_eq_true rfl) (fs_lk_virtual (idx := 45) (y := ⟨"BoardMachine$Signals$Controller", "contextAt", "(JIII)I"⟩) (bytes := prog_89_method_7_code) (maxL := 9) (rt := (Option.some Jvm.ClassFile.FieldType.int)) (d := 1) C (Nat.le_of_ble_eq_true rfl) (Nat.le_of_ble_eq_true rfl) (by decide +kernel) (kw K hw q3552) (kw K hw q344) (kw K hw q3551) (Or.inl (kw K hw q3549)) ⟨by decide, by decide⟩ rfl (Nat.le_of_ble_eq_true rfl) (Nat.le_of_ble_eq_true rfl) (fs_one (⟨_, rfl, kw K hw qs67⟩))) fs_con_mono o0) ?_
  refine fs_c1 (fs_ldci (pc := 33) (idx := 49) (v := 2097152) C (by decide +kernel) (kw K hw q3553)) ?_
  refine fs_c1 (fs_inv_virtual (pc := 39) (n := 22099021) C (Nat.le_of_ble_eq_true rfl) (Nat.le_of_ble_eq_true rfl) (fs_lk_virtual (idx := 45) (y := ⟨"BoardMachine$Signals$Controller", "contextAt", "(JIII)I"⟩) (bytes := prog_89_method_7_code) (maxL := 9) (rt := (Option.some Jvm.ClassFile.FieldType.int)) (d := 1) C (Nat.le_of_ble_eq_true rfl) (Nat.le_of_ble_eq_true rfl) (by decide +kernel) (kw K hw q3552) (kw K hw q344) (kw K hw q3551) (Or.inl (kw K hw q3549)) ⟨by decide, by decide⟩ rfl (Nat.le_of_ble_eq_true rfl) (Nat.le_of_ble_eq_true rfl) (fs_one (⟨_, rfl, kw K hw qs67⟩))) fs_con_mono o0) ?_
  refine fs_c1 (fs_ldci (pc := 46) (idx := 49) (v := 2097152) C (by decide +kernel) (kw K hw q3553)) ?_
  refine fs_c1 (fs_inv_virtual (pc := 52) (n := 22099021) C (Nat.le_of_ble_eq_true rfl) (Nat.le_of_ble_eq_true rfl) (fs_lk_virtual (idx := 45) (y := ⟨"BoardMachine$Signals$Controller", "contextAt", "(JIII)I"⟩) (bytes := prog_89_method_7_code) (maxL := 9) (rt := (Option.some Jvm.ClassFile.FieldType.int)) (d := 1) C (Nat.le_of_ble_eq_true rfl) (Nat.le_of_ble_eq_true rfl) (by decide +kernel) (kw K hw q3552) (kw K hw q344) (kw K hw q3551) (Or.inl (kw K hw q3549)) ⟨by decide, by decide⟩ rfl (Nat.le_of_ble_eq_true rfl) (Nat.le_of_ble_eq_true rfl) (fs_one (⟨_, rfl, kw K hw qs67⟩))) fs_con_mono o0) ?_
  refine fs_c1 (fs_ldcl (pc := 58) (idx := 50) (v := 128) C (by decide +kernel) (kw K hw q3554)) ?_
  refine fs_c1 (fs_getf (pc := 66) (n := 939839798) (idx := 9) (ref := "BoardMachine$Signals$Controller") (O := "BoardMachine$Signals$Controller") (name := "priorities") (desc := "[I") C (by decide +kernel) (Or.inl (kw K hw q995)) (fun _ h => h) (Nat.le_of_ble_eq_true rfl) (Nat.le_of_ble_eq_true rfl) (fs_one (⟨_, ff_77_224 s0 H0 oa D⟩))) ?_
  refine fs_c1 (fs_ldcl (pc := 77) (idx := 52) (v := 4096) C (by decide +kernel) (kw K hw q3555)) ?_
  refine fs_c1 (fs_getf (pc := 85) (n := 956617012) (idx := 25) (ref := "BoardMachine$Signals$Controller") (O := "BoardMachine$Signals$Controller") (name := "waiting") (desc := "I") C (by decide +kernel) (Or.inl (kw K hw q999)) (fun _ h => h) (Nat.le_of_ble_eq_true rfl) (Nat.le_of_ble_eq_true rfl) (fs_one (⟨_, ff_77_228 s0 H0 oa D⟩))) ?_
  refine fs_c1 (fs_ldcl (pc := 89) (idx := 54) (v := 4294967295) C (by decide +kernel) (kw K hw q3556)) ?_
  refine fs_c1 (fs_getf (pc := 100) (n := 944034102) (idx := 15) (ref := "BoardMachine$Signals$Controller") (O := "BoardMachine$Signals$Controller") (name := "enables") (desc := "[I") C (by decide +kernel) (Or.inl (kw K hw q996)) (fun _ h => h) (Nat.le_of_ble_eq_true rfl) (Nat.le_of_ble_eq_true rfl) (fs_one (⟨_, ff_77_225 s0 H0 oa D⟩))) ?_
  refine fs_c1 (fs_ldcl (pc := 107) (idx := 54) (v := 4294967295) C (by decide +kernel) (kw K hw q3556)) ?_
  refine fs_c1 (fs_getf (pc := 118) (n := 948228406) (idx := 18) (ref := "BoardMachine$Signals$Controller") (O := "BoardMachine$Signals$Controller") (name := "thresholds") (desc := "[I") C (by decide +kernel) (Or.inl (kw K hw q997)) (fun _ h => h) (Nat.le_of_ble_eq_true rfl) (Nat.le_of_ble_eq_true rfl) (fs_one (⟨_, ff_77_226 s0 H0 oa D⟩))) ?_
  refine fs_c1 (fs_inv_virtual (pc := 136) (n := 76624973) C (Nat.le_of_ble_eq_true rfl) (Nat.le_of_ble_eq_true rfl) (fs_lk_virtual (idx := 56) (y := ⟨"BoardMachine$Signals$Controller", "claim", "(I)I"⟩) (bytes := prog_89_method_5_code) (maxL := 3) (rt := (Option.some Jvm.ClassFile.FieldType.int)) (d := 2) C (Nat.le_of_ble_eq_true rfl) (Nat.le_of_ble_eq_true rfl) (by decide +kernel) (kw K hw q3560) (kw K hw q344) (kw K hw q3559) (Or.inl (kw K hw q3557)) ⟨by decide, by decide⟩ rfl (Nat.le_of_ble_eq_true rfl) (Nat.le_of_ble_eq_true rfl) (fs_one (⟨_, rfl, kw K hw qs68⟩))) fs_con_mono o1) ?_
  exact fs_c0
theorem hX31_has : fe_H (sX31_has) cX31_has [0, 19] fe_ki [] 20 (fun _ => dX31_has FX31_has_0 FX31_has_19) := by
  intro j pc L st M r hc h
  rcases fe_mem_c hc with rfl | hc
  · obtain ⟨w0, m0, h⟩ := fe_lR_d h
    obtain ⟨w1, m1, h⟩ := fe_lI_d h
    obtain ⟨w2, m2, h⟩ := fe_lI_d h
    obtain ⟨rfl, hz⟩ := fe_t0_d h
    exact ⟨[(0, .ref w0), (1, .int w1), (2, .int w2)], (fe_cs m0 (fe_cs m1 (fe_cs m2 fe_nl))), Or.inr ((bX31_has_0 FX31_has_0 FX31_has_19 w0 w1 w2 M).symm.trans hz)⟩
  rcases fe_mem_c hc with rfl | hc
  · obtain ⟨s0, t0, rfl, g0⟩ := fe_tI_d h
    obtain ⟨rfl, hz⟩ := fe_t0_d g0
    exact ⟨[], fe_nl, Or.inr ((bX31_has_19 FX31_has_0 FX31_has_19 s0 M).symm.trans hz)⟩
  exact fe_mem_0 hc
theorem vX31_has : fe_SB (sX31_has) := by
  refine ⟨?_, ?_, ?_, ?_⟩
  · intro i As M r h
    exact fe_no h
  · intro i As M r h
    exact fe_no h
  · intro i As M r h
    exact fe_no h
  · intro i As M r h
    exact fe_no h
theorem eX31_has (g0 : Nat → Int32 → Int32 → FM → Option (Int32 × FM)) (g19 : Int32 → FM → Option (Int32 × FM)) (a0 : Nat) (a1 : Int32) (a2 : Int32) (M : FM) : dX31_has g0 g19 0 [(0, .ref a0), (1, .int a1), (2, .int a2)] [] M = g0 a0 a1 a2 M := by rfl
theorem mX31_has (a0 : Nat) (a1 : Int32) (a2 : Int32) (M : FM) (r : Int32 × FM) (h : FX31_has a0 a1 a2 M = some r) : fm_nx M ≤ fm_nx r.2 ∧ fm_ns M ≤ fm_ns r.2 :=
  fe_mono (L0 := [(0, .ref a0), (1, .int a1), (2, .int a2)]) (vX31_has) (by decide +kernel) (hX31_has) (fe_ki_k r) 0 rfl ((eX31_has FX31_has_0 FX31_has_19 a0 a1 a2 M).trans h)
theorem zX31_has {s0 : State} {H0 : Heap} {oa : Nat → Nat} {D : va_G} (K : fk s0 H0 oa D) (l : Launch) (a0 : Nat) (a1 : Int32) (a2 : Int32) (M : FM) (r : Int32 × FM) (h : FX31_has a0 a1 a2 M = some r) : fs_Con (fk_E s0 H0 oa D) l 1 ⟨"BoardMachine$Signals$Serial", "has", "(II)Z"⟩ prog_91_method_5_code 3 (Option.some Jvm.ClassFile.FieldType.boolean) [.ref a0, .int a1, .int a2] M (some (.int r.1)) r.2 := by
  refine fs_method (own := "BoardMachine$Signals$Serial") rfl (by decide) K.2.1 (by rw [fe_slen]; exact (Nat.le_of_ble_eq_true rfl)) (mX31_has a0 a1 a2 M r h) (hX31_has) 0 rfl (L0 := [(0, .ref a0), (1, .int a1), (2, .int a2)]) (fun E => fe_args_e E [.ref a0, .int a1, .int a2] 0) ((eX31_has FX31_has_0 FX31_has_19 a0 a1 a2 M).trans h) (fe_ki_k r) (fun H hR => fs_nr_o (by decide) (by decide)) ?_
  intro p e s m args below meth c Q C hnm
  have hw : s0.WarmedH s.vm := C.2.2.2.2.1
  refine fe_all C fk_hwr cX31_has [1] (by decide +kernel) (fe_fil (cps := [(1, 4, .getfield 985981242)]) (by decide +kernel) ?_)
  refine fs_c1 (fs_getf (pc := 1) (n := 985981242) (idx := 19) (ref := "BoardMachine$Signals$Serial") (O := "BoardMachine$Signals$Serial") (name := "held") (desc := "[I") C (by decide +kernel) (Or.inl (kw K hw q943)) (fun _ h => h) (Nat.le_of_ble_eq_true rfl) (Nat.le_of_ble_eq_true rfl) (fs_one (⟨_, ff_78_235 s0 H0 oa D⟩))) ?_
  exact fs_c0
theorem hX31_take : fe_H (sX31_take) cX31_take [0] fe_ki [] 32 (fun _ => dX31_take FX31_take_0) := by
  intro j pc L st M r hc h
  rcases fe_mem_c hc with rfl | hc
  · obtain ⟨w0, m0, h⟩ := fe_lR_d h
    obtain ⟨rfl, hz⟩ := fe_t0_d h
    exact ⟨[(0, .ref w0)], (fe_cs m0 fe_nl), Or.inr ((bX31_take_0 FX31_take_0 w0 M).symm.trans hz)⟩
  exact fe_mem_0 hc
theorem vX31_take : fe_SB (sX31_take) := by
  refine ⟨?_, ?_, ?_, ?_⟩
  · intro i As M r h
    exact fe_no h
  · intro i As M r h
    exact fe_no h
  · intro i As M r h
    exact fe_no h
  · intro i As M r h
    exact fe_no h
theorem eX31_take (g0 : Nat → FM → Option (Int32 × FM)) (a0 : Nat) (M : FM) : dX31_take g0 0 [(0, .ref a0)] [] M = g0 a0 M := by rfl
theorem mX31_take (a0 : Nat) (M : FM) (r : Int32 × FM) (h : FX31_take a0 M = some r) : fm_nx M ≤ fm_nx r.2 ∧ fm_ns M ≤ fm_ns r.2 :=
  fe_mono (L0 := [(0, .ref a0)]) (vX31_take) (by decide +kernel) (hX31_take) (fe_ki_k r) 0 rfl ((eX31_take FX31_take_0 a0 M).trans h)
theorem zX31_take {s0 : State} {H0 : Heap} {oa : Nat → Nat} {D : va_G} (K : fk s0 H0 oa D) (l : Launch) (a0 : Nat) (M : FM) (r : Int32 × FM) (h : FX31_take a0 M = some r) : fs_Con (fk_E s0 H0 oa D) l 1 ⟨"BoardMachine$Signals$Serial", "take", "()I"⟩ prog_91_method_4_code 2 (Option.some Jvm.ClassFile.FieldType.int) [.ref a0] M (some (.int r.1)) r.2 := by
  refine fs_method (own := "BoardMachine$Signals$Serial") rfl (by decide) K.2.1 (by rw [fe_slen]; exact (Nat.le_of_ble_eq_true rfl)) (mX31_take a0 M r h) (hX31_take) 0 rfl (L0 := [(0, .ref a0)]) (fun E => fe_args_e E [.ref a0] 0) ((eX31_take FX31_take_0 a0 M).trans h) (fe_ki_k r) (fun H hR => fs_nr_o (by decide) (by decide)) ?_
  intro p e s m args below meth c Q C hnm
  have hw : s0.WarmedH s.vm := C.2.2.2.2.1
  refine fe_all C fk_hwr cX31_take [1, 10, 14, 21, 29, 34, 39] (by decide +kernel) (fe_fil (cps := [(1, 4, .getfield 973398328), (10, 13, .getfield 965009722), (14, 17, .getfield 969204024), (21, 24, .getfield 969204024), (29, 32, .putfield 969204024), (34, 37, .getfield 973398328), (39, 42, .putfield 973398328)]) (by decide +kernel) ?_)
  refine fs_c1 (fs_getf (pc := 1) (n := 973398328) (idx := 26) (ref := "BoardMachine$Signals$Serial") (O := "BoardMachine$Signals$Serial") (name := "count") (desc := "I") C (by decide +kernel) (Or.inl (kw K hw q939)) (fun _ h => h) (Nat.le_of_ble_eq_true rfl) (Nat.le_of_ble_eq_true rfl) (fs_one (⟨_, ff_78_232 s0 H0 oa D⟩))) ?_
  refine fs_c1 (fs_getf (pc := 10) (n := 965009722) (idx := 9) (ref := "BoardMachine$Signals$Serial") (O := "BoardMachine$Signals$Serial") (name := "in") (desc := "[I") C (by decide +kernel) (Or.inl (kw K hw q937)) (fun _ h => h) (Nat.le_of_ble_eq_true rfl) (Nat.le_of_ble_eq_true rfl) (fs_one (⟨_, ff_78_230 s0 H0 oa D⟩))) ?_
  refine fs_c1 (fs_getf (pc := 14) (n := 969204024) (idx := 34) (ref := "BoardMachine$Signals$Serial") (O := "BoardMachine$Signals$Serial") (name := "head") (desc := "I") C (by decide +kernel) (Or.inl (kw K hw q938)) (fun _ h => h) (Nat.le_of_ble_eq_true rfl) (Nat.le_of_ble_eq_true rfl) (fs_one (⟨_, ff_78_231 s0 H0 oa D⟩))) ?_
  refine fs_c1 (fs_getf (pc := 21) (n := 969204024) (idx := 34) (ref := "BoardMachine$Signals$Serial") (O := "BoardMachine$Signals$Serial") (name := "head") (desc := "I") C (by decide +kernel) (Or.inl (kw K hw q938)) (fun _ h => h) (Nat.le_of_ble_eq_true rfl) (Nat.le_of_ble_eq_true rfl) (fs_one (⟨_, ff_78_231 s0 H0 oa D⟩))) ?_
  refine fs_c1 (fs_putf (pc := 29) (n := 969204024) (idx := 34) (ref := "BoardMachine$Signals$Serial") (O := "BoardMachine$Signals$Serial") (name := "head") (desc := "I") (fin := false) (ty := .int) C (by decide +kernel) (Or.inl ⟨rfl, Or.inl (kw K hw q938)⟩) (fun _ h => h) (Nat.le_of_ble_eq_true rfl) (Nat.le_of_ble_eq_true rfl) (Nat.le_of_ble_eq_true rfl) rfl rfl (by decide) (fs_one (⟨rfl, ff_78_231 s0 H0 oa D⟩))) ?_
  refine fs_c1 (fs_getf (pc := 34) (n := 973398328) (idx := 26) (ref := "BoardMachine$Signals$Serial") (O := "BoardMachine$Signals$Serial") (name := "count") (desc := "I") C (by decide +kernel) (Or.inl (kw K hw q939)) (fun _ h => h) (Nat.le_of_ble_eq_true rfl) (Nat.le_of_ble_eq_true rfl) (fs_one (⟨_, ff_78_232 s0 H0 oa D⟩))) ?_
  refine fs_c1 (fs_putf (pc := 39) (n := 973398328) (idx := 26) (ref := "BoardMachine$Signals$Serial") (O := "BoardMachine$Signals$Serial") (name := "count") (desc := "I") (fin := false) (ty := .int) C (by decide +kernel) (Or.inl ⟨rfl, Or.inl (kw K hw q939)⟩) (fun _ h => h) (Nat.le_of_ble_eq_true rfl) (Nat.le_of_ble_eq_true rfl) (Nat.le_of_ble_eq_true rfl) rfl rfl (by decide) (fs_one (⟨rfl, ff_78_232 s0 H0 oa D⟩))) ?_
  exact fs_c0
theorem hX31_cause : fe_H (sX31_cause FX31_has) cX31_cause [0, 19, 37, 57, 58] fe_ki [] 37 (fun _ => dX31_cause FX31_cause_0 FX31_cause_19 FX31_cause_37 FX31_cause_57 FX31_cause_58) := by
  intro j pc L st M r hc h
  rcases fe_mem_c hc with rfl | hc
  · obtain ⟨w0, m0, h⟩ := fe_lR_d h
    obtain ⟨rfl, hz⟩ := fe_t0_d h
    exact ⟨[(0, .ref w0)], (fe_cs m0 fe_nl), Or.inr ((bX31_cause_0 FX31_has FX31_cause_0 FX31_cause_19 FX31_cause_37 FX31_cause_57 FX31_cause_58 w0 M).symm.trans hz)⟩
  rcases fe_mem_c hc with rfl | hc
  · obtain ⟨w0, m0, h⟩ := fe_lR_d h
    obtain ⟨rfl, hz⟩ := fe_t0_d h
    exact ⟨[(0, .ref w0)], (fe_cs m0 fe_nl), Or.inr ((bX31_cause_19 FX31_has FX31_cause_0 FX31_cause_19 FX31_cause_37 FX31_cause_57 FX31_cause_58 w0 M).symm.trans hz)⟩
  rcases fe_mem_c hc with rfl | hc
  · obtain ⟨w0, m0, h⟩ := fe_lR_d h
    obtain ⟨rfl, hz⟩ := fe_t0_d h
    exact ⟨[(0, .ref w0)], (fe_cs m0 fe_nl), Or.inr ((bX31_cause_37 FX31_has FX31_cause_0 FX31_cause_19 FX31_cause_37 FX31_cause_57 FX31_cause_58 w0 M).symm.trans hz)⟩
  rcases fe_mem_c hc with rfl | hc
  · obtain ⟨rfl, hz⟩ := fe_t0_d h
    exact ⟨[], fe_nl, Or.inr ((bX31_cause_57 FX31_has FX31_cause_0 FX31_cause_19 FX31_cause_37 FX31_cause_57 FX31_cause_58 M).symm.trans hz)⟩
  rcases fe_mem_c hc with rfl | hc
  · obtain ⟨s0, t0, rfl, g0⟩ := fe_tI_d h
    obtain ⟨rfl, hz⟩ := fe_t0_d g0
    exact ⟨[], fe_nl, Or.inr ((bX31_cause_58 FX31_has FX31_cause_0 FX31_cause_19 FX31_cause_37 FX31_cause_57 FX31_cause_58 s0 M).symm.trans hz)⟩
  exact fe_mem_0 hc
theorem vX31_cause : fe_SB (sX31_cause FX31_has) := by
  refine ⟨?_, ?_, ?_, ?_⟩
  · intro i As M r h
    exact fe_no h
  · intro i As M r h
    rcases fe_bc h with h | h
    · obtain ⟨v0, t0, rfl, g0⟩ := fe_tR_d h
      obtain ⟨v1, t1, rfl, g1⟩ := fe_tI_d g0
      obtain ⟨v2, t2, rfl, g2⟩ := fe_tI_d g1
      obtain ⟨rfl, hz⟩ := fe_t0_d g2
      exact mX31_has v0 v1 v2 M r hz
    exact fe_no h
  · intro i As M r h
    exact fe_no h
  · intro i As M r h
    exact fe_no h
theorem eX31_cause (g0 : Nat → FM → Option (Int32 × FM)) (g19 : Nat → FM → Option (Int32 × FM)) (g37 : Nat → FM → Option (Int32 × FM)) (g57 : FM → Option (Int32 × FM)) (g58 : Int32 → FM → Option (Int32 × FM)) (a0 : Nat) (M : FM) : dX31_cause g0 g19 g37 g57 g58 0 [(0, .ref a0)] [] M = g0 a0 M := by rfl
theorem mX31_cause (a0 : Nat) (M : FM) (r : Int32 × FM) (h : FX31_cause a0 M = some r) : fm_nx M ≤ fm_nx r.2 ∧ fm_ns M ≤ fm_ns r.2 :=
  fe_mono (L0 := [(0, .ref a0)]) (vX31_cause) (by decide +kernel) (hX31_cause) (fe_ki_k r) 0 rfl ((eX31_cause FX31_cause_0 FX31_cause_19 FX31_cause_37 FX31_cause_57 FX31_cause_58 a0 M).trans h)
theorem zX31_cause {s0 : State} {H0 : Heap} {oa : Nat → Nat} {D : va_G} (K : fk s0 H0 oa D) (l : Launch) (a0 : Nat) (M : FM) (r : Int32 × FM) (h : FX31_cause a0 M = some r) : fs_Con (fk_E s0 H0 oa D) l 2 ⟨"BoardMachine$Signals$Serial", "cause", "()I"⟩ prog_91_method_6_code 1 (Option.some Jvm.ClassFile.FieldType.int) [.ref a0] M (some (.int r.1)) r.2 := by
  have o0 : fs_OS (sX31_cause FX31_has) 0 1 (fs_Con (fk_E s0 H0 oa D) l 1 ⟨"BoardMachine$Signals$Serial", "has", "(II)Z"⟩ prog_91_method_5_code 3 (Option.some Jvm.ClassFile.FieldType.boolean)) := by
    intro As M r h
    obtain ⟨v0, t0, rfl, g0⟩ := fe_tR_d h
    obtain ⟨v1, t1, rfl, g1⟩ := fe_tI_d g0
    obtain ⟨v2, t2, rfl, g2⟩ := fe_tI_d g1
    obtain ⟨rfl, hz⟩ := fe_t0_d g2
    exact zX31_has K l v0 v1 v2 M r hz
  refine fs_method (own := "BoardMachine$Signals$Serial") rfl (by decide) K.2.1 (by rw [fe_slen]; exact (Nat.le_of_ble_eq_true rfl)) (mX31_cause a0 M r h) (hX31_cause) 0 rfl (L0 := [(0, .ref a0)]) (fun E => fe_args_e E [.ref a0] 0) ((eX31_cause FX31_cause_0 FX31_cause_19 FX31_cause_37 FX31_cause_57 FX31_cause_58 a0 M).trans h) (fe_ki_k r) (fun H hR => fs_nr_o (by decide) (by decide)) ?_
  intro p e s m args below meth c Q C hnm
  have hw : s0.WarmedH s.vm := C.2.2.2.2.1
  refine fe_all C fk_hwr cX31_cause [3, 10, 22, 29, 40, 47] (by decide +kernel) (fe_fil (cps := [(3, 6, .invokevirtual 13711438), (10, 13, .getfield 994369851), (22, 25, .invokevirtual 13711438), (29, 32, .getfield 973398328), (40, 43, .invokevirtual 13711438), (47, 50, .getfield 998564155)]) (by decide +kernel) ?_)
  refine fs_c1 (fs_inv_virtual (pc := 3) (n := 13711438) C (Nat.le_of_ble_eq_true rfl) (Nat.le_of_ble_eq_true rfl) (fs_lk_virtual (idx := 40) (y := ⟨"BoardMachine$Signals$Serial", "has", "(II)Z"⟩) (bytes := prog_91_method_5_code) (maxL := 3) (rt := (Option.some Jvm.ClassFile.FieldType.boolean)) (d := 1) C (Nat.le_of_ble_eq_true rfl) (Nat.le_of_ble_eq_true rfl) (by decide +kernel) (kw K hw q3571) (kw K hw q342) (kw K hw q3570) (Or.inl (kw K hw q3568)) ⟨by decide, by decide⟩ rfl (Nat.le_of_ble_eq_true rfl) (Nat.le_of_ble_eq_true rfl) (fs_one (⟨_, rfl, kw K hw qs69⟩))) fs_con_mono o0) ?_
  refine fs_c1 (fs_getf (pc := 10) (n := 994369851) (idx := 37) (ref := "BoardMachine$Signals$Serial") (O := "BoardMachine$Signals$Serial") (name := "overrun") (desc := "Z") C (by decide +kernel) (Or.inl (kw K hw q945)) (fun _ h => h) (Nat.le_of_ble_eq_true rfl) (Nat.le_of_ble_eq_true rfl) (fs_one (⟨_, ff_78_237 s0 H0 oa D⟩))) ?_
  refine fs_c1 (fs_inv_virtual (pc := 22) (n := 13711438) C (Nat.le_of_ble_eq_true rfl) (Nat.le_of_ble_eq_true rfl) (fs_lk_virtual (idx := 40) (y := ⟨"BoardMachine$Signals$Serial", "has", "(II)Z"⟩) (bytes := prog_91_method_5_code) (maxL := 3) (rt := (Option.some Jvm.ClassFile.FieldType.boolean)) (d := 1) C (Nat.le_of_ble_eq_true rfl) (Nat.le_of_ble_eq_true rfl) (by decide +kernel) (kw K hw q3571) (kw K hw q342) (kw K hw q3570) (Or.inl (kw K hw q3568)) ⟨by decide, by decide⟩ rfl (Nat.le_of_ble_eq_true rfl) (Nat.le_of_ble_eq_true rfl) (fs_one (⟨_, rfl, kw K hw qs69⟩))) fs_con_mono o0) ?_
  refine fs_c1 (fs_getf (pc := 29) (n := 973398328) (idx := 26) (ref := "BoardMachine$Signals$Serial") (O := "BoardMachine$Signals$Serial") (name := "count") (desc := "I") C (by decide +kernel) (Or.inl (kw K hw q939)) (fun _ h => h) (Nat.le_of_ble_eq_true rfl) (Nat.le_of_ble_eq_true rfl) (fs_one (⟨_, ff_78_232 s0 H0 oa D⟩))) ?_
  refine fs_c1 (fs_inv_virtual (pc := 40) (n := 13711438) C (Nat.le_of_ble_eq_true rfl) (Nat.le_of_ble_eq_true rfl) (fs_lk_virtual (idx := 40) (y := ⟨"BoardMachine$Signals$Serial", "has", "(II)Z"⟩) (bytes := prog_91_method_5_code) (maxL := 3) (rt := (Option.some Jvm.ClassFile.FieldType.boolean)) (d := 1) C (Nat.le_of_ble_eq_true rfl) (Nat.le_of_ble_eq_true rfl) (by decide +kernel) (kw K hw q3571) (kw K hw q342) (kw K hw q3570) (Or.inl (kw K hw q3568)) ⟨by decide, by decide⟩ rfl (Nat.le_of_ble_eq_true rfl) (Nat.le_of_ble_eq_true rfl) (fs_one (⟨_, rfl, kw K hw qs69⟩))) fs_con_mono o0) ?_
  refine fs_c1 (fs_getf (pc := 47) (n := 998564155) (idx := 44) (ref := "BoardMachine$Signals$Serial") (O := "BoardMachine$Signals$Serial") (name := "emptied") (desc := "Z") C (by decide +kernel) (Or.inl (kw K hw q946)) (fun _ h => h) (Nat.le_of_ble_eq_true rfl) (Nat.le_of_ble_eq_true rfl) (fs_one (⟨_, ff_78_238 s0 H0 oa D⟩))) ?_
  exact fs_c0
theorem hX31_readCause : fe_H (sX31_readCause FX31_cause) cX31_readCause [0, 20, 40] fe_ki [] 28 (fun _ => dX31_readCause FX31_readCause_0 FX31_readCause_20 FX31_readCause_40) := by
  intro j pc L st M r hc h
  rcases fe_mem_c hc with rfl | hc
  · obtain ⟨w0, m0, h⟩ := fe_lR_d h
    obtain ⟨rfl, hz⟩ := fe_t0_d h
    exact ⟨[(0, .ref w0)], (fe_cs m0 fe_nl), Or.inr ((bX31_readCause_0 FX31_cause FX31_readCause_0 FX31_readCause_20 FX31_readCause_40 w0 M).symm.trans hz)⟩
  rcases fe_mem_c hc with rfl | hc
  · obtain ⟨w0, m0, h⟩ := fe_lR_d h
    obtain ⟨w1, m1, h⟩ := fe_lI_d h
    obtain ⟨s2, t2, rfl, g2⟩ := fe_tI_d h
    obtain ⟨s1, t1, rfl, g1⟩ := fe_tI_d g2
    obtain ⟨s0, t0, rfl, g0⟩ := fe_tR_d g1
    obtain ⟨rfl, hz⟩ := fe_t0_d g0
    exact ⟨[(0, .ref w0), (1, .int w1)], (fe_cs m0 (fe_cs m1 fe_nl)), Or.inr ((bX31_readCause_20 FX31_cause FX31_readCause_0 FX31_readCause_20 FX31_readCause_40 w0 w1 s0 s1 s2 M).symm.trans hz)⟩
  rcases fe_mem_c hc with rfl | hc
  · obtain ⟨s0, t0, rfl, g0⟩ := fe_tI_d h
    obtain ⟨rfl, hz⟩ := fe_t0_d g0
    exact ⟨[], fe_nl, Or.inr ((bX31_readCause_40 FX31_cause FX31_readCause_0 FX31_readCause_20 FX31_readCause_40 s0 M).symm.trans hz)⟩
  exact fe_mem_0 hc
theorem vX31_readCause : fe_SB (sX31_readCause FX31_cause) := by
  refine ⟨?_, ?_, ?_, ?_⟩
  · intro i As M r h
    exact fe_no h
  · intro i As M r h
    rcases fe_bc h with h | h
    · obtain ⟨v0, t0, rfl, g0⟩ := fe_tR_d h
      obtain ⟨rfl, hz⟩ := fe_t0_d g0
      exact mX31_cause v0 M r hz
    exact fe_no h
  · intro i As M r h
    exact fe_no h
  · intro i As M r h
    exact fe_no h
theorem eX31_readCause (g0 : Nat → FM → Option (Int32 × FM)) (g20 : Nat → Int32 → Nat → Int32 → Int32 → FM → Option (Int32 × FM)) (g40 : Int32 → FM → Option (Int32 × FM)) (a0 : Nat) (M : FM) : dX31_readCause g0 g20 g40 0 [(0, .ref a0)] [] M = g0 a0 M := by rfl
theorem mX31_readCause (a0 : Nat) (M : FM) (r : Int32 × FM) (h : FX31_readCause a0 M = some r) : fm_nx M ≤ fm_nx r.2 ∧ fm_ns M ≤ fm_ns r.2 :=
  fe_mono (L0 := [(0, .ref a0)]) (vX31_readCause) (by decide +kernel) (hX31_readCause) (fe_ki_k r) 0 rfl ((eX31_readCause FX31_readCause_0 FX31_readCause_20 FX31_readCause_40 a0 M).trans h)
theorem zX31_readCause {s0 : State} {H0 : Heap} {oa : Nat → Nat} {D : va_G} (K : fk s0 H0 oa D) (l : Launch) (a0 : Nat) (M : FM) (r : Int32 × FM) (h : FX31_readCause a0 M = some r) : fs_Con (fk_E s0 H0 oa D) l 3 ⟨"BoardMachine$Signals$Serial", "readCause", "()I"⟩ prog_91_method_7_code 2 (Option.some Jvm.ClassFile.FieldType.int) [.ref a0] M (some (.int r.1)) r.2 := by
  have o0 : fs_OS (sX31_readCause FX31_cause) 0 1 (fs_Con (fk_E s0 H0 oa D) l 2 ⟨"BoardMachine$Signals$Serial", "cause", "()I"⟩ prog_91_method_6_code 1 (Option.some Jvm.ClassFile.FieldType.int)) := by
    intro As M r h
    obtain ⟨v0, t0, rfl, g0⟩ := fe_tR_d h
    obtain ⟨rfl, hz⟩ := fe_t0_d g0
    exact zX31_cause K l v0 M r hz
  refine fs_method (own := "BoardMachine$Signals$Serial") rfl (by decide) K.2.1 (by rw [fe_slen]; exact (Nat.le_of_ble_eq_true rfl)) (mX31_readCause a0 M r h) (hX31_readCause) 0 rfl (L0 := [(0, .ref a0)]) (fun E => fe_args_e E [.ref a0] 0) ((eX31_readCause FX31_readCause_0 FX31_readCause_20 FX31_readCause_40 a0 M).trans h) (fe_ki_k r) (fun H hR => fs_nr_o (by decide) (by decide)) ?_
  intro p e s m args below meth c Q C hnm
  have hw : s0.WarmedH s.vm := C.2.2.2.2.1
  refine fe_all C fk_hwr cX31_readCause [1, 7, 21, 25] (by decide +kernel) (fe_fil (cps := [(1, 4, .invokevirtual 5322830), (7, 10, .getfield 998564155), (21, 24, .putfield 998564155), (25, 28, .getfield 990175547)]) (by decide +kernel) ?_)
  refine fs_c1 (fs_inv_virtual (pc := 1) (n := 5322830) C (Nat.le_of_ble_eq_true rfl) (Nat.le_of_ble_eq_true rfl) (fs_lk_virtual (idx := 47) (y := ⟨"BoardMachine$Signals$Serial", "cause", "()I"⟩) (bytes := prog_91_method_6_code) (maxL := 1) (rt := (Option.some Jvm.ClassFile.FieldType.int)) (d := 2) C (Nat.le_of_ble_eq_true rfl) (Nat.le_of_ble_eq_true rfl) (by decide +kernel) (kw K hw q3583) (kw K hw q342) (kw K hw q3581) (Or.inl (kw K hw q3580)) ⟨by decide, by decide⟩ rfl (Nat.le_of_ble_eq_true rfl) (Nat.le_of_ble_eq_true rfl) (fs_one (⟨_, rfl, kw K hw q3582⟩))) fs_con_mono o0) ?_
  refine fs_c1 (fs_getf (pc := 7) (n := 998564155) (idx := 44) (ref := "BoardMachine$Signals$Serial") (O := "BoardMachine$Signals$Serial") (name := "emptied") (desc := "Z") C (by decide +kernel) (Or.inl (kw K hw q946)) (fun _ h => h) (Nat.le_of_ble_eq_true rfl) (Nat.le_of_ble_eq_true rfl) (fs_one (⟨_, ff_78_238 s0 H0 oa D⟩))) ?_
  refine fs_c1 (fs_putf (pc := 21) (n := 998564155) (idx := 44) (ref := "BoardMachine$Signals$Serial") (O := "BoardMachine$Signals$Serial") (name := "emptied") (desc := "Z") (fin := false) (ty := .boolean) C (by decide +kernel) (Or.inl ⟨rfl, Or.inl (kw K hw q946)⟩) (fun _ h => h) (Nat.le_of_ble_eq_true rfl) (Nat.le_of_ble_eq_true rfl) (Nat.le_of_ble_eq_true rfl) rfl rfl (by decide) (fs_one (⟨rfl, ff_78_238 s0 H0 oa D⟩))) ?_
  refine fs_c1 (fs_getf (pc := 25) (n := 990175547) (idx := 22) (ref := "BoardMachine$Signals$Serial") (O := "BoardMachine$Signals$Serial") (name := "queued") (desc := "Z") C (by decide +kernel) (Or.inl (kw K hw q944)) (fun _ h => h) (Nat.le_of_ble_eq_true rfl) (Nat.le_of_ble_eq_true rfl) (fs_one (⟨_, ff_78_236 s0 H0 oa D⟩))) ?_
  exact fs_c0
theorem hX31_readStatus : fe_H (sX31_readStatus) cX31_readStatus [0, 14, 27] fe_ki [] 26 (fun _ => dX31_readStatus FX31_readStatus_0 FX31_readStatus_14 FX31_readStatus_27) := by
  intro j pc L st M r hc h
  rcases fe_mem_c hc with rfl | hc
  · obtain ⟨w0, m0, h⟩ := fe_lR_d h
    obtain ⟨rfl, hz⟩ := fe_t0_d h
    exact ⟨[(0, .ref w0)], (fe_cs m0 fe_nl), Or.inr ((bX31_readStatus_0 FX31_readStatus_0 FX31_readStatus_14 FX31_readStatus_27 w0 M).symm.trans hz)⟩
  rcases fe_mem_c hc with rfl | hc
  · obtain ⟨w0, m0, h⟩ := fe_lR_d h
    obtain ⟨s1, t1, rfl, g1⟩ := fe_tI_d h
    obtain ⟨s0, t0, rfl, g0⟩ := fe_tI_d g1
    obtain ⟨rfl, hz⟩ := fe_t0_d g0
    exact ⟨[(0, .ref w0)], (fe_cs m0 fe_nl), Or.inr ((bX31_readStatus_14 FX31_readStatus_0 FX31_readStatus_14 FX31_readStatus_27 w0 s0 s1 M).symm.trans hz)⟩
  rcases fe_mem_c hc with rfl | hc
  · obtain ⟨w0, m0, h⟩ := fe_lR_d h
    obtain ⟨s1, t1, rfl, g1⟩ := fe_tI_d h
    obtain ⟨s0, t0, rfl, g0⟩ := fe_tI_d g1
    obtain ⟨rfl, hz⟩ := fe_t0_d g0
    exact ⟨[(0, .ref w0)], (fe_cs m0 fe_nl), Or.inr ((bX31_readStatus_27 FX31_readStatus_0 FX31_readStatus_14 FX31_readStatus_27 w0 s0 s1 M).symm.trans hz)⟩
  exact fe_mem_0 hc
theorem vX31_readStatus : fe_SB (sX31_readStatus) := by
  refine ⟨?_, ?_, ?_, ?_⟩
  · intro i As M r h
    exact fe_no h
  · intro i As M r h
    exact fe_no h
  · intro i As M r h
    exact fe_no h
  · intro i As M r h
    exact fe_no h
theorem eX31_readStatus (g0 : Nat → FM → Option (Int32 × FM)) (g14 : Nat → Int32 → Int32 → FM → Option (Int32 × FM)) (g27 : Nat → Int32 → Int32 → FM → Option (Int32 × FM)) (a0 : Nat) (M : FM) : dX31_readStatus g0 g14 g27 0 [(0, .ref a0)] [] M = g0 a0 M := by rfl
theorem mX31_readStatus (a0 : Nat) (M : FM) (r : Int32 × FM) (h : FX31_readStatus a0 M = some r) : fm_nx M ≤ fm_nx r.2 ∧ fm_ns M ≤ fm_ns r.2 :=
  fe_mono (L0 := [(0, .ref a0)]) (vX31_readStatus) (by decide +kernel) (hX31_readStatus) (fe_ki_k r) 0 rfl ((eX31_readStatus FX31_readStatus_0 FX31_readStatus_14 FX31_readStatus_27 a0 M).trans h)
theorem zX31_readStatus {s0 : State} {H0 : Heap} {oa : Nat → Nat} {D : va_G} (K : fk s0 H0 oa D) (l : Launch) (a0 : Nat) (M : FM) (r : Int32 × FM) (h : FX31_readStatus a0 M = some r) : fs_Con (fk_E s0 H0 oa D) l 1 ⟨"BoardMachine$Signals$Serial", "readStatus", "()I"⟩ prog_91_method_8_code 2 (Option.some Jvm.ClassFile.FieldType.int) [.ref a0] M (some (.int r.1)) r.2 := by
  refine fs_method (own := "BoardMachine$Signals$Serial") rfl (by decide) K.2.1 (by rw [fe_slen]; exact (Nat.le_of_ble_eq_true rfl)) (mX31_readStatus a0 M r h) (hX31_readStatus) 0 rfl (L0 := [(0, .ref a0)]) (fun E => fe_args_e E [.ref a0] 0) ((eX31_readStatus FX31_readStatus_0 FX31_readStatus_14 FX31_readStatus_27 a0 M).trans h) (fe_ki_k r) (fun H hR => fs_nr_o (by decide) (by decide)) ?_
  intro p e s m args below meth c Q C hnm
  have hw : s0.WarmedH s.vm := C.2.2.2.2.1
  refine fe_all C fk_hwr cX31_readStatus [3, 16, 31] (by decide +kernel) (fe_fil (cps := [(3, 6, .getfield 973398328), (16, 19, .getfield 994369851), (31, 34, .putfield 994369851)]) (by decide +kernel) ?_)
  refine fs_c1 (fs_getf (pc := 3) (n := 973398328) (idx := 26) (ref := "BoardMachine$Signals$Serial") (O := "BoardMachine$Signals$Serial") (name := "count") (desc := "I") C (by decide +kernel) (Or.inl (kw K hw q939)) (fun _ h => h) (Nat.le_of_ble_eq_true rfl) (Nat.le_of_ble_eq_true rfl) (fs_one (⟨_, ff_78_232 s0 H0 oa D⟩))) ?_
  refine fs_c1 (fs_getf (pc := 16) (n := 994369851) (idx := 37) (ref := "BoardMachine$Signals$Serial") (O := "BoardMachine$Signals$Serial") (name := "overrun") (desc := "Z") C (by decide +kernel) (Or.inl (kw K hw q945)) (fun _ h => h) (Nat.le_of_ble_eq_true rfl) (Nat.le_of_ble_eq_true rfl) (fs_one (⟨_, ff_78_237 s0 H0 oa D⟩))) ?_
  refine fs_c1 (fs_putf (pc := 31) (n := 994369851) (idx := 37) (ref := "BoardMachine$Signals$Serial") (O := "BoardMachine$Signals$Serial") (name := "overrun") (desc := "Z") (fin := false) (ty := .boolean) C (by decide +kernel) (Or.inl ⟨rfl, Or.inl (kw K hw q945)⟩) (fun _ h => h) (Nat.le_of_ble_eq_true rfl) (Nat.le_of_ble_eq_true rfl) (Nat.le_of_ble_eq_true rfl) rfl rfl (by decide) (fs_one (⟨rfl, ff_78_237 s0 H0 oa D⟩))) ?_
  exact fs_c0
theorem hX31_modem : fe_H (sX31_modem FX31_has) cX31_modem [0, 46] fe_ki [] 41 (fun _ => dX31_modem FX31_modem_0 FX31_modem_46) := by
  intro j pc L st M r hc h
  rcases fe_mem_c hc with rfl | hc
  · obtain ⟨w0, m0, h⟩ := fe_lR_d h
    obtain ⟨rfl, hz⟩ := fe_t0_d h
    exact ⟨[(0, .ref w0)], (fe_cs m0 fe_nl), Or.inr ((bX31_modem_0 FX31_has FX31_modem_0 FX31_modem_46 w0 M).symm.trans hz)⟩
  rcases fe_mem_c hc with rfl | hc
  · obtain ⟨s0, t0, rfl, g0⟩ := fe_tI_d h
    obtain ⟨rfl, hz⟩ := fe_t0_d g0
    exact ⟨[], fe_nl, Or.inr ((bX31_modem_46 FX31_has FX31_modem_0 FX31_modem_46 s0 M).symm.trans hz)⟩
  exact fe_mem_0 hc
theorem vX31_modem : fe_SB (sX31_modem FX31_has) := by
  refine ⟨?_, ?_, ?_, ?_⟩
  · intro i As M r h
    exact fe_no h
  · intro i As M r h
    rcases fe_bc h with h | h
    · obtain ⟨v0, t0, rfl, g0⟩ := fe_tR_d h
      obtain ⟨v1, t1, rfl, g1⟩ := fe_tI_d g0
      obtain ⟨v2, t2, rfl, g2⟩ := fe_tI_d g1
      obtain ⟨rfl, hz⟩ := fe_t0_d g2
      exact mX31_has v0 v1 v2 M r hz
    exact fe_no h
  · intro i As M r h
    exact fe_no h
  · intro i As M r h
    exact fe_no h
theorem eX31_modem (g0 : Nat → FM → Option (Int32 × FM)) (g46 : Int32 → FM → Option (Int32 × FM)) (a0 : Nat) (M : FM) : dX31_modem g0 g46 0 [(0, .ref a0)] [] M = g0 a0 M := by rfl
theorem mX31_modem (a0 : Nat) (M : FM) (r : Int32 × FM) (h : FX31_modem a0 M = some r) : fm_nx M ≤ fm_nx r.2 ∧ fm_ns M ≤ fm_ns r.2 :=
  fe_mono (L0 := [(0, .ref a0)]) (vX31_modem) (by decide +kernel) (hX31_modem) (fe_ki_k r) 0 rfl ((eX31_modem FX31_modem_0 FX31_modem_46 a0 M).trans h)
theorem zX31_modem {s0 : State} {H0 : Heap} {oa : Nat → Nat} {D : va_G} (K : fk s0 H0 oa D) (l : Launch) (a0 : Nat) (M : FM) (r : Int32 × FM) (h : FX31_modem a0 M = some r) : fs_Con (fk_E s0 H0 oa D) l 2 ⟨"BoardMachine$Signals$Serial", "modem", "()I"⟩ prog_91_method_9_code 2 (Option.some Jvm.ClassFile.FieldType.int) [.ref a0] M (some (.int r.1)) r.2 := by
  have o0 : fs_OS (sX31_modem FX31_has) 0 1 (fs_Con (fk_E s0 H0 oa D) l 1 ⟨"BoardMachine$Signals$Serial", "has", "(II)Z"⟩ prog_91_method_5_code 3 (Option.some Jvm.ClassFile.FieldType.boolean)) := by
    intro As M r h
    obtain ⟨v0, t0, rfl, g0⟩ := fe_tR_d h
    obtain ⟨v1, t1, rfl, g1⟩ := fe_tI_d g0
    obtain ⟨v2, t2, rfl, g2⟩ := fe_tI_d g1
    obtain ⟨rfl, hz⟩ := fe_t0_d g2
    exact zX31_has K l v0 v1 v2 M r hz
  refine fs_method (own := "BoardMachine$Signals$Serial") rfl (by decide) K.2.1 (by rw [fe_slen]; exact (Nat.le_of_ble_eq_true rfl)) (mX31_modem a0 M r h) (hX31_modem) 0 rfl (L0 := [(0, .ref a0)]) (fun E => fe_args_e E [.ref a0] 0) ((eX31_modem FX31_modem_0 FX31_modem_46 a0 M).trans h) (fe_ki_k r) (fun H hR => fs_nr_o (by decide) (by decide)) ?_
  intro p e s m args below meth c Q C hnm
  have hw : s0.WarmedH s.vm := C.2.2.2.2.1
  refine fe_all C fk_hwr cX31_modem [1, 10] (by decide +kernel) (fe_fil (cps := [(1, 4, .getfield 985981242), (10, 13, .invokevirtual 13711438)]) (by decide +kernel) ?_)
  refine fs_c1 (fs_getf (pc := 1) (n := 985981242) (idx := 19) (ref := "BoardMachine$Signals$Serial") (O := "BoardMachine$Signals$Serial") (name := "held") (desc := "[I") C (by decide +kernel) (Or.inl (kw K hw q943)) (fun _ h => h) (Nat.le_of_ble_eq_true rfl) (Nat.le_of_ble_eq_true rfl) (fs_one (⟨_, ff_78_235 s0 H0 oa D⟩))) ?_
  refine fs_c1 (fs_inv_virtual (pc := 10) (n := 13711438) C (Nat.le_of_ble_eq_true rfl) (Nat.le_of_ble_eq_true rfl) (fs_lk_virtual (idx := 40) (y := ⟨"BoardMachine$Signals$Serial", "has", "(II)Z"⟩) (bytes := prog_91_method_5_code) (maxL := 3) (rt := (Option.some Jvm.ClassFile.FieldType.boolean)) (d := 1) C (Nat.le_of_ble_eq_true rfl) (Nat.le_of_ble_eq_true rfl) (by decide +kernel) (kw K hw q3571) (kw K hw q342) (kw K hw q3570) (Or.inl (kw K hw q3568)) ⟨by decide, by decide⟩ rfl (Nat.le_of_ble_eq_true rfl) (Nat.le_of_ble_eq_true rfl) (fs_one (⟨_, rfl, kw K hw qs69⟩))) fs_con_mono o0) ?_
  exact fs_c0
theorem hX31_read : fe_H (sX31_read FX31_has FX31_take FX31_readCause FX31_readStatus FX31_modem) cX31_read [0, 13, 47, 116] fe_kl [] 57 (fun _ => dX31_read FX31_read_0 FX31_read_13 FX31_read_47 FX31_read_116) := by
  intro j pc L st M r hc h
  rcases fe_mem_c hc with rfl | hc
  · obtain ⟨w0, m0, h⟩ := fe_lR_d h
    obtain ⟨w1, m1, h⟩ := fe_lL_d h
    obtain ⟨w3, m3, h⟩ := fe_lI_d h
    obtain ⟨rfl, hz⟩ := fe_t0_d h
    exact ⟨[(0, .ref w0), (1, .long w1), (3, .int w3)], (fe_cs m0 (fe_cs m1 (fe_cs m3 fe_nl))), Or.inr ((bX31_read_0 FX31_has FX31_take FX31_readCause FX31_readStatus FX31_modem FX31_read_0 FX31_read_13 FX31_read_47 FX31_read_116 w0 w1 w3 M).symm.trans hz)⟩
  rcases fe_mem_c hc with rfl | hc
  · obtain ⟨rfl, hz⟩ := fe_t0_d h
    exact ⟨[], fe_nl, Or.inr ((bX31_read_13 FX31_has FX31_take FX31_readCause FX31_readStatus FX31_modem FX31_read_0 FX31_read_13 FX31_read_47 FX31_read_116 M).symm.trans hz)⟩
  rcases fe_mem_c hc with rfl | hc
  · obtain ⟨w0, m0, h⟩ := fe_lR_d h
    obtain ⟨w4, m4, h⟩ := fe_lI_d h
    obtain ⟨rfl, hz⟩ := fe_t0_d h
    exact ⟨[(0, .ref w0), (4, .int w4)], (fe_cs m0 (fe_cs m4 fe_nl)), Or.inr ((bX31_read_47 FX31_has FX31_take FX31_readCause FX31_readStatus FX31_modem FX31_read_0 FX31_read_13 FX31_read_47 FX31_read_116 w0 w4 M).symm.trans hz)⟩
  rcases fe_mem_c hc with rfl | hc
  · obtain ⟨w0, m0, h⟩ := fe_lR_d h
    obtain ⟨w4, m4, h⟩ := fe_lI_d h
    obtain ⟨rfl, hz⟩ := fe_t0_d h
    exact ⟨[(0, .ref w0), (4, .int w4)], (fe_cs m0 (fe_cs m4 fe_nl)), Or.inr ((bX31_read_116 FX31_has FX31_take FX31_readCause FX31_readStatus FX31_modem FX31_read_0 FX31_read_13 FX31_read_47 FX31_read_116 w0 w4 M).symm.trans hz)⟩
  exact fe_mem_0 hc
theorem vX31_read : fe_SB (sX31_read FX31_has FX31_take FX31_readCause FX31_readStatus FX31_modem) := by
  refine ⟨?_, ?_, ?_, ?_⟩
  · intro i As M r h
    exact fe_no h
  · intro i As M r h
    rcases fe_bc h with h | h
    · obtain ⟨v0, t0, rfl, g0⟩ := fe_tR_d h
      obtain ⟨v1, t1, rfl, g1⟩ := fe_tI_d g0
      obtain ⟨v2, t2, rfl, g2⟩ := fe_tI_d g1
      obtain ⟨rfl, hz⟩ := fe_t0_d g2
      exact mX31_has v0 v1 v2 M r hz
    rcases fe_bc h with h | h
    · obtain ⟨v0, t0, rfl, g0⟩ := fe_tR_d h
      obtain ⟨rfl, hz⟩ := fe_t0_d g0
      exact mX31_take v0 M r hz
    rcases fe_bc h with h | h
    · obtain ⟨v0, t0, rfl, g0⟩ := fe_tR_d h
      obtain ⟨rfl, hz⟩ := fe_t0_d g0
      exact mX31_readCause v0 M r hz
    rcases fe_bc h with h | h
    · obtain ⟨v0, t0, rfl, g0⟩ := fe_tR_d h
      obtain ⟨rfl, hz⟩ := fe_t0_d g0
      exact mX31_readStatus v0 M r hz
    rcases fe_bc h with h | h
    · obtain ⟨v0, t0, rfl, g0⟩ := fe_tR_d h
      obtain ⟨rfl, hz⟩ := fe_t0_d g0
      exact mX31_modem v0 M r hz
    exact fe_no h
  · intro i As M r h
    exact fe_no h
  · intro i As M r h
    exact fe_no h
theorem eX31_read (g0 : Nat → Int64 → Int32 → FM → Option (Int64 × FM)) (g13 : FM → Option (Int64 × FM)) (g47 : Nat → Int32 → FM → Option (Int64 × FM)) (g116 : Nat → Int32 → FM → Option (Int64 × FM)) (a0 : Nat) (a1 : Int64) (a3 : Int32) (M : FM) : dX31_read g0 g13 g47 g116 0 [(0, .ref a0), (1, .long a1), (3, .int a3)] [] M = g0 a0 a1 a3 M := by rfl
theorem mX31_read (a0 : Nat) (a1 : Int64) (a3 : Int32) (M : FM) (r : Int64 × FM) (h : FX31_read a0 a1 a3 M = some r) : fm_nx M ≤ fm_nx r.2 ∧ fm_ns M ≤ fm_ns r.2 :=
  fe_mono (L0 := [(0, .ref a0), (1, .long a1), (3, .int a3)]) (vX31_read) (by decide +kernel) (hX31_read) (fe_kl_k r) 0 rfl ((eX31_read FX31_read_0 FX31_read_13 FX31_read_47 FX31_read_116 a0 a1 a3 M).trans h)
theorem zX31_read {s0 : State} {H0 : Heap} {oa : Nat → Nat} {D : va_G} (K : fk s0 H0 oa D) (l : Launch) (a0 : Nat) (a1 : Int64) (a3 : Int32) (M : FM) (r : Int64 × FM) (h : FX31_read a0 a1 a3 M = some r) : fs_Con (fk_E s0 H0 oa D) l 4 ⟨"BoardMachine$Signals$Serial", "read", "(JI)J"⟩ prog_91_method_10_code 5 (Option.some Jvm.ClassFile.FieldType.long) [.ref a0, .long a1, .int a3] M (some (.long r.1)) r.2 := by
  have o0 : fs_OS (sX31_read FX31_has FX31_take FX31_readCause FX31_readStatus FX31_modem) 0 1 (fs_Con (fk_E s0 H0 oa D) l 1 ⟨"BoardMachine$Signals$Serial", "has", "(II)Z"⟩ prog_91_method_5_code 3 (Option.some Jvm.ClassFile.FieldType.boolean)) := by
    intro As M r h
    obtain ⟨v0, t0, rfl, g0⟩ := fe_tR_d h
    obtain ⟨v1, t1, rfl, g1⟩ := fe_tI_d g0
    obtain ⟨v2, t2, rfl, g2⟩ := fe_tI_d g1
    obtain ⟨rfl, hz⟩ := fe_t0_d g2
    exact zX31_has K l v0 v1 v2 M r hz
  have o1 : fs_OS (sX31_read FX31_has FX31_take FX31_readCause FX31_readStatus FX31_modem) 1 1 (fs_Con (fk_E s0 H0 oa D) l 1 ⟨"BoardMachine$Signals$Serial", "take", "()I"⟩ prog_91_method_4_code 2 (Option.some Jvm.ClassFile.FieldType.int)) := by
    intro As M r h
    obtain ⟨v0, t0, rfl, g0⟩ := fe_tR_d h
    obtain ⟨rfl, hz⟩ := fe_t0_d g0
    exact zX31_take K l v0 M r hz
  have o2 : fs_OS (sX31_read FX31_has FX31_take FX31_readCause FX31_readStatus FX31_modem) 2 1 (fs_Con (fk_E s0 H0 oa D) l 3 ⟨"BoardMachine$Signals$Serial", "readCause", "()I"⟩ prog_91_method_7_code 2 (Option.some Jvm.ClassFile.FieldType.int)) := by
    intro As M r h
    obtain ⟨v0, t0, rfl, g0⟩ := fe_tR_d h
    obtain ⟨rfl, hz⟩ := fe_t0_d g0
    exact zX31_readCause K l v0 M r hz
  have o3 : fs_OS (sX31_read FX31_has FX31_take FX31_readCause FX31_readStatus FX31_modem) 3 1 (fs_Con (fk_E s0 H0 oa D) l 1 ⟨"BoardMachine$Signals$Serial", "readStatus", "()I"⟩ prog_91_method_8_code 2 (Option.some Jvm.ClassFile.FieldType.int)) := by
    intro As M r h
    obtain ⟨v0, t0, rfl, g0⟩ := fe_tR_d h
    obtain ⟨rfl, hz⟩ := fe_t0_d g0
    exact zX31_readStatus K l v0 M r hz
  have o4 : fs_OS (sX31_read FX31_has FX31_take FX31_readCause FX31_readStatus FX31_modem) 4 1 (fs_Con (fk_E s0 H0 oa D) l 2 ⟨"BoardMachine$Signals$Serial", "modem", "()I"⟩ prog_91_method_9_code 2 (Option.some Jvm.ClassFile.FieldType.int)) := by
    intro As M r h
    obtain ⟨v0, t0, rfl, g0⟩ := fe_tR_d h
    obtain ⟨rfl, hz⟩ := fe_t0_d g0
    exact zX31_modem K l v0 M r hz
  refine fs_method (own := "BoardMachine$Signals$Serial") rfl (by decide) K.2.1 (by rw [fe_slen]; exact (Nat.le_of_ble_eq_true rfl)) (mX31_read a0 a1 a3 M r h) (hX31_read) 0 rfl (L0 := [(0, .ref a0), (1, .long a1), (3, .int a3)]) (fun E => fe_args_e E [.ref a0, .long a1, .int a3] 0) ((eX31_read FX31_read_0 FX31_read_13 FX31_read_47 FX31_read_116 a0 a1 a3 M).trans h) (fe_kl_k r) (fun H hR => fs_nr_o (by decide) (by decide)) ?_
  intro p e s m args below meth c Q C hnm
  have hw : s0.WarmedH s.vm := C.2.2.2.2.1
  refine fe_all C fk_hwr cX31_read [6, 29, 36, 49, 93, 99, 105, 111, 117] (by decide +kernel) (fe_fil (cps := [(6, 9, .jsr_w (7)), (29, 32, .invokevirtual 13711438), (36, 39, .getfield 985981242), (49, 92, .lookupswitch (67) #[(0, 43), (1, 67), (2, 49), (3, 67), (4, 67), (5, 55), (6, 61)]), (93, 96, .invokevirtual 72431694), (99, 102, .invokevirtual 139540558), (105, 108, .invokevirtual 206649422), (111, 114, .invokevirtual 273758286), (117, 120, .getfield 985981242)]) (by decide +kernel) ?_)
  refine fs_c1 (fs_ldcl (pc := 6) (idx := 50) (v := 7) C (by decide +kernel) (kw K hw q3567)) ?_
  refine fs_c1 (fs_inv_virtual (pc := 29) (n := 13711438) C (Nat.le_of_ble_eq_true rfl) (Nat.le_of_ble_eq_true rfl) (fs_lk_virtual (idx := 40) (y := ⟨"BoardMachine$Signals$Serial", "has", "(II)Z"⟩) (bytes := prog_91_method_5_code) (maxL := 3) (rt := (Option.some Jvm.ClassFile.FieldType.boolean)) (d := 1) C (Nat.le_of_ble_eq_true rfl) (Nat.le_of_ble_eq_true rfl) (by decide +kernel) (kw K hw q3571) (kw K hw q342) (kw K hw q3570) (Or.inl (kw K hw q3568)) ⟨by decide, by decide⟩ rfl (Nat.le_of_ble_eq_true rfl) (Nat.le_of_ble_eq_true rfl) (fs_one (⟨_, rfl, kw K hw qs69⟩))) fs_con_mono o0) ?_
  refine fs_c1 (fs_getf (pc := 36) (n := 985981242) (idx := 19) (ref := "BoardMachine$Signals$Serial") (O := "BoardMachine$Signals$Serial") (name := "held") (desc := "[I") C (by decide +kernel) (Or.inl (kw K hw q943)) (fun _ h => h) (Nat.le_of_ble_eq_true rfl) (Nat.le_of_ble_eq_true rfl) (fs_one (⟨_, ff_78_235 s0 H0 oa D⟩))) ?_
  refine fs_c1 (fs_tswl (pc := 49) (nx := 92) (d := 67) (lo := 0) (hi := 6) (offs := #[43, 67, 49, 67, 67, 55, 61]) C (by decide +kernel) (by decide +kernel)) ?_
  refine fs_c1 (fs_inv_virtual (pc := 93) (n := 72431694) C (Nat.le_of_ble_eq_true rfl) (Nat.le_of_ble_eq_true rfl) (fs_lk_virtual (idx := 52) (y := ⟨"BoardMachine$Signals$Serial", "take", "()I"⟩) (bytes := prog_91_method_4_code) (maxL := 2) (rt := (Option.some Jvm.ClassFile.FieldType.int)) (d := 1) C (Nat.le_of_ble_eq_true rfl) (Nat.le_of_ble_eq_true rfl) (by decide +kernel) (kw K hw q3575) (kw K hw q342) (kw K hw q3574) (Or.inl (kw K hw q3572)) ⟨by decide, by decide⟩ rfl (Nat.le_of_ble_eq_true rfl) (Nat.le_of_ble_eq_true rfl) (fs_one (⟨_, rfl, kw K hw qs70⟩))) fs_con_mono o1) ?_
  refine fs_c1 (fs_inv_virtual (pc := 99) (n := 139540558) C (Nat.le_of_ble_eq_true rfl) (Nat.le_of_ble_eq_true rfl) (fs_lk_virtual (idx := 55) (y := ⟨"BoardMachine$Signals$Serial", "readCause", "()I"⟩) (bytes := prog_91_method_7_code) (maxL := 2) (rt := (Option.some Jvm.ClassFile.FieldType.int)) (d := 3) C (Nat.le_of_ble_eq_true rfl) (Nat.le_of_ble_eq_true rfl) (by decide +kernel) (kw K hw q3579) (kw K hw q342) (kw K hw q3578) (Or.inl (kw K hw q3576)) ⟨by decide, by decide⟩ rfl (Nat.le_of_ble_eq_true rfl) (Nat.le_of_ble_eq_true rfl) (fs_one (⟨_, rfl, kw K hw qs71⟩))) fs_con_mono o2) ?_
  refine fs_c1 (fs_inv_virtual (pc := 105) (n := 206649422) C (Nat.le_of_ble_eq_true rfl) (Nat.le_of_ble_eq_true rfl) (fs_lk_virtual (idx := 58) (y := ⟨"BoardMachine$Signals$Serial", "readStatus", "()I"⟩) (bytes := prog_91_method_8_code) (maxL := 2) (rt := (Option.some Jvm.ClassFile.FieldType.int)) (d := 1) C (Nat.le_of_ble_eq_true rfl) (Nat.le_of_ble_eq_true rfl) (by decide +kernel) (kw K hw q3587) (kw K hw q342) (kw K hw q3586) (Or.inl (kw K hw q3584)) ⟨by decide, by decide⟩ rfl (Nat.le_of_ble_eq_true rfl) (Nat.le_of_ble_eq_true rfl) (fs_one (⟨_, rfl, kw K hw qs72⟩))) fs_con_mono o3) ?_
  refine fs_c1 (fs_inv_virtual (pc := 111) (n := 273758286) C (Nat.le_of_ble_eq_true rfl) (Nat.le_of_ble_eq_true rfl) (fs_lk_virtual (idx := 61) (y := ⟨"BoardMachine$Signals$Serial", "modem", "()I"⟩) (bytes := prog_91_method_9_code) (maxL := 2) (rt := (Option.some Jvm.ClassFile.FieldType.int)) (d := 2) C (Nat.le_of_ble_eq_true rfl) (Nat.le_of_ble_eq_true rfl) (by decide +kernel) (kw K hw q3591) (kw K hw q342) (kw K hw q3590) (Or.inl (kw K hw q3588)) ⟨by decide, by decide⟩ rfl (Nat.le_of_ble_eq_true rfl) (Nat.le_of_ble_eq_true rfl) (fs_one (⟨_, rfl, kw K hw qs73⟩))) fs_con_mono o4) ?_
  refine fs_c1 (fs_getf (pc := 117) (n := 985981242) (idx := 19) (ref := "BoardMachine$Signals$Serial") (O := "BoardMachine$Signals$Serial") (name := "held") (desc := "[I") C (by decide +kernel) (Or.inl (kw K hw q943)) (fun _ h => h) (Nat.le_of_ble_eq_true rfl) (Nat.le_of_ble_eq_true rfl) (fs_one (⟨_, ff_78_235 s0 H0 oa D⟩))) ?_
  exact fs_c0
theorem hX32_find : fe_H (sX32_find) cX32_find [0, 18, 47, 48] fe_ki [] 36 (fun _ => dX32_find FX32_find_0 FX32_find_18 FX32_find_47 FX32_find_48) := by
  intro j pc L st M r hc h
  rcases fe_mem_c hc with rfl | hc
  · obtain ⟨w0, m0, h⟩ := fe_lR_d h
    obtain ⟨w1, m1, h⟩ := fe_lL_d h
    obtain ⟨rfl, hz⟩ := fe_t0_d h
    exact ⟨[(0, .ref w0), (1, .long w1)], (fe_cs m0 (fe_cs m1 fe_nl)), Or.inr ((bX32_find_0 FX32_find_0 FX32_find_18 FX32_find_47 FX32_find_48 w0 w1 M).symm.trans hz)⟩
  rcases fe_mem_c hc with rfl | hc
  · obtain ⟨w0, m0, h⟩ := fe_lR_d h
    obtain ⟨w1, m1, h⟩ := fe_lL_d h
    obtain ⟨rfl, hz⟩ := fe_t0_d h
    exact ⟨[(0, .ref w0), (1, .long w1)], (fe_cs m0 (fe_cs m1 fe_nl)), Or.inr ((bX32_find_18 FX32_find_0 FX32_find_18 FX32_find_47 FX32_find_48 w0 w1 M).symm.trans hz)⟩
  rcases fe_mem_c hc with rfl | hc
  · obtain ⟨rfl, hz⟩ := fe_t0_d h
    exact ⟨[], fe_nl, Or.inr ((bX32_find_47 FX32_find_0 FX32_find_18 FX32_find_47 FX32_find_48 M).symm.trans hz)⟩
  rcases fe_mem_c hc with rfl | hc
  · obtain ⟨s0, t0, rfl, g0⟩ := fe_tI_d h
    obtain ⟨rfl, hz⟩ := fe_t0_d g0
    exact ⟨[], fe_nl, Or.inr ((bX32_find_48 FX32_find_0 FX32_find_18 FX32_find_47 FX32_find_48 s0 M).symm.trans hz)⟩
  exact fe_mem_0 hc
theorem vX32_find : fe_SB (sX32_find) := by
  refine ⟨?_, ?_, ?_, ?_⟩
  · intro i As M r h
    exact fe_no h
  · intro i As M r h
    exact fe_no h
  · intro i As M r h
    exact fe_no h
  · intro i As M r h
    exact fe_no h
theorem eX32_find (g0 : Nat → Int64 → FM → Option (Int32 × FM)) (g18 : Nat → Int64 → FM → Option (Int32 × FM)) (g47 : FM → Option (Int32 × FM)) (g48 : Int32 → FM → Option (Int32 × FM)) (a0 : Nat) (a1 : Int64) (M : FM) : dX32_find g0 g18 g47 g48 0 [(0, .ref a0), (1, .long a1)] [] M = g0 a0 a1 M := by rfl
theorem mX32_find (a0 : Nat) (a1 : Int64) (M : FM) (r : Int32 × FM) (h : FX32_find a0 a1 M = some r) : fm_nx M ≤ fm_nx r.2 ∧ fm_ns M ≤ fm_ns r.2 :=
  fe_mono (L0 := [(0, .ref a0), (1, .long a1)]) (vX32_find) (by decide +kernel) (hX32_find) (fe_ki_k r) 0 rfl ((eX32_find FX32_find_0 FX32_find_18 FX32_find_47 FX32_find_48 a0 a1 M).trans h)
theorem zX32_find {s0 : State} {H0 : Heap} {oa : Nat → Nat} {D : va_G} (K : fk s0 H0 oa D) (l : Launch) (a0 : Nat) (a1 : Int64) (M : FM) (r : Int32 × FM) (h : FX32_find a0 a1 M = some r) : fs_Con (fk_E s0 H0 oa D) l 1 ⟨"BoardMachine$Signals$Timer", "find", "(J)I"⟩ prog_93_method_2_code 5 (Option.some Jvm.ClassFile.FieldType.int) [.ref a0, .long a1] M (some (.int r.1)) r.2 := by
  refine fs_method (own := "BoardMachine$Signals$Timer") rfl (by decide) K.2.1 (by rw [fe_slen]; exact (Nat.le_of_ble_eq_true rfl)) (mX32_find a0 a1 M r h) (hX32_find) 0 rfl (L0 := [(0, .ref a0), (1, .long a1)]) (fun E => fe_args_e E [.ref a0, .long a1] 0) ((eX32_find FX32_find_0 FX32_find_18 FX32_find_47 FX32_find_48 a0 a1 M).trans h) (fe_ki_k r) (fun H hR => fs_nr_o (by decide) (by decide)) ?_
  intro p e s m args below meth c Q C hnm
  have hw : s0.WarmedH s.vm := C.2.2.2.2.1
  refine fe_all C fk_hwr cX32_find [1, 9, 19, 34] (by decide +kernel) (fe_fil (cps := [(1, 4, .jsr_w (49144)), (9, 12, .jsr_w (49152)), (19, 22, .jsr_w (16384)), (34, 37, .getfield 1023738176)]) (by decide +kernel) ?_)
  refine fs_c1 (fs_ldcl (pc := 1) (idx := 25) (v := 49144) C (by decide +kernel) (kw K hw q3602)) ?_
  refine fs_c1 (fs_ldcl (pc := 9) (idx := 27) (v := 49152) C (by decide +kernel) (kw K hw q3603)) ?_
  refine fs_c1 (fs_ldcl (pc := 19) (idx := 29) (v := 16384) C (by decide +kernel) (kw K hw q3604)) ?_
  refine fs_c1 (fs_getf (pc := 34) (n := 1023738176) (idx := 21) (ref := "BoardMachine$Signals$Timer") (O := "BoardMachine$Signals$Timer") (name := "processors") (desc := "I") C (by decide +kernel) (Or.inl (kw K hw q976)) (fun _ h => h) (Nat.le_of_ble_eq_true rfl) (Nat.le_of_ble_eq_true rfl) (fs_one (⟨_, ff_80_244 s0 H0 oa D⟩))) ?_
  exact fs_c0
