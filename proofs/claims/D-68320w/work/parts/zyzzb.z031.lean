/-! contracts of methods, printed by gen/snd.py -/
set_option maxRecDepth 100000
set_option maxHeartbeats 4000000
theorem hX57_run : fe_H (sX57_run) cX57_run [0] fe_ki [] 20 (fun _ => dX57_run FX57_run_0) := by
  intro j pc L st M r hc h
  rcases fe_mem_c hc with rfl | hc
  · obtain ⟨w0, m0, h⟩ := fe_lR_d h
    obtain ⟨w1, m1, h⟩ := fe_lR_d h
    obtain ⟨w2, m2, h⟩ := fe_lR_d h
    obtain ⟨w3, m3, h⟩ := fe_lI_d h
    obtain ⟨rfl, hz⟩ := fe_t0_d h
    exact ⟨[(0, .ref w0), (1, .ref w1), (2, .ref w2), (3, .int w3)], (fe_cs m0 (fe_cs m1 (fe_cs m2 (fe_cs m3 fe_nl)))), Or.inr ((bX57_run_0 FX57_run_0 w0 w1 w2 w3 M).symm.trans hz)⟩
  exact fe_mem_0 hc
theorem vX57_run : fe_SB (sX57_run) := by
  refine ⟨?_, ?_, ?_, ?_⟩
  · intro i As M r h
    exact fe_no h
  · intro i As M r h
    exact fe_no h
  · intro i As M r h
    exact fe_no h
  · intro i As M r h
    exact fe_no h
theorem eX57_run (g0 : Nat → Nat → Nat → Int32 → FM → Option (Int32 × FM)) (a0 : Nat) (a1 : Nat) (a2 : Nat) (a3 : Int32) (M : FM) : dX57_run g0 0 [(0, .ref a0), (1, .ref a1), (2, .ref a2), (3, .int a3)] [] M = g0 a0 a1 a2 a3 M := by rfl
theorem mX57_run (a0 : Nat) (a1 : Nat) (a2 : Nat) (a3 : Int32) (M : FM) (r : Int32 × FM) (h : FX57_run a0 a1 a2 a3 M = some r) : fm_nx M ≤ fm_nx r.2 ∧ fm_ns M ≤ fm_ns r.2 :=
  fe_mono (L0 := [(0, .ref a0), (1, .ref a1), (2, .ref a2), (3, .int a3)]) (vX57_run) (by decide +kernel) (hX57_run) (fe_ki_k r) 0 rfl ((eX57_run FX57_run_0 a0 a1 a2 a3 M).trans h)
theorem zX57_run {s0 : State} {H0 : Heap} {oa : Nat → Nat} {D : va_G} (K : fk s0 H0 oa D) (l : Launch) (a0 : Nat) (a1 : Nat) (a2 : Nat) (a3 : Int32) (M : FM) (r : Int32 × FM) (h : FX57_run a0 a1 a2 a3 M = some r) : fs_Con (fk_E s0 H0 oa D) l 1 ⟨"BoardMachine$Integers$Access", "run", "(LBoardMachine$Integers$Registers;LBoardMachine$Integers$Decoded;I)I"⟩ prog_58_method_2_code 4 (Option.some Jvm.ClassFile.FieldType.int) [.ref a0, .ref a1, .ref a2, .int a3] M (some (.int r.1)) r.2 := by
  refine fs_method (own := "BoardMachine$Integers$Access") rfl (by decide) K.2.1 (by rw [fe_slen]; exact (Nat.le_of_ble_eq_true rfl)) (mX57_run a0 a1 a2 a3 M r h) (hX57_run) 0 rfl (L0 := [(0, .ref a0), (1, .ref a1), (2, .ref a2), (3, .int a3)]) (fun E => fe_args_e E [.ref a0, .ref a1, .ref a2, .int a3] 0) ((eX57_run FX57_run_0 a0 a1 a2 a3 M).trans h) (fe_ki_k r) (fun H hR => fs_nr_o (by decide) (by decide)) ?_
  intro p e s m args below meth c Q C hnm
  have hw : s0.WarmedH s.vm := C.2.2.2.2.1
  refine fe_all C fk_hwr cX57_run [1] (by decide +kernel) (fe_fil (cps := [(1, 4, .getfield 662950132)]) (by decide +kernel) ?_)
  refine fs_c1 (fs_getf (pc := 1) (n := 662950132) (idx := 9) (ref := "BoardMachine$Integers$Decoded") (O := "BoardMachine$Integers$Decoded") (name := "kind") (desc := "I") C (by decide +kernel) (Or.inr ⟨_, kF K hw q3276⟩) (fun _ h => h) (Nat.le_of_ble_eq_true rfl) (Nat.le_of_ble_eq_true rfl) (fs_one (⟨_, ff_61_158 s0 H0 oa D⟩))) ?_
  exact fs_c0
theorem hX106_isBelow : fe_H (sX106_isBelow) cX106_isBelow [0, 19] fe_ki [] 20 (fun _ => dX106_isBelow FX106_isBelow_0 FX106_isBelow_19) := by
  intro j pc L st M r hc h
  rcases fe_mem_c hc with rfl | hc
  · obtain ⟨w0, m0, h⟩ := fe_lL_d h
    obtain ⟨w2, m2, h⟩ := fe_lL_d h
    obtain ⟨rfl, hz⟩ := fe_t0_d h
    exact ⟨[(0, .long w0), (2, .long w2)], (fe_cs m0 (fe_cs m2 fe_nl)), Or.inr ((bX106_isBelow_0 FX106_isBelow_0 FX106_isBelow_19 w0 w2 M).symm.trans hz)⟩
  rcases fe_mem_c hc with rfl | hc
  · obtain ⟨s0, t0, rfl, g0⟩ := fe_tI_d h
    obtain ⟨rfl, hz⟩ := fe_t0_d g0
    exact ⟨[], fe_nl, Or.inr ((bX106_isBelow_19 FX106_isBelow_0 FX106_isBelow_19 s0 M).symm.trans hz)⟩
  exact fe_mem_0 hc
theorem vX106_isBelow : fe_SB (sX106_isBelow) := by
  refine ⟨?_, ?_, ?_, ?_⟩
  · intro i As M r h
    exact fe_no h
  · intro i As M r h
    exact fe_no h
  · intro i As M r h
    exact fe_no h
  · intro i As M r h
    exact fe_no h
theorem eX106_isBelow (g0 : Int64 → Int64 → FM → Option (Int32 × FM)) (g19 : Int32 → FM → Option (Int32 × FM)) (a0 : Int64) (a2 : Int64) (M : FM) : dX106_isBelow g0 g19 0 [(0, .long a0), (2, .long a2)] [] M = g0 a0 a2 M := by rfl
theorem mX106_isBelow (a0 : Int64) (a2 : Int64) (M : FM) (r : Int32 × FM) (h : FX106_isBelow a0 a2 M = some r) : fm_nx M ≤ fm_nx r.2 ∧ fm_ns M ≤ fm_ns r.2 :=
  fe_mono (L0 := [(0, .long a0), (2, .long a2)]) (vX106_isBelow) (by decide +kernel) (hX106_isBelow) (fe_ki_k r) 0 rfl ((eX106_isBelow FX106_isBelow_0 FX106_isBelow_19 a0 a2 M).trans h)
theorem zX106_isBelow {s0 : State} {H0 : Heap} {oa : Nat → Nat} {D : va_G} (K : fk s0 H0 oa D) (l : Launch) (a0 : Int64) (a2 : Int64) (M : FM) (r : Int32 × FM) (h : FX106_isBelow a0 a2 M = some r) : fs_Con (fk_E s0 H0 oa D) l 1 ⟨"BoardMachine$Integers$Arithmetic", "isBelow", "(JJ)Z"⟩ prog_60_method_3_code 4 (Option.some Jvm.ClassFile.FieldType.boolean) [.long a0, .long a2] M (some (.int r.1)) r.2 := by
  refine fs_method (own := "BoardMachine$Integers$Arithmetic") rfl (by decide) K.2.1 (by rw [fe_slen]; exact (Nat.le_of_ble_eq_true rfl)) (mX106_isBelow a0 a2 M r h) (hX106_isBelow) 0 rfl (L0 := [(0, .long a0), (2, .long a2)]) (fun E => fe_args_e E [.long a0, .long a2] 0) ((eX106_isBelow FX106_isBelow_0 FX106_isBelow_19 a0 a2 M).trans h) (fe_ki_k r) (fun H hR => fs_nr_o (by decide) (by decide)) ?_
  intro p e s m args below meth c Q C hnm
  have hw : s0.WarmedH s.vm := C.2.2.2.2.1
  refine fe_all C fk_hwr cX106_isBelow [1, 6] (by decide +kernel) (fe_fil (cps := [(1, 4, .jsr_w (-9223372036854775808)), (6, 9, .jsr_w (-9223372036854775808))]) (by decide +kernel) ?_)
  refine fs_c1 (fs_ldcl (pc := 1) (idx := 11) (v := -9223372036854775808) C (by decide +kernel) (kw K hw q3431)) ?_
  refine fs_c1 (fs_ldcl (pc := 6) (idx := 11) (v := -9223372036854775808) C (by decide +kernel) (kw K hw q3431)) ?_
  exact fs_c0
theorem hX55_run : fe_H (sX55_run FX106_isBelow) cX55_run [0, 78, 102, 114] fe_ki [] 68 (fun _ => dX55_run FX55_run_0 FX55_run_78 FX55_run_102 FX55_run_114) := by
  intro j pc L st M r hc h
  rcases fe_mem_c hc with rfl | hc
  · obtain ⟨w0, m0, h⟩ := fe_lR_d h
    obtain ⟨w1, m1, h⟩ := fe_lR_d h
    obtain ⟨w2, m2, h⟩ := fe_lR_d h
    obtain ⟨w3, m3, h⟩ := fe_lI_d h
    obtain ⟨rfl, hz⟩ := fe_t0_d h
    exact ⟨[(0, .ref w0), (1, .ref w1), (2, .ref w2), (3, .int w3)], (fe_cs m0 (fe_cs m1 (fe_cs m2 (fe_cs m3 fe_nl)))), Or.inr ((bX55_run_0 FX106_isBelow FX55_run_0 FX55_run_78 FX55_run_102 FX55_run_114 w0 w1 w2 w3 M).symm.trans hz)⟩
  rcases fe_mem_c hc with rfl | hc
  · obtain ⟨w1, m1, h⟩ := fe_lR_d h
    obtain ⟨w2, m2, h⟩ := fe_lR_d h
    obtain ⟨w3, m3, h⟩ := fe_lI_d h
    obtain ⟨s0, t0, rfl, g0⟩ := fe_tI_d h
    obtain ⟨rfl, hz⟩ := fe_t0_d g0
    exact ⟨[(1, .ref w1), (2, .ref w2), (3, .int w3)], (fe_cs m1 (fe_cs m2 (fe_cs m3 fe_nl))), Or.inr ((bX55_run_78 FX106_isBelow FX55_run_0 FX55_run_78 FX55_run_102 FX55_run_114 w1 w2 w3 s0 M).symm.trans hz)⟩
  rcases fe_mem_c hc with rfl | hc
  · obtain ⟨w2, m2, h⟩ := fe_lR_d h
    obtain ⟨w3, m3, h⟩ := fe_lI_d h
    obtain ⟨s3, t3, rfl, g3⟩ := fe_tI_d h
    obtain ⟨s2, t2, rfl, g2⟩ := fe_tI_d g3
    obtain ⟨s1, t1, rfl, g1⟩ := fe_tL_d g2
    obtain ⟨s0, t0, rfl, g0⟩ := fe_tR_d g1
    obtain ⟨rfl, hz⟩ := fe_t0_d g0
    exact ⟨[(2, .ref w2), (3, .int w3)], (fe_cs m2 (fe_cs m3 fe_nl)), Or.inr ((bX55_run_102 FX106_isBelow FX55_run_0 FX55_run_78 FX55_run_102 FX55_run_114 w2 w3 s0 s1 s2 s3 M).symm.trans hz)⟩
  rcases fe_mem_c hc with rfl | hc
  · obtain ⟨s2, t2, rfl, g2⟩ := fe_tL_d h
    obtain ⟨s1, t1, rfl, g1⟩ := fe_tL_d g2
    obtain ⟨s0, t0, rfl, g0⟩ := fe_tR_d g1
    obtain ⟨rfl, hz⟩ := fe_t0_d g0
    exact ⟨[], fe_nl, Or.inr ((bX55_run_114 FX106_isBelow FX55_run_0 FX55_run_78 FX55_run_102 FX55_run_114 s0 s1 s2 M).symm.trans hz)⟩
  exact fe_mem_0 hc
theorem vX55_run : fe_SB (sX55_run FX106_isBelow) := by
  refine ⟨?_, ?_, ?_, ?_⟩
  · intro i As M r h
    exact fe_no h
  · intro i As M r h
    rcases fe_bc h with h | h
    · obtain ⟨v0, t0, rfl, g0⟩ := fe_tL_d h
      obtain ⟨v1, t1, rfl, g1⟩ := fe_tL_d g0
      obtain ⟨rfl, hz⟩ := fe_t0_d g1
      exact mX106_isBelow v0 v1 M r hz
    exact fe_no h
  · intro i As M r h
    exact fe_no h
  · intro i As M r h
    exact fe_no h
theorem eX55_run (g0 : Nat → Nat → Nat → Int32 → FM → Option (Int32 × FM)) (g78 : Nat → Nat → Int32 → Int32 → FM → Option (Int32 × FM)) (g102 : Nat → Int32 → Nat → Int64 → Int32 → Int32 → FM → Option (Int32 × FM)) (g114 : Nat → Int64 → Int64 → FM → Option (Int32 × FM)) (a0 : Nat) (a1 : Nat) (a2 : Nat) (a3 : Int32) (M : FM) : dX55_run g0 g78 g102 g114 0 [(0, .ref a0), (1, .ref a1), (2, .ref a2), (3, .int a3)] [] M = g0 a0 a1 a2 a3 M := by rfl
theorem mX55_run (a0 : Nat) (a1 : Nat) (a2 : Nat) (a3 : Int32) (M : FM) (r : Int32 × FM) (h : FX55_run a0 a1 a2 a3 M = some r) : fm_nx M ≤ fm_nx r.2 ∧ fm_ns M ≤ fm_ns r.2 :=
  fe_mono (L0 := [(0, .ref a0), (1, .ref a1), (2, .ref a2), (3, .int a3)]) (vX55_run) (by decide +kernel) (hX55_run) (fe_ki_k r) 0 rfl ((eX55_run FX55_run_0 FX55_run_78 FX55_run_102 FX55_run_114 a0 a1 a2 a3 M).trans h)
theorem zX55_run {s0 : State} {H0 : Heap} {oa : Nat → Nat} {D : va_G} (K : fk s0 H0 oa D) (l : Launch) (a0 : Nat) (a1 : Nat) (a2 : Nat) (a3 : Int32) (M : FM) (r : Int32 × FM) (h : FX55_run a0 a1 a2 a3 M = some r) : fs_Con (fk_E s0 H0 oa D) l 2 ⟨"BoardMachine$Integers$Branch", "run", "(LBoardMachine$Integers$Registers;LBoardMachine$Integers$Decoded;I)I"⟩ prog_61_method_2_code 9 (Option.some Jvm.ClassFile.FieldType.int) [.ref a0, .ref a1, .ref a2, .int a3] M (some (.int r.1)) r.2 := by
  have o0 : fs_OS (sX55_run FX106_isBelow) 0 1 (fs_Con (fk_E s0 H0 oa D) l 1 ⟨"BoardMachine$Integers$Arithmetic", "isBelow", "(JJ)Z"⟩ prog_60_method_3_code 4 (Option.some Jvm.ClassFile.FieldType.boolean)) := by
    intro As M r h
    obtain ⟨v0, t0, rfl, g0⟩ := fe_tL_d h
    obtain ⟨v1, t1, rfl, g1⟩ := fe_tL_d g0
    obtain ⟨rfl, hz⟩ := fe_t0_d g1
    exact zX106_isBelow K l v0 v1 M r hz
  refine fs_method (own := "BoardMachine$Integers$Branch") rfl (by decide) K.2.1 (by rw [fe_slen]; exact (Nat.le_of_ble_eq_true rfl)) (mX55_run a0 a1 a2 a3 M r h) (hX55_run) 0 rfl (L0 := [(0, .ref a0), (1, .ref a1), (2, .ref a2), (3, .int a3)]) (fun E => fe_args_e E [.ref a0, .ref a1, .ref a2, .int a3] 0) ((eX55_run FX55_run_0 FX55_run_78 FX55_run_102 FX55_run_114 a0 a1 a2 a3 M).trans h) (fe_ki_k r) (fun H hR => fs_nr_o (by decide) (by decide)) ?_
  intro p e s m args below meth c Q C hnm
  have hw : s0.WarmedH s.vm := C.2.2.2.2.1
  refine fe_all C fk_hwr cX55_run [1, 5, 12, 16, 23, 47, 75, 82, 88, 106, 115] (by decide +kernel) (fe_fil (cps := [(1, 4, .getfield 746848514), (5, 8, .getfield 637784308), (12, 15, .getfield 746848514), (16, 19, .getfield 641978612), (23, 26, .getfield 671338740), (47, 50, .getfield 671338740), (75, 78, .invokestatic 9), (82, 85, .getfield 751042817), (88, 91, .getfield 671338740), (106, 109, .getfield 646172917), (115, 118, .putfield 751042817)]) (by decide +kernel) ?_)
  refine fs_c1 (fs_getf (pc := 1) (n := 746848514) (idx := 9) (ref := "BoardMachine$Integers$Registers") (O := "BoardMachine$Integers$Registers") (name := "held") (desc := "[J") C (by decide +kernel) (Or.inr ⟨_, kF K hw q1280⟩) (fun _ h => h) (Nat.le_of_ble_eq_true rfl) (Nat.le_of_ble_eq_true rfl) (fs_one (⟨_, ff_64_178 s0 H0 oa D⟩))) ?_
  refine fs_c1 (fs_getf (pc := 5) (n := 637784308) (idx := 15) (ref := "BoardMachine$Integers$Decoded") (O := "BoardMachine$Integers$Decoded") (name := "a") (desc := "I") C (by decide +kernel) (Or.inr ⟨_, kF K hw q3252⟩) (fun _ h => h) (Nat.le_of_ble_eq_true rfl) (Nat.le_of_ble_eq_true rfl) (fs_one (⟨_, ff_61_152 s0 H0 oa D⟩))) ?_
  refine fs_c1 (fs_getf (pc := 12) (n := 746848514) (idx := 9) (ref := "BoardMachine$Integers$Registers") (O := "BoardMachine$Integers$Registers") (name := "held") (desc := "[J") C (by decide +kernel) (Or.inr ⟨_, kF K hw q1280⟩) (fun _ h => h) (Nat.le_of_ble_eq_true rfl) (Nat.le_of_ble_eq_true rfl) (fs_one (⟨_, ff_64_178 s0 H0 oa D⟩))) ?_
  refine fs_c1 (fs_getf (pc := 16) (n := 641978612) (idx := 21) (ref := "BoardMachine$Integers$Decoded") (O := "BoardMachine$Integers$Decoded") (name := "b") (desc := "I") C (by decide +kernel) (Or.inr ⟨_, kF K hw q3258⟩) (fun _ h => h) (Nat.le_of_ble_eq_true rfl) (Nat.le_of_ble_eq_true rfl) (fs_one (⟨_, ff_61_153 s0 H0 oa D⟩))) ?_
  refine fs_c1 (fs_getf (pc := 23) (n := 671338740) (idx := 24) (ref := "BoardMachine$Integers$Decoded") (O := "BoardMachine$Integers$Decoded") (name := "sort") (desc := "I") C (by decide +kernel) (Or.inr ⟨_, kF K hw q3282⟩) (fun _ h => h) (Nat.le_of_ble_eq_true rfl) (Nat.le_of_ble_eq_true rfl) (fs_one (⟨_, ff_61_160 s0 H0 oa D⟩))) ?_
  refine fs_c1 (fs_getf (pc := 47) (n := 671338740) (idx := 24) (ref := "BoardMachine$Integers$Decoded") (O := "BoardMachine$Integers$Decoded") (name := "sort") (desc := "I") C (by decide +kernel) (Or.inr ⟨_, kF K hw q3282⟩) (fun _ h => h) (Nat.le_of_ble_eq_true rfl) (Nat.le_of_ble_eq_true rfl) (fs_one (⟨_, ff_61_160 s0 H0 oa D⟩))) ?_
  refine fs_c1 (fs_inv_static (pc := 75) (n := 9) C (fs_lk_static (idx := 27) (y := ⟨"BoardMachine$Integers$Arithmetic", "isBelow", "(JJ)Z"⟩) (bytes := prog_60_method_3_code) (maxL := 4) (rt := (Option.some Jvm.ClassFile.FieldType.boolean)) (d := 1) C (by decide +kernel) (kw K hw q3430) (kw K hw q432) (kw K hw q3429) (Or.inl (kw K hw q3428)) ⟨by decide, by decide⟩ rfl (Nat.le_of_ble_eq_true rfl) (Nat.le_of_ble_eq_true rfl)) fs_con_mono o0) ?_
  refine fs_c1 (fs_getf (pc := 82) (n := 751042817) (idx := 33) (ref := "BoardMachine$Integers$Registers") (O := "BoardMachine$Integers$Registers") (name := "counter") (desc := "J") C (by decide +kernel) (Or.inr ⟨_, kF K hw q1291⟩) (fun _ h => h) (Nat.le_of_ble_eq_true rfl) (Nat.le_of_ble_eq_true rfl) (fs_one (⟨_, ff_64_179 s0 H0 oa D⟩))) ?_
  refine fs_c1 (fs_getf (pc := 88) (n := 671338740) (idx := 24) (ref := "BoardMachine$Integers$Decoded") (O := "BoardMachine$Integers$Decoded") (name := "sort") (desc := "I") C (by decide +kernel) (Or.inr ⟨_, kF K hw q3282⟩) (fun _ h => h) (Nat.le_of_ble_eq_true rfl) (Nat.le_of_ble_eq_true rfl) (fs_one (⟨_, ff_61_160 s0 H0 oa D⟩))) ?_
  refine fs_c1 (fs_getf (pc := 106) (n := 646172917) (idx := 37) (ref := "BoardMachine$Integers$Decoded") (O := "BoardMachine$Integers$Decoded") (name := "immediate") (desc := "J") C (by decide +kernel) (Or.inr ⟨_, kF K hw q3265⟩) (fun _ h => h) (Nat.le_of_ble_eq_true rfl) (Nat.le_of_ble_eq_true rfl) (fs_one (⟨_, ff_61_154 s0 H0 oa D⟩))) ?_
  refine fs_c1 (fs_putf (pc := 115) (n := 751042817) (idx := 33) (ref := "BoardMachine$Integers$Registers") (O := "BoardMachine$Integers$Registers") (name := "counter") (desc := "J") (fin := false) (ty := .long) C (by decide +kernel) (Or.inl ⟨rfl, Or.inr ⟨_, kF K hw q1291⟩⟩) (fun _ h => h) (Nat.le_of_ble_eq_true rfl) (Nat.le_of_ble_eq_true rfl) (Nat.le_of_ble_eq_true rfl) rfl rfl (by decide) (fs_one (⟨rfl, ff_64_179 s0 H0 oa D⟩))) ?_
  exact fs_c0
theorem hX106_upper : fe_H (sX106_upper) cX106_upper [0] fe_kl [] 53 (fun _ => dX106_upper FX106_upper_0) := by
  intro j pc L st M r hc h
  rcases fe_mem_c hc with rfl | hc
  · obtain ⟨w0, m0, h⟩ := fe_lL_d h
    obtain ⟨w2, m2, h⟩ := fe_lL_d h
    obtain ⟨rfl, hz⟩ := fe_t0_d h
    exact ⟨[(0, .long w0), (2, .long w2)], (fe_cs m0 (fe_cs m2 fe_nl)), Or.inr ((bX106_upper_0 FX106_upper_0 w0 w2 M).symm.trans hz)⟩
  exact fe_mem_0 hc
theorem vX106_upper : fe_SB (sX106_upper) := by
  refine ⟨?_, ?_, ?_, ?_⟩
  · intro i As M r h
    exact fe_no h
  · intro i As M r h
    exact fe_no h
  · intro i As M r h
    exact fe_no h
  · intro i As M r h
    exact fe_no h
theorem eX106_upper (g0 : Int64 → Int64 → FM → Option (Int64 × FM)) (a0 : Int64) (a2 : Int64) (M : FM) : dX106_upper g0 0 [(0, .long a0), (2, .long a2)] [] M = g0 a0 a2 M := by rfl
theorem mX106_upper (a0 : Int64) (a2 : Int64) (M : FM) (r : Int64 × FM) (h : FX106_upper a0 a2 M = some r) : fm_nx M ≤ fm_nx r.2 ∧ fm_ns M ≤ fm_ns r.2 :=
  fe_mono (L0 := [(0, .long a0), (2, .long a2)]) (vX106_upper) (by decide +kernel) (hX106_upper) (fe_kl_k r) 0 rfl ((eX106_upper FX106_upper_0 a0 a2 M).trans h)
theorem zX106_upper {s0 : State} {H0 : Heap} {oa : Nat → Nat} {D : va_G} (K : fk s0 H0 oa D) (l : Launch) (a0 : Int64) (a2 : Int64) (M : FM) (r : Int64 × FM) (h : FX106_upper a0 a2 M = some r) : fs_Con (fk_E s0 H0 oa D) l 1 ⟨"BoardMachine$Integers$Arithmetic", "upper", "(JJ)J"⟩ prog_60_method_2_code 18 (Option.some Jvm.ClassFile.FieldType.long) [.long a0, .long a2] M (some (.long r.1)) r.2 := by
  refine fs_method (own := "BoardMachine$Integers$Arithmetic") rfl (by decide) K.2.1 (by rw [fe_slen]; exact (Nat.le_of_ble_eq_true rfl)) (mX106_upper a0 a2 M r h) (hX106_upper) 0 rfl (L0 := [(0, .long a0), (2, .long a2)]) (fun E => fe_args_e E [.long a0, .long a2] 0) ((eX106_upper FX106_upper_0 a0 a2 M).trans h) (fe_kl_k r) (fun H hR => fs_nr_o (by decide) (by decide)) ?_
  intro p e s m args below meth c Q C hnm
  have hw : s0.WarmedH s.vm := C.2.2.2.2.1
  refine fe_all C fk_hwr cX106_upper [7, 20, 53] (by decide +kernel) (fe_fil (cps := [(7, 10, .jsr_w (4294967295)), (20, 23, .jsr_w (4294967295)), (53, 56, .jsr_w (4294967295))]) (by decide +kernel) ?_)
  refine fs_c1 (fs_ldcl (pc := 7) (idx := 7) (v := 4294967295) C (by decide +kernel) (kw K hw q3441)) ?_
  refine fs_c1 (fs_ldcl (pc := 20) (idx := 7) (v := 4294967295) C (by decide +kernel) (kw K hw q3441)) ?_
  refine fs_c1 (fs_ldcl (pc := 53) (idx := 7) (v := 4294967295) C (by decide +kernel) (kw K hw q3441)) ?_
  exact fs_c0
theorem hX106_divided : fe_H (sX106_divided) cX106_divided [0, 28] fe_kl [] 22 (fun _ => dX106_divided FX106_divided_0 FX106_divided_28) := by
  intro j pc L st M r hc h
  rcases fe_mem_c hc with rfl | hc
  · obtain ⟨w0, m0, h⟩ := fe_lL_d h
    obtain ⟨w2, m2, h⟩ := fe_lL_d h
    obtain ⟨rfl, hz⟩ := fe_t0_d h
    exact ⟨[(0, .long w0), (2, .long w2)], (fe_cs m0 (fe_cs m2 fe_nl)), Or.inr ((bX106_divided_0 FX106_divided_0 FX106_divided_28 w0 w2 M).symm.trans hz)⟩
  rcases fe_mem_c hc with rfl | hc
  · obtain ⟨s0, t0, rfl, g0⟩ := fe_tL_d h
    obtain ⟨rfl, hz⟩ := fe_t0_d g0
    exact ⟨[], fe_nl, Or.inr ((bX106_divided_28 FX106_divided_0 FX106_divided_28 s0 M).symm.trans hz)⟩
  exact fe_mem_0 hc
theorem vX106_divided : fe_SB (sX106_divided) := by
  refine ⟨?_, ?_, ?_, ?_⟩
  · intro i As M r h
    exact fe_no h
  · intro i As M r h
    exact fe_no h
  · intro i As M r h
    exact fe_no h
  · intro i As M r h
    exact fe_no h
theorem eX106_divided (g0 : Int64 → Int64 → FM → Option (Int64 × FM)) (g28 : Int64 → FM → Option (Int64 × FM)) (a0 : Int64) (a2 : Int64) (M : FM) : dX106_divided g0 g28 0 [(0, .long a0), (2, .long a2)] [] M = g0 a0 a2 M := by rfl
theorem mX106_divided (a0 : Int64) (a2 : Int64) (M : FM) (r : Int64 × FM) (h : FX106_divided a0 a2 M = some r) : fm_nx M ≤ fm_nx r.2 ∧ fm_ns M ≤ fm_ns r.2 :=
  fe_mono (L0 := [(0, .long a0), (2, .long a2)]) (vX106_divided) (by decide +kernel) (hX106_divided) (fe_kl_k r) 0 rfl ((eX106_divided FX106_divided_0 FX106_divided_28 a0 a2 M).trans h)
theorem zX106_divided {s0 : State} {H0 : Heap} {oa : Nat → Nat} {D : va_G} (K : fk s0 H0 oa D) (l : Launch) (a0 : Int64) (a2 : Int64) (M : FM) (r : Int64 × FM) (h : FX106_divided a0 a2 M = some r) : fs_Con (fk_E s0 H0 oa D) l 1 ⟨"BoardMachine$Integers$Arithmetic", "divided", "(JJ)J"⟩ prog_60_method_5_code 4 (Option.some Jvm.ClassFile.FieldType.long) [.long a0, .long a2] M (some (.long r.1)) r.2 := by
  refine fs_method (own := "BoardMachine$Integers$Arithmetic") rfl (by decide) K.2.1 (by rw [fe_slen]; exact (Nat.le_of_ble_eq_true rfl)) (mX106_divided a0 a2 M r h) (hX106_divided) 0 rfl (L0 := [(0, .long a0), (2, .long a2)]) (fun E => fe_args_e E [.long a0, .long a2] 0) ((eX106_divided FX106_divided_0 FX106_divided_28 a0 a2 M).trans h) (fe_kl_k r) (fun H hR => fs_nr_o (by decide) (by decide)) ?_
  intro p e s m args below meth c Q C hnm
  have hw : s0.WarmedH s.vm := C.2.2.2.2.1
  refine fe_all C fk_hwr cX106_divided [6, 13] (by decide +kernel) (fe_fil (cps := [(6, 9, .jsr_w (-1)), (13, 16, .jsr_w (-1))]) (by decide +kernel) ?_)
  refine fs_c1 (fs_ldcl (pc := 6) (idx := 19) (v := -1) C (by decide +kernel) (kw K hw q3452)) ?_
  refine fs_c1 (fs_ldcl (pc := 13) (idx := 19) (v := -1) C (by decide +kernel) (kw K hw q3452)) ?_
  exact fs_c0
theorem hX106_rest : fe_H (sX106_rest) cX106_rest [0, 25] fe_kl [] 21 (fun _ => dX106_rest FX106_rest_0 FX106_rest_25) := by
  intro j pc L st M r hc h
  rcases fe_mem_c hc with rfl | hc
  · obtain ⟨w0, m0, h⟩ := fe_lL_d h
    obtain ⟨w2, m2, h⟩ := fe_lL_d h
    obtain ⟨rfl, hz⟩ := fe_t0_d h
    exact ⟨[(0, .long w0), (2, .long w2)], (fe_cs m0 (fe_cs m2 fe_nl)), Or.inr ((bX106_rest_0 FX106_rest_0 FX106_rest_25 w0 w2 M).symm.trans hz)⟩
  rcases fe_mem_c hc with rfl | hc
  · obtain ⟨s0, t0, rfl, g0⟩ := fe_tL_d h
    obtain ⟨rfl, hz⟩ := fe_t0_d g0
    exact ⟨[], fe_nl, Or.inr ((bX106_rest_25 FX106_rest_0 FX106_rest_25 s0 M).symm.trans hz)⟩
  exact fe_mem_0 hc
theorem vX106_rest : fe_SB (sX106_rest) := by
  refine ⟨?_, ?_, ?_, ?_⟩
  · intro i As M r h
    exact fe_no h
  · intro i As M r h
    exact fe_no h
  · intro i As M r h
    exact fe_no h
  · intro i As M r h
    exact fe_no h
theorem eX106_rest (g0 : Int64 → Int64 → FM → Option (Int64 × FM)) (g25 : Int64 → FM → Option (Int64 × FM)) (a0 : Int64) (a2 : Int64) (M : FM) : dX106_rest g0 g25 0 [(0, .long a0), (2, .long a2)] [] M = g0 a0 a2 M := by rfl
theorem mX106_rest (a0 : Int64) (a2 : Int64) (M : FM) (r : Int64 × FM) (h : FX106_rest a0 a2 M = some r) : fm_nx M ≤ fm_nx r.2 ∧ fm_ns M ≤ fm_ns r.2 :=
  fe_mono (L0 := [(0, .long a0), (2, .long a2)]) (vX106_rest) (by decide +kernel) (hX106_rest) (fe_kl_k r) 0 rfl ((eX106_rest FX106_rest_0 FX106_rest_25 a0 a2 M).trans h)
theorem zX106_rest {s0 : State} {H0 : Heap} {oa : Nat → Nat} {D : va_G} (K : fk s0 H0 oa D) (l : Launch) (a0 : Int64) (a2 : Int64) (M : FM) (r : Int64 × FM) (h : FX106_rest a0 a2 M = some r) : fs_Con (fk_E s0 H0 oa D) l 1 ⟨"BoardMachine$Integers$Arithmetic", "rest", "(JJ)J"⟩ prog_60_method_6_code 4 (Option.some Jvm.ClassFile.FieldType.long) [.long a0, .long a2] M (some (.long r.1)) r.2 := by
  refine fs_method (own := "BoardMachine$Integers$Arithmetic") rfl (by decide) K.2.1 (by rw [fe_slen]; exact (Nat.le_of_ble_eq_true rfl)) (mX106_rest a0 a2 M r h) (hX106_rest) 0 rfl (L0 := [(0, .long a0), (2, .long a2)]) (fun E => fe_args_e E [.long a0, .long a2] 0) ((eX106_rest FX106_rest_0 FX106_rest_25 a0 a2 M).trans h) (fe_kl_k r) (fun H hR => fs_nr_o (by decide) (by decide)) ?_
  intro p e s m args below meth c Q C hnm
  have hw : s0.WarmedH s.vm := C.2.2.2.2.1
  refine fe_all C fk_hwr cX106_rest [11] (by decide +kernel) (fe_fil (cps := [(11, 14, .jsr_w (-1))]) (by decide +kernel) ?_)
  refine fs_c1 (fs_ldcl (pc := 11) (idx := 19) (v := -1) C (by decide +kernel) (kw K hw q3452)) ?_
  exact fs_c0
theorem hX106_quotient : fe_H (sX106_quotient FX106_isBelow) cX106_quotient [0, 19, 51] fe_kl [] 39 (fun _ => dX106_quotient FX106_quotient_0 FX106_quotient_19 FX106_quotient_51) := by
  intro j pc L st M r hc h
  rcases fe_mem_c hc with rfl | hc
  · obtain ⟨w0, m0, h⟩ := fe_lL_d h
    obtain ⟨w2, m2, h⟩ := fe_lL_d h
    obtain ⟨rfl, hz⟩ := fe_t0_d h
    exact ⟨[(0, .long w0), (2, .long w2)], (fe_cs m0 (fe_cs m2 fe_nl)), Or.inr ((bX106_quotient_0 FX106_isBelow FX106_quotient_0 FX106_quotient_19 FX106_quotient_51 w0 w2 M).symm.trans hz)⟩
  rcases fe_mem_c hc with rfl | hc
  · obtain ⟨s0, t0, rfl, g0⟩ := fe_tL_d h
    obtain ⟨rfl, hz⟩ := fe_t0_d g0
    exact ⟨[], fe_nl, Or.inr ((bX106_quotient_19 FX106_isBelow FX106_quotient_0 FX106_quotient_19 FX106_quotient_51 s0 M).symm.trans hz)⟩
  rcases fe_mem_c hc with rfl | hc
  · obtain ⟨s0, t0, rfl, g0⟩ := fe_tL_d h
    obtain ⟨rfl, hz⟩ := fe_t0_d g0
    exact ⟨[], fe_nl, Or.inr ((bX106_quotient_51 FX106_isBelow FX106_quotient_0 FX106_quotient_19 FX106_quotient_51 s0 M).symm.trans hz)⟩
  exact fe_mem_0 hc
theorem vX106_quotient : fe_SB (sX106_quotient FX106_isBelow) := by
  refine ⟨?_, ?_, ?_, ?_⟩
  · intro i As M r h
    exact fe_no h
  · intro i As M r h
    rcases fe_bc h with h | h
    · obtain ⟨v0, t0, rfl, g0⟩ := fe_tL_d h
      obtain ⟨v1, t1, rfl, g1⟩ := fe_tL_d g0
      obtain ⟨rfl, hz⟩ := fe_t0_d g1
      exact mX106_isBelow v0 v1 M r hz
    exact fe_no h
  · intro i As M r h
    exact fe_no h
  · intro i As M r h
    exact fe_no h
theorem eX106_quotient (g0 : Int64 → Int64 → FM → Option (Int64 × FM)) (g19 : Int64 → FM → Option (Int64 × FM)) (g51 : Int64 → FM → Option (Int64 × FM)) (a0 : Int64) (a2 : Int64) (M : FM) : dX106_quotient g0 g19 g51 0 [(0, .long a0), (2, .long a2)] [] M = g0 a0 a2 M := by rfl
theorem mX106_quotient (a0 : Int64) (a2 : Int64) (M : FM) (r : Int64 × FM) (h : FX106_quotient a0 a2 M = some r) : fm_nx M ≤ fm_nx r.2 ∧ fm_ns M ≤ fm_ns r.2 :=
  fe_mono (L0 := [(0, .long a0), (2, .long a2)]) (vX106_quotient) (by decide +kernel) (hX106_quotient) (fe_kl_k r) 0 rfl ((eX106_quotient FX106_quotient_0 FX106_quotient_19 FX106_quotient_51 a0 a2 M).trans h)
theorem zX106_quotient {s0 : State} {H0 : Heap} {oa : Nat → Nat} {D : va_G} (K : fk s0 H0 oa D) (l : Launch) (a0 : Int64) (a2 : Int64) (M : FM) (r : Int64 × FM) (h : FX106_quotient a0 a2 M = some r) : fs_Con (fk_E s0 H0 oa D) l 2 ⟨"BoardMachine$Integers$Arithmetic", "quotient", "(JJ)J"⟩ prog_60_method_4_code 6 (Option.some Jvm.ClassFile.FieldType.long) [.long a0, .long a2] M (some (.long r.1)) r.2 := by
  have o0 : fs_OS (sX106_quotient FX106_isBelow) 0 1 (fs_Con (fk_E s0 H0 oa D) l 1 ⟨"BoardMachine$Integers$Arithmetic", "isBelow", "(JJ)Z"⟩ prog_60_method_3_code 4 (Option.some Jvm.ClassFile.FieldType.boolean)) := by
    intro As M r h
    obtain ⟨v0, t0, rfl, g0⟩ := fe_tL_d h
    obtain ⟨v1, t1, rfl, g1⟩ := fe_tL_d g0
    obtain ⟨rfl, hz⟩ := fe_t0_d g1
    exact zX106_isBelow K l v0 v1 M r hz
  refine fs_method (own := "BoardMachine$Integers$Arithmetic") rfl (by decide) K.2.1 (by rw [fe_slen]; exact (Nat.le_of_ble_eq_true rfl)) (mX106_quotient a0 a2 M r h) (hX106_quotient) 0 rfl (L0 := [(0, .long a0), (2, .long a2)]) (fun E => fe_args_e E [.long a0, .long a2] 0) ((eX106_quotient FX106_quotient_0 FX106_quotient_19 FX106_quotient_51 a0 a2 M).trans h) (fe_kl_k r) (fun H hR => fs_nr_o (by decide) (by decide)) ?_
  intro p e s m args below meth c Q C hnm
  have hw : s0.WarmedH s.vm := C.2.2.2.2.1
  refine fe_all C fk_hwr cX106_quotient [8, 36] (by decide +kernel) (fe_fil (cps := [(8, 11, .invokestatic 9), (36, 39, .invokestatic 9)]) (by decide +kernel) ?_)
  refine fs_c1 (fs_inv_static (pc := 8) (n := 9) C (fs_lk_static (idx := 13) (y := ⟨"BoardMachine$Integers$Arithmetic", "isBelow", "(JJ)Z"⟩) (bytes := prog_60_method_3_code) (maxL := 4) (rt := (Option.some Jvm.ClassFile.FieldType.boolean)) (d := 1) C (by decide +kernel) (kw K hw q3430) (kw K hw q432) (kw K hw q3429) (Or.inl (kw K hw q3445)) ⟨by decide, by decide⟩ rfl (Nat.le_of_ble_eq_true rfl) (Nat.le_of_ble_eq_true rfl)) fs_con_mono o0) ?_
  refine fs_c1 (fs_inv_static (pc := 36) (n := 9) C (fs_lk_static (idx := 13) (y := ⟨"BoardMachine$Integers$Arithmetic", "isBelow", "(JJ)Z"⟩) (bytes := prog_60_method_3_code) (maxL := 4) (rt := (Option.some Jvm.ClassFile.FieldType.boolean)) (d := 1) C (by decide +kernel) (kw K hw q3430) (kw K hw q432) (kw K hw q3429) (Or.inl (kw K hw q3445)) ⟨by decide, by decide⟩ rfl (Nat.le_of_ble_eq_true rfl) (Nat.le_of_ble_eq_true rfl)) fs_con_mono o0) ?_
  exact fs_c0
theorem hX106_reckon : fe_H (sX106_reckon FJ0_ordinal FX106_isBelow FX106_upper FX106_divided FX106_rest FX106_quotient) cX106_reckon [0, 112, 126, 169, 181, 199, 230, 256] fe_kl [] 131 (fun _ => dX106_reckon FX106_reckon_0 FX106_reckon_112 FX106_reckon_126 FX106_reckon_169 FX106_reckon_181 FX106_reckon_199 FX106_reckon_230 FX106_reckon_256) := by
  intro j pc L st M r hc h
  rcases fe_mem_c hc with rfl | hc
  · obtain ⟨w0, m0, h⟩ := fe_lR_d h
    obtain ⟨w1, m1, h⟩ := fe_lL_d h
    obtain ⟨w3, m3, h⟩ := fe_lL_d h
    obtain ⟨rfl, hz⟩ := fe_t0_d h
    exact ⟨[(0, .ref w0), (1, .long w1), (3, .long w3)], (fe_cs m0 (fe_cs m1 (fe_cs m3 fe_nl))), Or.inr ((bX106_reckon_0 FJ0_ordinal FX106_isBelow FX106_upper FX106_divided FX106_rest FX106_quotient FX106_reckon_0 FX106_reckon_112 FX106_reckon_126 FX106_reckon_169 FX106_reckon_181 FX106_reckon_199 FX106_reckon_230 FX106_reckon_256 w0 w1 w3 M).symm.trans hz)⟩
  rcases fe_mem_c hc with rfl | hc
  · obtain ⟨s0, t0, rfl, g0⟩ := fe_tL_d h
    obtain ⟨rfl, hz⟩ := fe_t0_d g0
    exact ⟨[], fe_nl, Or.inr ((bX106_reckon_112 FJ0_ordinal FX106_isBelow FX106_upper FX106_divided FX106_rest FX106_quotient FX106_reckon_0 FX106_reckon_112 FX106_reckon_126 FX106_reckon_169 FX106_reckon_181 FX106_reckon_199 FX106_reckon_230 FX106_reckon_256 s0 M).symm.trans hz)⟩
  rcases fe_mem_c hc with rfl | hc
  · obtain ⟨s0, t0, rfl, g0⟩ := fe_tL_d h
    obtain ⟨rfl, hz⟩ := fe_t0_d g0
    exact ⟨[], fe_nl, Or.inr ((bX106_reckon_126 FJ0_ordinal FX106_isBelow FX106_upper FX106_divided FX106_rest FX106_quotient FX106_reckon_0 FX106_reckon_112 FX106_reckon_126 FX106_reckon_169 FX106_reckon_181 FX106_reckon_199 FX106_reckon_230 FX106_reckon_256 s0 M).symm.trans hz)⟩
  rcases fe_mem_c hc with rfl | hc
  · obtain ⟨w1, m1, h⟩ := fe_lL_d h
    obtain ⟨w3, m3, h⟩ := fe_lL_d h
    obtain ⟨s1, t1, rfl, g1⟩ := fe_tL_d h
    obtain ⟨s0, t0, rfl, g0⟩ := fe_tL_d g1
    obtain ⟨rfl, hz⟩ := fe_t0_d g0
    exact ⟨[(1, .long w1), (3, .long w3)], (fe_cs m1 (fe_cs m3 fe_nl)), Or.inr ((bX106_reckon_169 FJ0_ordinal FX106_isBelow FX106_upper FX106_divided FX106_rest FX106_quotient FX106_reckon_0 FX106_reckon_112 FX106_reckon_126 FX106_reckon_169 FX106_reckon_181 FX106_reckon_199 FX106_reckon_230 FX106_reckon_256 w1 w3 s0 s1 M).symm.trans hz)⟩
  rcases fe_mem_c hc with rfl | hc
  · obtain ⟨s1, t1, rfl, g1⟩ := fe_tL_d h
    obtain ⟨s0, t0, rfl, g0⟩ := fe_tL_d g1
    obtain ⟨rfl, hz⟩ := fe_t0_d g0
    exact ⟨[], fe_nl, Or.inr ((bX106_reckon_181 FJ0_ordinal FX106_isBelow FX106_upper FX106_divided FX106_rest FX106_quotient FX106_reckon_0 FX106_reckon_112 FX106_reckon_126 FX106_reckon_169 FX106_reckon_181 FX106_reckon_199 FX106_reckon_230 FX106_reckon_256 s0 s1 M).symm.trans hz)⟩
  rcases fe_mem_c hc with rfl | hc
  · obtain ⟨s1, t1, rfl, g1⟩ := fe_tL_d h
    obtain ⟨s0, t0, rfl, g0⟩ := fe_tL_d g1
    obtain ⟨rfl, hz⟩ := fe_t0_d g0
    exact ⟨[], fe_nl, Or.inr ((bX106_reckon_199 FJ0_ordinal FX106_isBelow FX106_upper FX106_divided FX106_rest FX106_quotient FX106_reckon_0 FX106_reckon_112 FX106_reckon_126 FX106_reckon_169 FX106_reckon_181 FX106_reckon_199 FX106_reckon_230 FX106_reckon_256 s0 s1 M).symm.trans hz)⟩
  rcases fe_mem_c hc with rfl | hc
  · obtain ⟨s0, t0, rfl, g0⟩ := fe_tL_d h
    obtain ⟨rfl, hz⟩ := fe_t0_d g0
    exact ⟨[], fe_nl, Or.inr ((bX106_reckon_230 FJ0_ordinal FX106_isBelow FX106_upper FX106_divided FX106_rest FX106_quotient FX106_reckon_0 FX106_reckon_112 FX106_reckon_126 FX106_reckon_169 FX106_reckon_181 FX106_reckon_199 FX106_reckon_230 FX106_reckon_256 s0 M).symm.trans hz)⟩
  rcases fe_mem_c hc with rfl | hc
  · obtain ⟨s0, t0, rfl, g0⟩ := fe_tL_d h
    obtain ⟨rfl, hz⟩ := fe_t0_d g0
    exact ⟨[], fe_nl, Or.inr ((bX106_reckon_256 FJ0_ordinal FX106_isBelow FX106_upper FX106_divided FX106_rest FX106_quotient FX106_reckon_0 FX106_reckon_112 FX106_reckon_126 FX106_reckon_169 FX106_reckon_181 FX106_reckon_199 FX106_reckon_230 FX106_reckon_256 s0 M).symm.trans hz)⟩
  exact fe_mem_0 hc
theorem vX106_reckon : fe_SB (sX106_reckon FJ0_ordinal FX106_isBelow FX106_upper FX106_divided FX106_rest FX106_quotient) := by
  refine ⟨?_, ?_, ?_, ?_⟩
  · intro i As M r h
    exact fe_no h
  · intro i As M r h
    rcases fe_bc h with h | h
    · obtain ⟨v0, t0, rfl, g0⟩ := fe_tR_d h
      obtain ⟨rfl, hz⟩ := fe_t0_d g0
      exact mJ0_ordinal v0 M r hz
    rcases fe_bc h with h | h
    · obtain ⟨v0, t0, rfl, g0⟩ := fe_tL_d h
      obtain ⟨v1, t1, rfl, g1⟩ := fe_tL_d g0
      obtain ⟨rfl, hz⟩ := fe_t0_d g1
      exact mX106_isBelow v0 v1 M r hz
    exact fe_no h
  · intro i As M r h
    rcases fe_bc h with h | h
    · obtain ⟨v0, t0, rfl, g0⟩ := fe_tL_d h
      obtain ⟨v1, t1, rfl, g1⟩ := fe_tL_d g0
      obtain ⟨rfl, hz⟩ := fe_t0_d g1
      exact mX106_upper v0 v1 M r hz
    rcases fe_bc h with h | h
    · obtain ⟨v0, t0, rfl, g0⟩ := fe_tL_d h
      obtain ⟨v1, t1, rfl, g1⟩ := fe_tL_d g0
      obtain ⟨rfl, hz⟩ := fe_t0_d g1
      exact mX106_divided v0 v1 M r hz
    rcases fe_bc h with h | h
    · obtain ⟨v0, t0, rfl, g0⟩ := fe_tL_d h
      obtain ⟨v1, t1, rfl, g1⟩ := fe_tL_d g0
      obtain ⟨rfl, hz⟩ := fe_t0_d g1
      exact mX106_rest v0 v1 M r hz
    rcases fe_bc h with h | h
    · obtain ⟨v0, t0, rfl, g0⟩ := fe_tL_d h
      obtain ⟨v1, t1, rfl, g1⟩ := fe_tL_d g0
      obtain ⟨rfl, hz⟩ := fe_t0_d g1
      exact mX106_quotient v0 v1 M r hz
    exact fe_no h
  · intro i As M r h
    exact fe_no h
theorem eX106_reckon (g0 : Nat → Int64 → Int64 → FM → Option (Int64 × FM)) (g112 : Int64 → FM → Option (Int64 × FM)) (g126 : Int64 → FM → Option (Int64 × FM)) (g169 : Int64 → Int64 → Int64 → Int64 → FM → Option (Int64 × FM)) (g181 : Int64 → Int64 → FM → Option (Int64 × FM)) (g199 : Int64 → Int64 → FM → Option (Int64 × FM)) (g230 : Int64 → FM → Option (Int64 × FM)) (g256 : Int64 → FM → Option (Int64 × FM)) (a0 : Nat) (a1 : Int64) (a3 : Int64) (M : FM) : dX106_reckon g0 g112 g126 g169 g181 g199 g230 g256 0 [(0, .ref a0), (1, .long a1), (3, .long a3)] [] M = g0 a0 a1 a3 M := by rfl
theorem mX106_reckon (a0 : Nat) (a1 : Int64) (a3 : Int64) (M : FM) (r : Int64 × FM) (h : FX106_reckon a0 a1 a3 M = some r) : fm_nx M ≤ fm_nx r.2 ∧ fm_ns M ≤ fm_ns r.2 :=
  fe_mono (L0 := [(0, .ref a0), (1, .long a1), (3, .long a3)]) (vX106_reckon) (by decide +kernel) (hX106_reckon) (fe_kl_k r) 0 rfl ((eX106_reckon FX106_reckon_0 FX106_reckon_112 FX106_reckon_126 FX106_reckon_169 FX106_reckon_181 FX106_reckon_199 FX106_reckon_230 FX106_reckon_256 a0 a1 a3 M).trans h)
theorem zX106_reckon {s0 : State} {H0 : Heap} {oa : Nat → Nat} {D : va_G} (K : fk s0 H0 oa D) (l : Launch) (a0 : Nat) (a1 : Int64) (a3 : Int64) (M : FM) (r : Int64 × FM) (h : FX106_reckon a0 a1 a3 M = some r) : fs_Con (fk_E s0 H0 oa D) l 3 ⟨"BoardMachine$Integers$Arithmetic", "reckon", "(LBoardMachine$Integers$Sum;JJ)J"⟩ prog_60_method_7_code 5 (Option.some Jvm.ClassFile.FieldType.long) [.ref a0, .long a1, .long a3] M (some (.long r.1)) r.2 := by
  have o0 : fs_OS (sX106_reckon FJ0_ordinal FX106_isBelow FX106_upper FX106_divided FX106_rest FX106_quotient) 0 1 (fs_Con (fk_E s0 H0 oa D) l 1 ⟨"java/lang/Enum", "ordinal", "()I"⟩ prog_123_method_2_code 1 (Option.some Jvm.ClassFile.FieldType.int)) := by
    intro As M r h
    obtain ⟨v0, t0, rfl, g0⟩ := fe_tR_d h
    obtain ⟨rfl, hz⟩ := fe_t0_d g0
    exact zJ0_ordinal K l v0 M r hz
  have o1 : fs_OS (sX106_reckon FJ0_ordinal FX106_isBelow FX106_upper FX106_divided FX106_rest FX106_quotient) 1 1 (fs_Con (fk_E s0 H0 oa D) l 1 ⟨"BoardMachine$Integers$Arithmetic", "isBelow", "(JJ)Z"⟩ prog_60_method_3_code 4 (Option.some Jvm.ClassFile.FieldType.boolean)) := by
    intro As M r h
    obtain ⟨v0, t0, rfl, g0⟩ := fe_tL_d h
    obtain ⟨v1, t1, rfl, g1⟩ := fe_tL_d g0
    obtain ⟨rfl, hz⟩ := fe_t0_d g1
    exact zX106_isBelow K l v0 v1 M r hz
  have o2 : fs_OS (sX106_reckon FJ0_ordinal FX106_isBelow FX106_upper FX106_divided FX106_rest FX106_quotient) 2 2 (fs_Con (fk_E s0 H0 oa D) l 1 ⟨"BoardMachine$Integers$Arithmetic", "upper", "(JJ)J"⟩ prog_60_method_2_code 18 (Option.some Jvm.ClassFile.FieldType.long)) := by
    intro As M r h
    obtain ⟨v0, t0, rfl, g0⟩ := fe_tL_d h
    obtain ⟨v1, t1, rfl, g1⟩ := fe_tL_d g0
    obtain ⟨rfl, hz⟩ := fe_t0_d g1
    exact zX106_upper K l v0 v1 M r hz
  have o3 : fs_OS (sX106_reckon FJ0_ordinal FX106_isBelow FX106_upper FX106_divided FX106_rest FX106_quotient) 3 2 (fs_Con (fk_E s0 H0 oa D) l 1 ⟨"BoardMachine$Integers$Arithmetic", "divided", "(JJ)J"⟩ prog_60_method_5_code 4 (Option.some Jvm.ClassFile.FieldType.long)) := by
    intro As M r h
    obtain ⟨v0, t0, rfl, g0⟩ := fe_tL_d h
    obtain ⟨v1, t1, rfl, g1⟩ := fe_tL_d g0
    obtain ⟨rfl, hz⟩ := fe_t0_d g1
    exact zX106_divided K l v0 v1 M r hz
  have o4 : fs_OS (sX106_reckon FJ0_ordinal FX106_isBelow FX106_upper FX106_divided FX106_rest FX106_quotient) 4 2 (fs_Con (fk_E s0 H0 oa D) l 1 ⟨"BoardMachine$Integers$Arithmetic", "rest", "(JJ)J"⟩ prog_60_method_6_code 4 (Option.some Jvm.ClassFile.FieldType.long)) := by
    intro As M r h
    obtain ⟨v0, t0, rfl, g0⟩ := fe_tL_d h
    obtain ⟨v1, t1, rfl, g1⟩ := fe_tL_d g0
    obtain ⟨rfl, hz⟩ := fe_t0_d g1
    exact zX106_rest K l v0 v1 M r hz
  have o5 : fs_OS (sX106_reckon FJ0_ordinal FX106_isBelow FX106_upper FX106_divided FX106_rest FX106_quotient) 5 2 (fs_Con (fk_E s0 H0 oa D) l 2 ⟨"BoardMachine$Integers$Arithmetic", "quotient", "(JJ)J"⟩ prog_60_method_4_code 6 (Option.some Jvm.ClassFile.FieldType.long)) := by
    intro As M r h
    obtain ⟨v0, t0, rfl, g0⟩ := fe_tL_d h
    obtain ⟨v1, t1, rfl, g1⟩ := fe_tL_d g0
    obtain ⟨rfl, hz⟩ := fe_t0_d g1
    exact zX106_quotient K l v0 v1 M r hz
  refine fs_method (own := "BoardMachine$Integers$Arithmetic") rfl (by decide) K.2.1 (by rw [fe_slen]; exact (Nat.le_of_ble_eq_true rfl)) (mX106_reckon a0 a1 a3 M r h) (hX106_reckon) 0 rfl (L0 := [(0, .ref a0), (1, .long a1), (3, .long a3)]) (fun E => fe_args_e E [.ref a0, .long a1, .long a3] 0) ((eX106_reckon FX106_reckon_0 FX106_reckon_112 FX106_reckon_126 FX106_reckon_169 FX106_reckon_181 FX106_reckon_199 FX106_reckon_230 FX106_reckon_256 a0 a1 a3 M).trans h) (fe_kl_k r) (fun H hR => fs_nr_o (by decide) (by decide)) ?_
  intro p e s m args below meth c Q C hnm
  have hw : s0.WarmedH s.vm := C.2.2.2.2.1
  refine fe_all C fk_hwr cX106_reckon [1, 4, 115, 155, 185, 203, 209, 219, 227, 233, 250] (by decide +kernel) (fe_fil (cps := [(1, 4, .invokevirtual 5246980), (4, 88, .lookupswitch (233) #[(0, 84), (1, 88), (2, 92), (3, 97), (4, 109), (5, 123), (6, 127), (7, 132), (8, 137), (9, 141), (10, 145), (11, 149), (12, 179), (13, 197), (14, 203), (15, 209), (16, 227)]), (115, 118, .invokestatic 73), (155, 158, .invokestatic 138), (185, 188, .invokestatic 138), (203, 206, .invokestatic 138), (209, 212, .invokestatic 202), (219, 222, .jsr_w (-1)), (227, 230, .invokestatic 330), (233, 236, .invokestatic 266), (250, 253, .invokestatic 330)]) (by decide +kernel) ?_)
  refine fs_c1 (fs_inv_virtual (pc := 1) (n := 5246980) C (Nat.le_of_ble_eq_true rfl) (Nat.le_of_ble_eq_true rfl) (fs_lk_up (idx := 21) (x := ⟨"BoardMachine$Integers$Sum", "ordinal", "()I"⟩) (owner := "java/lang/Enum") (y := ⟨"java/lang/Enum", "ordinal", "()I"⟩) (bytes := prog_123_method_2_code) (maxL := 1) (rt := (Option.some Jvm.ClassFile.FieldType.int)) (d := 1) C (Nat.le_of_ble_eq_true rfl) (Nat.le_of_ble_eq_true rfl) (by decide +kernel) (kw K hw q2489) (kw K hw q339) (kw K hw q2488) (kw K hw q3438) (kw K hw q3439) (va_Decl.of (kw (args := args) K hw q2488) (kw K hw q2489)) ⟨by decide, by decide⟩ rfl (Nat.le_of_ble_eq_true rfl) (Nat.le_of_ble_eq_true rfl) (fs_one (⟨_, rfl, kw K hw q3440⟩))) fs_con_mono o0) ?_
  refine fs_c1 (fs_tswl (pc := 4) (nx := 88) (d := 233) (lo := 0) (hi := 16) (offs := #[84, 88, 92, 97, 109, 123, 127, 132, 137, 141, 145, 149, 179, 197, 203, 209, 227]) C (by decide +kernel) (by decide +kernel)) ?_
  refine fs_c1 (fs_inv_static (pc := 115) (n := 73) C (fs_lk_static (idx := 13) (y := ⟨"BoardMachine$Integers$Arithmetic", "isBelow", "(JJ)Z"⟩) (bytes := prog_60_method_3_code) (maxL := 4) (rt := (Option.some Jvm.ClassFile.FieldType.boolean)) (d := 1) C (by decide +kernel) (kw K hw q3430) (kw K hw q432) (kw K hw q3429) (Or.inl (kw K hw q3445)) ⟨by decide, by decide⟩ rfl (Nat.le_of_ble_eq_true rfl) (Nat.le_of_ble_eq_true rfl)) fs_con_mono o1) ?_
  refine fs_c1 (fs_inv_static (pc := 155) (n := 138) C (fs_lk_static (idx := 27) (y := ⟨"BoardMachine$Integers$Arithmetic", "upper", "(JJ)J"⟩) (bytes := prog_60_method_2_code) (maxL := 18) (rt := (Option.some Jvm.ClassFile.FieldType.long)) (d := 1) C (by decide +kernel) (kw K hw q3448) (kw K hw q432) (kw K hw q3447) (Or.inl (kw K hw q3446)) ⟨by decide, by decide⟩ rfl (Nat.le_of_ble_eq_true rfl) (Nat.le_of_ble_eq_true rfl)) fs_con_mono o2) ?_
  refine fs_c1 (fs_inv_static (pc := 185) (n := 138) C (fs_lk_static (idx := 27) (y := ⟨"BoardMachine$Integers$Arithmetic", "upper", "(JJ)J"⟩) (bytes := prog_60_method_2_code) (maxL := 18) (rt := (Option.some Jvm.ClassFile.FieldType.long)) (d := 1) C (by decide +kernel) (kw K hw q3448) (kw K hw q432) (kw K hw q3447) (Or.inl (kw K hw q3446)) ⟨by decide, by decide⟩ rfl (Nat.le_of_ble_eq_true rfl) (Nat.le_of_ble_eq_true rfl)) fs_con_mono o2) ?_
  refine fs_c1 (fs_inv_static (pc := 203) (n := 138) C (fs_lk_static (idx := 27) (y := ⟨"BoardMachine$Integers$Arithmetic", "upper", "(JJ)J"⟩) (bytes := prog_60_method_2_code) (maxL := 18) (rt := (Option.some Jvm.ClassFile.FieldType.long)) (d := 1) C (by decide +kernel) (kw K hw q3448) (kw K hw q432) (kw K hw q3447) (Or.inl (kw K hw q3446)) ⟨by decide, by decide⟩ rfl (Nat.le_of_ble_eq_true rfl) (Nat.le_of_ble_eq_true rfl)) fs_con_mono o2) ?_
  refine fs_c1 (fs_inv_static (pc := 209) (n := 202) C (fs_lk_static (idx := 31) (y := ⟨"BoardMachine$Integers$Arithmetic", "divided", "(JJ)J"⟩) (bytes := prog_60_method_5_code) (maxL := 4) (rt := (Option.some Jvm.ClassFile.FieldType.long)) (d := 1) C (by decide +kernel) (kw K hw q3451) (kw K hw q432) (kw K hw q3450) (Or.inl (kw K hw q3449)) ⟨by decide, by decide⟩ rfl (Nat.le_of_ble_eq_true rfl) (Nat.le_of_ble_eq_true rfl)) fs_con_mono o3) ?_
  refine fs_c1 (fs_ldcl (pc := 219) (idx := 19) (v := -1) C (by decide +kernel) (kw K hw q3452)) ?_
  refine fs_c1 (fs_inv_static (pc := 227) (n := 330) C (fs_lk_static (idx := 34) (y := ⟨"BoardMachine$Integers$Arithmetic", "quotient", "(JJ)J"⟩) (bytes := prog_60_method_4_code) (maxL := 6) (rt := (Option.some Jvm.ClassFile.FieldType.long)) (d := 2) C (by decide +kernel) (kw K hw q3455) (kw K hw q432) (kw K hw q3454) (Or.inl (kw K hw q3453)) ⟨by decide, by decide⟩ rfl (Nat.le_of_ble_eq_true rfl) (Nat.le_of_ble_eq_true rfl)) fs_con_mono o5) ?_
  refine fs_c1 (fs_inv_static (pc := 233) (n := 266) C (fs_lk_static (idx := 37) (y := ⟨"BoardMachine$Integers$Arithmetic", "rest", "(JJ)J"⟩) (bytes := prog_60_method_6_code) (maxL := 4) (rt := (Option.some Jvm.ClassFile.FieldType.long)) (d := 1) C (by decide +kernel) (kw K hw q3458) (kw K hw q432) (kw K hw q3457) (Or.inl (kw K hw q3456)) ⟨by decide, by decide⟩ rfl (Nat.le_of_ble_eq_true rfl) (Nat.le_of_ble_eq_true rfl)) fs_con_mono o4) ?_
  refine fs_c1 (fs_inv_static (pc := 250) (n := 330) C (fs_lk_static (idx := 34) (y := ⟨"BoardMachine$Integers$Arithmetic", "quotient", "(JJ)J"⟩) (bytes := prog_60_method_4_code) (maxL := 6) (rt := (Option.some Jvm.ClassFile.FieldType.long)) (d := 2) C (by decide +kernel) (kw K hw q3455) (kw K hw q432) (kw K hw q3454) (Or.inl (kw K hw q3453)) ⟨by decide, by decide⟩ rfl (Nat.le_of_ble_eq_true rfl) (Nat.le_of_ble_eq_true rfl)) fs_con_mono o5) ?_
  exact fs_c0
theorem hX106_reckonInt : fe_H (sX106_reckonInt FJ0_ordinal FX106_reckon) cX106_reckonInt [0, 71] fe_kl [] 45 (fun _ => dX106_reckonInt FX106_reckonInt_0 FX106_reckonInt_71) := by
  intro j pc L st M r hc h
  rcases fe_mem_c hc with rfl | hc
  · obtain ⟨w0, m0, h⟩ := fe_lR_d h
    obtain ⟨w1, m1, h⟩ := fe_lI_d h
    obtain ⟨w2, m2, h⟩ := fe_lI_d h
    obtain ⟨rfl, hz⟩ := fe_t0_d h
    exact ⟨[(0, .ref w0), (1, .int w1), (2, .int w2)], (fe_cs m0 (fe_cs m1 (fe_cs m2 fe_nl))), Or.inr ((bX106_reckonInt_0 FJ0_ordinal FX106_reckon FX106_reckonInt_0 FX106_reckonInt_71 w0 w1 w2 M).symm.trans hz)⟩
  rcases fe_mem_c hc with rfl | hc
  · obtain ⟨w0, m0, h⟩ := fe_lR_d h
    obtain ⟨w1, m1, h⟩ := fe_lI_d h
    obtain ⟨w2, m2, h⟩ := fe_lI_d h
    obtain ⟨rfl, hz⟩ := fe_t0_d h
    exact ⟨[(0, .ref w0), (1, .int w1), (2, .int w2)], (fe_cs m0 (fe_cs m1 (fe_cs m2 fe_nl))), Or.inr ((bX106_reckonInt_71 FJ0_ordinal FX106_reckon FX106_reckonInt_0 FX106_reckonInt_71 w0 w1 w2 M).symm.trans hz)⟩
  exact fe_mem_0 hc
theorem vX106_reckonInt : fe_SB (sX106_reckonInt FJ0_ordinal FX106_reckon) := by
  refine ⟨?_, ?_, ?_, ?_⟩
  · intro i As M r h
    exact fe_no h
  · intro i As M r h
    rcases fe_bc h with h | h
    · obtain ⟨v0, t0, rfl, g0⟩ := fe_tR_d h
      obtain ⟨rfl, hz⟩ := fe_t0_d g0
      exact mJ0_ordinal v0 M r hz
    exact fe_no h
  · intro i As M r h
    rcases fe_bc h with h | h
    · obtain ⟨v0, t0, rfl, g0⟩ := fe_tR_d h
      obtain ⟨v1, t1, rfl, g1⟩ := fe_tL_d g0
      obtain ⟨v2, t2, rfl, g2⟩ := fe_tL_d g1
      obtain ⟨rfl, hz⟩ := fe_t0_d g2
      exact mX106_reckon v0 v1 v2 M r hz
    exact fe_no h
  · intro i As M r h
    exact fe_no h
theorem eX106_reckonInt (g0 : Nat → Int32 → Int32 → FM → Option (Int64 × FM)) (g71 : Nat → Int32 → Int32 → FM → Option (Int64 × FM)) (a0 : Nat) (a1 : Int32) (a2 : Int32) (M : FM) : dX106_reckonInt g0 g71 0 [(0, .ref a0), (1, .int a1), (2, .int a2)] [] M = g0 a0 a1 a2 M := by rfl
theorem mX106_reckonInt (a0 : Nat) (a1 : Int32) (a2 : Int32) (M : FM) (r : Int64 × FM) (h : FX106_reckonInt a0 a1 a2 M = some r) : fm_nx M ≤ fm_nx r.2 ∧ fm_ns M ≤ fm_ns r.2 :=
  fe_mono (L0 := [(0, .ref a0), (1, .int a1), (2, .int a2)]) (vX106_reckonInt) (by decide +kernel) (hX106_reckonInt) (fe_kl_k r) 0 rfl ((eX106_reckonInt FX106_reckonInt_0 FX106_reckonInt_71 a0 a1 a2 M).trans h)
theorem zX106_reckonInt {s0 : State} {H0 : Heap} {oa : Nat → Nat} {D : va_G} (K : fk s0 H0 oa D) (l : Launch) (a0 : Nat) (a1 : Int32) (a2 : Int32) (M : FM) (r : Int64 × FM) (h : FX106_reckonInt a0 a1 a2 M = some r) : fs_Con (fk_E s0 H0 oa D) l 4 ⟨"BoardMachine$Integers$Arithmetic", "reckonInt", "(LBoardMachine$Integers$Sum;II)J"⟩ prog_60_method_8_code 3 (Option.some Jvm.ClassFile.FieldType.long) [.ref a0, .int a1, .int a2] M (some (.long r.1)) r.2 := by
  have o0 : fs_OS (sX106_reckonInt FJ0_ordinal FX106_reckon) 0 1 (fs_Con (fk_E s0 H0 oa D) l 1 ⟨"java/lang/Enum", "ordinal", "()I"⟩ prog_123_method_2_code 1 (Option.some Jvm.ClassFile.FieldType.int)) := by
    intro As M r h
    obtain ⟨v0, t0, rfl, g0⟩ := fe_tR_d h
    obtain ⟨rfl, hz⟩ := fe_t0_d g0
    exact zJ0_ordinal K l v0 M r hz
  have o1 : fs_OS (sX106_reckonInt FJ0_ordinal FX106_reckon) 1 2 (fs_Con (fk_E s0 H0 oa D) l 3 ⟨"BoardMachine$Integers$Arithmetic", "reckon", "(LBoardMachine$Integers$Sum;JJ)J"⟩ prog_60_method_7_code 5 (Option.some Jvm.ClassFile.FieldType.long)) := by
    intro As M r h
    obtain ⟨v0, t0, rfl, g0⟩ := fe_tR_d h
    obtain ⟨v1, t1, rfl, g1⟩ := fe_tL_d g0
    obtain ⟨v2, t2, rfl, g2⟩ := fe_tL_d g1
    obtain ⟨rfl, hz⟩ := fe_t0_d g2
    exact zX106_reckon K l v0 v1 v2 M r hz
  refine fs_method (own := "BoardMachine$Integers$Arithmetic") rfl (by decide) K.2.1 (by rw [fe_slen]; exact (Nat.le_of_ble_eq_true rfl)) (mX106_reckonInt a0 a1 a2 M r h) (hX106_reckonInt) 0 rfl (L0 := [(0, .ref a0), (1, .int a1), (2, .int a2)]) (fun E => fe_args_e E [.ref a0, .int a1, .int a2] 0) ((eX106_reckonInt FX106_reckonInt_0 FX106_reckonInt_71 a0 a1 a2 M).trans h) (fe_kl_k r) (fun H hR => fs_nr_o (by decide) (by decide)) ?_
  intro p e s m args below meth c Q C hnm
  have hw : s0.WarmedH s.vm := C.2.2.2.2.1
  refine fe_all C fk_hwr cX106_reckonInt [1, 74, 80, 84, 95] (by decide +kernel) (fe_fil (cps := [(1, 4, .invokevirtual 5246980), (74, 77, .jsr_w (4294967295)), (80, 83, .jsr_w (4294967295)), (84, 87, .invokestatic 78), (95, 98, .invokestatic 78)]) (by decide +kernel) ?_)
  refine fs_c1 (fs_inv_virtual (pc := 1) (n := 5246980) C (Nat.le_of_ble_eq_true rfl) (Nat.le_of_ble_eq_true rfl) (fs_lk_up (idx := 21) (x := ⟨"BoardMachine$Integers$Sum", "ordinal", "()I"⟩) (owner := "java/lang/Enum") (y := ⟨"java/lang/Enum", "ordinal", "()I"⟩) (bytes := prog_123_method_2_code) (maxL := 1) (rt := (Option.some Jvm.ClassFile.FieldType.int)) (d := 1) C (Nat.le_of_ble_eq_true rfl) (Nat.le_of_ble_eq_true rfl) (by decide +kernel) (kw K hw q2489) (kw K hw q339) (kw K hw q2488) (kw K hw q3438) (kw K hw q3439) (va_Decl.of (kw (args := args) K hw q2488) (kw K hw q2489)) ⟨by decide, by decide⟩ rfl (Nat.le_of_ble_eq_true rfl) (Nat.le_of_ble_eq_true rfl) (fs_one (⟨_, rfl, kw K hw q3440⟩))) fs_con_mono o0) ?_
  refine fs_c1 (fs_ldcl (pc := 74) (idx := 7) (v := 4294967295) C (by decide +kernel) (kw K hw q3441)) ?_
  refine fs_c1 (fs_ldcl (pc := 80) (idx := 7) (v := 4294967295) C (by decide +kernel) (kw K hw q3441)) ?_
  refine fs_c1 (fs_inv_static (pc := 84) (n := 78) C (fs_lk_static (idx := 40) (y := ⟨"BoardMachine$Integers$Arithmetic", "reckon", "(LBoardMachine$Integers$Sum;JJ)J"⟩) (bytes := prog_60_method_7_code) (maxL := 5) (rt := (Option.some Jvm.ClassFile.FieldType.long)) (d := 3) C (by decide +kernel) (kw K hw q3444) (kw K hw q432) (kw K hw q3443) (Or.inl (kw K hw q3442)) ⟨by decide, by decide⟩ rfl (Nat.le_of_ble_eq_true rfl) (Nat.le_of_ble_eq_true rfl)) fs_con_mono o1) ?_
  refine fs_c1 (fs_inv_static (pc := 95) (n := 78) C (fs_lk_static (idx := 40) (y := ⟨"BoardMachine$Integers$Arithmetic", "reckon", "(LBoardMachine$Integers$Sum;JJ)J"⟩) (bytes := prog_60_method_7_code) (maxL := 5) (rt := (Option.some Jvm.ClassFile.FieldType.long)) (d := 3) C (by decide +kernel) (kw K hw q3444) (kw K hw q432) (kw K hw q3443) (Or.inl (kw K hw q3442)) ⟨by decide, by decide⟩ rfl (Nat.le_of_ble_eq_true rfl) (Nat.le_of_ble_eq_true rfl)) fs_con_mono o1) ?_
  exact fs_c0
theorem hX56_run : fe_H (sX56_run FX106_reckon FX48_set FX106_reckonInt) cX56_run [0, 34, 75] fe_ki [] 52 (fun _ => dX56_run FX56_run_0 FX56_run_34 FX56_run_75) := by
  intro j pc L st M r hc h
  rcases fe_mem_c hc with rfl | hc
  · obtain ⟨w0, m0, h⟩ := fe_lR_d h
    obtain ⟨w1, m1, h⟩ := fe_lR_d h
    obtain ⟨w2, m2, h⟩ := fe_lR_d h
    obtain ⟨w3, m3, h⟩ := fe_lI_d h
    obtain ⟨rfl, hz⟩ := fe_t0_d h
    exact ⟨[(0, .ref w0), (1, .ref w1), (2, .ref w2), (3, .int w3)], (fe_cs m0 (fe_cs m1 (fe_cs m2 (fe_cs m3 fe_nl)))), Or.inr ((bX56_run_0 FX106_reckon FX48_set FX106_reckonInt FX56_run_0 FX56_run_34 FX56_run_75 w0 w1 w2 w3 M).symm.trans hz)⟩
  rcases fe_mem_c hc with rfl | hc
  · obtain ⟨w1, m1, h⟩ := fe_lR_d h
    obtain ⟨w2, m2, h⟩ := fe_lR_d h
    obtain ⟨w3, m3, h⟩ := fe_lI_d h
    obtain ⟨w4, m4, h⟩ := fe_lL_d h
    obtain ⟨s0, t0, rfl, g0⟩ := fe_tL_d h
    obtain ⟨rfl, hz⟩ := fe_t0_d g0
    exact ⟨[(1, .ref w1), (2, .ref w2), (3, .int w3), (4, .long w4)], (fe_cs m1 (fe_cs m2 (fe_cs m3 (fe_cs m4 fe_nl)))), Or.inr ((bX56_run_34 FX106_reckon FX48_set FX106_reckonInt FX56_run_0 FX56_run_34 FX56_run_75 w1 w2 w3 w4 s0 M).symm.trans hz)⟩
  rcases fe_mem_c hc with rfl | hc
  · obtain ⟨w1, m1, h⟩ := fe_lR_d h
    obtain ⟨w3, m3, h⟩ := fe_lI_d h
    obtain ⟨s2, t2, rfl, g2⟩ := fe_tL_d h
    obtain ⟨s1, t1, rfl, g1⟩ := fe_tI_d g2
    obtain ⟨s0, t0, rfl, g0⟩ := fe_tR_d g1
    obtain ⟨rfl, hz⟩ := fe_t0_d g0
    exact ⟨[(1, .ref w1), (3, .int w3)], (fe_cs m1 (fe_cs m3 fe_nl)), Or.inr ((bX56_run_75 FX106_reckon FX48_set FX106_reckonInt FX56_run_0 FX56_run_34 FX56_run_75 w1 w3 s0 s1 s2 M).symm.trans hz)⟩
  exact fe_mem_0 hc
theorem vX56_run : fe_SB (sX56_run FX106_reckon FX48_set FX106_reckonInt) := by
  refine ⟨?_, ?_, ?_, ?_⟩
  · intro i As M r h
    rcases fe_bc h with h | h
    · obtain ⟨v0, t0, rfl, g0⟩ := fe_tR_d h
      obtain ⟨v1, t1, rfl, g1⟩ := fe_tI_d g0
      obtain ⟨v2, t2, rfl, g2⟩ := fe_tL_d g1
      obtain ⟨rfl, hz⟩ := fe_t0_d g2
      exact mX48_set v0 v1 v2 M r hz
    exact fe_no h
  · intro i As M r h
    exact fe_no h
  · intro i As M r h
    rcases fe_bc h with h | h
    · obtain ⟨v0, t0, rfl, g0⟩ := fe_tR_d h
      obtain ⟨v1, t1, rfl, g1⟩ := fe_tL_d g0
      obtain ⟨v2, t2, rfl, g2⟩ := fe_tL_d g1
      obtain ⟨rfl, hz⟩ := fe_t0_d g2
      exact mX106_reckon v0 v1 v2 M r hz
    rcases fe_bc h with h | h
    · obtain ⟨v0, t0, rfl, g0⟩ := fe_tR_d h
      obtain ⟨v1, t1, rfl, g1⟩ := fe_tI_d g0
      obtain ⟨v2, t2, rfl, g2⟩ := fe_tI_d g1
      obtain ⟨rfl, hz⟩ := fe_t0_d g2
      exact mX106_reckonInt v0 v1 v2 M r hz
    exact fe_no h
  · intro i As M r h
    exact fe_no h
theorem eX56_run (g0 : Nat → Nat → Nat → Int32 → FM → Option (Int32 × FM)) (g34 : Nat → Nat → Int32 → Int64 → Int64 → FM → Option (Int32 × FM)) (g75 : Nat → Int32 → Nat → Int32 → Int64 → FM → Option (Int32 × FM)) (a0 : Nat) (a1 : Nat) (a2 : Nat) (a3 : Int32) (M : FM) : dX56_run g0 g34 g75 0 [(0, .ref a0), (1, .ref a1), (2, .ref a2), (3, .int a3)] [] M = g0 a0 a1 a2 a3 M := by rfl
theorem mX56_run (a0 : Nat) (a1 : Nat) (a2 : Nat) (a3 : Int32) (M : FM) (r : Int32 × FM) (h : FX56_run a0 a1 a2 a3 M = some r) : fm_nx M ≤ fm_nx r.2 ∧ fm_ns M ≤ fm_ns r.2 :=
  fe_mono (L0 := [(0, .ref a0), (1, .ref a1), (2, .ref a2), (3, .int a3)]) (vX56_run) (by decide +kernel) (hX56_run) (fe_ki_k r) 0 rfl ((eX56_run FX56_run_0 FX56_run_34 FX56_run_75 a0 a1 a2 a3 M).trans h)
theorem zX56_run {s0 : State} {H0 : Heap} {oa : Nat → Nat} {D : va_G} (K : fk s0 H0 oa D) (l : Launch) (a0 : Nat) (a1 : Nat) (a2 : Nat) (a3 : Int32) (M : FM) (r : Int32 × FM) (h : FX56_run a0 a1 a2 a3 M = some r) : fs_Con (fk_E s0 H0 oa D) l 5 ⟨"BoardMachine$Integers$Compute", "run", "(LBoardMachine$Integers$Registers;LBoardMachine$Integers$Decoded;I)I"⟩ prog_62_method_2_code 8 (Option.some Jvm.ClassFile.FieldType.int) [.ref a0, .ref a1, .ref a2, .int a3] M (some (.int r.1)) r.2 := by
  have o0 : fs_OS (sX56_run FX106_reckon FX48_set FX106_reckonInt) 0 2 (fs_Con (fk_E s0 H0 oa D) l 3 ⟨"BoardMachine$Integers$Arithmetic", "reckon", "(LBoardMachine$Integers$Sum;JJ)J"⟩ prog_60_method_7_code 5 (Option.some Jvm.ClassFile.FieldType.long)) := by
    intro As M r h
    obtain ⟨v0, t0, rfl, g0⟩ := fe_tR_d h
    obtain ⟨v1, t1, rfl, g1⟩ := fe_tL_d g0
    obtain ⟨v2, t2, rfl, g2⟩ := fe_tL_d g1
    obtain ⟨rfl, hz⟩ := fe_t0_d g2
    exact zX106_reckon K l v0 v1 v2 M r hz
  have o1 : fs_OS (sX56_run FX106_reckon FX48_set FX106_reckonInt) 1 0 (fs_Con (fk_E s0 H0 oa D) l 1 ⟨"BoardMachine$Integers$Registers", "set", "(IJ)V"⟩ prog_71_method_2_code 4 (Option.none : Option Jvm.ClassFile.FieldType)) := by
    intro As M r h
    obtain ⟨v0, t0, rfl, g0⟩ := fe_tR_d h
    obtain ⟨v1, t1, rfl, g1⟩ := fe_tI_d g0
    obtain ⟨v2, t2, rfl, g2⟩ := fe_tL_d g1
    obtain ⟨rfl, hz⟩ := fe_t0_d g2
    exact zX48_set K l v0 v1 v2 M r hz
  have o2 : fs_OS (sX56_run FX106_reckon FX48_set FX106_reckonInt) 2 2 (fs_Con (fk_E s0 H0 oa D) l 4 ⟨"BoardMachine$Integers$Arithmetic", "reckonInt", "(LBoardMachine$Integers$Sum;II)J"⟩ prog_60_method_8_code 3 (Option.some Jvm.ClassFile.FieldType.long)) := by
    intro As M r h
    obtain ⟨v0, t0, rfl, g0⟩ := fe_tR_d h
    obtain ⟨v1, t1, rfl, g1⟩ := fe_tI_d g0
    obtain ⟨v2, t2, rfl, g2⟩ := fe_tI_d g1
    obtain ⟨rfl, hz⟩ := fe_t0_d g2
    exact zX106_reckonInt K l v0 v1 v2 M r hz
  refine fs_method (own := "BoardMachine$Integers$Compute") rfl (by decide) K.2.1 (by rw [fe_slen]; exact (Nat.le_of_ble_eq_true rfl)) (mX56_run a0 a1 a2 a3 M r h) (hX56_run) 0 rfl (L0 := [(0, .ref a0), (1, .ref a1), (2, .ref a2), (3, .int a3)]) (fun E => fe_args_e E [.ref a0, .ref a1, .ref a2, .int a3] 0) ((eX56_run FX56_run_0 FX56_run_34 FX56_run_75 a0 a1 a2 a3 M).trans h) (fe_ki_k r) (fun H hR => fs_nr_o (by decide) (by decide)) ?_
  intro p e s m args below meth c Q C hnm
  have hw : s0.WarmedH s.vm := C.2.2.2.2.1
  refine fe_all C fk_hwr cX56_run [1, 5, 12, 19, 23, 31, 38, 42, 49, 58, 65, 72, 75, 80, 86] (by decide +kernel) (fe_fil (cps := [(1, 4, .getfield 746848514), (5, 8, .getfield 637784308), (12, 15, .getfield 654561527), (19, 22, .getfield 746848514), (23, 26, .getfield 641978612), (31, 34, .getfield 646172917), (38, 41, .getfield 633590004), (42, 45, .getfield 658755831), (49, 52, .getfield 650367222), (58, 61, .invokestatic 142), (65, 68, .getfield 650367222), (72, 75, .invokestatic 14), (75, 78, .invokevirtual 79757376), (80, 83, .getfield 751042817), (86, 89, .putfield 751042817)]) (by decide +kernel) ?_)
  refine fs_c1 (fs_getf (pc := 1) (n := 746848514) (idx := 9) (ref := "BoardMachine$Integers$Registers") (O := "BoardMachine$Integers$Registers") (name := "held") (desc := "[J") C (by decide +kernel) (Or.inr ⟨_, kF K hw q1281⟩) (fun _ h => h) (Nat.le_of_ble_eq_true rfl) (Nat.le_of_ble_eq_true rfl) (fs_one (⟨_, ff_64_178 s0 H0 oa D⟩))) ?_
  refine fs_c1 (fs_getf (pc := 5) (n := 637784308) (idx := 15) (ref := "BoardMachine$Integers$Decoded") (O := "BoardMachine$Integers$Decoded") (name := "a") (desc := "I") C (by decide +kernel) (Or.inr ⟨_, kF K hw q3253⟩) (fun _ h => h) (Nat.le_of_ble_eq_true rfl) (Nat.le_of_ble_eq_true rfl) (fs_one (⟨_, ff_61_152 s0 H0 oa D⟩))) ?_
  refine fs_c1 (fs_getf (pc := 12) (n := 654561527) (idx := 21) (ref := "BoardMachine$Integers$Decoded") (O := "BoardMachine$Integers$Decoded") (name := "ofRegisters") (desc := "Z") C (by decide +kernel) (Or.inr ⟨_, kF K hw q3271⟩) (fun _ h => h) (Nat.le_of_ble_eq_true rfl) (Nat.le_of_ble_eq_true rfl) (fs_one (⟨_, ff_61_156 s0 H0 oa D⟩))) ?_
  refine fs_c1 (fs_getf (pc := 19) (n := 746848514) (idx := 9) (ref := "BoardMachine$Integers$Registers") (O := "BoardMachine$Integers$Registers") (name := "held") (desc := "[J") C (by decide +kernel) (Or.inr ⟨_, kF K hw q1281⟩) (fun _ h => h) (Nat.le_of_ble_eq_true rfl) (Nat.le_of_ble_eq_true rfl) (fs_one (⟨_, ff_64_178 s0 H0 oa D⟩))) ?_
  refine fs_c1 (fs_getf (pc := 23) (n := 641978612) (idx := 25) (ref := "BoardMachine$Integers$Decoded") (O := "BoardMachine$Integers$Decoded") (name := "b") (desc := "I") C (by decide +kernel) (Or.inr ⟨_, kF K hw q3259⟩) (fun _ h => h) (Nat.le_of_ble_eq_true rfl) (Nat.le_of_ble_eq_true rfl) (fs_one (⟨_, ff_61_153 s0 H0 oa D⟩))) ?_
  refine fs_c1 (fs_getf (pc := 31) (n := 646172917) (idx := 28) (ref := "BoardMachine$Integers$Decoded") (O := "BoardMachine$Integers$Decoded") (name := "immediate") (desc := "J") C (by decide +kernel) (Or.inr ⟨_, kF K hw q3264⟩) (fun _ h => h) (Nat.le_of_ble_eq_true rfl) (Nat.le_of_ble_eq_true rfl) (fs_one (⟨_, ff_61_154 s0 H0 oa D⟩))) ?_
  refine fs_c1 (fs_getf (pc := 38) (n := 633590004) (idx := 32) (ref := "BoardMachine$Integers$Decoded") (O := "BoardMachine$Integers$Decoded") (name := "d") (desc := "I") C (by decide +kernel) (Or.inr ⟨_, kF K hw q3246⟩) (fun _ h => h) (Nat.le_of_ble_eq_true rfl) (Nat.le_of_ble_eq_true rfl) (fs_one (⟨_, ff_61_151 s0 H0 oa D⟩))) ?_
  refine fs_c1 (fs_getf (pc := 42) (n := 658755831) (idx := 35) (ref := "BoardMachine$Integers$Decoded") (O := "BoardMachine$Integers$Decoded") (name := "ofInts") (desc := "Z") C (by decide +kernel) (Or.inr ⟨_, kF K hw q3274⟩) (fun _ h => h) (Nat.le_of_ble_eq_true rfl) (Nat.le_of_ble_eq_true rfl) (fs_one (⟨_, ff_61_157 s0 H0 oa D⟩))) ?_
  refine fs_c1 (fs_getf (pc := 49) (n := 650367222) (idx := 38) (ref := "BoardMachine$Integers$Decoded") (O := "BoardMachine$Integers$Decoded") (name := "sum") (desc := "LBoardMachine$Integers$Sum;") C (by decide +kernel) (Or.inr ⟨_, kF K hw q3269⟩) (fun _ h => h) (Nat.le_of_ble_eq_true rfl) (Nat.le_of_ble_eq_true rfl) (fs_one (⟨_, ff_61_155 s0 H0 oa D⟩))) ?_
  refine fs_c1 (fs_inv_static (pc := 58) (n := 142) C (fs_lk_static (idx := 42) (y := ⟨"BoardMachine$Integers$Arithmetic", "reckonInt", "(LBoardMachine$Integers$Sum;II)J"⟩) (bytes := prog_60_method_8_code) (maxL := 3) (rt := (Option.some Jvm.ClassFile.FieldType.long)) (d := 4) C (by decide +kernel) (kw K hw q3437) (kw K hw q432) (kw K hw q3436) (Or.inl (kw K hw q3435)) ⟨by decide, by decide⟩ rfl (Nat.le_of_ble_eq_true rfl) (Nat.le_of_ble_eq_true rfl)) fs_con_mono o2) ?_
  refine fs_c1 (fs_getf (pc := 65) (n := 650367222) (idx := 38) (ref := "BoardMachine$Integers$Decoded") (O := "BoardMachine$Integers$Decoded") (name := "sum") (desc := "LBoardMachine$Integers$Sum;") C (by decide +kernel) (Or.inr ⟨_, kF K hw q3269⟩) (fun _ h => h) (Nat.le_of_ble_eq_true rfl) (Nat.le_of_ble_eq_true rfl) (fs_one (⟨_, ff_61_155 s0 H0 oa D⟩))) ?_
  refine fs_c1 (fs_inv_static (pc := 72) (n := 14) C (fs_lk_static (idx := 48) (y := ⟨"BoardMachine$Integers$Arithmetic", "reckon", "(LBoardMachine$Integers$Sum;JJ)J"⟩) (bytes := prog_60_method_7_code) (maxL := 5) (rt := (Option.some Jvm.ClassFile.FieldType.long)) (d := 3) C (by decide +kernel) (kw K hw q3444) (kw K hw q432) (kw K hw q3443) (Or.inl (kw K hw q3459)) ⟨by decide, by decide⟩ rfl (Nat.le_of_ble_eq_true rfl) (Nat.le_of_ble_eq_true rfl)) fs_con_mono o0) ?_
  refine fs_c1 (fs_inv_virtual (pc := 75) (n := 79757376) C (Nat.le_of_ble_eq_true rfl) (Nat.le_of_ble_eq_true rfl) (fs_lk_virtual (idx := 52) (y := ⟨"BoardMachine$Integers$Registers", "set", "(IJ)V"⟩) (bytes := prog_71_method_2_code) (maxL := 4) (rt := (Option.none : Option Jvm.ClassFile.FieldType)) (d := 1) C (Nat.le_of_ble_eq_true rfl) (Nat.le_of_ble_eq_true rfl) (by decide +kernel) (kw K hw q2500) (kw K hw q359) (kw K hw q2498) (Or.inl (kw K hw q3460)) ⟨by decide, by decide⟩ rfl (Nat.le_of_ble_eq_true rfl) (Nat.le_of_ble_eq_true rfl) (fs_one (⟨_, rfl, kw K hw q2499⟩))) fs_con_mono o1) ?_
  refine fs_c1 (fs_getf (pc := 80) (n := 751042817) (idx := 56) (ref := "BoardMachine$Integers$Registers") (O := "BoardMachine$Integers$Registers") (name := "counter") (desc := "J") C (by decide +kernel) (Or.inr ⟨_, kF K hw q1290⟩) (fun _ h => h) (Nat.le_of_ble_eq_true rfl) (Nat.le_of_ble_eq_true rfl) (fs_one (⟨_, ff_64_179 s0 H0 oa D⟩))) ?_
  refine fs_c1 (fs_putf (pc := 86) (n := 751042817) (idx := 56) (ref := "BoardMachine$Integers$Registers") (O := "BoardMachine$Integers$Registers") (name := "counter") (desc := "J") (fin := false) (ty := .long) C (by decide +kernel) (Or.inl ⟨rfl, Or.inr ⟨_, kF K hw q1290⟩⟩) (fun _ h => h) (Nat.le_of_ble_eq_true rfl) (Nat.le_of_ble_eq_true rfl) (Nat.le_of_ble_eq_true rfl) rfl rfl (by decide) (fs_one (⟨rfl, ff_64_179 s0 H0 oa D⟩))) ?_
  exact fs_c0
