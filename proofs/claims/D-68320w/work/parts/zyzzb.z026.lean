/-! contracts of methods, printed by gen/snd.py -/
set_option maxRecDepth 100000
set_option maxHeartbeats 4000000
theorem hX84_walk (n : Nat) : fe_H (sX84_walk FX102_bits FX84_fault (FX84_step n) FX102_has (FX84_last n)) cX84_walk [0, 22, 87, 132, 187, 203] fe_kl [87] 112 (fun j => dX84_walk (FX84_walk_0 n (FX84_walk_L87 n j)) (FX84_walk_22 n (FX84_walk_L87 n j)) (FX84_walk_132 n (FX84_walk_L87 n j)) (FX84_walk_187 n (FX84_walk_L87 n j)) (FX84_walk_203 n (FX84_walk_L87 n j)) (FX84_walk_L87 n j)) := by
  intro j pc L st M r hc h
  rcases fe_mem_c hc with rfl | hc
  · obtain ⟨w0, m0, h⟩ := fe_lR_d h
    obtain ⟨w1, m1, h⟩ := fe_lL_d h
    obtain ⟨w3, m3, h⟩ := fe_lI_d h
    obtain ⟨w4, m4, h⟩ := fe_lI_d h
    obtain ⟨rfl, hz⟩ := fe_t0_d h
    exact ⟨[(0, .ref w0), (1, .long w1), (3, .int w3), (4, .int w4)], (fe_cs m0 (fe_cs m1 (fe_cs m3 (fe_cs m4 fe_nl)))), Or.inr ((bX84_walk_0 FX102_bits FX84_fault (FX84_step n) FX102_has (FX84_last n) (FX84_walk_0 n (FX84_walk_L87 n j)) (FX84_walk_22 n (FX84_walk_L87 n j)) (FX84_walk_132 n (FX84_walk_L87 n j)) (FX84_walk_187 n (FX84_walk_L87 n j)) (FX84_walk_203 n (FX84_walk_L87 n j)) (FX84_walk_L87 n j) w0 w1 w3 w4 M).symm.trans hz)⟩
  rcases fe_mem_c hc with rfl | hc
  · obtain ⟨w0, m0, h⟩ := fe_lR_d h
    obtain ⟨w1, m1, h⟩ := fe_lL_d h
    obtain ⟨w3, m3, h⟩ := fe_lI_d h
    obtain ⟨w4, m4, h⟩ := fe_lI_d h
    obtain ⟨s0, t0, rfl, g0⟩ := fe_tI_d h
    obtain ⟨rfl, hz⟩ := fe_t0_d g0
    exact ⟨[(0, .ref w0), (1, .long w1), (3, .int w3), (4, .int w4)], (fe_cs m0 (fe_cs m1 (fe_cs m3 (fe_cs m4 fe_nl)))), Or.inr ((bX84_walk_22 FX102_bits FX84_fault (FX84_step n) FX102_has (FX84_last n) (FX84_walk_0 n (FX84_walk_L87 n j)) (FX84_walk_22 n (FX84_walk_L87 n j)) (FX84_walk_132 n (FX84_walk_L87 n j)) (FX84_walk_187 n (FX84_walk_L87 n j)) (FX84_walk_203 n (FX84_walk_L87 n j)) (FX84_walk_L87 n j) w0 w1 w3 w4 s0 M).symm.trans hz)⟩
  rcases fe_mem_c hc with rfl | hc
  · obtain ⟨w0, m0, h⟩ := fe_lR_d h
    obtain ⟨w1, m1, h⟩ := fe_lL_d h
    obtain ⟨w3, m3, h⟩ := fe_lI_d h
    obtain ⟨w4, m4, h⟩ := fe_lI_d h
    obtain ⟨w9, m9, h⟩ := fe_lI_d h
    obtain ⟨w10, m10, h⟩ := fe_lI_d h
    obtain ⟨rfl, hz⟩ := fe_t0_d h
    cases j with
    | zero => exact fe_no hz
    | succ j => exact ⟨[(0, .ref w0), (1, .long w1), (3, .int w3), (4, .int w4), (9, .int w9), (10, .int w10)], (fe_cs m0 (fe_cs m1 (fe_cs m3 (fe_cs m4 (fe_cs m9 (fe_cs m10 fe_nl)))))), Or.inl ⟨j, rfl, (bX84_walk_87 FX102_bits FX84_fault (FX84_step n) FX102_has (FX84_last n) (FX84_walk_0 n (FX84_walk_L87 n j)) (FX84_walk_22 n (FX84_walk_L87 n j)) (FX84_walk_132 n (FX84_walk_L87 n j)) (FX84_walk_187 n (FX84_walk_L87 n j)) (FX84_walk_203 n (FX84_walk_L87 n j)) (FX84_walk_L87 n j) w0 w1 w3 w4 w9 w10 M).symm.trans hz⟩⟩
  rcases fe_mem_c hc with rfl | hc
  · obtain ⟨w0, m0, h⟩ := fe_lR_d h
    obtain ⟨w3, m3, h⟩ := fe_lI_d h
    obtain ⟨rfl, hz⟩ := fe_t0_d h
    exact ⟨[(0, .ref w0), (3, .int w3)], (fe_cs m0 (fe_cs m3 fe_nl)), Or.inr ((bX84_walk_132 FX102_bits FX84_fault (FX84_step n) FX102_has (FX84_last n) (FX84_walk_0 n (FX84_walk_L87 n j)) (FX84_walk_22 n (FX84_walk_L87 n j)) (FX84_walk_132 n (FX84_walk_L87 n j)) (FX84_walk_187 n (FX84_walk_L87 n j)) (FX84_walk_203 n (FX84_walk_L87 n j)) (FX84_walk_L87 n j) w0 w3 M).symm.trans hz)⟩
  rcases fe_mem_c hc with rfl | hc
  · obtain ⟨s2, t2, rfl, g2⟩ := fe_tI_d h
    obtain ⟨s1, t1, rfl, g1⟩ := fe_tI_d g2
    obtain ⟨s0, t0, rfl, g0⟩ := fe_tR_d g1
    obtain ⟨rfl, hz⟩ := fe_t0_d g0
    exact ⟨[], fe_nl, Or.inr ((bX84_walk_187 FX102_bits FX84_fault (FX84_step n) FX102_has (FX84_last n) (FX84_walk_0 n (FX84_walk_L87 n j)) (FX84_walk_22 n (FX84_walk_L87 n j)) (FX84_walk_132 n (FX84_walk_L87 n j)) (FX84_walk_187 n (FX84_walk_L87 n j)) (FX84_walk_203 n (FX84_walk_L87 n j)) (FX84_walk_L87 n j) s0 s1 s2 M).symm.trans hz)⟩
  rcases fe_mem_c hc with rfl | hc
  · obtain ⟨s0, t0, rfl, g0⟩ := fe_tL_d h
    obtain ⟨rfl, hz⟩ := fe_t0_d g0
    exact ⟨[], fe_nl, Or.inr ((bX84_walk_203 FX102_bits FX84_fault (FX84_step n) FX102_has (FX84_last n) (FX84_walk_0 n (FX84_walk_L87 n j)) (FX84_walk_22 n (FX84_walk_L87 n j)) (FX84_walk_132 n (FX84_walk_L87 n j)) (FX84_walk_187 n (FX84_walk_L87 n j)) (FX84_walk_203 n (FX84_walk_L87 n j)) (FX84_walk_L87 n j) s0 M).symm.trans hz)⟩
  exact fe_mem_0 hc
theorem vX84_walk (n : Nat) : fe_SB (sX84_walk FX102_bits FX84_fault (FX84_step n) FX102_has (FX84_last n)) := by
  refine ⟨?_, ?_, ?_, ?_⟩
  · intro i As M r h
    exact fe_no h
  · intro i As M r h
    rcases fe_bc h with h | h
    · obtain ⟨v0, t0, rfl, g0⟩ := fe_tR_d h
      obtain ⟨v1, t1, rfl, g1⟩ := fe_tL_d g0
      obtain ⟨v2, t2, rfl, g2⟩ := fe_tL_d g1
      obtain ⟨v3, t3, rfl, g3⟩ := fe_tI_d g2
      obtain ⟨rfl, hz⟩ := fe_t0_d g3
      exact mX84_step n v0 v1 v2 v3 M r hz
    rcases fe_bc h with h | h
    · obtain ⟨v0, t0, rfl, g0⟩ := fe_tL_d h
      obtain ⟨v1, t1, rfl, g1⟩ := fe_tI_d g0
      obtain ⟨rfl, hz⟩ := fe_t0_d g1
      exact mX102_has v0 v1 M r hz
    exact fe_no h
  · intro i As M r h
    rcases fe_bc h with h | h
    · obtain ⟨v0, t0, rfl, g0⟩ := fe_tL_d h
      obtain ⟨v1, t1, rfl, g1⟩ := fe_tI_d g0
      obtain ⟨v2, t2, rfl, g2⟩ := fe_tI_d g1
      obtain ⟨rfl, hz⟩ := fe_t0_d g2
      exact mX102_bits v0 v1 v2 M r hz
    rcases fe_bc h with h | h
    · obtain ⟨v0, t0, rfl, g0⟩ := fe_tR_d h
      obtain ⟨v1, t1, rfl, g1⟩ := fe_tI_d g0
      obtain ⟨v2, t2, rfl, g2⟩ := fe_tI_d g1
      obtain ⟨rfl, hz⟩ := fe_t0_d g2
      exact mX84_fault v0 v1 v2 M r hz
    rcases fe_bc h with h | h
    · obtain ⟨v0, t0, rfl, g0⟩ := fe_tR_d h
      obtain ⟨v1, t1, rfl, g1⟩ := fe_tL_d g0
      obtain ⟨v2, t2, rfl, g2⟩ := fe_tI_d g1
      obtain ⟨v3, t3, rfl, g3⟩ := fe_tI_d g2
      obtain ⟨v4, t4, rfl, g4⟩ := fe_tI_d g3
      obtain ⟨rfl, hz⟩ := fe_t0_d g4
      exact mX84_last n v0 v1 v2 v3 v4 M r hz
    exact fe_no h
  · intro i As M r h
    exact fe_no h
theorem eX84_walk (g0 : Nat → Int64 → Int32 → Int32 → FM → Option (Int64 × FM)) (g22 : Nat → Int64 → Int32 → Int32 → Int32 → FM → Option (Int64 × FM)) (g132 : Nat → Int32 → FM → Option (Int64 × FM)) (g187 : Nat → Int32 → Int32 → FM → Option (Int64 × FM)) (g203 : Int64 → FM → Option (Int64 × FM)) (k87 : Nat → Int64 → Int32 → Int32 → Int32 → Int32 → FM → Option (Int64 × FM)) (a0 : Nat) (a1 : Int64) (a3 : Int32) (a4 : Int32) (M : FM) : dX84_walk g0 g22 g132 g187 g203 k87 0 [(0, .ref a0), (1, .long a1), (3, .int a3), (4, .int a4)] [] M = g0 a0 a1 a3 a4 M := by rfl
theorem mX84_walk (n : Nat) (a0 : Nat) (a1 : Int64) (a3 : Int32) (a4 : Int32) (M : FM) (r : Int64 × FM) (h : FX84_walk n a0 a1 a3 a4 M = some r) : fm_nx M ≤ fm_nx r.2 ∧ fm_ns M ≤ fm_ns r.2 :=
  fe_mono (L0 := [(0, .ref a0), (1, .long a1), (3, .int a3), (4, .int a4)]) (vX84_walk n) (by decide +kernel) (hX84_walk n) (fe_kl_k r) n rfl ((eX84_walk (FX84_walk_0 n (FX84_walk_L87 n n)) (FX84_walk_22 n (FX84_walk_L87 n n)) (FX84_walk_132 n (FX84_walk_L87 n n)) (FX84_walk_187 n (FX84_walk_L87 n n)) (FX84_walk_203 n (FX84_walk_L87 n n)) (FX84_walk_L87 n n) a0 a1 a3 a4 M).trans h)
theorem zX84_walk {s0 : State} {H0 : Heap} {oa : Nat → Nat} {D : va_G} (K : fk s0 H0 oa D) (l : Launch) (n : Nat) (a0 : Nat) (a1 : Int64) (a3 : Int32) (a4 : Int32) (M : FM) (r : Int64 × FM) (h : FX84_walk n a0 a1 a3 a4 M = some r) : fs_Con (fk_E s0 H0 oa D) l 6 ⟨"BoardMachine$Walks$Translator", "walk", "(JII)J"⟩ prog_107_method_6_code 11 (Option.some Jvm.ClassFile.FieldType.long) [.ref a0, .long a1, .int a3, .int a4] M (some (.long r.1)) r.2 := by
  have o0 : fs_OS (sX84_walk FX102_bits FX84_fault (FX84_step n) FX102_has (FX84_last n)) 0 2 (fs_Con (fk_E s0 H0 oa D) l 1 ⟨"BoardMachine$Walks", "bits", "(JII)J"⟩ prog_102_method_2_code 4 (Option.some Jvm.ClassFile.FieldType.long)) := by
    intro As M r h
    obtain ⟨v0, t0, rfl, g0⟩ := fe_tL_d h
    obtain ⟨v1, t1, rfl, g1⟩ := fe_tI_d g0
    obtain ⟨v2, t2, rfl, g2⟩ := fe_tI_d g1
    obtain ⟨rfl, hz⟩ := fe_t0_d g2
    exact zX102_bits K l v0 v1 v2 M r hz
  have o1 : fs_OS (sX84_walk FX102_bits FX84_fault (FX84_step n) FX102_has (FX84_last n)) 1 2 (fs_Con (fk_E s0 H0 oa D) l 1 ⟨"BoardMachine$Walks$Translator", "fault", "(II)J"⟩ prog_107_method_3_code 3 (Option.some Jvm.ClassFile.FieldType.long)) := by
    intro As M r h
    obtain ⟨v0, t0, rfl, g0⟩ := fe_tR_d h
    obtain ⟨v1, t1, rfl, g1⟩ := fe_tI_d g0
    obtain ⟨v2, t2, rfl, g2⟩ := fe_tI_d g1
    obtain ⟨rfl, hz⟩ := fe_t0_d g2
    exact zX84_fault K l v0 v1 v2 M r hz
  have o2 : fs_OS (sX84_walk FX102_bits FX84_fault (FX84_step n) FX102_has (FX84_last n)) 2 1 (fs_Con (fk_E s0 H0 oa D) l 5 ⟨"BoardMachine$Walks$Translator", "step", "(JJI)I"⟩ prog_107_method_7_code 7 (Option.some Jvm.ClassFile.FieldType.int)) := by
    intro As M r h
    obtain ⟨v0, t0, rfl, g0⟩ := fe_tR_d h
    obtain ⟨v1, t1, rfl, g1⟩ := fe_tL_d g0
    obtain ⟨v2, t2, rfl, g2⟩ := fe_tL_d g1
    obtain ⟨v3, t3, rfl, g3⟩ := fe_tI_d g2
    obtain ⟨rfl, hz⟩ := fe_t0_d g3
    exact zX84_step K l n v0 v1 v2 v3 M r hz
  have o3 : fs_OS (sX84_walk FX102_bits FX84_fault (FX84_step n) FX102_has (FX84_last n)) 3 1 (fs_Con (fk_E s0 H0 oa D) l 1 ⟨"BoardMachine$Walks", "has", "(JI)Z"⟩ prog_102_method_3_code 3 (Option.some Jvm.ClassFile.FieldType.boolean)) := by
    intro As M r h
    obtain ⟨v0, t0, rfl, g0⟩ := fe_tL_d h
    obtain ⟨v1, t1, rfl, g1⟩ := fe_tI_d g0
    obtain ⟨rfl, hz⟩ := fe_t0_d g1
    exact zX102_has K l v0 v1 M r hz
  have o4 : fs_OS (sX84_walk FX102_bits FX84_fault (FX84_step n) FX102_has (FX84_last n)) 4 2 (fs_Con (fk_E s0 H0 oa D) l 5 ⟨"BoardMachine$Walks$Translator", "last", "(JIII)J"⟩ prog_107_method_9_code 10 (Option.some Jvm.ClassFile.FieldType.long)) := by
    intro As M r h
    obtain ⟨v0, t0, rfl, g0⟩ := fe_tR_d h
    obtain ⟨v1, t1, rfl, g1⟩ := fe_tL_d g0
    obtain ⟨v2, t2, rfl, g2⟩ := fe_tI_d g1
    obtain ⟨v3, t3, rfl, g3⟩ := fe_tI_d g2
    obtain ⟨v4, t4, rfl, g4⟩ := fe_tI_d g3
    obtain ⟨rfl, hz⟩ := fe_t0_d g4
    exact zX84_last K l n v0 v1 v2 v3 v4 M r hz
  refine fs_method (own := "BoardMachine$Walks$Translator") rfl (by decide) K.2.1 (by rw [fe_slen]; exact (Nat.le_of_ble_eq_true rfl)) (mX84_walk n a0 a1 a3 a4 M r h) (hX84_walk n) n rfl (L0 := [(0, .ref a0), (1, .long a1), (3, .int a3), (4, .int a4)]) (fun E => fe_args_e E [.ref a0, .long a1, .int a3, .int a4] 0) ((eX84_walk (FX84_walk_0 n (FX84_walk_L87 n n)) (FX84_walk_22 n (FX84_walk_L87 n n)) (FX84_walk_132 n (FX84_walk_L87 n n)) (FX84_walk_187 n (FX84_walk_L87 n n)) (FX84_walk_203 n (FX84_walk_L87 n n)) (FX84_walk_L87 n n) a0 a1 a3 a4 M).trans h) (fe_kl_k r) (fun H hR => fs_nr_o (by decide) (by decide)) ?_
  intro p e s m args below meth c Q C hnm
  have hw : s0.WarmedH s.vm := C.2.2.2.2.1
  refine fe_all C fk_hwr cX84_walk [1, 7, 10, 49, 55, 59, 65, 82, 98, 102, 109, 114, 121, 126, 135, 140, 147, 161, 187, 200] (by decide +kernel) (fe_fil (cps := [(1, 4, .getfield 1212526957), (7, 10, .invokestatic 14), (10, 13, .jsr_w (8)), (49, 52, .invokevirtual 81882203), (55, 58, .putfield 1233498476), (59, 62, .getfield 1212526957), (65, 68, .invokestatic 14), (82, 85, .invokevirtual 152136795), (98, 101, .getfield 1229304173), (102, 105, .invokestatic 201), (109, 112, .getfield 1229304173), (114, 117, .invokestatic 201), (121, 124, .getfield 1229304173), (126, 129, .invokestatic 201), (135, 138, .invokevirtual 81882203), (140, 143, .getfield 1229304173), (147, 150, .invokestatic 14), (161, 164, .invokevirtual 152136795), (187, 190, .invokevirtual 81882203), (200, 203, .invokevirtual 291597403)]) (by decide +kernel) ?_)
  refine fs_c1 (fs_getf (pc := 1) (n := 1212526957) (idx := 43) (ref := "BoardMachine$Walks$Translator") (O := "BoardMachine$Walks$Translator") (name := "table") (desc := "J") C (by decide +kernel) (Or.inl (kw K hw q2022)) (fun _ h => h) (Nat.le_of_ble_eq_true rfl) (Nat.le_of_ble_eq_true rfl) (fs_one (⟨_, ff_91_289 s0 H0 oa D⟩))) ?_
  refine fs_c1 (fs_inv_static (pc := 7) (n := 14) C (fs_lk_static (idx := 47) (y := ⟨"BoardMachine$Walks", "bits", "(JII)J"⟩) (bytes := prog_102_method_2_code) (maxL := 4) (rt := (Option.some Jvm.ClassFile.FieldType.long)) (d := 1) C (by decide +kernel) (kw K hw q2987) (kw K hw q427) (kw K hw q2986) (Or.inr ⟨_, kM K hw q2985⟩) ⟨by decide, by decide⟩ rfl (Nat.le_of_ble_eq_true rfl) (Nat.le_of_ble_eq_true rfl)) fs_con_mono o0) ?_
  refine fs_c1 (fs_ldcl (pc := 10) (idx := 110) (v := 8) C (by decide +kernel) (kw K hw q3017)) ?_
  refine fs_c1 (fs_inv_virtual (pc := 49) (n := 81882203) C (Nat.le_of_ble_eq_true rfl) (Nat.le_of_ble_eq_true rfl) (fs_lk_virtual (idx := 51) (y := ⟨"BoardMachine$Walks$Translator", "fault", "(II)J"⟩) (bytes := prog_107_method_3_code) (maxL := 3) (rt := (Option.some Jvm.ClassFile.FieldType.long)) (d := 1) C (Nat.le_of_ble_eq_true rfl) (Nat.le_of_ble_eq_true rfl) (by decide +kernel) (kw K hw q2991) (kw K hw q395) (kw K hw q2990) (Or.inl (kw K hw q2988)) ⟨by decide, by decide⟩ rfl (Nat.le_of_ble_eq_true rfl) (Nat.le_of_ble_eq_true rfl) (fs_one (⟨_, rfl, kw K hw qs43⟩))) fs_con_mono o1) ?_
  refine fs_c1 (fs_putf (pc := 55) (n := 1233498476) (idx := 95) (ref := "BoardMachine$Walks$Translator") (O := "BoardMachine$Walks$Translator") (name := "depth") (desc := "I") (fin := false) (ty := .int) C (by decide +kernel) (Or.inl ⟨rfl, Or.inl (kw K hw q2029)⟩) (fun _ h => h) (Nat.le_of_ble_eq_true rfl) (Nat.le_of_ble_eq_true rfl) (Nat.le_of_ble_eq_true rfl) rfl rfl (by decide) (fs_one (⟨rfl, ff_91_294 s0 H0 oa D⟩))) ?_
  refine fs_c1 (fs_getf (pc := 59) (n := 1212526957) (idx := 43) (ref := "BoardMachine$Walks$Translator") (O := "BoardMachine$Walks$Translator") (name := "table") (desc := "J") C (by decide +kernel) (Or.inl (kw K hw q2022)) (fun _ h => h) (Nat.le_of_ble_eq_true rfl) (Nat.le_of_ble_eq_true rfl) (fs_one (⟨_, ff_91_289 s0 H0 oa D⟩))) ?_
  refine fs_c1 (fs_inv_static (pc := 65) (n := 14) C (fs_lk_static (idx := 47) (y := ⟨"BoardMachine$Walks", "bits", "(JII)J"⟩) (bytes := prog_102_method_2_code) (maxL := 4) (rt := (Option.some Jvm.ClassFile.FieldType.long)) (d := 1) C (by decide +kernel) (kw K hw q2987) (kw K hw q427) (kw K hw q2986) (Or.inr ⟨_, kM K hw q2985⟩) ⟨by decide, by decide⟩ rfl (Nat.le_of_ble_eq_true rfl) (Nat.le_of_ble_eq_true rfl)) fs_con_mono o0) ?_
  refine fs_c1 (fs_inv_virtual (pc := 82) (n := 152136795) C (Nat.le_of_ble_eq_true rfl) (Nat.le_of_ble_eq_true rfl) (fs_lk_virtual (idx := 112) (y := ⟨"BoardMachine$Walks$Translator", "step", "(JJI)I"⟩) (bytes := prog_107_method_7_code) (maxL := 7) (rt := (Option.some Jvm.ClassFile.FieldType.int)) (d := 5) C (Nat.le_of_ble_eq_true rfl) (Nat.le_of_ble_eq_true rfl) (by decide +kernel) (kw K hw q3021) (kw K hw q395) (kw K hw q3020) (Or.inl (kw K hw q3018)) ⟨by decide, by decide⟩ rfl (Nat.le_of_ble_eq_true rfl) (Nat.le_of_ble_eq_true rfl) (fs_one (⟨_, rfl, kw K hw qs46⟩))) fs_con_mono o2) ?_
  refine fs_c1 (fs_getf (pc := 98) (n := 1229304173) (idx := 116) (ref := "BoardMachine$Walks$Translator") (O := "BoardMachine$Walks$Translator") (name := "entry") (desc := "J") C (by decide +kernel) (Or.inl (kw K hw q2028)) (fun _ h => h) (Nat.le_of_ble_eq_true rfl) (Nat.le_of_ble_eq_true rfl) (fs_one (⟨_, ff_91_293 s0 H0 oa D⟩))) ?_
  refine fs_c1 (fs_inv_static (pc := 102) (n := 201) C (fs_lk_static (idx := 119) (y := ⟨"BoardMachine$Walks", "has", "(JI)Z"⟩) (bytes := prog_102_method_3_code) (maxL := 3) (rt := (Option.some Jvm.ClassFile.FieldType.boolean)) (d := 1) C (by decide +kernel) (kw K hw q3069) (kw K hw q427) (kw K hw q3068) (Or.inr ⟨_, kM K hw q3067⟩) ⟨by decide, by decide⟩ rfl (Nat.le_of_ble_eq_true rfl) (Nat.le_of_ble_eq_true rfl)) fs_con_mono o3) ?_
  refine fs_c1 (fs_getf (pc := 109) (n := 1229304173) (idx := 116) (ref := "BoardMachine$Walks$Translator") (O := "BoardMachine$Walks$Translator") (name := "entry") (desc := "J") C (by decide +kernel) (Or.inl (kw K hw q2028)) (fun _ h => h) (Nat.le_of_ble_eq_true rfl) (Nat.le_of_ble_eq_true rfl) (fs_one (⟨_, ff_91_293 s0 H0 oa D⟩))) ?_
  refine fs_c1 (fs_inv_static (pc := 114) (n := 201) C (fs_lk_static (idx := 119) (y := ⟨"BoardMachine$Walks", "has", "(JI)Z"⟩) (bytes := prog_102_method_3_code) (maxL := 3) (rt := (Option.some Jvm.ClassFile.FieldType.boolean)) (d := 1) C (by decide +kernel) (kw K hw q3069) (kw K hw q427) (kw K hw q3068) (Or.inr ⟨_, kM K hw q3067⟩) ⟨by decide, by decide⟩ rfl (Nat.le_of_ble_eq_true rfl) (Nat.le_of_ble_eq_true rfl)) fs_con_mono o3) ?_
  refine fs_c1 (fs_getf (pc := 121) (n := 1229304173) (idx := 116) (ref := "BoardMachine$Walks$Translator") (O := "BoardMachine$Walks$Translator") (name := "entry") (desc := "J") C (by decide +kernel) (Or.inl (kw K hw q2028)) (fun _ h => h) (Nat.le_of_ble_eq_true rfl) (Nat.le_of_ble_eq_true rfl) (fs_one (⟨_, ff_91_293 s0 H0 oa D⟩))) ?_
  refine fs_c1 (fs_inv_static (pc := 126) (n := 201) C (fs_lk_static (idx := 119) (y := ⟨"BoardMachine$Walks", "has", "(JI)Z"⟩) (bytes := prog_102_method_3_code) (maxL := 3) (rt := (Option.some Jvm.ClassFile.FieldType.boolean)) (d := 1) C (by decide +kernel) (kw K hw q3069) (kw K hw q427) (kw K hw q3068) (Or.inr ⟨_, kM K hw q3067⟩) ⟨by decide, by decide⟩ rfl (Nat.le_of_ble_eq_true rfl) (Nat.le_of_ble_eq_true rfl)) fs_con_mono o3) ?_
  refine fs_c1 (fs_inv_virtual (pc := 135) (n := 81882203) C (Nat.le_of_ble_eq_true rfl) (Nat.le_of_ble_eq_true rfl) (fs_lk_virtual (idx := 51) (y := ⟨"BoardMachine$Walks$Translator", "fault", "(II)J"⟩) (bytes := prog_107_method_3_code) (maxL := 3) (rt := (Option.some Jvm.ClassFile.FieldType.long)) (d := 1) C (Nat.le_of_ble_eq_true rfl) (Nat.le_of_ble_eq_true rfl) (by decide +kernel) (kw K hw q2991) (kw K hw q395) (kw K hw q2990) (Or.inl (kw K hw q2988)) ⟨by decide, by decide⟩ rfl (Nat.le_of_ble_eq_true rfl) (Nat.le_of_ble_eq_true rfl) (fs_one (⟨_, rfl, kw K hw qs43⟩))) fs_con_mono o1) ?_
  refine fs_c1 (fs_getf (pc := 140) (n := 1229304173) (idx := 116) (ref := "BoardMachine$Walks$Translator") (O := "BoardMachine$Walks$Translator") (name := "entry") (desc := "J") C (by decide +kernel) (Or.inl (kw K hw q2028)) (fun _ h => h) (Nat.le_of_ble_eq_true rfl) (Nat.le_of_ble_eq_true rfl) (fs_one (⟨_, ff_91_293 s0 H0 oa D⟩))) ?_
  refine fs_c1 (fs_inv_static (pc := 147) (n := 14) C (fs_lk_static (idx := 47) (y := ⟨"BoardMachine$Walks", "bits", "(JII)J"⟩) (bytes := prog_102_method_2_code) (maxL := 4) (rt := (Option.some Jvm.ClassFile.FieldType.long)) (d := 1) C (by decide +kernel) (kw K hw q2987) (kw K hw q427) (kw K hw q2986) (Or.inr ⟨_, kM K hw q2985⟩) ⟨by decide, by decide⟩ rfl (Nat.le_of_ble_eq_true rfl) (Nat.le_of_ble_eq_true rfl)) fs_con_mono o0) ?_
  refine fs_c1 (fs_inv_virtual (pc := 161) (n := 152136795) C (Nat.le_of_ble_eq_true rfl) (Nat.le_of_ble_eq_true rfl) (fs_lk_virtual (idx := 112) (y := ⟨"BoardMachine$Walks$Translator", "step", "(JJI)I"⟩) (bytes := prog_107_method_7_code) (maxL := 7) (rt := (Option.some Jvm.ClassFile.FieldType.int)) (d := 5) C (Nat.le_of_ble_eq_true rfl) (Nat.le_of_ble_eq_true rfl) (by decide +kernel) (kw K hw q3021) (kw K hw q395) (kw K hw q3020) (Or.inl (kw K hw q3018)) ⟨by decide, by decide⟩ rfl (Nat.le_of_ble_eq_true rfl) (Nat.le_of_ble_eq_true rfl) (fs_one (⟨_, rfl, kw K hw qs46⟩))) fs_con_mono o2) ?_
  refine fs_c1 (fs_inv_virtual (pc := 187) (n := 81882203) C (Nat.le_of_ble_eq_true rfl) (Nat.le_of_ble_eq_true rfl) (fs_lk_virtual (idx := 51) (y := ⟨"BoardMachine$Walks$Translator", "fault", "(II)J"⟩) (bytes := prog_107_method_3_code) (maxL := 3) (rt := (Option.some Jvm.ClassFile.FieldType.long)) (d := 1) C (Nat.le_of_ble_eq_true rfl) (Nat.le_of_ble_eq_true rfl) (by decide +kernel) (kw K hw q2991) (kw K hw q395) (kw K hw q2990) (Or.inl (kw K hw q2988)) ⟨by decide, by decide⟩ rfl (Nat.le_of_ble_eq_true rfl) (Nat.le_of_ble_eq_true rfl) (fs_one (⟨_, rfl, kw K hw qs43⟩))) fs_con_mono o1) ?_
  refine fs_c1 (fs_inv_virtual (pc := 200) (n := 291597403) C (Nat.le_of_ble_eq_true rfl) (Nat.le_of_ble_eq_true rfl) (fs_lk_virtual (idx := 123) (y := ⟨"BoardMachine$Walks$Translator", "last", "(JIII)J"⟩) (bytes := prog_107_method_9_code) (maxL := 10) (rt := (Option.some Jvm.ClassFile.FieldType.long)) (d := 5) C (Nat.le_of_ble_eq_true rfl) (Nat.le_of_ble_eq_true rfl) (by decide +kernel) (kw K hw q3073) (kw K hw q395) (kw K hw q3072) (Or.inl (kw K hw q3070)) ⟨by decide, by decide⟩ rfl (Nat.le_of_ble_eq_true rfl) (Nat.le_of_ble_eq_true rfl) (fs_one (⟨_, rfl, kw K hw qs47⟩))) fs_con_mono o4) ?_
  exact fs_c0
theorem hX84_translate (n : Nat) : fe_H (sX84_translate (FX88_holds n) (FX84_walk n) FX102_bits FX85_writes) cX84_translate [0, 121, 122, 155, 179, 267, 321] fe_kl [267] 164 (fun j => dX84_translate (FX84_translate_0 n (FX84_translate_L267 n j)) (FX84_translate_121 n (FX84_translate_L267 n j)) (FX84_translate_122 n (FX84_translate_L267 n j)) (FX84_translate_155 n (FX84_translate_L267 n j)) (FX84_translate_179 n (FX84_translate_L267 n j)) (FX84_translate_321 n (FX84_translate_L267 n j)) (FX84_translate_L267 n j)) := by
  intro j pc L st M r hc h
  rcases fe_mem_c hc with rfl | hc
  · obtain ⟨w0, m0, h⟩ := fe_lR_d h
    obtain ⟨w1, m1, h⟩ := fe_lL_d h
    obtain ⟨w3, m3, h⟩ := fe_lI_d h
    obtain ⟨w4, m4, h⟩ := fe_lI_d h
    obtain ⟨rfl, hz⟩ := fe_t0_d h
    exact ⟨[(0, .ref w0), (1, .long w1), (3, .int w3), (4, .int w4)], (fe_cs m0 (fe_cs m1 (fe_cs m3 (fe_cs m4 fe_nl)))), Or.inr ((bX84_translate_0 (FX88_holds n) (FX84_walk n) FX102_bits FX85_writes (FX84_translate_0 n (FX84_translate_L267 n j)) (FX84_translate_121 n (FX84_translate_L267 n j)) (FX84_translate_122 n (FX84_translate_L267 n j)) (FX84_translate_155 n (FX84_translate_L267 n j)) (FX84_translate_179 n (FX84_translate_L267 n j)) (FX84_translate_321 n (FX84_translate_L267 n j)) (FX84_translate_L267 n j) w0 w1 w3 w4 M).symm.trans hz)⟩
  rcases fe_mem_c hc with rfl | hc
  · obtain ⟨w0, m0, h⟩ := fe_lR_d h
    obtain ⟨w1, m1, h⟩ := fe_lL_d h
    obtain ⟨w3, m3, h⟩ := fe_lI_d h
    obtain ⟨w4, m4, h⟩ := fe_lI_d h
    obtain ⟨w5, m5, h⟩ := fe_lL_d h
    obtain ⟨w7, m7, h⟩ := fe_lR_d h
    obtain ⟨rfl, hz⟩ := fe_t0_d h
    exact ⟨[(0, .ref w0), (1, .long w1), (3, .int w3), (4, .int w4), (5, .long w5), (7, .ref w7)], (fe_cs m0 (fe_cs m1 (fe_cs m3 (fe_cs m4 (fe_cs m5 (fe_cs m7 fe_nl)))))), Or.inr ((bX84_translate_121 (FX88_holds n) (FX84_walk n) FX102_bits FX85_writes (FX84_translate_0 n (FX84_translate_L267 n j)) (FX84_translate_121 n (FX84_translate_L267 n j)) (FX84_translate_122 n (FX84_translate_L267 n j)) (FX84_translate_155 n (FX84_translate_L267 n j)) (FX84_translate_179 n (FX84_translate_L267 n j)) (FX84_translate_321 n (FX84_translate_L267 n j)) (FX84_translate_L267 n j) w0 w1 w3 w4 w5 w7 M).symm.trans hz)⟩
  rcases fe_mem_c hc with rfl | hc
  · obtain ⟨w0, m0, h⟩ := fe_lR_d h
    obtain ⟨w1, m1, h⟩ := fe_lL_d h
    obtain ⟨w3, m3, h⟩ := fe_lI_d h
    obtain ⟨w4, m4, h⟩ := fe_lI_d h
    obtain ⟨w5, m5, h⟩ := fe_lL_d h
    obtain ⟨w7, m7, h⟩ := fe_lR_d h
    obtain ⟨s0, t0, rfl, g0⟩ := fe_tI_d h
    obtain ⟨rfl, hz⟩ := fe_t0_d g0
    exact ⟨[(0, .ref w0), (1, .long w1), (3, .int w3), (4, .int w4), (5, .long w5), (7, .ref w7)], (fe_cs m0 (fe_cs m1 (fe_cs m3 (fe_cs m4 (fe_cs m5 (fe_cs m7 fe_nl)))))), Or.inr ((bX84_translate_122 (FX88_holds n) (FX84_walk n) FX102_bits FX85_writes (FX84_translate_0 n (FX84_translate_L267 n j)) (FX84_translate_121 n (FX84_translate_L267 n j)) (FX84_translate_122 n (FX84_translate_L267 n j)) (FX84_translate_155 n (FX84_translate_L267 n j)) (FX84_translate_179 n (FX84_translate_L267 n j)) (FX84_translate_321 n (FX84_translate_L267 n j)) (FX84_translate_L267 n j) w0 w1 w3 w4 w5 w7 s0 M).symm.trans hz)⟩
  rcases fe_mem_c hc with rfl | hc
  · obtain ⟨w0, m0, h⟩ := fe_lR_d h
    obtain ⟨w1, m1, h⟩ := fe_lL_d h
    obtain ⟨w3, m3, h⟩ := fe_lI_d h
    obtain ⟨w4, m4, h⟩ := fe_lI_d h
    obtain ⟨w5, m5, h⟩ := fe_lL_d h
    obtain ⟨w7, m7, h⟩ := fe_lR_d h
    obtain ⟨rfl, hz⟩ := fe_t0_d h
    exact ⟨[(0, .ref w0), (1, .long w1), (3, .int w3), (4, .int w4), (5, .long w5), (7, .ref w7)], (fe_cs m0 (fe_cs m1 (fe_cs m3 (fe_cs m4 (fe_cs m5 (fe_cs m7 fe_nl)))))), Or.inr ((bX84_translate_155 (FX88_holds n) (FX84_walk n) FX102_bits FX85_writes (FX84_translate_0 n (FX84_translate_L267 n j)) (FX84_translate_121 n (FX84_translate_L267 n j)) (FX84_translate_122 n (FX84_translate_L267 n j)) (FX84_translate_155 n (FX84_translate_L267 n j)) (FX84_translate_179 n (FX84_translate_L267 n j)) (FX84_translate_321 n (FX84_translate_L267 n j)) (FX84_translate_L267 n j) w0 w1 w3 w4 w5 w7 M).symm.trans hz)⟩
  rcases fe_mem_c hc with rfl | hc
  · obtain ⟨w0, m0, h⟩ := fe_lR_d h
    obtain ⟨w1, m1, h⟩ := fe_lL_d h
    obtain ⟨w3, m3, h⟩ := fe_lI_d h
    obtain ⟨w4, m4, h⟩ := fe_lI_d h
    obtain ⟨w5, m5, h⟩ := fe_lL_d h
    obtain ⟨w7, m7, h⟩ := fe_lR_d h
    obtain ⟨w9, m9, h⟩ := fe_lL_d h
    obtain ⟨s1, t1, rfl, g1⟩ := fe_tI_d h
    obtain ⟨s0, t0, rfl, g0⟩ := fe_tR_d g1
    obtain ⟨rfl, hz⟩ := fe_t0_d g0
    exact ⟨[(0, .ref w0), (1, .long w1), (3, .int w3), (4, .int w4), (5, .long w5), (7, .ref w7), (9, .long w9)], (fe_cs m0 (fe_cs m1 (fe_cs m3 (fe_cs m4 (fe_cs m5 (fe_cs m7 (fe_cs m9 fe_nl))))))), Or.inr ((bX84_translate_179 (FX88_holds n) (FX84_walk n) FX102_bits FX85_writes (FX84_translate_0 n (FX84_translate_L267 n j)) (FX84_translate_121 n (FX84_translate_L267 n j)) (FX84_translate_122 n (FX84_translate_L267 n j)) (FX84_translate_155 n (FX84_translate_L267 n j)) (FX84_translate_179 n (FX84_translate_L267 n j)) (FX84_translate_321 n (FX84_translate_L267 n j)) (FX84_translate_L267 n j) w0 w1 w3 w4 w5 w7 w9 s0 s1 M).symm.trans hz)⟩
  rcases fe_mem_c hc with rfl | hc
  · obtain ⟨w0, m0, h⟩ := fe_lR_d h
    obtain ⟨w7, m7, h⟩ := fe_lR_d h
    obtain ⟨w9, m9, h⟩ := fe_lL_d h
    obtain ⟨w11, m11, h⟩ := fe_lI_d h
    obtain ⟨rfl, hz⟩ := fe_t0_d h
    cases j with
    | zero => exact fe_no hz
    | succ j => exact ⟨[(0, .ref w0), (7, .ref w7), (9, .long w9), (11, .int w11)], (fe_cs m0 (fe_cs m7 (fe_cs m9 (fe_cs m11 fe_nl)))), Or.inl ⟨j, rfl, (bX84_translate_267 (FX88_holds n) (FX84_walk n) FX102_bits FX85_writes (FX84_translate_0 n (FX84_translate_L267 n j)) (FX84_translate_121 n (FX84_translate_L267 n j)) (FX84_translate_122 n (FX84_translate_L267 n j)) (FX84_translate_155 n (FX84_translate_L267 n j)) (FX84_translate_179 n (FX84_translate_L267 n j)) (FX84_translate_321 n (FX84_translate_L267 n j)) (FX84_translate_L267 n j) w0 w7 w9 w11 M).symm.trans hz⟩⟩
  rcases fe_mem_c hc with rfl | hc
  · obtain ⟨w9, m9, h⟩ := fe_lL_d h
    obtain ⟨rfl, hz⟩ := fe_t0_d h
    exact ⟨[(9, .long w9)], (fe_cs m9 fe_nl), Or.inr ((bX84_translate_321 (FX88_holds n) (FX84_walk n) FX102_bits FX85_writes (FX84_translate_0 n (FX84_translate_L267 n j)) (FX84_translate_121 n (FX84_translate_L267 n j)) (FX84_translate_122 n (FX84_translate_L267 n j)) (FX84_translate_155 n (FX84_translate_L267 n j)) (FX84_translate_179 n (FX84_translate_L267 n j)) (FX84_translate_321 n (FX84_translate_L267 n j)) (FX84_translate_L267 n j) w9 M).symm.trans hz)⟩
  exact fe_mem_0 hc
theorem vX84_translate (n : Nat) : fe_SB (sX84_translate (FX88_holds n) (FX84_walk n) FX102_bits FX85_writes) := by
  refine ⟨?_, ?_, ?_, ?_⟩
  · intro i As M r h
    exact fe_no h
  · intro i As M r h
    rcases fe_bc h with h | h
    · obtain ⟨v0, t0, rfl, g0⟩ := fe_tR_d h
      obtain ⟨v1, t1, rfl, g1⟩ := fe_tR_d g0
      obtain ⟨rfl, hz⟩ := fe_t0_d g1
      exact mX88_holds n v0 v1 M r hz
    exact fe_no h
  · intro i As M r h
    rcases fe_bc h with h | h
    · obtain ⟨v0, t0, rfl, g0⟩ := fe_tR_d h
      obtain ⟨v1, t1, rfl, g1⟩ := fe_tL_d g0
      obtain ⟨v2, t2, rfl, g2⟩ := fe_tI_d g1
      obtain ⟨v3, t3, rfl, g3⟩ := fe_tI_d g2
      obtain ⟨rfl, hz⟩ := fe_t0_d g3
      exact mX84_walk n v0 v1 v2 v3 M r hz
    rcases fe_bc h with h | h
    · obtain ⟨v0, t0, rfl, g0⟩ := fe_tL_d h
      obtain ⟨v1, t1, rfl, g1⟩ := fe_tI_d g0
      obtain ⟨v2, t2, rfl, g2⟩ := fe_tI_d g1
      obtain ⟨rfl, hz⟩ := fe_t0_d g2
      exact mX102_bits v0 v1 v2 M r hz
    rcases fe_bc h with h | h
    · obtain ⟨v0, t0, rfl, g0⟩ := fe_tR_d h
      obtain ⟨v1, t1, rfl, g1⟩ := fe_tL_d g0
      obtain ⟨rfl, hz⟩ := fe_t0_d g1
      exact mX85_writes v0 v1 M r hz
    exact fe_no h
  · intro i As M r h
    exact fe_no h
theorem eX84_translate (g0 : Nat → Int64 → Int32 → Int32 → FM → Option (Int64 × FM)) (g121 : Nat → Int64 → Int32 → Int32 → Int64 → Nat → FM → Option (Int64 × FM)) (g122 : Nat → Int64 → Int32 → Int32 → Int64 → Nat → Int32 → FM → Option (Int64 × FM)) (g155 : Nat → Int64 → Int32 → Int32 → Int64 → Nat → FM → Option (Int64 × FM)) (g179 : Nat → Int64 → Int32 → Int32 → Int64 → Nat → Int64 → Nat → Int32 → FM → Option (Int64 × FM)) (g321 : Int64 → FM → Option (Int64 × FM)) (k267 : Nat → Nat → Int64 → Int32 → FM → Option (Int64 × FM)) (a0 : Nat) (a1 : Int64) (a3 : Int32) (a4 : Int32) (M : FM) : dX84_translate g0 g121 g122 g155 g179 g321 k267 0 [(0, .ref a0), (1, .long a1), (3, .int a3), (4, .int a4)] [] M = g0 a0 a1 a3 a4 M := by rfl
theorem mX84_translate (n : Nat) (a0 : Nat) (a1 : Int64) (a3 : Int32) (a4 : Int32) (M : FM) (r : Int64 × FM) (h : FX84_translate n a0 a1 a3 a4 M = some r) : fm_nx M ≤ fm_nx r.2 ∧ fm_ns M ≤ fm_ns r.2 :=
  fe_mono (L0 := [(0, .ref a0), (1, .long a1), (3, .int a3), (4, .int a4)]) (vX84_translate n) (by decide +kernel) (hX84_translate n) (fe_kl_k r) n rfl ((eX84_translate (FX84_translate_0 n (FX84_translate_L267 n n)) (FX84_translate_121 n (FX84_translate_L267 n n)) (FX84_translate_122 n (FX84_translate_L267 n n)) (FX84_translate_155 n (FX84_translate_L267 n n)) (FX84_translate_179 n (FX84_translate_L267 n n)) (FX84_translate_321 n (FX84_translate_L267 n n)) (FX84_translate_L267 n n) a0 a1 a3 a4 M).trans h)
theorem zX84_translate {s0 : State} {H0 : Heap} {oa : Nat → Nat} {D : va_G} (K : fk s0 H0 oa D) (l : Launch) (n : Nat) (a0 : Nat) (a1 : Int64) (a3 : Int32) (a4 : Int32) (M : FM) (r : Int64 × FM) (h : FX84_translate n a0 a1 a3 a4 M = some r) : fs_Con (fk_E s0 H0 oa D) l 7 ⟨"BoardMachine$Walks$Translator", "translate", "(JII)J"⟩ prog_107_method_5_code 12 (Option.some Jvm.ClassFile.FieldType.long) [.ref a0, .long a1, .int a3, .int a4] M (some (.long r.1)) r.2 := by
  have o0 : fs_OS (sX84_translate (FX88_holds n) (FX84_walk n) FX102_bits FX85_writes) 0 1 (fs_Con (fk_E s0 H0 oa D) l 3 ⟨"BoardMachine$Walks$Kept", "holds", "(LBoardMachine$Walks$Words;)Z"⟩ prog_103_method_2_code 3 (Option.some Jvm.ClassFile.FieldType.boolean)) := by
    intro As M r h
    obtain ⟨v0, t0, rfl, g0⟩ := fe_tR_d h
    obtain ⟨v1, t1, rfl, g1⟩ := fe_tR_d g0
    obtain ⟨rfl, hz⟩ := fe_t0_d g1
    exact zX88_holds K l n v0 v1 M r hz
  have o1 : fs_OS (sX84_translate (FX88_holds n) (FX84_walk n) FX102_bits FX85_writes) 1 2 (fs_Con (fk_E s0 H0 oa D) l 6 ⟨"BoardMachine$Walks$Translator", "walk", "(JII)J"⟩ prog_107_method_6_code 11 (Option.some Jvm.ClassFile.FieldType.long)) := by
    intro As M r h
    obtain ⟨v0, t0, rfl, g0⟩ := fe_tR_d h
    obtain ⟨v1, t1, rfl, g1⟩ := fe_tL_d g0
    obtain ⟨v2, t2, rfl, g2⟩ := fe_tI_d g1
    obtain ⟨v3, t3, rfl, g3⟩ := fe_tI_d g2
    obtain ⟨rfl, hz⟩ := fe_t0_d g3
    exact zX84_walk K l n v0 v1 v2 v3 M r hz
  have o2 : fs_OS (sX84_translate (FX88_holds n) (FX84_walk n) FX102_bits FX85_writes) 2 2 (fs_Con (fk_E s0 H0 oa D) l 1 ⟨"BoardMachine$Walks", "bits", "(JII)J"⟩ prog_102_method_2_code 4 (Option.some Jvm.ClassFile.FieldType.long)) := by
    intro As M r h
    obtain ⟨v0, t0, rfl, g0⟩ := fe_tL_d h
    obtain ⟨v1, t1, rfl, g1⟩ := fe_tI_d g0
    obtain ⟨v2, t2, rfl, g2⟩ := fe_tI_d g1
    obtain ⟨rfl, hz⟩ := fe_t0_d g2
    exact zX102_bits K l v0 v1 v2 M r hz
  have o3 : fs_OS (sX84_translate (FX88_holds n) (FX84_walk n) FX102_bits FX85_writes) 3 2 (fs_Con (fk_E s0 H0 oa D) l 2 ⟨"BoardMachine$TableWords", "writes", "(J)J"⟩ prog_94_method_5_code 3 (Option.some Jvm.ClassFile.FieldType.long)) := by
    intro As M r h
    obtain ⟨v0, t0, rfl, g0⟩ := fe_tR_d h
    obtain ⟨v1, t1, rfl, g1⟩ := fe_tL_d g0
    obtain ⟨rfl, hz⟩ := fe_t0_d g1
    exact zX85_writes K l v0 v1 M r hz
  refine fs_method (own := "BoardMachine$Walks$Translator") rfl (by decide) K.2.1 (by rw [fe_slen]; exact (Nat.le_of_ble_eq_true rfl)) (mX84_translate n a0 a1 a3 a4 M r h) (hX84_translate n) n rfl (L0 := [(0, .ref a0), (1, .long a1), (3, .int a3), (4, .int a4)]) (fun E => fe_args_e E [.ref a0, .long a1, .int a3, .int a4] 0) ((eX84_translate (FX84_translate_0 n (FX84_translate_L267 n n)) (FX84_translate_121 n (FX84_translate_L267 n n)) (FX84_translate_122 n (FX84_translate_L267 n n)) (FX84_translate_155 n (FX84_translate_L267 n n)) (FX84_translate_179 n (FX84_translate_L267 n n)) (FX84_translate_321 n (FX84_translate_L267 n n)) (FX84_translate_L267 n n) a0 a1 a3 a4 M).trans h) (fe_kl_k r) (fun H hR => fs_nr_o (by decide) (by decide)) ?_
  intro p e s m args below meth c Q C hnm
  have hw : s0.WarmedH s.vm := C.2.2.2.2.1
  refine fe_all C fk_hwr cX84_translate [7, 18, 31, 41, 49, 60, 69, 79, 83, 92, 96, 104, 108, 111, 132, 135, 143, 150, 160, 179, 184, 194, 200, 207, 213, 216, 222, 225, 231, 234, 237, 248, 252, 258, 261, 270, 278, 284, 293, 299, 303, 309] (by decide +kernel) (fe_fil (cps := [(7, 10, .getfield 1220915566), (18, 21, .jsr_w (5)), (31, 34, .jsr_w (63)), (41, 44, .getfield 1128628579), (49, 52, .getfield 1132822881), (60, 63, .getfield 1137017184), (69, 72, .getfield 1141211488), (79, 82, .getfield 1145405793), (83, 86, .getfield 1212526957), (92, 95, .getfield 1149600096), (96, 99, .getfield 1216721260), (104, 107, .getfield 1153794400), (108, 111, .getfield 1208332654), (111, 114, .getfield 1195745640), (132, 135, .getfield 1204138350), (135, 138, .invokevirtual 9527384), (143, 146, .getfield 1157988705), (150, 153, .invokestatic 142), (160, 163, .invokevirtual 86076507), (179, 182, .putfield 1128628579), (184, 187, .getfield 1128628579), (194, 197, .putfield 1132822881), (200, 203, .putfield 1137017184), (207, 210, .putfield 1141211488), (213, 216, .getfield 1212526957), (216, 219, .putfield 1145405793), (222, 225, .getfield 1216721260), (225, 228, .putfield 1149600096), (231, 234, .getfield 1208332654), (234, 237, .getfield 1195745640), (237, 240, .putfield 1153794400), (248, 251, .invokestatic 142), (252, 255, .putfield 1157988705), (258, 261, .getfield 1233498476), (261, 264, .putfield 1162183008), (270, 273, .getfield 1233498476), (278, 281, .getfield 1166377314), (284, 287, .getfield 1237692782), (293, 296, .getfield 1170571618), (299, 302, .getfield 1204138350), (303, 306, .getfield 1237692782), (309, 314, .invokeinterface 0 0)]) (by decide +kernel) ?_)
  refine fs_c1 (fs_getf (pc := 7) (n := 1220915566) (idx := 26) (ref := "BoardMachine$Walks$Translator") (O := "BoardMachine$Walks$Translator") (name := "kept") (desc := "[LBoardMachine$Walks$Kept;") C (by decide +kernel) (Or.inl (kw K hw q2026)) (fun _ h => h) (Nat.le_of_ble_eq_true rfl) (Nat.le_of_ble_eq_true rfl) (fs_one (⟨_, ff_91_291 s0 H0 oa D⟩))) ?_
  refine fs_c1 (fs_ldcl (pc := 18) (idx := 62) (v := 5) C (by decide +kernel) (kw K hw q2996)) ?_
  refine fs_c1 (fs_ldcl (pc := 31) (idx := 64) (v := 63) C (by decide +kernel) (kw K hw q2997)) ?_
  refine fs_c1 (fs_getf (pc := 41) (n := 1128628579) (idx := 39) (ref := "BoardMachine$Walks$Kept") (O := "BoardMachine$Walks$Kept") (name := "is") (desc := "Z") C (by decide +kernel) (Or.inr ⟨_, kF K hw q1981⟩) (fun _ h => h) (Nat.le_of_ble_eq_true rfl) (Nat.le_of_ble_eq_true rfl) (fs_one (⟨_, ff_88_269 s0 H0 oa D⟩))) ?_
  refine fs_c1 (fs_getf (pc := 49) (n := 1132822881) (idx := 66) (ref := "BoardMachine$Walks$Kept") (O := "BoardMachine$Walks$Kept") (name := "page") (desc := "J") C (by decide +kernel) (Or.inr ⟨_, kF K hw q1982⟩) (fun _ h => h) (Nat.le_of_ble_eq_true rfl) (Nat.le_of_ble_eq_true rfl) (fs_one (⟨_, ff_88_270 s0 H0 oa D⟩))) ?_
  refine fs_c1 (fs_getf (pc := 60) (n := 1137017184) (idx := 69) (ref := "BoardMachine$Walks$Kept") (O := "BoardMachine$Walks$Kept") (name := "access") (desc := "I") C (by decide +kernel) (Or.inr ⟨_, kF K hw q1983⟩) (fun _ h => h) (Nat.le_of_ble_eq_true rfl) (Nat.le_of_ble_eq_true rfl) (fs_one (⟨_, ff_88_271 s0 H0 oa D⟩))) ?_
  refine fs_c1 (fs_getf (pc := 69) (n := 1141211488) (idx := 73) (ref := "BoardMachine$Walks$Kept") (O := "BoardMachine$Walks$Kept") (name := "mode") (desc := "I") C (by decide +kernel) (Or.inr ⟨_, kF K hw q1984⟩) (fun _ h => h) (Nat.le_of_ble_eq_true rfl) (Nat.le_of_ble_eq_true rfl) (fs_one (⟨_, ff_88_272 s0 H0 oa D⟩))) ?_
  refine fs_c1 (fs_getf (pc := 79) (n := 1145405793) (idx := 76) (ref := "BoardMachine$Walks$Kept") (O := "BoardMachine$Walks$Kept") (name := "table") (desc := "J") C (by decide +kernel) (Or.inr ⟨_, kF K hw q1985⟩) (fun _ h => h) (Nat.le_of_ble_eq_true rfl) (Nat.le_of_ble_eq_true rfl) (fs_one (⟨_, ff_88_273 s0 H0 oa D⟩))) ?_
  refine fs_c1 (fs_getf (pc := 83) (n := 1212526957) (idx := 43) (ref := "BoardMachine$Walks$Translator") (O := "BoardMachine$Walks$Translator") (name := "table") (desc := "J") C (by decide +kernel) (Or.inl (kw K hw q2022)) (fun _ h => h) (Nat.le_of_ble_eq_true rfl) (Nat.le_of_ble_eq_true rfl) (fs_one (⟨_, ff_91_289 s0 H0 oa D⟩))) ?_
  refine fs_c1 (fs_getf (pc := 92) (n := 1149600096) (idx := 77) (ref := "BoardMachine$Walks$Kept") (O := "BoardMachine$Walks$Kept") (name := "rights") (desc := "I") C (by decide +kernel) (Or.inr ⟨_, kF K hw q1986⟩) (fun _ h => h) (Nat.le_of_ble_eq_true rfl) (Nat.le_of_ble_eq_true rfl) (fs_one (⟨_, ff_88_274 s0 H0 oa D⟩))) ?_
  refine fs_c1 (fs_getf (pc := 96) (n := 1216721260) (idx := 80) (ref := "BoardMachine$Walks$Translator") (O := "BoardMachine$Walks$Translator") (name := "rights") (desc := "I") C (by decide +kernel) (Or.inl (kw K hw q2024)) (fun _ h => h) (Nat.le_of_ble_eq_true rfl) (Nat.le_of_ble_eq_true rfl) (fs_one (⟨_, ff_91_290 s0 H0 oa D⟩))) ?_
  refine fs_c1 (fs_getf (pc := 104) (n := 1153794400) (idx := 81) (ref := "BoardMachine$Walks$Kept") (O := "BoardMachine$Walks$Kept") (name := "version") (desc := "I") C (by decide +kernel) (Or.inr ⟨_, kF K hw q1987⟩) (fun _ h => h) (Nat.le_of_ble_eq_true rfl) (Nat.le_of_ble_eq_true rfl) (fs_one (⟨_, ff_88_275 s0 H0 oa D⟩))) ?_
  refine fs_c1 (fs_getf (pc := 108) (n := 1208332654) (idx := 20) (ref := "BoardMachine$Walks$Translator") (O := "BoardMachine$Walks$Translator") (name := "regions") (desc := "LBoardMachine$Walks$Regions;") C (by decide +kernel) (Or.inl (kw K hw q2020)) (fun _ h => h) (Nat.le_of_ble_eq_true rfl) (Nat.le_of_ble_eq_true rfl) (fs_one (⟨_, ff_91_288 s0 H0 oa D⟩))) ?_
  refine fs_c1 (fs_getf (pc := 111) (n := 1195745640) (idx := 84) (ref := "BoardMachine$Walks$Regions") (O := "BoardMachine$Walks$Regions") (name := "version") (desc := "I") C (by decide +kernel) (Or.inr ⟨_, kF K hw q1968⟩) (fun _ h => h) (Nat.le_of_ble_eq_true rfl) (Nat.le_of_ble_eq_true rfl) (fs_one (⟨_, ff_90_285 s0 H0 oa D⟩))) ?_
  refine fs_c1 (fs_getf (pc := 132) (n := 1204138350) (idx := 34) (ref := "BoardMachine$Walks$Translator") (O := "BoardMachine$Walks$Translator") (name := "words") (desc := "LBoardMachine$Walks$Words;") C (by decide +kernel) (Or.inl (kw K hw q2019)) (fun _ h => h) (Nat.le_of_ble_eq_true rfl) (Nat.le_of_ble_eq_true rfl) (fs_one (⟨_, ff_91_287 s0 H0 oa D⟩))) ?_
  refine fs_c1 (fs_inv_virtual (pc := 135) (n := 9527384) C (Nat.le_of_ble_eq_true rfl) (Nat.le_of_ble_eq_true rfl) (fs_lk_virtual (idx := 85) (y := ⟨"BoardMachine$Walks$Kept", "holds", "(LBoardMachine$Walks$Words;)Z"⟩) (bytes := prog_103_method_2_code) (maxL := 3) (rt := (Option.some Jvm.ClassFile.FieldType.boolean)) (d := 3) C (Nat.le_of_ble_eq_true rfl) (Nat.le_of_ble_eq_true rfl) (by decide +kernel) (kw K hw q3001) (kw K hw q399) (kw K hw q2999) (Or.inl (kw K hw q2998)) ⟨by decide, by decide⟩ rfl (Nat.le_of_ble_eq_true rfl) (Nat.le_of_ble_eq_true rfl) (fs_one (⟨_, rfl, kw K hw q3000⟩))) fs_con_mono o0) ?_
  refine fs_c1 (fs_getf (pc := 143) (n := 1157988705) (idx := 89) (ref := "BoardMachine$Walks$Kept") (O := "BoardMachine$Walks$Kept") (name := "base") (desc := "J") C (by decide +kernel) (Or.inr ⟨_, kF K hw q1988⟩) (fun _ h => h) (Nat.le_of_ble_eq_true rfl) (Nat.le_of_ble_eq_true rfl) (fs_one (⟨_, ff_88_276 s0 H0 oa D⟩))) ?_
  refine fs_c1 (fs_inv_static (pc := 150) (n := 142) C (fs_lk_static (idx := 47) (y := ⟨"BoardMachine$Walks", "bits", "(JII)J"⟩) (bytes := prog_102_method_2_code) (maxL := 4) (rt := (Option.some Jvm.ClassFile.FieldType.long)) (d := 1) C (by decide +kernel) (kw K hw q2987) (kw K hw q427) (kw K hw q2986) (Or.inr ⟨_, kM K hw q2985⟩) ⟨by decide, by decide⟩ rfl (Nat.le_of_ble_eq_true rfl) (Nat.le_of_ble_eq_true rfl)) fs_con_mono o2) ?_
  refine fs_c1 (fs_inv_virtual (pc := 160) (n := 86076507) C (Nat.le_of_ble_eq_true rfl) (Nat.le_of_ble_eq_true rfl) (fs_lk_virtual (idx := 92) (y := ⟨"BoardMachine$Walks$Translator", "walk", "(JII)J"⟩) (bytes := prog_107_method_6_code) (maxL := 11) (rt := (Option.some Jvm.ClassFile.FieldType.long)) (d := 6) C (Nat.le_of_ble_eq_true rfl) (Nat.le_of_ble_eq_true rfl) (by decide +kernel) (kw K hw q3016) (kw K hw q395) (kw K hw q3015) (Or.inl (kw K hw q3013)) ⟨by decide, by decide⟩ rfl (Nat.le_of_ble_eq_true rfl) (Nat.le_of_ble_eq_true rfl) (fs_one (⟨_, rfl, kw K hw qs45⟩))) fs_con_mono o1) ?_
  refine fs_c1 (fs_putf (pc := 179) (n := 1128628579) (idx := 39) (ref := "BoardMachine$Walks$Kept") (O := "BoardMachine$Walks$Kept") (name := "is") (desc := "Z") (fin := false) (ty := .boolean) C (by decide +kernel) (Or.inl ⟨rfl, Or.inr ⟨_, kF K hw q1981⟩⟩) (fun _ h => h) (Nat.le_of_ble_eq_true rfl) (Nat.le_of_ble_eq_true rfl) (Nat.le_of_ble_eq_true rfl) rfl rfl (by decide) (fs_one (⟨rfl, ff_88_269 s0 H0 oa D⟩))) ?_
  refine fs_c1 (fs_getf (pc := 184) (n := 1128628579) (idx := 39) (ref := "BoardMachine$Walks$Kept") (O := "BoardMachine$Walks$Kept") (name := "is") (desc := "Z") C (by decide +kernel) (Or.inr ⟨_, kF K hw q1981⟩) (fun _ h => h) (Nat.le_of_ble_eq_true rfl) (Nat.le_of_ble_eq_true rfl) (fs_one (⟨_, ff_88_269 s0 H0 oa D⟩))) ?_
  refine fs_c1 (fs_putf (pc := 194) (n := 1132822881) (idx := 66) (ref := "BoardMachine$Walks$Kept") (O := "BoardMachine$Walks$Kept") (name := "page") (desc := "J") (fin := false) (ty := .long) C (by decide +kernel) (Or.inl ⟨rfl, Or.inr ⟨_, kF K hw q1982⟩⟩) (fun _ h => h) (Nat.le_of_ble_eq_true rfl) (Nat.le_of_ble_eq_true rfl) (Nat.le_of_ble_eq_true rfl) rfl rfl (by decide) (fs_one (⟨rfl, ff_88_270 s0 H0 oa D⟩))) ?_
  refine fs_c1 (fs_putf (pc := 200) (n := 1137017184) (idx := 69) (ref := "BoardMachine$Walks$Kept") (O := "BoardMachine$Walks$Kept") (name := "access") (desc := "I") (fin := false) (ty := .int) C (by decide +kernel) (Or.inl ⟨rfl, Or.inr ⟨_, kF K hw q1983⟩⟩) (fun _ h => h) (Nat.le_of_ble_eq_true rfl) (Nat.le_of_ble_eq_true rfl) (Nat.le_of_ble_eq_true rfl) rfl rfl (by decide) (fs_one (⟨rfl, ff_88_271 s0 H0 oa D⟩))) ?_
  refine fs_c1 (fs_putf (pc := 207) (n := 1141211488) (idx := 73) (ref := "BoardMachine$Walks$Kept") (O := "BoardMachine$Walks$Kept") (name := "mode") (desc := "I") (fin := false) (ty := .int) C (by decide +kernel) (Or.inl ⟨rfl, Or.inr ⟨_, kF K hw q1984⟩⟩) (fun _ h => h) (Nat.le_of_ble_eq_true rfl) (Nat.le_of_ble_eq_true rfl) (Nat.le_of_ble_eq_true rfl) rfl rfl (by decide) (fs_one (⟨rfl, ff_88_272 s0 H0 oa D⟩))) ?_
  refine fs_c1 (fs_getf (pc := 213) (n := 1212526957) (idx := 43) (ref := "BoardMachine$Walks$Translator") (O := "BoardMachine$Walks$Translator") (name := "table") (desc := "J") C (by decide +kernel) (Or.inl (kw K hw q2022)) (fun _ h => h) (Nat.le_of_ble_eq_true rfl) (Nat.le_of_ble_eq_true rfl) (fs_one (⟨_, ff_91_289 s0 H0 oa D⟩))) ?_
  refine fs_c1 (fs_putf (pc := 216) (n := 1145405793) (idx := 76) (ref := "BoardMachine$Walks$Kept") (O := "BoardMachine$Walks$Kept") (name := "table") (desc := "J") (fin := false) (ty := .long) C (by decide +kernel) (Or.inl ⟨rfl, Or.inr ⟨_, kF K hw q1985⟩⟩) (fun _ h => h) (Nat.le_of_ble_eq_true rfl) (Nat.le_of_ble_eq_true rfl) (Nat.le_of_ble_eq_true rfl) rfl rfl (by decide) (fs_one (⟨rfl, ff_88_273 s0 H0 oa D⟩))) ?_
  refine fs_c1 (fs_getf (pc := 222) (n := 1216721260) (idx := 80) (ref := "BoardMachine$Walks$Translator") (O := "BoardMachine$Walks$Translator") (name := "rights") (desc := "I") C (by decide +kernel) (Or.inl (kw K hw q2024)) (fun _ h => h) (Nat.le_of_ble_eq_true rfl) (Nat.le_of_ble_eq_true rfl) (fs_one (⟨_, ff_91_290 s0 H0 oa D⟩))) ?_
  refine fs_c1 (fs_putf (pc := 225) (n := 1149600096) (idx := 77) (ref := "BoardMachine$Walks$Kept") (O := "BoardMachine$Walks$Kept") (name := "rights") (desc := "I") (fin := false) (ty := .int) C (by decide +kernel) (Or.inl ⟨rfl, Or.inr ⟨_, kF K hw q1986⟩⟩) (fun _ h => h) (Nat.le_of_ble_eq_true rfl) (Nat.le_of_ble_eq_true rfl) (Nat.le_of_ble_eq_true rfl) rfl rfl (by decide) (fs_one (⟨rfl, ff_88_274 s0 H0 oa D⟩))) ?_
  refine fs_c1 (fs_getf (pc := 231) (n := 1208332654) (idx := 20) (ref := "BoardMachine$Walks$Translator") (O := "BoardMachine$Walks$Translator") (name := "regions") (desc := "LBoardMachine$Walks$Regions;") C (by decide +kernel) (Or.inl (kw K hw q2020)) (fun _ h => h) (Nat.le_of_ble_eq_true rfl) (Nat.le_of_ble_eq_true rfl) (fs_one (⟨_, ff_91_288 s0 H0 oa D⟩))) ?_
  refine fs_c1 (fs_getf (pc := 234) (n := 1195745640) (idx := 84) (ref := "BoardMachine$Walks$Regions") (O := "BoardMachine$Walks$Regions") (name := "version") (desc := "I") C (by decide +kernel) (Or.inr ⟨_, kF K hw q1968⟩) (fun _ h => h) (Nat.le_of_ble_eq_true rfl) (Nat.le_of_ble_eq_true rfl) (fs_one (⟨_, ff_90_285 s0 H0 oa D⟩))) ?_
  refine fs_c1 (fs_putf (pc := 237) (n := 1153794400) (idx := 81) (ref := "BoardMachine$Walks$Kept") (O := "BoardMachine$Walks$Kept") (name := "version") (desc := "I") (fin := false) (ty := .int) C (by decide +kernel) (Or.inl ⟨rfl, Or.inr ⟨_, kF K hw q1987⟩⟩) (fun _ h => h) (Nat.le_of_ble_eq_true rfl) (Nat.le_of_ble_eq_true rfl) (Nat.le_of_ble_eq_true rfl) rfl rfl (by decide) (fs_one (⟨rfl, ff_88_275 s0 H0 oa D⟩))) ?_
  refine fs_c1 (fs_inv_static (pc := 248) (n := 142) C (fs_lk_static (idx := 47) (y := ⟨"BoardMachine$Walks", "bits", "(JII)J"⟩) (bytes := prog_102_method_2_code) (maxL := 4) (rt := (Option.some Jvm.ClassFile.FieldType.long)) (d := 1) C (by decide +kernel) (kw K hw q2987) (kw K hw q427) (kw K hw q2986) (Or.inr ⟨_, kM K hw q2985⟩) ⟨by decide, by decide⟩ rfl (Nat.le_of_ble_eq_true rfl) (Nat.le_of_ble_eq_true rfl)) fs_con_mono o2) ?_
  refine fs_c1 (fs_putf (pc := 252) (n := 1157988705) (idx := 89) (ref := "BoardMachine$Walks$Kept") (O := "BoardMachine$Walks$Kept") (name := "base") (desc := "J") (fin := false) (ty := .long) C (by decide +kernel) (Or.inl ⟨rfl, Or.inr ⟨_, kF K hw q1988⟩⟩) (fun _ h => h) (Nat.le_of_ble_eq_true rfl) (Nat.le_of_ble_eq_true rfl) (Nat.le_of_ble_eq_true rfl) rfl rfl (by decide) (fs_one (⟨rfl, ff_88_276 s0 H0 oa D⟩))) ?_
  refine fs_c1 (fs_getf (pc := 258) (n := 1233498476) (idx := 95) (ref := "BoardMachine$Walks$Translator") (O := "BoardMachine$Walks$Translator") (name := "depth") (desc := "I") C (by decide +kernel) (Or.inl (kw K hw q2029)) (fun _ h => h) (Nat.le_of_ble_eq_true rfl) (Nat.le_of_ble_eq_true rfl) (fs_one (⟨_, ff_91_294 s0 H0 oa D⟩))) ?_
  refine fs_c1 (fs_putf (pc := 261) (n := 1162183008) (idx := 98) (ref := "BoardMachine$Walks$Kept") (O := "BoardMachine$Walks$Kept") (name := "depth") (desc := "I") (fin := false) (ty := .int) C (by decide +kernel) (Or.inl ⟨rfl, Or.inr ⟨_, kF K hw q1990⟩⟩) (fun _ h => h) (Nat.le_of_ble_eq_true rfl) (Nat.le_of_ble_eq_true rfl) (Nat.le_of_ble_eq_true rfl) rfl rfl (by decide) (fs_one (⟨rfl, ff_88_277 s0 H0 oa D⟩))) ?_
  refine fs_c1 (fs_getf (pc := 270) (n := 1233498476) (idx := 95) (ref := "BoardMachine$Walks$Translator") (O := "BoardMachine$Walks$Translator") (name := "depth") (desc := "I") C (by decide +kernel) (Or.inl (kw K hw q2029)) (fun _ h => h) (Nat.le_of_ble_eq_true rfl) (Nat.le_of_ble_eq_true rfl) (fs_one (⟨_, ff_91_294 s0 H0 oa D⟩))) ?_
  refine fs_c1 (fs_getf (pc := 278) (n := 1166377314) (idx := 99) (ref := "BoardMachine$Walks$Kept") (O := "BoardMachine$Walks$Kept") (name := "entries") (desc := "[J") C (by decide +kernel) (Or.inr ⟨_, kF K hw q1992⟩) (fun _ h => h) (Nat.le_of_ble_eq_true rfl) (Nat.le_of_ble_eq_true rfl) (fs_one (⟨_, ff_88_278 s0 H0 oa D⟩))) ?_
  refine fs_c1 (fs_getf (pc := 284) (n := 1237692782) (idx := 30) (ref := "BoardMachine$Walks$Translator") (O := "BoardMachine$Walks$Translator") (name := "trace") (desc := "[J") C (by decide +kernel) (Or.inl (kw K hw q2030)) (fun _ h => h) (Nat.le_of_ble_eq_true rfl) (Nat.le_of_ble_eq_true rfl) (fs_one (⟨_, ff_91_295 s0 H0 oa D⟩))) ?_
  refine fs_c1 (fs_getf (pc := 293) (n := 1170571618) (idx := 102) (ref := "BoardMachine$Walks$Kept") (O := "BoardMachine$Walks$Kept") (name := "writes") (desc := "[J") C (by decide +kernel) (Or.inr ⟨_, kF K hw q1994⟩) (fun _ h => h) (Nat.le_of_ble_eq_true rfl) (Nat.le_of_ble_eq_true rfl) (fs_one (⟨_, ff_88_279 s0 H0 oa D⟩))) ?_
  refine fs_c1 (fs_getf (pc := 299) (n := 1204138350) (idx := 34) (ref := "BoardMachine$Walks$Translator") (O := "BoardMachine$Walks$Translator") (name := "words") (desc := "LBoardMachine$Walks$Words;") C (by decide +kernel) (Or.inl (kw K hw q2019)) (fun _ h => h) (Nat.le_of_ble_eq_true rfl) (Nat.le_of_ble_eq_true rfl) (fs_one (⟨_, ff_91_287 s0 H0 oa D⟩))) ?_
  refine fs_c1 (fs_getf (pc := 303) (n := 1237692782) (idx := 30) (ref := "BoardMachine$Walks$Translator") (O := "BoardMachine$Walks$Translator") (name := "trace") (desc := "[J") C (by decide +kernel) (Or.inl (kw K hw q2030)) (fun _ h => h) (Nat.le_of_ble_eq_true rfl) (Nat.le_of_ble_eq_true rfl) (fs_one (⟨_, ff_91_295 s0 H0 oa D⟩))) ?_
  refine fs_c1 (fs_inv_table (pc := 309) (nx := 314) (i := 0) (k := 0) C rfl (List.forall_mem_cons.mpr ⟨⟨(Nat.le_of_ble_eq_true rfl), (Nat.le_of_ble_eq_true rfl), _, fs_lk_face (idx := 105) (cnt := 3) (x := ⟨"BoardMachine$Walks$Words", "writes", "(J)J"⟩) (y := ⟨"BoardMachine$TableWords", "writes", "(J)J"⟩) (bytes := prog_94_method_5_code) (maxL := 3) (rt := (Option.some Jvm.ClassFile.FieldType.long)) (d := 2) C (Nat.le_of_ble_eq_true rfl) (Nat.le_of_ble_eq_true rfl) (by decide +kernel) (kw K hw q3011) (kw K hw q396) (kw K hw q3009) (kw K hw q3091) (kFw (C := "BoardMachine$TableWords") (x := ⟨"BoardMachine$Walks$Words", "writes", "(J)J"⟩) (y := ⟨"BoardMachine$TableWords", "writes", "(J)J"⟩) (args := args) K hw ⟨by decide, by decide⟩ q3005 q3004 q3010 q3008 q3006).1 (kFw (C := "BoardMachine$TableWords") (x := ⟨"BoardMachine$Walks$Words", "writes", "(J)J"⟩) (y := ⟨"BoardMachine$TableWords", "writes", "(J)J"⟩) (args := args) K hw ⟨by decide, by decide⟩ q3005 q3004 q3010 q3008 q3006).2.1 (kFw (C := "BoardMachine$TableWords") (x := ⟨"BoardMachine$Walks$Words", "writes", "(J)J"⟩) (y := ⟨"BoardMachine$TableWords", "writes", "(J)J"⟩) (args := args) K hw ⟨by decide, by decide⟩ q3005 q3004 q3010 q3008 q3006).2.2.1 ⟨by decide, by decide⟩ rfl (Nat.le_of_ble_eq_true rfl) (Nat.le_of_ble_eq_true rfl) (fs_one ⟨_, rfl, kw K hw q3007, (kFw (C := "BoardMachine$TableWords") (x := ⟨"BoardMachine$Walks$Words", "writes", "(J)J"⟩) (y := ⟨"BoardMachine$TableWords", "writes", "(J)J"⟩) (args := args) K hw ⟨by decide, by decide⟩ q3005 q3004 q3010 q3008 q3006).2.2.2.1, (kFw (C := "BoardMachine$TableWords") (x := ⟨"BoardMachine$Walks$Words", "writes", "(J)J"⟩) (y := ⟨"BoardMachine$TableWords", "writes", "(J)J"⟩) (args := args) K hw ⟨by decide, by decide⟩ q3005 q3004 q3010 q3008 q3006).2.2.2.2⟩), fs_con_mono, o3⟩, List.forall_mem_nil _⟩)) ?_
  exact fs_c0
theorem hX84_find (n : Nat) : fe_H (sX84_find FX102_bits FX84_fault (FX84_translate n) (FX86_let n)) cX84_find [0, 21, 40, 55, 79, 90] fe_kl [] 55 (fun _ => dX84_find (FX84_find_0 n) (FX84_find_21 n) (FX84_find_40 n) (FX84_find_55 n) (FX84_find_79 n) (FX84_find_90 n)) := by
  intro j pc L st M r hc h
  rcases fe_mem_c hc with rfl | hc
  · obtain ⟨w0, m0, h⟩ := fe_lR_d h
    obtain ⟨w1, m1, h⟩ := fe_lL_d h
    obtain ⟨w3, m3, h⟩ := fe_lI_d h
    obtain ⟨w4, m4, h⟩ := fe_lI_d h
    obtain ⟨w5, m5, h⟩ := fe_lI_d h
    obtain ⟨rfl, hz⟩ := fe_t0_d h
    exact ⟨[(0, .ref w0), (1, .long w1), (3, .int w3), (4, .int w4), (5, .int w5)], (fe_cs m0 (fe_cs m1 (fe_cs m3 (fe_cs m4 (fe_cs m5 fe_nl))))), Or.inr ((bX84_find_0 FX102_bits FX84_fault (FX84_translate n) (FX86_let n) (FX84_find_0 n ) (FX84_find_21 n ) (FX84_find_40 n ) (FX84_find_55 n ) (FX84_find_79 n ) (FX84_find_90 n ) w0 w1 w3 w4 w5 M).symm.trans hz)⟩
  rcases fe_mem_c hc with rfl | hc
  · obtain ⟨w0, m0, h⟩ := fe_lR_d h
    obtain ⟨w1, m1, h⟩ := fe_lL_d h
    obtain ⟨w3, m3, h⟩ := fe_lI_d h
    obtain ⟨w4, m4, h⟩ := fe_lI_d h
    obtain ⟨w5, m5, h⟩ := fe_lI_d h
    obtain ⟨rfl, hz⟩ := fe_t0_d h
    exact ⟨[(0, .ref w0), (1, .long w1), (3, .int w3), (4, .int w4), (5, .int w5)], (fe_cs m0 (fe_cs m1 (fe_cs m3 (fe_cs m4 (fe_cs m5 fe_nl))))), Or.inr ((bX84_find_21 FX102_bits FX84_fault (FX84_translate n) (FX86_let n) (FX84_find_0 n ) (FX84_find_21 n ) (FX84_find_40 n ) (FX84_find_55 n ) (FX84_find_79 n ) (FX84_find_90 n ) w0 w1 w3 w4 w5 M).symm.trans hz)⟩
  rcases fe_mem_c hc with rfl | hc
  · obtain ⟨w0, m0, h⟩ := fe_lR_d h
    obtain ⟨w3, m3, h⟩ := fe_lI_d h
    obtain ⟨w4, m4, h⟩ := fe_lI_d h
    obtain ⟨w5, m5, h⟩ := fe_lI_d h
    obtain ⟨s0, t0, rfl, g0⟩ := fe_tL_d h
    obtain ⟨rfl, hz⟩ := fe_t0_d g0
    exact ⟨[(0, .ref w0), (3, .int w3), (4, .int w4), (5, .int w5)], (fe_cs m0 (fe_cs m3 (fe_cs m4 (fe_cs m5 fe_nl)))), Or.inr ((bX84_find_40 FX102_bits FX84_fault (FX84_translate n) (FX86_let n) (FX84_find_0 n ) (FX84_find_21 n ) (FX84_find_40 n ) (FX84_find_55 n ) (FX84_find_79 n ) (FX84_find_90 n ) w0 w3 w4 w5 s0 M).symm.trans hz)⟩
  rcases fe_mem_c hc with rfl | hc
  · obtain ⟨w0, m0, h⟩ := fe_lR_d h
    obtain ⟨w3, m3, h⟩ := fe_lI_d h
    obtain ⟨w4, m4, h⟩ := fe_lI_d h
    obtain ⟨w5, m5, h⟩ := fe_lI_d h
    obtain ⟨w6, m6, h⟩ := fe_lL_d h
    obtain ⟨rfl, hz⟩ := fe_t0_d h
    exact ⟨[(0, .ref w0), (3, .int w3), (4, .int w4), (5, .int w5), (6, .long w6)], (fe_cs m0 (fe_cs m3 (fe_cs m4 (fe_cs m5 (fe_cs m6 fe_nl))))), Or.inr ((bX84_find_55 FX102_bits FX84_fault (FX84_translate n) (FX86_let n) (FX84_find_0 n ) (FX84_find_21 n ) (FX84_find_40 n ) (FX84_find_55 n ) (FX84_find_79 n ) (FX84_find_90 n ) w0 w3 w4 w5 w6 M).symm.trans hz)⟩
  rcases fe_mem_c hc with rfl | hc
  · obtain ⟨w6, m6, h⟩ := fe_lL_d h
    obtain ⟨rfl, hz⟩ := fe_t0_d h
    exact ⟨[(6, .long w6)], (fe_cs m6 fe_nl), Or.inr ((bX84_find_79 FX102_bits FX84_fault (FX84_translate n) (FX86_let n) (FX84_find_0 n ) (FX84_find_21 n ) (FX84_find_40 n ) (FX84_find_55 n ) (FX84_find_79 n ) (FX84_find_90 n ) w6 M).symm.trans hz)⟩
  rcases fe_mem_c hc with rfl | hc
  · obtain ⟨s0, t0, rfl, g0⟩ := fe_tL_d h
    obtain ⟨rfl, hz⟩ := fe_t0_d g0
    exact ⟨[], fe_nl, Or.inr ((bX84_find_90 FX102_bits FX84_fault (FX84_translate n) (FX86_let n) (FX84_find_0 n ) (FX84_find_21 n ) (FX84_find_40 n ) (FX84_find_55 n ) (FX84_find_79 n ) (FX84_find_90 n ) s0 M).symm.trans hz)⟩
  exact fe_mem_0 hc
theorem vX84_find (n : Nat) : fe_SB (sX84_find FX102_bits FX84_fault (FX84_translate n) (FX86_let n)) := by
  refine ⟨?_, ?_, ?_, ?_⟩
  · intro i As M r h
    exact fe_no h
  · intro i As M r h
    rcases fe_bc h with h | h
    · obtain ⟨v0, t0, rfl, g0⟩ := fe_tR_d h
      obtain ⟨v1, t1, rfl, g1⟩ := fe_tL_d g0
      obtain ⟨v2, t2, rfl, g2⟩ := fe_tI_d g1
      obtain ⟨v3, t3, rfl, g3⟩ := fe_tI_d g2
      obtain ⟨v4, t4, rfl, g4⟩ := fe_tI_d g3
      obtain ⟨rfl, hz⟩ := fe_t0_d g4
      exact mX86_let n v0 v1 v2 v3 v4 M r hz
    exact fe_no h
  · intro i As M r h
    rcases fe_bc h with h | h
    · obtain ⟨v0, t0, rfl, g0⟩ := fe_tL_d h
      obtain ⟨v1, t1, rfl, g1⟩ := fe_tI_d g0
      obtain ⟨v2, t2, rfl, g2⟩ := fe_tI_d g1
      obtain ⟨rfl, hz⟩ := fe_t0_d g2
      exact mX102_bits v0 v1 v2 M r hz
    rcases fe_bc h with h | h
    · obtain ⟨v0, t0, rfl, g0⟩ := fe_tR_d h
      obtain ⟨v1, t1, rfl, g1⟩ := fe_tI_d g0
      obtain ⟨v2, t2, rfl, g2⟩ := fe_tI_d g1
      obtain ⟨rfl, hz⟩ := fe_t0_d g2
      exact mX84_fault v0 v1 v2 M r hz
    rcases fe_bc h with h | h
    · obtain ⟨v0, t0, rfl, g0⟩ := fe_tR_d h
      obtain ⟨v1, t1, rfl, g1⟩ := fe_tL_d g0
      obtain ⟨v2, t2, rfl, g2⟩ := fe_tI_d g1
      obtain ⟨v3, t3, rfl, g3⟩ := fe_tI_d g2
      obtain ⟨rfl, hz⟩ := fe_t0_d g3
      exact mX84_translate n v0 v1 v2 v3 M r hz
    exact fe_no h
  · intro i As M r h
    exact fe_no h
theorem eX84_find (g0 : Nat → Int64 → Int32 → Int32 → Int32 → FM → Option (Int64 × FM)) (g21 : Nat → Int64 → Int32 → Int32 → Int32 → FM → Option (Int64 × FM)) (g40 : Nat → Int32 → Int32 → Int32 → Int64 → FM → Option (Int64 × FM)) (g55 : Nat → Int32 → Int32 → Int32 → Int64 → FM → Option (Int64 × FM)) (g79 : Int64 → FM → Option (Int64 × FM)) (g90 : Int64 → FM → Option (Int64 × FM)) (a0 : Nat) (a1 : Int64) (a3 : Int32) (a4 : Int32) (a5 : Int32) (M : FM) : dX84_find g0 g21 g40 g55 g79 g90 0 [(0, .ref a0), (1, .long a1), (3, .int a3), (4, .int a4), (5, .int a5)] [] M = g0 a0 a1 a3 a4 a5 M := by rfl
theorem mX84_find (n : Nat) (a0 : Nat) (a1 : Int64) (a3 : Int32) (a4 : Int32) (a5 : Int32) (M : FM) (r : Int64 × FM) (h : FX84_find n a0 a1 a3 a4 a5 M = some r) : fm_nx M ≤ fm_nx r.2 ∧ fm_ns M ≤ fm_ns r.2 :=
  fe_mono (L0 := [(0, .ref a0), (1, .long a1), (3, .int a3), (4, .int a4), (5, .int a5)]) (vX84_find n) (by decide +kernel) (hX84_find n) (fe_kl_k r) 0 rfl ((eX84_find (FX84_find_0 n ) (FX84_find_21 n ) (FX84_find_40 n ) (FX84_find_55 n ) (FX84_find_79 n ) (FX84_find_90 n ) a0 a1 a3 a4 a5 M).trans h)
theorem zX84_find {s0 : State} {H0 : Heap} {oa : Nat → Nat} {D : va_G} (K : fk s0 H0 oa D) (l : Launch) (n : Nat) (a0 : Nat) (a1 : Int64) (a3 : Int32) (a4 : Int32) (a5 : Int32) (M : FM) (r : Int64 × FM) (h : FX84_find n a0 a1 a3 a4 a5 M = some r) : fs_Con (fk_E s0 H0 oa D) l 8 ⟨"BoardMachine$Walks$Translator", "find", "(JIII)J"⟩ prog_107_method_4_code 8 (Option.some Jvm.ClassFile.FieldType.long) [.ref a0, .long a1, .int a3, .int a4, .int a5] M (some (.long r.1)) r.2 := by
  have o0 : fs_OS (sX84_find FX102_bits FX84_fault (FX84_translate n) (FX86_let n)) 0 2 (fs_Con (fk_E s0 H0 oa D) l 1 ⟨"BoardMachine$Walks", "bits", "(JII)J"⟩ prog_102_method_2_code 4 (Option.some Jvm.ClassFile.FieldType.long)) := by
    intro As M r h
    obtain ⟨v0, t0, rfl, g0⟩ := fe_tL_d h
    obtain ⟨v1, t1, rfl, g1⟩ := fe_tI_d g0
    obtain ⟨v2, t2, rfl, g2⟩ := fe_tI_d g1
    obtain ⟨rfl, hz⟩ := fe_t0_d g2
    exact zX102_bits K l v0 v1 v2 M r hz
  have o1 : fs_OS (sX84_find FX102_bits FX84_fault (FX84_translate n) (FX86_let n)) 1 2 (fs_Con (fk_E s0 H0 oa D) l 1 ⟨"BoardMachine$Walks$Translator", "fault", "(II)J"⟩ prog_107_method_3_code 3 (Option.some Jvm.ClassFile.FieldType.long)) := by
    intro As M r h
    obtain ⟨v0, t0, rfl, g0⟩ := fe_tR_d h
    obtain ⟨v1, t1, rfl, g1⟩ := fe_tI_d g0
    obtain ⟨v2, t2, rfl, g2⟩ := fe_tI_d g1
    obtain ⟨rfl, hz⟩ := fe_t0_d g2
    exact zX84_fault K l v0 v1 v2 M r hz
  have o2 : fs_OS (sX84_find FX102_bits FX84_fault (FX84_translate n) (FX86_let n)) 2 2 (fs_Con (fk_E s0 H0 oa D) l 7 ⟨"BoardMachine$Walks$Translator", "translate", "(JII)J"⟩ prog_107_method_5_code 12 (Option.some Jvm.ClassFile.FieldType.long)) := by
    intro As M r h
    obtain ⟨v0, t0, rfl, g0⟩ := fe_tR_d h
    obtain ⟨v1, t1, rfl, g1⟩ := fe_tL_d g0
    obtain ⟨v2, t2, rfl, g2⟩ := fe_tI_d g1
    obtain ⟨v3, t3, rfl, g3⟩ := fe_tI_d g2
    obtain ⟨rfl, hz⟩ := fe_t0_d g3
    exact zX84_translate K l n v0 v1 v2 v3 M r hz
  have o3 : fs_OS (sX84_find FX102_bits FX84_fault (FX84_translate n) (FX86_let n)) 3 1 (fs_Con (fk_E s0 H0 oa D) l 3 ⟨"BoardMachine$Walks$Regions", "let", "(JIII)Z"⟩ prog_105_method_6_code 10 (Option.some Jvm.ClassFile.FieldType.boolean)) := by
    intro As M r h
    obtain ⟨v0, t0, rfl, g0⟩ := fe_tR_d h
    obtain ⟨v1, t1, rfl, g1⟩ := fe_tL_d g0
    obtain ⟨v2, t2, rfl, g2⟩ := fe_tI_d g1
    obtain ⟨v3, t3, rfl, g3⟩ := fe_tI_d g2
    obtain ⟨v4, t4, rfl, g4⟩ := fe_tI_d g3
    obtain ⟨rfl, hz⟩ := fe_t0_d g4
    exact zX86_let K l n v0 v1 v2 v3 v4 M r hz
  refine fs_method (own := "BoardMachine$Walks$Translator") rfl (by decide) K.2.1 (by rw [fe_slen]; exact (Nat.le_of_ble_eq_true rfl)) (mX84_find n a0 a1 a3 a4 a5 M r h) (hX84_find n) 0 rfl (L0 := [(0, .ref a0), (1, .long a1), (3, .int a3), (4, .int a4), (5, .int a5)]) (fun E => fe_args_e E [.ref a0, .long a1, .int a3, .int a4, .int a5] 0) ((eX84_find (FX84_find_0 n ) (FX84_find_21 n ) (FX84_find_40 n ) (FX84_find_55 n ) (FX84_find_79 n ) (FX84_find_90 n ) a0 a1 a3 a4 a5 M).trans h) (fe_kl_k r) (fun H hR => fs_nr_o (by decide) (by decide)) ?_
  intro p e s m args below meth c Q C hnm
  have hw : s0.WarmedH s.vm := C.2.2.2.2.1
  refine fe_all C fk_hwr cX84_find [7, 13, 37, 50, 63, 73, 87] (by decide +kernel) (fe_fil (cps := [(7, 10, .getfield 1212526957), (13, 16, .invokestatic 14), (37, 40, .invokevirtual 81882203), (50, 53, .invokevirtual 153185371), (63, 66, .getfield 1208332654), (73, 76, .invokevirtual 223438938), (87, 90, .invokevirtual 81882203)]) (by decide +kernel) ?_)
  refine fs_c1 (fs_getf (pc := 7) (n := 1212526957) (idx := 43) (ref := "BoardMachine$Walks$Translator") (O := "BoardMachine$Walks$Translator") (name := "table") (desc := "J") C (by decide +kernel) (Or.inl (kw K hw q2022)) (fun _ h => h) (Nat.le_of_ble_eq_true rfl) (Nat.le_of_ble_eq_true rfl) (fs_one (⟨_, ff_91_289 s0 H0 oa D⟩))) ?_
  refine fs_c1 (fs_inv_static (pc := 13) (n := 14) C (fs_lk_static (idx := 47) (y := ⟨"BoardMachine$Walks", "bits", "(JII)J"⟩) (bytes := prog_102_method_2_code) (maxL := 4) (rt := (Option.some Jvm.ClassFile.FieldType.long)) (d := 1) C (by decide +kernel) (kw K hw q2987) (kw K hw q427) (kw K hw q2986) (Or.inr ⟨_, kM K hw q2985⟩) ⟨by decide, by decide⟩ rfl (Nat.le_of_ble_eq_true rfl) (Nat.le_of_ble_eq_true rfl)) fs_con_mono o0) ?_
  refine fs_c1 (fs_inv_virtual (pc := 37) (n := 81882203) C (Nat.le_of_ble_eq_true rfl) (Nat.le_of_ble_eq_true rfl) (fs_lk_virtual (idx := 51) (y := ⟨"BoardMachine$Walks$Translator", "fault", "(II)J"⟩) (bytes := prog_107_method_3_code) (maxL := 3) (rt := (Option.some Jvm.ClassFile.FieldType.long)) (d := 1) C (Nat.le_of_ble_eq_true rfl) (Nat.le_of_ble_eq_true rfl) (by decide +kernel) (kw K hw q2991) (kw K hw q395) (kw K hw q2990) (Or.inl (kw K hw q2988)) ⟨by decide, by decide⟩ rfl (Nat.le_of_ble_eq_true rfl) (Nat.le_of_ble_eq_true rfl) (fs_one (⟨_, rfl, kw K hw qs43⟩))) fs_con_mono o1) ?_
  refine fs_c1 (fs_inv_virtual (pc := 50) (n := 153185371) C (Nat.le_of_ble_eq_true rfl) (Nat.le_of_ble_eq_true rfl) (fs_lk_virtual (idx := 55) (y := ⟨"BoardMachine$Walks$Translator", "translate", "(JII)J"⟩) (bytes := prog_107_method_5_code) (maxL := 12) (rt := (Option.some Jvm.ClassFile.FieldType.long)) (d := 7) C (Nat.le_of_ble_eq_true rfl) (Nat.le_of_ble_eq_true rfl) (by decide +kernel) (kw K hw q2995) (kw K hw q395) (kw K hw q2994) (Or.inl (kw K hw q2992)) ⟨by decide, by decide⟩ rfl (Nat.le_of_ble_eq_true rfl) (Nat.le_of_ble_eq_true rfl) (fs_one (⟨_, rfl, kw K hw qs44⟩))) fs_con_mono o2) ?_
  refine fs_c1 (fs_getf (pc := 63) (n := 1208332654) (idx := 20) (ref := "BoardMachine$Walks$Translator") (O := "BoardMachine$Walks$Translator") (name := "regions") (desc := "LBoardMachine$Walks$Regions;") C (by decide +kernel) (Or.inl (kw K hw q2020)) (fun _ h => h) (Nat.le_of_ble_eq_true rfl) (Nat.le_of_ble_eq_true rfl) (fs_one (⟨_, ff_91_288 s0 H0 oa D⟩))) ?_
  refine fs_c1 (fs_inv_virtual (pc := 73) (n := 223438938) C (Nat.le_of_ble_eq_true rfl) (Nat.le_of_ble_eq_true rfl) (fs_lk_virtual (idx := 58) (y := ⟨"BoardMachine$Walks$Regions", "let", "(JIII)Z"⟩) (bytes := prog_105_method_6_code) (maxL := 10) (rt := (Option.some Jvm.ClassFile.FieldType.boolean)) (d := 3) C (Nat.le_of_ble_eq_true rfl) (Nat.le_of_ble_eq_true rfl) (by decide +kernel) (kw K hw q3037) (kw K hw q397) (kw K hw q3035) (Or.inl (kw K hw q3034)) ⟨by decide, by decide⟩ rfl (Nat.le_of_ble_eq_true rfl) (Nat.le_of_ble_eq_true rfl) (fs_one (⟨_, rfl, kw K hw q3036⟩))) fs_con_mono o3) ?_
  refine fs_c1 (fs_inv_virtual (pc := 87) (n := 81882203) C (Nat.le_of_ble_eq_true rfl) (Nat.le_of_ble_eq_true rfl) (fs_lk_virtual (idx := 51) (y := ⟨"BoardMachine$Walks$Translator", "fault", "(II)J"⟩) (bytes := prog_107_method_3_code) (maxL := 3) (rt := (Option.some Jvm.ClassFile.FieldType.long)) (d := 1) C (Nat.le_of_ble_eq_true rfl) (Nat.le_of_ble_eq_true rfl) (by decide +kernel) (kw K hw q2991) (kw K hw q395) (kw K hw q2990) (Or.inl (kw K hw q2988)) ⟨by decide, by decide⟩ rfl (Nat.le_of_ble_eq_true rfl) (Nat.le_of_ble_eq_true rfl) (fs_one (⟨_, rfl, kw K hw qs43⟩))) fs_con_mono o1) ?_
  exact fs_c0
theorem hX46_find (n : Nat) : fe_H (sX46_find FX46_table (FX84_find n)) cX46_find [0] fe_kl [] 31 (fun _ => dX46_find (FX46_find_0 n)) := by
  intro j pc L st M r hc h
  rcases fe_mem_c hc with rfl | hc
  · obtain ⟨w0, m0, h⟩ := fe_lR_d h
    obtain ⟨w1, m1, h⟩ := fe_lL_d h
    obtain ⟨w3, m3, h⟩ := fe_lI_d h
    obtain ⟨w4, m4, h⟩ := fe_lI_d h
    obtain ⟨w5, m5, h⟩ := fe_lI_d h
    obtain ⟨rfl, hz⟩ := fe_t0_d h
    exact ⟨[(0, .ref w0), (1, .long w1), (3, .int w3), (4, .int w4), (5, .int w5)], (fe_cs m0 (fe_cs m1 (fe_cs m3 (fe_cs m4 (fe_cs m5 fe_nl))))), Or.inr ((bX46_find_0 FX46_table (FX84_find n) (FX46_find_0 n ) w0 w1 w3 w4 w5 M).symm.trans hz)⟩
  exact fe_mem_0 hc
theorem vX46_find (n : Nat) : fe_SB (sX46_find FX46_table (FX84_find n)) := by
  refine ⟨?_, ?_, ?_, ?_⟩
  · intro i As M r h
    exact fe_no h
  · intro i As M r h
    exact fe_no h
  · intro i As M r h
    rcases fe_bc h with h | h
    · obtain ⟨v0, t0, rfl, g0⟩ := fe_tR_d h
      obtain ⟨v1, t1, rfl, g1⟩ := fe_tL_d g0
      obtain ⟨v2, t2, rfl, g2⟩ := fe_tI_d g1
      obtain ⟨v3, t3, rfl, g3⟩ := fe_tI_d g2
      obtain ⟨v4, t4, rfl, g4⟩ := fe_tI_d g3
      obtain ⟨rfl, hz⟩ := fe_t0_d g4
      exact mX84_find n v0 v1 v2 v3 v4 M r hz
    exact fe_no h
  · intro i As M r h
    rcases fe_bc h with h | h
    · obtain ⟨v0, t0, rfl, g0⟩ := fe_tR_d h
      obtain ⟨rfl, hz⟩ := fe_t0_d g0
      exact mX46_table v0 M r hz
    exact fe_no h
theorem eX46_find (g0 : Nat → Int64 → Int32 → Int32 → Int32 → FM → Option (Int64 × FM)) (a0 : Nat) (a1 : Int64) (a3 : Int32) (a4 : Int32) (a5 : Int32) (M : FM) : dX46_find g0 0 [(0, .ref a0), (1, .long a1), (3, .int a3), (4, .int a4), (5, .int a5)] [] M = g0 a0 a1 a3 a4 a5 M := by rfl
theorem mX46_find (n : Nat) (a0 : Nat) (a1 : Int64) (a3 : Int32) (a4 : Int32) (a5 : Int32) (M : FM) (r : Int64 × FM) (h : FX46_find n a0 a1 a3 a4 a5 M = some r) : fm_nx M ≤ fm_nx r.2 ∧ fm_ns M ≤ fm_ns r.2 :=
  fe_mono (L0 := [(0, .ref a0), (1, .long a1), (3, .int a3), (4, .int a4), (5, .int a5)]) (vX46_find n) (by decide +kernel) (hX46_find n) (fe_kl_k r) 0 rfl ((eX46_find (FX46_find_0 n ) a0 a1 a3 a4 a5 M).trans h)
theorem zX46_find {s0 : State} {H0 : Heap} {oa : Nat → Nat} {D : va_G} (K : fk s0 H0 oa D) (l : Launch) (n : Nat) (a0 : Nat) (a1 : Int64) (a3 : Int32) (a4 : Int32) (a5 : Int32) (M : FM) (r : Int64 × FM) (h : FX46_find n a0 a1 a3 a4 a5 M = some r) : fs_Con (fk_E s0 H0 oa D) l 9 ⟨"BoardMachine$Processor", "find", "(JIII)J"⟩ prog_86_method_9_code 6 (Option.some Jvm.ClassFile.FieldType.long) [.ref a0, .long a1, .int a3, .int a4, .int a5] M (some (.long r.1)) r.2 := by
  have o0 : fs_OS (sX46_find FX46_table (FX84_find n)) 0 3 (fs_Con (fk_E s0 H0 oa D) l 1 ⟨"BoardMachine$Processor", "table", "()LBoardMachine$Controls$Masked;"⟩ prog_86_method_5_code 1 (Option.some (Jvm.ClassFile.FieldType.object "BoardMachine$Controls$Masked"))) := by
    intro As M r h
    obtain ⟨v0, t0, rfl, g0⟩ := fe_tR_d h
    obtain ⟨rfl, hz⟩ := fe_t0_d g0
    exact zX46_table K l v0 M r hz
  have o1 : fs_OS (sX46_find FX46_table (FX84_find n)) 1 2 (fs_Con (fk_E s0 H0 oa D) l 8 ⟨"BoardMachine$Walks$Translator", "find", "(JIII)J"⟩ prog_107_method_4_code 8 (Option.some Jvm.ClassFile.FieldType.long)) := by
    intro As M r h
    obtain ⟨v0, t0, rfl, g0⟩ := fe_tR_d h
    obtain ⟨v1, t1, rfl, g1⟩ := fe_tL_d g0
    obtain ⟨v2, t2, rfl, g2⟩ := fe_tI_d g1
    obtain ⟨v3, t3, rfl, g3⟩ := fe_tI_d g2
    obtain ⟨v4, t4, rfl, g4⟩ := fe_tI_d g3
    obtain ⟨rfl, hz⟩ := fe_t0_d g4
    exact zX84_find K l n v0 v1 v2 v3 v4 M r hz
  refine fs_method (own := "BoardMachine$Processor") rfl (by decide) K.2.1 (by rw [fe_slen]; exact (Nat.le_of_ble_eq_true rfl)) (mX46_find n a0 a1 a3 a4 a5 M r h) (hX46_find n) 0 rfl (L0 := [(0, .ref a0), (1, .long a1), (3, .int a3), (4, .int a4), (5, .int a5)]) (fun E => fe_args_e E [.ref a0, .long a1, .int a3, .int a4, .int a5] 0) ((eX46_find (FX46_find_0 n ) a0 a1 a3 a4 a5 M).trans h) (fe_kl_k r) (fun H hR => fs_nr_o (by decide) (by decide)) ?_
  intro p e s m args below meth c Q C hnm
  have hw : s0.WarmedH s.vm := C.2.2.2.2.1
  refine fe_all C fk_hwr cX46_find [1, 5, 8, 11, 15, 19, 22, 25, 34, 38, 47] (by decide +kernel) (fe_fil (cps := [(1, 4, .getfield 897888558), (5, 8, .invokevirtual 7416907), (8, 11, .getfield 172023877), (11, 14, .putfield 1212526957), (15, 18, .getfield 897888558), (19, 22, .getfield 893694254), (22, 25, .getfield 113295410), (25, 28, .getfield 172032065), (34, 37, .putfield 1216721260), (38, 41, .getfield 897888558), (47, 50, .invokevirtual 90270811)]) (by decide +kernel) ?_)
  refine fs_c1 (fs_getf (pc := 1) (n := 897888558) (idx := 75) (ref := "BoardMachine$Processor") (O := "BoardMachine$Processor") (name := "walks") (desc := "LBoardMachine$Walks$Translator;") C (by decide +kernel) (Or.inl (kw K hw q2085)) (fun _ h => h) (Nat.le_of_ble_eq_true rfl) (Nat.le_of_ble_eq_true rfl) (fs_one (⟨_, ff_75_214 s0 H0 oa D⟩))) ?_
  refine fs_c1 (fs_inv_virtual (pc := 5) (n := 7416907) C (Nat.le_of_ble_eq_true rfl) (Nat.le_of_ble_eq_true rfl) (fs_lk_virtual (idx := 185) (y := ⟨"BoardMachine$Processor", "table", "()LBoardMachine$Controls$Masked;"⟩) (bytes := prog_86_method_5_code) (maxL := 1) (rt := (Option.some (Jvm.ClassFile.FieldType.object "BoardMachine$Controls$Masked"))) (d := 1) C (Nat.le_of_ble_eq_true rfl) (Nat.le_of_ble_eq_true rfl) (by decide +kernel) (kw K hw q2459) (kw K hw q357) (kw K hw q2458) (Or.inl (kw K hw q2456)) ⟨by decide, by decide⟩ rfl (Nat.le_of_ble_eq_true rfl) (Nat.le_of_ble_eq_true rfl) (fs_one (⟨_, rfl, kw K hw qs25⟩))) fs_con_mono o0) ?_
  refine fs_c1 (fs_getf (pc := 8) (n := 172023877) (idx := 163) (ref := "BoardMachine$Controls$Masked") (O := "BoardMachine$Controls$Masked") (name := "held") (desc := "J") C (by decide +kernel) (Or.inl (kw K hw q1722)) (fun _ h => h) (Nat.le_of_ble_eq_true rfl) (Nat.le_of_ble_eq_true rfl) (fs_rc (⟨_, ff_14_41 s0 H0 oa D⟩) (fs_rc (⟨_, ff_15_41 s0 H0 oa D⟩) (fs_rc (⟨_, ff_16_41 s0 H0 oa D⟩) (fs_one (⟨_, ff_17_41 s0 H0 oa D⟩)))))) ?_
  refine fs_c1 (fs_putf (pc := 11) (n := 1212526957) (idx := 252) (ref := "BoardMachine$Walks$Translator") (O := "BoardMachine$Walks$Translator") (name := "table") (desc := "J") (fin := false) (ty := .long) C (by decide +kernel) (Or.inl ⟨rfl, Or.inr ⟨_, kF K hw q2023⟩⟩) (fun _ h => h) (Nat.le_of_ble_eq_true rfl) (Nat.le_of_ble_eq_true rfl) (Nat.le_of_ble_eq_true rfl) rfl rfl (by decide) (fs_one (⟨rfl, ff_91_289 s0 H0 oa D⟩))) ?_
  refine fs_c1 (fs_getf (pc := 15) (n := 897888558) (idx := 75) (ref := "BoardMachine$Processor") (O := "BoardMachine$Processor") (name := "walks") (desc := "LBoardMachine$Walks$Translator;") C (by decide +kernel) (Or.inl (kw K hw q2085)) (fun _ h => h) (Nat.le_of_ble_eq_true rfl) (Nat.le_of_ble_eq_true rfl) (fs_one (⟨_, ff_75_214 s0 H0 oa D⟩))) ?_
  refine fs_c1 (fs_getf (pc := 19) (n := 893694254) (idx := 55) (ref := "BoardMachine$Processor") (O := "BoardMachine$Processor") (name := "controls") (desc := "LBoardMachine$Controls$ControlUnit;") C (by decide +kernel) (Or.inl (kw K hw q2082)) (fun _ h => h) (Nat.le_of_ble_eq_true rfl) (Nat.le_of_ble_eq_true rfl) (fs_one (⟨_, ff_75_213 s0 H0 oa D⟩))) ?_
  refine fs_c1 (fs_getf (pc := 22) (n := 113295410) (idx := 151) (ref := "BoardMachine$Controls$ControlUnit") (O := "BoardMachine$Controls$ControlUnit") (name := "status") (desc := "LBoardMachine$Controls$Status;") C (by decide +kernel) (Or.inr ⟨_, kF K hw q1857⟩) (fun _ h => h) (Nat.le_of_ble_eq_true rfl) (Nat.le_of_ble_eq_true rfl) (fs_one (⟨_, ff_12_27 s0 H0 oa D⟩))) ?_
  refine fs_c1 (fs_getf (pc := 25) (n := 172032065) (idx := 155) (ref := "BoardMachine$Controls$Status") (O := "BoardMachine$Controls$Masked") (name := "held") (desc := "J") C (by decide +kernel) (Or.inl (kw K hw q1721)) (fs_sameF (kw (args := args) K hw q1720)) (Nat.le_of_ble_eq_true rfl) (Nat.le_of_ble_eq_true rfl) (fs_one (⟨_, ff_16_41 s0 H0 oa D⟩))) ?_
  refine fs_c1 (fs_putf (pc := 34) (n := 1216721260) (idx := 254) (ref := "BoardMachine$Walks$Translator") (O := "BoardMachine$Walks$Translator") (name := "rights") (desc := "I") (fin := false) (ty := .int) C (by decide +kernel) (Or.inl ⟨rfl, Or.inr ⟨_, kF K hw q2025⟩⟩) (fun _ h => h) (Nat.le_of_ble_eq_true rfl) (Nat.le_of_ble_eq_true rfl) (Nat.le_of_ble_eq_true rfl) rfl rfl (by decide) (fs_one (⟨rfl, ff_91_290 s0 H0 oa D⟩))) ?_
  refine fs_c1 (fs_getf (pc := 38) (n := 897888558) (idx := 75) (ref := "BoardMachine$Processor") (O := "BoardMachine$Processor") (name := "walks") (desc := "LBoardMachine$Walks$Translator;") C (by decide +kernel) (Or.inl (kw K hw q2085)) (fun _ h => h) (Nat.le_of_ble_eq_true rfl) (Nat.le_of_ble_eq_true rfl) (fs_one (⟨_, ff_75_214 s0 H0 oa D⟩))) ?_
  refine fs_c1 (fs_inv_virtual (pc := 47) (n := 90270811) C (Nat.le_of_ble_eq_true rfl) (Nat.le_of_ble_eq_true rfl) (fs_lk_virtual (idx := 257) (y := ⟨"BoardMachine$Walks$Translator", "find", "(JIII)J"⟩) (bytes := prog_107_method_4_code) (maxL := 8) (rt := (Option.some Jvm.ClassFile.FieldType.long)) (d := 8) C (Nat.le_of_ble_eq_true rfl) (Nat.le_of_ble_eq_true rfl) (by decide +kernel) (kw K hw q2984) (kw K hw q395) (kw K hw q2982) (Or.inl (kw K hw q2981)) ⟨by decide, by decide⟩ rfl (Nat.le_of_ble_eq_true rfl) (Nat.le_of_ble_eq_true rfl) (fs_one (⟨_, rfl, kw K hw q2983⟩))) fs_con_mono o1) ?_
  exact fs_c0
theorem hX77_write : fe_H (sX77_write) cX77_write [0] fe_kv [] 20 (fun _ => dX77_write FX77_write_0) := by
  intro j pc L st M r hc h
  rcases fe_mem_c hc with rfl | hc
  · obtain ⟨w0, m0, h⟩ := fe_lR_d h
    obtain ⟨w1, m1, h⟩ := fe_lL_d h
    obtain ⟨rfl, hz⟩ := fe_t0_d h
    exact ⟨[(0, .ref w0), (1, .long w1)], (fe_cs m0 (fe_cs m1 fe_nl)), Or.inr ((bX77_write_0 FX77_write_0 w0 w1 M).symm.trans hz)⟩
  exact fe_mem_0 hc
theorem vX77_write : fe_SB (sX77_write) := by
  refine ⟨?_, ?_, ?_, ?_⟩
  · intro i As M r h
    exact fe_no h
  · intro i As M r h
    exact fe_no h
  · intro i As M r h
    exact fe_no h
  · intro i As M r h
    exact fe_no h
theorem eX77_write (g0 : Nat → Int64 → FM → Option (FM)) (a0 : Nat) (a1 : Int64) (M : FM) : dX77_write g0 0 [(0, .ref a0), (1, .long a1)] [] M = g0 a0 a1 M := by rfl
theorem mX77_write (a0 : Nat) (a1 : Int64) (M : FM) (r : FM) (h : FX77_write a0 a1 M = some r) : fm_nx M ≤ fm_nx r ∧ fm_ns M ≤ fm_ns r :=
  fe_mono (L0 := [(0, .ref a0), (1, .long a1)]) (vX77_write) (by decide +kernel) (hX77_write) (fe_kv_k r) 0 rfl ((eX77_write FX77_write_0 a0 a1 M).trans h)
theorem zX77_write {s0 : State} {H0 : Heap} {oa : Nat → Nat} {D : va_G} (K : fk s0 H0 oa D) (l : Launch) (a0 : Nat) (a1 : Int64) (M : FM) (r : FM) (h : FX77_write a0 a1 M = some r) : fs_Con (fk_E s0 H0 oa D) l 1 ⟨"BoardMachine$Controls$Masked", "write", "(J)V"⟩ prog_6_method_3_code 3 (Option.none : Option Jvm.ClassFile.FieldType) [.ref a0, .long a1] M none r := by
  refine fs_method (own := "BoardMachine$Controls$Masked") rfl (by decide) K.2.1 (by rw [fe_slen]; exact (Nat.le_of_ble_eq_true rfl)) (mX77_write a0 a1 M r h) (hX77_write) 0 rfl (L0 := [(0, .ref a0), (1, .long a1)]) (fun E => fe_args_e E [.ref a0, .long a1] 0) ((eX77_write FX77_write_0 a0 a1 M).trans h) (fe_kv_k r) (fun H hR => fs_nr_o (by decide) (by decide)) ?_
  intro p e s m args below meth c Q C hnm
  have hw : s0.WarmedH s.vm := C.2.2.2.2.1
  refine fe_all C fk_hwr cX77_write [2, 6, 9, 16, 21] (by decide +kernel) (fe_fil (cps := [(2, 5, .getfield 172023877), (6, 9, .getfield 176218181), (9, 12, .jsr_w (-1)), (16, 19, .getfield 176218181), (21, 24, .putfield 172023877)]) (by decide +kernel) ?_)
  refine fs_c1 (fs_getf (pc := 2) (n := 172023877) (idx := 13) (ref := "BoardMachine$Controls$Masked") (O := "BoardMachine$Controls$Masked") (name := "held") (desc := "J") C (by decide +kernel) (Or.inl (kw K hw q1718)) (fun _ h => h) (Nat.le_of_ble_eq_true rfl) (Nat.le_of_ble_eq_true rfl) (fs_rc (⟨_, ff_14_41 s0 H0 oa D⟩) (fs_rc (⟨_, ff_15_41 s0 H0 oa D⟩) (fs_rc (⟨_, ff_16_41 s0 H0 oa D⟩) (fs_one (⟨_, ff_17_41 s0 H0 oa D⟩)))))) ?_
  refine fs_c1 (fs_getf (pc := 6) (n := 176218181) (idx := 7) (ref := "BoardMachine$Controls$Masked") (O := "BoardMachine$Controls$Masked") (name := "mask") (desc := "J") C (by decide +kernel) (Or.inl (kw K hw q1726)) (fun _ h => h) (Nat.le_of_ble_eq_true rfl) (Nat.le_of_ble_eq_true rfl) (fs_rc (⟨_, ff_14_42 s0 H0 oa D⟩) (fs_rc (⟨_, ff_15_42 s0 H0 oa D⟩) (fs_rc (⟨_, ff_16_42 s0 H0 oa D⟩) (fs_one (⟨_, ff_17_42 s0 H0 oa D⟩)))))) ?_
  refine fs_c1 (fs_ldcl (pc := 9) (idx := 16) (v := -1) C (by decide +kernel) (kw K hw q2959)) ?_
  refine fs_c1 (fs_getf (pc := 16) (n := 176218181) (idx := 7) (ref := "BoardMachine$Controls$Masked") (O := "BoardMachine$Controls$Masked") (name := "mask") (desc := "J") C (by decide +kernel) (Or.inl (kw K hw q1726)) (fun _ h => h) (Nat.le_of_ble_eq_true rfl) (Nat.le_of_ble_eq_true rfl) (fs_rc (⟨_, ff_14_42 s0 H0 oa D⟩) (fs_rc (⟨_, ff_15_42 s0 H0 oa D⟩) (fs_rc (⟨_, ff_16_42 s0 H0 oa D⟩) (fs_one (⟨_, ff_17_42 s0 H0 oa D⟩)))))) ?_
  refine fs_c1 (fs_putf (pc := 21) (n := 172023877) (idx := 13) (ref := "BoardMachine$Controls$Masked") (O := "BoardMachine$Controls$Masked") (name := "held") (desc := "J") (fin := false) (ty := .long) C (by decide +kernel) (Or.inl ⟨rfl, Or.inl (kw K hw q1718)⟩) (fun _ h => h) (Nat.le_of_ble_eq_true rfl) (Nat.le_of_ble_eq_true rfl) (Nat.le_of_ble_eq_true rfl) rfl rfl (by decide) (fs_rc (⟨rfl, ff_14_41 s0 H0 oa D⟩) (fs_rc (⟨rfl, ff_15_41 s0 H0 oa D⟩) (fs_rc (⟨rfl, ff_16_41 s0 H0 oa D⟩) (fs_one (⟨rfl, ff_17_41 s0 H0 oa D⟩)))))) ?_
  exact fs_c0
theorem hX78_putTwo : fe_H (sX78_putTwo) cX78_putTwo [0] fe_kv [] 21 (fun _ => dX78_putTwo FX78_putTwo_0) := by
  intro j pc L st M r hc h
  rcases fe_mem_c hc with rfl | hc
  · obtain ⟨w0, m0, h⟩ := fe_lR_d h
    obtain ⟨w1, m1, h⟩ := fe_lI_d h
    obtain ⟨w2, m2, h⟩ := fe_lI_d h
    obtain ⟨rfl, hz⟩ := fe_t0_d h
    exact ⟨[(0, .ref w0), (1, .int w1), (2, .int w2)], (fe_cs m0 (fe_cs m1 (fe_cs m2 fe_nl))), Or.inr ((bX78_putTwo_0 FX78_putTwo_0 w0 w1 w2 M).symm.trans hz)⟩
  exact fe_mem_0 hc
theorem vX78_putTwo : fe_SB (sX78_putTwo) := by
  refine ⟨?_, ?_, ?_, ?_⟩
  · intro i As M r h
    exact fe_no h
  · intro i As M r h
    exact fe_no h
  · intro i As M r h
    exact fe_no h
  · intro i As M r h
    exact fe_no h
theorem eX78_putTwo (g0 : Nat → Int32 → Int32 → FM → Option (FM)) (a0 : Nat) (a1 : Int32) (a2 : Int32) (M : FM) : dX78_putTwo g0 0 [(0, .ref a0), (1, .int a1), (2, .int a2)] [] M = g0 a0 a1 a2 M := by rfl
theorem mX78_putTwo (a0 : Nat) (a1 : Int32) (a2 : Int32) (M : FM) (r : FM) (h : FX78_putTwo a0 a1 a2 M = some r) : fm_nx M ≤ fm_nx r ∧ fm_ns M ≤ fm_ns r :=
  fe_mono (L0 := [(0, .ref a0), (1, .int a1), (2, .int a2)]) (vX78_putTwo) (by decide +kernel) (hX78_putTwo) (fe_kv_k r) 0 rfl ((eX78_putTwo FX78_putTwo_0 a0 a1 a2 M).trans h)
theorem zX78_putTwo {s0 : State} {H0 : Heap} {oa : Nat → Nat} {D : va_G} (K : fk s0 H0 oa D) (l : Launch) (a0 : Nat) (a1 : Int32) (a2 : Int32) (M : FM) (r : FM) (h : FX78_putTwo a0 a1 a2 M = some r) : fs_Con (fk_E s0 H0 oa D) l 1 ⟨"BoardMachine$Controls$Status", "putTwo", "(II)V"⟩ prog_10_method_5_code 3 (Option.none : Option Jvm.ClassFile.FieldType) [.ref a0, .int a1, .int a2] M none r := by
  refine fs_method (own := "BoardMachine$Controls$Status") rfl (by decide) K.2.1 (by rw [fe_slen]; exact (Nat.le_of_ble_eq_true rfl)) (mX78_putTwo a0 a1 a2 M r h) (hX78_putTwo) 0 rfl (L0 := [(0, .ref a0), (1, .int a1), (2, .int a2)]) (fun E => fe_args_e E [.ref a0, .int a1, .int a2] 0) ((eX78_putTwo FX78_putTwo_0 a0 a1 a2 M).trans h) (fe_kv_k r) (fun H hR => fs_nr_o (by decide) (by decide)) ?_
  intro p e s m args below meth c Q C hnm
  have hw : s0.WarmedH s.vm := C.2.2.2.2.1
  refine fe_all C fk_hwr cX78_putTwo [2, 5, 10, 20] (by decide +kernel) (fe_fil (cps := [(2, 5, .getfield 172032065), (5, 8, .jsr_w (3)), (10, 13, .jsr_w (-1)), (20, 23, .putfield 172032065)]) (by decide +kernel) ?_)
  refine fs_c1 (fs_getf (pc := 2) (n := 172032065) (idx := 11) (ref := "BoardMachine$Controls$Status") (O := "BoardMachine$Controls$Masked") (name := "held") (desc := "J") C (by decide +kernel) (Or.inl (kw K hw q1719)) (fs_sameF (kw (args := args) K hw q1720)) (Nat.le_of_ble_eq_true rfl) (Nat.le_of_ble_eq_true rfl) (fs_one (⟨_, ff_16_41 s0 H0 oa D⟩))) ?_
  refine fs_c1 (fs_ldcl (pc := 5) (idx := 19) (v := 3) C (by decide +kernel) (kw K hw q2952)) ?_
  refine fs_c1 (fs_ldcl (pc := 10) (idx := 17) (v := -1) C (by decide +kernel) (kw K hw q2953)) ?_
  refine fs_c1 (fs_putf (pc := 20) (n := 172032065) (idx := 11) (ref := "BoardMachine$Controls$Status") (O := "BoardMachine$Controls$Masked") (name := "held") (desc := "J") (fin := false) (ty := .long) C (by decide +kernel) (Or.inl ⟨rfl, Or.inl (kw K hw q1719)⟩) (fs_sameF (kw (args := args) K hw q1720)) (Nat.le_of_ble_eq_true rfl) (Nat.le_of_ble_eq_true rfl) (Nat.le_of_ble_eq_true rfl) rfl rfl (by decide) (fs_one (⟨rfl, ff_16_41 s0 H0 oa D⟩))) ?_
  exact fs_c0
theorem hX78_write : fe_H (sX78_write FX78_two FX77_write FX78_putTwo) cX78_write [0, 29] fe_kv [] 22 (fun _ => dX78_write FX78_write_0 FX78_write_29) := by
  intro j pc L st M r hc h
  rcases fe_mem_c hc with rfl | hc
  · obtain ⟨w0, m0, h⟩ := fe_lR_d h
    obtain ⟨w1, m1, h⟩ := fe_lL_d h
    obtain ⟨rfl, hz⟩ := fe_t0_d h
    exact ⟨[(0, .ref w0), (1, .long w1)], (fe_cs m0 (fe_cs m1 fe_nl)), Or.inr ((bX78_write_0 FX78_two FX77_write FX78_putTwo FX78_write_0 FX78_write_29 w0 w1 M).symm.trans hz)⟩
  rcases fe_mem_c hc with rfl | hc
  · obtain ⟨rfl, hz⟩ := fe_t0_d h
    exact ⟨[], fe_nl, Or.inr ((bX78_write_29 FX78_two FX77_write FX78_putTwo FX78_write_0 FX78_write_29 M).symm.trans hz)⟩
  exact fe_mem_0 hc
theorem vX78_write : fe_SB (sX78_write FX78_two FX77_write FX78_putTwo) := by
  refine ⟨?_, ?_, ?_, ?_⟩
  · intro i As M r h
    rcases fe_bc h with h | h
    · obtain ⟨v0, t0, rfl, g0⟩ := fe_tR_d h
      obtain ⟨v1, t1, rfl, g1⟩ := fe_tL_d g0
      obtain ⟨rfl, hz⟩ := fe_t0_d g1
      exact mX77_write v0 v1 M r hz
    rcases fe_bc h with h | h
    · obtain ⟨v0, t0, rfl, g0⟩ := fe_tR_d h
      obtain ⟨v1, t1, rfl, g1⟩ := fe_tI_d g0
      obtain ⟨v2, t2, rfl, g2⟩ := fe_tI_d g1
      obtain ⟨rfl, hz⟩ := fe_t0_d g2
      exact mX78_putTwo v0 v1 v2 M r hz
    exact fe_no h
  · intro i As M r h
    rcases fe_bc h with h | h
    · obtain ⟨v0, t0, rfl, g0⟩ := fe_tR_d h
      obtain ⟨v1, t1, rfl, g1⟩ := fe_tI_d g0
      obtain ⟨rfl, hz⟩ := fe_t0_d g1
      exact mX78_two v0 v1 M r hz
    exact fe_no h
  · intro i As M r h
    exact fe_no h
  · intro i As M r h
    exact fe_no h
theorem eX78_write (g0 : Nat → Int64 → FM → Option (FM)) (g29 : FM → Option (FM)) (a0 : Nat) (a1 : Int64) (M : FM) : dX78_write g0 g29 0 [(0, .ref a0), (1, .long a1)] [] M = g0 a0 a1 M := by rfl
theorem mX78_write (a0 : Nat) (a1 : Int64) (M : FM) (r : FM) (h : FX78_write a0 a1 M = some r) : fm_nx M ≤ fm_nx r ∧ fm_ns M ≤ fm_ns r :=
  fe_mono (L0 := [(0, .ref a0), (1, .long a1)]) (vX78_write) (by decide +kernel) (hX78_write) (fe_kv_k r) 0 rfl ((eX78_write FX78_write_0 FX78_write_29 a0 a1 M).trans h)
theorem zX78_write {s0 : State} {H0 : Heap} {oa : Nat → Nat} {D : va_G} (K : fk s0 H0 oa D) (l : Launch) (a0 : Nat) (a1 : Int64) (M : FM) (r : FM) (h : FX78_write a0 a1 M = some r) : fs_Con (fk_E s0 H0 oa D) l 2 ⟨"BoardMachine$Controls$Status", "write", "(J)V"⟩ prog_10_method_8_code 4 (Option.none : Option Jvm.ClassFile.FieldType) [.ref a0, .long a1] M none r := by
  have o0 : fs_OS (sX78_write FX78_two FX77_write FX78_putTwo) 0 1 (fs_Con (fk_E s0 H0 oa D) l 1 ⟨"BoardMachine$Controls$Status", "two", "(I)I"⟩ prog_10_method_4_code 2 (Option.some Jvm.ClassFile.FieldType.int)) := by
    intro As M r h
    obtain ⟨v0, t0, rfl, g0⟩ := fe_tR_d h
    obtain ⟨v1, t1, rfl, g1⟩ := fe_tI_d g0
    obtain ⟨rfl, hz⟩ := fe_t0_d g1
    exact zX78_two K l v0 v1 M r hz
  have o1 : fs_OS (sX78_write FX78_two FX77_write FX78_putTwo) 1 0 (fs_Con (fk_E s0 H0 oa D) l 1 ⟨"BoardMachine$Controls$Masked", "write", "(J)V"⟩ prog_6_method_3_code 3 (Option.none : Option Jvm.ClassFile.FieldType)) := by
    intro As M r h
    obtain ⟨v0, t0, rfl, g0⟩ := fe_tR_d h
    obtain ⟨v1, t1, rfl, g1⟩ := fe_tL_d g0
    obtain ⟨rfl, hz⟩ := fe_t0_d g1
    exact zX77_write K l v0 v1 M r hz
  have o2 : fs_OS (sX78_write FX78_two FX77_write FX78_putTwo) 2 0 (fs_Con (fk_E s0 H0 oa D) l 1 ⟨"BoardMachine$Controls$Status", "putTwo", "(II)V"⟩ prog_10_method_5_code 3 (Option.none : Option Jvm.ClassFile.FieldType)) := by
    intro As M r h
    obtain ⟨v0, t0, rfl, g0⟩ := fe_tR_d h
    obtain ⟨v1, t1, rfl, g1⟩ := fe_tI_d g0
    obtain ⟨v2, t2, rfl, g2⟩ := fe_tI_d g1
    obtain ⟨rfl, hz⟩ := fe_t0_d g2
    exact zX78_putTwo K l v0 v1 v2 M r hz
  refine fs_method (own := "BoardMachine$Controls$Status") rfl (by decide) K.2.1 (by rw [fe_slen]; exact (Nat.le_of_ble_eq_true rfl)) (mX78_write a0 a1 M r h) (hX78_write) 0 rfl (L0 := [(0, .ref a0), (1, .long a1)]) (fun E => fe_args_e E [.ref a0, .long a1] 0) ((eX78_write FX78_write_0 FX78_write_29 a0 a1 M).trans h) (fe_kv_k r) (fun H hR => fs_nr_o (by decide) (by decide)) ?_
  intro p e s m args below meth c Q C hnm
  have hw : s0.WarmedH s.vm := C.2.2.2.2.1
  refine fe_all C fk_hwr cX78_write [3, 9, 15, 26] (by decide +kernel) (fe_fil (cps := [(3, 6, .invokevirtual 9453584), (9, 12, .invokevirtual 75513872), (15, 18, .invokevirtual 9453584), (26, 29, .invokevirtual 146817040)]) (by decide +kernel) ?_)
  refine fs_c1 (fs_inv_virtual (pc := 3) (n := 9453584) C (Nat.le_of_ble_eq_true rfl) (Nat.le_of_ble_eq_true rfl) (fs_lk_virtual (idx := 21) (y := ⟨"BoardMachine$Controls$Status", "two", "(I)I"⟩) (bytes := prog_10_method_4_code) (maxL := 2) (rt := (Option.some Jvm.ClassFile.FieldType.int)) (d := 1) C (Nat.le_of_ble_eq_true rfl) (Nat.le_of_ble_eq_true rfl) (by decide +kernel) (kw K hw q2910) (kw K hw q389) (kw K hw q2908) (Or.inl (kw K hw q2907)) ⟨by decide, by decide⟩ rfl (Nat.le_of_ble_eq_true rfl) (Nat.le_of_ble_eq_true rfl) (fs_one (⟨_, rfl, kw K hw q2909⟩))) fs_con_mono o0) ?_
  refine fs_c1 (fs_inv_virtual (pc := 9) (n := 75513872) C (Nat.le_of_ble_eq_true rfl) (Nat.le_of_ble_eq_true rfl) (fs_lk_super (idx := 35) (y := ⟨"BoardMachine$Controls$Masked", "write", "(J)V"⟩) (bytes := prog_6_method_3_code) (maxL := 3) (rt := (Option.none : Option Jvm.ClassFile.FieldType)) (d := 1) C (Nat.le_of_ble_eq_true rfl) (Nat.le_of_ble_eq_true rfl) (by decide +kernel) (kw K hw q2958) (kw K hw q388) (kw K hw q2940) (kw K hw q2947) (kw K hw q2942) (kw K hw q1731) (by decide) rfl (Nat.le_of_ble_eq_true rfl) (Nat.le_of_ble_eq_true rfl)) fs_con_mono o1) ?_
  refine fs_c1 (fs_inv_virtual (pc := 15) (n := 9453584) C (Nat.le_of_ble_eq_true rfl) (Nat.le_of_ble_eq_true rfl) (fs_lk_virtual (idx := 21) (y := ⟨"BoardMachine$Controls$Status", "two", "(I)I"⟩) (bytes := prog_10_method_4_code) (maxL := 2) (rt := (Option.some Jvm.ClassFile.FieldType.int)) (d := 1) C (Nat.le_of_ble_eq_true rfl) (Nat.le_of_ble_eq_true rfl) (by decide +kernel) (kw K hw q2910) (kw K hw q389) (kw K hw q2908) (Or.inl (kw K hw q2907)) ⟨by decide, by decide⟩ rfl (Nat.le_of_ble_eq_true rfl) (Nat.le_of_ble_eq_true rfl) (fs_one (⟨_, rfl, kw K hw q2909⟩))) fs_con_mono o0) ?_
  refine fs_c1 (fs_inv_virtual (pc := 26) (n := 146817040) C (Nat.le_of_ble_eq_true rfl) (Nat.le_of_ble_eq_true rfl) (fs_lk_virtual (idx := 38) (y := ⟨"BoardMachine$Controls$Status", "putTwo", "(II)V"⟩) (bytes := prog_10_method_5_code) (maxL := 3) (rt := (Option.none : Option Jvm.ClassFile.FieldType)) (d := 1) C (Nat.le_of_ble_eq_true rfl) (Nat.le_of_ble_eq_true rfl) (by decide +kernel) (kw K hw q2951) (kw K hw q389) (kw K hw q2949) (Or.inl (kw K hw q2948)) ⟨by decide, by decide⟩ rfl (Nat.le_of_ble_eq_true rfl) (Nat.le_of_ble_eq_true rfl) (fs_one (⟨_, rfl, kw K hw q2950⟩))) fs_con_mono o2) ?_
  exact fs_c0
theorem hX82_write : fe_H (sX82_write FX77_write) cX82_write [0, 22, 27] fe_kv [] 22 (fun _ => dX82_write FX82_write_0 FX82_write_22 FX82_write_27) := by
  intro j pc L st M r hc h
  rcases fe_mem_c hc with rfl | hc
  · obtain ⟨w0, m0, h⟩ := fe_lR_d h
    obtain ⟨w1, m1, h⟩ := fe_lL_d h
    obtain ⟨rfl, hz⟩ := fe_t0_d h
    exact ⟨[(0, .ref w0), (1, .long w1)], (fe_cs m0 (fe_cs m1 fe_nl)), Or.inr ((bX82_write_0 FX77_write FX82_write_0 FX82_write_22 FX82_write_27 w0 w1 M).symm.trans hz)⟩
  rcases fe_mem_c hc with rfl | hc
  · obtain ⟨w0, m0, h⟩ := fe_lR_d h
    obtain ⟨w1, m1, h⟩ := fe_lL_d h
    obtain ⟨rfl, hz⟩ := fe_t0_d h
    exact ⟨[(0, .ref w0), (1, .long w1)], (fe_cs m0 (fe_cs m1 fe_nl)), Or.inr ((bX82_write_22 FX77_write FX82_write_0 FX82_write_22 FX82_write_27 w0 w1 M).symm.trans hz)⟩
  rcases fe_mem_c hc with rfl | hc
  · obtain ⟨rfl, hz⟩ := fe_t0_d h
    exact ⟨[], fe_nl, Or.inr ((bX82_write_27 FX77_write FX82_write_0 FX82_write_22 FX82_write_27 M).symm.trans hz)⟩
  exact fe_mem_0 hc
theorem vX82_write : fe_SB (sX82_write FX77_write) := by
  refine ⟨?_, ?_, ?_, ?_⟩
  · intro i As M r h
    rcases fe_bc h with h | h
    · obtain ⟨v0, t0, rfl, g0⟩ := fe_tR_d h
      obtain ⟨v1, t1, rfl, g1⟩ := fe_tL_d g0
      obtain ⟨rfl, hz⟩ := fe_t0_d g1
      exact mX77_write v0 v1 M r hz
    exact fe_no h
  · intro i As M r h
    exact fe_no h
  · intro i As M r h
    exact fe_no h
  · intro i As M r h
    exact fe_no h
theorem eX82_write (g0 : Nat → Int64 → FM → Option (FM)) (g22 : Nat → Int64 → FM → Option (FM)) (g27 : FM → Option (FM)) (a0 : Nat) (a1 : Int64) (M : FM) : dX82_write g0 g22 g27 0 [(0, .ref a0), (1, .long a1)] [] M = g0 a0 a1 M := by rfl
theorem mX82_write (a0 : Nat) (a1 : Int64) (M : FM) (r : FM) (h : FX82_write a0 a1 M = some r) : fm_nx M ≤ fm_nx r ∧ fm_ns M ≤ fm_ns r :=
  fe_mono (L0 := [(0, .ref a0), (1, .long a1)]) (vX82_write) (by decide +kernel) (hX82_write) (fe_kv_k r) 0 rfl ((eX82_write FX82_write_0 FX82_write_22 FX82_write_27 a0 a1 M).trans h)
theorem zX82_write {s0 : State} {H0 : Heap} {oa : Nat → Nat} {D : va_G} (K : fk s0 H0 oa D) (l : Launch) (a0 : Nat) (a1 : Int64) (M : FM) (r : FM) (h : FX82_write a0 a1 M = some r) : fs_Con (fk_E s0 H0 oa D) l 2 ⟨"BoardMachine$Controls$TableRegister", "write", "(J)V"⟩ prog_11_method_2_code 4 (Option.none : Option Jvm.ClassFile.FieldType) [.ref a0, .long a1] M none r := by
  have o0 : fs_OS (sX82_write FX77_write) 0 0 (fs_Con (fk_E s0 H0 oa D) l 1 ⟨"BoardMachine$Controls$Masked", "write", "(J)V"⟩ prog_6_method_3_code 3 (Option.none : Option Jvm.ClassFile.FieldType)) := by
    intro As M r h
    obtain ⟨v0, t0, rfl, g0⟩ := fe_tR_d h
    obtain ⟨v1, t1, rfl, g1⟩ := fe_tL_d g0
    obtain ⟨rfl, hz⟩ := fe_t0_d g1
    exact zX77_write K l v0 v1 M r hz
  refine fs_method (own := "BoardMachine$Controls$TableRegister") rfl (by decide) K.2.1 (by rw [fe_slen]; exact (Nat.le_of_ble_eq_true rfl)) (mX82_write a0 a1 M r h) (hX82_write) 0 rfl (L0 := [(0, .ref a0), (1, .long a1)]) (fun E => fe_args_e E [.ref a0, .long a1] 0) ((eX82_write FX82_write_0 FX82_write_22 FX82_write_27 a0 a1 M).trans h) (fe_kv_k r) (fun H hR => fs_nr_o (by decide) (by decide)) ?_
  intro p e s m args below meth c Q C hnm
  have hw : s0.WarmedH s.vm := C.2.2.2.2.1
  refine fe_all C fk_hwr cX82_write [24] (by decide +kernel) (fe_fil (cps := [(24, 27, .invokevirtual 8406033)]) (by decide +kernel) ?_)
  refine fs_c1 (fs_inv_virtual (pc := 24) (n := 8406033) C (Nat.le_of_ble_eq_true rfl) (Nat.le_of_ble_eq_true rfl) (fs_lk_super (idx := 9) (y := ⟨"BoardMachine$Controls$Masked", "write", "(J)V"⟩) (bytes := prog_6_method_3_code) (maxL := 3) (rt := (Option.none : Option Jvm.ClassFile.FieldType)) (d := 1) C (Nat.le_of_ble_eq_true rfl) (Nat.le_of_ble_eq_true rfl) (by decide +kernel) (kw K hw q2958) (kw K hw q388) (kw K hw q2940) (kw K hw q2957) (kw K hw q2942) (kw K hw q1831) (by decide) rfl (Nat.le_of_ble_eq_true rfl) (Nat.le_of_ble_eq_true rfl)) fs_con_mono o0) ?_
  exact fs_c0
