/-! contracts of methods, printed by gen/snd.py -/
set_option maxRecDepth 100000
set_option maxHeartbeats 4000000
theorem hX87_isLocked : fe_H (sX87_isLocked) cX87_isLocked [0, 16] fe_ki [] 20 (fun _ => dX87_isLocked FX87_isLocked_0 FX87_isLocked_16) := by
  intro j pc L st M r hc h
  rcases fe_mem_c hc with rfl | hc
  · obtain ⟨w0, m0, h⟩ := fe_lR_d h
    obtain ⟨rfl, hz⟩ := fe_t0_d h
    exact ⟨[(0, .ref w0)], (fe_cs m0 fe_nl), Or.inr ((bX87_isLocked_0 FX87_isLocked_0 FX87_isLocked_16 w0 M).symm.trans hz)⟩
  rcases fe_mem_c hc with rfl | hc
  · obtain ⟨s0, t0, rfl, g0⟩ := fe_tI_d h
    obtain ⟨rfl, hz⟩ := fe_t0_d g0
    exact ⟨[], fe_nl, Or.inr ((bX87_isLocked_16 FX87_isLocked_0 FX87_isLocked_16 s0 M).symm.trans hz)⟩
  exact fe_mem_0 hc
theorem vX87_isLocked : fe_SB (sX87_isLocked) := by
  refine ⟨?_, ?_, ?_, ?_⟩
  · intro i As M r h
    exact fe_no h
  · intro i As M r h
    exact fe_no h
  · intro i As M r h
    exact fe_no h
  · intro i As M r h
    exact fe_no h
theorem eX87_isLocked (g0 : Nat → FM → Option (Int32 × FM)) (g16 : Int32 → FM → Option (Int32 × FM)) (a0 : Nat) (M : FM) : dX87_isLocked g0 g16 0 [(0, .ref a0)] [] M = g0 a0 M := by rfl
theorem mX87_isLocked (a0 : Nat) (M : FM) (r : Int32 × FM) (h : FX87_isLocked a0 M = some r) : fm_nx M ≤ fm_nx r.2 ∧ fm_ns M ≤ fm_ns r.2 :=
  fe_mono (L0 := [(0, .ref a0)]) (vX87_isLocked) (by decide +kernel) (hX87_isLocked) (fe_ki_k r) 0 rfl ((eX87_isLocked FX87_isLocked_0 FX87_isLocked_16 a0 M).trans h)
theorem zX87_isLocked {s0 : State} {H0 : Heap} {oa : Nat → Nat} {D : va_G} (K : fk s0 H0 oa D) (l : Launch) (a0 : Nat) (M : FM) (r : Int32 × FM) (h : FX87_isLocked a0 M = some r) : fs_Con (fk_E s0 H0 oa D) l 1 ⟨"BoardMachine$Walks$Region", "isLocked", "()Z"⟩ prog_104_method_2_code 1 (Option.some Jvm.ClassFile.FieldType.boolean) [.ref a0] M (some (.int r.1)) r.2 := by
  refine fs_method (own := "BoardMachine$Walks$Region") rfl (by decide) K.2.1 (by rw [fe_slen]; exact (Nat.le_of_ble_eq_true rfl)) (mX87_isLocked a0 M r h) (hX87_isLocked) 0 rfl (L0 := [(0, .ref a0)]) (fun E => fe_args_e E [.ref a0] 0) ((eX87_isLocked FX87_isLocked_0 FX87_isLocked_16 a0 M).trans h) (fe_ki_k r) (fun H hR => fs_nr_o (by decide) (by decide)) ?_
  intro p e s m args below meth c Q C hnm
  have hw : s0.WarmedH s.vm := C.2.2.2.2.1
  refine fe_all C fk_hwr cX87_isLocked [1] (by decide +kernel) (fe_fil (cps := [(1, 4, .getfield 1174770020)]) (by decide +kernel) ?_)
  refine fs_c1 (fs_getf (pc := 1) (n := 1174770020) (idx := 9) (ref := "BoardMachine$Walks$Region") (O := "BoardMachine$Walks$Region") (name := "config") (desc := "I") C (by decide +kernel) (Or.inl (kw K hw q1948)) (fun _ h => h) (Nat.le_of_ble_eq_true rfl) (Nat.le_of_ble_eq_true rfl) (fs_one (⟨_, ff_89_280 s0 H0 oa D⟩))) ?_
  exact fs_c0
theorem hX87_lets : fe_H (sX87_lets FX87_isLocked) cX87_lets [0, 25, 26, 48, 68, 78, 82, 83] fe_ki [] 50 (fun _ => dX87_lets FX87_lets_0 FX87_lets_25 FX87_lets_26 FX87_lets_48 FX87_lets_68 FX87_lets_78 FX87_lets_82 FX87_lets_83) := by
  intro j pc L st M r hc h
  rcases fe_mem_c hc with rfl | hc
  · obtain ⟨w0, m0, h⟩ := fe_lR_d h
    obtain ⟨w1, m1, h⟩ := fe_lL_d h
    obtain ⟨w3, m3, h⟩ := fe_lI_d h
    obtain ⟨w4, m4, h⟩ := fe_lI_d h
    obtain ⟨w5, m5, h⟩ := fe_lI_d h
    obtain ⟨rfl, hz⟩ := fe_t0_d h
    exact ⟨[(0, .ref w0), (1, .long w1), (3, .int w3), (4, .int w4), (5, .int w5)], (fe_cs m0 (fe_cs m1 (fe_cs m3 (fe_cs m4 (fe_cs m5 fe_nl))))), Or.inr ((bX87_lets_0 FX87_isLocked FX87_lets_0 FX87_lets_25 FX87_lets_26 FX87_lets_48 FX87_lets_68 FX87_lets_78 FX87_lets_82 FX87_lets_83 w0 w1 w3 w4 w5 M).symm.trans hz)⟩
  rcases fe_mem_c hc with rfl | hc
  · obtain ⟨w0, m0, h⟩ := fe_lR_d h
    obtain ⟨w4, m4, h⟩ := fe_lI_d h
    obtain ⟨w5, m5, h⟩ := fe_lI_d h
    obtain ⟨rfl, hz⟩ := fe_t0_d h
    exact ⟨[(0, .ref w0), (4, .int w4), (5, .int w5)], (fe_cs m0 (fe_cs m4 (fe_cs m5 fe_nl))), Or.inr ((bX87_lets_25 FX87_isLocked FX87_lets_0 FX87_lets_25 FX87_lets_26 FX87_lets_48 FX87_lets_68 FX87_lets_78 FX87_lets_82 FX87_lets_83 w0 w4 w5 M).symm.trans hz)⟩
  rcases fe_mem_c hc with rfl | hc
  · obtain ⟨w0, m0, h⟩ := fe_lR_d h
    obtain ⟨w4, m4, h⟩ := fe_lI_d h
    obtain ⟨w5, m5, h⟩ := fe_lI_d h
    obtain ⟨s0, t0, rfl, g0⟩ := fe_tI_d h
    obtain ⟨rfl, hz⟩ := fe_t0_d g0
    exact ⟨[(0, .ref w0), (4, .int w4), (5, .int w5)], (fe_cs m0 (fe_cs m4 (fe_cs m5 fe_nl))), Or.inr ((bX87_lets_26 FX87_isLocked FX87_lets_0 FX87_lets_25 FX87_lets_26 FX87_lets_48 FX87_lets_68 FX87_lets_78 FX87_lets_82 FX87_lets_83 w0 w4 w5 s0 M).symm.trans hz)⟩
  rcases fe_mem_c hc with rfl | hc
  · obtain ⟨w0, m0, h⟩ := fe_lR_d h
    obtain ⟨w5, m5, h⟩ := fe_lI_d h
    obtain ⟨w6, m6, h⟩ := fe_lI_d h
    obtain ⟨s0, t0, rfl, g0⟩ := fe_tI_d h
    obtain ⟨rfl, hz⟩ := fe_t0_d g0
    exact ⟨[(0, .ref w0), (5, .int w5), (6, .int w6)], (fe_cs m0 (fe_cs m5 (fe_cs m6 fe_nl))), Or.inr ((bX87_lets_48 FX87_isLocked FX87_lets_0 FX87_lets_25 FX87_lets_26 FX87_lets_48 FX87_lets_68 FX87_lets_78 FX87_lets_82 FX87_lets_83 w0 w5 w6 s0 M).symm.trans hz)⟩
  rcases fe_mem_c hc with rfl | hc
  · obtain ⟨w0, m0, h⟩ := fe_lR_d h
    obtain ⟨w7, m7, h⟩ := fe_lI_d h
    obtain ⟨rfl, hz⟩ := fe_t0_d h
    exact ⟨[(0, .ref w0), (7, .int w7)], (fe_cs m0 (fe_cs m7 fe_nl)), Or.inr ((bX87_lets_68 FX87_isLocked FX87_lets_0 FX87_lets_25 FX87_lets_26 FX87_lets_48 FX87_lets_68 FX87_lets_78 FX87_lets_82 FX87_lets_83 w0 w7 M).symm.trans hz)⟩
  rcases fe_mem_c hc with rfl | hc
  · obtain ⟨rfl, hz⟩ := fe_t0_d h
    exact ⟨[], fe_nl, Or.inr ((bX87_lets_78 FX87_isLocked FX87_lets_0 FX87_lets_25 FX87_lets_26 FX87_lets_48 FX87_lets_68 FX87_lets_78 FX87_lets_82 FX87_lets_83 M).symm.trans hz)⟩
  rcases fe_mem_c hc with rfl | hc
  · obtain ⟨rfl, hz⟩ := fe_t0_d h
    exact ⟨[], fe_nl, Or.inr ((bX87_lets_82 FX87_isLocked FX87_lets_0 FX87_lets_25 FX87_lets_26 FX87_lets_48 FX87_lets_68 FX87_lets_78 FX87_lets_82 FX87_lets_83 M).symm.trans hz)⟩
  rcases fe_mem_c hc with rfl | hc
  · obtain ⟨s0, t0, rfl, g0⟩ := fe_tI_d h
    obtain ⟨rfl, hz⟩ := fe_t0_d g0
    exact ⟨[], fe_nl, Or.inr ((bX87_lets_83 FX87_isLocked FX87_lets_0 FX87_lets_25 FX87_lets_26 FX87_lets_48 FX87_lets_68 FX87_lets_78 FX87_lets_82 FX87_lets_83 s0 M).symm.trans hz)⟩
  exact fe_mem_0 hc
theorem vX87_lets : fe_SB (sX87_lets FX87_isLocked) := by
  refine ⟨?_, ?_, ?_, ?_⟩
  · intro i As M r h
    exact fe_no h
  · intro i As M r h
    rcases fe_bc h with h | h
    · obtain ⟨v0, t0, rfl, g0⟩ := fe_tR_d h
      obtain ⟨rfl, hz⟩ := fe_t0_d g0
      exact mX87_isLocked v0 M r hz
    exact fe_no h
  · intro i As M r h
    exact fe_no h
  · intro i As M r h
    exact fe_no h
theorem eX87_lets (g0 : Nat → Int64 → Int32 → Int32 → Int32 → FM → Option (Int32 × FM)) (g25 : Nat → Int32 → Int32 → FM → Option (Int32 × FM)) (g26 : Nat → Int32 → Int32 → Int32 → FM → Option (Int32 × FM)) (g48 : Nat → Int32 → Int32 → Int32 → FM → Option (Int32 × FM)) (g68 : Nat → Int32 → FM → Option (Int32 × FM)) (g78 : FM → Option (Int32 × FM)) (g82 : FM → Option (Int32 × FM)) (g83 : Int32 → FM → Option (Int32 × FM)) (a0 : Nat) (a1 : Int64) (a3 : Int32) (a4 : Int32) (a5 : Int32) (M : FM) : dX87_lets g0 g25 g26 g48 g68 g78 g82 g83 0 [(0, .ref a0), (1, .long a1), (3, .int a3), (4, .int a4), (5, .int a5)] [] M = g0 a0 a1 a3 a4 a5 M := by rfl
theorem mX87_lets (a0 : Nat) (a1 : Int64) (a3 : Int32) (a4 : Int32) (a5 : Int32) (M : FM) (r : Int32 × FM) (h : FX87_lets a0 a1 a3 a4 a5 M = some r) : fm_nx M ≤ fm_nx r.2 ∧ fm_ns M ≤ fm_ns r.2 :=
  fe_mono (L0 := [(0, .ref a0), (1, .long a1), (3, .int a3), (4, .int a4), (5, .int a5)]) (vX87_lets) (by decide +kernel) (hX87_lets) (fe_ki_k r) 0 rfl ((eX87_lets FX87_lets_0 FX87_lets_25 FX87_lets_26 FX87_lets_48 FX87_lets_68 FX87_lets_78 FX87_lets_82 FX87_lets_83 a0 a1 a3 a4 a5 M).trans h)
theorem zX87_lets {s0 : State} {H0 : Heap} {oa : Nat → Nat} {D : va_G} (K : fk s0 H0 oa D) (l : Launch) (a0 : Nat) (a1 : Int64) (a3 : Int32) (a4 : Int32) (a5 : Int32) (M : FM) (r : Int32 × FM) (h : FX87_lets a0 a1 a3 a4 a5 M = some r) : fs_Con (fk_E s0 H0 oa D) l 2 ⟨"BoardMachine$Walks$Region", "lets", "(JIII)Z"⟩ prog_104_method_7_code 8 (Option.some Jvm.ClassFile.FieldType.boolean) [.ref a0, .long a1, .int a3, .int a4, .int a5] M (some (.int r.1)) r.2 := by
  have o0 : fs_OS (sX87_lets FX87_isLocked) 0 1 (fs_Con (fk_E s0 H0 oa D) l 1 ⟨"BoardMachine$Walks$Region", "isLocked", "()Z"⟩ prog_104_method_2_code 1 (Option.some Jvm.ClassFile.FieldType.boolean)) := by
    intro As M r h
    obtain ⟨v0, t0, rfl, g0⟩ := fe_tR_d h
    obtain ⟨rfl, hz⟩ := fe_t0_d g0
    exact zX87_isLocked K l v0 M r hz
  refine fs_method (own := "BoardMachine$Walks$Region") rfl (by decide) K.2.1 (by rw [fe_slen]; exact (Nat.le_of_ble_eq_true rfl)) (mX87_lets a0 a1 a3 a4 a5 M r h) (hX87_lets) 0 rfl (L0 := [(0, .ref a0), (1, .long a1), (3, .int a3), (4, .int a4), (5, .int a5)]) (fun E => fe_args_e E [.ref a0, .long a1, .int a3, .int a4, .int a5] 0) ((eX87_lets FX87_lets_0 FX87_lets_25 FX87_lets_26 FX87_lets_48 FX87_lets_68 FX87_lets_78 FX87_lets_82 FX87_lets_83 a0 a1 a3 a4 a5 M).trans h) (fe_ki_k r) (fun H hR => fs_nr_o (by decide) (by decide)) ?_
  intro p e s m args below meth c Q C hnm
  have hw : s0.WarmedH s.vm := C.2.2.2.2.1
  refine fe_all C fk_hwr cX87_lets [2, 14, 62, 69] (by decide +kernel) (fe_fil (cps := [(2, 5, .getfield 1183158629), (14, 17, .getfield 1187352933), (62, 65, .invokevirtual 5334105), (69, 72, .getfield 1174770020)]) (by decide +kernel) ?_)
  refine fs_c1 (fs_getf (pc := 2) (n := 1183158629) (idx := 40) (ref := "BoardMachine$Walks$Region") (O := "BoardMachine$Walks$Region") (name := "from") (desc := "J") C (by decide +kernel) (Or.inl (kw K hw q1954)) (fun _ h => h) (Nat.le_of_ble_eq_true rfl) (Nat.le_of_ble_eq_true rfl) (fs_one (⟨_, ff_89_282 s0 H0 oa D⟩))) ?_
  refine fs_c1 (fs_getf (pc := 14) (n := 1187352933) (idx := 47) (ref := "BoardMachine$Walks$Region") (O := "BoardMachine$Walks$Region") (name := "to") (desc := "J") C (by decide +kernel) (Or.inl (kw K hw q1955)) (fun _ h => h) (Nat.le_of_ble_eq_true rfl) (Nat.le_of_ble_eq_true rfl) (fs_one (⟨_, ff_89_283 s0 H0 oa D⟩))) ?_
  refine fs_c1 (fs_inv_virtual (pc := 62) (n := 5334105) C (Nat.le_of_ble_eq_true rfl) (Nat.le_of_ble_eq_true rfl) (fs_lk_virtual (idx := 54) (y := ⟨"BoardMachine$Walks$Region", "isLocked", "()Z"⟩) (bytes := prog_104_method_2_code) (maxL := 1) (rt := (Option.some Jvm.ClassFile.FieldType.boolean)) (d := 1) C (Nat.le_of_ble_eq_true rfl) (Nat.le_of_ble_eq_true rfl) (by decide +kernel) (kw K hw q3049) (kw K hw q398) (kw K hw q3047) (Or.inl (kw K hw q3046)) ⟨by decide, by decide⟩ rfl (Nat.le_of_ble_eq_true rfl) (Nat.le_of_ble_eq_true rfl) (fs_one (⟨_, rfl, kw K hw q3048⟩))) fs_con_mono o0) ?_
  refine fs_c1 (fs_getf (pc := 69) (n := 1174770020) (idx := 9) (ref := "BoardMachine$Walks$Region") (O := "BoardMachine$Walks$Region") (name := "config") (desc := "I") C (by decide +kernel) (Or.inl (kw K hw q1948)) (fun _ h => h) (Nat.le_of_ble_eq_true rfl) (Nat.le_of_ble_eq_true rfl) (fs_one (⟨_, ff_89_280 s0 H0 oa D⟩))) ?_
  exact fs_c0
theorem hX86_let (n : Nat) : fe_H (sX86_let FX87_touches FX87_lets) cX86_let [0, 14, 67] fe_ki [14] 41 (fun j => dX86_let (FX86_let_0 n (FX86_let_L14 n j)) (FX86_let_67 n (FX86_let_L14 n j)) (FX86_let_L14 n j)) := by
  intro j pc L st M r hc h
  rcases fe_mem_c hc with rfl | hc
  · obtain ⟨w0, m0, h⟩ := fe_lR_d h
    obtain ⟨w1, m1, h⟩ := fe_lL_d h
    obtain ⟨w3, m3, h⟩ := fe_lI_d h
    obtain ⟨w4, m4, h⟩ := fe_lI_d h
    obtain ⟨w5, m5, h⟩ := fe_lI_d h
    obtain ⟨rfl, hz⟩ := fe_t0_d h
    exact ⟨[(0, .ref w0), (1, .long w1), (3, .int w3), (4, .int w4), (5, .int w5)], (fe_cs m0 (fe_cs m1 (fe_cs m3 (fe_cs m4 (fe_cs m5 fe_nl))))), Or.inr ((bX86_let_0 FX87_touches FX87_lets (FX86_let_0 n (FX86_let_L14 n j)) (FX86_let_67 n (FX86_let_L14 n j)) (FX86_let_L14 n j) w0 w1 w3 w4 w5 M).symm.trans hz)⟩
  rcases fe_mem_c hc with rfl | hc
  · obtain ⟨w1, m1, h⟩ := fe_lL_d h
    obtain ⟨w3, m3, h⟩ := fe_lI_d h
    obtain ⟨w4, m4, h⟩ := fe_lI_d h
    obtain ⟨w5, m5, h⟩ := fe_lI_d h
    obtain ⟨w6, m6, h⟩ := fe_lR_d h
    obtain ⟨w7, m7, h⟩ := fe_lI_d h
    obtain ⟨w8, m8, h⟩ := fe_lI_d h
    obtain ⟨rfl, hz⟩ := fe_t0_d h
    cases j with
    | zero => exact fe_no hz
    | succ j => exact ⟨[(1, .long w1), (3, .int w3), (4, .int w4), (5, .int w5), (6, .ref w6), (7, .int w7), (8, .int w8)], (fe_cs m1 (fe_cs m3 (fe_cs m4 (fe_cs m5 (fe_cs m6 (fe_cs m7 (fe_cs m8 fe_nl))))))), Or.inl ⟨j, rfl, (bX86_let_14 FX87_touches FX87_lets (FX86_let_0 n (FX86_let_L14 n j)) (FX86_let_67 n (FX86_let_L14 n j)) (FX86_let_L14 n j) w1 w3 w4 w5 w6 w7 w8 M).symm.trans hz⟩⟩
  rcases fe_mem_c hc with rfl | hc
  · obtain ⟨s0, t0, rfl, g0⟩ := fe_tI_d h
    obtain ⟨rfl, hz⟩ := fe_t0_d g0
    exact ⟨[], fe_nl, Or.inr ((bX86_let_67 FX87_touches FX87_lets (FX86_let_0 n (FX86_let_L14 n j)) (FX86_let_67 n (FX86_let_L14 n j)) (FX86_let_L14 n j) s0 M).symm.trans hz)⟩
  exact fe_mem_0 hc
theorem vX86_let (n : Nat) : fe_SB (sX86_let FX87_touches FX87_lets) := by
  refine ⟨?_, ?_, ?_, ?_⟩
  · intro i As M r h
    exact fe_no h
  · intro i As M r h
    rcases fe_bc h with h | h
    · obtain ⟨v0, t0, rfl, g0⟩ := fe_tR_d h
      obtain ⟨v1, t1, rfl, g1⟩ := fe_tL_d g0
      obtain ⟨v2, t2, rfl, g2⟩ := fe_tI_d g1
      obtain ⟨rfl, hz⟩ := fe_t0_d g2
      exact mX87_touches v0 v1 v2 M r hz
    rcases fe_bc h with h | h
    · obtain ⟨v0, t0, rfl, g0⟩ := fe_tR_d h
      obtain ⟨v1, t1, rfl, g1⟩ := fe_tL_d g0
      obtain ⟨v2, t2, rfl, g2⟩ := fe_tI_d g1
      obtain ⟨v3, t3, rfl, g3⟩ := fe_tI_d g2
      obtain ⟨v4, t4, rfl, g4⟩ := fe_tI_d g3
      obtain ⟨rfl, hz⟩ := fe_t0_d g4
      exact mX87_lets v0 v1 v2 v3 v4 M r hz
    exact fe_no h
  · intro i As M r h
    exact fe_no h
  · intro i As M r h
    exact fe_no h
theorem eX86_let (g0 : Nat → Int64 → Int32 → Int32 → Int32 → FM → Option (Int32 × FM)) (g67 : Int32 → FM → Option (Int32 × FM)) (k14 : Int64 → Int32 → Int32 → Int32 → Nat → Int32 → Int32 → FM → Option (Int32 × FM)) (a0 : Nat) (a1 : Int64) (a3 : Int32) (a4 : Int32) (a5 : Int32) (M : FM) : dX86_let g0 g67 k14 0 [(0, .ref a0), (1, .long a1), (3, .int a3), (4, .int a4), (5, .int a5)] [] M = g0 a0 a1 a3 a4 a5 M := by rfl
theorem mX86_let (n : Nat) (a0 : Nat) (a1 : Int64) (a3 : Int32) (a4 : Int32) (a5 : Int32) (M : FM) (r : Int32 × FM) (h : FX86_let n a0 a1 a3 a4 a5 M = some r) : fm_nx M ≤ fm_nx r.2 ∧ fm_ns M ≤ fm_ns r.2 :=
  fe_mono (L0 := [(0, .ref a0), (1, .long a1), (3, .int a3), (4, .int a4), (5, .int a5)]) (vX86_let n) (by decide +kernel) (hX86_let n) (fe_ki_k r) n rfl ((eX86_let (FX86_let_0 n (FX86_let_L14 n n)) (FX86_let_67 n (FX86_let_L14 n n)) (FX86_let_L14 n n) a0 a1 a3 a4 a5 M).trans h)
theorem zX86_let {s0 : State} {H0 : Heap} {oa : Nat → Nat} {D : va_G} (K : fk s0 H0 oa D) (l : Launch) (n : Nat) (a0 : Nat) (a1 : Int64) (a3 : Int32) (a4 : Int32) (a5 : Int32) (M : FM) (r : Int32 × FM) (h : FX86_let n a0 a1 a3 a4 a5 M = some r) : fs_Con (fk_E s0 H0 oa D) l 3 ⟨"BoardMachine$Walks$Regions", "let", "(JIII)Z"⟩ prog_105_method_6_code 10 (Option.some Jvm.ClassFile.FieldType.boolean) [.ref a0, .long a1, .int a3, .int a4, .int a5] M (some (.int r.1)) r.2 := by
  have o0 : fs_OS (sX86_let FX87_touches FX87_lets) 0 1 (fs_Con (fk_E s0 H0 oa D) l 1 ⟨"BoardMachine$Walks$Region", "touches", "(JI)Z"⟩ prog_104_method_6_code 4 (Option.some Jvm.ClassFile.FieldType.boolean)) := by
    intro As M r h
    obtain ⟨v0, t0, rfl, g0⟩ := fe_tR_d h
    obtain ⟨v1, t1, rfl, g1⟩ := fe_tL_d g0
    obtain ⟨v2, t2, rfl, g2⟩ := fe_tI_d g1
    obtain ⟨rfl, hz⟩ := fe_t0_d g2
    exact zX87_touches K l v0 v1 v2 M r hz
  have o1 : fs_OS (sX86_let FX87_touches FX87_lets) 1 1 (fs_Con (fk_E s0 H0 oa D) l 2 ⟨"BoardMachine$Walks$Region", "lets", "(JIII)Z"⟩ prog_104_method_7_code 8 (Option.some Jvm.ClassFile.FieldType.boolean)) := by
    intro As M r h
    obtain ⟨v0, t0, rfl, g0⟩ := fe_tR_d h
    obtain ⟨v1, t1, rfl, g1⟩ := fe_tL_d g0
    obtain ⟨v2, t2, rfl, g2⟩ := fe_tI_d g1
    obtain ⟨v3, t3, rfl, g3⟩ := fe_tI_d g2
    obtain ⟨v4, t4, rfl, g4⟩ := fe_tI_d g3
    obtain ⟨rfl, hz⟩ := fe_t0_d g4
    exact zX87_lets K l v0 v1 v2 v3 v4 M r hz
  refine fs_method (own := "BoardMachine$Walks$Regions") rfl (by decide) K.2.1 (by rw [fe_slen]; exact (Nat.le_of_ble_eq_true rfl)) (mX86_let n a0 a1 a3 a4 a5 M r h) (hX86_let n) n rfl (L0 := [(0, .ref a0), (1, .long a1), (3, .int a3), (4, .int a4), (5, .int a5)]) (fun E => fe_args_e E [.ref a0, .long a1, .int a3, .int a4, .int a5] 0) ((eX86_let (FX86_let_0 n (FX86_let_L14 n n)) (FX86_let_67 n (FX86_let_L14 n n)) (FX86_let_L14 n n) a0 a1 a3 a4 a5 M).trans h) (fe_ki_k r) (fun H hR => fs_nr_o (by decide) (by decide)) ?_
  intro p e s m args below meth c Q C hnm
  have hw : s0.WarmedH s.vm := C.2.2.2.2.1
  refine fe_all C fk_hwr cX86_let [1, 32, 46] (by decide +kernel) (fe_fil (cps := [(1, 4, .getfield 1191551338), (32, 35, .invokevirtual 13722713), (46, 49, .invokevirtual 89220185)]) (by decide +kernel) ?_)
  refine fs_c1 (fs_getf (pc := 1) (n := 1191551338) (idx := 11) (ref := "BoardMachine$Walks$Regions") (O := "BoardMachine$Walks$Regions") (name := "all") (desc := "[LBoardMachine$Walks$Region;") C (by decide +kernel) (Or.inl (kw K hw q1965)) (fun _ h => h) (Nat.le_of_ble_eq_true rfl) (Nat.le_of_ble_eq_true rfl) (fs_one (⟨_, ff_90_284 s0 H0 oa D⟩))) ?_
  refine fs_c1 (fs_inv_virtual (pc := 32) (n := 13722713) C (Nat.le_of_ble_eq_true rfl) (Nat.le_of_ble_eq_true rfl) (fs_lk_virtual (idx := 57) (y := ⟨"BoardMachine$Walks$Region", "touches", "(JI)Z"⟩) (bytes := prog_104_method_6_code) (maxL := 4) (rt := (Option.some Jvm.ClassFile.FieldType.boolean)) (d := 1) C (Nat.le_of_ble_eq_true rfl) (Nat.le_of_ble_eq_true rfl) (by decide +kernel) (kw K hw q3041) (kw K hw q398) (kw K hw q3039) (Or.inl (kw K hw q3038)) ⟨by decide, by decide⟩ rfl (Nat.le_of_ble_eq_true rfl) (Nat.le_of_ble_eq_true rfl) (fs_one (⟨_, rfl, kw K hw q3040⟩))) fs_con_mono o0) ?_
  refine fs_c1 (fs_inv_virtual (pc := 46) (n := 89220185) C (Nat.le_of_ble_eq_true rfl) (Nat.le_of_ble_eq_true rfl) (fs_lk_virtual (idx := 61) (y := ⟨"BoardMachine$Walks$Region", "lets", "(JIII)Z"⟩) (bytes := prog_104_method_7_code) (maxL := 8) (rt := (Option.some Jvm.ClassFile.FieldType.boolean)) (d := 2) C (Nat.le_of_ble_eq_true rfl) (Nat.le_of_ble_eq_true rfl) (by decide +kernel) (kw K hw q3045) (kw K hw q398) (kw K hw q3043) (Or.inl (kw K hw q3042)) ⟨by decide, by decide⟩ rfl (Nat.le_of_ble_eq_true rfl) (Nat.le_of_ble_eq_true rfl) (fs_one (⟨_, rfl, kw K hw q3044⟩))) fs_con_mono o1) ?_
  exact fs_c0
theorem hX91_get : fe_H (sX91_get FX91_mask) cX91_get [0, 55] fe_kl [] 47 (fun _ => dX91_get FX91_get_0 FX91_get_55) := by
  intro j pc L st M r hc h
  rcases fe_mem_c hc with rfl | hc
  · obtain ⟨w0, m0, h⟩ := fe_lR_d h
    obtain ⟨w1, m1, h⟩ := fe_lI_d h
    obtain ⟨w2, m2, h⟩ := fe_lI_d h
    obtain ⟨rfl, hz⟩ := fe_t0_d h
    exact ⟨[(0, .ref w0), (1, .int w1), (2, .int w2)], (fe_cs m0 (fe_cs m1 (fe_cs m2 fe_nl))), Or.inr ((bX91_get_0 FX91_mask FX91_get_0 FX91_get_55 w0 w1 w2 M).symm.trans hz)⟩
  rcases fe_mem_c hc with rfl | hc
  · obtain ⟨w2, m2, h⟩ := fe_lI_d h
    obtain ⟨w5, m5, h⟩ := fe_lL_d h
    obtain ⟨rfl, hz⟩ := fe_t0_d h
    exact ⟨[(2, .int w2), (5, .long w5)], (fe_cs m2 (fe_cs m5 fe_nl)), Or.inr ((bX91_get_55 FX91_mask FX91_get_0 FX91_get_55 w2 w5 M).symm.trans hz)⟩
  exact fe_mem_0 hc
theorem vX91_get : fe_SB (sX91_get FX91_mask) := by
  refine ⟨?_, ?_, ?_, ?_⟩
  · intro i As M r h
    exact fe_no h
  · intro i As M r h
    exact fe_no h
  · intro i As M r h
    rcases fe_bc h with h | h
    · obtain ⟨v0, t0, rfl, g0⟩ := fe_tI_d h
      obtain ⟨rfl, hz⟩ := fe_t0_d g0
      exact mX91_mask v0 M r hz
    exact fe_no h
  · intro i As M r h
    exact fe_no h
theorem eX91_get (g0 : Nat → Int32 → Int32 → FM → Option (Int64 × FM)) (g55 : Int32 → Int64 → FM → Option (Int64 × FM)) (a0 : Nat) (a1 : Int32) (a2 : Int32) (M : FM) : dX91_get g0 g55 0 [(0, .ref a0), (1, .int a1), (2, .int a2)] [] M = g0 a0 a1 a2 M := by rfl
theorem mX91_get (a0 : Nat) (a1 : Int32) (a2 : Int32) (M : FM) (r : Int64 × FM) (h : FX91_get a0 a1 a2 M = some r) : fm_nx M ≤ fm_nx r.2 ∧ fm_ns M ≤ fm_ns r.2 :=
  fe_mono (L0 := [(0, .ref a0), (1, .int a1), (2, .int a2)]) (vX91_get) (by decide +kernel) (hX91_get) (fe_kl_k r) 0 rfl ((eX91_get FX91_get_0 FX91_get_55 a0 a1 a2 M).trans h)
theorem zX91_get {s0 : State} {H0 : Heap} {oa : Nat → Nat} {D : va_G} (K : fk s0 H0 oa D) (l : Launch) (a0 : Nat) (a1 : Int32) (a2 : Int32) (M : FM) (r : Int64 × FM) (h : FX91_get a0 a1 a2 M = some r) : fs_Con (fk_E s0 H0 oa D) l 2 ⟨"BoardMachine$Memories$Page", "get", "(II)J"⟩ prog_81_method_3_code 7 (Option.some Jvm.ClassFile.FieldType.long) [.ref a0, .int a1, .int a2] M (some (.long r.1)) r.2 := by
  have o0 : fs_OS (sX91_get FX91_mask) 0 2 (fs_Con (fk_E s0 H0 oa D) l 1 ⟨"BoardMachine$Memories$Page", "mask", "(I)J"⟩ prog_81_method_2_code 1 (Option.some Jvm.ClassFile.FieldType.long)) := by
    intro As M r h
    obtain ⟨v0, t0, rfl, g0⟩ := fe_tI_d h
    obtain ⟨rfl, hz⟩ := fe_t0_d g0
    exact zX91_mask K l v0 M r hz
  refine fs_method (own := "BoardMachine$Memories$Page") rfl (by decide) K.2.1 (by rw [fe_slen]; exact (Nat.le_of_ble_eq_true rfl)) (mX91_get a0 a1 a2 M r h) (hX91_get) 0 rfl (L0 := [(0, .ref a0), (1, .int a1), (2, .int a2)]) (fun E => fe_args_e E [.ref a0, .int a1, .int a2] 0) ((eX91_get FX91_get_0 FX91_get_55 a0 a1 a2 M).trans h) (fe_kl_k r) (fun H hR => fs_nr_o (by decide) (by decide)) ?_
  intro p e s m args below meth c Q C hnm
  have hw : s0.WarmedH s.vm := C.2.2.2.2.1
  refine fe_all C fk_hwr cX91_get [14, 39, 58] (by decide +kernel) (fe_fil (cps := [(14, 17, .getfield 843350306), (39, 42, .getfield 843350306), (58, 61, .invokestatic 6)]) (by decide +kernel) ?_)
  refine fs_c1 (fs_getf (pc := 14) (n := 843350306) (idx := 9) (ref := "BoardMachine$Memories$Page") (O := "BoardMachine$Memories$Page") (name := "words") (desc := "[J") C (by decide +kernel) (Or.inl (kw K hw q2409)) (fun _ h => h) (Nat.le_of_ble_eq_true rfl) (Nat.le_of_ble_eq_true rfl) (fs_one (⟨_, ff_72_201 s0 H0 oa D⟩))) ?_
  refine fs_c1 (fs_getf (pc := 39) (n := 843350306) (idx := 9) (ref := "BoardMachine$Memories$Page") (O := "BoardMachine$Memories$Page") (name := "words") (desc := "[J") C (by decide +kernel) (Or.inl (kw K hw q2409)) (fun _ h => h) (Nat.le_of_ble_eq_true rfl) (Nat.le_of_ble_eq_true rfl) (fs_one (⟨_, ff_72_201 s0 H0 oa D⟩))) ?_
  refine fs_c1 (fs_inv_static (pc := 58) (n := 6) C (fs_lk_static (idx := 17) (y := ⟨"BoardMachine$Memories$Page", "mask", "(I)J"⟩) (bytes := prog_81_method_2_code) (maxL := 1) (rt := (Option.some Jvm.ClassFile.FieldType.long)) (d := 1) C (by decide +kernel) (kw K hw q2419) (kw K hw q408) (kw K hw q2418) (Or.inl (kw K hw q2417)) ⟨by decide, by decide⟩ rfl (Nat.le_of_ble_eq_true rfl) (Nat.le_of_ble_eq_true rfl)) fs_con_mono o0) ?_
  exact fs_c0
theorem hX11_load : fe_H (sX11_load FX11_placeOf FJ5_min FX11_pageOf FX91_get) cX11_load [0, 47, 100] fe_kl [] 59 (fun _ => dX11_load FX11_load_0 FX11_load_47 FX11_load_100) := by
  intro j pc L st M r hc h
  rcases fe_mem_c hc with rfl | hc
  · obtain ⟨w0, m0, h⟩ := fe_lR_d h
    obtain ⟨w1, m1, h⟩ := fe_lL_d h
    obtain ⟨w3, m3, h⟩ := fe_lI_d h
    obtain ⟨rfl, hz⟩ := fe_t0_d h
    exact ⟨[(0, .ref w0), (1, .long w1), (3, .int w3)], (fe_cs m0 (fe_cs m1 (fe_cs m3 fe_nl))), Or.inr ((bX11_load_0 FX11_placeOf FJ5_min FX11_pageOf FX91_get FX11_load_0 FX11_load_47 FX11_load_100 w0 w1 w3 M).symm.trans hz)⟩
  rcases fe_mem_c hc with rfl | hc
  · obtain ⟨w0, m0, h⟩ := fe_lR_d h
    obtain ⟨w1, m1, h⟩ := fe_lL_d h
    obtain ⟨w3, m3, h⟩ := fe_lI_d h
    obtain ⟨w5, m5, h⟩ := fe_lI_d h
    obtain ⟨s0, t0, rfl, g0⟩ := fe_tL_d h
    obtain ⟨rfl, hz⟩ := fe_t0_d g0
    exact ⟨[(0, .ref w0), (1, .long w1), (3, .int w3), (5, .int w5)], (fe_cs m0 (fe_cs m1 (fe_cs m3 (fe_cs m5 fe_nl)))), Or.inr ((bX11_load_47 FX11_placeOf FJ5_min FX11_pageOf FX91_get FX11_load_0 FX11_load_47 FX11_load_100 w0 w1 w3 w5 s0 M).symm.trans hz)⟩
  rcases fe_mem_c hc with rfl | hc
  · obtain ⟨s0, t0, rfl, g0⟩ := fe_tL_d h
    obtain ⟨rfl, hz⟩ := fe_t0_d g0
    exact ⟨[], fe_nl, Or.inr ((bX11_load_100 FX11_placeOf FJ5_min FX11_pageOf FX91_get FX11_load_0 FX11_load_47 FX11_load_100 s0 M).symm.trans hz)⟩
  exact fe_mem_0 hc
theorem vX11_load : fe_SB (sX11_load FX11_placeOf FJ5_min FX11_pageOf FX91_get) := by
  refine ⟨?_, ?_, ?_, ?_⟩
  · intro i As M r h
    exact fe_no h
  · intro i As M r h
    rcases fe_bc h with h | h
    · obtain ⟨v0, t0, rfl, g0⟩ := fe_tL_d h
      obtain ⟨rfl, hz⟩ := fe_t0_d g0
      exact mX11_placeOf v0 M r hz
    rcases fe_bc h with h | h
    · obtain ⟨v0, t0, rfl, g0⟩ := fe_tI_d h
      obtain ⟨v1, t1, rfl, g1⟩ := fe_tI_d g0
      obtain ⟨rfl, hz⟩ := fe_t0_d g1
      exact mJ5_min v0 v1 M r hz
    rcases fe_bc h with h | h
    · obtain ⟨v0, t0, rfl, g0⟩ := fe_tL_d h
      obtain ⟨rfl, hz⟩ := fe_t0_d g0
      exact mX11_pageOf v0 M r hz
    exact fe_no h
  · intro i As M r h
    rcases fe_bc h with h | h
    · obtain ⟨v0, t0, rfl, g0⟩ := fe_tR_d h
      obtain ⟨v1, t1, rfl, g1⟩ := fe_tI_d g0
      obtain ⟨v2, t2, rfl, g2⟩ := fe_tI_d g1
      obtain ⟨rfl, hz⟩ := fe_t0_d g2
      exact mX91_get v0 v1 v2 M r hz
    exact fe_no h
  · intro i As M r h
    exact fe_no h
theorem eX11_load (g0 : Nat → Int64 → Int32 → FM → Option (Int64 × FM)) (g47 : Nat → Int64 → Int32 → Int32 → Int64 → FM → Option (Int64 × FM)) (g100 : Int64 → FM → Option (Int64 × FM)) (a0 : Nat) (a1 : Int64) (a3 : Int32) (M : FM) : dX11_load g0 g47 g100 0 [(0, .ref a0), (1, .long a1), (3, .int a3)] [] M = g0 a0 a1 a3 M := by rfl
theorem mX11_load (a0 : Nat) (a1 : Int64) (a3 : Int32) (M : FM) (r : Int64 × FM) (h : FX11_load a0 a1 a3 M = some r) : fm_nx M ≤ fm_nx r.2 ∧ fm_ns M ≤ fm_ns r.2 :=
  fe_mono (L0 := [(0, .ref a0), (1, .long a1), (3, .int a3)]) (vX11_load) (by decide +kernel) (hX11_load) (fe_kl_k r) 0 rfl ((eX11_load FX11_load_0 FX11_load_47 FX11_load_100 a0 a1 a3 M).trans h)
theorem zX11_load {s0 : State} {H0 : Heap} {oa : Nat → Nat} {D : va_G} (K : fk s0 H0 oa D) (l : Launch) (a0 : Nat) (a1 : Int64) (a3 : Int32) (M : FM) (r : Int64 × FM) (h : FX11_load a0 a1 a3 M = some r) : fs_Con (fk_E s0 H0 oa D) l 3 ⟨"BoardMachine$Memories$Ram", "load", "(JI)J"⟩ prog_82_method_6_code 10 (Option.some Jvm.ClassFile.FieldType.long) [.ref a0, .long a1, .int a3] M (some (.long r.1)) r.2 := by
  have o0 : fs_OS (sX11_load FX11_placeOf FJ5_min FX11_pageOf FX91_get) 0 1 (fs_Con (fk_E s0 H0 oa D) l 1 ⟨"BoardMachine$Memories$Ram", "placeOf", "(J)I"⟩ prog_82_method_4_code 2 (Option.some Jvm.ClassFile.FieldType.int)) := by
    intro As M r h
    obtain ⟨v0, t0, rfl, g0⟩ := fe_tL_d h
    obtain ⟨rfl, hz⟩ := fe_t0_d g0
    exact zX11_placeOf K l v0 M r hz
  have o1 : fs_OS (sX11_load FX11_placeOf FJ5_min FX11_pageOf FX91_get) 1 1 (fs_cii fm_min) := by
    intro As M r h
    obtain ⟨v0, t0, rfl, g0⟩ := fe_tI_d h
    obtain ⟨v1, t1, rfl, g1⟩ := fe_tI_d g0
    obtain ⟨rfl, hz⟩ := fe_t0_d g1
    obtain rfl := zJ5_min _ _ _ _ hz
    exact ⟨v0, v1, rfl, rfl, rfl⟩
  have o2 : fs_OS (sX11_load FX11_placeOf FJ5_min FX11_pageOf FX91_get) 2 1 (fs_Con (fk_E s0 H0 oa D) l 1 ⟨"BoardMachine$Memories$Ram", "pageOf", "(J)I"⟩ prog_82_method_3_code 2 (Option.some Jvm.ClassFile.FieldType.int)) := by
    intro As M r h
    obtain ⟨v0, t0, rfl, g0⟩ := fe_tL_d h
    obtain ⟨rfl, hz⟩ := fe_t0_d g0
    exact zX11_pageOf K l v0 M r hz
  have o3 : fs_OS (sX11_load FX11_placeOf FJ5_min FX11_pageOf FX91_get) 3 2 (fs_Con (fk_E s0 H0 oa D) l 2 ⟨"BoardMachine$Memories$Page", "get", "(II)J"⟩ prog_81_method_3_code 7 (Option.some Jvm.ClassFile.FieldType.long)) := by
    intro As M r h
    obtain ⟨v0, t0, rfl, g0⟩ := fe_tR_d h
    obtain ⟨v1, t1, rfl, g1⟩ := fe_tI_d g0
    obtain ⟨v2, t2, rfl, g2⟩ := fe_tI_d g1
    obtain ⟨rfl, hz⟩ := fe_t0_d g2
    exact zX91_get K l v0 v1 v2 M r hz
  refine fs_method (own := "BoardMachine$Memories$Ram") rfl (by decide) K.2.1 (by rw [fe_slen]; exact (Nat.le_of_ble_eq_true rfl)) (mX11_load a0 a1 a3 M r h) (hX11_load) 0 rfl (L0 := [(0, .ref a0), (1, .long a1), (3, .int a3)]) (fun E => fe_args_e E [.ref a0, .long a1, .int a3] 0) ((eX11_load FX11_load_0 FX11_load_47 FX11_load_100 a0 a1 a3 M).trans h) (fe_kl_k r) (fun H hR => fs_nr_o (by decide) (by decide)) ?_
  intro p e s m args below meth c Q C hnm
  have hw : s0.WarmedH s.vm := C.2.2.2.2.1
  refine fe_all C fk_hwr cX11_load [1, 13, 19, 23, 44, 59, 63, 88] (by decide +kernel) (fe_fil (cps := [(1, 4, .invokestatic 5), (13, 16, .invokestatic 73), (19, 22, .getfield 851743014), (23, 26, .invokestatic 133), (44, 47, .invokevirtual 216080456), (59, 62, .getfield 851743014), (63, 66, .invokestatic 133), (88, 91, .invokevirtual 216080456)]) (by decide +kernel) ?_)
  refine fs_c1 (fs_inv_static (pc := 1) (n := 5) C (fs_lk_static (idx := 61) (y := ⟨"BoardMachine$Memories$Ram", "placeOf", "(J)I"⟩) (bytes := prog_82_method_4_code) (maxL := 2) (rt := (Option.some Jvm.ClassFile.FieldType.int)) (d := 1) C (by decide +kernel) (kw K hw q2395) (kw K hw q321) (kw K hw q2394) (Or.inl (kw K hw q2393)) ⟨by decide, by decide⟩ rfl (Nat.le_of_ble_eq_true rfl) (Nat.le_of_ble_eq_true rfl)) fs_con_mono o0) ?_
  refine fs_c1 (fs_inv_static (pc := 13) (n := 73) C (fs_lk_mmin (idx := 65) C (by decide +kernel) (kw K hw q2399) (kw K hw q407) (kw K hw q2398) (kw K hw q2397) (Nat.le_of_ble_eq_true rfl) (Nat.le_of_ble_eq_true rfl)) fs_cii_mono o1) ?_
  refine fs_c1 (fs_getf (pc := 19) (n := 851743014) (idx := 11) (ref := "BoardMachine$Memories$Ram") (O := "BoardMachine$Memories$Ram") (name := "pages") (desc := "[LBoardMachine$Memories$Page;") C (by decide +kernel) (Or.inl (kw K hw q691)) (fun _ h => h) (Nat.le_of_ble_eq_true rfl) (Nat.le_of_ble_eq_true rfl) (fs_one (⟨_, ff_73_203 s0 H0 oa D⟩))) ?_
  refine fs_c1 (fs_inv_static (pc := 23) (n := 133) C (fs_lk_static (idx := 71) (y := ⟨"BoardMachine$Memories$Ram", "pageOf", "(J)I"⟩) (bytes := prog_82_method_3_code) (maxL := 2) (rt := (Option.some Jvm.ClassFile.FieldType.int)) (d := 1) C (by decide +kernel) (kw K hw q2391) (kw K hw q321) (kw K hw q2390) (Or.inl (kw K hw q2389)) ⟨by decide, by decide⟩ rfl (Nat.le_of_ble_eq_true rfl) (Nat.le_of_ble_eq_true rfl)) fs_con_mono o2) ?_
  refine fs_c1 (fs_inv_virtual (pc := 44) (n := 216080456) C (Nat.le_of_ble_eq_true rfl) (Nat.le_of_ble_eq_true rfl) (fs_lk_virtual (idx := 74) (y := ⟨"BoardMachine$Memories$Page", "get", "(II)J"⟩) (bytes := prog_81_method_3_code) (maxL := 7) (rt := (Option.some Jvm.ClassFile.FieldType.long)) (d := 2) C (Nat.le_of_ble_eq_true rfl) (Nat.le_of_ble_eq_true rfl) (by decide +kernel) (kw K hw q3066) (kw K hw q408) (kw K hw q3064) (Or.inl (kw K hw q3063)) ⟨by decide, by decide⟩ rfl (Nat.le_of_ble_eq_true rfl) (Nat.le_of_ble_eq_true rfl) (fs_one (⟨_, rfl, kw K hw q3065⟩))) fs_con_mono o3) ?_
  refine fs_c1 (fs_getf (pc := 59) (n := 851743014) (idx := 11) (ref := "BoardMachine$Memories$Ram") (O := "BoardMachine$Memories$Ram") (name := "pages") (desc := "[LBoardMachine$Memories$Page;") C (by decide +kernel) (Or.inl (kw K hw q691)) (fun _ h => h) (Nat.le_of_ble_eq_true rfl) (Nat.le_of_ble_eq_true rfl) (fs_one (⟨_, ff_73_203 s0 H0 oa D⟩))) ?_
  refine fs_c1 (fs_inv_static (pc := 63) (n := 133) C (fs_lk_static (idx := 71) (y := ⟨"BoardMachine$Memories$Ram", "pageOf", "(J)I"⟩) (bytes := prog_82_method_3_code) (maxL := 2) (rt := (Option.some Jvm.ClassFile.FieldType.int)) (d := 1) C (by decide +kernel) (kw K hw q2391) (kw K hw q321) (kw K hw q2390) (Or.inl (kw K hw q2389)) ⟨by decide, by decide⟩ rfl (Nat.le_of_ble_eq_true rfl) (Nat.le_of_ble_eq_true rfl)) fs_con_mono o2) ?_
  refine fs_c1 (fs_inv_virtual (pc := 88) (n := 216080456) C (Nat.le_of_ble_eq_true rfl) (Nat.le_of_ble_eq_true rfl) (fs_lk_virtual (idx := 74) (y := ⟨"BoardMachine$Memories$Page", "get", "(II)J"⟩) (bytes := prog_81_method_3_code) (maxL := 7) (rt := (Option.some Jvm.ClassFile.FieldType.long)) (d := 2) C (Nat.le_of_ble_eq_true rfl) (Nat.le_of_ble_eq_true rfl) (by decide +kernel) (kw K hw q3066) (kw K hw q408) (kw K hw q3064) (Or.inl (kw K hw q3063)) ⟨by decide, by decide⟩ rfl (Nat.le_of_ble_eq_true rfl) (Nat.le_of_ble_eq_true rfl) (fs_one (⟨_, rfl, kw K hw q3065⟩))) fs_con_mono o3) ?_
  exact fs_c0
theorem hX85_get : fe_H (sX85_get FX11_load) cX85_get [0] fe_kl [] 20 (fun _ => dX85_get FX85_get_0) := by
  intro j pc L st M r hc h
  rcases fe_mem_c hc with rfl | hc
  · obtain ⟨w0, m0, h⟩ := fe_lR_d h
    obtain ⟨w1, m1, h⟩ := fe_lL_d h
    obtain ⟨rfl, hz⟩ := fe_t0_d h
    exact ⟨[(0, .ref w0), (1, .long w1)], (fe_cs m0 (fe_cs m1 fe_nl)), Or.inr ((bX85_get_0 FX11_load FX85_get_0 w0 w1 M).symm.trans hz)⟩
  exact fe_mem_0 hc
theorem vX85_get : fe_SB (sX85_get FX11_load) := by
  refine ⟨?_, ?_, ?_, ?_⟩
  · intro i As M r h
    exact fe_no h
  · intro i As M r h
    exact fe_no h
  · intro i As M r h
    rcases fe_bc h with h | h
    · obtain ⟨v0, t0, rfl, g0⟩ := fe_tR_d h
      obtain ⟨v1, t1, rfl, g1⟩ := fe_tL_d g0
      obtain ⟨v2, t2, rfl, g2⟩ := fe_tI_d g1
      obtain ⟨rfl, hz⟩ := fe_t0_d g2
      exact mX11_load v0 v1 v2 M r hz
    exact fe_no h
  · intro i As M r h
    exact fe_no h
theorem eX85_get (g0 : Nat → Int64 → FM → Option (Int64 × FM)) (a0 : Nat) (a1 : Int64) (M : FM) : dX85_get g0 0 [(0, .ref a0), (1, .long a1)] [] M = g0 a0 a1 M := by rfl
theorem mX85_get (a0 : Nat) (a1 : Int64) (M : FM) (r : Int64 × FM) (h : FX85_get a0 a1 M = some r) : fm_nx M ≤ fm_nx r.2 ∧ fm_ns M ≤ fm_ns r.2 :=
  fe_mono (L0 := [(0, .ref a0), (1, .long a1)]) (vX85_get) (by decide +kernel) (hX85_get) (fe_kl_k r) 0 rfl ((eX85_get FX85_get_0 a0 a1 M).trans h)
theorem zX85_get {s0 : State} {H0 : Heap} {oa : Nat → Nat} {D : va_G} (K : fk s0 H0 oa D) (l : Launch) (a0 : Nat) (a1 : Int64) (M : FM) (r : Int64 × FM) (h : FX85_get a0 a1 M = some r) : fs_Con (fk_E s0 H0 oa D) l 4 ⟨"BoardMachine$TableWords", "get", "(J)J"⟩ prog_94_method_3_code 3 (Option.some Jvm.ClassFile.FieldType.long) [.ref a0, .long a1] M (some (.long r.1)) r.2 := by
  have o0 : fs_OS (sX85_get FX11_load) 0 2 (fs_Con (fk_E s0 H0 oa D) l 3 ⟨"BoardMachine$Memories$Ram", "load", "(JI)J"⟩ prog_82_method_6_code 10 (Option.some Jvm.ClassFile.FieldType.long)) := by
    intro As M r h
    obtain ⟨v0, t0, rfl, g0⟩ := fe_tR_d h
    obtain ⟨v1, t1, rfl, g1⟩ := fe_tL_d g0
    obtain ⟨v2, t2, rfl, g2⟩ := fe_tI_d g1
    obtain ⟨rfl, hz⟩ := fe_t0_d g2
    exact zX11_load K l v0 v1 v2 M r hz
  refine fs_method (own := "BoardMachine$TableWords") rfl (by decide) K.2.1 (by rw [fe_slen]; exact (Nat.le_of_ble_eq_true rfl)) (mX85_get a0 a1 M r h) (hX85_get) 0 rfl (L0 := [(0, .ref a0), (1, .long a1)]) (fun E => fe_args_e E [.ref a0, .long a1] 0) ((eX85_get FX85_get_0 a0 a1 M).trans h) (fe_kl_k r) (fun H hR => fs_nr_o (by decide) (by decide)) ?_
  intro p e s m args below meth c Q C hnm
  have hw : s0.WarmedH s.vm := C.2.2.2.2.1
  refine fe_all C fk_hwr cX85_get [1, 7] (by decide +kernel) (fe_fil (cps := [(1, 4, .getfield 1036325190), (7, 10, .invokevirtual 14754889)]) (by decide +kernel) ?_)
  refine fs_c1 (fs_getf (pc := 1) (n := 1036325190) (idx := 7) (ref := "BoardMachine$TableWords") (O := "BoardMachine$TableWords") (name := "ram") (desc := "LBoardMachine$Memories$Ram;") C (by decide +kernel) (Or.inl (kw K hw q1925)) (fun _ h => h) (Nat.le_of_ble_eq_true rfl) (Nat.le_of_ble_eq_true rfl) (fs_one (⟨_, ff_81_247 s0 H0 oa D⟩))) ?_
  refine fs_c1 (fs_inv_virtual (pc := 7) (n := 14754889) C (Nat.le_of_ble_eq_true rfl) (Nat.le_of_ble_eq_true rfl) (fs_lk_virtual (idx := 23) (y := ⟨"BoardMachine$Memories$Ram", "load", "(JI)J"⟩) (bytes := prog_82_method_6_code) (maxL := 10) (rt := (Option.some Jvm.ClassFile.FieldType.long)) (d := 3) C (Nat.le_of_ble_eq_true rfl) (Nat.le_of_ble_eq_true rfl) (by decide +kernel) (kw K hw q3062) (kw K hw q321) (kw K hw q3060) (Or.inl (kw K hw q3059)) ⟨by decide, by decide⟩ rfl (Nat.le_of_ble_eq_true rfl) (Nat.le_of_ble_eq_true rfl) (fs_one (⟨_, rfl, kw K hw q3061⟩))) fs_con_mono o0) ?_
  exact fs_c0
theorem hX102_has : fe_H (sX102_has) cX102_has [0, 15] fe_ki [] 20 (fun _ => dX102_has FX102_has_0 FX102_has_15) := by
  intro j pc L st M r hc h
  rcases fe_mem_c hc with rfl | hc
  · obtain ⟨w0, m0, h⟩ := fe_lL_d h
    obtain ⟨w2, m2, h⟩ := fe_lI_d h
    obtain ⟨rfl, hz⟩ := fe_t0_d h
    exact ⟨[(0, .long w0), (2, .int w2)], (fe_cs m0 (fe_cs m2 fe_nl)), Or.inr ((bX102_has_0 FX102_has_0 FX102_has_15 w0 w2 M).symm.trans hz)⟩
  rcases fe_mem_c hc with rfl | hc
  · obtain ⟨s0, t0, rfl, g0⟩ := fe_tI_d h
    obtain ⟨rfl, hz⟩ := fe_t0_d g0
    exact ⟨[], fe_nl, Or.inr ((bX102_has_15 FX102_has_0 FX102_has_15 s0 M).symm.trans hz)⟩
  exact fe_mem_0 hc
theorem vX102_has : fe_SB (sX102_has) := by
  refine ⟨?_, ?_, ?_, ?_⟩
  · intro i As M r h
    exact fe_no h
  · intro i As M r h
    exact fe_no h
  · intro i As M r h
    exact fe_no h
  · intro i As M r h
    exact fe_no h
theorem eX102_has (g0 : Int64 → Int32 → FM → Option (Int32 × FM)) (g15 : Int32 → FM → Option (Int32 × FM)) (a0 : Int64) (a2 : Int32) (M : FM) : dX102_has g0 g15 0 [(0, .long a0), (2, .int a2)] [] M = g0 a0 a2 M := by rfl
theorem mX102_has (a0 : Int64) (a2 : Int32) (M : FM) (r : Int32 × FM) (h : FX102_has a0 a2 M = some r) : fm_nx M ≤ fm_nx r.2 ∧ fm_ns M ≤ fm_ns r.2 :=
  fe_mono (L0 := [(0, .long a0), (2, .int a2)]) (vX102_has) (by decide +kernel) (hX102_has) (fe_ki_k r) 0 rfl ((eX102_has FX102_has_0 FX102_has_15 a0 a2 M).trans h)
theorem zX102_has {s0 : State} {H0 : Heap} {oa : Nat → Nat} {D : va_G} (K : fk s0 H0 oa D) (l : Launch) (a0 : Int64) (a2 : Int32) (M : FM) (r : Int32 × FM) (h : FX102_has a0 a2 M = some r) : fs_Con (fk_E s0 H0 oa D) l 1 ⟨"BoardMachine$Walks", "has", "(JI)Z"⟩ prog_102_method_3_code 3 (Option.some Jvm.ClassFile.FieldType.boolean) [.long a0, .int a2] M (some (.int r.1)) r.2 := by
  refine fs_method (own := "BoardMachine$Walks") rfl (by decide) K.2.1 (by rw [fe_slen]; exact (Nat.le_of_ble_eq_true rfl)) (mX102_has a0 a2 M r h) (hX102_has) 0 rfl (L0 := [(0, .long a0), (2, .int a2)]) (fun E => fe_args_e E [.long a0, .int a2] 0) ((eX102_has FX102_has_0 FX102_has_15 a0 a2 M).trans h) (fe_ki_k r) (fun H hR => fs_nr_o (by decide) (by decide)) ?_
  intro p e s m args below meth c Q C hnm
  have hw : s0.WarmedH s.vm := C.2.2.2.2.1
  refine fe_all C fk_hwr cX102_has [] (by decide +kernel) (fe_fil (cps := []) (by decide +kernel) ?_)
  exact fs_c0
theorem hX84_step (n : Nat) : fe_H (sX84_step FX102_bits FX85_has (FX86_let n) FX85_get FX102_has) cX84_step [0, 61, 136, 152, 157, 191, 196] fe_ki [] 103 (fun _ => dX84_step (FX84_step_0 n) (FX84_step_61 n) (FX84_step_136 n) (FX84_step_152 n) (FX84_step_157 n) (FX84_step_191 n) (FX84_step_196 n)) := by
  intro j pc L st M r hc h
  rcases fe_mem_c hc with rfl | hc
  · obtain ⟨w0, m0, h⟩ := fe_lR_d h
    obtain ⟨w1, m1, h⟩ := fe_lL_d h
    obtain ⟨w3, m3, h⟩ := fe_lL_d h
    obtain ⟨w5, m5, h⟩ := fe_lI_d h
    obtain ⟨rfl, hz⟩ := fe_t0_d h
    exact ⟨[(0, .ref w0), (1, .long w1), (3, .long w3), (5, .int w5)], (fe_cs m0 (fe_cs m1 (fe_cs m3 (fe_cs m5 fe_nl)))), Or.inr ((bX84_step_0 FX102_bits FX85_has (FX86_let n) FX85_get FX102_has (FX84_step_0 n ) (FX84_step_61 n ) (FX84_step_136 n ) (FX84_step_152 n ) (FX84_step_157 n ) (FX84_step_191 n ) (FX84_step_196 n ) w0 w1 w3 w5 M).symm.trans hz)⟩
  rcases fe_mem_c hc with rfl | hc
  · obtain ⟨rfl, hz⟩ := fe_t0_d h
    exact ⟨[], fe_nl, Or.inr ((bX84_step_61 FX102_bits FX85_has (FX86_let n) FX85_get FX102_has (FX84_step_0 n ) (FX84_step_61 n ) (FX84_step_136 n ) (FX84_step_152 n ) (FX84_step_157 n ) (FX84_step_191 n ) (FX84_step_196 n ) M).symm.trans hz)⟩
  rcases fe_mem_c hc with rfl | hc
  · obtain ⟨w0, m0, h⟩ := fe_lR_d h
    obtain ⟨rfl, hz⟩ := fe_t0_d h
    exact ⟨[(0, .ref w0)], (fe_cs m0 fe_nl), Or.inr ((bX84_step_136 FX102_bits FX85_has (FX86_let n) FX85_get FX102_has (FX84_step_0 n ) (FX84_step_61 n ) (FX84_step_136 n ) (FX84_step_152 n ) (FX84_step_157 n ) (FX84_step_191 n ) (FX84_step_196 n ) w0 M).symm.trans hz)⟩
  rcases fe_mem_c hc with rfl | hc
  · obtain ⟨w0, m0, h⟩ := fe_lR_d h
    obtain ⟨rfl, hz⟩ := fe_t0_d h
    exact ⟨[(0, .ref w0)], (fe_cs m0 fe_nl), Or.inr ((bX84_step_152 FX102_bits FX85_has (FX86_let n) FX85_get FX102_has (FX84_step_0 n ) (FX84_step_61 n ) (FX84_step_136 n ) (FX84_step_152 n ) (FX84_step_157 n ) (FX84_step_191 n ) (FX84_step_196 n ) w0 M).symm.trans hz)⟩
  rcases fe_mem_c hc with rfl | hc
  · obtain ⟨w0, m0, h⟩ := fe_lR_d h
    obtain ⟨s0, t0, rfl, g0⟩ := fe_tI_d h
    obtain ⟨rfl, hz⟩ := fe_t0_d g0
    exact ⟨[(0, .ref w0)], (fe_cs m0 fe_nl), Or.inr ((bX84_step_157 FX102_bits FX85_has (FX86_let n) FX85_get FX102_has (FX84_step_0 n ) (FX84_step_61 n ) (FX84_step_136 n ) (FX84_step_152 n ) (FX84_step_157 n ) (FX84_step_191 n ) (FX84_step_196 n ) w0 s0 M).symm.trans hz)⟩
  rcases fe_mem_c hc with rfl | hc
  · obtain ⟨rfl, hz⟩ := fe_t0_d h
    exact ⟨[], fe_nl, Or.inr ((bX84_step_191 FX102_bits FX85_has (FX86_let n) FX85_get FX102_has (FX84_step_0 n ) (FX84_step_61 n ) (FX84_step_136 n ) (FX84_step_152 n ) (FX84_step_157 n ) (FX84_step_191 n ) (FX84_step_196 n ) M).symm.trans hz)⟩
  rcases fe_mem_c hc with rfl | hc
  · obtain ⟨s0, t0, rfl, g0⟩ := fe_tI_d h
    obtain ⟨rfl, hz⟩ := fe_t0_d g0
    exact ⟨[], fe_nl, Or.inr ((bX84_step_196 FX102_bits FX85_has (FX86_let n) FX85_get FX102_has (FX84_step_0 n ) (FX84_step_61 n ) (FX84_step_136 n ) (FX84_step_152 n ) (FX84_step_157 n ) (FX84_step_191 n ) (FX84_step_196 n ) s0 M).symm.trans hz)⟩
  exact fe_mem_0 hc
theorem vX84_step (n : Nat) : fe_SB (sX84_step FX102_bits FX85_has (FX86_let n) FX85_get FX102_has) := by
  refine ⟨?_, ?_, ?_, ?_⟩
  · intro i As M r h
    exact fe_no h
  · intro i As M r h
    rcases fe_bc h with h | h
    · obtain ⟨v0, t0, rfl, g0⟩ := fe_tR_d h
      obtain ⟨v1, t1, rfl, g1⟩ := fe_tL_d g0
      obtain ⟨rfl, hz⟩ := fe_t0_d g1
      exact mX85_has v0 v1 M r hz
    rcases fe_bc h with h | h
    · obtain ⟨v0, t0, rfl, g0⟩ := fe_tR_d h
      obtain ⟨v1, t1, rfl, g1⟩ := fe_tL_d g0
      obtain ⟨v2, t2, rfl, g2⟩ := fe_tI_d g1
      obtain ⟨v3, t3, rfl, g3⟩ := fe_tI_d g2
      obtain ⟨v4, t4, rfl, g4⟩ := fe_tI_d g3
      obtain ⟨rfl, hz⟩ := fe_t0_d g4
      exact mX86_let n v0 v1 v2 v3 v4 M r hz
    rcases fe_bc h with h | h
    · obtain ⟨v0, t0, rfl, g0⟩ := fe_tL_d h
      obtain ⟨v1, t1, rfl, g1⟩ := fe_tI_d g0
      obtain ⟨rfl, hz⟩ := fe_t0_d g1
      exact mX102_has v0 v1 M r hz
    exact fe_no h
  · intro i As M r h
    rcases fe_bc h with h | h
    · obtain ⟨v0, t0, rfl, g0⟩ := fe_tL_d h
      obtain ⟨v1, t1, rfl, g1⟩ := fe_tI_d g0
      obtain ⟨v2, t2, rfl, g2⟩ := fe_tI_d g1
      obtain ⟨rfl, hz⟩ := fe_t0_d g2
      exact mX102_bits v0 v1 v2 M r hz
    rcases fe_bc h with h | h
    · obtain ⟨v0, t0, rfl, g0⟩ := fe_tR_d h
      obtain ⟨v1, t1, rfl, g1⟩ := fe_tL_d g0
      obtain ⟨rfl, hz⟩ := fe_t0_d g1
      exact mX85_get v0 v1 M r hz
    exact fe_no h
  · intro i As M r h
    exact fe_no h
theorem eX84_step (g0 : Nat → Int64 → Int64 → Int32 → FM → Option (Int32 × FM)) (g61 : FM → Option (Int32 × FM)) (g136 : Nat → FM → Option (Int32 × FM)) (g152 : Nat → FM → Option (Int32 × FM)) (g157 : Nat → Int32 → FM → Option (Int32 × FM)) (g191 : FM → Option (Int32 × FM)) (g196 : Int32 → FM → Option (Int32 × FM)) (a0 : Nat) (a1 : Int64) (a3 : Int64) (a5 : Int32) (M : FM) : dX84_step g0 g61 g136 g152 g157 g191 g196 0 [(0, .ref a0), (1, .long a1), (3, .long a3), (5, .int a5)] [] M = g0 a0 a1 a3 a5 M := by rfl
theorem mX84_step (n : Nat) (a0 : Nat) (a1 : Int64) (a3 : Int64) (a5 : Int32) (M : FM) (r : Int32 × FM) (h : FX84_step n a0 a1 a3 a5 M = some r) : fm_nx M ≤ fm_nx r.2 ∧ fm_ns M ≤ fm_ns r.2 :=
  fe_mono (L0 := [(0, .ref a0), (1, .long a1), (3, .long a3), (5, .int a5)]) (vX84_step n) (by decide +kernel) (hX84_step n) (fe_ki_k r) 0 rfl ((eX84_step (FX84_step_0 n ) (FX84_step_61 n ) (FX84_step_136 n ) (FX84_step_152 n ) (FX84_step_157 n ) (FX84_step_191 n ) (FX84_step_196 n ) a0 a1 a3 a5 M).trans h)
theorem zX84_step {s0 : State} {H0 : Heap} {oa : Nat → Nat} {D : va_G} (K : fk s0 H0 oa D) (l : Launch) (n : Nat) (a0 : Nat) (a1 : Int64) (a3 : Int64) (a5 : Int32) (M : FM) (r : Int32 × FM) (h : FX84_step n a0 a1 a3 a5 M = some r) : fs_Con (fk_E s0 H0 oa D) l 5 ⟨"BoardMachine$Walks$Translator", "step", "(JJI)I"⟩ prog_107_method_7_code 7 (Option.some Jvm.ClassFile.FieldType.int) [.ref a0, .long a1, .long a3, .int a5] M (some (.int r.1)) r.2 := by
  have o0 : fs_OS (sX84_step FX102_bits FX85_has (FX86_let n) FX85_get FX102_has) 0 2 (fs_Con (fk_E s0 H0 oa D) l 1 ⟨"BoardMachine$Walks", "bits", "(JII)J"⟩ prog_102_method_2_code 4 (Option.some Jvm.ClassFile.FieldType.long)) := by
    intro As M r h
    obtain ⟨v0, t0, rfl, g0⟩ := fe_tL_d h
    obtain ⟨v1, t1, rfl, g1⟩ := fe_tI_d g0
    obtain ⟨v2, t2, rfl, g2⟩ := fe_tI_d g1
    obtain ⟨rfl, hz⟩ := fe_t0_d g2
    exact zX102_bits K l v0 v1 v2 M r hz
  have o1 : fs_OS (sX84_step FX102_bits FX85_has (FX86_let n) FX85_get FX102_has) 1 1 (fs_Con (fk_E s0 H0 oa D) l 2 ⟨"BoardMachine$TableWords", "has", "(J)Z"⟩ prog_94_method_2_code 3 (Option.some Jvm.ClassFile.FieldType.boolean)) := by
    intro As M r h
    obtain ⟨v0, t0, rfl, g0⟩ := fe_tR_d h
    obtain ⟨v1, t1, rfl, g1⟩ := fe_tL_d g0
    obtain ⟨rfl, hz⟩ := fe_t0_d g1
    exact zX85_has K l v0 v1 M r hz
  have o2 : fs_OS (sX84_step FX102_bits FX85_has (FX86_let n) FX85_get FX102_has) 2 1 (fs_Con (fk_E s0 H0 oa D) l 3 ⟨"BoardMachine$Walks$Regions", "let", "(JIII)Z"⟩ prog_105_method_6_code 10 (Option.some Jvm.ClassFile.FieldType.boolean)) := by
    intro As M r h
    obtain ⟨v0, t0, rfl, g0⟩ := fe_tR_d h
    obtain ⟨v1, t1, rfl, g1⟩ := fe_tL_d g0
    obtain ⟨v2, t2, rfl, g2⟩ := fe_tI_d g1
    obtain ⟨v3, t3, rfl, g3⟩ := fe_tI_d g2
    obtain ⟨v4, t4, rfl, g4⟩ := fe_tI_d g3
    obtain ⟨rfl, hz⟩ := fe_t0_d g4
    exact zX86_let K l n v0 v1 v2 v3 v4 M r hz
  have o3 : fs_OS (sX84_step FX102_bits FX85_has (FX86_let n) FX85_get FX102_has) 3 2 (fs_Con (fk_E s0 H0 oa D) l 4 ⟨"BoardMachine$TableWords", "get", "(J)J"⟩ prog_94_method_3_code 3 (Option.some Jvm.ClassFile.FieldType.long)) := by
    intro As M r h
    obtain ⟨v0, t0, rfl, g0⟩ := fe_tR_d h
    obtain ⟨v1, t1, rfl, g1⟩ := fe_tL_d g0
    obtain ⟨rfl, hz⟩ := fe_t0_d g1
    exact zX85_get K l v0 v1 M r hz
  have o4 : fs_OS (sX84_step FX102_bits FX85_has (FX86_let n) FX85_get FX102_has) 4 1 (fs_Con (fk_E s0 H0 oa D) l 1 ⟨"BoardMachine$Walks", "has", "(JI)Z"⟩ prog_102_method_3_code 3 (Option.some Jvm.ClassFile.FieldType.boolean)) := by
    intro As M r h
    obtain ⟨v0, t0, rfl, g0⟩ := fe_tL_d h
    obtain ⟨v1, t1, rfl, g1⟩ := fe_tI_d g0
    obtain ⟨rfl, hz⟩ := fe_t0_d g1
    exact zX102_has K l v0 v1 M r hz
  refine fs_method (own := "BoardMachine$Walks$Translator") rfl (by decide) K.2.1 (by rw [fe_slen]; exact (Nat.le_of_ble_eq_true rfl)) (mX84_step n a0 a1 a3 a5 M r h) (hX84_step n) 0 rfl (L0 := [(0, .ref a0), (1, .long a1), (3, .long a3), (5, .int a5)]) (fun E => fe_args_e E [.ref a0, .long a1, .long a3, .int a5] 0) ((eX84_step (FX84_step_0 n ) (FX84_step_61 n ) (FX84_step_136 n ) (FX84_step_152 n ) (FX84_step_157 n ) (FX84_step_191 n ) (FX84_step_196 n ) a0 a1 a3 a5 M).trans h) (fe_ki_k r) (fun H hR => fs_nr_o (by decide) (by decide)) ?_
  intro p e s m args below meth c Q C hnm
  have hw : s0.WarmedH s.vm := C.2.2.2.2.1
  refine fe_all C fk_hwr cX84_step [5, 19, 24, 28, 32, 35, 44, 48, 55, 65, 69, 72, 77, 81, 85, 89, 95, 100, 104, 108, 115, 119, 126, 130, 137, 144, 170, 174, 181, 185] (by decide +kernel) (fe_fil (cps := [(5, 8, .jsr_w (8)), (19, 22, .invokestatic 14), (24, 27, .putfield 1225109869), (28, 31, .getfield 1204138350), (32, 35, .getfield 1225109869), (35, 40, .invokeinterface 0 0), (44, 47, .getfield 1208332654), (48, 51, .getfield 1225109869), (55, 58, .invokevirtual 156330074), (65, 68, .getfield 1204138350), (69, 72, .getfield 1225109869), (72, 77, .invokeinterface 1 0), (77, 80, .putfield 1229304173), (81, 84, .getfield 1237692782), (85, 88, .getfield 1233498476), (89, 92, .getfield 1225109869), (95, 98, .getfield 1233498476), (100, 103, .putfield 1233498476), (104, 107, .getfield 1229304173), (108, 111, .invokestatic 265), (115, 118, .getfield 1229304173), (119, 122, .invokestatic 265), (126, 129, .getfield 1229304173), (130, 133, .invokestatic 265), (137, 140, .getfield 1229304173), (144, 147, .invokestatic 14), (170, 173, .getfield 1229304173), (174, 177, .invokestatic 265), (181, 184, .getfield 1229304173), (185, 188, .invokestatic 265)]) (by decide +kernel) ?_)
  refine fs_c1 (fs_ldcl (pc := 5) (idx := 110) (v := 8) C (by decide +kernel) (kw K hw q3017)) ?_
  refine fs_c1 (fs_inv_static (pc := 19) (n := 14) C (fs_lk_static (idx := 47) (y := ⟨"BoardMachine$Walks", "bits", "(JII)J"⟩) (bytes := prog_102_method_2_code) (maxL := 4) (rt := (Option.some Jvm.ClassFile.FieldType.long)) (d := 1) C (by decide +kernel) (kw K hw q2987) (kw K hw q427) (kw K hw q2986) (Or.inr ⟨_, kM K hw q2985⟩) ⟨by decide, by decide⟩ rfl (Nat.le_of_ble_eq_true rfl) (Nat.le_of_ble_eq_true rfl)) fs_con_mono o0) ?_
  refine fs_c1 (fs_putf (pc := 24) (n := 1225109869) (idx := 127) (ref := "BoardMachine$Walks$Translator") (O := "BoardMachine$Walks$Translator") (name := "entryAt") (desc := "J") (fin := false) (ty := .long) C (by decide +kernel) (Or.inl ⟨rfl, Or.inl (kw K hw q2027)⟩) (fun _ h => h) (Nat.le_of_ble_eq_true rfl) (Nat.le_of_ble_eq_true rfl) (Nat.le_of_ble_eq_true rfl) rfl rfl (by decide) (fs_one (⟨rfl, ff_91_292 s0 H0 oa D⟩))) ?_
  refine fs_c1 (fs_getf (pc := 28) (n := 1204138350) (idx := 34) (ref := "BoardMachine$Walks$Translator") (O := "BoardMachine$Walks$Translator") (name := "words") (desc := "LBoardMachine$Walks$Words;") C (by decide +kernel) (Or.inl (kw K hw q2019)) (fun _ h => h) (Nat.le_of_ble_eq_true rfl) (Nat.le_of_ble_eq_true rfl) (fs_one (⟨_, ff_91_287 s0 H0 oa D⟩))) ?_
  refine fs_c1 (fs_getf (pc := 32) (n := 1225109869) (idx := 127) (ref := "BoardMachine$Walks$Translator") (O := "BoardMachine$Walks$Translator") (name := "entryAt") (desc := "J") C (by decide +kernel) (Or.inl (kw K hw q2027)) (fun _ h => h) (Nat.le_of_ble_eq_true rfl) (Nat.le_of_ble_eq_true rfl) (fs_one (⟨_, ff_91_292 s0 H0 oa D⟩))) ?_
  refine fs_c1 (fs_inv_table (pc := 35) (nx := 40) (i := 0) (k := 0) C rfl (List.forall_mem_cons.mpr ⟨⟨(Nat.le_of_ble_eq_true rfl), (Nat.le_of_ble_eq_true rfl), _, fs_lk_face (idx := 130) (cnt := 3) (x := ⟨"BoardMachine$Walks$Words", "has", "(J)Z"⟩) (y := ⟨"BoardMachine$TableWords", "has", "(J)Z"⟩) (bytes := prog_94_method_2_code) (maxL := 3) (rt := (Option.some Jvm.ClassFile.FieldType.boolean)) (d := 2) C (Nat.le_of_ble_eq_true rfl) (Nat.le_of_ble_eq_true rfl) (by decide +kernel) (kw K hw q3030) (kw K hw q396) (kw K hw q3028) (kw K hw q3023) (kFw (C := "BoardMachine$TableWords") (x := ⟨"BoardMachine$Walks$Words", "has", "(J)Z"⟩) (y := ⟨"BoardMachine$TableWords", "has", "(J)Z"⟩) (args := args) K hw ⟨by decide, by decide⟩ q3025 q3024 q3029 q3027 q3006).1 (kFw (C := "BoardMachine$TableWords") (x := ⟨"BoardMachine$Walks$Words", "has", "(J)Z"⟩) (y := ⟨"BoardMachine$TableWords", "has", "(J)Z"⟩) (args := args) K hw ⟨by decide, by decide⟩ q3025 q3024 q3029 q3027 q3006).2.1 (kFw (C := "BoardMachine$TableWords") (x := ⟨"BoardMachine$Walks$Words", "has", "(J)Z"⟩) (y := ⟨"BoardMachine$TableWords", "has", "(J)Z"⟩) (args := args) K hw ⟨by decide, by decide⟩ q3025 q3024 q3029 q3027 q3006).2.2.1 ⟨by decide, by decide⟩ rfl (Nat.le_of_ble_eq_true rfl) (Nat.le_of_ble_eq_true rfl) (fs_one ⟨_, rfl, kw K hw q3026, (kFw (C := "BoardMachine$TableWords") (x := ⟨"BoardMachine$Walks$Words", "has", "(J)Z"⟩) (y := ⟨"BoardMachine$TableWords", "has", "(J)Z"⟩) (args := args) K hw ⟨by decide, by decide⟩ q3025 q3024 q3029 q3027 q3006).2.2.2.1, (kFw (C := "BoardMachine$TableWords") (x := ⟨"BoardMachine$Walks$Words", "has", "(J)Z"⟩) (y := ⟨"BoardMachine$TableWords", "has", "(J)Z"⟩) (args := args) K hw ⟨by decide, by decide⟩ q3025 q3024 q3029 q3027 q3006).2.2.2.2⟩), fs_con_mono, o1⟩, List.forall_mem_nil _⟩)) ?_
  refine fs_c1 (fs_getf (pc := 44) (n := 1208332654) (idx := 20) (ref := "BoardMachine$Walks$Translator") (O := "BoardMachine$Walks$Translator") (name := "regions") (desc := "LBoardMachine$Walks$Regions;") C (by decide +kernel) (Or.inl (kw K hw q2020)) (fun _ h => h) (Nat.le_of_ble_eq_true rfl) (Nat.le_of_ble_eq_true rfl) (fs_one (⟨_, ff_91_288 s0 H0 oa D⟩))) ?_
  refine fs_c1 (fs_getf (pc := 48) (n := 1225109869) (idx := 127) (ref := "BoardMachine$Walks$Translator") (O := "BoardMachine$Walks$Translator") (name := "entryAt") (desc := "J") C (by decide +kernel) (Or.inl (kw K hw q2027)) (fun _ h => h) (Nat.le_of_ble_eq_true rfl) (Nat.le_of_ble_eq_true rfl) (fs_one (⟨_, ff_91_292 s0 H0 oa D⟩))) ?_
  refine fs_c1 (fs_inv_virtual (pc := 55) (n := 156330074) C (Nat.le_of_ble_eq_true rfl) (Nat.le_of_ble_eq_true rfl) (fs_lk_virtual (idx := 58) (y := ⟨"BoardMachine$Walks$Regions", "let", "(JIII)Z"⟩) (bytes := prog_105_method_6_code) (maxL := 10) (rt := (Option.some Jvm.ClassFile.FieldType.boolean)) (d := 3) C (Nat.le_of_ble_eq_true rfl) (Nat.le_of_ble_eq_true rfl) (by decide +kernel) (kw K hw q3037) (kw K hw q397) (kw K hw q3035) (Or.inl (kw K hw q3034)) ⟨by decide, by decide⟩ rfl (Nat.le_of_ble_eq_true rfl) (Nat.le_of_ble_eq_true rfl) (fs_one (⟨_, rfl, kw K hw q3036⟩))) fs_con_mono o2) ?_
  refine fs_c1 (fs_getf (pc := 65) (n := 1204138350) (idx := 34) (ref := "BoardMachine$Walks$Translator") (O := "BoardMachine$Walks$Translator") (name := "words") (desc := "LBoardMachine$Walks$Words;") C (by decide +kernel) (Or.inl (kw K hw q2019)) (fun _ h => h) (Nat.le_of_ble_eq_true rfl) (Nat.le_of_ble_eq_true rfl) (fs_one (⟨_, ff_91_287 s0 H0 oa D⟩))) ?_
  refine fs_c1 (fs_getf (pc := 69) (n := 1225109869) (idx := 127) (ref := "BoardMachine$Walks$Translator") (O := "BoardMachine$Walks$Translator") (name := "entryAt") (desc := "J") C (by decide +kernel) (Or.inl (kw K hw q2027)) (fun _ h => h) (Nat.le_of_ble_eq_true rfl) (Nat.le_of_ble_eq_true rfl) (fs_one (⟨_, ff_91_292 s0 H0 oa D⟩))) ?_
  refine fs_c1 (fs_inv_table (pc := 72) (nx := 77) (i := 1) (k := 0) C rfl (List.forall_mem_cons.mpr ⟨⟨(Nat.le_of_ble_eq_true rfl), (Nat.le_of_ble_eq_true rfl), _, fs_lk_face (idx := 133) (cnt := 3) (x := ⟨"BoardMachine$Walks$Words", "get", "(J)J"⟩) (y := ⟨"BoardMachine$TableWords", "get", "(J)J"⟩) (bytes := prog_94_method_3_code) (maxL := 3) (rt := (Option.some Jvm.ClassFile.FieldType.long)) (d := 4) C (Nat.le_of_ble_eq_true rfl) (Nat.le_of_ble_eq_true rfl) (by decide +kernel) (kw K hw q3058) (kw K hw q396) (kw K hw q3056) (kw K hw q3051) (kFw (C := "BoardMachine$TableWords") (x := ⟨"BoardMachine$Walks$Words", "get", "(J)J"⟩) (y := ⟨"BoardMachine$TableWords", "get", "(J)J"⟩) (args := args) K hw ⟨by decide, by decide⟩ q3053 q3052 q3057 q3055 q3006).1 (kFw (C := "BoardMachine$TableWords") (x := ⟨"BoardMachine$Walks$Words", "get", "(J)J"⟩) (y := ⟨"BoardMachine$TableWords", "get", "(J)J"⟩) (args := args) K hw ⟨by decide, by decide⟩ q3053 q3052 q3057 q3055 q3006).2.1 (kFw (C := "BoardMachine$TableWords") (x := ⟨"BoardMachine$Walks$Words", "get", "(J)J"⟩) (y := ⟨"BoardMachine$TableWords", "get", "(J)J"⟩) (args := args) K hw ⟨by decide, by decide⟩ q3053 q3052 q3057 q3055 q3006).2.2.1 ⟨by decide, by decide⟩ rfl (Nat.le_of_ble_eq_true rfl) (Nat.le_of_ble_eq_true rfl) (fs_one ⟨_, rfl, kw K hw q3054, (kFw (C := "BoardMachine$TableWords") (x := ⟨"BoardMachine$Walks$Words", "get", "(J)J"⟩) (y := ⟨"BoardMachine$TableWords", "get", "(J)J"⟩) (args := args) K hw ⟨by decide, by decide⟩ q3053 q3052 q3057 q3055 q3006).2.2.2.1, (kFw (C := "BoardMachine$TableWords") (x := ⟨"BoardMachine$Walks$Words", "get", "(J)J"⟩) (y := ⟨"BoardMachine$TableWords", "get", "(J)J"⟩) (args := args) K hw ⟨by decide, by decide⟩ q3053 q3052 q3057 q3055 q3006).2.2.2.2⟩), fs_con_mono, o3⟩, List.forall_mem_nil _⟩)) ?_
  refine fs_c1 (fs_putf (pc := 77) (n := 1229304173) (idx := 116) (ref := "BoardMachine$Walks$Translator") (O := "BoardMachine$Walks$Translator") (name := "entry") (desc := "J") (fin := false) (ty := .long) C (by decide +kernel) (Or.inl ⟨rfl, Or.inl (kw K hw q2028)⟩) (fun _ h => h) (Nat.le_of_ble_eq_true rfl) (Nat.le_of_ble_eq_true rfl) (Nat.le_of_ble_eq_true rfl) rfl rfl (by decide) (fs_one (⟨rfl, ff_91_293 s0 H0 oa D⟩))) ?_
  refine fs_c1 (fs_getf (pc := 81) (n := 1237692782) (idx := 30) (ref := "BoardMachine$Walks$Translator") (O := "BoardMachine$Walks$Translator") (name := "trace") (desc := "[J") C (by decide +kernel) (Or.inl (kw K hw q2030)) (fun _ h => h) (Nat.le_of_ble_eq_true rfl) (Nat.le_of_ble_eq_true rfl) (fs_one (⟨_, ff_91_295 s0 H0 oa D⟩))) ?_
  refine fs_c1 (fs_getf (pc := 85) (n := 1233498476) (idx := 95) (ref := "BoardMachine$Walks$Translator") (O := "BoardMachine$Walks$Translator") (name := "depth") (desc := "I") C (by decide +kernel) (Or.inl (kw K hw q2029)) (fun _ h => h) (Nat.le_of_ble_eq_true rfl) (Nat.le_of_ble_eq_true rfl) (fs_one (⟨_, ff_91_294 s0 H0 oa D⟩))) ?_
  refine fs_c1 (fs_getf (pc := 89) (n := 1225109869) (idx := 127) (ref := "BoardMachine$Walks$Translator") (O := "BoardMachine$Walks$Translator") (name := "entryAt") (desc := "J") C (by decide +kernel) (Or.inl (kw K hw q2027)) (fun _ h => h) (Nat.le_of_ble_eq_true rfl) (Nat.le_of_ble_eq_true rfl) (fs_one (⟨_, ff_91_292 s0 H0 oa D⟩))) ?_
  refine fs_c1 (fs_getf (pc := 95) (n := 1233498476) (idx := 95) (ref := "BoardMachine$Walks$Translator") (O := "BoardMachine$Walks$Translator") (name := "depth") (desc := "I") C (by decide +kernel) (Or.inl (kw K hw q2029)) (fun _ h => h) (Nat.le_of_ble_eq_true rfl) (Nat.le_of_ble_eq_true rfl) (fs_one (⟨_, ff_91_294 s0 H0 oa D⟩))) ?_
  refine fs_c1 (fs_putf (pc := 100) (n := 1233498476) (idx := 95) (ref := "BoardMachine$Walks$Translator") (O := "BoardMachine$Walks$Translator") (name := "depth") (desc := "I") (fin := false) (ty := .int) C (by decide +kernel) (Or.inl ⟨rfl, Or.inl (kw K hw q2029)⟩) (fun _ h => h) (Nat.le_of_ble_eq_true rfl) (Nat.le_of_ble_eq_true rfl) (Nat.le_of_ble_eq_true rfl) rfl rfl (by decide) (fs_one (⟨rfl, ff_91_294 s0 H0 oa D⟩))) ?_
  refine fs_c1 (fs_getf (pc := 104) (n := 1229304173) (idx := 116) (ref := "BoardMachine$Walks$Translator") (O := "BoardMachine$Walks$Translator") (name := "entry") (desc := "J") C (by decide +kernel) (Or.inl (kw K hw q2028)) (fun _ h => h) (Nat.le_of_ble_eq_true rfl) (Nat.le_of_ble_eq_true rfl) (fs_one (⟨_, ff_91_293 s0 H0 oa D⟩))) ?_
  refine fs_c1 (fs_inv_static (pc := 108) (n := 265) C (fs_lk_static (idx := 119) (y := ⟨"BoardMachine$Walks", "has", "(JI)Z"⟩) (bytes := prog_102_method_3_code) (maxL := 3) (rt := (Option.some Jvm.ClassFile.FieldType.boolean)) (d := 1) C (by decide +kernel) (kw K hw q3069) (kw K hw q427) (kw K hw q3068) (Or.inr ⟨_, kM K hw q3067⟩) ⟨by decide, by decide⟩ rfl (Nat.le_of_ble_eq_true rfl) (Nat.le_of_ble_eq_true rfl)) fs_con_mono o4) ?_
  refine fs_c1 (fs_getf (pc := 115) (n := 1229304173) (idx := 116) (ref := "BoardMachine$Walks$Translator") (O := "BoardMachine$Walks$Translator") (name := "entry") (desc := "J") C (by decide +kernel) (Or.inl (kw K hw q2028)) (fun _ h => h) (Nat.le_of_ble_eq_true rfl) (Nat.le_of_ble_eq_true rfl) (fs_one (⟨_, ff_91_293 s0 H0 oa D⟩))) ?_
  refine fs_c1 (fs_inv_static (pc := 119) (n := 265) C (fs_lk_static (idx := 119) (y := ⟨"BoardMachine$Walks", "has", "(JI)Z"⟩) (bytes := prog_102_method_3_code) (maxL := 3) (rt := (Option.some Jvm.ClassFile.FieldType.boolean)) (d := 1) C (by decide +kernel) (kw K hw q3069) (kw K hw q427) (kw K hw q3068) (Or.inr ⟨_, kM K hw q3067⟩) ⟨by decide, by decide⟩ rfl (Nat.le_of_ble_eq_true rfl) (Nat.le_of_ble_eq_true rfl)) fs_con_mono o4) ?_
  refine fs_c1 (fs_getf (pc := 126) (n := 1229304173) (idx := 116) (ref := "BoardMachine$Walks$Translator") (O := "BoardMachine$Walks$Translator") (name := "entry") (desc := "J") C (by decide +kernel) (Or.inl (kw K hw q2028)) (fun _ h => h) (Nat.le_of_ble_eq_true rfl) (Nat.le_of_ble_eq_true rfl) (fs_one (⟨_, ff_91_293 s0 H0 oa D⟩))) ?_
  refine fs_c1 (fs_inv_static (pc := 130) (n := 265) C (fs_lk_static (idx := 119) (y := ⟨"BoardMachine$Walks", "has", "(JI)Z"⟩) (bytes := prog_102_method_3_code) (maxL := 3) (rt := (Option.some Jvm.ClassFile.FieldType.boolean)) (d := 1) C (by decide +kernel) (kw K hw q3069) (kw K hw q427) (kw K hw q3068) (Or.inr ⟨_, kM K hw q3067⟩) ⟨by decide, by decide⟩ rfl (Nat.le_of_ble_eq_true rfl) (Nat.le_of_ble_eq_true rfl)) fs_con_mono o4) ?_
  refine fs_c1 (fs_getf (pc := 137) (n := 1229304173) (idx := 116) (ref := "BoardMachine$Walks$Translator") (O := "BoardMachine$Walks$Translator") (name := "entry") (desc := "J") C (by decide +kernel) (Or.inl (kw K hw q2028)) (fun _ h => h) (Nat.le_of_ble_eq_true rfl) (Nat.le_of_ble_eq_true rfl) (fs_one (⟨_, ff_91_293 s0 H0 oa D⟩))) ?_
  refine fs_c1 (fs_inv_static (pc := 144) (n := 14) C (fs_lk_static (idx := 47) (y := ⟨"BoardMachine$Walks", "bits", "(JII)J"⟩) (bytes := prog_102_method_2_code) (maxL := 4) (rt := (Option.some Jvm.ClassFile.FieldType.long)) (d := 1) C (by decide +kernel) (kw K hw q2987) (kw K hw q427) (kw K hw q2986) (Or.inr ⟨_, kM K hw q2985⟩) ⟨by decide, by decide⟩ rfl (Nat.le_of_ble_eq_true rfl) (Nat.le_of_ble_eq_true rfl)) fs_con_mono o0) ?_
  refine fs_c1 (fs_getf (pc := 170) (n := 1229304173) (idx := 116) (ref := "BoardMachine$Walks$Translator") (O := "BoardMachine$Walks$Translator") (name := "entry") (desc := "J") C (by decide +kernel) (Or.inl (kw K hw q2028)) (fun _ h => h) (Nat.le_of_ble_eq_true rfl) (Nat.le_of_ble_eq_true rfl) (fs_one (⟨_, ff_91_293 s0 H0 oa D⟩))) ?_
  refine fs_c1 (fs_inv_static (pc := 174) (n := 265) C (fs_lk_static (idx := 119) (y := ⟨"BoardMachine$Walks", "has", "(JI)Z"⟩) (bytes := prog_102_method_3_code) (maxL := 3) (rt := (Option.some Jvm.ClassFile.FieldType.boolean)) (d := 1) C (by decide +kernel) (kw K hw q3069) (kw K hw q427) (kw K hw q3068) (Or.inr ⟨_, kM K hw q3067⟩) ⟨by decide, by decide⟩ rfl (Nat.le_of_ble_eq_true rfl) (Nat.le_of_ble_eq_true rfl)) fs_con_mono o4) ?_
  refine fs_c1 (fs_getf (pc := 181) (n := 1229304173) (idx := 116) (ref := "BoardMachine$Walks$Translator") (O := "BoardMachine$Walks$Translator") (name := "entry") (desc := "J") C (by decide +kernel) (Or.inl (kw K hw q2028)) (fun _ h => h) (Nat.le_of_ble_eq_true rfl) (Nat.le_of_ble_eq_true rfl) (fs_one (⟨_, ff_91_293 s0 H0 oa D⟩))) ?_
  refine fs_c1 (fs_inv_static (pc := 185) (n := 265) C (fs_lk_static (idx := 119) (y := ⟨"BoardMachine$Walks", "has", "(JI)Z"⟩) (bytes := prog_102_method_3_code) (maxL := 3) (rt := (Option.some Jvm.ClassFile.FieldType.boolean)) (d := 1) C (by decide +kernel) (kw K hw q3069) (kw K hw q427) (kw K hw q3068) (Or.inr ⟨_, kM K hw q3067⟩) ⟨by decide, by decide⟩ rfl (Nat.le_of_ble_eq_true rfl) (Nat.le_of_ble_eq_true rfl)) fs_con_mono o4) ?_
  exact fs_c0
theorem hX84_may : fe_H (sX84_may FX102_has) cX84_may [0, 38, 40, 91, 95, 107] fe_ki [] 61 (fun _ => dX84_may FX84_may_0 FX84_may_38 FX84_may_40 FX84_may_91 FX84_may_95 FX84_may_107) := by
  intro j pc L st M r hc h
  rcases fe_mem_c hc with rfl | hc
  · obtain ⟨w0, m0, h⟩ := fe_lR_d h
    obtain ⟨w1, m1, h⟩ := fe_lI_d h
    obtain ⟨w2, m2, h⟩ := fe_lI_d h
    obtain ⟨rfl, hz⟩ := fe_t0_d h
    exact ⟨[(0, .ref w0), (1, .int w1), (2, .int w2)], (fe_cs m0 (fe_cs m1 (fe_cs m2 fe_nl))), Or.inr ((bX84_may_0 FX102_has FX84_may_0 FX84_may_38 FX84_may_40 FX84_may_91 FX84_may_95 FX84_may_107 w0 w1 w2 M).symm.trans hz)⟩
  rcases fe_mem_c hc with rfl | hc
  · obtain ⟨rfl, hz⟩ := fe_t0_d h
    exact ⟨[], fe_nl, Or.inr ((bX84_may_38 FX102_has FX84_may_0 FX84_may_38 FX84_may_40 FX84_may_91 FX84_may_95 FX84_may_107 M).symm.trans hz)⟩
  rcases fe_mem_c hc with rfl | hc
  · obtain ⟨w0, m0, h⟩ := fe_lR_d h
    obtain ⟨w1, m1, h⟩ := fe_lI_d h
    obtain ⟨rfl, hz⟩ := fe_t0_d h
    exact ⟨[(0, .ref w0), (1, .int w1)], (fe_cs m0 (fe_cs m1 fe_nl)), Or.inr ((bX84_may_40 FX102_has FX84_may_0 FX84_may_38 FX84_may_40 FX84_may_91 FX84_may_95 FX84_may_107 w0 w1 M).symm.trans hz)⟩
  rcases fe_mem_c hc with rfl | hc
  · obtain ⟨rfl, hz⟩ := fe_t0_d h
    exact ⟨[], fe_nl, Or.inr ((bX84_may_91 FX102_has FX84_may_0 FX84_may_38 FX84_may_40 FX84_may_91 FX84_may_95 FX84_may_107 M).symm.trans hz)⟩
  rcases fe_mem_c hc with rfl | hc
  · obtain ⟨rfl, hz⟩ := fe_t0_d h
    exact ⟨[], fe_nl, Or.inr ((bX84_may_95 FX102_has FX84_may_0 FX84_may_38 FX84_may_40 FX84_may_91 FX84_may_95 FX84_may_107 M).symm.trans hz)⟩
  rcases fe_mem_c hc with rfl | hc
  · obtain ⟨s0, t0, rfl, g0⟩ := fe_tI_d h
    obtain ⟨rfl, hz⟩ := fe_t0_d g0
    exact ⟨[], fe_nl, Or.inr ((bX84_may_107 FX102_has FX84_may_0 FX84_may_38 FX84_may_40 FX84_may_91 FX84_may_95 FX84_may_107 s0 M).symm.trans hz)⟩
  exact fe_mem_0 hc
theorem vX84_may : fe_SB (sX84_may FX102_has) := by
  refine ⟨?_, ?_, ?_, ?_⟩
  · intro i As M r h
    exact fe_no h
  · intro i As M r h
    rcases fe_bc h with h | h
    · obtain ⟨v0, t0, rfl, g0⟩ := fe_tL_d h
      obtain ⟨v1, t1, rfl, g1⟩ := fe_tI_d g0
      obtain ⟨rfl, hz⟩ := fe_t0_d g1
      exact mX102_has v0 v1 M r hz
    exact fe_no h
  · intro i As M r h
    exact fe_no h
  · intro i As M r h
    exact fe_no h
theorem eX84_may (g0 : Nat → Int32 → Int32 → FM → Option (Int32 × FM)) (g38 : FM → Option (Int32 × FM)) (g40 : Nat → Int32 → FM → Option (Int32 × FM)) (g91 : FM → Option (Int32 × FM)) (g95 : FM → Option (Int32 × FM)) (g107 : Int32 → FM → Option (Int32 × FM)) (a0 : Nat) (a1 : Int32) (a2 : Int32) (M : FM) : dX84_may g0 g38 g40 g91 g95 g107 0 [(0, .ref a0), (1, .int a1), (2, .int a2)] [] M = g0 a0 a1 a2 M := by rfl
theorem mX84_may (a0 : Nat) (a1 : Int32) (a2 : Int32) (M : FM) (r : Int32 × FM) (h : FX84_may a0 a1 a2 M = some r) : fm_nx M ≤ fm_nx r.2 ∧ fm_ns M ≤ fm_ns r.2 :=
  fe_mono (L0 := [(0, .ref a0), (1, .int a1), (2, .int a2)]) (vX84_may) (by decide +kernel) (hX84_may) (fe_ki_k r) 0 rfl ((eX84_may FX84_may_0 FX84_may_38 FX84_may_40 FX84_may_91 FX84_may_95 FX84_may_107 a0 a1 a2 M).trans h)
theorem zX84_may {s0 : State} {H0 : Heap} {oa : Nat → Nat} {D : va_G} (K : fk s0 H0 oa D) (l : Launch) (a0 : Nat) (a1 : Int32) (a2 : Int32) (M : FM) (r : Int32 × FM) (h : FX84_may a0 a1 a2 M = some r) : fs_Con (fk_E s0 H0 oa D) l 2 ⟨"BoardMachine$Walks$Translator", "may", "(II)Z"⟩ prog_107_method_8_code 4 (Option.some Jvm.ClassFile.FieldType.boolean) [.ref a0, .int a1, .int a2] M (some (.int r.1)) r.2 := by
  have o0 : fs_OS (sX84_may FX102_has) 0 1 (fs_Con (fk_E s0 H0 oa D) l 1 ⟨"BoardMachine$Walks", "has", "(JI)Z"⟩ prog_102_method_3_code 3 (Option.some Jvm.ClassFile.FieldType.boolean)) := by
    intro As M r h
    obtain ⟨v0, t0, rfl, g0⟩ := fe_tL_d h
    obtain ⟨v1, t1, rfl, g1⟩ := fe_tI_d g0
    obtain ⟨rfl, hz⟩ := fe_t0_d g1
    exact zX102_has K l v0 v1 M r hz
  refine fs_method (own := "BoardMachine$Walks$Translator") rfl (by decide) K.2.1 (by rw [fe_slen]; exact (Nat.le_of_ble_eq_true rfl)) (mX84_may a0 a1 a2 M r h) (hX84_may) 0 rfl (L0 := [(0, .ref a0), (1, .int a1), (2, .int a2)]) (fun E => fe_args_e E [.ref a0, .int a1, .int a2] 0) ((eX84_may FX84_may_0 FX84_may_38 FX84_may_40 FX84_may_91 FX84_may_95 FX84_may_107 a0 a1 a2 M).trans h) (fe_ki_k r) (fun H hR => fs_nr_o (by decide) (by decide)) ?_
  intro p e s m args below meth c Q C hnm
  have hw : s0.WarmedH s.vm := C.2.2.2.2.1
  refine fe_all C fk_hwr cX84_may [1, 5, 23, 45, 49, 61, 65, 72, 81, 85, 100, 104] (by decide +kernel) (fe_fil (cps := [(1, 4, .getfield 1229304173), (5, 8, .invokestatic 9), (23, 26, .getfield 1216721260), (45, 48, .getfield 1229304173), (49, 52, .invokestatic 9), (61, 64, .getfield 1229304173), (65, 68, .invokestatic 9), (72, 75, .getfield 1216721260), (81, 84, .getfield 1229304173), (85, 88, .invokestatic 9), (100, 103, .getfield 1229304173), (104, 107, .invokestatic 9)]) (by decide +kernel) ?_)
  refine fs_c1 (fs_getf (pc := 1) (n := 1229304173) (idx := 116) (ref := "BoardMachine$Walks$Translator") (O := "BoardMachine$Walks$Translator") (name := "entry") (desc := "J") C (by decide +kernel) (Or.inl (kw K hw q2028)) (fun _ h => h) (Nat.le_of_ble_eq_true rfl) (Nat.le_of_ble_eq_true rfl) (fs_one (⟨_, ff_91_293 s0 H0 oa D⟩))) ?_
  refine fs_c1 (fs_inv_static (pc := 5) (n := 9) C (fs_lk_static (idx := 119) (y := ⟨"BoardMachine$Walks", "has", "(JI)Z"⟩) (bytes := prog_102_method_3_code) (maxL := 3) (rt := (Option.some Jvm.ClassFile.FieldType.boolean)) (d := 1) C (by decide +kernel) (kw K hw q3069) (kw K hw q427) (kw K hw q3068) (Or.inr ⟨_, kM K hw q3067⟩) ⟨by decide, by decide⟩ rfl (Nat.le_of_ble_eq_true rfl) (Nat.le_of_ble_eq_true rfl)) fs_con_mono o0) ?_
  refine fs_c1 (fs_getf (pc := 23) (n := 1216721260) (idx := 80) (ref := "BoardMachine$Walks$Translator") (O := "BoardMachine$Walks$Translator") (name := "rights") (desc := "I") C (by decide +kernel) (Or.inl (kw K hw q2024)) (fun _ h => h) (Nat.le_of_ble_eq_true rfl) (Nat.le_of_ble_eq_true rfl) (fs_one (⟨_, ff_91_290 s0 H0 oa D⟩))) ?_
  refine fs_c1 (fs_getf (pc := 45) (n := 1229304173) (idx := 116) (ref := "BoardMachine$Walks$Translator") (O := "BoardMachine$Walks$Translator") (name := "entry") (desc := "J") C (by decide +kernel) (Or.inl (kw K hw q2028)) (fun _ h => h) (Nat.le_of_ble_eq_true rfl) (Nat.le_of_ble_eq_true rfl) (fs_one (⟨_, ff_91_293 s0 H0 oa D⟩))) ?_
  refine fs_c1 (fs_inv_static (pc := 49) (n := 9) C (fs_lk_static (idx := 119) (y := ⟨"BoardMachine$Walks", "has", "(JI)Z"⟩) (bytes := prog_102_method_3_code) (maxL := 3) (rt := (Option.some Jvm.ClassFile.FieldType.boolean)) (d := 1) C (by decide +kernel) (kw K hw q3069) (kw K hw q427) (kw K hw q3068) (Or.inr ⟨_, kM K hw q3067⟩) ⟨by decide, by decide⟩ rfl (Nat.le_of_ble_eq_true rfl) (Nat.le_of_ble_eq_true rfl)) fs_con_mono o0) ?_
  refine fs_c1 (fs_getf (pc := 61) (n := 1229304173) (idx := 116) (ref := "BoardMachine$Walks$Translator") (O := "BoardMachine$Walks$Translator") (name := "entry") (desc := "J") C (by decide +kernel) (Or.inl (kw K hw q2028)) (fun _ h => h) (Nat.le_of_ble_eq_true rfl) (Nat.le_of_ble_eq_true rfl) (fs_one (⟨_, ff_91_293 s0 H0 oa D⟩))) ?_
  refine fs_c1 (fs_inv_static (pc := 65) (n := 9) C (fs_lk_static (idx := 119) (y := ⟨"BoardMachine$Walks", "has", "(JI)Z"⟩) (bytes := prog_102_method_3_code) (maxL := 3) (rt := (Option.some Jvm.ClassFile.FieldType.boolean)) (d := 1) C (by decide +kernel) (kw K hw q3069) (kw K hw q427) (kw K hw q3068) (Or.inr ⟨_, kM K hw q3067⟩) ⟨by decide, by decide⟩ rfl (Nat.le_of_ble_eq_true rfl) (Nat.le_of_ble_eq_true rfl)) fs_con_mono o0) ?_
  refine fs_c1 (fs_getf (pc := 72) (n := 1216721260) (idx := 80) (ref := "BoardMachine$Walks$Translator") (O := "BoardMachine$Walks$Translator") (name := "rights") (desc := "I") C (by decide +kernel) (Or.inl (kw K hw q2024)) (fun _ h => h) (Nat.le_of_ble_eq_true rfl) (Nat.le_of_ble_eq_true rfl) (fs_one (⟨_, ff_91_290 s0 H0 oa D⟩))) ?_
  refine fs_c1 (fs_getf (pc := 81) (n := 1229304173) (idx := 116) (ref := "BoardMachine$Walks$Translator") (O := "BoardMachine$Walks$Translator") (name := "entry") (desc := "J") C (by decide +kernel) (Or.inl (kw K hw q2028)) (fun _ h => h) (Nat.le_of_ble_eq_true rfl) (Nat.le_of_ble_eq_true rfl) (fs_one (⟨_, ff_91_293 s0 H0 oa D⟩))) ?_
  refine fs_c1 (fs_inv_static (pc := 85) (n := 9) C (fs_lk_static (idx := 119) (y := ⟨"BoardMachine$Walks", "has", "(JI)Z"⟩) (bytes := prog_102_method_3_code) (maxL := 3) (rt := (Option.some Jvm.ClassFile.FieldType.boolean)) (d := 1) C (by decide +kernel) (kw K hw q3069) (kw K hw q427) (kw K hw q3068) (Or.inr ⟨_, kM K hw q3067⟩) ⟨by decide, by decide⟩ rfl (Nat.le_of_ble_eq_true rfl) (Nat.le_of_ble_eq_true rfl)) fs_con_mono o0) ?_
  refine fs_c1 (fs_getf (pc := 100) (n := 1229304173) (idx := 116) (ref := "BoardMachine$Walks$Translator") (O := "BoardMachine$Walks$Translator") (name := "entry") (desc := "J") C (by decide +kernel) (Or.inl (kw K hw q2028)) (fun _ h => h) (Nat.le_of_ble_eq_true rfl) (Nat.le_of_ble_eq_true rfl) (fs_one (⟨_, ff_91_293 s0 H0 oa D⟩))) ?_
  refine fs_c1 (fs_inv_static (pc := 104) (n := 9) C (fs_lk_static (idx := 119) (y := ⟨"BoardMachine$Walks", "has", "(JI)Z"⟩) (bytes := prog_102_method_3_code) (maxL := 3) (rt := (Option.some Jvm.ClassFile.FieldType.boolean)) (d := 1) C (by decide +kernel) (kw K hw q3069) (kw K hw q427) (kw K hw q3068) (Or.inr ⟨_, kM K hw q3067⟩) ⟨by decide, by decide⟩ rfl (Nat.le_of_ble_eq_true rfl) (Nat.le_of_ble_eq_true rfl)) fs_con_mono o0) ?_
  exact fs_c0
theorem hX85_put (n : Nat) : fe_H (sX85_put (FX11_store n)) cX85_put [0] fe_kv [] 20 (fun _ => dX85_put (FX85_put_0 n)) := by
  intro j pc L st M r hc h
  rcases fe_mem_c hc with rfl | hc
  · obtain ⟨w0, m0, h⟩ := fe_lR_d h
    obtain ⟨w1, m1, h⟩ := fe_lL_d h
    obtain ⟨w3, m3, h⟩ := fe_lL_d h
    obtain ⟨rfl, hz⟩ := fe_t0_d h
    exact ⟨[(0, .ref w0), (1, .long w1), (3, .long w3)], (fe_cs m0 (fe_cs m1 (fe_cs m3 fe_nl))), Or.inr ((bX85_put_0 (FX11_store n) (FX85_put_0 n ) w0 w1 w3 M).symm.trans hz)⟩
  exact fe_mem_0 hc
theorem vX85_put (n : Nat) : fe_SB (sX85_put (FX11_store n)) := by
  refine ⟨?_, ?_, ?_, ?_⟩
  · intro i As M r h
    rcases fe_bc h with h | h
    · obtain ⟨v0, t0, rfl, g0⟩ := fe_tR_d h
      obtain ⟨v1, t1, rfl, g1⟩ := fe_tL_d g0
      obtain ⟨v2, t2, rfl, g2⟩ := fe_tI_d g1
      obtain ⟨v3, t3, rfl, g3⟩ := fe_tL_d g2
      obtain ⟨rfl, hz⟩ := fe_t0_d g3
      exact mX11_store n v0 v1 v2 v3 M r hz
    exact fe_no h
  · intro i As M r h
    exact fe_no h
  · intro i As M r h
    exact fe_no h
  · intro i As M r h
    exact fe_no h
theorem eX85_put (g0 : Nat → Int64 → Int64 → FM → Option (FM)) (a0 : Nat) (a1 : Int64) (a3 : Int64) (M : FM) : dX85_put g0 0 [(0, .ref a0), (1, .long a1), (3, .long a3)] [] M = g0 a0 a1 a3 M := by rfl
theorem mX85_put (n : Nat) (a0 : Nat) (a1 : Int64) (a3 : Int64) (M : FM) (r : FM) (h : FX85_put n a0 a1 a3 M = some r) : fm_nx M ≤ fm_nx r ∧ fm_ns M ≤ fm_ns r :=
  fe_mono (L0 := [(0, .ref a0), (1, .long a1), (3, .long a3)]) (vX85_put n) (by decide +kernel) (hX85_put n) (fe_kv_k r) 0 rfl ((eX85_put (FX85_put_0 n ) a0 a1 a3 M).trans h)
theorem zX85_put {s0 : State} {H0 : Heap} {oa : Nat → Nat} {D : va_G} (K : fk s0 H0 oa D) (l : Launch) (n : Nat) (a0 : Nat) (a1 : Int64) (a3 : Int64) (M : FM) (r : FM) (h : FX85_put n a0 a1 a3 M = some r) : fs_Con (fk_E s0 H0 oa D) l 4 ⟨"BoardMachine$TableWords", "put", "(JJ)V"⟩ prog_94_method_4_code 5 (Option.none : Option Jvm.ClassFile.FieldType) [.ref a0, .long a1, .long a3] M none r := by
  have o0 : fs_OS (sX85_put (FX11_store n)) 0 0 (fs_Con (fk_E s0 H0 oa D) l 3 ⟨"BoardMachine$Memories$Ram", "store", "(JIJ)V"⟩ prog_82_method_8_code 9 (Option.none : Option Jvm.ClassFile.FieldType)) := by
    intro As M r h
    obtain ⟨v0, t0, rfl, g0⟩ := fe_tR_d h
    obtain ⟨v1, t1, rfl, g1⟩ := fe_tL_d g0
    obtain ⟨v2, t2, rfl, g2⟩ := fe_tI_d g1
    obtain ⟨v3, t3, rfl, g3⟩ := fe_tL_d g2
    obtain ⟨rfl, hz⟩ := fe_t0_d g3
    exact zX11_store K l n v0 v1 v2 v3 M r hz
  refine fs_method (own := "BoardMachine$TableWords") rfl (by decide) K.2.1 (by rw [fe_slen]; exact (Nat.le_of_ble_eq_true rfl)) (mX85_put n a0 a1 a3 M r h) (hX85_put n) 0 rfl (L0 := [(0, .ref a0), (1, .long a1), (3, .long a3)]) (fun E => fe_args_e E [.ref a0, .long a1, .long a3] 0) ((eX85_put (FX85_put_0 n ) a0 a1 a3 M).trans h) (fe_kv_k r) (fun H hR => fs_nr_o (by decide) (by decide)) ?_
  intro p e s m args below meth c Q C hnm
  have hw : s0.WarmedH s.vm := C.2.2.2.2.1
  refine fe_all C fk_hwr cX85_put [1, 8] (by decide +kernel) (fe_fil (cps := [(1, 4, .getfield 1036325190), (8, 11, .invokevirtual 16852041)]) (by decide +kernel) ?_)
  refine fs_c1 (fs_getf (pc := 1) (n := 1036325190) (idx := 7) (ref := "BoardMachine$TableWords") (O := "BoardMachine$TableWords") (name := "ram") (desc := "LBoardMachine$Memories$Ram;") C (by decide +kernel) (Or.inl (kw K hw q1925)) (fun _ h => h) (Nat.le_of_ble_eq_true rfl) (Nat.le_of_ble_eq_true rfl) (fs_one (⟨_, ff_81_247 s0 H0 oa D⟩))) ?_
  refine fs_c1 (fs_inv_virtual (pc := 8) (n := 16852041) C (Nat.le_of_ble_eq_true rfl) (Nat.le_of_ble_eq_true rfl) (fs_lk_virtual (idx := 27) (y := ⟨"BoardMachine$Memories$Ram", "store", "(JIJ)V"⟩) (bytes := prog_82_method_8_code) (maxL := 9) (rt := (Option.none : Option Jvm.ClassFile.FieldType)) (d := 3) C (Nat.le_of_ble_eq_true rfl) (Nat.le_of_ble_eq_true rfl) (by decide +kernel) (kw K hw q2388) (kw K hw q321) (kw K hw q2386) (Or.inl (kw K hw q3089)) ⟨by decide, by decide⟩ rfl (Nat.le_of_ble_eq_true rfl) (Nat.le_of_ble_eq_true rfl) (fs_one (⟨_, rfl, kw K hw q2387⟩))) fs_con_mono o0) ?_
  exact fs_c0
theorem hX84_last (n : Nat) : fe_H (sX84_last FX102_bits FX84_may FX84_fault (FX86_let n) (FX85_put n)) cX84_last [0, 39, 60, 120] fe_kl [] 80 (fun _ => dX84_last (FX84_last_0 n) (FX84_last_39 n) (FX84_last_60 n) (FX84_last_120 n)) := by
  intro j pc L st M r hc h
  rcases fe_mem_c hc with rfl | hc
  · obtain ⟨w0, m0, h⟩ := fe_lR_d h
    obtain ⟨w1, m1, h⟩ := fe_lL_d h
    obtain ⟨w3, m3, h⟩ := fe_lI_d h
    obtain ⟨w4, m4, h⟩ := fe_lI_d h
    obtain ⟨w5, m5, h⟩ := fe_lI_d h
    obtain ⟨rfl, hz⟩ := fe_t0_d h
    exact ⟨[(0, .ref w0), (1, .long w1), (3, .int w3), (4, .int w4), (5, .int w5)], (fe_cs m0 (fe_cs m1 (fe_cs m3 (fe_cs m4 (fe_cs m5 fe_nl))))), Or.inr ((bX84_last_0 FX102_bits FX84_may FX84_fault (FX86_let n) (FX85_put n) (FX84_last_0 n ) (FX84_last_39 n ) (FX84_last_60 n ) (FX84_last_120 n ) w0 w1 w3 w4 w5 M).symm.trans hz)⟩
  rcases fe_mem_c hc with rfl | hc
  · obtain ⟨w0, m0, h⟩ := fe_lR_d h
    obtain ⟨w3, m3, h⟩ := fe_lI_d h
    obtain ⟨rfl, hz⟩ := fe_t0_d h
    exact ⟨[(0, .ref w0), (3, .int w3)], (fe_cs m0 (fe_cs m3 fe_nl)), Or.inr ((bX84_last_39 FX102_bits FX84_may FX84_fault (FX86_let n) (FX85_put n) (FX84_last_0 n ) (FX84_last_39 n ) (FX84_last_60 n ) (FX84_last_120 n ) w0 w3 M).symm.trans hz)⟩
  rcases fe_mem_c hc with rfl | hc
  · obtain ⟨w0, m0, h⟩ := fe_lR_d h
    obtain ⟨w1, m1, h⟩ := fe_lL_d h
    obtain ⟨w3, m3, h⟩ := fe_lI_d h
    obtain ⟨w5, m5, h⟩ := fe_lI_d h
    obtain ⟨w6, m6, h⟩ := fe_lL_d h
    obtain ⟨s0, t0, rfl, g0⟩ := fe_tL_d h
    obtain ⟨rfl, hz⟩ := fe_t0_d g0
    exact ⟨[(0, .ref w0), (1, .long w1), (3, .int w3), (5, .int w5), (6, .long w6)], (fe_cs m0 (fe_cs m1 (fe_cs m3 (fe_cs m5 (fe_cs m6 fe_nl))))), Or.inr ((bX84_last_60 FX102_bits FX84_may FX84_fault (FX86_let n) (FX85_put n) (FX84_last_0 n ) (FX84_last_39 n ) (FX84_last_60 n ) (FX84_last_120 n ) w0 w1 w3 w5 w6 s0 M).symm.trans hz)⟩
  rcases fe_mem_c hc with rfl | hc
  · obtain ⟨w1, m1, h⟩ := fe_lL_d h
    obtain ⟨w5, m5, h⟩ := fe_lI_d h
    obtain ⟨w6, m6, h⟩ := fe_lL_d h
    obtain ⟨rfl, hz⟩ := fe_t0_d h
    exact ⟨[(1, .long w1), (5, .int w5), (6, .long w6)], (fe_cs m1 (fe_cs m5 (fe_cs m6 fe_nl))), Or.inr ((bX84_last_120 FX102_bits FX84_may FX84_fault (FX86_let n) (FX85_put n) (FX84_last_0 n ) (FX84_last_39 n ) (FX84_last_60 n ) (FX84_last_120 n ) w1 w5 w6 M).symm.trans hz)⟩
  exact fe_mem_0 hc
theorem vX84_last (n : Nat) : fe_SB (sX84_last FX102_bits FX84_may FX84_fault (FX86_let n) (FX85_put n)) := by
  refine ⟨?_, ?_, ?_, ?_⟩
  · intro i As M r h
    rcases fe_bc h with h | h
    · obtain ⟨v0, t0, rfl, g0⟩ := fe_tR_d h
      obtain ⟨v1, t1, rfl, g1⟩ := fe_tL_d g0
      obtain ⟨v2, t2, rfl, g2⟩ := fe_tL_d g1
      obtain ⟨rfl, hz⟩ := fe_t0_d g2
      exact mX85_put n v0 v1 v2 M r hz
    exact fe_no h
  · intro i As M r h
    rcases fe_bc h with h | h
    · obtain ⟨v0, t0, rfl, g0⟩ := fe_tR_d h
      obtain ⟨v1, t1, rfl, g1⟩ := fe_tI_d g0
      obtain ⟨v2, t2, rfl, g2⟩ := fe_tI_d g1
      obtain ⟨rfl, hz⟩ := fe_t0_d g2
      exact mX84_may v0 v1 v2 M r hz
    rcases fe_bc h with h | h
    · obtain ⟨v0, t0, rfl, g0⟩ := fe_tR_d h
      obtain ⟨v1, t1, rfl, g1⟩ := fe_tL_d g0
      obtain ⟨v2, t2, rfl, g2⟩ := fe_tI_d g1
      obtain ⟨v3, t3, rfl, g3⟩ := fe_tI_d g2
      obtain ⟨v4, t4, rfl, g4⟩ := fe_tI_d g3
      obtain ⟨rfl, hz⟩ := fe_t0_d g4
      exact mX86_let n v0 v1 v2 v3 v4 M r hz
    exact fe_no h
  · intro i As M r h
    rcases fe_bc h with h | h
    · obtain ⟨v0, t0, rfl, g0⟩ := fe_tL_d h
      obtain ⟨v1, t1, rfl, g1⟩ := fe_tI_d g0
      obtain ⟨v2, t2, rfl, g2⟩ := fe_tI_d g1
      obtain ⟨rfl, hz⟩ := fe_t0_d g2
      exact mX102_bits v0 v1 v2 M r hz
    rcases fe_bc h with h | h
    · obtain ⟨v0, t0, rfl, g0⟩ := fe_tR_d h
      obtain ⟨v1, t1, rfl, g1⟩ := fe_tI_d g0
      obtain ⟨v2, t2, rfl, g2⟩ := fe_tI_d g1
      obtain ⟨rfl, hz⟩ := fe_t0_d g2
      exact mX84_fault v0 v1 v2 M r hz
    exact fe_no h
  · intro i As M r h
    exact fe_no h
theorem eX84_last (g0 : Nat → Int64 → Int32 → Int32 → Int32 → FM → Option (Int64 × FM)) (g39 : Nat → Int32 → FM → Option (Int64 × FM)) (g60 : Nat → Int64 → Int32 → Int32 → Int64 → Int64 → FM → Option (Int64 × FM)) (g120 : Int64 → Int32 → Int64 → FM → Option (Int64 × FM)) (a0 : Nat) (a1 : Int64) (a3 : Int32) (a4 : Int32) (a5 : Int32) (M : FM) : dX84_last g0 g39 g60 g120 0 [(0, .ref a0), (1, .long a1), (3, .int a3), (4, .int a4), (5, .int a5)] [] M = g0 a0 a1 a3 a4 a5 M := by rfl
theorem mX84_last (n : Nat) (a0 : Nat) (a1 : Int64) (a3 : Int32) (a4 : Int32) (a5 : Int32) (M : FM) (r : Int64 × FM) (h : FX84_last n a0 a1 a3 a4 a5 M = some r) : fm_nx M ≤ fm_nx r.2 ∧ fm_ns M ≤ fm_ns r.2 :=
  fe_mono (L0 := [(0, .ref a0), (1, .long a1), (3, .int a3), (4, .int a4), (5, .int a5)]) (vX84_last n) (by decide +kernel) (hX84_last n) (fe_kl_k r) 0 rfl ((eX84_last (FX84_last_0 n ) (FX84_last_39 n ) (FX84_last_60 n ) (FX84_last_120 n ) a0 a1 a3 a4 a5 M).trans h)
theorem zX84_last {s0 : State} {H0 : Heap} {oa : Nat → Nat} {D : va_G} (K : fk s0 H0 oa D) (l : Launch) (n : Nat) (a0 : Nat) (a1 : Int64) (a3 : Int32) (a4 : Int32) (a5 : Int32) (M : FM) (r : Int64 × FM) (h : FX84_last n a0 a1 a3 a4 a5 M = some r) : fs_Con (fk_E s0 H0 oa D) l 5 ⟨"BoardMachine$Walks$Translator", "last", "(JIII)J"⟩ prog_107_method_9_code 10 (Option.some Jvm.ClassFile.FieldType.long) [.ref a0, .long a1, .int a3, .int a4, .int a5] M (some (.long r.1)) r.2 := by
  have o0 : fs_OS (sX84_last FX102_bits FX84_may FX84_fault (FX86_let n) (FX85_put n)) 0 2 (fs_Con (fk_E s0 H0 oa D) l 1 ⟨"BoardMachine$Walks", "bits", "(JII)J"⟩ prog_102_method_2_code 4 (Option.some Jvm.ClassFile.FieldType.long)) := by
    intro As M r h
    obtain ⟨v0, t0, rfl, g0⟩ := fe_tL_d h
    obtain ⟨v1, t1, rfl, g1⟩ := fe_tI_d g0
    obtain ⟨v2, t2, rfl, g2⟩ := fe_tI_d g1
    obtain ⟨rfl, hz⟩ := fe_t0_d g2
    exact zX102_bits K l v0 v1 v2 M r hz
  have o1 : fs_OS (sX84_last FX102_bits FX84_may FX84_fault (FX86_let n) (FX85_put n)) 1 1 (fs_Con (fk_E s0 H0 oa D) l 2 ⟨"BoardMachine$Walks$Translator", "may", "(II)Z"⟩ prog_107_method_8_code 4 (Option.some Jvm.ClassFile.FieldType.boolean)) := by
    intro As M r h
    obtain ⟨v0, t0, rfl, g0⟩ := fe_tR_d h
    obtain ⟨v1, t1, rfl, g1⟩ := fe_tI_d g0
    obtain ⟨v2, t2, rfl, g2⟩ := fe_tI_d g1
    obtain ⟨rfl, hz⟩ := fe_t0_d g2
    exact zX84_may K l v0 v1 v2 M r hz
  have o2 : fs_OS (sX84_last FX102_bits FX84_may FX84_fault (FX86_let n) (FX85_put n)) 2 2 (fs_Con (fk_E s0 H0 oa D) l 1 ⟨"BoardMachine$Walks$Translator", "fault", "(II)J"⟩ prog_107_method_3_code 3 (Option.some Jvm.ClassFile.FieldType.long)) := by
    intro As M r h
    obtain ⟨v0, t0, rfl, g0⟩ := fe_tR_d h
    obtain ⟨v1, t1, rfl, g1⟩ := fe_tI_d g0
    obtain ⟨v2, t2, rfl, g2⟩ := fe_tI_d g1
    obtain ⟨rfl, hz⟩ := fe_t0_d g2
    exact zX84_fault K l v0 v1 v2 M r hz
  have o3 : fs_OS (sX84_last FX102_bits FX84_may FX84_fault (FX86_let n) (FX85_put n)) 3 1 (fs_Con (fk_E s0 H0 oa D) l 3 ⟨"BoardMachine$Walks$Regions", "let", "(JIII)Z"⟩ prog_105_method_6_code 10 (Option.some Jvm.ClassFile.FieldType.boolean)) := by
    intro As M r h
    obtain ⟨v0, t0, rfl, g0⟩ := fe_tR_d h
    obtain ⟨v1, t1, rfl, g1⟩ := fe_tL_d g0
    obtain ⟨v2, t2, rfl, g2⟩ := fe_tI_d g1
    obtain ⟨v3, t3, rfl, g3⟩ := fe_tI_d g2
    obtain ⟨v4, t4, rfl, g4⟩ := fe_tI_d g3
    obtain ⟨rfl, hz⟩ := fe_t0_d g4
    exact zX86_let K l n v0 v1 v2 v3 v4 M r hz
  have o4 : fs_OS (sX84_last FX102_bits FX84_may FX84_fault (FX86_let n) (FX85_put n)) 4 0 (fs_Con (fk_E s0 H0 oa D) l 4 ⟨"BoardMachine$TableWords", "put", "(JJ)V"⟩ prog_94_method_4_code 5 (Option.none : Option Jvm.ClassFile.FieldType)) := by
    intro As M r h
    obtain ⟨v0, t0, rfl, g0⟩ := fe_tR_d h
    obtain ⟨v1, t1, rfl, g1⟩ := fe_tL_d g0
    obtain ⟨v2, t2, rfl, g2⟩ := fe_tL_d g1
    obtain ⟨rfl, hz⟩ := fe_t0_d g2
    exact zX85_put K l n v0 v1 v2 M r hz
  refine fs_method (own := "BoardMachine$Walks$Translator") rfl (by decide) K.2.1 (by rw [fe_slen]; exact (Nat.le_of_ble_eq_true rfl)) (mX84_last n a0 a1 a3 a4 a5 M r h) (hX84_last n) 0 rfl (L0 := [(0, .ref a0), (1, .long a1), (3, .int a3), (4, .int a4), (5, .int a5)]) (fun E => fe_args_e E [.ref a0, .long a1, .int a3, .int a4, .int a5] 0) ((eX84_last (FX84_last_0 n ) (FX84_last_39 n ) (FX84_last_60 n ) (FX84_last_120 n ) a0 a1 a3 a4 a5 M).trans h) (fe_kl_k r) (fun H hR => fs_nr_o (by decide) (by decide)) ?_
  intro p e s m args below meth c Q C hnm
  have hw : s0.WarmedH s.vm := C.2.2.2.2.1
  refine fe_all C fk_hwr cX84_last [1, 8, 21, 33, 42, 51, 57, 63, 76, 80, 87, 96, 101, 105, 109, 115, 135] (by decide +kernel) (fe_fil (cps := [(1, 4, .getfield 1229304173), (8, 11, .invokestatic 14), (21, 24, .invokestatic 14), (33, 36, .invokevirtual 80833627), (42, 45, .invokevirtual 148991067), (51, 54, .jsr_w (192)), (57, 60, .jsr_w (64)), (63, 66, .getfield 1229304173), (76, 79, .getfield 1208332654), (80, 83, .getfield 1225109869), (87, 90, .invokevirtual 223438938), (96, 99, .invokevirtual 148991067), (101, 104, .getfield 1204138350), (105, 108, .getfield 1225109869), (109, 112, .getfield 1229304173), (115, 120, .invokeinterface 0 0), (135, 138, .invokestatic 14)]) (by decide +kernel) ?_)
  refine fs_c1 (fs_getf (pc := 1) (n := 1229304173) (idx := 116) (ref := "BoardMachine$Walks$Translator") (O := "BoardMachine$Walks$Translator") (name := "entry") (desc := "J") C (by decide +kernel) (Or.inl (kw K hw q2028)) (fun _ h => h) (Nat.le_of_ble_eq_true rfl) (Nat.le_of_ble_eq_true rfl) (fs_one (⟨_, ff_91_293 s0 H0 oa D⟩))) ?_
  refine fs_c1 (fs_inv_static (pc := 8) (n := 14) C (fs_lk_static (idx := 47) (y := ⟨"BoardMachine$Walks", "bits", "(JII)J"⟩) (bytes := prog_102_method_2_code) (maxL := 4) (rt := (Option.some Jvm.ClassFile.FieldType.long)) (d := 1) C (by decide +kernel) (kw K hw q2987) (kw K hw q427) (kw K hw q2986) (Or.inr ⟨_, kM K hw q2985⟩) ⟨by decide, by decide⟩ rfl (Nat.le_of_ble_eq_true rfl) (Nat.le_of_ble_eq_true rfl)) fs_con_mono o0) ?_
  refine fs_c1 (fs_inv_static (pc := 21) (n := 14) C (fs_lk_static (idx := 47) (y := ⟨"BoardMachine$Walks", "bits", "(JII)J"⟩) (bytes := prog_102_method_2_code) (maxL := 4) (rt := (Option.some Jvm.ClassFile.FieldType.long)) (d := 1) C (by decide +kernel) (kw K hw q2987) (kw K hw q427) (kw K hw q2986) (Or.inr ⟨_, kM K hw q2985⟩) ⟨by decide, by decide⟩ rfl (Nat.le_of_ble_eq_true rfl) (Nat.le_of_ble_eq_true rfl)) fs_con_mono o0) ?_
  refine fs_c1 (fs_inv_virtual (pc := 33) (n := 80833627) C (Nat.le_of_ble_eq_true rfl) (Nat.le_of_ble_eq_true rfl) (fs_lk_virtual (idx := 136) (y := ⟨"BoardMachine$Walks$Translator", "may", "(II)Z"⟩) (bytes := prog_107_method_8_code) (maxL := 4) (rt := (Option.some Jvm.ClassFile.FieldType.boolean)) (d := 2) C (Nat.le_of_ble_eq_true rfl) (Nat.le_of_ble_eq_true rfl) (by decide +kernel) (kw K hw q3077) (kw K hw q395) (kw K hw q3076) (Or.inl (kw K hw q3074)) ⟨by decide, by decide⟩ rfl (Nat.le_of_ble_eq_true rfl) (Nat.le_of_ble_eq_true rfl) (fs_one (⟨_, rfl, kw K hw qs48⟩))) fs_con_mono o1) ?_
  refine fs_c1 (fs_inv_virtual (pc := 42) (n := 148991067) C (Nat.le_of_ble_eq_true rfl) (Nat.le_of_ble_eq_true rfl) (fs_lk_virtual (idx := 51) (y := ⟨"BoardMachine$Walks$Translator", "fault", "(II)J"⟩) (bytes := prog_107_method_3_code) (maxL := 3) (rt := (Option.some Jvm.ClassFile.FieldType.long)) (d := 1) C (Nat.le_of_ble_eq_true rfl) (Nat.le_of_ble_eq_true rfl) (by decide +kernel) (kw K hw q2991) (kw K hw q395) (kw K hw q2990) (Or.inl (kw K hw q2988)) ⟨by decide, by decide⟩ rfl (Nat.le_of_ble_eq_true rfl) (Nat.le_of_ble_eq_true rfl) (fs_one (⟨_, rfl, kw K hw qs43⟩))) fs_con_mono o2) ?_
  refine fs_c1 (fs_ldcl (pc := 51) (idx := 140) (v := 192) C (by decide +kernel) (kw K hw q3078)) ?_
  refine fs_c1 (fs_ldcl (pc := 57) (idx := 142) (v := 64) C (by decide +kernel) (kw K hw q3079)) ?_
  refine fs_c1 (fs_getf (pc := 63) (n := 1229304173) (idx := 116) (ref := "BoardMachine$Walks$Translator") (O := "BoardMachine$Walks$Translator") (name := "entry") (desc := "J") C (by decide +kernel) (Or.inl (kw K hw q2028)) (fun _ h => h) (Nat.le_of_ble_eq_true rfl) (Nat.le_of_ble_eq_true rfl) (fs_one (⟨_, ff_91_293 s0 H0 oa D⟩))) ?_
  refine fs_c1 (fs_getf (pc := 76) (n := 1208332654) (idx := 20) (ref := "BoardMachine$Walks$Translator") (O := "BoardMachine$Walks$Translator") (name := "regions") (desc := "LBoardMachine$Walks$Regions;") C (by decide +kernel) (Or.inl (kw K hw q2020)) (fun _ h => h) (Nat.le_of_ble_eq_true rfl) (Nat.le_of_ble_eq_true rfl) (fs_one (⟨_, ff_91_288 s0 H0 oa D⟩))) ?_
  refine fs_c1 (fs_getf (pc := 80) (n := 1225109869) (idx := 127) (ref := "BoardMachine$Walks$Translator") (O := "BoardMachine$Walks$Translator") (name := "entryAt") (desc := "J") C (by decide +kernel) (Or.inl (kw K hw q2027)) (fun _ h => h) (Nat.le_of_ble_eq_true rfl) (Nat.le_of_ble_eq_true rfl) (fs_one (⟨_, ff_91_292 s0 H0 oa D⟩))) ?_
  refine fs_c1 (fs_inv_virtual (pc := 87) (n := 223438938) C (Nat.le_of_ble_eq_true rfl) (Nat.le_of_ble_eq_true rfl) (fs_lk_virtual (idx := 58) (y := ⟨"BoardMachine$Walks$Regions", "let", "(JIII)Z"⟩) (bytes := prog_105_method_6_code) (maxL := 10) (rt := (Option.some Jvm.ClassFile.FieldType.boolean)) (d := 3) C (Nat.le_of_ble_eq_true rfl) (Nat.le_of_ble_eq_true rfl) (by decide +kernel) (kw K hw q3037) (kw K hw q397) (kw K hw q3035) (Or.inl (kw K hw q3034)) ⟨by decide, by decide⟩ rfl (Nat.le_of_ble_eq_true rfl) (Nat.le_of_ble_eq_true rfl) (fs_one (⟨_, rfl, kw K hw q3036⟩))) fs_con_mono o3) ?_
  refine fs_c1 (fs_inv_virtual (pc := 96) (n := 148991067) C (Nat.le_of_ble_eq_true rfl) (Nat.le_of_ble_eq_true rfl) (fs_lk_virtual (idx := 51) (y := ⟨"BoardMachine$Walks$Translator", "fault", "(II)J"⟩) (bytes := prog_107_method_3_code) (maxL := 3) (rt := (Option.some Jvm.ClassFile.FieldType.long)) (d := 1) C (Nat.le_of_ble_eq_true rfl) (Nat.le_of_ble_eq_true rfl) (by decide +kernel) (kw K hw q2991) (kw K hw q395) (kw K hw q2990) (Or.inl (kw K hw q2988)) ⟨by decide, by decide⟩ rfl (Nat.le_of_ble_eq_true rfl) (Nat.le_of_ble_eq_true rfl) (fs_one (⟨_, rfl, kw K hw qs43⟩))) fs_con_mono o2) ?_
  refine fs_c1 (fs_getf (pc := 101) (n := 1204138350) (idx := 34) (ref := "BoardMachine$Walks$Translator") (O := "BoardMachine$Walks$Translator") (name := "words") (desc := "LBoardMachine$Walks$Words;") C (by decide +kernel) (Or.inl (kw K hw q2019)) (fun _ h => h) (Nat.le_of_ble_eq_true rfl) (Nat.le_of_ble_eq_true rfl) (fs_one (⟨_, ff_91_287 s0 H0 oa D⟩))) ?_
  refine fs_c1 (fs_getf (pc := 105) (n := 1225109869) (idx := 127) (ref := "BoardMachine$Walks$Translator") (O := "BoardMachine$Walks$Translator") (name := "entryAt") (desc := "J") C (by decide +kernel) (Or.inl (kw K hw q2027)) (fun _ h => h) (Nat.le_of_ble_eq_true rfl) (Nat.le_of_ble_eq_true rfl) (fs_one (⟨_, ff_91_292 s0 H0 oa D⟩))) ?_
  refine fs_c1 (fs_getf (pc := 109) (n := 1229304173) (idx := 116) (ref := "BoardMachine$Walks$Translator") (O := "BoardMachine$Walks$Translator") (name := "entry") (desc := "J") C (by decide +kernel) (Or.inl (kw K hw q2028)) (fun _ h => h) (Nat.le_of_ble_eq_true rfl) (Nat.le_of_ble_eq_true rfl) (fs_one (⟨_, ff_91_293 s0 H0 oa D⟩))) ?_
  refine fs_c1 (fs_inv_table (pc := 115) (nx := 120) (i := 0) (k := 0) C rfl (List.forall_mem_cons.mpr ⟨⟨(Nat.le_of_ble_eq_true rfl), (Nat.le_of_ble_eq_true rfl), _, fs_lk_face (idx := 144) (cnt := 5) (x := ⟨"BoardMachine$Walks$Words", "put", "(JJ)V"⟩) (y := ⟨"BoardMachine$TableWords", "put", "(JJ)V"⟩) (bytes := prog_94_method_4_code) (maxL := 5) (rt := (Option.none : Option Jvm.ClassFile.FieldType)) (d := 4) C (Nat.le_of_ble_eq_true rfl) (Nat.le_of_ble_eq_true rfl) (by decide +kernel) (kw K hw q3088) (kw K hw q396) (kw K hw q3086) (kw K hw q3081) (kFw (C := "BoardMachine$TableWords") (x := ⟨"BoardMachine$Walks$Words", "put", "(JJ)V"⟩) (y := ⟨"BoardMachine$TableWords", "put", "(JJ)V"⟩) (args := args) K hw ⟨by decide, by decide⟩ q3083 q3082 q3087 q3085 q3006).1 (kFw (C := "BoardMachine$TableWords") (x := ⟨"BoardMachine$Walks$Words", "put", "(JJ)V"⟩) (y := ⟨"BoardMachine$TableWords", "put", "(JJ)V"⟩) (args := args) K hw ⟨by decide, by decide⟩ q3083 q3082 q3087 q3085 q3006).2.1 (kFw (C := "BoardMachine$TableWords") (x := ⟨"BoardMachine$Walks$Words", "put", "(JJ)V"⟩) (y := ⟨"BoardMachine$TableWords", "put", "(JJ)V"⟩) (args := args) K hw ⟨by decide, by decide⟩ q3083 q3082 q3087 q3085 q3006).2.2.1 ⟨by decide, by decide⟩ rfl (Nat.le_of_ble_eq_true rfl) (Nat.le_of_ble_eq_true rfl) (fs_one ⟨_, rfl, kw K hw q3084, (kFw (C := "BoardMachine$TableWords") (x := ⟨"BoardMachine$Walks$Words", "put", "(JJ)V"⟩) (y := ⟨"BoardMachine$TableWords", "put", "(JJ)V"⟩) (args := args) K hw ⟨by decide, by decide⟩ q3083 q3082 q3087 q3085 q3006).2.2.2.1, (kFw (C := "BoardMachine$TableWords") (x := ⟨"BoardMachine$Walks$Words", "put", "(JJ)V"⟩) (y := ⟨"BoardMachine$TableWords", "put", "(JJ)V"⟩) (args := args) K hw ⟨by decide, by decide⟩ q3083 q3082 q3087 q3085 q3006).2.2.2.2⟩), fs_con_mono, o4⟩, List.forall_mem_nil _⟩)) ?_
  refine fs_c1 (fs_inv_static (pc := 135) (n := 14) C (fs_lk_static (idx := 47) (y := ⟨"BoardMachine$Walks", "bits", "(JII)J"⟩) (bytes := prog_102_method_2_code) (maxL := 4) (rt := (Option.some Jvm.ClassFile.FieldType.long)) (d := 1) C (by decide +kernel) (kw K hw q2987) (kw K hw q427) (kw K hw q2986) (Or.inr ⟨_, kM K hw q2985⟩) ⟨by decide, by decide⟩ rfl (Nat.le_of_ble_eq_true rfl) (Nat.le_of_ble_eq_true rfl)) fs_con_mono o0) ?_
  exact fs_c0
