/-! halves: every short instruction makes the same word on both sides, all -/
set_option maxRecDepth 100000
section Ex
variable {s c k : Nat} {M : FM}
theorem h_and3 (hk : k < 65536) : nI k &&& Int32.ofInt 3 = nI (k % 4) := by
  apply ui_inj
  rw [ui_and, show ui (Int32.ofInt 3) = 2 ^ 2 - 1 from rfl, Nat.and_two_pow_sub_one_eq_mod, ui_nI, ui_nI]
  omega
theorem h_top (hk : k < 65536) : fd (nI k) 15 13 = k / 8192 ∧ Int32.ofInt 8 * nI (k % 4) + (nI k >>> (Int32.ofInt 13 &&& 31)) = nI (8 * (k % 4) + k / 8192) := by
  constructor
  · unfold fd
    rw [ui_nI]
    omega
  · have e : nI k >>> (Int32.ofInt 13 &&& 31) = nI (k / 8192) := by
      apply ui_inj
      rw [ui_sar0 _ _ (by rw [ui_nI]; omega), ui_nI, ui_nI, show ui (Int32.ofInt 13) % 32 = 13 from rfl]
      omega
    rw [e, lit_8, nI_m, nI_a]
theorem X34_expand (T : Ty M) (W : Wf M) (St : StH s M) (hk : k < 65536) : HX34_expand s (nI k) M ∧ GX34_expand s (nI k) M = (hW (nI k), M) := by
  obtain ⟨n, n4, L0, L1, L2, L3, L5, L6, L7, L8, L9, L10, L11, L12, L13, L14, L15, L16, L17, L18, L19, L20, L21, L22, L23⟩ := St
  have z0 : M.2.2 0 0 0 = 0 := W.2.2.1
  obtain ⟨t1, t2⟩ := h_top hk
  have a3 := h_and3 hk
  have m4 : k % 4 < 4 := Nat.mod_lt _ (by decide)
  have t8 : k / 8192 < 8 := by omega
  have in24 : k % 4 ≠ 3 → fm_in M (M.2.2 142 s 0) (nI (8 * (k % 4) + k / 8192)) = true := fun h => in_nI (tL_142 T.1 n) (by omega) (by decide)
  have cl : (nI (8 * (k % 4) + k / 8192)).toNatClampNeg = 8 * (k % 4) + k / 8192 := o_cl (by omega)
  have zz : ∀ h, HX34_expand_27 h 0 M ∧ GX34_expand_27 h 0 M = (nI 0, M) := fun h => by
    unfold HX34_expand_27 GX34_expand_27 GX34_expand_41
    rw [fi_pos rfl]
    exact ⟨⟨fun _ => trivial, fun y => absurd rfl y⟩, rfl⟩
  unfold HX34_expand HX34_expand_0 GX34_expand GX34_expand_0
  dsimp only
  rw [a3, t2, cl]
  have go : k % 4 ≠ 3 → ∀ w, (HX34_expand_27 (nI k) (lnH s (8 * (k % 4) + k / 8192) M) M ∧ GX34_expand_27 (nI k) (lnH s (8 * (k % 4) + k / 8192) M) M = (w, M)) → hW (nI k) = w →
      ((nI (k % 4) = Int32.ofInt 3 → HX34_expand_27 (nI k) 0 M) ∧ (¬ nI (k % 4) = Int32.ofInt 3 → (fm_in M (M.2.2 142 s 0) (nI (8 * (k % 4) + k / 8192)) = true ∧ HX34_expand_27 (nI k) (M.2.2 3 (M.2.2 142 s 0) (8 * (k % 4) + k / 8192)) M))) ∧
      fi (nI (k % 4) = Int32.ofInt 3) (GX34_expand_27 (nI k) 0 M) (GX34_expand_27 (nI k) (M.2.2 3 (M.2.2 142 s 0) (8 * (k % 4) + k / 8192)) M) = (hW (nI k), M) := fun h w q e => by
    have n3 : ¬ nI (k % 4) = Int32.ofInt 3 := fun y => h (nI_j (b := 3) (by omega) (by decide) y)
    rw [fi_neg n3, e]
    exact ⟨⟨fun _ => (zz _).1, fun _ => ⟨in24 h, q.1⟩⟩, q.2⟩
  have hw0 : k % 4 = 0 → hW (nI k) = hQ0 (nI k) := fun e => by
    unfold hW
    rw [a3, e, fi_pos (show nI 0 = Int32.ofInt 0 from rfl)]
  have hw1 : k % 4 = 1 → hW (nI k) = hQ1 (nI k) := fun e => by
    unfold hW
    rw [a3, e, fi_neg (show ¬ nI 1 = Int32.ofInt 0 by decide), fi_pos (show nI 1 = Int32.ofInt 1 from rfl)]
  have hw2 : k % 4 = 2 → hW (nI k) = hQ2 (nI k) := fun e => by
    unfold hW
    rw [a3, e, fi_neg (show ¬ nI 2 = Int32.ofInt 0 by decide), fi_neg (show ¬ nI 2 = Int32.ofInt 1 by decide), fi_pos (show nI 2 = Int32.ofInt 2 from rfl)]
  have ht : k / 8192 = 0 ∨ k / 8192 = 1 ∨ k / 8192 = 2 ∨ k / 8192 = 3 ∨ k / 8192 = 4 ∨ k / 8192 = 5 ∨ k / 8192 = 6 ∨ k / 8192 = 7 := by omega
  have hq : k % 4 = 0 ∨ k % 4 = 1 ∨ k % 4 = 2 ∨ k % 4 = 3 := by omega
  rcases hq with q | q | q | q
  · rcases ht with t | t | t | t | t | t | t | t
    · refine go (by omega) (hQ0 (nI k)) ?_ (hw0 q)
      rw [show 8 * (k % 4) + k / 8192 = 0 by omega]
      exact lq_0 T z0 L0 (t1.trans t)
    · refine go (by omega) (hQ0 (nI k)) ?_ (hw0 q)
      rw [show 8 * (k % 4) + k / 8192 = 1 by omega]
      exact lq_1 T z0 L1 (t1.trans t)
    · refine go (by omega) (hQ0 (nI k)) ?_ (hw0 q)
      rw [show 8 * (k % 4) + k / 8192 = 2 by omega]
      exact lq_2 T z0 L2 (t1.trans t)
    · refine go (by omega) (hQ0 (nI k)) ?_ (hw0 q)
      rw [show 8 * (k % 4) + k / 8192 = 3 by omega]
      exact lq_3 T z0 L3 (t1.trans t)
    · refine go (by omega) (hQ0 (nI k)) ?_ (hw0 q)
      have e : hQ0 (nI k) = nI 0 := by
        unfold hQ0
        rw [t1, t, fi_neg (show ¬ nI 4 = nI 0 by decide), fi_neg (show ¬ nI 4 = nI 1 by decide), fi_neg (show ¬ nI 4 = nI 2 by decide), fi_neg (show ¬ nI 4 = nI 3 by decide), fi_pos rfl]
      rw [show 8 * (k % 4) + k / 8192 = 4 by omega, n4, e]
      exact zz _
    · refine go (by omega) (hQ0 (nI k)) ?_ (hw0 q)
      rw [show 8 * (k % 4) + k / 8192 = 5 by omega]
      exact lq_5 T z0 L5 (t1.trans t)
    · refine go (by omega) (hQ0 (nI k)) ?_ (hw0 q)
      rw [show 8 * (k % 4) + k / 8192 = 6 by omega]
      exact lq_6 T z0 L6 (t1.trans t)
    · refine go (by omega) (hQ0 (nI k)) ?_ (hw0 q)
      rw [show 8 * (k % 4) + k / 8192 = 7 by omega]
      exact lq_7 T z0 L7 (t1.trans t)
  · rcases ht with t | t | t | t | t | t | t | t
    · refine go (by omega) (hQ1 (nI k)) ?_ (hw1 q)
      rw [show 8 * (k % 4) + k / 8192 = 8 by omega]
      exact lq_8 T z0 L8 (t1.trans t)
    · refine go (by omega) (hQ1 (nI k)) ?_ (hw1 q)
      rw [show 8 * (k % 4) + k / 8192 = 9 by omega]
      exact lq_9 T z0 L9 (t1.trans t)
    · refine go (by omega) (hQ1 (nI k)) ?_ (hw1 q)
      rw [show 8 * (k % 4) + k / 8192 = 10 by omega]
      exact lq_10 T z0 L10 (t1.trans t)
    · refine go (by omega) (hQ1 (nI k)) ?_ (hw1 q)
      rw [show 8 * (k % 4) + k / 8192 = 11 by omega]
      exact lq_11 T z0 L11 (t1.trans t)
    · refine go (by omega) (hQ1 (nI k)) ?_ (hw1 q)
      rw [show 8 * (k % 4) + k / 8192 = 12 by omega]
      exact lq_12 T z0 L12 (t1.trans t)
    · refine go (by omega) (hQ1 (nI k)) ?_ (hw1 q)
      rw [show 8 * (k % 4) + k / 8192 = 13 by omega]
      exact lq_13 T z0 L13 (t1.trans t)
    · refine go (by omega) (hQ1 (nI k)) ?_ (hw1 q)
      rw [show 8 * (k % 4) + k / 8192 = 14 by omega]
      exact lq_14 T z0 L14 (t1.trans t)
    · refine go (by omega) (hQ1 (nI k)) ?_ (hw1 q)
      rw [show 8 * (k % 4) + k / 8192 = 15 by omega]
      exact lq_15 T z0 L15 (t1.trans t)
  · rcases ht with t | t | t | t | t | t | t | t
    · refine go (by omega) (hQ2 (nI k)) ?_ (hw2 q)
      rw [show 8 * (k % 4) + k / 8192 = 16 by omega]
      exact lq_16 T z0 L16 (t1.trans t)
    · refine go (by omega) (hQ2 (nI k)) ?_ (hw2 q)
      rw [show 8 * (k % 4) + k / 8192 = 17 by omega]
      exact lq_17 T z0 L17 (t1.trans t)
    · refine go (by omega) (hQ2 (nI k)) ?_ (hw2 q)
      rw [show 8 * (k % 4) + k / 8192 = 18 by omega]
      exact lq_18 T z0 L18 (t1.trans t)
    · refine go (by omega) (hQ2 (nI k)) ?_ (hw2 q)
      rw [show 8 * (k % 4) + k / 8192 = 19 by omega]
      exact lq_19 T z0 L19 (t1.trans t)
    · refine go (by omega) (hQ2 (nI k)) ?_ (hw2 q)
      rw [show 8 * (k % 4) + k / 8192 = 20 by omega]
      exact lq_20 T z0 L20 (t1.trans t)
    · refine go (by omega) (hQ2 (nI k)) ?_ (hw2 q)
      rw [show 8 * (k % 4) + k / 8192 = 21 by omega]
      exact lq_21 T z0 L21 (t1.trans t)
    · refine go (by omega) (hQ2 (nI k)) ?_ (hw2 q)
      rw [show 8 * (k % 4) + k / 8192 = 22 by omega]
      exact lq_22 T z0 L22 (t1.trans t)
    · refine go (by omega) (hQ2 (nI k)) ?_ (hw2 q)
      rw [show 8 * (k % 4) + k / 8192 = 23 by omega]
      exact lq_23 T z0 L23 (t1.trans t)
  · have y : nI (k % 4) = Int32.ofInt 3 := by rw [q]; rfl
    rw [fi_pos y, (zz _).2]
    refine ⟨⟨fun _ => (zz _).1, fun w => absurd y w⟩, ?_⟩
    unfold hW
    rw [a3, q, fi_neg (show ¬ nI 3 = Int32.ofInt 0 by decide), fi_neg (show ¬ nI 3 = Int32.ofInt 1 by decide), fi_neg (show ¬ nI 3 = Int32.ofInt 2 by decide)]
    rfl
theorem X94_expand (T : Ty M) (n : fm_is M 97 97 c = true) (hk : k < 65536) : HX94_expand c (nI k) M ∧ GX94_expand c (nI k) M = (hW (nI k), fm_sI (fm_sI M 386 c 0 (Int32.ofInt 0)) 387 c 0 (nI k)) := by
  have T1 : Ty (fm_sI (fm_sI M 386 c 0 (Int32.ofInt 0)) 387 c 0 (nI k)) := ⟨T.1, tyb_sI (f := 387) rfl (tyb_sI (f := 386) rfl T.2)⟩
  have n1 : fm_is (fm_sI (fm_sI M 386 c 0 (Int32.ofInt 0)) 387 c 0 (nI k)) 97 97 c = true := n
  have e387 : (fm_sI (fm_sI M 386 c 0 (Int32.ofInt 0)) 387 c 0 (nI k)).1 387 c 0 = nI k := by rw [rI, if_pos ⟨rfl, rfl, rfl⟩]
  have q0 := X94_quadrant0 T1 n1
  have q1 := X94_quadrant1 T1 n1
  have q2 := X94_quadrant2 T1 n1
  rw [e387] at q0 q1 q2
  have g0 : ¬ nI k < 0 := fun q => by
    rw [lt_ti, ti, ui_nI, Nat.mod_eq_of_lt (by omega), if_pos (by omega)] at q
    have : ((0 : Int32).toInt) = 0 := rfl
    omega
  have gm : nI k ≤ Int32.ofInt 65535 := by
    rw [le_ti, ti, ui_nI, Nat.mod_eq_of_lt (by omega), if_pos (by omega)]
    have : ((Int32.ofInt 65535).toInt) = 65535 := rfl
    omega
  have p86 : (fm_sI M 386 c 0 (Int32.ofInt 0)).1 386 c 0 ≤ 0 := by rw [rI, if_pos ⟨rfl, rfl, rfl⟩]; decide
  have wo : HX94_wordOf c (nI k) (fm_sI M 386 c 0 (Int32.ofInt 0)) ∧ GX94_wordOf c (nI k) (fm_sI M 386 c 0 (Int32.ofInt 0)) = (hW (nI k), fm_sI (fm_sI M 386 c 0 (Int32.ofInt 0)) 387 c 0 (nI k)) := by
    unfold HX94_wordOf HX94_wordOf_0 GX94_wordOf GX94_wordOf_0 hW
    dsimp only
    rw [q0.2, q1.2, q2.2, fi_P, fi_P, fi_P]
    exact ⟨⟨fun _ => ⟨q0.1, trivial⟩, fun _ => ⟨fun _ => ⟨q1.1, trivial⟩, fun _ => ⟨fun _ => ⟨q2.1, trivial⟩, fun _ => trivial⟩⟩⟩, rfl⟩
  unfold HX94_expand HX94_expand_0 HX94_expand_11 HX94_expand_16 GX94_expand GX94_expand_0 GX94_expand_16 GX94_expand_35
  rw [fi_neg g0, fi_pos gm]
  dsimp only
  rw [fi_pos p86, wo.2]
  exact ⟨⟨fun y => absurd y g0, fun _ => ⟨fun _ => ⟨fun _ => ⟨wo.1, trivial⟩, fun _ => trivial⟩, fun y => absurd gm y⟩⟩, rfl⟩
end Ex
