/-! the signals: writes, on both sides -/
set_option maxRecDepth 100000
noncomputable def gWs (p w n : Nat) (z : Int32) (v : Int64) (soft : Nat → Int32) (num : Nat → Int64) : (Nat → Int32) × (Nat → Int64) := if w = 0 then tWs p n z v soft num else (soft, num)
noncomputable def gWk (F : Nat → Int64 → Kr → Kr) (p w n : Nat) (z : Int32) (v : Int64) (K : Kr) : Kr := if w = 1 ∧ z = Int32.ofInt 4 then kWr F p n v K else K
noncomputable def gWS (w n : Nat) (z : Int32) (v : Int64) (S : Sr) : Sr := if w = 2 ∧ z = Int32.ofInt 1 ∧ n < 8 then sWr n (nI (ul v % 256)) S else S
section Sg
variable {s m p B : Nat} {M M' Mc Mt : FM} {K : Kr} {S : Sr} {soft : Nat → Int32} {num : Nat → Int64}
theorem X30_write {w n : Nat} {z : Int32} (T : Ty M) (W : Wf M) (ns : fm_is M 79 79 s = true) (V : VUc s p M soft num K S) (I : VUi B p soft K S) (hB : B < 2147483000) (hw : w < 3) (hn : n < 2147483648) (v : Int64) :
    ∃ X, (HX30_write s (nI w) (lN n) z v M ∧ GX30_write s (nI w) (lN n) z v M = X) ∧ VUc s p X (gWs p w n z v soft num).1 (gWs p w n z v soft num).2 (kSe (¬ cs (gWS w n z v S) = Int32.ofInt 1) (gWk kCmC p w n z v K)) (gWS w n z v S) := by
  obtain ⟨i1, i4, i0, iK, iS, _⟩ := I
  have nt := tN_240 T.1 ns
  have nC := tN_241 T.1 ns
  have nL := tN_242 T.1 ns
  have V0 := V
  obtain ⟨v1, v2, v3, v4, v5, v6, v7⟩ := V
  have in3 : fm_in M (M.2.2 243 s 0) (nI w) = true := in_nI (tL_243 T.1 ns) hw (by decide)
  have tt : M.2.2 0 (M.2.2 240 s 0) 0 = 80 := by have := fm_isd nt; omega
  have tC : M.2.2 0 (M.2.2 241 s 0) 0 = 77 := by have := fm_isd nC; omega
  have tL : M.2.2 0 (M.2.2 242 s 0) 0 = 78 := by have := fm_isd nL; omega
  have go : ∀ (r : FM), (fi (fm_is M 77 77 (M.2.2 3 (M.2.2 243 s 0) w) = true) (GX33_write (M.2.2 3 (M.2.2 243 s 0) w) (lN n) z v M) (fi (fm_is M 78 78 (M.2.2 3 (M.2.2 243 s 0) w) = true) (GX31_write (M.2.2 3 (M.2.2 243 s 0) w) (lN n) z v M) (GX32_write (M.2.2 3 (M.2.2 243 s 0) w) (lN n) z v M))) = r →
      ((fm_is M 77 77 (M.2.2 3 (M.2.2 243 s 0) w) = true → HX33_write (M.2.2 3 (M.2.2 243 s 0) w) (lN n) z v M) ∧ (¬ fm_is M 77 77 (M.2.2 3 (M.2.2 243 s 0) w) = true → (fm_is M 78 78 (M.2.2 3 (M.2.2 243 s 0) w) = true → HX31_write (M.2.2 3 (M.2.2 243 s 0) w) (lN n) z v M) ∧ (¬ fm_is M 78 78 (M.2.2 3 (M.2.2 243 s 0) w) = true → fm_is M 80 80 (M.2.2 3 (M.2.2 243 s 0) w) = true ∧ HX32_write (M.2.2 3 (M.2.2 243 s 0) w) (lN n) z v M))) →
      Ty r → Wf r → fm_is r 79 79 s = true → VUc s p r (gWs p w n z v soft num).1 (gWs p w n z v soft num).2 (gWk kCmC p w n z v K) (gWS w n z v S) → VSi (B + 1) (gWS w n z v S) → ∃ X, (HX30_write s (nI w) (lN n) z v M ∧ GX30_write s (nI w) (lN n) z v M = X) ∧ VUc s p X (gWs p w n z v soft num).1 (gWs p w n z v soft num).2 (kSe (¬ cs (gWS w n z v S) = Int32.ofInt 1) (gWk kCmC p w n z v K)) (gWS w n z v S) :=
    fun r hr hh Tr Wr nr Vr Ir => by
      obtain ⟨X, ⟨x1, x2⟩, x3⟩ := c_after Tr Wr nr Vr Ir
      refine ⟨X, ⟨?_, ?_⟩, x3⟩
      · unfold HX30_write HX30_write_0
        dsimp only
        rw [o_cl (by omega), hr]
        exact ⟨in3, hh, x1, trivial⟩
      · unfold GX30_write GX30_write_0
        dsimp only
        rw [o_cl (by omega), hr]
        exact x2
  have iS1 : VSi (B + 1) S := vsi_up iS (Nat.le_succ B)
  have hc : w = 0 ∨ w = 1 ∨ w = 2 := by omega
  rcases hc with rfl | rfl | rfl
  · obtain ⟨a1, a2⟩ := X32_write (n := n) (z := z) T nt v1.1 i4 hn v
    have r77 : ¬ fm_is M 77 77 (M.2.2 240 s 0) = true := isN tt (by decide)
    have r78 : ¬ fm_is M 78 78 (M.2.2 240 s 0) = true := isN tt (by decide)
    obtain ⟨w1, w2⟩ := vtc_w (n := n) (z := z) v1 v
    have TX : Ty (tW (M.2.2 240 s 0) p n z v M) := by
      have := (gX32_write (M.2.2 240 s 0) (lN n) z v M T nt a1).2.1
      rw [a2] at this
      exact this
    have eK : gWk kCmC p 0 n z v K = K := by unfold gWk; rw [if_neg (by omega)]
    have eS : gWS 0 n z v S = S := by unfold gWS; rw [if_neg (by omega)]
    have eW : gWs p 0 n z v soft num = tWs p n z v soft num := by unfold gWs; rw [if_pos rfl]
    refine go (tW (M.2.2 240 s 0) p n z v M) ?_ ?_ TX (wf_frM T W nt w2) (by unfold fm_is at ns ⊢; rw [w2.1]; exact ns) ?_ (by rw [eS]; exact iS1)
    · rw [v5, fi_neg r77, fi_neg r78, a2]
    · rw [v5]
      exact ⟨fun y => absurd y r77, fun _ => ⟨fun y => absurd y r78, fun _ => ⟨nt, a1⟩⟩⟩
    · rw [eK, eS, eW]
      have y3 : (tW (M.2.2 240 s 0) p n z v M).1 223 (M.2.2 241 s 0) 0 = nI (2 * p) := by
        rw [w2.2.1 223 _ 0 (by omega)]
        exact v3
      have y2 := frM_k T W nt nC nL w2 v2
      have y4 := frM_s T W nt nC nL w2 v4
      unfold VUc
      rw [w2.1]
      exact ⟨w1, y2, y3, y4, v5, v6, v7⟩
  · have r77 : fm_is M 77 77 (M.2.2 241 s 0) = true := nC
    have eS : gWS 1 n z v S = S := by unfold gWS; rw [if_neg (by omega)]
    have eW : gWs p 1 n z v soft num = (soft, num) := by unfold gWs; rw [if_neg (by omega)]
    by_cases hz : z = Int32.ofInt 4
    · obtain ⟨X, ⟨x1, x2⟩, x3, x4⟩ := X33_write T W nC v3 i4 hn v2 v
      have eK : gWk kCmC p 1 n z v K = kWr kCmC p n v K := by unfold gWk; rw [if_pos ⟨rfl, hz⟩]
      have TX : Ty X := by
        have := (gX33_write (M.2.2 241 s 0) (lN n) (Int32.ofInt 4) v M T nC x1).2.1
        rw [x2] at this
        exact this
      refine go X ?_ ?_ TX (wf_frC T W nC x4) (by unfold fm_is at ns ⊢; rw [x4.1]; exact ns) ?_ (by rw [eS]; exact iS1)
      · rw [v6, fi_pos r77, hz, x2]
      · rw [v6, hz]
        exact ⟨fun _ => x1, fun y => absurd r77 y⟩
      · rw [eK, eS, eW]
        have y1 := frC_tm T W nt nC nL x4 v1
        have y4 := frC_s T W nt nC nL x4 v4
        have y3 : X.1 223 (M.2.2 241 s 0) 0 = nI (2 * p) := by
          rw [x4.2.1 223 _ 0 (by omega)]
          exact v3
        unfold VUc
        rw [x4.1]
        exact ⟨y1, x3, y3, y4, v5, v6, v7⟩
    · have e0 : GX33_write (M.2.2 241 s 0) (lN n) z v M = M := by
        unfold GX33_write GX33_write_0 GX33_write_15
        rw [fi_neg hz]
      have eK : gWk kCmC p 1 n z v K = K := by unfold gWk; rw [if_neg (fun q => hz q.2)]
      refine go M ?_ ?_ T W ns (by rw [eK, eS, eW]; exact V0) (by rw [eS]; exact iS1)
      · rw [v6, fi_pos r77, e0]
      · rw [v6]
        exact ⟨fun _ => ⟨fun y => absurd y hz, fun _ => trivial⟩, fun y => absurd r77 y⟩
  · have r77 : ¬ fm_is M 77 77 (M.2.2 242 s 0) = true := isN tL (by decide)
    have r78 : fm_is M 78 78 (M.2.2 242 s 0) = true := nL
    have eK : gWk kCmC p 2 n z v K = K := by unfold gWk; rw [if_neg (by omega)]
    have eW : gWs p 2 n z v soft num = (soft, num) := by unfold gWs; rw [if_neg (by omega)]
    by_cases hz : z = Int32.ofInt 1 ∧ n < 8
    · obtain ⟨X, ⟨x1, x2⟩, x3, x4⟩ := X31_write_L T W nL v4 iS hB hz.2 v
      have eS : gWS 2 n z v S = sWr n (nI (ul v % 256)) S := by unfold gWS; rw [if_pos ⟨rfl, hz.1, hz.2⟩]
      have TX : Ty X := by
        have := (gX31_write (M.2.2 242 s 0) (lN n) (Int32.ofInt 1) v M T nL x1).2.1
        rw [x2] at this
        exact this
      refine go X ?_ ?_ TX (wf_frS T W nL x4) (by unfold fm_is at ns ⊢; rw [x4.1]; exact ns) ?_ (by rw [eS]; exact vsi_wr iS n _)
      · rw [v7, fi_neg r77, fi_pos r78, hz.1, x2]
      · rw [v7, hz.1]
        exact ⟨fun y => absurd y r77, fun _ => ⟨fun _ => x1, fun y => absurd r78 y⟩⟩
      · rw [eK, eS, eW]
        have y1 := frS_tm T W nt nC nL x4 v1
        have y2 := frS_k T W nt nC nL x4 v2
        have y3 := (frS_23 T W nt nC nL x4).trans v3
        unfold VUc
        rw [x4.1]
        exact ⟨y1, y2, y3, x3, v5, v6, v7⟩
    · have k7 : lg_cmp (lN n) (Int64.ofInt 7) ≤ 0 ↔ n < 8 := (o_le hn (show 7 < 2147483648 by decide)).trans (by omega)
      have eS : gWS 2 n z v S = S := by unfold gWS; rw [if_neg (fun q => hz q.2)]
      have e0 : GX31_write (M.2.2 242 s 0) (lN n) z v M = M ∧ HX31_write (M.2.2 242 s 0) (lN n) z v M := by
        unfold GX31_write GX31_write_0 GX31_write_13 HX31_write HX31_write_0
        by_cases h1 : z = Int32.ofInt 1
        · have h8 : ¬ n < 8 := fun y => hz ⟨h1, y⟩
          rw [fi_pos h1, fi_neg (fun y => h8 (k7.mp y))]
          exact ⟨rfl, fun _ => ⟨fun y => absurd (k7.mp y) h8, fun _ => trivial⟩, fun _ => trivial⟩
        · rw [fi_neg h1]
          exact ⟨rfl, fun y => absurd y h1, fun _ => trivial⟩
      refine go M ?_ ?_ T W ns (by rw [eK, eS, eW]; exact V0) (by rw [eS]; exact iS1)
      · rw [v7, fi_neg r77, fi_pos r78, e0.1]
      · rw [v7]
        exact ⟨fun y => absurd y r77, fun _ => ⟨fun _ => e0.2, fun y => absurd r78 y⟩⟩
theorem X96_write {w n : Nat} {z : Int32} (T0 : Ty M) (W0 : Wf M) (n0 : fm_is M 99 99 m = true) (V0 : VUt m p M soft num K S) (I : VUi B p soft K S) (hB : B < 2147483000) (hw : w < 3) (hn : n < 2147483648) (hz : z4 z) (v : Int64) :
    ∃ X, (HX96_write m (nI w) (lN n) z v M ∧ GX96_write m (nI w) (lN n) z v M = X) ∧ VUt m p X (gWs p w n z v soft num).1 (gWs p w n z v soft num).2 (kSe (¬ cs (gWS w n z v S) = Int32.ofInt 1) (gWk kCm p w n z v K)) (gWS w n z v S) := by
  obtain ⟨i1, i4, i0, iK, iS, _⟩ := I
  have T := ty_94 (m := m) T0 (Int32.ofInt 0)
  have W := wf_sI (f := 394) (i := 0) (v := Int32.ofInt 0) (lo := 99) (hi := 99) W0 rfl n0
  have nn : fm_is (fm_sI M 394 m 0 (Int32.ofInt 0)) 99 99 m = true := n0
  have V := vut_94 V0 (Int32.ofInt 0)
  have p94 : (fm_sI M 394 m 0 (Int32.ofInt 0)).1 394 m 0 ≤ 0 := by rw [rI, if_pos ⟨rfl, rfl, rfl⟩]; decide
  have pr := X96_isProper (M := M) hw hn hz
  have hH : ∀ P : Prop, P → ((Int32.ofInt 1 = 0 → HX96_write_16 m (nI w) (lN n) z v m (Int32.ofInt 1) M) ∧ (¬ Int32.ofInt 1 = 0 → P)) := fun P h => ⟨fun y => absurd y (by decide), fun _ => h⟩
  unfold HX96_write HX96_write_0 GX96_write GX96_write_0
  dsimp only
  rw [pr]
  dsimp only
  rw [fi_neg (show ¬ Int32.ofInt 1 = 0 by decide)]
  refine Exists.imp (fun X q => ⟨⟨hH _ q.1.1, q.1.2⟩, q.2⟩) (?_ : ∃ X, (HX96_write_16 m (nI w) (lN n) z v m (Int32.ofInt 0) M ∧ GX96_write_16 m (nI w) (lN n) z v m (Int32.ofInt 0) M = X) ∧ VUt m p X (gWs p w n z v soft num).1 (gWs p w n z v soft num).2 (kSe (¬ cs (gWS w n z v S) = Int32.ofInt 1) (gWk kCm p w n z v K)) (gWS w n z v S))
  unfold HX96_write_16 GX96_write_16 HX96_write_64 GX96_write_64 HX96_write_96 GX96_write_96
  dsimp only
  rw [fi_pos p94]
  generalize fm_sI M 394 m 0 (Int32.ofInt 0) = N at *
  have go : ∀ (N' : FM), Ty N' → Wf N' → fm_is N' 99 99 m = true → VUt m p N' (gWs p w n z v soft num).1 (gWs p w n z v soft num).2 (gWk kCm p w n z v K) (gWS w n z v S) → VKi (gWk kCm p w n z v K) → VSi (B + 1) (gWS w n z v S) →
      ∃ X, (HX96_settle m N' ∧ GX96_settle m N' = X) ∧ VUt m p X (gWs p w n z v soft num).1 (gWs p w n z v soft num).2 (kSe (¬ cs (gWS w n z v S) = Int32.ofInt 1) (gWk kCm p w n z v K)) (gWS w n z v S) := fun N' Tr Wr nr Vr Ik Ir => t_after Tr Wr nr Vr Ik Ir
  have iS1 : VSi (B + 1) S := vsi_up iS (Nat.le_succ B)
  have hc : w = 0 ∨ w = 1 ∨ w = 2 := by omega
  rcases hc with rfl | rfl | rfl
  · obtain ⟨a1, a2⟩ := X96_writeTimer T nn V.1.1 i4 hn hz v
    obtain ⟨w1, w2⟩ := vtt_w (n := n) (z := z) T nn i4 V.1 v
    have TX : Ty (tWt m p n z v N) := by
      have := (gX96_writeTimer m (lN n) z v N T nn a1).2.1
      rw [a2] at this
      exact this
    have eK : gWk kCm p 0 n z v K = K := by unfold gWk; rw [if_neg (by omega)]
    have eS : gWS 0 n z v S = S := by unfold gWS; rw [if_neg (by omega)]
    have eW : gWs p 0 n z v soft num = tWs p n z v soft num := by unfold gWs; rw [if_pos rfl]
    obtain ⟨X, ⟨x1, x2⟩, x3⟩ := go (tWt m p n z v N) TX (wf_frN T W nn w2) (by unfold fm_is at nn ⊢; rw [w2.1]; exact nn) (by rw [eK, eS, eW]; exact ⟨w1, frN_k T W nn w2 V.2.1, frN_s T W nn w2 V.2.2⟩) (by rw [eK]; exact iK) (by rw [eS]; exact iS1)
    rw [fi_pos (show nI 0 = 0 from rfl), a2]
    exact ⟨X, ⟨⟨fun _ => ⟨fun _ => ⟨a1, x1, trivial⟩, fun y => absurd rfl y⟩, fun y => absurd p94 y⟩, x2⟩, x3⟩
  · have eS : gWS 1 n z v S = S := by unfold gWS; rw [if_neg (by omega)]
    have eW : gWs p 1 n z v soft num = (soft, num) := by unfold gWs; rw [if_neg (by omega)]
    rw [fi_neg (show ¬ nI 1 = 0 by decide), fi_pos (show nI 1 = Int32.ofInt 1 from rfl)]
    by_cases h4 : z = Int32.ofInt 4
    · obtain ⟨Y, ⟨y1, y2⟩, y3, y4, y5⟩ := X96_writeController T W nn V.1.1 i4 hn V.2.1 v
      have eK : gWk kCm p 1 n z v K = kWr kCm p n v K := by unfold gWk; rw [if_pos ⟨rfl, h4⟩]
      obtain ⟨X, ⟨x1, x2⟩, x3⟩ := go Y y5 (wf_frK T W nn y4) (by unfold fm_is at nn ⊢; rw [y4.1]; exact nn) (by rw [eK, eS, eW]; exact ⟨frK_tm T W nn y4 V.1, y3, frK_s T W nn y4 V.2.2⟩) (by rw [eK]; exact (vki_wr iK).1) (by rw [eS]; exact iS1)
      rw [fi_pos h4, y2]
      exact ⟨X, ⟨⟨fun _ => ⟨fun y => absurd y (by decide), fun _ => ⟨fun _ => ⟨fun _ => ⟨y1, x1, trivial⟩, fun y => absurd h4 y⟩, fun y => absurd rfl y⟩⟩, fun y => absurd p94 y⟩, x2⟩, x3⟩
    · have eK : gWk kCm p 1 n z v K = K := by unfold gWk; rw [if_neg (fun q => h4 q.2)]
      obtain ⟨X, ⟨x1, x2⟩, x3⟩ := go N T W nn (by rw [eK, eS, eW]; exact V) (by rw [eK]; exact iK) (by rw [eS]; exact iS1)
      rw [fi_neg h4, fi_neg (show ¬ nI 1 = Int32.ofInt 2 by decide)]
      exact ⟨X, ⟨⟨fun _ => ⟨fun y => absurd y (by decide), fun _ => ⟨fun _ => ⟨fun y => absurd y h4, fun _ => ⟨fun y => absurd y (by decide), fun _ => ⟨x1, trivial⟩⟩⟩, fun y => absurd rfl y⟩⟩, fun y => absurd p94 y⟩, x2⟩, x3⟩
  · have c8 : 0 ≤ lg_cmp (lN n) (Int64.ofInt 8) ↔ ¬ n < 8 := (o_ge hn (show 8 < 2147483648 by decide)).trans (by omega)
    have eK : gWk kCm p 2 n z v K = K := by unfold gWk; rw [if_neg (by omega)]
    have eW : gWs p 2 n z v soft num = (soft, num) := by unfold gWs; rw [if_neg (by omega)]
    have ev : (v &&& Int64.ofInt 255).toInt32 = nI (ul v % 256) := by
      apply ui_inj
      rw [ui_low, ul_and, show ul (Int64.ofInt 255) = 2 ^ 8 - 1 from rfl, Nat.and_two_pow_sub_one_eq_mod, ui_nI]
    rw [fi_neg (show ¬ nI 2 = 0 by decide), fi_neg (show ¬ nI 2 = Int32.ofInt 1 by decide), fi_pos (show nI 2 = Int32.ofInt 2 from rfl), propext c8, o_32 hn, ev]
    by_cases h1 : z = Int32.ofInt 1
    · rw [fi_pos h1]
      by_cases h8 : n < 8
      · obtain ⟨Y, ⟨y1, y2⟩, y3, y4⟩ := X96_writeSerial T W nn V.2.2 iS hB h8 (nI (ul v % 256))
        have eS : gWS 2 n z v S = sWr n (nI (ul v % 256)) S := by unfold gWS; rw [if_pos ⟨rfl, h1, h8⟩]
        have y5 : Ty Y := by
          have := (gX96_writeSerial m (nI n) (nI (ul v % 256)) N T nn y1).2.1
          rw [y2] at this
          exact this
        obtain ⟨X, ⟨x1, x2⟩, x3⟩ := go Y y5 (wf_frT T W nn y4) (by unfold fm_is at nn ⊢; rw [y4.1]; exact nn) (by rw [eK, eS, eW]; exact ⟨frT_tm T W nn y4 V.1, frT_k T W nn y4 V.2.1, y3⟩) (by rw [eK]; exact iK) (by rw [eS]; exact vsi_wr iS n _)
        rw [fi_neg (fun y => y h8), y2]
        have q1 : (nI 2 = Int32.ofInt 2 → ((z = Int32.ofInt 1 → ((¬ n < 8 → (HX96_settle m N ∧ True)) ∧ (¬ ¬ n < 8 → (HX96_writeSerial m (nI n) (nI (ul v % 256)) N ∧ HX96_settle m Y ∧ True)))) ∧ (¬ z = Int32.ofInt 1 → (HX96_settle m N ∧ True)))) ∧ (¬ nI 2 = Int32.ofInt 2 → (HX96_settle m N ∧ True)) :=
          ⟨fun _ => ⟨fun _ => ⟨fun y => absurd h8 y, fun _ => ⟨y1, x1, trivial⟩⟩, fun y => absurd h1 y⟩, fun y => absurd rfl y⟩
        exact ⟨X, ⟨⟨fun _ => ⟨fun y => absurd y (by decide), fun _ => ⟨fun y => absurd y (by decide), fun _ => q1⟩⟩, fun y => absurd p94 y⟩, x2⟩, x3⟩
      · have eS : gWS 2 n z v S = S := by unfold gWS; rw [if_neg (fun q => h8 q.2.2)]
        obtain ⟨X, ⟨x1, x2⟩, x3⟩ := go N T W nn (by rw [eK, eS, eW]; exact V) (by rw [eK]; exact iK) (by rw [eS]; exact iS1)
        rw [fi_pos h8]
        exact ⟨X, ⟨⟨fun _ => ⟨fun y => absurd y (by decide), fun _ => ⟨fun y => absurd y (by decide), fun _ => ⟨fun _ => ⟨fun _ => ⟨fun _ => ⟨x1, trivial⟩, fun y => absurd h8 y⟩, fun y => absurd h1 y⟩, fun y => absurd rfl y⟩⟩⟩, fun y => absurd p94 y⟩, x2⟩, x3⟩
    · have eS : gWS 2 n z v S = S := by unfold gWS; rw [if_neg (fun q => h1 q.2.1)]
      obtain ⟨X, ⟨x1, x2⟩, x3⟩ := go N T W nn (by rw [eK, eS, eW]; exact V) (by rw [eK]; exact iK) (by rw [eS]; exact iS1)
      rw [fi_neg h1]
      exact ⟨X, ⟨⟨fun _ => ⟨fun y => absurd y (by decide), fun _ => ⟨fun y => absurd y (by decide), fun _ => ⟨fun _ => ⟨fun y => absurd y h1, fun _ => ⟨x1, trivial⟩⟩, fun y => absurd rfl y⟩⟩⟩, fun y => absurd p94 y⟩, x2⟩, x3⟩
end Sg
