/-! the serial line: the twin's reads, all of them -/
set_option maxRecDepth 100000
section Sc
variable {m B : Nat} {M : FM} {S : Sr}
theorem X96_readCause (T : Ty M) (n : fm_is M 99 99 m = true) (V : VSt m M S) (I : VSi B S) : ∃ M', (HX96_readCause m M ∧ GX96_readCause m M = ((sCa S).1, M')) ∧ VSt m M' (sCa S).2 ∧ FrT m M M' := by
  obtain ⟨c1, c2⟩ := X96_cause T n V I
  have em : M.1 409 m 0 = S.2.2.2.2.1 := V.2.2.2.2.2.2.1
  have qd : M.1 407 m 0 = S.2.2.1 := V.2.2.2.2.1
  refine ⟨_, ⟨⟨c1, trivial⟩, ?_⟩, ?_, frT_I (f := 409) (v := fi (cs S = Int32.ofInt 2) (Int32.ofInt 0) (M.1 409 m 0)) (frT_r m M) (by decide)⟩
  · unfold GX96_readCause GX96_readCause_0 GX96_readCause_19 GX96_readCause_38 sCa
    dsimp only
    rw [c2]
    dsimp only
    rw [rIf (by decide), rIf (by decide), qd]
    by_cases a : cs S = Int32.ofInt 2
    · rw [fi_pos a, fi_pos a]
      by_cases q : S.2.2.1 = 0
      · rw [fi_pos q, fi_pos q]
      · rw [fi_neg q, fi_neg q]
    · rw [fi_neg a, fi_neg a]
      by_cases q : S.2.2.1 = 0
      · rw [fi_pos q, fi_pos q]
      · rw [fi_neg q, fi_neg q]
  · obtain ⟨v1, v2, v3, v4, v5, v6, v7, v8, v9⟩ := V
    refine ⟨v1, v2, v3, v4, v5, v6, ?_, v8, v9⟩
    show (fm_sI M 409 m 0 _).1 409 m 0 = fi (cs S = Int32.ofInt 2) (Int32.ofInt 0) S.2.2.2.2.1
    rw [rI, if_pos ⟨rfl, rfl, rfl⟩, em]
theorem X96_readState (V : VSt m M S) (I : VSi B S) : ∃ M', GX96_readState m M = ((sSt S).1, M') ∧ VSt m M' (sSt S).2 ∧ FrT m M M' := by
  have hl : M.1 411 m 0 ≤ 0 ↔ ¬ 0 < S.2.1.length := by
    rw [V.2.2.1]
    have := rm_le S.2.2.1
    have := I.1
    exact (nle0 (by omega)).trans (by omega)
  refine ⟨fm_sI M 408 m 0 (Int32.ofInt 0), ?_, ?_, frT_I (frT_r m M) (by decide)⟩
  · unfold GX96_readState GX96_readState_0 GX96_readState_14 GX96_readState_27 sSt
    dsimp only
    rw [V.2.2.2.2.2.1, propext hl]
    generalize (0 < S.2.1.length) = p1
    generalize (S.2.2.2.1 = 0) = p2
    by_cases a : p1 <;> by_cases b : p2 <;> simp only [a, b, fi_if, not_true, not_false_iff, if_true, if_false]
  · obtain ⟨v1, v2, v3, v4, v5, v6, v7, v8, v9⟩ := V
    refine ⟨v1, v2, v3, v4, v5, ?_, v7, v8, v9⟩
    show (fm_sI M 408 m 0 (Int32.ofInt 0)).1 408 m 0 = Int32.ofInt 0
    rw [rI, if_pos ⟨rfl, rfl, rfl⟩]
theorem X96_looped (T : Ty M) (n : fm_is M 99 99 m = true) (V : VSt m M S) : HX96_looped m M ∧ GX96_looped m M = (fi (ib (S.1 4) 1 = true) (Int32.ofInt 16) (Int32.ofInt 0) + fi (ib (S.1 4) 0 = true) (Int32.ofInt 32) (Int32.ofInt 0) + fi (ib (S.1 4) 2 = true) (Int32.ofInt 64) (Int32.ofInt 0) + fi (ib (S.1 4) 3 = true) (Int32.ofInt 128) (Int32.ofInt 0), M) := by
  have h1 := X96_hasBit T n (R := Int32.ofInt 4) (W := Int32.ofInt 1) (r := 4) (b := 1) rfl rfl (by decide) (by decide)
  have h0 := X96_hasBit T n (R := Int32.ofInt 4) (W := Int32.ofInt 0) (r := 4) (b := 0) rfl rfl (by decide) (by decide)
  have h2 := X96_hasBit T n (R := Int32.ofInt 4) (W := Int32.ofInt 2) (r := 4) (b := 2) rfl rfl (by decide) (by decide)
  have h3 := X96_hasBit T n (R := Int32.ofInt 4) (W := Int32.ofInt 3) (r := 4) (b := 3) rfl rfl (by decide) (by decide)
  rw [V.1 4 (by decide)] at h0 h1 h2 h3
  unfold HX96_looped HX96_looped_0 HX96_looped_15 HX96_looped_33 HX96_looped_51 GX96_looped GX96_looped_0 GX96_looped_15 GX96_looped_33 GX96_looped_51 GX96_looped_70
  dsimp only
  rw [h1.2]
  dsimp only
  rw [h0.2]
  dsimp only
  rw [h2.2]
  dsimp only
  rw [h3.2]
  dsimp only
  have k3 : HX96_hasBit m (Int32.ofInt 4) (Int32.ofInt 3) M ∧ True := ⟨h3.1, trivial⟩
  refine ⟨⟨h1.1, fun _ => ⟨h0.1, fun _ => ⟨h2.1, fun _ => k3, fun _ => k3⟩, fun _ => ⟨h2.1, fun _ => k3, fun _ => k3⟩⟩, fun _ => ⟨h0.1, fun _ => ⟨h2.1, fun _ => k3, fun _ => k3⟩, fun _ => ⟨h2.1, fun _ => k3, fun _ => k3⟩⟩⟩, ?_⟩
  simp only [fi_bz]
  generalize (ib (S.1 4) 1 = true) = p1
  generalize (ib (S.1 4) 0 = true) = p2
  generalize (ib (S.1 4) 2 = true) = p3
  generalize (ib (S.1 4) 3 = true) = p4
  by_cases a : p1 <;> by_cases b : p2 <;> by_cases c : p3 <;> by_cases d : p4 <;> simp only [a, b, c, d, fi_if, if_true, if_false] <;> rfl
theorem X96_readSerial (T : Ty M) (W : Wf M) (n : fm_is M 99 99 m = true) (V : VSt m M S) (I : VSi B S) {k : Nat} (hk : k < 8) :
    ∃ M', (HX96_readSerial m (nI k) M ∧ GX96_readSerial m (nI k) M = ((sRd k S).1, M')) ∧ VSt m M' (sRd k S).2 ∧ FrT m M M' := by
  obtain ⟨M1, ⟨t1, t2⟩, t3, t4⟩ := X96_takeOut T W n V I
  obtain ⟨M2, ⟨c1, c2⟩, c3, c4⟩ := X96_readCause T n V I
  obtain ⟨M3, s2, s3, s4⟩ := X96_readState V I
  obtain ⟨m1, m2⟩ := X96_looped T n V
  have h4 := X96_hasBit T n (R := Int32.ofInt 4) (W := Int32.ofInt 4) (r := 4) (b := 4) rfl rfl (by decide) (by decide)
  have h7 := X96_hasBit T n (R := Int32.ofInt 3) (W := Int32.ofInt 7) (r := 3) (b := 7) rfl rfl (by decide) (by decide)
  rw [V.1 3 (by decide)] at h7
  rw [V.1 4 (by decide)] at h4
  have i405 : fm_in M (M.2.2 405 m 0) (nI k) = true := in_nI (tL_405 T.1 n) hk (by decide)
  have e6 : (fi (bz (ib (S.1 4) 4 = true) = 0) (GX96_readSerial_106 (Int64.ofInt 176) M) (GX96_readSerial_106 ((fi (ib (S.1 4) 1 = true) (Int32.ofInt 16) (Int32.ofInt 0) + fi (ib (S.1 4) 0 = true) (Int32.ofInt 32) (Int32.ofInt 0) + fi (ib (S.1 4) 2 = true) (Int32.ofInt 64) (Int32.ofInt 0) + fi (ib (S.1 4) 3 = true) (Int32.ofInt 128) (Int32.ofInt 0)).toInt64) M)) = ((md (S.1 4)).toInt64, M) := by
    unfold md GX96_readSerial_106
    rw [fi_bz]
    by_cases a : ib (S.1 4) 4 = true
    · rw [fi_pos a, fi_pos a]
    · rw [fi_neg a, fi_neg a]
      rfl
  have r23 : ¬ (k < 2 ∧ ib (S.1 3) 7 = true) → ∃ M', (HX96_readSerial_23 m (nI k) M ∧ GX96_readSerial_23 m (nI k) M = ((sRd k S).1, M')) ∧ VSt m M' (sRd k S).2 ∧ FrT m M M' := fun nb => by
    have hh : HX96_readSerial_23 m (nI k) M := ⟨fun _ => ⟨t1, trivial⟩, fun _ => ⟨fun _ => ⟨i405, trivial⟩, fun _ => ⟨fun _ => ⟨c1, trivial⟩, fun _ => ⟨fun _ => ⟨i405, trivial⟩, fun _ => ⟨fun _ => ⟨i405, trivial⟩, fun _ => ⟨fun _ => trivial, fun _ => ⟨fun _ => ⟨h4.1, by
      dsimp only
      rw [h4.2]
      exact ⟨fun _ => trivial, fun _ => ⟨m1, trivial⟩⟩⟩, fun _ => ⟨i405, trivial⟩⟩⟩⟩⟩⟩⟩⟩
    refine Exists.imp (fun M' q => ⟨⟨hh, q.1⟩, q.2⟩) (?_ : ∃ M', GX96_readSerial_23 m (nI k) M = ((sRd k S).1, M') ∧ VSt m M' (sRd k S).2 ∧ FrT m M M')
    unfold GX96_readSerial_23 GX96_readSerial_107 sRd
    dsimp only
    rw [o_cl (by omega), t2, c2, s2, h4.2]
    dsimp only
    rw [m2]
    dsimp only
    rw [e6, V.1 k (by omega), fi_neg nb]
    have hc : k = 0 ∨ k = 1 ∨ k = 2 ∨ k = 3 ∨ k = 4 ∨ k = 5 ∨ k = 6 ∨ k = 7 := by omega
    rcases hc with rfl | rfl | rfl | rfl | rfl | rfl | rfl | rfl
    · rw [fi_pos (show nI 0 = Int32.ofInt 0 from rfl), fi_pos (show (0 : Nat) = 0 from rfl)]
      exact ⟨M1, rfl, t3, t4⟩
    · rw [fi_neg (show ¬ nI 1 = Int32.ofInt 0 by decide), fi_pos (show nI 1 = Int32.ofInt 1 from rfl), fi_neg (by decide), fi_neg (by decide), fi_neg (by decide), fi_neg (by decide)]
      exact ⟨M, rfl, V, frT_r m M⟩
    · rw [fi_neg (show ¬ nI 2 = Int32.ofInt 0 by decide), fi_neg (show ¬ nI 2 = Int32.ofInt 1 by decide), fi_pos (show nI 2 = Int32.ofInt 2 from rfl), fi_neg (by decide), fi_pos (show (2 : Nat) = 2 from rfl)]
      exact ⟨M2, rfl, c3, c4⟩
    · rw [fi_neg (show ¬ nI 3 = Int32.ofInt 0 by decide), fi_neg (show ¬ nI 3 = Int32.ofInt 1 by decide), fi_neg (show ¬ nI 3 = Int32.ofInt 2 by decide), fi_pos (show nI 3 = Int32.ofInt 3 from rfl), fi_neg (by decide), fi_neg (by decide), fi_neg (by decide), fi_neg (by decide)]
      exact ⟨M, rfl, V, frT_r m M⟩
    · rw [fi_neg (show ¬ nI 4 = Int32.ofInt 0 by decide), fi_neg (show ¬ nI 4 = Int32.ofInt 1 by decide), fi_neg (show ¬ nI 4 = Int32.ofInt 2 by decide), fi_neg (show ¬ nI 4 = Int32.ofInt 3 by decide), fi_pos (show nI 4 = Int32.ofInt 4 from rfl), fi_neg (by decide), fi_neg (by decide), fi_neg (by decide), fi_neg (by decide)]
      exact ⟨M, rfl, V, frT_r m M⟩
    · rw [fi_neg (show ¬ nI 5 = Int32.ofInt 0 by decide), fi_neg (show ¬ nI 5 = Int32.ofInt 1 by decide), fi_neg (show ¬ nI 5 = Int32.ofInt 2 by decide), fi_neg (show ¬ nI 5 = Int32.ofInt 3 by decide), fi_neg (show ¬ nI 5 = Int32.ofInt 4 by decide), fi_pos (show nI 5 = Int32.ofInt 5 from rfl), fi_neg (by decide), fi_neg (by decide), fi_pos (show (5 : Nat) = 5 from rfl)]
      exact ⟨M3, rfl, s3, s4⟩
    · rw [fi_neg (show ¬ nI 6 = Int32.ofInt 0 by decide), fi_neg (show ¬ nI 6 = Int32.ofInt 1 by decide), fi_neg (show ¬ nI 6 = Int32.ofInt 2 by decide), fi_neg (show ¬ nI 6 = Int32.ofInt 3 by decide), fi_neg (show ¬ nI 6 = Int32.ofInt 4 by decide), fi_neg (show ¬ nI 6 = Int32.ofInt 5 by decide), fi_pos (show nI 6 = Int32.ofInt 6 from rfl), fi_neg (by decide), fi_neg (by decide), fi_neg (by decide), fi_pos (show (6 : Nat) = 6 from rfl)]
      exact ⟨M, rfl, V, frT_r m M⟩
    · rw [fi_neg (show ¬ nI 7 = Int32.ofInt 0 by decide), fi_neg (show ¬ nI 7 = Int32.ofInt 1 by decide), fi_neg (show ¬ nI 7 = Int32.ofInt 2 by decide), fi_neg (show ¬ nI 7 = Int32.ofInt 3 by decide), fi_neg (show ¬ nI 7 = Int32.ofInt 4 by decide), fi_neg (show ¬ nI 7 = Int32.ofInt 5 by decide), fi_neg (show ¬ nI 7 = Int32.ofInt 6 by decide), fi_neg (by decide), fi_neg (by decide), fi_neg (by decide), fi_neg (by decide)]
      exact ⟨M, rfl, V, frT_r m M⟩
  unfold HX96_readSerial HX96_readSerial_0 GX96_readSerial GX96_readSerial_0
  dsimp only
  rw [h7.2]
  dsimp only
  have b2 : Int32.ofInt 2 ≤ nI k ↔ ¬ k < 2 := (nge (n := k) (by omega) 2 (by decide)).trans (by omega)
  by_cases hb : k < 2 ∧ ib (S.1 3) 7 = true
  · rw [fi_neg (fun y => (b2.mp y) hb.1), bz_t hb.2, fi_neg (show ¬ Int32.ofInt 1 = 0 by decide), o_cl (by omega), V.2.1 k hb.1]
    refine ⟨M, ⟨⟨fun y => absurd hb.1 (b2.mp y), fun _ => ⟨h7.1, fun y => absurd y (by decide), fun _ => ⟨in_nI (tL_406 T.1 n) hb.1 (by decide), trivial⟩⟩⟩, ?_⟩, ?_, frT_r m M⟩
    · unfold sRd
      rw [fi_pos hb]
    · unfold sRd
      rw [fi_pos hb]
      exact V
  · obtain ⟨M', ⟨q1, q2⟩, q3, q4⟩ := r23 hb
    refine ⟨M', ⟨⟨fun _ => q1, fun y => ⟨h7.1, fun _ => q1, fun z => ?_⟩⟩, ?_⟩, q3, q4⟩
    · refine absurd ?_ z
      rw [bz_0]
      exact fun w => hb ⟨Classical.not_not.mp (fun e => y (b2.mpr e)), w⟩
    · by_cases h2 : k < 2
      · rw [fi_neg (fun y => (b2.mp y) h2), bz_f (fun w => hb ⟨h2, w⟩), fi_pos (show Int32.ofInt 0 = 0 from rfl)]
        exact q2
      · rw [fi_pos (b2.mpr h2)]
        exact q2
end Sc
