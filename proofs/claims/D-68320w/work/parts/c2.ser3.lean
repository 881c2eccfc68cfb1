/-! the serial line: the component's reads, all of them -/
set_option maxRecDepth 100000
theorem cs_v (S : Sr) : cs S = Int32.ofInt 6 ∨ cs S = Int32.ofInt 4 ∨ cs S = Int32.ofInt 2 ∨ cs S = Int32.ofInt 1 := by
  unfold cs
  by_cases a : ib (S.1 1) 2 = true ∧ ¬ S.2.2.2.1 = 0
  · rw [fi_pos a]; exact Or.inl rfl
  rw [fi_neg a]
  by_cases b : ib (S.1 1) 0 = true ∧ 0 < S.2.1.length
  · rw [fi_pos b]; exact Or.inr (Or.inl rfl)
  rw [fi_neg b]
  by_cases c : ib (S.1 1) 1 = true ∧ ¬ S.2.2.2.2.1 = 0
  · rw [fi_pos c]; exact Or.inr (Or.inr (Or.inl rfl))
  · rw [fi_neg c]; exact Or.inr (Or.inr (Or.inr rfl))
section Sc
variable {L B : Nat} {M : FM} {S : Sr}
theorem X31_readCause (T : Ty M) (n : fm_is M 78 78 L = true) (V : VSc L M S) (I : VSi B S) : ∃ M', (HX31_readCause L M ∧ GX31_readCause L M = ((sCa S).1, M')) ∧ VSc L M' (sCa S).2 ∧ FrS L M M' := by
  obtain ⟨c1, c2⟩ := X31_cause T n V I
  have cv := cs_v S
  have fr : FrS L M (fm_sI M 238 L 0 (fi (cs S = Int32.ofInt 2) (Int32.ofInt 0) (M.1 238 L 0))) := frS_I (frS_r L M) (by decide)
  have em : M.1 238 L 0 = S.2.2.2.2.1 := V.2.2.2.2.2.1
  have qd : M.1 236 L 0 = S.2.2.1 := V.2.2.2.1
  have i1 : M.1 238 L 0 &&& Int32.ofInt 1 = M.1 238 L 0 := by
    rw [em]
    rcases I.2.2.2.1 with e | e <;> rw [e] <;> rfl
  have i0 : M.1 238 L 0 &&& Int32.ofInt 0 = Int32.ofInt 0 := by
    rw [em]
    rcases I.2.2.2.1 with e | e <;> rw [e] <;> rfl
  have ez : M.1 238 L 0 = 0 ∨ M.1 238 L 0 = 1 := by rw [em]; exact I.2.2.2.1
  have or : cs S ||| Int32.ofInt 192 = cs S + Int32.ofInt 192 := by rcases cv with e | e | e | e <;> rw [e] <;> decide
  refine ⟨_, ⟨?_, ?_⟩, ?_, fr⟩
  · unfold HX31_readCause HX31_readCause_0 HX31_readCause_20
    dsimp only
    rw [c2]
    dsimp only
    rw [i1, i0]
    exact ⟨c1, fun _ => ⟨Or.inl rfl, trivial⟩, fun _ => ⟨ez, trivial⟩⟩
  · unfold GX31_readCause GX31_readCause_0 GX31_readCause_20 GX31_readCause_40 sCa
    dsimp only
    rw [c2]
    dsimp only
    rw [i1, i0, rIf (by decide), rIf (by decide), qd, or]
    by_cases a : cs S = Int32.ofInt 2
    · rw [fi_pos a, fi_pos a]
      by_cases q : S.2.2.1 = 0
      · rw [fi_pos q, fi_pos q]
      · rw [fi_neg q, fi_neg q]
    · rw [fi_neg a, fi_neg a]
      by_cases q : S.2.2.1 = 0
      · rw [fi_pos q, fi_pos q]
      · rw [fi_neg q, fi_neg q]
  · refine ⟨V.1, V.2.1, V.2.2.1, V.2.2.2.1, V.2.2.2.2.1, ?_, V.2.2.2.2.2.2.1, V.2.2.2.2.2.2.2⟩
    show (fm_sI M 238 L 0 _).1 238 L 0 = fi (cs S = Int32.ofInt 2) (Int32.ofInt 0) S.2.2.2.2.1
    rw [rI, if_pos ⟨rfl, rfl, rfl⟩, em]
theorem X31_readStatus (V : VSc L M S) (I : VSi B S) : ∃ M', GX31_readStatus L M = ((sSt S).1, M') ∧ VSc L M' (sSt S).2 ∧ FrS L M M' := by
  have hl : M.1 232 L 0 ≤ 0 ↔ ¬ 0 < S.2.1.length := by
    rw [V.2.1]
    have := rm_le S.2.2.1
    have := I.1
    exact (nle0 (by omega)).trans (by omega)
  refine ⟨fm_sI M 237 L 0 (Int32.ofInt 0), ?_, ?_, frS_I (frS_r L M) (by decide)⟩
  · unfold GX31_readStatus GX31_readStatus_0 GX31_readStatus_14 GX31_readStatus_27 sSt
    dsimp only
    rw [V.2.2.2.2.1, propext hl]
    generalize (0 < S.2.1.length) = p1
    generalize (S.2.2.2.1 = 0) = p2
    by_cases a : p1 <;> by_cases b : p2 <;> simp only [a, b, fi_if, not_true, not_false_iff, if_true, if_false] <;> rfl
  · refine ⟨V.1, V.2.1, V.2.2.1, V.2.2.2.1, ?_, V.2.2.2.2.2.1, V.2.2.2.2.2.2.1, V.2.2.2.2.2.2.2⟩
    show (fm_sI M 237 L 0 (Int32.ofInt 0)).1 237 L 0 = Int32.ofInt 0
    rw [rI, if_pos ⟨rfl, rfl, rfl⟩]
theorem md_c (x : Int32) : (((x &&& Int32.ofInt 2) <<< (Int32.ofInt 3 &&& 31) ||| (x &&& Int32.ofInt 1) <<< (Int32.ofInt 5 &&& 31)) ||| (x &&& Int32.ofInt 4) <<< (Int32.ofInt 4 &&& 31)) ||| (x &&& Int32.ofInt 8) <<< (Int32.ofInt 4 &&& 31) =
    fi (ib x 1 = true) (Int32.ofInt 16) (Int32.ofInt 0) + fi (ib x 0 = true) (Int32.ofInt 32) (Int32.ofInt 0) + fi (ib x 2 = true) (Int32.ofInt 64) (Int32.ofInt 0) + fi (ib x 3 = true) (Int32.ofInt 128) (Int32.ofInt 0) := by
  rw [and_bit x 1 (Int32.ofInt 2) (by decide) rfl, and_bit x 0 (Int32.ofInt 1) (by decide) rfl, and_bit x 2 (Int32.ofInt 4) (by decide) rfl, and_bit x 3 (Int32.ofInt 8) (by decide) rfl]
  generalize (ib x 1 = true) = p1
  generalize (ib x 0 = true) = p2
  generalize (ib x 2 = true) = p3
  generalize (ib x 3 = true) = p4
  by_cases a : p1 <;> by_cases b : p2 <;> by_cases c : p3 <;> by_cases d : p4 <;> simp only [a, b, c, d, fi_if, if_true, if_false] <;> decide
theorem X31_modem (T : Ty M) (n : fm_is M 78 78 L = true) (V : VSc L M S) : HX31_modem L M ∧ GX31_modem L M = (md (S.1 4), M) := by
  have h4 := X31_has T n (R := Int32.ofInt 4) (W := Int32.ofInt 4) (r := 4) (b := 4) rfl rfl (by decide) (by decide)
  rw [V.1 4 (by decide)] at h4
  unfold HX31_modem HX31_modem_0 GX31_modem GX31_modem_0 GX31_modem_46 md
  dsimp only
  rw [h4.2]
  dsimp only
  rw [show (Int32.ofInt 4).toNatClampNeg = 4 from rfl, V.1 4 (by decide), md_c, fi_bz]
  refine ⟨⟨h4.1, trivial⟩, ?_⟩
  by_cases a : ib (S.1 4) 4 = true
  · rw [fi_pos a, fi_pos a]
  · rw [fi_neg a, fi_neg a]
theorem X31_read_L (T : Ty M) (n : fm_is M 78 78 L = true) (V : VSc L M S) (I : VSi B S) {k : Nat} (hk : k < 8) :
    ∃ M', (HX31_read L (lN k) (Int32.ofInt 1) M ∧ GX31_read L (lN k) (Int32.ofInt 1) M = ((sRd k S).1, M')) ∧ VSc L M' (sRd k S).2 ∧ FrS L M M' := by
  obtain ⟨M1, ⟨t1, t2⟩, t3, t4⟩ := X31_take T n V I
  obtain ⟨M2, ⟨c1, c2⟩, c3, c4⟩ := X31_readCause T n V I
  obtain ⟨M3, s2, s3, s4⟩ := X31_readStatus V I
  obtain ⟨m1, m2⟩ := X31_modem T n V
  have h7 := X31_has T n (R := Int32.ofInt 3) (W := Int32.ofInt 7) (r := 3) (b := 7) rfl rfl (by decide) (by decide)
  rw [V.1 3 (by decide)] at h7
  have i235 : ∀ {j : Nat}, j < 10 → fm_in M (M.2.2 235 L 0) (nI j) = true := fun h => in_nI (tL_235 T.1 n) h (by decide)
  have k7 : lg_cmp (lN k) (Int64.ofInt 7) ≤ 0 := (o_le (by omega) (show 7 < 2147483648 by decide)).mpr (by omega)
  have r47 : ¬ (k < 2 ∧ ib (S.1 3) 7 = true) → ∃ M', (HX31_read_47 L (nI k) M ∧ GX31_read_47 L (nI k) M = ((sRd k S).1, M')) ∧ VSc L M' (sRd k S).2 ∧ FrS L M M' := fun nb => by
    unfold HX31_read_47 GX31_read_47 HX31_read_116 GX31_read_116 sRd
    dsimp only
    rw [o_cl (by omega), t2, c2, s2, m2, V.1 k (by omega), fi_neg nb]
    have hh : ((nI k = Int32.ofInt 0 → HX31_take L M ∧ True) ∧ (¬ (nI k = Int32.ofInt 0) → ((nI k = Int32.ofInt 1 → fm_in M (M.2.2 235 L 0) (nI k) = true ∧ True) ∧ (¬ (nI k = Int32.ofInt 1) → ((nI k = Int32.ofInt 2 → (HX31_readCause L M ∧ True)) ∧ (¬ (nI k = Int32.ofInt 2) → ((nI k = Int32.ofInt 3 → fm_in M (M.2.2 235 L 0) (nI k) = true ∧ True) ∧ (¬ (nI k = Int32.ofInt 3) → ((nI k = Int32.ofInt 4 → fm_in M (M.2.2 235 L 0) (nI k) = true ∧ True) ∧ (¬ (nI k = Int32.ofInt 4) → ((nI k = Int32.ofInt 5 → True) ∧ (¬ (nI k = Int32.ofInt 5) → ((nI k = Int32.ofInt 6 → (HX31_modem L M ∧ True)) ∧ (¬ (nI k = Int32.ofInt 6) → fm_in M (M.2.2 235 L 0) (nI k) = true ∧ True)))))))))))))) :=
      ⟨fun _ => ⟨t1, trivial⟩, fun _ => ⟨fun _ => ⟨i235 (by omega), trivial⟩, fun _ => ⟨fun _ => ⟨c1, trivial⟩, fun _ => ⟨fun _ => ⟨i235 (by omega), trivial⟩, fun _ => ⟨fun _ => ⟨i235 (by omega), trivial⟩, fun _ => ⟨fun _ => trivial, fun _ => ⟨fun _ => ⟨m1, trivial⟩, fun _ => ⟨i235 (by omega), trivial⟩⟩⟩⟩⟩⟩⟩⟩
    have hc : k = 0 ∨ k = 1 ∨ k = 2 ∨ k = 3 ∨ k = 4 ∨ k = 5 ∨ k = 6 ∨ k = 7 := by omega
    rcases hc with rfl | rfl | rfl | rfl | rfl | rfl | rfl | rfl
    · rw [fi_pos (show nI 0 = Int32.ofInt 0 from rfl), fi_pos (show (0 : Nat) = 0 from rfl)]
      exact ⟨M1, ⟨hh, rfl⟩, t3, t4⟩
    · rw [fi_neg (show ¬ nI 1 = Int32.ofInt 0 by decide), fi_pos (show nI 1 = Int32.ofInt 1 from rfl), fi_neg (by decide), fi_neg (by decide), fi_neg (by decide), fi_neg (by decide)]
      exact ⟨M, ⟨hh, rfl⟩, V, frS_r L M⟩
    · rw [fi_neg (show ¬ nI 2 = Int32.ofInt 0 by decide), fi_neg (show ¬ nI 2 = Int32.ofInt 1 by decide), fi_pos (show nI 2 = Int32.ofInt 2 from rfl), fi_neg (by decide), fi_pos (show (2 : Nat) = 2 from rfl)]
      exact ⟨M2, ⟨hh, rfl⟩, c3, c4⟩
    · rw [fi_neg (show ¬ nI 3 = Int32.ofInt 0 by decide), fi_neg (show ¬ nI 3 = Int32.ofInt 1 by decide), fi_neg (show ¬ nI 3 = Int32.ofInt 2 by decide), fi_pos (show nI 3 = Int32.ofInt 3 from rfl), fi_neg (by decide), fi_neg (by decide), fi_neg (by decide), fi_neg (by decide)]
      exact ⟨M, ⟨hh, rfl⟩, V, frS_r L M⟩
    · rw [fi_neg (show ¬ nI 4 = Int32.ofInt 0 by decide), fi_neg (show ¬ nI 4 = Int32.ofInt 1 by decide), fi_neg (show ¬ nI 4 = Int32.ofInt 2 by decide), fi_neg (show ¬ nI 4 = Int32.ofInt 3 by decide), fi_pos (show nI 4 = Int32.ofInt 4 from rfl), fi_neg (by decide), fi_neg (by decide), fi_neg (by decide), fi_neg (by decide)]
      exact ⟨M, ⟨hh, rfl⟩, V, frS_r L M⟩
    · rw [fi_neg (show ¬ nI 5 = Int32.ofInt 0 by decide), fi_neg (show ¬ nI 5 = Int32.ofInt 1 by decide), fi_neg (show ¬ nI 5 = Int32.ofInt 2 by decide), fi_neg (show ¬ nI 5 = Int32.ofInt 3 by decide), fi_neg (show ¬ nI 5 = Int32.ofInt 4 by decide), fi_pos (show nI 5 = Int32.ofInt 5 from rfl), fi_neg (by decide), fi_neg (by decide), fi_pos (show (5 : Nat) = 5 from rfl)]
      exact ⟨M3, ⟨hh, rfl⟩, s3, s4⟩
    · rw [fi_neg (show ¬ nI 6 = Int32.ofInt 0 by decide), fi_neg (show ¬ nI 6 = Int32.ofInt 1 by decide), fi_neg (show ¬ nI 6 = Int32.ofInt 2 by decide), fi_neg (show ¬ nI 6 = Int32.ofInt 3 by decide), fi_neg (show ¬ nI 6 = Int32.ofInt 4 by decide), fi_neg (show ¬ nI 6 = Int32.ofInt 5 by decide), fi_pos (show nI 6 = Int32.ofInt 6 from rfl), fi_neg (by decide), fi_neg (by decide), fi_neg (by decide), fi_pos (show (6 : Nat) = 6 from rfl)]
      exact ⟨M, ⟨hh, rfl⟩, V, frS_r L M⟩
    · rw [fi_neg (show ¬ nI 7 = Int32.ofInt 0 by decide), fi_neg (show ¬ nI 7 = Int32.ofInt 1 by decide), fi_neg (show ¬ nI 7 = Int32.ofInt 2 by decide), fi_neg (show ¬ nI 7 = Int32.ofInt 3 by decide), fi_neg (show ¬ nI 7 = Int32.ofInt 4 by decide), fi_neg (show ¬ nI 7 = Int32.ofInt 5 by decide), fi_neg (show ¬ nI 7 = Int32.ofInt 6 by decide), fi_neg (by decide), fi_neg (by decide), fi_neg (by decide), fi_neg (by decide)]
      exact ⟨M, ⟨hh, rfl⟩, V, frS_r L M⟩
  unfold HX31_read HX31_read_0 GX31_read GX31_read_0
  dsimp only
  rw [fi_pos (show Int32.ofInt 1 = Int32.ofInt 1 from rfl), fi_pos k7, o_32 (by omega), h7.2]
  dsimp only
  have b2 : Int32.ofInt 2 ≤ nI k ↔ ¬ k < 2 := (nge (n := k) (by omega) 2 (by decide)).trans (by omega)
  by_cases hb : k < 2 ∧ ib (S.1 3) 7 = true
  · have e8 : Int32.ofInt 8 + nI k = nI (8 + k) := n_add (a := 8) (by decide) (by omega)
    rw [fi_neg (fun y => (b2.mp y) hb.1), bz_t hb.2, fi_neg (show ¬ Int32.ofInt 1 = 0 by decide), e8, o_cl (by omega), V.1 (8 + k) (by omega)]
    refine ⟨M, ⟨⟨fun _ => ⟨fun _ => ⟨fun y => absurd hb.1 (b2.mp y), fun _ => ⟨h7.1, fun y => absurd y (by decide), fun _ => ⟨i235 (by omega), trivial⟩⟩⟩, fun y => absurd k7 y⟩, fun y => absurd rfl y⟩, ?_⟩, ?_, frS_r L M⟩
    · unfold sRd
      rw [fi_pos hb]
    · unfold sRd
      rw [fi_pos hb]
      exact V
  · obtain ⟨M', ⟨q1, q2⟩, q3, q4⟩ := r47 hb
    refine ⟨M', ⟨⟨fun _ => ⟨fun _ => ⟨fun _ => q1, fun y => ⟨h7.1, fun _ => q1, fun z => ?_⟩⟩, fun y => absurd k7 y⟩, fun y => absurd rfl y⟩, ?_⟩, q3, q4⟩
    · refine absurd ?_ z
      rw [bz_0]
      exact fun w => hb ⟨Classical.not_not.mp (fun e => y (b2.mpr e)), w⟩
    · by_cases h2 : k < 2
      · rw [fi_neg (fun y => (b2.mp y) h2), bz_f (fun w => hb ⟨h2, w⟩), fi_pos (show Int32.ofInt 0 = 0 from rfl)]
        exact q2
      · rw [fi_pos (b2.mpr h2)]
        exact q2
end Sc
