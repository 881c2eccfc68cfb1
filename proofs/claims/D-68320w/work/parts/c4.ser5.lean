/-! the serial line: the component's writes, all of them -/
set_option maxRecDepth 100000
noncomputable def sW1 (b : Int32) (S : Sr) : Sr := (updS S.1 1 (b &&& Int32.ofInt 15), S.2.1, S.2.2.1, S.2.2.2.1, bz (¬ S.2.2.2.2.1 = 0 ∨ (¬ ib (S.1 1) 1 = true ∧ ib b 1 = true)), S.2.2.2.2.2)
noncomputable def sHe (k : Nat) (b : Int32) (S : Sr) : Sr := (updS S.1 k b, S.2)
/-- what is written at register k -/
noncomputable def sWr (k : Nat) (b : Int32) (S : Sr) : Sr :=
  fi (k < 2 ∧ ib (S.1 3) 7 = true) (sHe (8 + k) b S) (fi (k = 0) (sSe b S) (fi (k = 1) (sW1 b S) (fi (k = 2) (sQu b S) (fi (k = 4) (sHe 4 (b &&& Int32.ofInt 31) S) (fi (k = 5 ∨ k = 6) S (sHe k b S))))))
theorem and2 (b : Int32) : (b &&& Int32.ofInt 2 = Int32.ofInt 2) ↔ ib b 1 = true := by
  rw [and_bit b 1 (Int32.ofInt 2) (by decide) rfl]
  by_cases h : ib b 1 = true
  · rw [fi_pos h]
    exact ⟨fun _ => h, fun _ => rfl⟩
  · rw [fi_neg h]
    exact ⟨fun q => absurd q (by decide), fun q => absurd q h⟩
theorem and1 (b : Int32) : (b &&& Int32.ofInt 1 = Int32.ofInt 1) ↔ ib b 0 = true := by
  rw [and_bit b 0 (Int32.ofInt 1) (by decide) rfl]
  by_cases h : ib b 0 = true
  · rw [fi_pos h]
    exact ⟨fun _ => h, fun _ => rfl⟩
  · rw [fi_neg h]
    exact ⟨fun q => absurd q (by decide), fun q => absurd q h⟩
section Sc
variable {L B : Nat} {M : FM} {S : Sr}
theorem vsc_h (T : Ty M) (W : Wf M) (n : fm_is M 78 78 L = true) (V : VSc L M S) {k : Nat} {b : Int32} : VSc L (fm_sI M 3 (M.2.2 235 L 0) k b) (sHe k b S) ∧ FrS L M (fm_sI M 3 (M.2.2 235 L 0) k b) := by
  obtain ⟨d1, d2, d3⟩ := s_ne T W n
  obtain ⟨v1, v2, ⟨hd, b1, b2, b3⟩, v4, v5, v6, v7, v8⟩ := V
  refine ⟨⟨fun j hj => ?_, v2, ⟨hd, b1, b2, fun i hi => ?_⟩, v4, v5, v6, fun j hj => ?_, v8⟩, frS_A (frS_r L M) (Or.inr (Or.inr rfl))⟩
  · show (fm_sI M 3 (M.2.2 235 L 0) k b).1 3 (M.2.2 235 L 0) j = updS S.1 k b j
    unfold updS
    rw [rI]
    by_cases e : j = k
    · rw [if_pos ⟨rfl, rfl, e⟩, if_pos e]
    · rw [if_neg (fun z => e z.2.2), if_neg e]
      exact v1 j hj
  · show (fm_sI M 3 (M.2.2 235 L 0) k b).1 3 (M.2.2 230 L 0) _ = _
    rw [rI, if_neg (fun z => d2 z.2.1)]
    exact b3 i hi
  · show (fm_sI M 3 (M.2.2 235 L 0) k b).1 3 (M.2.2 233 L 0) _ &&& _ = _
    rw [rI, if_neg (fun z => d3 z.2.1)]
    exact v7 j hj
theorem X31_queue (V : VSc L M S) (I : VSi B S) (b : Int32) : ∃ M', GX31_queue L b M = M' ∧ VSc L M' (sQu b S) ∧ FrS L M M' := by
  obtain ⟨v1, v2, ⟨hd, b1, b2, b3⟩, v4, v5, v6, v7, v8⟩ := V
  have e : GX31_queue L b M = fi (bz (ib b 0 = true) = S.2.2.1 ∧ ¬ ib b 1 = true) (fm_sI M 236 L 0 (bz (ib b 0 = true))) (fm_sI (fm_sI M 232 L 0 (Int32.ofInt 0)) 236 L 0 (bz (ib b 0 = true))) := by
    unfold GX31_queue GX31_queue_0
    rw [fi_F (F := fun z => GX31_queue_12 L b z M), propext (and1 b)]
    unfold GX31_queue_12 GX31_queue_28 GX31_queue_33
    dsimp only
    rw [v4, propext (and2 b)]
    by_cases p : bz (ib b 0 = true) = S.2.2.1
    · rw [fi_pos p]
      by_cases q : ib b 1 = true
      · rw [fi_pos q, fi_neg (show ¬ (bz (ib b 0 = true) = S.2.2.1 ∧ ¬ ib b 1 = true) from fun z => z.2 q)]
      · rw [fi_neg q, fi_pos (show bz (ib b 0 = true) = S.2.2.1 ∧ ¬ ib b 1 = true from ⟨p, q⟩)]
    · rw [fi_neg p, fi_neg (show ¬ (bz (ib b 0 = true) = S.2.2.1 ∧ ¬ ib b 1 = true) from fun z => p z.1)]
  refine ⟨_, e, ?_⟩
  unfold sQu
  by_cases p : bz (ib b 0 = true) = S.2.2.1 ∧ ¬ ib b 1 = true
  · rw [fi_pos p, if_pos p]
    refine ⟨⟨v1, v2, ⟨hd, b1, b2, b3⟩, ?_, v5, v6, v7, v8⟩, frS_I (frS_r L M) (by decide)⟩
    rw [rI, if_pos ⟨rfl, rfl, rfl⟩]
  · rw [fi_neg p, if_neg p]
    refine ⟨⟨v1, ?_, ⟨hd, b1, b2, fun i hi => absurd hi (Nat.not_lt_zero i)⟩, ?_, v5, v6, v7, v8⟩, frS_I (frS_I (frS_r L M) (by decide)) (by decide)⟩
    · rw [rIf (by decide), rI, if_pos ⟨rfl, rfl, rfl⟩]
      rfl
    · rw [rI, if_pos ⟨rfl, rfl, rfl⟩]
theorem X31_write_L (T : Ty M) (W : Wf M) (n : fm_is M 78 78 L = true) (V : VSc L M S) (I : VSi B S) (hB : B < 2147483000) {k : Nat} (hk : k < 8) (v : Int64) :
    ∃ M', (HX31_write L (lN k) (Int32.ofInt 1) v M ∧ GX31_write L (lN k) (Int32.ofInt 1) v M = M') ∧ VSc L M' (sWr k (nI (ul v % 256)) S) ∧ FrS L M M' := by
  have hb : ul v % 256 < 256 := Nat.mod_lt _ (by decide)
  have ev : v.toInt32 &&& Int32.ofInt 255 = nI (ul v % 256) := by
    apply ui_inj
    rw [ui_and, show ui (Int32.ofInt 255) = 2 ^ 8 - 1 from rfl, Nat.and_two_pow_sub_one_eq_mod, ui_low, ui_nI]
    omega
  generalize hbb : ul v % 256 = b at *
  obtain ⟨M1, ⟨c1, c2⟩, c3, c4⟩ := X31_send T W n V I hB hb
  obtain ⟨M2, q2, q3, q4⟩ := X31_queue V I (nI b)
  have h1 := X31_has T n (R := Int32.ofInt 1) (W := Int32.ofInt 1) (r := 1) (b := 1) rfl rfl (by decide) (by decide)
  have h7 := X31_has T n (R := Int32.ofInt 3) (W := Int32.ofInt 7) (r := 3) (b := 7) rfl rfl (by decide) (by decide)
  rw [V.1 3 (by decide)] at h7
  rw [V.1 1 (by decide)] at h1
  have i235 : ∀ {j : Nat}, j < 10 → fm_in M (M.2.2 235 L 0) (nI j) = true := fun h => in_nI (tL_235 T.1 n) h (by decide)
  have k7 : lg_cmp (lN k) (Int64.ofInt 7) ≤ 0 := (o_le (by omega) (show 7 < 2147483648 by decide)).mpr (by omega)
  have em : M.1 238 L 0 = S.2.2.2.2.1 := V.2.2.2.2.2.1
  have ez := I.2.2.2.1
  have o0 : M.1 238 L 0 ||| Int32.ofInt 0 = M.1 238 L 0 := by
    rw [em]
    rcases ez with e | e <;> rw [e] <;> rfl
  have o1 : M.1 238 L 0 ||| Int32.ofInt 1 = Int32.ofInt 1 := by
    rw [em]
    rcases ez with e | e <;> rw [e] <;> rfl
  have r56 : ¬ (k < 2 ∧ ib (S.1 3) 7 = true) → ∃ M', (HX31_write_56 L (nI k) (nI b) M ∧ GX31_write_56 L (nI k) (nI b) M = M') ∧ VSc L M' (sWr k (nI b) S) ∧ FrS L M M' := fun nb => by
    have e1 : GX31_write_56 L (nI 1) (nI b) M = fm_sI (fm_sI M 238 L 0 (bz (¬ S.2.2.2.2.1 = 0 ∨ (¬ ib (S.1 1) 1 = true ∧ ib (nI b) 1 = true)))) 3 (M.2.2 235 L 0) 1 (nI b &&& Int32.ofInt 15) := by
      unfold GX31_write_56 GX31_write_139 GX31_write_140 GX31_write_193
      rw [fi_neg (show ¬ nI 1 = Int32.ofInt 0 by decide), fi_pos (show nI 1 = Int32.ofInt 1 from rfl)]
      dsimp only
      rw [h1.2]
      dsimp only
      rw [o0, o1, fi_bz, propext (and2 (nI b)), show (Int32.ofInt 1).toNatClampNeg = 1 from rfl]
      by_cases x : ib (S.1 1) 1 = true
      · rw [fi_pos x, em, bz_c (show (¬ S.2.2.2.2.1 = 0 ∨ (¬ ib (S.1 1) 1 = true ∧ ib (nI b) 1 = true)) ↔ ¬ S.2.2.2.2.1 = 0 from ⟨fun z => z.elim id (fun y => absurd x y.1), Or.inl⟩)]
        rcases ez with e | e
        · rw [e, bz_f (by decide)]; rfl
        · rw [e, bz_t (by decide)]; rfl
      · rw [fi_neg x]
        by_cases y : ib (nI b) 1 = true
        · rw [fi_pos y, bz_t (Or.inr ⟨x, y⟩)]
          rfl
        · rw [fi_neg y, em, bz_c (show (¬ S.2.2.2.2.1 = 0 ∨ (¬ ib (S.1 1) 1 = true ∧ ib (nI b) 1 = true)) ↔ ¬ S.2.2.2.2.1 = 0 from ⟨fun z => z.elim id (fun w => absurd w.2 y), Or.inl⟩)]
          rcases ez with e | e
          · rw [e, bz_f (by decide)]; rfl
          · rw [e, bz_t (by decide)]; rfl
    have hh : HX31_write_56 L (nI k) (nI b) M := by
      unfold HX31_write_56 HX31_write_139 HX31_write_140 HX31_write_181
      dsimp only
      rw [o0, o1]
      have z0 : (M.1 238 L 0 = 0 ∨ M.1 238 L 0 = 1) ∧ True := ⟨by rw [em]; exact ez, trivial⟩
      exact ⟨fun _ => ⟨c1, trivial⟩, fun _ => ⟨fun _ => ⟨h1.1, fun _ => ⟨fun _ => ⟨Or.inr rfl, trivial⟩, fun _ => z0⟩, fun _ => z0⟩, fun _ => ⟨fun _ => trivial, fun _ => ⟨fun _ => ⟨i235 (by omega), trivial⟩, fun _ => ⟨fun _ => trivial, fun _ => ⟨fun _ => trivial, fun _ => ⟨fun _ => trivial, fun _ => ⟨fun _ => ⟨i235 (by omega), trivial⟩, fun _ => trivial⟩⟩⟩⟩⟩⟩⟩⟩
    have out : ∀ X, GX31_write_56 L (nI k) (nI b) M = X → ∀ S', sWr k (nI b) S = S' → VSc L X S' → FrS L M X → ∃ M', (HX31_write_56 L (nI k) (nI b) M ∧ GX31_write_56 L (nI k) (nI b) M = M') ∧ VSc L M' (sWr k (nI b) S) ∧ FrS L M M' := fun X hX S' hS v f => ⟨X, ⟨hh, hX⟩, by rw [hS]; exact v, f⟩
    have hs : sWr k (nI b) S = fi (k = 0) (sSe (nI b) S) (fi (k = 1) (sW1 (nI b) S) (fi (k = 2) (sQu (nI b) S) (fi (k = 4) (sHe 4 (nI b &&& Int32.ofInt 31) S) (fi (k = 5 ∨ k = 6) S (sHe k (nI b) S))))) := by
      unfold sWr
      rw [fi_neg nb]
    have g : ∀ {j : Nat}, GX31_write_181 L (nI j) (nI b) M = fm_sI M 3 (M.2.2 235 L 0) ((nI j).toNatClampNeg) (nI b) := rfl
    have hc : k = 0 ∨ k = 1 ∨ k = 2 ∨ k = 3 ∨ k = 4 ∨ k = 5 ∨ k = 6 ∨ k = 7 := by omega
    rcases hc with rfl | rfl | rfl | rfl | rfl | rfl | rfl | rfl
    · refine out M1 ?_ _ (by rw [hs, fi_pos (show (0 : Nat) = 0 from rfl)]) c3 c4
      unfold GX31_write_56 GX31_write_193
      rw [fi_pos (show nI 0 = Int32.ofInt 0 from rfl)]
      exact c2
    · refine out _ e1 _ (by rw [hs, fi_neg (by decide), fi_pos (show (1 : Nat) = 1 from rfl)]) ?_ (frS_A (frS_I (frS_r L M) (by decide)) (Or.inr (Or.inr rfl)))
      have V1 : VSc L (fm_sI M 238 L 0 (bz (¬ S.2.2.2.2.1 = 0 ∨ (¬ ib (S.1 1) 1 = true ∧ ib (nI b) 1 = true)))) (S.1, S.2.1, S.2.2.1, S.2.2.2.1, bz (¬ S.2.2.2.2.1 = 0 ∨ (¬ ib (S.1 1) 1 = true ∧ ib (nI b) 1 = true)), S.2.2.2.2.2) := by
        obtain ⟨v1, v2, v3, v4, v5, v6, v7, v8⟩ := V
        refine ⟨v1, v2, v3, v4, v5, ?_, v7, v8⟩
        rw [rI, if_pos ⟨rfl, rfl, rfl⟩]
      have T1 : Ty (fm_sI M 238 L 0 (bz (¬ S.2.2.2.2.1 = 0 ∨ (¬ ib (S.1 1) 1 = true ∧ ib (nI b) 1 = true)))) := ⟨T.1, tyb_sIb rfl T.2 (bz_z _)⟩
      exact (vsc_h (k := 1) (b := nI b &&& Int32.ofInt 15) T1 (wf_sI (lo := 78) (hi := 78) W rfl n) n V1).1
    · refine out M2 ?_ _ (by rw [hs, fi_neg (by decide), fi_neg (by decide), fi_pos (show (2 : Nat) = 2 from rfl)]) q3 q4
      unfold GX31_write_56 GX31_write_193
      rw [fi_neg (show ¬ nI 2 = Int32.ofInt 0 by decide), fi_neg (show ¬ nI 2 = Int32.ofInt 1 by decide), fi_pos (show nI 2 = Int32.ofInt 2 from rfl)]
      exact q2
    · refine out (fm_sI M 3 (M.2.2 235 L 0) 3 (nI b)) ?_ _ (by rw [hs, fi_neg (by decide), fi_neg (by decide), fi_neg (by decide), fi_neg (by decide), fi_neg (by decide)]) (vsc_h T W n V).1 (vsc_h T W n V).2
      unfold GX31_write_56
      rw [fi_neg (show ¬ nI 3 = Int32.ofInt 0 by decide), fi_neg (show ¬ nI 3 = Int32.ofInt 1 by decide), fi_neg (show ¬ nI 3 = Int32.ofInt 2 by decide), fi_pos (show nI 3 = Int32.ofInt 3 from rfl), g]
      rfl
    · refine out (fm_sI M 3 (M.2.2 235 L 0) 4 (nI b &&& Int32.ofInt 31)) ?_ _ (by rw [hs, fi_neg (by decide), fi_neg (by decide), fi_neg (by decide), fi_pos (show (4 : Nat) = 4 from rfl)]) (vsc_h T W n V).1 (vsc_h T W n V).2
      unfold GX31_write_56 GX31_write_193
      rw [fi_neg (show ¬ nI 4 = Int32.ofInt 0 by decide), fi_neg (show ¬ nI 4 = Int32.ofInt 1 by decide), fi_neg (show ¬ nI 4 = Int32.ofInt 2 by decide), fi_neg (show ¬ nI 4 = Int32.ofInt 3 by decide), fi_pos (show nI 4 = Int32.ofInt 4 from rfl)]
      rfl
    · refine out M ?_ _ (by rw [hs, fi_neg (by decide), fi_neg (by decide), fi_neg (by decide), fi_neg (by decide), fi_pos (show (5 : Nat) = 5 ∨ (5 : Nat) = 6 from Or.inl rfl)]) V (frS_r L M)
      unfold GX31_write_56 GX31_write_193
      rw [fi_neg (show ¬ nI 5 = Int32.ofInt 0 by decide), fi_neg (show ¬ nI 5 = Int32.ofInt 1 by decide), fi_neg (show ¬ nI 5 = Int32.ofInt 2 by decide), fi_neg (show ¬ nI 5 = Int32.ofInt 3 by decide), fi_neg (show ¬ nI 5 = Int32.ofInt 4 by decide), fi_pos (show nI 5 = Int32.ofInt 5 from rfl)]
    · refine out M ?_ _ (by rw [hs, fi_neg (by decide), fi_neg (by decide), fi_neg (by decide), fi_neg (by decide), fi_pos (show (6 : Nat) = 5 ∨ (6 : Nat) = 6 from Or.inr rfl)]) V (frS_r L M)
      unfold GX31_write_56 GX31_write_193
      rw [fi_neg (show ¬ nI 6 = Int32.ofInt 0 by decide), fi_neg (show ¬ nI 6 = Int32.ofInt 1 by decide), fi_neg (show ¬ nI 6 = Int32.ofInt 2 by decide), fi_neg (show ¬ nI 6 = Int32.ofInt 3 by decide), fi_neg (show ¬ nI 6 = Int32.ofInt 4 by decide), fi_neg (show ¬ nI 6 = Int32.ofInt 5 by decide), fi_pos (show nI 6 = Int32.ofInt 6 from rfl)]
    · refine out (fm_sI M 3 (M.2.2 235 L 0) 7 (nI b)) ?_ _ (by rw [hs, fi_neg (by decide), fi_neg (by decide), fi_neg (by decide), fi_neg (by decide), fi_neg (by decide)]) (vsc_h T W n V).1 (vsc_h T W n V).2
      unfold GX31_write_56
      rw [fi_neg (show ¬ nI 7 = Int32.ofInt 0 by decide), fi_neg (show ¬ nI 7 = Int32.ofInt 1 by decide), fi_neg (show ¬ nI 7 = Int32.ofInt 2 by decide), fi_neg (show ¬ nI 7 = Int32.ofInt 3 by decide), fi_neg (show ¬ nI 7 = Int32.ofInt 4 by decide), fi_neg (show ¬ nI 7 = Int32.ofInt 5 by decide), fi_neg (show ¬ nI 7 = Int32.ofInt 6 by decide), fi_pos (show nI 7 = Int32.ofInt 7 from rfl), g]
      rfl
  have b2 : Int32.ofInt 2 ≤ nI k ↔ ¬ k < 2 := (nge (n := k) (by omega) 2 (by decide)).trans (by omega)
  unfold HX31_write HX31_write_0 GX31_write GX31_write_0
  dsimp only
  rw [fi_pos (show Int32.ofInt 1 = Int32.ofInt 1 from rfl), fi_pos k7, o_32 (by omega), h7.2, ev]
  dsimp only
  by_cases hbk : k < 2 ∧ ib (S.1 3) 7 = true
  · have e8 : Int32.ofInt 8 + nI k = nI (8 + k) := n_add (a := 8) (by decide) (by omega)
    rw [fi_neg (fun y => (b2.mp y) hbk.1), bz_t hbk.2, fi_neg (show ¬ Int32.ofInt 1 = 0 by decide), e8, o_cl (by omega)]
    refine ⟨_, ⟨⟨fun _ => ⟨fun _ => ⟨fun y => absurd hbk.1 (b2.mp y), fun _ => ⟨h7.1, fun y => absurd y (by decide), fun _ => ⟨i235 (by omega), trivial⟩⟩⟩, fun y => absurd k7 y⟩, fun y => absurd rfl y⟩, rfl⟩, ?_⟩
    unfold sWr
    rw [fi_pos hbk]
    exact vsc_h T W n V
  · obtain ⟨M', ⟨x1, x2⟩, x3, x4⟩ := r56 hbk
    refine ⟨M', ⟨⟨fun _ => ⟨fun _ => ⟨fun _ => x1, fun y => ⟨h7.1, fun _ => x1, fun z => ?_⟩⟩, fun y => absurd k7 y⟩, fun y => absurd rfl y⟩, ?_⟩, x3, x4⟩
    · refine absurd ?_ z
      rw [bz_0]
      exact fun w => hbk ⟨Classical.not_not.mp (fun e => y (b2.mpr e)), w⟩
    · by_cases h2 : k < 2
      · rw [fi_neg (fun y => (b2.mp y) h2), bz_f (fun w => hbk ⟨h2, w⟩), fi_pos (show Int32.ofInt 0 = 0 from rfl)]
        exact x2
      · rw [fi_pos (b2.mpr h2)]
        exact x2
end Sc
