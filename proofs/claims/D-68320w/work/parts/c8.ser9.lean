/-! the serial line: the twin's writes, all of them; what holds stays -/
set_option maxRecDepth 100000
section Sc
variable {m B : Nat} {M : FM} {S : Sr}
theorem X96_w2 (V : VSt m M S) (I : VSi B S) (b : Int32) : ∃ M', fi (b &&& Int32.ofInt 1 = Int32.ofInt 1) (GX96_writeSerial_139 m b (M.1 407 m 0) (Int32.ofInt 1) M) (GX96_writeSerial_139 m b (M.1 407 m 0) (Int32.ofInt 0) M) = M' ∧ VSt m M' (sQu b S) ∧ FrT m M M' := by
  obtain ⟨v1, v2, v3, v4, v5, v6, v7, v8, v9⟩ := V
  have sh : ((b >>> (Int32.ofInt 1 &&& 31)) &&& Int32.ofInt 1 = Int32.ofInt 1) ↔ ib b 1 = true := by
    rw [show (b >>> (Int32.ofInt 1 &&& 31)) &&& Int32.ofInt 1 = bz (ib b 1 = true) from bit_1 (x := b) (s := 1) (by decide)]
    exact bz_i1
  have e : fi (b &&& Int32.ofInt 1 = Int32.ofInt 1) (GX96_writeSerial_139 m b (M.1 407 m 0) (Int32.ofInt 1) M) (GX96_writeSerial_139 m b (M.1 407 m 0) (Int32.ofInt 0) M) =
      fm_sI (fm_sI M 411 m 0 (fi (bz (ib b 0 = true) = S.2.2.1 ∧ ¬ ib b 1 = true) (M.1 411 m 0) (Int32.ofInt 0))) 407 m 0 (bz (ib b 0 = true)) := by
    rw [fi_F (F := fun z => GX96_writeSerial_139 m b (M.1 407 m 0) z M), propext (and1 b)]
    unfold GX96_writeSerial_139 GX96_writeSerial_147 GX96_writeSerial_162 GX96_writeSerial_170
    dsimp only
    have f86 : ∀ N, fi (b &&& Int32.ofInt 1 = Int32.ofInt 1) (GX96_writeSerial_186 m (Int32.ofInt 1) N) (GX96_writeSerial_186 m (Int32.ofInt 0) N) = fm_sI N 407 m 0 (bz (ib b 0 = true)) := fun N => by
      rw [fi_F (F := fun z => GX96_writeSerial_186 m z N), propext (and1 b)]
      rfl
    rw [f86, f86, v5, propext sh, fi_pos (show Int32.ofInt 0 = 0 from rfl), fi_neg (show ¬ Int32.ofInt 1 = 0 by decide)]
    by_cases p : bz (ib b 0 = true) = S.2.2.1
    · rw [fi_pos p.symm]
      by_cases q : ib b 1 = true
      · rw [fi_pos q, fi_neg (show ¬ (bz (ib b 0 = true) = S.2.2.1 ∧ ¬ ib b 1 = true) from fun z => z.2 q)]
      · rw [fi_neg q, fi_pos (show bz (ib b 0 = true) = S.2.2.1 ∧ ¬ ib b 1 = true from ⟨p, q⟩)]
    · rw [fi_neg (fun z => p z.symm), fi_neg (show ¬ (bz (ib b 0 = true) = S.2.2.1 ∧ ¬ ib b 1 = true) from fun z => p z.1)]
  refine ⟨_, e, ?_, frT_I (frT_I (frT_r m M) (by decide)) (by decide)⟩
  unfold sQu
  refine ⟨v1, v2, ?_, fun i hi => ?_, ?_, v6, v7, v8, v9⟩
  · rw [rIf (by decide), rI, if_pos ⟨rfl, rfl, rfl⟩]
    by_cases p : bz (ib b 0 = true) = S.2.2.1 ∧ ¬ ib b 1 = true
    · rw [fi_pos p, if_pos p]
      exact v3
    · rw [fi_neg p, if_neg p]
      rfl
  · by_cases p : bz (ib b 0 = true) = S.2.2.1 ∧ ¬ ib b 1 = true
    · rw [if_pos p] at hi ⊢
      exact v4 i hi
    · rw [if_neg p] at hi
      exact absurd hi (Nat.not_lt_zero i)
  · rw [rI, if_pos ⟨rfl, rfl, rfl⟩]
theorem X96_writeSerial (T : Ty M) (W : Wf M) (n : fm_is M 99 99 m = true) (V : VSt m M S) (I : VSi B S) (hB : B < 2147483000) {k : Nat} (hk : k < 8) (b : Int32) :
    ∃ M', (HX96_writeSerial m (nI k) b M ∧ GX96_writeSerial m (nI k) b M = M') ∧ VSt m M' (sWr k b S) ∧ FrT m M M' := by
  obtain ⟨M1, ⟨c1, c2⟩, c3, c4⟩ := X96_send T W n V I hB b
  obtain ⟨M2, q2, q3, q4⟩ := X96_w2 V I b
  have h1 := X96_hasBit T n (R := Int32.ofInt 1) (W := Int32.ofInt 1) (r := 1) (b := 1) rfl rfl (by decide) (by decide)
  have h7 := X96_hasBit T n (R := Int32.ofInt 3) (W := Int32.ofInt 7) (r := 3) (b := 7) rfl rfl (by decide) (by decide)
  rw [V.1 3 (by decide)] at h7
  rw [V.1 1 (by decide)] at h1
  have i405 : fm_in M (M.2.2 405 m 0) (nI k) = true := in_nI (tL_405 T.1 n) hk (by decide)
  have em : M.1 409 m 0 = S.2.2.2.2.1 := V.2.2.2.2.2.2.1
  have sh : ((b >>> (Int32.ofInt 1 &&& 31)) &&& Int32.ofInt 1 = Int32.ofInt 1) ↔ ib b 1 = true := by
    rw [show (b >>> (Int32.ofInt 1 &&& 31)) &&& Int32.ofInt 1 = bz (ib b 1 = true) from bit_1 (x := b) (s := 1) (by decide)]
    exact bz_i1
  have r23 : ¬ (k < 2 ∧ ib (S.1 3) 7 = true) → ∃ M', (HX96_writeSerial_23 m (nI k) b M ∧ GX96_writeSerial_23 m (nI k) b M = M') ∧ VSt m M' (sWr k b S) ∧ FrT m M M' := fun nb => by
    have hh : HX96_writeSerial_23 m (nI k) b M := ⟨fun _ => ⟨c1, trivial⟩, fun _ => ⟨fun _ => ⟨fun _ => ⟨h1.1, trivial⟩, fun _ => trivial⟩, fun _ => ⟨fun _ => trivial, fun _ => ⟨fun _ => ⟨i405, trivial⟩, fun _ => ⟨fun _ => trivial, fun _ => ⟨fun _ => trivial, fun _ => ⟨fun _ => trivial, fun _ => ⟨i405, trivial⟩⟩⟩⟩⟩⟩⟩⟩
    have e1 : GX96_writeSerial_23 m (nI 1) b M = fm_sI (fm_sI M 409 m 0 (bz (¬ S.2.2.2.2.1 = 0 ∨ (¬ ib (S.1 1) 1 = true ∧ ib b 1 = true)))) 3 (M.2.2 405 m 0) 1 (b &&& Int32.ofInt 15) := by
      unfold GX96_writeSerial_23 GX96_writeSerial_102 GX96_writeSerial_106 GX96_writeSerial_107 GX96_writeSerial_215
      rw [fi_neg (show ¬ nI 1 = Int32.ofInt 0 by decide), fi_pos (show nI 1 = Int32.ofInt 1 from rfl)]
      dsimp only
      rw [h1.2]
      dsimp only
      rw [fi_bz, propext sh, em, show (Int32.ofInt 1).toNatClampNeg = 1 from rfl]
      by_cases z : S.2.2.2.2.1 = 0
      · rw [fi_pos z]
        by_cases x : ib (S.1 1) 1 = true
        · rw [fi_pos x, bz_f (show ¬ (¬ S.2.2.2.2.1 = 0 ∨ (¬ ib (S.1 1) 1 = true ∧ ib b 1 = true)) from fun w => w.elim (fun y => y z) (fun y => y.1 x))]
          rfl
        · rw [fi_neg x]
          by_cases y : ib b 1 = true
          · rw [fi_pos y, bz_t (show ¬ S.2.2.2.2.1 = 0 ∨ (¬ ib (S.1 1) 1 = true ∧ ib b 1 = true) from Or.inr ⟨x, y⟩)]
            rfl
          · rw [fi_neg y, bz_f (show ¬ (¬ S.2.2.2.2.1 = 0 ∨ (¬ ib (S.1 1) 1 = true ∧ ib b 1 = true)) from fun w => w.elim (fun q => q z) (fun q => y q.2))]
            rfl
      · rw [fi_neg z, bz_t (show ¬ S.2.2.2.2.1 = 0 ∨ (¬ ib (S.1 1) 1 = true ∧ ib b 1 = true) from Or.inl z)]
        rfl
    have hs : sWr k b S = fi (k = 0) (sSe b S) (fi (k = 1) (sW1 b S) (fi (k = 2) (sQu b S) (fi (k = 4) (sHe 4 (b &&& Int32.ofInt 31) S) (fi (k = 5 ∨ k = 6) S (sHe k b S))))) := by
      unfold sWr
      rw [fi_neg nb]
    have out : ∀ X, GX96_writeSerial_23 m (nI k) b M = X → ∀ S', sWr k b S = S' → VSt m X S' → FrT m M X → ∃ M', (HX96_writeSerial_23 m (nI k) b M ∧ GX96_writeSerial_23 m (nI k) b M = M') ∧ VSt m M' (sWr k b S) ∧ FrT m M M' := fun X hX S' hS v f => ⟨X, ⟨hh, hX⟩, by rw [hS]; exact v, f⟩
    have hc : k = 0 ∨ k = 1 ∨ k = 2 ∨ k = 3 ∨ k = 4 ∨ k = 5 ∨ k = 6 ∨ k = 7 := by omega
    rcases hc with rfl | rfl | rfl | rfl | rfl | rfl | rfl | rfl
    · refine out M1 ?_ _ (by rw [hs, fi_pos (show (0 : Nat) = 0 from rfl)]) c3 c4
      unfold GX96_writeSerial_23 GX96_writeSerial_215
      rw [fi_pos (show nI 0 = Int32.ofInt 0 from rfl)]
      exact c2
    · refine out _ e1 _ (by rw [hs, fi_neg (by decide), fi_pos (show (1 : Nat) = 1 from rfl)]) ?_ (frT_A (frT_I (frT_r m M) (by decide)) (Or.inl rfl))
      have V1 : VSt m (fm_sI M 409 m 0 (bz (¬ S.2.2.2.2.1 = 0 ∨ (¬ ib (S.1 1) 1 = true ∧ ib b 1 = true)))) (S.1, S.2.1, S.2.2.1, S.2.2.2.1, bz (¬ S.2.2.2.2.1 = 0 ∨ (¬ ib (S.1 1) 1 = true ∧ ib b 1 = true)), S.2.2.2.2.2) := by
        obtain ⟨v1, v2, v3, v4, v5, v6, v7, v8, v9⟩ := V
        refine ⟨v1, v2, v3, v4, v5, v6, ?_, v8, v9⟩
        rw [rI, if_pos ⟨rfl, rfl, rfl⟩]
      have T1 : Ty (fm_sI M 409 m 0 (bz (¬ S.2.2.2.2.1 = 0 ∨ (¬ ib (S.1 1) 1 = true ∧ ib b 1 = true)))) := ⟨T.1, tyb_sIb rfl T.2 (bz_z _)⟩
      exact (vst_h (k := 1) (b := b &&& Int32.ofInt 15) T1 (wf_sI (lo := 99) (hi := 99) W rfl n) n V1 (by decide)).1
    · refine out M2 ?_ _ (by rw [hs, fi_neg (by decide), fi_neg (by decide), fi_pos (show (2 : Nat) = 2 from rfl)]) q3 q4
      unfold GX96_writeSerial_23
      rw [fi_neg (show ¬ nI 2 = Int32.ofInt 0 by decide), fi_neg (show ¬ nI 2 = Int32.ofInt 1 by decide), fi_pos (show nI 2 = Int32.ofInt 2 from rfl)]
      exact q2
    · refine out (fm_sI M 3 (M.2.2 405 m 0) 3 b) ?_ _ (by rw [hs, fi_neg (by decide), fi_neg (by decide), fi_neg (by decide), fi_neg (by decide), fi_neg (by decide)]) (vst_h T W n V (by decide)).1 (vst_h T W n V (by decide)).2
      unfold GX96_writeSerial_23
      rw [fi_neg (show ¬ nI 3 = Int32.ofInt 0 by decide), fi_neg (show ¬ nI 3 = Int32.ofInt 1 by decide), fi_neg (show ¬ nI 3 = Int32.ofInt 2 by decide), fi_pos (show nI 3 = Int32.ofInt 3 from rfl)]
      rfl
    · refine out (fm_sI M 3 (M.2.2 405 m 0) 4 (b &&& Int32.ofInt 31)) ?_ _ (by rw [hs, fi_neg (by decide), fi_neg (by decide), fi_neg (by decide), fi_pos (show (4 : Nat) = 4 from rfl)]) (vst_h T W n V (by decide)).1 (vst_h T W n V (by decide)).2
      unfold GX96_writeSerial_23
      rw [fi_neg (show ¬ nI 4 = Int32.ofInt 0 by decide), fi_neg (show ¬ nI 4 = Int32.ofInt 1 by decide), fi_neg (show ¬ nI 4 = Int32.ofInt 2 by decide), fi_neg (show ¬ nI 4 = Int32.ofInt 3 by decide), fi_pos (show nI 4 = Int32.ofInt 4 from rfl)]
      rfl
    · refine out M ?_ _ (by rw [hs, fi_neg (by decide), fi_neg (by decide), fi_neg (by decide), fi_neg (by decide), fi_pos (show (5 : Nat) = 5 ∨ (5 : Nat) = 6 from Or.inl rfl)]) V (frT_r m M)
      unfold GX96_writeSerial_23 GX96_writeSerial_205 GX96_writeSerial_215
      rw [fi_neg (show ¬ nI 5 = Int32.ofInt 0 by decide), fi_neg (show ¬ nI 5 = Int32.ofInt 1 by decide), fi_neg (show ¬ nI 5 = Int32.ofInt 2 by decide), fi_neg (show ¬ nI 5 = Int32.ofInt 3 by decide), fi_neg (show ¬ nI 5 = Int32.ofInt 4 by decide), fi_pos (show nI 5 = Int32.ofInt 5 from rfl)]
    · refine out M ?_ _ (by rw [hs, fi_neg (by decide), fi_neg (by decide), fi_neg (by decide), fi_neg (by decide), fi_pos (show (6 : Nat) = 5 ∨ (6 : Nat) = 6 from Or.inr rfl)]) V (frT_r m M)
      unfold GX96_writeSerial_23 GX96_writeSerial_205 GX96_writeSerial_215
      rw [fi_neg (show ¬ nI 6 = Int32.ofInt 0 by decide), fi_neg (show ¬ nI 6 = Int32.ofInt 1 by decide), fi_neg (show ¬ nI 6 = Int32.ofInt 2 by decide), fi_neg (show ¬ nI 6 = Int32.ofInt 3 by decide), fi_neg (show ¬ nI 6 = Int32.ofInt 4 by decide), fi_neg (show ¬ nI 6 = Int32.ofInt 5 by decide), fi_pos (show nI 6 = Int32.ofInt 6 from rfl)]
    · refine out (fm_sI M 3 (M.2.2 405 m 0) 7 b) ?_ _ (by rw [hs, fi_neg (by decide), fi_neg (by decide), fi_neg (by decide), fi_neg (by decide), fi_neg (by decide)]) (vst_h T W n V (by decide)).1 (vst_h T W n V (by decide)).2
      unfold GX96_writeSerial_23
      rw [fi_neg (show ¬ nI 7 = Int32.ofInt 0 by decide), fi_neg (show ¬ nI 7 = Int32.ofInt 1 by decide), fi_neg (show ¬ nI 7 = Int32.ofInt 2 by decide), fi_neg (show ¬ nI 7 = Int32.ofInt 3 by decide), fi_neg (show ¬ nI 7 = Int32.ofInt 4 by decide), fi_neg (show ¬ nI 7 = Int32.ofInt 5 by decide), fi_neg (show ¬ nI 7 = Int32.ofInt 6 by decide)]
      rfl
  have b2 : Int32.ofInt 2 ≤ nI k ↔ ¬ k < 2 := (nge (n := k) (by omega) 2 (by decide)).trans (by omega)
  unfold HX96_writeSerial HX96_writeSerial_0 GX96_writeSerial GX96_writeSerial_0
  dsimp only
  rw [h7.2]
  dsimp only
  by_cases hbk : k < 2 ∧ ib (S.1 3) 7 = true
  · rw [fi_neg (fun y => (b2.mp y) hbk.1), bz_t hbk.2, fi_neg (show ¬ Int32.ofInt 1 = 0 by decide), o_cl (by omega)]
    refine ⟨_, ⟨⟨fun y => absurd hbk.1 (b2.mp y), fun _ => ⟨h7.1, fun y => absurd y (by decide), fun _ => ⟨in_nI (tL_406 T.1 n) hbk.1 (by decide), trivial⟩⟩⟩, rfl⟩, ?_⟩
    unfold sWr
    rw [fi_pos hbk]
    exact vst_o T W n V hbk.1
  · obtain ⟨M', ⟨x1, x2⟩, x3, x4⟩ := r23 hbk
    refine ⟨M', ⟨⟨fun _ => x1, fun y => ⟨h7.1, fun _ => x1, fun z => ?_⟩⟩, ?_⟩, x3, x4⟩
    · refine absurd ?_ z
      rw [bz_0]
      exact fun w => hbk ⟨Classical.not_not.mp (fun e => y (b2.mpr e)), w⟩
    · by_cases h2 : k < 2
      · rw [fi_neg (fun y => (b2.mp y) h2), bz_f (fun w => hbk ⟨h2, w⟩), fi_pos (show Int32.ofInt 0 = 0 from rfl)]
        exact x2
      · rw [fi_pos (b2.mpr h2)]
        exact x2
/-- what holds stays -/
theorem vsi_up {B' : Nat} (I : VSi B S) (h : B ≤ B') : VSi B' S := ⟨I.1, I.2.1, I.2.2.1, I.2.2.2.1, Nat.le_trans I.2.2.2.2 h⟩
theorem vsi_he (I : VSi B S) (k : Nat) (b : Int32) : VSi B (sHe k b S) := I
theorem vsi_co (I : VSi B S) (b : Int32) : VSi B (sCo b S).2 := by
  unfold sCo
  split
  · rename_i h
    refine ⟨?_, I.2.1, I.2.2.1, I.2.2.2.1, I.2.2.2.2⟩
    show (S.2.1 ++ [b &&& Int32.ofInt 255]).length ≤ rm S.2.2.1
    simp only [List.length_append, List.length_cons, List.length_nil]
    omega
  · exact ⟨I.1, I.2.1, Or.inr rfl, I.2.2.2.1, I.2.2.2.2⟩
theorem vsi_em (I : VSi B S) : VSi B (sEm S) := ⟨I.1, I.2.1, I.2.2.1, Or.inr rfl, I.2.2.2.2⟩
theorem vsi_wr (I : VSi B S) (k : Nat) (b : Int32) : VSi (B + 1) (sWr k b S) := by
  have F : ∀ {p : Prop} {x y : Sr}, VSi (B + 1) x → VSi (B + 1) y → VSi (B + 1) (fi p x y) := fun {p x y} h1 h2 => by
    by_cases q : p
    · rw [fi_pos q]; exact h1
    · rw [fi_neg q]; exact h2
  have I1 := vsi_up I (Nat.le_succ B)
  unfold sWr
  refine F I1 (F ?_ (F ?_ (F ?_ (F I1 (F I1 I1)))))
  · unfold sSe
    split
    · exact vsi_em (vsi_co I1 b)
    · exact vsi_em ⟨I.1, I.2.1, I.2.2.1, I.2.2.2.1, Nat.succ_le_succ I.2.2.2.2⟩
  · exact ⟨I.1, I.2.1, I.2.2.1, bz_z _, I1.2.2.2.2⟩
  · unfold sQu
    refine ⟨?_, bz_z _, I.2.2.1, I.2.2.2.1, I1.2.2.2.2⟩
    show (if bz (ib b 0 = true) = S.2.2.1 ∧ ¬ ib b 1 = true then S.2.1 else []).length ≤ rm (bz (ib b 0 = true))
    split
    · rename_i h
      rw [h.1]
      exact I.1
    · exact Nat.zero_le _
theorem vsi_rd (I : VSi B S) (k : Nat) : VSi B (sRd k S).2 := by
  have F : ∀ {p : Prop} {x y : Int64 × Sr}, VSi B x.2 → VSi B y.2 → VSi B (fi p x y).2 := fun {p x y} h1 h2 => by
    by_cases q : p
    · rw [fi_pos q]; exact h1
    · rw [fi_neg q]; exact h2
  unfold sRd
  refine F I (F ?_ (F ?_ (F ?_ (F I I))))
  · obtain ⟨h, q, qd, ov, em, out, sent⟩ := S
    cases q with
    | nil => exact I
    | cons b q => exact ⟨Nat.le_trans (Nat.le_succ _) I.1, I.2.1, I.2.2.1, I.2.2.2.1, I.2.2.2.2⟩
  · refine ⟨I.1, I.2.1, I.2.2.1, ?_, I.2.2.2.2⟩
    show fi (cs S = Int32.ofInt 2) (Int32.ofInt 0) S.2.2.2.2.1 = 0 ∨ fi (cs S = Int32.ofInt 2) (Int32.ofInt 0) S.2.2.2.2.1 = 1
    by_cases q : cs S = Int32.ofInt 2
    · rw [fi_pos q]; exact Or.inl rfl
    · rw [fi_neg q]; exact I.2.2.2.1
  · exact ⟨I.1, I.2.1, Or.inl rfl, I.2.2.2.1, I.2.2.2.2⟩
end Sc
