/-! the serial line: the twin's writes -/
set_option maxRecDepth 100000
section Sc
variable {m B : Nat} {M : FM} {S : Sr}
theorem X96_takeIn (T : Ty M) (W : Wf M) (n : fm_is M 99 99 m = true) (V : VSt m M S) (I : VSi B S) (b : Int32) : ∃ M', (HX96_takeIn m b M ∧ GX96_takeIn m b M = ((sCo b S).1, M')) ∧ VSt m M' (sCo b S).2 ∧ FrT m M M' := by
  obtain ⟨d1, d2, d3, d4, d5, d6⟩ := t_ne4 T W n
  obtain ⟨h, q, qd, ov, em, out, sent⟩ := S
  obtain ⟨v1, v2, v3, v4, v5, v6, v7, v8, v9⟩ := V
  have hl := I.1
  dsimp only at v1 v2 v3 v4 v5 v6 v7 v8 v9 hl
  have h16 := rm_le qd
  have er : GX96_space m M = (nI (rm qd) - nI q.length, M) := by
    unfold GX96_space GX96_space_0 GX96_space_13
    rw [v3, v5]
    unfold rm
    by_cases z : qd = 0
    · rw [fi_pos z, if_pos z]; rfl
    · rw [fi_neg z, if_neg z]; rfl
  have es : nI (rm qd) - nI q.length = nI (rm qd - q.length) := by
    apply ui_inj
    rw [ui_sub, ui_nI, ui_nI, ui_nI]
    omega
  have eq0 : nI (rm qd - q.length) = 0 ↔ ¬ q.length < rm qd := by
    constructor
    · intro y
      have := nI_j (b := 0) (by omega) (by decide) y
      omega
    · intro y
      rw [show rm qd - q.length = 0 by omega]
      rfl
  unfold HX96_takeIn HX96_takeIn_0 GX96_takeIn GX96_takeIn_0
  dsimp only
  rw [er]
  dsimp only
  rw [es, propext eq0, v3, o_cl (by omega)]
  unfold sCo
  dsimp only
  by_cases hr : q.length < rm qd
  · have inn : fm_in M (M.2.2 410 m 0) (nI q.length) = true := in_nI (tL_410 T.1 n) (by omega) (by decide)
    rw [fi_neg (fun y => y hr), if_pos hr]
    refine ⟨_, ⟨⟨fun y => absurd hr y, fun _ => ⟨inn, trivial⟩⟩, rfl⟩, ⟨fun k hk => ?_, fun k hk => ?_, ?_, fun i hi => ?_, v5, v6, v7, fun k hk => ?_, v9⟩, frT_I (frT_A (frT_r m M) (Or.inr (Or.inr (Or.inl rfl)))) (by decide)⟩
    · rw [rIf (by decide)]
      show (fm_sI M 3 (M.2.2 410 m 0) q.length _).1 3 (M.2.2 405 m 0) k = _
      rw [rI, if_neg (fun z => d2 z.2.1)]
      exact v1 k hk
    · rw [rIf (by decide)]
      show (fm_sI M 3 (M.2.2 410 m 0) q.length _).1 3 (M.2.2 406 m 0) k = _
      rw [rI, if_neg (fun z => d4 z.2.1)]
      exact v2 k hk
    · rw [rI, if_pos ⟨rfl, rfl, rfl⟩, rIf (by decide), v3, up_1 (by omega)]
      simp
    · rw [rIf (by decide)]
      show (fm_sI M 3 (M.2.2 410 m 0) q.length (b &&& Int32.ofInt 255)).1 3 (M.2.2 410 m 0) i = (q ++ [b &&& Int32.ofInt 255]).getD i 0
      have hi2 : i < q.length + 1 := by simpa using hi
      rw [rI, getD_app]
      by_cases e : i < q.length
      · rw [if_neg (by omega), if_pos e]
        exact v4 i e
      · have e2 : i = q.length := by omega
        rw [if_neg e, if_pos e2, if_pos ⟨rfl, rfl, e2⟩]
    · rw [rIf (by decide)]
      show (fm_sI M 3 (M.2.2 410 m 0) q.length _).1 3 (M.2.2 412 m 0) k = _
      rw [rI, if_neg (fun z => d6 z.2.1.symm)]
      exact v8 k hk
  · rw [fi_pos hr, if_neg hr]
    refine ⟨_, ⟨⟨fun _ => trivial, fun y => absurd hr y⟩, rfl⟩, ⟨v1, v2, v3, v4, v5, ?_, v7, v8, v9⟩, frT_I (frT_r m M) (by decide)⟩
    rw [rI, if_pos ⟨rfl, rfl, rfl⟩]
theorem sCo_01 (b : Int32) (S : Sr) : (sCo b S).1 = Int32.ofInt 0 ∧ (sCo b S).2.2.2.2.1 = Int32.ofInt 1 ∨ (sCo b S).1 = Int32.ofInt 1 ∧ (sCo b S).2.2.2.2.1 = S.2.2.2.1 := by
  unfold sCo
  split
  · exact Or.inr ⟨rfl, rfl⟩
  · exact Or.inl ⟨rfl, rfl⟩
theorem vst_em {M : FM} {S : Sr} (V : VSt m M S) : VSt m (fm_sI M 409 m 0 (Int32.ofInt 1)) (sEm S) := by
  obtain ⟨v1, v2, v3, v4, v5, v6, v7, v8, v9⟩ := V
  refine ⟨v1, v2, v3, v4, v5, v6, ?_, v8, v9⟩
  rw [rI, if_pos ⟨rfl, rfl, rfl⟩]
  rfl
theorem vst_ov {M : FM} {S : Sr} (V : VSt m M S) {v : Int32} (h : S.2.2.2.1 = v) : VSt m (fm_sI M 408 m 0 v) S := by
  obtain ⟨v1, v2, v3, v4, v5, v6, v7, v8, v9⟩ := V
  refine ⟨v1, v2, v3, v4, v5, ?_, v7, v8, v9⟩
  rw [rI, if_pos ⟨rfl, rfl, rfl⟩, h]
theorem X96_send (T : Ty M) (W : Wf M) (n : fm_is M 99 99 m = true) (V : VSt m M S) (I : VSi B S) (hB : B < 2147483000) (b : Int32) : ∃ M', (HX96_send m b M ∧ GX96_send m b M = M') ∧ VSt m M' (sSe b S) ∧ FrT m M M' := by
  obtain ⟨d1, d2, d3, d4, d5, d6⟩ := t_ne4 T W n
  have h4 := X96_hasBit T n (R := Int32.ofInt 4) (W := Int32.ofInt 4) (r := 4) (b := 4) rfl rfl (by decide) (by decide)
  rw [V.1 4 (by decide)] at h4
  obtain ⟨M1, ⟨c1, c2⟩, c3, c4⟩ := X96_takeIn T W n V I b
  have hs : S.2.2.2.2.2.2 ≤ B := I.2.2.2.2
  have ei : (M.2.1 413 m 0 - M.2.1 413 m 0 / Int64.ofInt 4096 * Int64.ofInt 4096).toInt32 = nI (S.2.2.2.2.2.2 % 4096) := by
    rw [V.2.2.2.2.2.2.2.2, show Int64.ofInt 4096 = lN 4096 from rfl, o_rest (by omega) (by decide), o_32 (by omega)]
  have inn : fm_in M (M.2.2 412 m 0) (nI (S.2.2.2.2.2.2 % 4096)) = true := in_nI (tL_412 T.1 n) (Nat.mod_lt _ (by decide)) (by decide)
  unfold HX96_send HX96_send_0 GX96_send GX96_send_0 GX96_send_25 GX96_send_30 GX96_send_61
  dsimp only
  rw [h4.2]
  dsimp only
  rw [ei, o_cl (by omega), c2, fi_bz]
  dsimp only
  refine ⟨_, ⟨⟨h4.1, fun _ => ⟨inn, trivial⟩, fun _ => ⟨c1, trivial⟩⟩, rfl⟩, ?_⟩
  unfold sSe
  by_cases hh : ib (S.1 4) 4 = true
  · rw [fi_pos hh, if_pos hh]
    rcases sCo_01 b S with ⟨e1, e2⟩ | ⟨e1, e2⟩
    · rw [fi_pos (show (sCo b S).1 = 0 by rw [e1]; rfl)]
      exact ⟨vst_em (vst_ov c3 e2), frT_I (frT_I c4 (by decide)) (by decide)⟩
    · rw [fi_neg (show ¬ (sCo b S).1 = 0 by rw [e1]; decide)]
      have o1 : M1.1 408 m 0 = S.2.2.2.1 := c3.2.2.2.2.2.1.trans e2
      rw [o1]
      rcases I.2.2.1 with z | z
      · rw [fi_pos z]
        exact ⟨vst_em (vst_ov c3 (e2.trans z)), frT_I (frT_I c4 (by decide)) (by decide)⟩
      · rw [fi_neg (show ¬ S.2.2.2.1 = 0 by rw [z]; decide)]
        exact ⟨vst_em (vst_ov c3 (e2.trans z)), frT_I (frT_I c4 (by decide)) (by decide)⟩
  · rw [fi_neg hh, if_neg hh]
    obtain ⟨v1, v2, v3, v4, v5, v6, v7, v8, v9⟩ := V
    have fr : FrT m M (fm_sI M 3 (M.2.2 412 m 0) (S.2.2.2.2.2.2 % 4096) b) := frT_A (frT_r m M) (Or.inr (Or.inr (Or.inr rfl)))
    refine ⟨vst_em ⟨fun k hk => ?_, fun k hk => ?_, v3, fun i hi => ?_, v5, v6, v7, fun k hk => ?_, ?_⟩, frT_I (frT_L fr (by decide)) (by decide)⟩
    · show (fm_sI M 3 (M.2.2 412 m 0) _ b).1 3 (M.2.2 405 m 0) k = _
      rw [rI, if_neg (fun z => d3 z.2.1)]
      exact v1 k hk
    · show (fm_sI M 3 (M.2.2 412 m 0) _ b).1 3 (M.2.2 406 m 0) k = _
      rw [rI, if_neg (fun z => d5 z.2.1)]
      exact v2 k hk
    · show (fm_sI M 3 (M.2.2 412 m 0) _ b).1 3 (M.2.2 410 m 0) i = _
      rw [rI, if_neg (fun z => d6 z.2.1)]
      exact v4 i hi
    · show (fm_sI M 3 (M.2.2 412 m 0) (S.2.2.2.2.2.2 % 4096) b).1 3 (M.2.2 412 m 0) k = updS S.2.2.2.2.2.1 (S.2.2.2.2.2.2 % 4096) b k
      unfold updS
      rw [rI]
      by_cases e : k = S.2.2.2.2.2.2 % 4096
      · rw [if_pos ⟨rfl, rfl, e⟩, if_pos e]
      · rw [if_neg (fun z => e z.2.2), if_neg e]
        exact v8 k hk
    · rw [rL, if_pos ⟨rfl, rfl, rfl⟩]
      show M.2.1 413 m 0 + Int64.ofInt 1 = lN (S.2.2.2.2.2.2 + 1)
      rw [v9]
      apply ul_inj
      rw [ul_add, ul_o (by omega), ul_o (by omega), show ul (Int64.ofInt 1) = 1 from rfl]
      omega
theorem vst_h (T : Ty M) (W : Wf M) (n : fm_is M 99 99 m = true) (V : VSt m M S) {k : Nat} (hk : k < 8) {b : Int32} : VSt m (fm_sI M 3 (M.2.2 405 m 0) k b) (sHe k b S) ∧ FrT m M (fm_sI M 3 (M.2.2 405 m 0) k b) := by
  obtain ⟨d1, d2, d3, d4, d5, d6⟩ := t_ne4 T W n
  obtain ⟨v1, v2, v3, v4, v5, v6, v7, v8, v9⟩ := V
  refine ⟨⟨fun j hj => ?_, fun j hj => ?_, v3, fun i hi => ?_, v5, v6, v7, fun j hj => ?_, v9⟩, frT_A (frT_r m M) (Or.inl rfl)⟩
  · show (fm_sI M 3 (M.2.2 405 m 0) k b).1 3 (M.2.2 405 m 0) j = updS S.1 k b j
    unfold updS
    rw [rI]
    by_cases e : j = k
    · rw [if_pos ⟨rfl, rfl, e⟩, if_pos e]
    · rw [if_neg (fun z => e z.2.2), if_neg e]
      exact v1 j hj
  · show (fm_sI M 3 (M.2.2 405 m 0) k b).1 3 (M.2.2 406 m 0) j = updS S.1 k b (8 + j)
    unfold updS
    rw [rI, if_neg (fun z => d1 z.2.1.symm), if_neg (by omega)]
    exact v2 j hj
  · show (fm_sI M 3 (M.2.2 405 m 0) k b).1 3 (M.2.2 410 m 0) _ = _
    rw [rI, if_neg (fun z => d2 z.2.1.symm)]
    exact v4 i hi
  · show (fm_sI M 3 (M.2.2 405 m 0) k b).1 3 (M.2.2 412 m 0) _ = _
    rw [rI, if_neg (fun z => d3 z.2.1.symm)]
    exact v8 j hj
theorem vst_o (T : Ty M) (W : Wf M) (n : fm_is M 99 99 m = true) (V : VSt m M S) {k : Nat} (hk : k < 2) {b : Int32} : VSt m (fm_sI M 3 (M.2.2 406 m 0) k b) (sHe (8 + k) b S) ∧ FrT m M (fm_sI M 3 (M.2.2 406 m 0) k b) := by
  obtain ⟨d1, d2, d3, d4, d5, d6⟩ := t_ne4 T W n
  obtain ⟨v1, v2, v3, v4, v5, v6, v7, v8, v9⟩ := V
  refine ⟨⟨fun j hj => ?_, fun j hj => ?_, v3, fun i hi => ?_, v5, v6, v7, fun j hj => ?_, v9⟩, frT_A (frT_r m M) (Or.inr (Or.inl rfl))⟩
  · show (fm_sI M 3 (M.2.2 406 m 0) k b).1 3 (M.2.2 405 m 0) j = updS S.1 (8 + k) b j
    unfold updS
    rw [rI, if_neg (fun z => d1 z.2.1), if_neg (by omega)]
    exact v1 j hj
  · show (fm_sI M 3 (M.2.2 406 m 0) k b).1 3 (M.2.2 406 m 0) j = updS S.1 (8 + k) b (8 + j)
    unfold updS
    rw [rI]
    by_cases e : j = k
    · rw [if_pos ⟨rfl, rfl, e⟩, if_pos (by omega)]
    · rw [if_neg (fun z => e z.2.2), if_neg (by omega)]
      exact v2 j hj
  · show (fm_sI M 3 (M.2.2 406 m 0) k b).1 3 (M.2.2 410 m 0) _ = _
    rw [rI, if_neg (fun z => d4 z.2.1.symm)]
    exact v4 i hi
  · show (fm_sI M 3 (M.2.2 406 m 0) k b).1 3 (M.2.2 412 m 0) _ = _
    rw [rI, if_neg (fun z => d5 z.2.1.symm)]
    exact v8 j hj
end Sc
