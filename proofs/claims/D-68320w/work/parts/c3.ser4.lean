/-! the serial line: the component's writes -/
set_option maxRecDepth 100000
def updS (g : Nat → Int32) (k : Nat) (v : Int32) : Nat → Int32 := fun j => if j = k then v else g j
noncomputable def sCo (b : Int32) (S : Sr) : Int32 × Sr :=
  if S.2.1.length < rm S.2.2.1 then (Int32.ofInt 1, S.1, S.2.1 ++ [b &&& Int32.ofInt 255], S.2.2) else (Int32.ofInt 0, S.1, S.2.1, S.2.2.1, Int32.ofInt 1, S.2.2.2.2)
noncomputable def sEm (S : Sr) : Sr := (S.1, S.2.1, S.2.2.1, S.2.2.2.1, Int32.ofInt 1, S.2.2.2.2.2)
noncomputable def sSe (b : Int32) (S : Sr) : Sr := if ib (S.1 4) 4 = true then sEm (sCo b S).2 else sEm (S.1, S.2.1, S.2.2.1, S.2.2.2.1, S.2.2.2.2.1, updS S.2.2.2.2.2.1 (S.2.2.2.2.2.2 % 4096) b, S.2.2.2.2.2.2 + 1)
noncomputable def sQu (b : Int32) (S : Sr) : Sr := (S.1, if bz (ib b 0 = true) = S.2.2.1 ∧ ¬ ib b 1 = true then S.2.1 else [], bz (ib b 0 = true), S.2.2.2)
theorem getD_app (q : List Int32) (b : Int32) (i : Nat) : (q ++ [b]).getD i 0 = if i < q.length then q.getD i 0 else if i = q.length then b else 0 := by
  induction q generalizing i with
  | nil =>
    cases i with
    | zero => rfl
    | succ i =>
      show ([] : List Int32).getD i 0 = _
      rw [if_neg (by simp), if_neg (by simp)]
      rfl
  | cons a q ih =>
    cases i with
    | zero => rfl
    | succ i =>
      show (q ++ [b]).getD i 0 = _
      rw [ih i]
      simp only [List.length_cons, Nat.add_lt_add_iff_right, Nat.add_right_cancel_iff]
      rfl
section Sc
variable {L B : Nat} {M : FM} {S : Sr}
/-- the line's three rows are three -/
theorem s_ne (T : Ty M) (W : Wf M) (n : fm_is M 78 78 L = true) : M.2.2 230 L 0 ≠ M.2.2 233 L 0 ∧ M.2.2 230 L 0 ≠ M.2.2 235 L 0 ∧ M.2.2 233 L 0 ≠ M.2.2 235 L 0 := by
  have n1 := tN_230 T.1 n
  have n2 := tN_233 T.1 n
  have n3 := tN_235 T.1 n
  have s1 : Sf M (M.2.2 230 L 0) 230 := W.2.1.1 (78, 78, 230, 230) (by decide) L n
  have s3 : Sf M (M.2.2 235 L 0) 235 := W.2.1.1 (78, 78, 235, 235) (by decide) L n
  refine ⟨nis n1 n2 (by decide), fun e => ?_, nis n2 n3 (by decide)⟩
  have z0 := W.2.2.1
  have t1 := fm_isd n1
  rw [← e] at s3
  rcases s1 with z | z
  · rw [z] at t1
    omega
  · rcases s3 with y | y
    · rw [y] at t1
      omega
    · omega
theorem X31_come (T : Ty M) (W : Wf M) (n : fm_is M 78 78 L = true) (V : VSc L M S) (I : VSi B S) (b : Int32) : ∃ M', (HX31_come L b M ∧ GX31_come L b M = ((sCo b S).1, M')) ∧ VSc L M' (sCo b S).2 ∧ FrS L M M' := by
  obtain ⟨d1, d2, d3⟩ := s_ne T W n
  obtain ⟨h, q, qd, ov, em, out, sent⟩ := S
  obtain ⟨v1, v2, ⟨hd, b1, b2, b3⟩, v4, v5, v6, v7, v8⟩ := V
  have hl := I.1
  have hqd := I.2.1
  dsimp only at v1 v2 b3 v4 v5 v6 v7 v8 hl hqd
  have h16 := rm_le qd
  have er : GX31_room L M = (nI (rm qd) - nI q.length, M) := by
    unfold GX31_room GX31_room_0 GX31_room_13
    rw [v2, v4]
    unfold rm
    by_cases z : qd = 0
    · rw [fi_pos z, if_pos z]; rfl
    · rw [fi_neg z, if_neg z]; rfl
  have es : nI (rm qd) - nI q.length = nI (rm qd - q.length) := by
    apply ui_inj
    rw [ui_sub, ui_nI, ui_nI, ui_nI]
    omega
  have le : nI (rm qd - q.length) ≤ 0 ↔ ¬ q.length < rm qd := (nle0 (by omega)).trans (by omega)
  have eidx : (M.1 231 L 0 + M.1 232 L 0) - (M.1 231 L 0 + M.1 232 L 0) / Int32.ofInt 16 * Int32.ofInt 16 = nI ((hd + q.length) % 16) := by
    rw [b2, v2, n_add (by omega) (by omega), show Int32.ofInt 16 = nI 16 from rfl, n_rest (by omega) (by decide)]
  have inn : fm_in M (M.2.2 230 L 0) (nI ((hd + q.length) % 16)) = true := in_nI (tL_230 T.1 n) (by omega) (by decide)
  unfold HX31_come HX31_come_0 HX31_come_12 GX31_come GX31_come_0 GX31_come_12 GX31_come_57
  dsimp only
  rw [er]
  dsimp only
  rw [es, eidx, o_cl (by omega), propext le, fi_neg (show ¬ Int32.ofInt 1 = 0 by decide), fi_pos (show Int32.ofInt 0 = 0 from rfl)]
  have hH : (¬ q.length < rm qd → (Int32.ofInt 0 = 0 → True) ∧ (¬ Int32.ofInt 0 = 0 → fm_in M (M.2.2 230 L 0) (nI ((hd + q.length) % 16)) = true ∧ True)) ∧ (¬ ¬ q.length < rm qd → (Int32.ofInt 1 = 0 → True) ∧ (¬ Int32.ofInt 1 = 0 → fm_in M (M.2.2 230 L 0) (nI ((hd + q.length) % 16)) = true ∧ True)) :=
    ⟨fun _ => ⟨fun _ => trivial, fun _ => ⟨inn, trivial⟩⟩, fun _ => ⟨fun _ => trivial, fun _ => ⟨inn, trivial⟩⟩⟩
  unfold sCo
  dsimp only
  by_cases hr : q.length < rm qd
  · rw [fi_neg (fun y => y hr), if_pos hr]
    refine ⟨_, ⟨hH, rfl⟩, ⟨fun k hk => ?_, ?_, ⟨hd, b1, b2, fun i hi => ?_⟩, v4, v5, v6, fun k hk => ?_, v8⟩, frS_I (frS_A (frS_r L M) (Or.inl rfl)) (by decide)⟩
    · rw [rIf (by decide), rI, if_neg (fun z => d2 z.2.1.symm)]
      exact v1 k hk
    · rw [rI, if_pos ⟨rfl, rfl, rfl⟩, rIf (by decide), v2, up_1 (by omega)]
      simp
    · show (fm_sI M 3 (M.2.2 230 L 0) ((hd + q.length) % 16) (b &&& Int32.ofInt 255)).1 3 (M.2.2 230 L 0) ((hd + i) % 16) = (q ++ [b &&& Int32.ofInt 255]).getD i 0
      have hi2 : i < q.length + 1 := by simpa using hi
      rw [rI, getD_app]
      by_cases e : i < q.length
      · rw [if_neg (by omega), if_pos e]
        exact b3 i e
      · have e2 : i = q.length := by omega
        rw [if_neg e, if_pos e2, e2, if_pos ⟨rfl, rfl, rfl⟩]
    · rw [rIf (by decide), rI, if_neg (fun z => d1 z.2.1.symm)]
      exact v7 k hk
  · rw [fi_pos hr, if_neg hr]
    refine ⟨_, ⟨hH, rfl⟩, ⟨v1, v2, ⟨hd, b1, b2, b3⟩, v4, ?_, v6, v7, v8⟩, frS_I (frS_r L M) (by decide)⟩
    rw [rI, if_pos ⟨rfl, rfl, rfl⟩]
theorem byte_l {b : Nat} (h : b < 256) : (nI b).toInt8.toInt32.toInt8.toInt32 &&& Int32.ofInt 255 = nI b := by
  have key : ∀ b, b < 256 → (nI b).toInt8.toInt32.toInt8.toInt32 &&& Int32.ofInt 255 = nI b := by decide
  exact key b h
theorem X31_send (T : Ty M) (W : Wf M) (n : fm_is M 78 78 L = true) (V : VSc L M S) (I : VSi B S) (hB : B < 2147483000) {b : Nat} (hb : b < 256) : ∃ M', (HX31_send L (nI b) M ∧ GX31_send L (nI b) M = M') ∧ VSc L M' (sSe (nI b) S) ∧ FrS L M M' := by
  obtain ⟨d1, d2, d3⟩ := s_ne T W n
  have h4 := X31_has T n (R := Int32.ofInt 4) (W := Int32.ofInt 4) (r := 4) (b := 4) rfl rfl (by decide) (by decide)
  rw [V.1 4 (by decide)] at h4
  obtain ⟨M1, ⟨c1, c2⟩, c3, c4⟩ := X31_come T W n V I (nI b)
  have hs : S.2.2.2.2.2.2 ≤ B := I.2.2.2.2
  have ei : (M.2.1 234 L 0 - M.2.1 234 L 0 / Int64.ofInt 4096 * Int64.ofInt 4096).toInt32 = nI (S.2.2.2.2.2.2 % 4096) := by
    rw [V.2.2.2.2.2.2.2, show Int64.ofInt 4096 = lN 4096 from rfl, o_rest (by omega) (by decide), o_32 (by omega)]
  have inn : fm_in M (M.2.2 233 L 0) (nI (S.2.2.2.2.2.2 % 4096)) = true := in_nI (tL_233 T.1 n) (Nat.mod_lt _ (by decide)) (by decide)
  unfold HX31_send HX31_send_0 GX31_send GX31_send_0 GX31_send_44
  dsimp only
  rw [h4.2]
  dsimp only
  rw [ei, o_cl (by omega), c2, fi_bz]
  dsimp only
  refine ⟨_, ⟨⟨h4.1, fun _ => ⟨inn, trivial⟩, fun _ => ⟨c1, trivial⟩⟩, rfl⟩, ?_⟩
  unfold sSe
  by_cases hh : ib (S.1 4) 4 = true
  · rw [fi_pos hh, if_pos hh]
    obtain ⟨v1, v2, v3, v4, v5, v6, v7, v8⟩ := c3
    refine ⟨⟨v1, v2, v3, v4, v5, ?_, v7, v8⟩, frS_I c4 (by decide)⟩
    rw [rI, if_pos ⟨rfl, rfl, rfl⟩]
    rfl
  · rw [fi_neg hh, if_neg hh]
    obtain ⟨v1, v2, ⟨hd, b1, b2, b3⟩, v4, v5, v6, v7, v8⟩ := V
    refine ⟨⟨fun k hk => ?_, v2, ⟨hd, b1, b2, fun i hi => ?_⟩, v4, v5, ?_, fun k hk => ?_, ?_⟩, frS_I (frS_L (frS_A (frS_r L M) (Or.inr (Or.inl rfl))) (by decide)) (by decide)⟩
    · rw [rIf (by decide)]
      show (fm_sI M 3 (M.2.2 233 L 0) _ _).1 3 (M.2.2 235 L 0) k = _
      rw [rI, if_neg (fun z => d3 z.2.1.symm)]
      exact v1 k hk
    · rw [rIf (by decide)]
      show (fm_sI M 3 (M.2.2 233 L 0) _ _).1 3 (M.2.2 230 L 0) _ = _
      rw [rI, if_neg (fun z => d1 z.2.1)]
      exact b3 i hi
    · rw [rI, if_pos ⟨rfl, rfl, rfl⟩]
      rfl
    · rw [rIf (by decide)]
      show (fm_sI M 3 (M.2.2 233 L 0) (S.2.2.2.2.2.2 % 4096) _).1 3 (M.2.2 233 L 0) k &&& Int32.ofInt 255 = updS S.2.2.2.2.2.1 (S.2.2.2.2.2.2 % 4096) (nI b) k
      unfold updS
      rw [rI]
      by_cases e : k = S.2.2.2.2.2.2 % 4096
      · rw [if_pos ⟨rfl, rfl, e⟩, if_pos e, byte_l hb]
      · rw [if_neg (fun z => e z.2.2), if_neg e]
        exact v7 k hk
    · show (fm_sL (fm_sI M 3 (M.2.2 233 L 0) _ _) 234 L 0 _).2.1 234 L 0 = lN (S.2.2.2.2.2.2 + 1)
      rw [rL, if_pos ⟨rfl, rfl, rfl⟩]
      show M.2.1 234 L 0 + Int64.ofInt 1 = _
      rw [v8]
      apply ul_inj
      rw [ul_add, ul_o (by omega), ul_o (by omega), show ul (Int64.ofInt 1) = 1 from rfl]
      omega
end Sc
