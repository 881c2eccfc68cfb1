/-! trees: the twin's rows are joined -/
set_option maxRecDepth 100000
section Jo
variable {t : Nat} {M : FM} {n : Nat} {v : Int64}
/-- four bytes are written where the row stands -/
def h4M (t n : Nat) (v : Int64) : Nat → FM → FM
  | 0, M => M
  | i + 1, M => fm_sI (fm_sI (h4M t n v i M) 3 (M.2.2 415 t 0) (n + i) (nI (b8 (ul v) (3 - i)))) 416 t 0 (nI (n + i + 1))
theorem h4M_R (i : Nat) : (h4M t n v i M).2.2 = M.2.2 := by
  induction i with
  | zero => rfl
  | succ i ih => exact ih
theorem h4M_y (T : Ty M) (h : fm_is M 100 100 t = true) (i : Nat) : Ty (h4M t n v i M) := by
  induction i with
  | zero => exact T
  | succ i ih =>
    have n7 : fm_is (h4M t n v i M) 901 901 (M.2.2 415 t 0) = true := by unfold fm_is; rw [h4M_R]; exact tN_415 T.1 h
    exact ⟨ih.1, tyb_sI rfl (tyb_s3 (t := 901) rfl ih.2 n7)⟩
theorem X97_head_L (T : Ty M) (h : fm_is M 100 100 t = true) (hv : ul v < 9223372036854775808) (hn : n + 4 ≤ 8192) (e : M.1 416 t 0 = nI n) : ∀ m j i, m + i = 4 → m < j → FX97_head_L2 fN j t v (nI m + Int32.ofInt (-1)) (h4M t n v i M) = some (h4M t n v 4 M) := by
  intro m
  induction m with
  | zero =>
    intro j i hi hj
    obtain ⟨j, rfl⟩ : ∃ y, j = y + 1 := ⟨j - 1, by omega⟩
    have hi4 : i = 4 := by omega
    subst hi4
    have h' : fm_is (h4M t n v 4 M) 100 100 t = true := by unfold fm_is; rw [h4M_R]; exact h
    show FX97_head_2 fN (FX97_head_L2 fN j) t v (nI 0 + Int32.ofInt (-1)) (h4M t n v 4 M) = _
    rw [(gX97_head_2 (FX97_head_L2 fN j) t v (nI 0 + Int32.ofInt (-1)) (h4M t n v 4 M) (h4M_y T h 4) h' ⟨fun _ => trivial, fun q => absurd dn_0 q⟩).1]
    unfold GX97_head_2
    rw [fi_pos dn_0]
    rfl
  | succ m ih =>
    intro j i hi hj
    obtain ⟨j, rfl⟩ : ∃ y, j = y + 1 := ⟨j - 1, by omega⟩
    have h' : fm_is (h4M t n v i M) 100 100 t = true := by unfold fm_is; rw [h4M_R]; exact h
    have e' : (h4M t n v i M).1 416 t 0 = nI (n + i) := by
      cases i with
      | zero => exact e
      | succ i => exact if_pos ⟨rfl, rfl, rfl⟩
    have r' : (h4M t n v i M).2.2 415 t 0 = M.2.2 415 t 0 := by rw [h4M_R]
    have ec : (nI (n + i)).toNatClampNeg = n + i := o_cl (by omega)
    have i1 : fm_in (h4M t n v i M) (M.2.2 415 t 0) (nI (n + i)) = true := in_nI (N := 8192) (by rw [h4M_R]; exact tL_415 T.1 h) (by omega) (by decide)
    have bv : (v >>> (((Int32.ofInt 8) * nI m).toInt64 &&& 63)).toInt32 &&& (Int32.ofInt 255) = nI (b8 (ul v) (3 - i)) := by
      rw [by_v hv (by omega)]
      congr 2
      omega
    have H : HX97_head_2 t v (nI m) (h4M t n v i M) := by
      unfold HX97_head_2
      dsimp only
      rw [e', r']
      exact ⟨fun _ => trivial, fun _ => ⟨i1, trivial⟩⟩
    have G : GX97_head_2 t v (nI m) (h4M t n v i M) = .inl (t, v, nI m + Int32.ofInt (-1), h4M t n v (i + 1) M) := by
      unfold GX97_head_2
      dsimp only
      rw [fi_neg (dn_n (by omega)), e', r', ec, bv]
      have e2 : (fm_sI (h4M t n v i M) 3 (M.2.2 415 t 0) (n + i) (nI (b8 (ul v) (3 - i)))).1 416 t 0 = nI (n + i) := (oI (fun z => absurd z.1 (by decide))).trans e'
      rw [e2, up_b (by omega)]
      rfl
    rw [dn_k m (by omega)]
    show FX97_head_2 fN (FX97_head_L2 fN j) t v (nI m) (h4M t n v i M) = _
    rw [(gX97_head_2 (FX97_head_L2 fN j) t v (nI m) (h4M t n v i M) (h4M_y T h i) h' H).1, G]
    exact ih j (i + 1) (by omega) (by omega)
theorem h4_fr (i : Nat) : Frm (PTr t M) M (h4M t n v i M) := by
  induction i with
  | zero => exact frm_r
  | succ i ih => exact frm_I (frm_I ih (Or.inr ⟨rfl, Or.inl rfl⟩)) (Or.inl ⟨rfl, Or.inl rfl⟩)
theorem X97_head0 (T : Ty M) (h : fm_is M 100 100 t = true) (hv : ul v < 9223372036854775808) (hn : n + 4 ≤ 8192) (e : M.1 416 t 0 = nI n) : HX97_head t v M ∧ GX97_head t v M = h4M t n v 4 M := by
  have A : FX97_head fN t v M = some (h4M t n v 4 M) := by
    show FX97_head_0 fN (FX97_head_L2 fN fN) t v M = _
    rw [(gX97_head_0 (FX97_head_L2 fN fN) t v M T).1]
    exact X97_head_L T h hv hn e 4 fN 0 rfl (by unfold fN; decide)
  exact op_of (d := M) A (P := OkV M) ⟨h4M_y T h 4, frm_ext (h4_fr 4)⟩
theorem h4_row {k : Nat} : (h4M t n v 4 M).1 3 (M.2.2 415 t 0) k = if n ≤ k ∧ k < n + 4 then nI (b8 (ul v) (3 - (k - n))) else M.1 3 (M.2.2 415 t 0) k := by
  unfold h4M h4M h4M h4M h4M
  simp only [rI, Nat.reduceEqDiff, false_and, if_false, true_and]
  by_cases h : n ≤ k ∧ k < n + 4
  · rw [if_pos h]
    have : k = n + 0 ∨ k = n + 1 ∨ k = n + 2 ∨ k = n + 3 := by omega
    rcases this with rfl | rfl | rfl | rfl
    · rw [if_neg (by omega), if_neg (by omega), if_neg (by omega), if_pos (by omega), Nat.sub_self]
    · rw [if_neg (by omega), if_neg (by omega), if_pos rfl, Nat.add_sub_cancel_left]
    · rw [if_neg (by omega), if_pos rfl, Nat.add_sub_cancel_left]
    · rw [if_pos rfl, Nat.add_sub_cancel_left]
  · rw [if_neg h, if_neg (by omega), if_neg (by omega), if_neg (by omega), if_neg (by omega)]
theorem h4_n {a k : Nat} (hne : a ≠ M.2.2 415 t 0) : (h4M t n v 4 M).1 3 a k = M.1 3 a k := by
  unfold h4M h4M h4M h4M h4M
  simp only [rI, Nat.reduceEqDiff, false_and, if_false, hne, and_false]
theorem h4_o {f : Nat} (h : f ≠ 3 ∧ f ≠ 416) : (h4M t n v 4 M).1 f t 0 = M.1 f t 0 := by
  unfold h4M h4M h4M h4M h4M
  simp only [rI, h.1, h.2, false_and, if_false]
/-- the joined row: bytes, with zeros behind them -/
def RwA (t : Nat) (M : FM) (X : List Nat) : Prop := ∀ k, k < 8192 → M.1 3 (M.2.2 415 t 0) k = nI (X.getD k 0)
theorem rwA_4 {X : List Nat} (h : RwA t M X) (hn : X.length + 4 ≤ 8192) (v : Int64) : RwA t (h4M t X.length v 4 M) (X ++ be4 (ul v)) := by
  intro k hk
  rw [h4M_R, h4_row]
  by_cases q : X.length ≤ k ∧ k < X.length + 4
  · rw [if_pos q]
    have e : k = X.length + (k - X.length) := by omega
    rw [e, gD_r, be4_d (by omega), ← e]
  · rw [if_neg q, h k hk]
    by_cases q2 : k < X.length
    · rw [gD_a q2]
    · rw [List.getD_eq_getElem?_getD, List.getD_eq_getElem?_getD, List.getElem?_eq_none (by omega), List.getElem?_eq_none (by rw [List.length_append]; show X.length + 4 ≤ k; omega)]
/-- the rows, the joined row, under way -/
def VJ (t : Nat) (M0 M : FM) (S NM X : List Nat) (n : Nat) : Prop := Frm (PTr t M0) M0 M ∧ (Ty M ∧ Wf M ∧ fm_is M 100 100 t = true) ∧ RwS 417 418 t M S ∧ RwS 419 420 t M NM ∧ RwA t M X ∧ M.1 416 t 0 = nI n
theorem ne_415 (T : Ty M) (W : Wf M) (h : fm_is M 100 100 t = true) : M.2.2 417 t 0 ≠ M.2.2 415 t 0 ∧ M.2.2 419 t 0 ≠ M.2.2 415 t 0 :=
  ⟨sf_ne W (sS_417 W h) (sS_415 W h) (lo := 901) rfl (tN_417 T.1 h) (by decide), sf_ne W (sS_419 W h) (sS_415 W h) (lo := 901) rfl (tN_419 T.1 h) (by decide)⟩
theorem j_head {M0 : FM} {S NM X : List Nat} (V : VJ t M0 M S NM X X.length) (hv : ul v < 9223372036854775808) (hn : X.length + 4 ≤ 8192) : HX97_head t v M ∧ VJ t M0 (GX97_head t v M) S NM (X ++ be4 (ul v)) (X ++ be4 (ul v)).length := by
  obtain ⟨v1, ⟨T, W, h⟩, vS, vN, vA, v6⟩ := V
  obtain ⟨n1, n2⟩ := ne_415 T W h
  obtain ⟨p1, p2⟩ := X97_head0 T h hv hn v6
  have f := h4_fr (t := t) (M := M) (n := X.length) (v := v) 4
  rw [p2]
  refine ⟨p1, ptr_t v1 f, ⟨ptr_y f h T, frt_wf f T W h, frm_is f h⟩, rwS_f vS (h4_o ⟨by decide, by decide⟩) f.1 (fun k => h4_n n1), rwS_f vN (h4_o ⟨by decide, by decide⟩) f.1 (fun k => h4_n n2), rwA_4 vA hn v, ?_⟩
  rw [List.length_append]
  exact if_pos ⟨rfl, rfl, rfl⟩
/-- a row is copied behind the others -/
theorem rwA_1 {X : List Nat} {x k0 : Nat} (h : RwA t M X) (hk : k0 = X.length) (vv : Int32) (hv : vv = nI x) : RwA t (fm_sI M 3 (M.2.2 415 t 0) k0 vv) (X ++ [x]) := by
  intro k hk8
  show (fm_sI M 3 (M.2.2 415 t 0) k0 vv).1 3 (M.2.2 415 t 0) k = _
  rw [rI]
  by_cases e : k = k0
  · rw [if_pos ⟨rfl, rfl, e⟩, e, hk, gD_e, hv]
  · rw [if_neg (fun q => e q.2.2), h k hk8]
    by_cases q2 : k < X.length
    · rw [gD_a q2]
    · rw [List.getD_eq_getElem?_getD, List.getD_eq_getElem?_getD, List.getElem?_eq_none (by omega), List.getElem?_eq_none (by rw [len_a]; omega)]
theorem take_s {S : List Nat} {k : Nat} (h : k < S.length) : S.take (k + 1) = S.take k ++ [S.getD k 0] := by
  rw [List.take_succ, List.getD_eq_getElem?_getD, List.getElem?_eq_getElem h]
  rfl
theorem j_copyN {M0 : FM} {S NM X : List Nat} (hl : X.length + NM.length ≤ 8192) (hN : NM.length ≤ 1024) : ∀ m j k M, k + m = NM.length → m < j → VJ t M0 M S NM (X ++ NM.take k) X.length → ∃ N, (FX97_join_L fN j).2 t (nI k) M = some N ∧ VJ t M0 N S NM (X ++ NM) (X.length + NM.length) := by
  intro m
  induction m with
  | zero =>
    intro j k M hk hj V
    obtain ⟨j, rfl⟩ : ∃ y, j = y + 1 := ⟨j - 1, by omega⟩
    obtain ⟨v1, ⟨T, W, h⟩, vS, vN, vA, v6⟩ := V
    have c1 : M.1 420 t 0 ≤ nI k := by rw [vN.1]; exact (n_le (by omega) (by omega)).mpr (by omega)
    have f : Frm (PTr t M) M (fm_sI M 416 t 0 (M.1 416 t 0 + M.1 420 t 0)) := frm_I frm_r (Or.inl ⟨rfl, Or.inl rfl⟩)
    have ek : NM.take k = NM := by rw [show k = NM.length by omega, List.take_length]
    rw [ek] at vA
    refine ⟨_, ?_, ptr_t v1 f, ⟨ptr_y f h T, frt_wf f T W h, h⟩, rwS_f vS (oI (fun z => absurd z.1 (by decide))) rfl (fun k => oI (fun z => absurd z.1 (by decide))), rwS_f vN (oI (fun z => absurd z.1 (by decide))) rfl (fun k => oI (fun z => absurd z.1 (by decide))), fun i hi => (oI (fun z => absurd z.1 (by decide))).trans (vA i hi), ?_⟩
    · show FX97_join_141 fN (FX97_join_L fN j).1 (FX97_join_L fN j).2 t (nI k) M = _
      rw [(gX97_join_141 (FX97_join_L fN j).1 (FX97_join_L fN j).2 t (nI k) M T h ⟨fun _ => trivial, fun z => absurd c1 z⟩).1]
      unfold GX97_join_141
      rw [fi_pos c1]
      rfl
    · rw [rI, if_pos ⟨rfl, rfl, rfl⟩, v6, vN.1, nI_a]
  | succ m ih =>
    intro j k M hk hj V
    obtain ⟨j, rfl⟩ : ∃ y, j = y + 1 := ⟨j - 1, by omega⟩
    obtain ⟨v1, ⟨T, W, h⟩, vS, vN, vA, v6⟩ := V
    obtain ⟨n1, n2⟩ := ne_415 T W h
    have hkl : k < NM.length := by omega
    have c1 : ¬ M.1 420 t 0 ≤ nI k := fun z => by
      rw [vN.1] at z
      have := (n_le (by omega) (by omega)).mp z
      omega
    have ea : M.1 416 t 0 + nI k = nI (X.length + k) := by rw [v6, nI_a]
    have i1 : fm_in M (M.2.2 419 t 0) (nI k) = true := in_nI (N := 1024) (tL_419 T.1 h) (by omega) (by decide)
    have i2 : fm_in M (M.2.2 415 t 0) (nI (X.length + k)) = true := in_nI (N := 8192) (tL_415 T.1 h) (by omega) (by decide)
    have H : HX97_join_141 t (nI k) M := by
      unfold HX97_join_141
      dsimp only
      rw [ea]
      exact ⟨fun z => absurd z c1, fun _ => ⟨i1, i2, trivial⟩⟩
    have G : GX97_join_141 t (nI k) M = .inr (.inl (t, nI (k + 1), fm_sI M 3 (M.2.2 415 t 0) (X.length + k) (nI (NM.getD k 0)))) := by
      unfold GX97_join_141
      dsimp only
      rw [fi_neg c1, ea, o_cl (by omega), o_cl (by omega), vN.2 k hkl, up_b (by omega)]
    have f : Frm (PTr t M) M (fm_sI M 3 (M.2.2 415 t 0) (X.length + k) (nI (NM.getD k 0))) := frm_I frm_r (Or.inr ⟨rfl, Or.inl rfl⟩)
    have a1 := rwA_1 vA (k0 := X.length + k) (by rw [List.length_append, List.length_take, Nat.min_eq_left (by omega)]) (nI (NM.getD k 0)) rfl
    rw [List.append_assoc, ← take_s hkl] at a1
    show ∃ N, FX97_join_141 fN (FX97_join_L fN j).1 (FX97_join_L fN j).2 t (nI k) M = some N ∧ _
    rw [(gX97_join_141 (FX97_join_L fN j).1 (FX97_join_L fN j).2 t (nI k) M T h H).1, G]
    exact ih j (k + 1) _ (by omega) (by omega) ⟨ptr_t v1 f, ⟨ptr_y f h T, frt_wf f T W h, h⟩, rwS_f vS (oI (fun z => absurd z.1 (by decide))) rfl (fun i => oI (fun z => n1 z.2.1)), rwS_f vN (oI (fun z => absurd z.1 (by decide))) rfl (fun i => oI (fun z => n2 z.2.1)), a1, (oI (fun z => absurd z.1 (by decide))).trans v6⟩
theorem j_copyS {M0 : FM} {S NM X : List Nat} (hl : X.length + S.length + NM.length ≤ 8192) (hS : S.length ≤ 6144) (hN : NM.length ≤ 1024) : ∀ m j k M, k + m = S.length → m + NM.length + 1 < j → VJ t M0 M S NM (X ++ S.take k) X.length → ∃ N, (FX97_join_L fN j).1 t (nI k) M = some N ∧ VJ t M0 N S NM (X ++ S ++ NM) (X.length + S.length + NM.length) := by
  intro m
  induction m with
  | zero =>
    intro j k M hk hj V
    obtain ⟨j, rfl⟩ : ∃ y, j = y + 1 := ⟨j - 1, by omega⟩
    obtain ⟨v1, ⟨T, W, h⟩, vS, vN, vA, v6⟩ := V
    have c1 : M.1 418 t 0 ≤ nI k := by rw [vS.1]; exact (n_le (by omega) (by omega)).mpr (by omega)
    have f : Frm (PTr t M) M (fm_sI M 416 t 0 (M.1 416 t 0 + M.1 418 t 0)) := frm_I frm_r (Or.inl ⟨rfl, Or.inl rfl⟩)
    have ek : S.take k = S := by rw [show k = S.length by omega, List.take_length]
    rw [ek] at vA
    have V2 : VJ t M0 (fm_sI M 416 t 0 (M.1 416 t 0 + M.1 418 t 0)) S NM (X ++ S ++ NM.take 0) (X ++ S).length := by
      rw [List.take_zero, List.append_nil]
      refine ⟨ptr_t v1 f, ⟨ptr_y f h T, frt_wf f T W h, h⟩, rwS_f vS (oI (fun z => absurd z.1 (by decide))) rfl (fun k => oI (fun z => absurd z.1 (by decide))), rwS_f vN (oI (fun z => absurd z.1 (by decide))) rfl (fun k => oI (fun z => absurd z.1 (by decide))), fun i hi => (oI (fun z => absurd z.1 (by decide))).trans (vA i hi), ?_⟩
      rw [rI, if_pos ⟨rfl, rfl, rfl⟩, v6, vS.1, nI_a, List.length_append]
    obtain ⟨N, g1, g2⟩ := j_copyN (X := X ++ S) (by rw [List.length_append]; omega) hN NM.length j 0 _ (by omega) (by omega) V2
    rw [List.length_append] at g2
    refine ⟨N, ?_, g2⟩
    show FX97_join_95 fN (FX97_join_L fN j).1 (FX97_join_L fN j).2 t (nI k) M = _
    rw [(gX97_join_95 (FX97_join_L fN j).1 (FX97_join_L fN j).2 t (nI k) M T h ⟨fun _ => trivial, fun z => absurd c1 z⟩).1]
    unfold GX97_join_95
    rw [fi_pos c1]
    exact g1
  | succ m ih =>
    intro j k M hk hj V
    obtain ⟨j, rfl⟩ : ∃ y, j = y + 1 := ⟨j - 1, by omega⟩
    obtain ⟨v1, ⟨T, W, h⟩, vS, vN, vA, v6⟩ := V
    obtain ⟨n1, n2⟩ := ne_415 T W h
    have hkl : k < S.length := by omega
    have c1 : ¬ M.1 418 t 0 ≤ nI k := fun z => by
      rw [vS.1] at z
      have := (n_le (by omega) (by omega)).mp z
      omega
    have ea : M.1 416 t 0 + nI k = nI (X.length + k) := by rw [v6, nI_a]
    have i1 : fm_in M (M.2.2 417 t 0) (nI k) = true := in_nI (N := 6144) (tL_417 T.1 h) (by omega) (by decide)
    have i2 : fm_in M (M.2.2 415 t 0) (nI (X.length + k)) = true := in_nI (N := 8192) (tL_415 T.1 h) (by omega) (by decide)
    have H : HX97_join_95 t (nI k) M := by
      unfold HX97_join_95
      dsimp only
      rw [ea]
      exact ⟨fun z => absurd z c1, fun _ => ⟨i1, i2, trivial⟩⟩
    have G : GX97_join_95 t (nI k) M = .inl (t, nI (k + 1), fm_sI M 3 (M.2.2 415 t 0) (X.length + k) (nI (S.getD k 0))) := by
      unfold GX97_join_95
      dsimp only
      rw [fi_neg c1, ea, o_cl (by omega), o_cl (by omega), vS.2 k hkl, up_b (by omega)]
    have f : Frm (PTr t M) M (fm_sI M 3 (M.2.2 415 t 0) (X.length + k) (nI (S.getD k 0))) := frm_I frm_r (Or.inr ⟨rfl, Or.inl rfl⟩)
    have a1 := rwA_1 vA (k0 := X.length + k) (by rw [List.length_append, List.length_take, Nat.min_eq_left (by omega)]) (nI (S.getD k 0)) rfl
    rw [List.append_assoc, ← take_s hkl] at a1
    show ∃ N, FX97_join_95 fN (FX97_join_L fN j).1 (FX97_join_L fN j).2 t (nI k) M = some N ∧ _
    rw [(gX97_join_95 (FX97_join_L fN j).1 (FX97_join_L fN j).2 t (nI k) M T h H).1, G]
    exact ih j (k + 1) _ (by omega) (by omega) ⟨ptr_t v1 f, ⟨ptr_y f h T, frt_wf f T W h, h⟩, rwS_f vS (oI (fun z => absurd z.1 (by decide))) rfl (fun i => oI (fun z => n1 z.2.1)), rwS_f vN (oI (fun z => absurd z.1 (by decide))) rfl (fun i => oI (fun z => n2 z.2.1)), a1, (oI (fun z => absurd z.1 (by decide))).trans v6⟩
/-- the head of the joined row -/
def hdT (sl nl : Nat) : List Nat := (((((((((be4 3490578157 ++ be4 (56 + sl + nl)) ++ be4 56) ++ be4 (56 + sl)) ++ be4 40) ++ be4 17) ++ be4 16) ++ be4 0) ++ be4 nl) ++ be4 sl)
/-- the joined row -/
def joL (S NM : List Nat) : List Nat := (hdT S.length NM.length ++ List.replicate 16 0) ++ S ++ NM
theorem X97_join {M0 : FM} {S NM : List Nat} (hS : S.length ≤ 6144) (hN : NM.length ≤ 1024) (V : VJ t M0 M S NM [] 0) : HX97_join t M ∧ ∃ N, GX97_join t M = N ∧ VJ t M0 N S NM (joL S NM) (56 + S.length + NM.length) := by
  have l63 : ∀ {n : Nat}, n < 65536 → ul (lN n) = n ∧ ul (lN n) < 9223372036854775808 := fun {n} h => ⟨l_big (by omega), by rw [l_big (by omega)]; omega⟩
  have v0 : ul (Int64.ofInt 3490578157) = 3490578157 := rfl
  obtain ⟨p1, q1⟩ := j_head (X := []) V (v := Int64.ofInt 3490578157) (by decide) (by decide)
  rw [List.nil_append, v0] at q1
  have e2 : ((Int32.ofInt 56 + (GX97_head t (Int64.ofInt 3490578157) M).1 418 t 0) + (GX97_head t (Int64.ofInt 3490578157) M).1 420 t 0).toInt64 = lN (56 + S.length + NM.length) := by
    rw [q1.2.2.1.1, q1.2.2.2.1.1, show Int32.ofInt 56 = nI 56 from rfl, nI_a, nI_a, o_64 (by omega)]
  obtain ⟨p2, q2⟩ := j_head q1 (v := lN (56 + S.length + NM.length)) (l63 (by omega)).2 (by decide)
  rw [(l63 (show 56 + S.length + NM.length < 65536 by omega)).1] at q2
  have lx : ∀ (Y : List Nat) (n : Nat), (Y ++ be4 n).length = Y.length + 4 := fun Y n => by rw [List.length_append]; rfl
  have b4 : ∀ n, (be4 n).length = 4 := fun _ => rfl
  obtain ⟨p3, q3⟩ := j_head q2 (v := Int64.ofInt 56) (by decide) (by rw [lx, b4]; decide)
  have e4 : (Int32.ofInt 56 + (GX97_head t (Int64.ofInt 56) (GX97_head t (lN (56 + S.length + NM.length)) (GX97_head t (Int64.ofInt 3490578157) M))).1 418 t 0).toInt64 = lN (56 + S.length) := by
    rw [q3.2.2.1.1, show Int32.ofInt 56 = nI 56 from rfl, nI_a, o_64 (by omega)]
  obtain ⟨p4, q4⟩ := j_head q3 (v := lN (56 + S.length)) (l63 (by omega)).2 (by rw [lx, lx, b4]; decide)
  rw [(l63 (show 56 + S.length < 65536 by omega)).1] at q4
  obtain ⟨p5, q5⟩ := j_head q4 (v := Int64.ofInt 40) (by decide) (by rw [lx, lx, lx, b4]; decide)
  obtain ⟨p6, q6⟩ := j_head q5 (v := Int64.ofInt 17) (by decide) (by rw [lx, lx, lx, lx, b4]; decide)
  obtain ⟨p7, q7⟩ := j_head q6 (v := Int64.ofInt 16) (by decide) (by rw [lx, lx, lx, lx, lx, b4]; decide)
  obtain ⟨p8, q8⟩ := j_head q7 (v := Int64.ofInt 0) (by decide) (by rw [lx, lx, lx, lx, lx, lx, b4]; decide)
  generalize hM8 : GX97_head t (Int64.ofInt 0) (GX97_head t (Int64.ofInt 16) (GX97_head t (Int64.ofInt 17) (GX97_head t (Int64.ofInt 40) (GX97_head t (lN (56 + S.length)) (GX97_head t (Int64.ofInt 56) (GX97_head t (lN (56 + S.length + NM.length)) (GX97_head t (Int64.ofInt 3490578157) M))))))) = M8 at *
  have e9 : (M8.1 420 t 0).toInt64 = lN NM.length := by rw [q8.2.2.2.1.1, o_64 (by omega)]
  obtain ⟨p9, q9⟩ := j_head q8 (v := lN NM.length) (l63 (by omega)).2 (by rw [lx, lx, lx, lx, lx, lx, lx, b4]; decide)
  rw [(l63 (show NM.length < 65536 by omega)).1] at q9
  have e10 : ((GX97_head t (lN NM.length) M8).1 418 t 0).toInt64 = lN S.length := by rw [q9.2.2.1.1, o_64 (by omega)]
  obtain ⟨p10, q10⟩ := j_head q9 (v := lN S.length) (l63 (by omega)).2 (by rw [lx, lx, lx, lx, lx, lx, lx, lx, b4]; decide)
  rw [(l63 (show S.length < 65536 by omega)).1] at q10
  have l40 : (hdT S.length NM.length).length = 40 := by
    unfold hdT
    rw [lx, lx, lx, lx, lx, lx, lx, lx, lx, b4]
  have G0 : GX97_join_0 t M = .inl (t, Int32.ofInt 0, fm_sI (GX97_head t (lN S.length) (GX97_head t (lN NM.length) M8)) 416 t 0 (Int32.ofInt 56)) := by
    unfold GX97_join_0
    dsimp only
    rw [e2, e4, hM8, e9, e10]
  have H0 : HX97_join_0 t M := by
    unfold HX97_join_0
    dsimp only
    rw [e2, e4, hM8, e9, e10]
    exact ⟨p1, p2, p3, p4, p5, p6, p7, p8, p9, p10, trivial⟩
  generalize GX97_head t (lN S.length) (GX97_head t (lN NM.length) M8) = Ma at *
  obtain ⟨v1, ⟨T, W, h⟩, vS, vN, vA, v6⟩ := q10
  have vA : RwA t Ma (hdT S.length NM.length) := vA
  have f : Frm (PTr t Ma) Ma (fm_sI Ma 416 t 0 (Int32.ofInt 56)) := frm_I frm_r (Or.inl ⟨rfl, Or.inl rfl⟩)
  have vA2 : RwA t (fm_sI Ma 416 t 0 (Int32.ofInt 56)) (hdT S.length NM.length ++ List.replicate 16 0) := fun k hk => by
    refine (oI (fun z => absurd z.1 (by decide))).trans ((vA k hk).trans ?_)
    by_cases q : k < 40
    · rw [gD_a (by rw [l40]; exact q)]
    · rw [List.getD_eq_getElem?_getD, List.getElem?_eq_none (by rw [l40]; omega)]
      have e : k = (hdT S.length NM.length).length + (k - 40) := by rw [l40]; omega
      rw [e, gD_r]
      by_cases q2 : k - 40 < 16
      · rw [List.getD_eq_getElem?_getD, List.getElem?_replicate, if_pos q2]
        rfl
      · rw [List.getD_eq_getElem?_getD, List.getElem?_eq_none (by rw [List.length_replicate]; omega)]
  have l56 : (hdT S.length NM.length ++ List.replicate 16 0).length = 56 := by rw [List.length_append, l40, List.length_replicate]
  have VV : VJ t M0 (fm_sI Ma 416 t 0 (Int32.ofInt 56)) S NM ((hdT S.length NM.length ++ List.replicate 16 0) ++ S.take 0) (hdT S.length NM.length ++ List.replicate 16 0).length := by
    rw [List.take_zero, List.append_nil, l56]
    exact ⟨ptr_t v1 f, ⟨ptr_y f h T, frt_wf f T W h, h⟩, rwS_f vS (oI (fun z => absurd z.1 (by decide))) rfl (fun k => oI (fun z => absurd z.1 (by decide))), rwS_f vN (oI (fun z => absurd z.1 (by decide))) rfl (fun k => oI (fun z => absurd z.1 (by decide))), vA2, if_pos ⟨rfl, rfl, rfl⟩⟩
  obtain ⟨N, g1, g2⟩ := j_copyS (X := hdT S.length NM.length ++ List.replicate 16 0) (by rw [l56]; omega) hS hN S.length fN 0 _ (by omega) (by unfold fN; omega) VV
  rw [l56] at g2
  have Ax : FX97_join fN t M = some N := by
    show FX97_join_0 fN (FX97_join_L fN fN).1 (FX97_join_L fN fN).2 t M = _
    rw [(gX97_join_0 (FX97_join_L fN fN).1 (FX97_join_L fN fN).2 t M V.2.1.1 V.2.1.2.2 H0).1, G0]
    exact g1
  obtain ⟨h1, x1⟩ := op_of (d := M) Ax (P := OkV M) ⟨g2.2.1.1, fun b _ => by rw [g2.1.1, V.1.1]; exact ⟨rfl, rfl⟩⟩
  exact ⟨h1, N, x1, g2⟩
end Jo
