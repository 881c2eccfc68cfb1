/-! disks: what is gathered, told apart; where data begin; sectors -/
set_option maxRecDepth 100000
/-- behind an open block all are open -/
def opn : Bool → List Blk → Prop
  | _, [] => True
  | po, x :: t => (po = true → x.2.2 = true) ∧ opn x.2.2 t
theorem opn_t : ∀ l, opn true l → ∀ x, x ∈ l → x.2.2 = true
  | [], _, x, h => by cases h
  | y :: t, h, x, hx => by
    rcases List.mem_cons.mp hx with rfl | hx
    · exact h.1 rfl
    · have h2 := h.2
      rw [h.1 rfl] at h2
      exact opn_t t h2 x hx
theorem opn_s : ∀ l po, opn po l → ∃ a b, l = a ++ b ∧ (∀ x, x ∈ a → x.2.2 = false) ∧ ∀ x, x ∈ b → x.2.2 = true
  | [], _, _ => ⟨[], [], rfl, fun x h => by (cases h), fun x h => by (cases h)⟩
  | y :: t, po, h => by
    cases e : y.2.2 with
    | true =>
      have h2 := h.2
      rw [e] at h2
      refine ⟨[], y :: t, rfl, fun x h => by (cases h), fun x hx => ?_⟩
      rcases List.mem_cons.mp hx with rfl | hx
      · exact e
      · exact opn_t t h2 x hx
    | false =>
      obtain ⟨a, b, h1, h2, h3⟩ := opn_s t y.2.2 h.2
      refine ⟨y :: a, b, by rw [h1]; rfl, fun x hx => ?_, h3⟩
      rcases List.mem_cons.mp hx with rfl | hx
      · exact e
      · exact h2 x hx
theorem gth_ok {nu : Int64 → Nat → Int64} {size : Nat} {bl : Int64} : ∀ m k po l, gthL nu size bl m k po = some l → l.length ≤ m ∧ (∀ x, x ∈ l → x.2.1 = 0 ∨ inR x.1 (ul x.2.1)) ∧ opn po l := by
  intro m
  induction m with
  | zero => intro k po l h; cases h
  | succ m ih =>
    intro k po l h
    unfold gthL at h
    by_cases h1 : k < size ∧ inR (gB bl k) 16
    · rw [fi_pos h1] at h
      by_cases h2 : gOk nu bl k po
      · rw [fi_pos h2] at h
        have o1 : po = true → (gBk nu bl k).2.2 = true := fun q => by
          by_cases z : ib (gMk nu bl k) 1 = true
          · exact z
          · exact absurd ⟨q, by simpa using z⟩ h2.2.1
        by_cases h3 : ib (gMk nu bl k) 0 = true
        · rw [fi_pos h3] at h
          cases e : gthL nu size bl m (ul (nu (gB bl k + Int64.ofInt 14) 2)) (ib (gMk nu bl k) 1) with
          | none => rw [e] at h; cases h
          | some t =>
            rw [e] at h
            have h : some (gBk nu bl k :: t) = some l := h
            cases h
            obtain ⟨i1, i2, i3⟩ := ih _ _ t e
            refine ⟨by rw [List.length_cons]; omega, fun x hx => ?_, o1, i3⟩
            rcases List.mem_cons.mp hx with rfl | hx
            · exact h2.2.2
            · exact i2 x hx
        · rw [fi_neg h3] at h
          cases h
          refine ⟨by rw [List.length_cons, List.length_nil]; omega, fun x hx => ?_, o1, trivial⟩
          rcases List.mem_cons.mp hx with rfl | hx
          · exact h2.2.2
          · cases hx
      · rw [fi_neg h2] at h
        cases h
    · rw [fi_neg h1] at h
      cases h
def sgLk (l : List Blk) : List Seg := l.map (fun x => (x.1, x.2.1))
def flB (o : Bool) (l : List Blk) : List Seg := sgLk (l.filter (fun x => x.2.2 == o))
theorem flB_a (o : Bool) (a b : List Blk) : flB o (a ++ b) = flB o a ++ flB o b := by
  unfold flB sgLk
  rw [List.filter_append, List.map_append]
theorem flB_y {o : Bool} {l : List Blk} (h : ∀ x, x ∈ l → x.2.2 = o) : flB o l = sgLk l := by
  unfold flB
  rw [List.filter_eq_self.mpr (fun x hx => by rw [h x hx]; exact beq_self_eq_true o)]
theorem flB_n {o : Bool} {l : List Blk} (h : ∀ x, x ∈ l → x.2.2 = !o) : flB o l = [] := by
  unfold flB
  rw [List.filter_eq_nil_iff.mpr (fun x hx => by rw [h x hx]; cases o <;> decide)]
  rfl
theorem clL_f (l : List Blk) : clL l = flB false l.tail := by
  unfold clL flB sgLk
  congr 2
  funext x
  cases x.2.2 <;> rfl
theorem opL_f (l : List Blk) : opL l = flB true l.tail := by
  unfold opL flB sgLk
  congr 2
  funext x
  cases x.2.2 <;> rfl
theorem drop_d {α : Type} {l : List α} {k : Nat} (h : k < l.length) (d : α) : l.drop k = l.getD k d :: l.drop (k + 1) := by
  rw [List.drop_eq_getElem_cons h, List.getD_eq_getElem?_getD, List.getElem?_eq_getElem h]
  rfl
theorem getD_mk {α β : Type} {l : List α} {k : Nat} (h : k < l.length) (f : α → β) (d : α) (e : β) : (l.map f).getD k e = f (l.getD k d) := by
  rw [List.getD_eq_getElem?_getD, List.getElem?_map, List.getD_eq_getElem?_getD, List.getElem?_eq_getElem h]
  rfl
theorem getD_ap {α : Type} {a b : List α} {k : Nat} (d : α) : (a ++ b).getD (a.length + k) d = b.getD k d := by
  rw [List.getD_eq_getElem?_getD, List.getD_eq_getElem?_getD, List.getElem?_append_right (by omega)]
  congr 2
  omega
theorem okS_g {l : List Blk} (h16 : l.length ≤ 16) (hl : ∀ x, x ∈ l → ul x.2.1 < 2 ^ 32) (hr : ∀ x, x ∈ l → x.2.1 = 0 ∨ inR x.1 (ul x.2.1)) : okS (sgLk l) := by
  unfold sgLk
  refine ⟨by rw [List.length_map]; exact h16, fun x hx => ?_⟩
  obtain ⟨y, hy, rfl⟩ := List.mem_map.mp hx
  exact ⟨hl y hy, hr y hy⟩
section Td
variable {b : Nat} {M : FM} {l : List Blk}
theorem fl_s {o : Bool} {l : List Blk} {k : Nat} (hk : k < l.length) : totS (flB o (l.drop k)) = (if (l.getD k (0, 0, false)).2.2 = o then ul (l.getD k (0, 0, false)).2.1 else 0) + totS (flB o (l.drop (k + 1))) := by
  rw [drop_d hk (0, 0, false)]
  unfold flB sgLk
  by_cases h : (l.getD k (0, 0, false)).2.2 = o
  · rw [List.filter_cons_of_pos (by rw [h]; exact beq_self_eq_true o), if_pos h]
    rfl
  · rw [List.filter_cons_of_neg (by simpa using h), if_neg h, Nat.zero_add]
theorem X95_data_L (T : Ty M) (n : fm_is M 93 93 b = true) (g : Gt b M l) (h16 : l.length ≤ 16) (o : Bool) : ∀ m j k acc, m < j → k + m = l.length →
    FX95_data_L15 fN j b (bz (o = true)) acc (nI k) M = some (acc + lN (totS (flB o (l.drop k))), M) := by
  intro m
  induction m with
  | zero =>
    intro j k acc hj hk
    obtain ⟨j, rfl⟩ : ∃ y, j = y + 1 := ⟨j - 1, by omega⟩
    have c1 : M.1 339 b 0 ≤ nI k := by rw [g.1]; exact (n_le (by omega) (by omega)).mpr (by omega)
    show FX95_data_15 fN (FX95_data_L15 fN j) _ _ _ _ _ = _
    rw [(gX95_data_15 (FX95_data_L15 fN j) b _ acc (nI k) M T n ⟨fun _ => trivial, fun q => absurd c1 q⟩).1]
    unfold GX95_data_15
    rw [fi_pos c1, List.drop_eq_nil_of_le (by omega)]
    show some (acc, M) = some (acc + lN 0, M)
    rw [show acc + lN 0 = acc from Int64.add_zero _]
  | succ m ih =>
    intro j k acc hj hk
    obtain ⟨j, rfl⟩ : ∃ y, j = y + 1 := ⟨j - 1, by omega⟩
    have hkl : k < l.length := by omega
    have c1 : ¬ M.1 339 b 0 ≤ nI k := fun q => by
      rw [g.1] at q
      have := (n_le (by omega) (by omega)).mp q
      omega
    obtain ⟨g1, g2, g3⟩ := g.2 k hkl
    have ec : (nI k).toNatClampNeg = k := o_cl (by omega)
    have i1 : fm_in M (M.2.2 342 b 0) (nI k) = true := in_nI (N := 16) (tL_342 T.1 n) (by omega) (by decide)
    have i2 : fm_in M (M.2.2 341 b 0) (nI k) = true := in_nI (N := 16) (tL_341 T.1 n) (by omega) (by decide)
    have H : HX95_data_15 b (bz (o = true)) acc (nI k) M := by
      unfold HX95_data_15
      exact ⟨fun q => absurd q c1, fun _ => ⟨i1, fun _ => ⟨i2, trivial⟩, fun _ => trivial⟩⟩
    show FX95_data_15 fN (FX95_data_L15 fN j) _ _ _ _ _ = _
    rw [(gX95_data_15 (FX95_data_L15 fN j) b _ acc (nI k) M T n H).1]
    unfold GX95_data_15 GX95_data_48
    rw [fi_neg c1]
    dsimp only
    rw [ec, g3, g2, up_b (by omega), propext (bz_eq (p := (l.getD k (0, 0, false)).2.2 = true) (q := o = true)), fl_s hkl]
    by_cases h : (l.getD k (0, 0, false)).2.2 = o
    · rw [if_pos h, fi_pos (by rw [h])]
      refine (ih j (k + 1) _ (by omega) (by omega)).trans ?_
      rw [Int64.add_assoc, show (l.getD k (0, 0, false)).2.1 + lN (totS (flB o (l.drop (k + 1)))) = lN (ul (l.getD k (0, 0, false)).2.1 + totS (flB o (l.drop (k + 1)))) from ul_inj (by rw [ul_add, ul_lN, ul_lN]; omega)]
    · rw [if_neg h, fi_neg (by revert h; cases (l.getD k (0, 0, false)).2.2 <;> cases o <;> simp), Nat.zero_add]
      exact ih j (k + 1) acc (by omega) (by omega)
theorem X95_data (T : Ty M) (n : fm_is M 93 93 b = true) (g : Gt b M l) (h16 : l.length ≤ 16) (h1 : 0 < l.length) :
    (HX95_data b (Int32.ofInt 1) M ∧ GX95_data b (Int32.ofInt 1) M = (Int64.ofInt (-1) + lN (totS (opL l)), M)) ∧ HX95_data b (Int32.ofInt 0) M ∧ GX95_data b (Int32.ofInt 0) M = (lN (totS (clL l)), M) := by
  have e0 : l.drop 1 = l.tail := List.drop_one
  have A : FX95_data fN b (Int32.ofInt 1) M = some (Int64.ofInt (-1) + lN (totS (opL l)), M) := by
    show FX95_data_0 fN (FX95_data_L15 fN fN) b (Int32.ofInt 1) M = _
    rw [(gX95_data_0 (FX95_data_L15 fN fN) b (Int32.ofInt 1) M T).1]
    unfold GX95_data_0 GX95_data_11
    rw [fi_neg (by decide), opL_f, ← e0]
    have := X95_data_L T n g h16 true (l.length - 1) fN 1 (Int64.ofInt (-1)) (by unfold fN; omega) (by omega)
    rw [show bz (true = true) = Int32.ofInt 1 from bz_t rfl] at this
    exact this
  have B : FX95_data fN b (Int32.ofInt 0) M = some (lN (totS (clL l)), M) := by
    show FX95_data_0 fN (FX95_data_L15 fN fN) b (Int32.ofInt 0) M = _
    rw [(gX95_data_0 (FX95_data_L15 fN fN) b (Int32.ofInt 0) M T).1]
    unfold GX95_data_0 GX95_data_11
    rw [fi_pos (show Int32.ofInt 0 = 0 from rfl), clL_f, ← e0]
    have := X95_data_L T n g h16 false (l.length - 1) fN 1 (Int64.ofInt 0) (by unfold fN; omega) (by omega)
    rw [show bz (false = true) = Int32.ofInt 0 from bz_f (by decide), show Int64.ofInt 0 + lN (totS (flB false (l.drop 1))) = lN (totS (flB false (l.drop 1))) from Int64.zero_add _] at this
    exact this
  obtain ⟨a1, a2⟩ := op_of (d := ((0 : Int64), M)) A (P := OkR M) ⟨T, ext_r M⟩
  obtain ⟨b1, b2⟩ := op_of (d := ((0 : Int64), M)) B (P := OkR M) ⟨T, ext_r M⟩
  exact ⟨⟨a1, a2⟩, b1, b2⟩
end Td
section Tb
variable {b : Nat} {M : FM} {h0 : Blk} {pre seg post : List Blk} {o : Bool}
theorem X95_begin_L (n : fm_is M 93 93 b = true) (g : Gt b M (h0 :: (pre ++ (seg ++ post)))) (h16 : (h0 :: (pre ++ (seg ++ post))).length ≤ 16) (hp : ∀ x, x ∈ pre → x.2.2 = !o) (hs : ∀ x, x ∈ seg → x.2.2 = o) (hn : seg ≠ []) :
    ∀ m j k M', m < j → k + m = pre.length → Frm (PTx b) M M' → Ty M' → M'.1 343 b 0 = nI (1 + k) → M'.2.1 344 b 0 = Int64.ofInt 0 →
      ∃ N, FX95_beginData_L10 fN j b (bz (o = true)) M' = some N ∧ Frm (PTx b) M N ∧ Ty N ∧ N.1 343 b 0 = nI (1 + pre.length) ∧ N.2.1 344 b 0 = Int64.ofInt 0 := by
  have hlen : (h0 :: (pre ++ (seg ++ post))).length = 1 + (pre.length + (seg.length + post.length)) := by rw [List.length_cons, List.length_append, List.length_append, Nat.add_comm]
  have hs0 : 0 < seg.length := by
    cases seg with
    | nil => exact absurd rfl hn
    | cons _ _ => exact Nat.succ_pos _
  intro m
  induction m with
  | zero =>
    intro j k M' hj hk h T' e1 e2
    obtain ⟨j, rfl⟩ : ∃ y, j = y + 1 := ⟨j - 1, by omega⟩
    have g3 := (g.2 (1 + k) (by omega)).2.2
    have ed : (h0 :: (pre ++ (seg ++ post))).getD (1 + k) (0, 0, false) = seg.getD 0 (0, 0, false) := by
      rw [Nat.add_comm, List.getD_cons_succ, show k = pre.length + 0 by omega, getD_ap]
      cases seg with
      | nil => exact absurd rfl hn
      | cons x t => rfl
    have eo : (seg.getD 0 (0, 0, false)).2.2 = o := by
      cases seg with
      | nil => exact absurd rfl hn
      | cons x t => exact hs x (List.mem_cons.mpr (Or.inl rfl))
    rw [ed, eo] at g3
    have n' := frm_is h n
    have g3' : M'.1 3 (M'.2.2 342 b 0) (1 + k) = bz (o = true) := by
      rw [h.1, (h.2 3 _ _ (fun q => by have := q.2.1; omega)).1]
      exact g3
    have c1 : M'.1 3 (M'.2.2 342 b 0) (M'.1 343 b 0).toNatClampNeg = bz (o = true) := by rw [e1, o_cl (by omega)]; exact g3'
    have H : HX95_beginData_10 b (bz (o = true)) M' := by
      unfold HX95_beginData_10
      dsimp only
      rw [e1]
      exact ⟨in_nI (N := 16) (tL_342 T'.1 n') (by omega) (by decide), trivial⟩
    refine ⟨M', ?_, h, T', by rw [e1]; congr 1; omega, e2⟩
    show FX95_beginData_10 fN (FX95_beginData_L10 fN j) _ _ _ = _
    rw [(gX95_beginData_10 (FX95_beginData_L10 fN j) b _ M' T' n' H).1]
    unfold GX95_beginData_10
    dsimp only
    rw [fi_pos c1]
    rfl
  | succ m ih =>
    intro j k M' hj hk h T' e1 e2
    obtain ⟨j, rfl⟩ : ∃ y, j = y + 1 := ⟨j - 1, by omega⟩
    have hkp : k < pre.length := by omega
    have g3 := (g.2 (1 + k) (by omega)).2.2
    have ed : (h0 :: (pre ++ (seg ++ post))).getD (1 + k) (0, 0, false) = pre.getD k (0, 0, false) := by
      rw [Nat.add_comm, List.getD_cons_succ, List.getD_eq_getElem?_getD, List.getElem?_append_left hkp, ← List.getD_eq_getElem?_getD]
    have eo : (pre.getD k (0, 0, false)).2.2 = !o := by
      rw [List.getD_eq_getElem?_getD, List.getElem?_eq_getElem hkp]
      exact hp _ (List.getElem_mem hkp)
    rw [ed, eo] at g3
    have n' := frm_is h n
    have g3' : M'.1 3 (M'.2.2 342 b 0) (1 + k) = bz ((!o) = true) := by
      rw [h.1, (h.2 3 _ _ (fun q => by have := q.2.1; omega)).1]
      exact g3
    have c1 : ¬ M'.1 3 (M'.2.2 342 b 0) (M'.1 343 b 0).toNatClampNeg = bz (o = true) := fun q => by
      rw [e1, o_cl (by omega), g3', bz_eq] at q
      cases o <;> simp at q
    have H : HX95_beginData_10 b (bz (o = true)) M' := by
      unfold HX95_beginData_10
      dsimp only
      rw [e1]
      exact ⟨in_nI (N := 16) (tL_342 T'.1 n') (by omega) (by decide), trivial⟩
    have G : GX95_beginData_10 b (bz (o = true)) M' = .inl (b, bz (o = true), fm_sI M' 343 b 0 (nI (1 + (k + 1)))) := by
      unfold GX95_beginData_10
      dsimp only
      rw [fi_neg c1, e1, up_b (by omega)]
      rfl
    show ∃ N, FX95_beginData_10 fN (FX95_beginData_L10 fN j) _ _ _ = _ ∧ _
    rw [(gX95_beginData_10 (FX95_beginData_L10 fN j) b _ M' T' n' H).1, G]
    exact ih j (k + 1) (fm_sI M' 343 b 0 (nI (1 + (k + 1)))) (by omega) (by omega) (frm_I h ⟨rfl, by decide, by decide⟩) ⟨T'.1, tyb_sI rfl T'.2⟩ (if_pos ⟨rfl, rfl, rfl⟩) e2
theorem X95_begin (T : Ty M) (n : fm_is M 93 93 b = true) (g : Gt b M (h0 :: (pre ++ (seg ++ post)))) (h16 : (h0 :: (pre ++ (seg ++ post))).length ≤ 16) (hp : ∀ x, x ∈ pre → x.2.2 = !o) (hs : ∀ x, x ∈ seg → x.2.2 = o) (hn : seg ≠ []) :
    HX95_beginData b (bz (o = true)) M ∧ ∃ N, GX95_beginData b (bz (o = true)) M = N ∧ Frm (PTx b) M N ∧ Ty N ∧ TwP b N (sgLk seg) 0 := by
  have hlen : (h0 :: (pre ++ (seg ++ post))).length = 1 + (pre.length + (seg.length + post.length)) := by rw [List.length_cons, List.length_append, List.length_append, Nat.add_comm]
  obtain ⟨N, q1, q2, q3, q4, q5⟩ := X95_begin_L n g h16 hp hs hn pre.length fN 0 (fm_sL (fm_sI M 343 b 0 (Int32.ofInt 1)) 344 b 0 (Int64.ofInt 0)) (by unfold fN; omega) (by omega) (frm_L (frm_I frm_r ⟨rfl, by decide, by decide⟩) ⟨rfl, by decide, by decide⟩) ⟨T.1, tyb_sI rfl T.2⟩ (if_pos ⟨rfl, rfl, rfl⟩) (if_pos ⟨rfl, rfl, rfl⟩)
  have A : FX95_beginData fN b (bz (o = true)) M = some N := by
    show FX95_beginData_0 fN (FX95_beginData_L10 fN fN) b (bz (o = true)) M = _
    rw [(gX95_beginData_0 (FX95_beginData_L10 fN fN) b _ M T n).1]
    exact q1
  obtain ⟨a1, a2⟩ := op_of (d := M) A (P := OkV M) ⟨q3, frm_ext q2⟩
  refine ⟨a1, N, a2, q2, q3, 1 + pre.length, ?_, q4, q5, fun j hj => ?_⟩
  · unfold sgLk
    rw [List.length_map]
    omega
  · unfold sgLk at hj ⊢
    rw [List.length_map] at hj
    have g3 := g.2 (1 + pre.length + j) (by omega)
    have ed : (h0 :: (pre ++ (seg ++ post))).getD (1 + pre.length + j) (0, 0, false) = seg.getD j (0, 0, false) := by
      rw [show 1 + pre.length + j = (pre.length + j) + 1 by omega, List.getD_cons_succ, getD_ap, List.getD_eq_getElem?_getD, List.getElem?_append_left hj, ← List.getD_eq_getElem?_getD]
    rw [ed] at g3
    rw [q2.1, (q2.2 3 _ _ (fun q => by have := q.2.1; omega)).2, (q2.2 3 _ _ (fun q => by have := q.2.1; omega)).2, getD_mk hj (fun x : Blk => (x.1, x.2.1)) (0, 0, false) (0, 0)]
    exact ⟨g3.1, g3.2.1⟩
end Tb
/-- whole sectors that there are -/
def okD (sec : Int64) (n : Nat) : Prop := 0 < n ∧ n ≤ 32768 ∧ n % 512 = 0 ∧ ul sec < 9223372036854775808 ∧ ul sec + n / 512 ≤ 2048
section Sc
variable {d b n : Nat} {M : FM} {sec : Int64}
theorem sc_r (hn : n < 1099511627776) : lN n - lN n / Int64.ofInt 512 * Int64.ofInt 512 = lN (n % 512) := ul_inj (by
  rw [l_rem (by rw [l_big (by omega)]; omega) (by decide), l_big (by omega), l_big (by omega)]
  rfl)
theorem sc_d (hn : n < 1099511627776) : lN n / Int64.ofInt 512 = lN (n / 512) := ul_inj (by
  rw [l_div (by rw [l_big (by omega)]; omega) (by decide), l_big (by omega), l_big (by omega)]
  rfl)
theorem X23_has (h : M.1 68 d 0 = Int32.ofInt 2048) (hn : n < 1099511627776) : GX23_has d sec (lN n) M = (bz (okD sec n), M) := by
  have c1 : lg_cmp (lN n) (Int64.ofInt 0) ≤ 0 ↔ n = 0 := by
    rw [show Int64.ofInt 0 = lN 0 from rfl, b_le (by omega) (by omega)]
    omega
  have c2 : 0 < lg_cmp (lN n) (Int64.ofInt 32768) ↔ 32768 < n := by
    rw [show Int64.ofInt 32768 = lN 32768 from rfl, b_gt (by omega) (by omega)]
  have c3 : lg_cmp (lN (n % 512)) (Int64.ofInt 0) = 0 ↔ n % 512 = 0 := by
    rw [show Int64.ofInt 0 = lN 0 from rfl, o_eq (by omega) (by omega)]
  have c4 : lg_cmp sec (Int64.ofInt 0) < 0 ↔ ¬ ul sec < 9223372036854775808 := by
    have := ul_lt sec
    rw [cl_lt, tl, show (Int64.ofInt 0).toInt = 0 by decide]
    split <;> omega
  unfold GX23_has GX23_has_0 GX23_has_50 GX23_has_51
  rw [propext c1, propext c2, sc_r hn, propext c3, propext c4, sc_d hn, h]
  by_cases h1 : n = 0
  · rw [fi_pos h1, bz_f (show ¬ okD sec n by unfold okD; omega)]
  rw [fi_neg h1]
  by_cases h2 : 32768 < n
  · rw [fi_pos h2, bz_f (show ¬ okD sec n by unfold okD; omega)]
  rw [fi_neg h2]
  by_cases h3 : n % 512 = 0
  · rw [fi_pos h3]
    by_cases h4 : ul sec < 9223372036854775808
    · rw [fi_neg (fun q => q h4)]
      have c5 : 0 < lg_cmp sec ((Int32.ofInt 2048).toInt64 - lN (n / 512)) ↔ 2048 < ul sec + n / 512 := by
        rw [show (Int32.ofInt 2048).toInt64 = lN 2048 from rfl, l_s (by omega) (by omega), cl_gt, tl_b (by omega), tl, if_pos h4]
        omega
      rw [propext c5]
      by_cases h5 : 2048 < ul sec + n / 512
      · rw [fi_pos h5, bz_f (show ¬ okD sec n by unfold okD; omega)]
      · rw [fi_neg h5, bz_t (show okD sec n by unfold okD; omega)]
    · rw [fi_pos h4, bz_f (show ¬ okD sec n by unfold okD; omega)]
  · rw [fi_neg h3, bz_f (show ¬ okD sec n by unfold okD; omega)]
theorem X95_areSectors (h : M.1 325 b 0 = Int32.ofInt 2048) (hn : n < 1099511627776) : GX95_areSectors b sec (lN n) M = (bz (okD sec n), M) := by
  have c1 : lg_cmp (lN n) (Int64.ofInt 0) ≤ 0 ↔ n = 0 := by
    rw [show Int64.ofInt 0 = lN 0 from rfl, b_le (by omega) (by omega)]
    omega
  have c2 : 0 < lg_cmp (lN n) (Int64.ofInt 32768) ↔ 32768 < n := by
    rw [show Int64.ofInt 32768 = lN 32768 from rfl, b_gt (by omega) (by omega)]
  have c3 : lg_cmp (lN (n % 512)) (Int64.ofInt 0) = 0 ↔ n % 512 = 0 := by
    rw [show Int64.ofInt 0 = lN 0 from rfl, o_eq (by omega) (by omega)]
  have c4 : lg_cmp sec (Int64.ofInt 0) < 0 ↔ ¬ ul sec < 9223372036854775808 := by
    have := ul_lt sec
    rw [cl_lt, tl, show (Int64.ofInt 0).toInt = 0 by decide]
    split <;> omega
  unfold GX95_areSectors GX95_areSectors_0 GX95_areSectors_60 GX95_areSectors_61
  rw [propext c1, propext c2, sc_r hn, propext c3, propext c4, sc_d hn, h]
  by_cases h1 : n = 0
  · rw [fi_pos h1, bz_f (show ¬ okD sec n by unfold okD; omega)]
  rw [fi_neg h1]
  by_cases h2 : 32768 < n
  · rw [fi_pos h2, bz_f (show ¬ okD sec n by unfold okD; omega)]
  rw [fi_neg h2]
  by_cases h3 : n % 512 = 0
  · rw [fi_pos h3]
    by_cases h4 : ul sec < 9223372036854775808
    · rw [fi_neg (fun q => q h4)]
      have c5 : 0 ≤ lg_cmp sec (Int32.ofInt 2048).toInt64 ↔ 2048 ≤ ul sec := by
        rw [show (Int32.ofInt 2048).toInt64 = lN 2048 from rfl, cl_ge, tl_b (by omega), tl, if_pos h4]
        omega
      rw [propext c5]
      by_cases h5 : 2048 ≤ ul sec
      · rw [fi_pos h5, bz_f (show ¬ okD sec n by unfold okD; omega)]
      rw [fi_neg h5]
      have c6 : 0 < lg_cmp (lN (n / 512)) ((Int32.ofInt 2048).toInt64 - sec) ↔ 2048 < ul sec + n / 512 := by
        rw [show (Int32.ofInt 2048).toInt64 = lN 2048 from rfl, show sec = lN (ul sec) from (lN_ul sec).symm, l_s (by omega) (by omega), b_gt (by omega) (by omega), l_big (by omega)]
        omega
      rw [propext c6]
      by_cases h6 : 2048 < ul sec + n / 512
      · rw [fi_pos h6, bz_f (show ¬ okD sec n by unfold okD; omega)]
      · rw [fi_neg h6, bz_t (show okD sec n by unfold okD; omega)]
    · rw [fi_pos h4, bz_f (show ¬ okD sec n by unfold okD; omega)]
  · rw [fi_neg h3, bz_f (show ¬ okD sec n by unfold okD; omega)]
end Sc
