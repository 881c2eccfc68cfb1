/-! trees: the component's Press lays a node down -/
set_option maxRecDepth 100000
def pI (q : Pp) : Itm := (3, q.1, q.2)
def okP (q : Pp) : Prop := q.1.length ≤ 31 ∧ (∀ x, x ∈ q.1 → 0 < x ∧ x < 128) ∧ q.2.length ≤ 90
def okT (m : Nat) (x : Nd) : Prop := x.1.length ≤ 40 ∧ 1 ≤ x.2.2.1 ∧ x.2.2.1 ≤ 100 ∧ x.2.2.2.1 + x.2.2.2.2 ≤ m
/-- the same, computed -/
def okPb (q : Pp) : Bool := Nat.ble q.1.length 31 && q.1.all (fun x => Nat.ble 1 x && Nat.ble x 127) && Nat.ble q.2.length 90
def okTb (m : Nat) (x : Nd) : Bool := Nat.ble x.1.length 40 && Nat.ble 1 x.2.2.1 && Nat.ble x.2.2.1 100 && Nat.ble (x.2.2.2.1 + x.2.2.2.2) m
theorem okP_b {q : Pp} (h : okPb q = true) : okP q := by
  unfold okPb at h
  rw [Bool.and_eq_true, Bool.and_eq_true, List.all_eq_true] at h
  obtain ⟨⟨h1, h2⟩, h3⟩ := h
  refine ⟨Nat.le_of_ble_eq_true h1, fun x hx => ?_, Nat.le_of_ble_eq_true h3⟩
  have := h2 x hx
  rw [Bool.and_eq_true] at this
  have a1 := Nat.le_of_ble_eq_true this.1
  have a2 := Nat.le_of_ble_eq_true this.2
  omega
theorem okT_b {m : Nat} {x : Nd} (h : okTb m x = true) : okT m x := by
  unfold okTb at h
  rw [Bool.and_eq_true, Bool.and_eq_true, Bool.and_eq_true] at h
  obtain ⟨⟨⟨h1, h2⟩, h3⟩, h4⟩ := h
  exact ⟨Nat.le_of_ble_eq_true h1, Nat.le_of_ble_eq_true h2, Nat.le_of_ble_eq_true h3, Nat.le_of_ble_eq_true h4⟩
section Pd
variable {p t n k kn : Nat} {M N : FM} {W S X NM : List Nat} {s : DSt} {L : List (List Nat)}
theorem drp {P : List Pp} (h : k < P.length) (m : Nat) : (P.drop k).take (m + 1) = P.getD k pp0 :: (P.drop (k + 1)).take m := by
  rw [List.drop_eq_getElem_cons h, List.take_succ_cons, List.getD_eq_getElem?_getD, List.getElem?_eq_getElem h]
  rfl
theorem pd_L (hkn : kn < s.1.length) (hT : s.1.length ≤ 128) (hP : s.2.1.length ≤ 512) (hq : ∀ q, q ∈ s.2.1 → okP q) {e : Nat} (he : e = (s.1.getD kn nd0).2.2.2.1 + (s.1.getD kn nd0).2.2.2.2) (he2 : e ≤ s.2.1.length) : ∀ m j k n M S L, k + m = e → m < j → VPr p t n M W s (S, L) → n + 2 * m ≤ 500 →
    ∃ N, FX9_node_L53 fN j p t (ndc t M.2.2 kn) (nI k) M = some N ∧ N.2.2 = M.2.2 ∧ Ext M N ∧ VPr p t (n + 2 * m) N W s (rdr (((s.2.1.drop k).take m).map pI) (S, L)) := by
  intro m
  induction m with
  | zero =>
    intro j k n M S L hk hj V hn
    obtain ⟨j, rfl⟩ : ∃ y, j = y + 1 := ⟨j - 1, by omega⟩
    obtain ⟨⟨x1, x2, x3, x4⟩, -⟩ := V.2.1.1.2.2.1 kn hkn
    have i82 := st_n V.1.1 V.1.2.2.1 (k := kn) (by omega)
    have c1 : M.1 251 (ndc t M.2.2 kn) 0 + M.1 252 (ndc t M.2.2 kn) 0 ≤ nI k := by
      rw [x3, x4, nI_a, ← he]
      exact (n_le (by omega) (by omega)).mpr (by omega)
    refine ⟨M, ?_, rfl, ext_r M, V⟩
    show FX9_node_53 fN (FX9_node_L53 fN j) p t (ndc t M.2.2 kn) (nI k) M = _
    rw [(gX9_node_53 (FX9_node_L53 fN j) p t (ndc t M.2.2 kn) (nI k) M V.1.1 i82 V.1.2.2.1.1 V.1.2.1 ⟨fun _ => trivial, fun z => absurd c1 z⟩).1]
    unfold GX9_node_53
    rw [fi_pos c1]
    rfl
  | succ m ih =>
    intro j k n M S L hk hj V hn
    obtain ⟨j, rfl⟩ : ∃ y, j = y + 1 := ⟨j - 1, by omega⟩
    obtain ⟨⟨x1, x2, x3, x4⟩, -⟩ := V.2.1.1.2.2.1 kn hkn
    have i82 := st_n V.1.1 V.1.2.2.1 (k := kn) (by omega)
    have c1 : ¬ M.1 251 (ndc t M.2.2 kn) 0 + M.1 252 (ndc t M.2.2 kn) 0 ≤ nI k := by
      rw [x3, x4, nI_a, ← he]
      intro z
      have := (n_le (by omega) (by omega)).mp z
      omega
    have hk2 : k < s.2.1.length := by omega
    obtain ⟨o1, o2, o3⟩ := hq (s.2.1.getD k pp0) (by rw [List.getD_eq_getElem?_getD, List.getElem?_eq_getElem hk2]; exact List.getElem_mem hk2)
    have i85 := st_p V.1.1 V.1.2.2.1 (k := k) (by omega)
    have i3 : fm_in M (M.2.2 265 t 0) (nI k) = true := in_nI V.1.2.2.1.2.2.1 (by omega) (by decide)
    have b1 : S.length ≤ 128 * n := V.2.2.2.2.2.1
    have l4 : ∀ n, (be4 n).length = 4 := fun _ => rfl
    have ip0 := tN_258 V.1.1.1 i85
    obtain ⟨p1, a1, r1, q1⟩ := pr_nu (n' := n + 1) (v := 3) V (by decide) (by omega) (by omega) (by omega)
    have e1 : GX3_addNumber (M.2.2 256 p 0) (Int32.ofInt 3) M = GX3_addNumber (M.2.2 256 p 0) (nI 3) M := rfl
    generalize GX3_addNumber (M.2.2 256 p 0) (nI 3) M = M1 at e1 a1 r1 q1
    obtain ⟨-, -, -, h2, -⟩ := q1.2.1.1.2.2.2 k hk2
    rw [r1] at h2
    obtain ⟨p2, a2, r2, q2⟩ := pr_nu (n' := n + 1) (v := (s.2.1.getD k pp0).2.length) q1 (by omega) (by simp only [List.length_append, l4]; omega) (by omega) (by omega)
    rw [r1] at p2 a2 r2 q2
    generalize e2 : GX3_addNumber (M.2.2 256 p 0) (nI (s.2.1.getD k pp0).2.length) M1 = M2 at a2 r2 q2
    have f1 := (q2.2.1.1.2.2.2 k hk2).1
    rw [r2] at f1
    have pc : fm_is M2 83 83 (M.2.2 258 (ppc t M.2.2 k) 0) = true := by
      rw [fm_is, r2]
      exact ip0
    obtain ⟨p3, c3, b3, a3, r3, q3⟩ := pr_name (n' := n + 2) q2 pc f1 o2 o1 (by omega) (by omega)
    rw [r2] at r3
    generalize e3 : (GX9_nameAt p t (M.2.2 258 (ppc t M.2.2 k) 0) M2).2 = M3 at a3 r3 q3
    obtain ⟨p4, a4, r4, q4⟩ := pr_nu (n' := n + 2) (v := plN (s.2.1.getD k pp0).1 L) q3 (by omega) (by simp only [List.length_append, l4]; omega) (by omega) (by omega)
    rw [r3] at p4 a4 r4 q4
    generalize e4 : GX3_addNumber (M.2.2 256 p 0) (nI (plN (s.2.1.getD k pp0).1 L)) M3 = M4 at a4 r4 q4
    have f2 := (q4.2.1.1.2.2.2 k hk2).2
    rw [r4] at f2
    obtain ⟨p5, a5, r5, q5⟩ := pr_pc (n' := n + 2) q4 f2 (by simp only [List.length_append, l4]; omega) (by omega) (by omega)
    rw [r4] at p5 a5 r5 q5
    generalize e5 : GX3_addAll (M.2.2 256 p 0) (M.2.2 263 t 0) (M4.1 254 (M.2.2 259 (ppc t M.2.2 k) 0) 0) (M4.1 255 (M.2.2 259 (ppc t M.2.2 k) 0) 0) M4 = M5 at a5 r5 q5
    obtain ⟨p6, a6, r6, q6⟩ := pr_fil (n' := n + 2) q5 (by simp only [List.length_append, l4]; omega) (by omega) (by omega)
    rw [r5] at p6 a6 r6 q6
    generalize e6 : GX3_fillUp (M.2.2 256 p 0) M5 = M6 at a6 r6 q6
    have A : HX9_node_53 p t (ndc t M.2.2 kn) (nI k) M ∧ GX9_node_53 p t (ndc t M.2.2 kn) (nI k) M = .inl (p, t, ndc t M.2.2 kn, nI (k + 1), M6) := by
      unfold HX9_node_53 GX9_node_53
      dsimp only
      rw [fi_neg c1, o_cl (by omega), show M.2.2 3 (M.2.2 265 t 0) k = ppc t M.2.2 k from rfl, e1, r1, h2, e2, r2, c3, e3, e4, r4, e5, r5, e6, up_g]
      exact ⟨⟨fun z => absurd z c1, fun _ => ⟨i3, p1, p2, p3, p4, p5, p6, trivial⟩⟩, rfl⟩
    obtain ⟨N, g1, g2, g3, g4⟩ := ih j (k + 1) (n + 2) M6 _ _ (by omega) (by omega) q6 (by omega)
    refine ⟨N, ?_, g2.trans r6, ext_tr a1 (ext_tr a2 (ext_tr a3 (ext_tr a4 (ext_tr a5 (ext_tr a6 g3))))), ?_⟩
    · show FX9_node_53 fN (FX9_node_L53 fN j) p t (ndc t M.2.2 kn) (nI k) M = _
      rw [(gX9_node_53 (FX9_node_L53 fN j) p t (ndc t M.2.2 kn) (nI k) M V.1.1 i82 V.1.2.2.1.1 V.1.2.1 A.1).1, A.2]
      show FX9_node_L53 fN j p t (ndc t M.2.2 kn) (nI (k + 1)) M6 = _
      rw [show ndc t M.2.2 kn = ndc t M6.2.2 kn by rw [r6]]
      exact g1
    · rw [show n + 2 * (m + 1) = n + 2 + 2 * m by omega, drp hk2, List.map_cons]
      exact g4
/-- what a node is in a document: its name, its properties -/
def ndI (P : List Pp) (x : Nd) : List Itm := (1, x.1, []) :: ((P.drop x.2.2.2.1).take x.2.2.2.2).map pI
theorem X9_node (hkn : kn < s.1.length) (hT : s.1.length ≤ 128) (hP : s.2.1.length ≤ 512) (hq : ∀ q, q ∈ s.2.1 → okP q) (ok : okT s.2.1.length (s.1.getD kn nd0)) (V : VPr p t n M W s (S, L)) (hn : n + 2 * (s.1.getD kn nd0).2.2.2.2 + 1 ≤ 500) :
    HX9_node p t (ndc t M.2.2 kn) M ∧ ∃ N, GX9_node p t (ndc t M.2.2 kn) M = N ∧ N.2.2 = M.2.2 ∧ Ext M N ∧ VPr p t (n + 2 * (s.1.getD kn nd0).2.2.2.2 + 1) N W s (rdr (ndI s.2.1 (s.1.getD kn nd0)) (S, L)) := by
  obtain ⟨k1, k2, k3, k4⟩ := ok
  have b1 : S.length ≤ 128 * n := V.2.2.2.2.2.1
  have l4 : ∀ n, (be4 n).length = 4 := fun _ => rfl
  have i82 := st_n V.1.1 V.1.2.2.1 (k := kn) (by omega)
  obtain ⟨p1, a1, r1, q1⟩ := pr_nu (n' := n + 1) (v := 1) V (by decide) (by omega) (by omega) (by omega)
  have e1 : GX3_addNumber (M.2.2 256 p 0) (Int32.ofInt 1) M = GX3_addNumber (M.2.2 256 p 0) (nI 1) M := rfl
  generalize GX3_addNumber (M.2.2 256 p 0) (nI 1) M = M1 at e1 a1 r1 q1
  have f1 := (q1.2.1.1.2.2.1 kn hkn).2
  rw [r1] at f1
  obtain ⟨p2, a2, r2, q2⟩ := pr_pn (n' := n + 1) q1 f1 (by simp only [List.length_append, l4]; omega) (by omega) (by omega)
  rw [r1] at p2 a2 r2 q2
  generalize e2 : GX3_addAll (M.2.2 256 p 0) (M.2.2 263 t 0) (M1.1 254 (M.2.2 248 (ndc t M.2.2 kn) 0) 0) (M1.1 255 (M.2.2 248 (ndc t M.2.2 kn) 0) 0) M1 = M2 at a2 r2 q2
  obtain ⟨p3, a3, r3, q3⟩ := pr_by (n' := n + 1) q2 (by simp only [List.length_append, l4]; omega) (by omega) (by omega)
  rw [r2] at p3 a3 r3 q3
  generalize e3 : GX3_add (M.2.2 256 p 0) (Int32.ofInt 0) M2 = M3 at a3 r3 q3
  obtain ⟨p4, a4, r4, q4⟩ := pr_fil (n' := n + 1) q3 (by simp only [List.length_append, l4, List.length_singleton]; omega) (by omega) (by omega)
  rw [r3] at p4 a4 r4 q4
  generalize e4 : GX3_fillUp (M.2.2 256 p 0) M3 = M4 at a4 r4 q4
  obtain ⟨⟨-, -, h3, -⟩, -⟩ := q4.2.1.1.2.2.1 kn hkn
  rw [r4] at h3
  have A : HX9_node_0 p t (ndc t M.2.2 kn) M ∧ GX9_node_0 p t (ndc t M.2.2 kn) M = .inl (p, t, ndc t M.2.2 kn, nI (s.1.getD kn nd0).2.2.2.1, M4) := by
    unfold HX9_node_0 GX9_node_0
    dsimp only
    rw [e1, r1, e2, r2, e3, r3, e4, h3]
    exact ⟨⟨p1, p2, p3, p4, trivial⟩, rfl⟩
  obtain ⟨N, g1, g2, g3, g4⟩ := pd_L hkn hT hP hq rfl k4 (s.1.getD kn nd0).2.2.2.2 fN (s.1.getD kn nd0).2.2.2.1 (n + 1) M4 _ _ rfl (by unfold fN; omega) q4 (by omega)
  have Ax : FX9_node fN p t (ndc t M.2.2 kn) M = some N := by
    show FX9_node_0 fN (FX9_node_L53 fN fN) p t (ndc t M.2.2 kn) M = _
    rw [(gX9_node_0 (FX9_node_L53 fN fN) p t (ndc t M.2.2 kn) M V.1.1 V.1.2.1 V.1.2.2.1.1 i82 A.1).1, A.2]
    show FX9_node_L53 fN fN p t (ndc t M.2.2 kn) (nI (s.1.getD kn nd0).2.2.2.1) M4 = _
    rw [show ndc t M.2.2 kn = ndc t M4.2.2 kn by rw [r4]]
    exact g1
  have E := ext_tr a1 (ext_tr a2 (ext_tr a3 (ext_tr a4 g3)))
  obtain ⟨x1, x2⟩ := op_of (d := M) Ax (P := OkV M) ⟨g4.1.1, E⟩
  refine ⟨x1, N, x2, g2.trans r4, E, ?_⟩
  rw [show n + 2 * (s.1.getD kn nd0).2.2.2.2 + 1 = n + 1 + 2 * (s.1.getD kn nd0).2.2.2.2 by omega]
  exact g4
end Pd
