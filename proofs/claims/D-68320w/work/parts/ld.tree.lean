/-! trees: rows are read and patched; the component finds a name or puts it behind the others -/
set_option maxRecDepth 100000
section Rr
variable {r o room roomo : Nat} {M : FM} {S Y : List Nat} {k a f many : Nat}
theorem rwB_get (h : RwB r room M S) (hk : k < S.length) : M.1 3 (M.2.2 261 r 0) k = sb8 (S.getD k 0) ∧ S.getD k 0 < 256 := ⟨h.2.2.2.1 k hk, h.2.2.2.2 _ (gD_m hk)⟩
theorem X3_get (h : RwB r room M S) (hk : k < S.length) (hl : S.length ≤ room) (hr : room ≤ 65536) : HX3_get r (nI k) M ∧ GX3_get r (nI k) M = (nI (S.getD k 0), M) := by
  obtain ⟨e, b⟩ := rwB_get h hk
  unfold HX3_get HX3_get_0 GX3_get GX3_get_0
  dsimp only
  rw [o_cl (by omega), e, sb8_and b]
  exact ⟨⟨in_nI h.2.1 (by omega) (by omega), trivial⟩, rfl⟩
theorem X3_isSame_L (T : Ty M) (h : RwB r room M S) (ho : RwB o roomo M Y) (hl : S.length ≤ room) (hr : room ≤ 65536) (hlo : Y.length ≤ roomo) (hro : roomo ≤ 65536) (h1 : a + many ≤ S.length) (h2 : f + many ≤ Y.length) : ∀ m j k, k + m = many → m < j →
    FX3_isSame_L3 fN j r (nI a) o (nI f) (nI many) (nI k) M = some (bz (∀ i, k ≤ i → i < many → S.getD (a + i) 0 = Y.getD (f + i) 0), M) := by
  intro m
  induction m with
  | zero =>
    intro j k hk hj
    obtain ⟨j, rfl⟩ : ∃ y, j = y + 1 := ⟨j - 1, by omega⟩
    have c1 : nI many ≤ nI k := (n_le (by omega) (by omega)).mpr (by omega)
    show FX3_isSame_3 fN (FX3_isSame_L3 fN j) r (nI a) o (nI f) (nI many) (nI k) M = _
    rw [(gX3_isSame_3 (FX3_isSame_L3 fN j) r (nI a) o (nI f) (nI many) (nI k) M T h.1 ho.1 ⟨fun _ => trivial, fun z => absurd c1 z⟩).1]
    unfold GX3_isSame_3
    rw [fi_pos c1, bz_t (fun i h1 h2 => by omega)]
    rfl
  | succ m ih =>
    intro j k hk hj
    obtain ⟨j, rfl⟩ : ∃ y, j = y + 1 := ⟨j - 1, by omega⟩
    have c1 : ¬ nI many ≤ nI k := fun z => by
      have := (n_le (by omega) (by omega)).mp z
      omega
    obtain ⟨e1, b1⟩ := rwB_get h (show a + k < S.length by omega)
    obtain ⟨e2, b2⟩ := rwB_get ho (show f + k < Y.length by omega)
    have H : HX3_isSame_3 r (nI a) o (nI f) (nI many) (nI k) M := by
      unfold HX3_isSame_3
      dsimp only
      rw [nI_a, nI_a]
      exact ⟨fun z => absurd z c1, fun _ => ⟨in_nI h.2.1 (by omega) (by omega), in_nI ho.2.1 (by omega) (by omega), trivial⟩⟩
    show FX3_isSame_3 fN (FX3_isSame_L3 fN j) r (nI a) o (nI f) (nI many) (nI k) M = _
    rw [(gX3_isSame_3 (FX3_isSame_L3 fN j) r (nI a) o (nI f) (nI many) (nI k) M T h.1 ho.1 H).1]
    unfold GX3_isSame_3
    dsimp only
    rw [fi_neg c1, nI_a, nI_a, o_cl (by omega), o_cl (by omega), e1, e2, sb8_e b1 b2, up_g]
    by_cases q : S.getD (a + k) 0 = Y.getD (f + k) 0
    · rw [fi_pos q]
      refine (ih j (k + 1) (by omega) (by omega)).trans ?_
      congr 3
      refine propext ⟨fun z i h1 h2 => ?_, fun z i h1 h2 => z i (by omega) h2⟩
      by_cases e : i = k
      · rw [e]; exact q
      · exact z i (by omega) h2
    · rw [fi_neg q, bz_f (fun z => q (z k (Nat.le_refl _) (by omega)))]
      rfl
theorem X3_isSame (T : Ty M) (h : RwB r room M S) (ho : RwB o roomo M Y) (hl : S.length ≤ room) (hr : room ≤ 65536) (hlo : Y.length ≤ roomo) (hro : roomo ≤ 65536) (h1 : a + many ≤ S.length) (h2 : f + many ≤ Y.length) :
    HX3_isSame r (nI a) o (nI f) (nI many) M ∧ GX3_isSame r (nI a) o (nI f) (nI many) M = (bz ((S.drop a).take many = (Y.drop f).take many), M) := by
  have q1 := X3_isSame_L T h ho hl hr hlo hro h1 h2 many fN 0 (by omega) (by unfold fN; omega)
  have Ax : FX3_isSame fN r (nI a) o (nI f) (nI many) M = some (bz (∀ i, 0 ≤ i → i < many → S.getD (a + i) 0 = Y.getD (f + i) 0), M) := by
    show FX3_isSame_0 fN (FX3_isSame_L3 fN fN) r (nI a) o (nI f) (nI many) M = _
    rw [(gX3_isSame_0 (FX3_isSame_L3 fN fN) r (nI a) o (nI f) (nI many) M T).1]
    exact q1
  have e : (∀ i, 0 ≤ i → i < many → S.getD (a + i) 0 = Y.getD (f + i) 0) = ((S.drop a).take many = (Y.drop f).take many) := by
    refine propext ⟨fun z => ?_, fun z i _ hi => ?_⟩
    · refine List.ext_getElem (by rw [List.length_take, List.length_take, List.length_drop, List.length_drop]; omega) (fun i i1 i2 => ?_)
      rw [List.length_take, List.length_drop] at i1
      have := z i (Nat.zero_le _) (by omega)
      rw [List.getElem_take, List.getElem_take, List.getElem_drop, List.getElem_drop]
      rw [List.getD_eq_getElem?_getD, List.getD_eq_getElem?_getD, List.getElem?_eq_getElem (by omega), List.getElem?_eq_getElem (by omega)] at this
      exact this
    · have := congrArg (fun l => l.getD i 0) z
      rw [List.getD_eq_getElem?_getD, List.getD_eq_getElem?_getD, List.getElem?_take_of_lt hi, List.getElem?_take_of_lt hi, List.getElem?_drop, List.getElem?_drop] at this
      rw [List.getD_eq_getElem?_getD, List.getD_eq_getElem?_getD]
      exact this
  rw [e] at Ax
  exact op_of (d := ((0 : Int32), M)) Ax (P := OkZ M) ⟨T, ext_r M, bz_z _⟩
/-- four bytes are put over others -/
def ptN (S : List Nat) (a v : Nat) : Nat → List Nat
  | 0 => S
  | i + 1 => (ptN S a v i).set (a + i) (b8 v (3 - i))
theorem rwB_s {x : Nat} (h : RwB r room M S) (hk : k < S.length) (hx : x < 256) : RwB r room (fm_sI M 3 (M.2.2 261 r 0) k (sb8 x)) (S.set k x) := by
  obtain ⟨a1, a2, a3, a4, a5⟩ := h
  refine ⟨a1, a2, by rw [List.length_set]; exact (oI (fun z => absurd z.1 (by decide))).trans a3, fun i hi => ?_, fun y hy => ?_⟩
  · rw [List.length_set] at hi
    show (fm_sI M 3 (M.2.2 261 r 0) k (sb8 x)).1 3 (M.2.2 261 r 0) i = _
    rw [rI, List.getD_eq_getElem?_getD]
    by_cases e : i = k
    · rw [if_pos ⟨rfl, rfl, e⟩, e, List.getElem?_set_self hk]
      rfl
    · rw [if_neg (fun q => e q.2.2), List.getElem?_set_ne (fun z => e z.symm), ← List.getD_eq_getElem?_getD]
      exact a4 i hi
  · rcases List.mem_or_eq_of_mem_set hy with hy | hy
    · exact a5 y hy
    · rw [hy]
      exact hx
theorem ptN_l {v : Nat} : ∀ i, (ptN S a v i).length = S.length
  | 0 => rfl
  | i + 1 => by
    show ((ptN S a v i).set _ _).length = _
    rw [List.length_set, ptN_l i]
theorem X3_put_L {v : Nat} (hv : v < 4294967296) (hl : S.length ≤ room) (hr : room ≤ 65536) (ha : a + 4 ≤ S.length) : ∀ m j i M, i + m = 4 → m < j → Ty M → RwB r room M (ptN S a v i) → ∃ N, FX3_putNumber_L2 fN j r (nI a) (nI v) (nI i) M = some N ∧ Frm (PRo r M) M N ∧ Ty N ∧ RwB r room N (ptN S a v 4) := by
  intro m
  induction m with
  | zero =>
    intro j i M hi hj T h
    obtain ⟨j, rfl⟩ : ∃ y, j = y + 1 := ⟨j - 1, by omega⟩
    have e : i = 4 := by omega
    subst e
    have c1 : Int32.ofInt 4 ≤ nI 4 := by decide
    refine ⟨M, ?_, frm_r, T, h⟩
    show FX3_putNumber_2 fN (FX3_putNumber_L2 fN j) r (nI a) (nI v) (nI 4) M = _
    rw [(gX3_putNumber_2 (FX3_putNumber_L2 fN j) r (nI a) (nI v) (nI 4) M T h.1 ⟨fun _ => trivial, fun z => absurd c1 z⟩).1]
    unfold GX3_putNumber_2
    rw [fi_pos c1]
    rfl
  | succ m ih =>
    intro j i M hi hj T h
    obtain ⟨j, rfl⟩ : ∃ y, j = y + 1 := ⟨j - 1, by omega⟩
    have c1 : ¬ Int32.ofInt 4 ≤ nI i := fun z => by
      have := (n_le (a := 4) (by omega) (by omega)).mp z
      omega
    have es : Int32.ofInt 24 - Int32.ofInt 8 * nI i = nI (8 * (3 - i)) := by
      have : i = 0 ∨ i = 1 ∨ i = 2 ∨ i = 3 := by omega
      rcases this with rfl | rfl | rfl | rfl <;> decide
    have hk : a + i < (ptN S a v i).length := by rw [ptN_l]; omega
    have s1 := rwB_s h hk (b8_lt v (3 - i))
    have T1 : Ty (fm_sI M 3 (M.2.2 261 r 0) (a + i) (sb8 (b8 v (3 - i)))) := pro_y (r := r) (frm_I frm_r (Or.inr ⟨rfl, rfl⟩)) h.1 T
    obtain ⟨N, q1, q2, q3, q4⟩ := ih j (i + 1) _ (by omega) (by omega) T1 s1
    have H : HX3_putNumber_2 r (nI a) (nI v) (nI i) M := by
      unfold HX3_putNumber_2
      dsimp only
      rw [nI_a]
      exact ⟨fun z => absurd z c1, fun _ => ⟨in_nI h.2.1 (by omega) (by omega), trivial⟩⟩
    refine ⟨N, ?_, pro_t (frm_I frm_r (Or.inr ⟨rfl, rfl⟩)) q2, q3, q4⟩
    show FX3_putNumber_2 fN (FX3_putNumber_L2 fN j) r (nI a) (nI v) (nI i) M = _
    rw [(gX3_putNumber_2 (FX3_putNumber_L2 fN j) r (nI a) (nI v) (nI i) M T h.1 H).1]
    unfold GX3_putNumber_2
    dsimp only
    rw [fi_neg c1, nI_a, o_cl (by omega), es, (sb8_d _).1, sh_n hv (by omega), up_g]
    exact q1
theorem X3_putNumber {v : Nat} (T : Ty M) (hv : v < 4294967296) (hl : S.length ≤ room) (hr : room ≤ 65536) (ha : a + 4 ≤ S.length) (h : RwB r room M S) : HX3_putNumber r (nI a) (nI v) M ∧ ∃ N, GX3_putNumber r (nI a) (nI v) M = N ∧ Frm (PRo r M) M N ∧ Ty N ∧ RwB r room N (ptN S a v 4) := by
  obtain ⟨N, q1, q2, q3, q4⟩ := X3_put_L (S := S) (a := a) hv hl hr ha 4 fN 0 M rfl (by unfold fN; omega) T h
  have Ax : FX3_putNumber fN r (nI a) (nI v) M = some N := by
    show FX3_putNumber_0 fN (FX3_putNumber_L2 fN fN) r (nI a) (nI v) M = _
    rw [(gX3_putNumber_0 (FX3_putNumber_L2 fN fN) r (nI a) (nI v) M T).1]
    exact q1
  obtain ⟨h1, g1⟩ := op_of (d := M) Ax (P := OkV M) ⟨q3, frm_ext q2⟩
  exact ⟨h1, N, g1, q2, q3, q4⟩
end Rr
section Pn
variable {p t c nm st : Nat} {M N1 N2 : FM} {W cs : List Nat}
/-- over one name -/
theorem pn_in (T : Ty M) (n1 : fm_is M 84 84 p = true) (n2 : fm_is M 87 87 t = true) (n3 : fm_is M 83 83 c = true) {A w X : List Nat} (hp : M.2.2 257 p 0 = nm) (V : RwB nm 16896 M (A ++ (w ++ 0 :: X))) (Wt : RwB (M.2.2 263 t 0) 16384 M W) (Pc : PcV c M W cs) (hW : W.length ≤ 16384) (hw : ∀ x, x ∈ w → 0 < x) (hl : (A ++ (w ++ 0 :: X)).length ≤ 16896) : ∀ m i j, i + m = w.length →
    (FX9_nameAt_L fN (j + m + 1)).2 p t c (nI A.length) (nI i) M = if w = cs then some (nI A.length, M) else (FX9_nameAt_L fN j).1 p t c (nI (A.length + w.length + 1)) M := by
  have hln : (A ++ (w ++ 0 :: X)).length = A.length + (w.length + (X.length + 1)) := by rw [List.length_append, List.length_append, List.length_cons]
  obtain ⟨o, c1, c2, c3, c4⟩ := Pc
  intro m
  induction m with
  | zero =>
    intro i j hi
    have hi' : i = w.length := by omega
    subst hi'
    obtain ⟨g1, g2⟩ := X3_get V (show A.length + w.length < _ by omega) hl (by decide)
    rw [gD_z] at g2
    have e3 : (nI w.length = nI cs.length) = (w.length = cs.length) := nI_e (by omega) (by omega)
    have sm : w.length = cs.length → HX3_isSame nm (nI A.length) (M.2.2 263 t 0) (nI o) (nI w.length) M ∧ GX3_isSame nm (nI A.length) (M.2.2 263 t 0) (nI o) (nI w.length) M = (bz (w = cs), M) := fun h => by
      obtain ⟨k1, k2⟩ := X3_isSame (a := A.length) (f := o) (many := w.length) T V Wt hl (by decide) hW (by decide) (by omega) (by omega)
      rw [List.drop_left, List.take_left, h, c4, ← h] at k2
      exact ⟨k1, k2⟩
    have H : HX9_nameAt_16 p t c (nI A.length) (nI w.length) M := by
      unfold HX9_nameAt_16
      dsimp only
      rw [hp, nI_a, g2]
      dsimp only
      rw [hp, c1, c2, e3]
      refine ⟨g1, fun _ => ⟨fun h => ⟨(sm h).1, trivial⟩, fun _ => trivial⟩, fun z => absurd rfl z⟩
    show FX9_nameAt_16 fN (FX9_nameAt_L fN j).1 (FX9_nameAt_L fN j).2 p t c (nI A.length) (nI w.length) M = _
    rw [(gX9_nameAt_16 (FX9_nameAt_L fN j).1 (FX9_nameAt_L fN j).2 p t c (nI A.length) (nI w.length) M T n1 n3 n2 H).1]
    unfold GX9_nameAt_16 GX9_nameAt_68
    dsimp only
    rw [hp, nI_a, g2]
    dsimp only
    rw [fi_pos (show nI 0 = 0 from rfl), hp, c1, c2, e3, up_g, nI_a]
    by_cases h : w.length = cs.length
    · rw [fi_pos h, (sm h).2]
      dsimp only
      by_cases q : w = cs
      · rw [fi_neg (b1_0 q), if_pos q]
        rfl
      · rw [fi_pos (b0_0 q), if_neg q]
        rfl
    · rw [fi_neg h, if_neg (fun q => h (by rw [q]))]
      rfl
  | succ m ih =>
    intro i j hi
    have hil : i < w.length := by omega
    obtain ⟨g1, g2⟩ := X3_get V (show A.length + i < _ by omega) hl (by decide)
    rw [gD_w hil] at g2
    have b1 := hw _ (gD_m hil)
    have b2 := V.2.2.2.2 _ (List.mem_append.mpr (Or.inr (List.mem_append.mpr (Or.inl (gD_m hil)))))
    have c0 : ¬ nI (w.getD i 0) = 0 := by
      rw [show (0 : Int32) = nI 0 from rfl, nI_e (by omega) (by decide)]
      omega
    have H : HX9_nameAt_16 p t c (nI A.length) (nI i) M := by
      unfold HX9_nameAt_16
      dsimp only
      rw [hp, nI_a, g2]
      exact ⟨g1, fun z => absurd z c0, fun _ => trivial⟩
    show FX9_nameAt_16 fN (FX9_nameAt_L fN (j + (m + 1))).1 (FX9_nameAt_L fN (j + (m + 1))).2 p t c (nI A.length) (nI i) M = _
    rw [(gX9_nameAt_16 (FX9_nameAt_L fN (j + (m + 1))).1 (FX9_nameAt_L fN (j + (m + 1))).2 p t c (nI A.length) (nI i) M T n1 n3 n2 H).1]
    unfold GX9_nameAt_16
    dsimp only
    rw [hp, nI_a, g2]
    dsimp only
    rw [fi_neg c0, up_g]
    exact ih (i + 1) j (by omega)
theorem pn_L (T : Ty M) (n1 : fm_is M 84 84 p = true) (n2 : fm_is M 87 87 t = true) (n3 : fm_is M 83 83 c = true) (hp : M.2.2 257 p 0 = nm) (Wt : RwB (M.2.2 263 t 0) 16384 M W) (Pc : PcV c M W cs) (hW : W.length ≤ 16384) (hc : ∀ x, x ∈ cs → 0 < x) {D : List (List Nat)}
    (A1 : HX3_addAll nm (M.2.2 263 t 0) (M.1 254 c 0) (M.1 255 c 0) M) (A2 : GX3_addAll nm (M.2.2 263 t 0) (M.1 254 c 0) (M.1 255 c 0) M = N1) (A3 : N1.2.2 = M.2.2) (A4 : HX3_add nm (Int32.ofInt 0) N1) (A5 : GX3_add nm (Int32.ofInt 0) N1 = N2) : ∀ (B A : List (List Nat)) (j : Nat), A ++ B = D → RwB nm 16896 M (flN (A ++ B)) → okN (A ++ B) → (flN (A ++ B)).length ≤ 16896 → (flN B).length + B.length + 1 ≤ j →
    (FX9_nameAt_L fN j).1 p t c (nI (flN A).length) M = if cs ∈ B then some (nI ((flN A).length + plN cs B), M) else some (nI (flN D).length, N2) := by
  intro B
  induction B with
  | nil =>
    intro A j hD V ok hl hj
    obtain ⟨j, rfl⟩ : ∃ y, j = y + 1 := ⟨j - 1, by omega⟩
    rw [List.append_nil] at *
    have c1 : M.1 262 nm 0 ≤ nI (flN A).length := by rw [V.2.2.1]; exact (n_le (by omega) (by omega)).mpr (Nat.le_refl _)
    have H : HX9_nameAt_2 p t c (nI (flN A).length) M := by
      unfold HX9_nameAt_2
      dsimp only
      rw [hp, A2, A3, hp]
      exact ⟨fun _ => ⟨A1, A4, trivial⟩, fun z => absurd c1 z⟩
    rw [if_neg (fun h => by cases h), ← hD]
    show FX9_nameAt_2 fN (FX9_nameAt_L fN j).1 (FX9_nameAt_L fN j).2 p t c (nI (flN A).length) M = _
    rw [(gX9_nameAt_2 (FX9_nameAt_L fN j).1 (FX9_nameAt_L fN j).2 p t c (nI (flN A).length) M T n1 n2 n3 H).1]
    unfold GX9_nameAt_2
    dsimp only
    rw [hp, fi_pos c1, A2, A3, hp, A5]
    rfl
  | cons w B ih =>
    intro A j hD V ok hl hj
    have hj0 : (flN (w :: B)).length = w.length + ((flN B).length + 1) := by
      show (w ++ 0 :: flN B).length = _
      rw [List.length_append, List.length_cons]
    rw [hj0, List.length_cons] at hj
    obtain ⟨j, rfl⟩ : ∃ y, j = y + 1 := ⟨j - 1, by omega⟩
    have ef : flN (A ++ w :: B) = flN A ++ (w ++ 0 :: flN B) := flN_a A (w :: B)
    have V0 := V
    have hl0 := hl
    rw [ef] at V hl
    have hln : (flN A ++ (w ++ 0 :: flN B)).length = (flN A).length + (w.length + ((flN B).length + 1)) := by rw [List.length_append, List.length_append, List.length_cons]
    have hw : ∀ x, x ∈ w → 0 < x := fun x hx => (ok w (List.mem_append.mpr (Or.inr (List.mem_cons.mpr (Or.inl rfl)))) x hx).1
    have c1 : ¬ M.1 262 nm 0 ≤ nI (flN A).length := fun z => by
      rw [V.2.2.1] at z
      have := (n_le (by omega) (by omega)).mp z
      omega
    obtain ⟨j2, rfl⟩ : ∃ y, j = y + w.length + 1 := ⟨j - w.length - 1, by omega⟩
    have e2 : (FX9_nameAt_L fN (j2 + w.length + 1)).2 p t c (nI (flN A).length) (nI 0) M = _ := pn_in (A := flN A) (w := w) (X := flN B) T n1 n2 n3 hp V Wt Pc hW hw hl w.length 0 j2 (by omega)
    have E : (FX9_nameAt_L fN (j2 + w.length + 1 + 1)).1 p t c (nI (flN A).length) M = (FX9_nameAt_L fN (j2 + w.length + 1)).2 p t c (nI (flN A).length) (nI 0) M := by
      have H : HX9_nameAt_2 p t c (nI (flN A).length) M := by
        unfold HX9_nameAt_2
        dsimp only
        rw [hp]
        exact ⟨fun z => absurd z c1, fun _ => trivial⟩
      show FX9_nameAt_2 fN (FX9_nameAt_L fN (j2 + w.length + 1)).1 (FX9_nameAt_L fN (j2 + w.length + 1)).2 p t c (nI (flN A).length) M = _
      rw [(gX9_nameAt_2 (FX9_nameAt_L fN (j2 + w.length + 1)).1 (FX9_nameAt_L fN (j2 + w.length + 1)).2 p t c (nI (flN A).length) M T n1 n2 n3 H).1]
      unfold GX9_nameAt_2
      dsimp only
      rw [hp, fi_neg c1]
      rfl
    rw [E, e2]
    by_cases h : w = cs
    · rw [if_pos h, if_pos (List.mem_cons.mpr (Or.inl h.symm))]
      show _ = some (nI ((flN A).length + (if w = cs then 0 else _)), M)
      rw [if_pos h, Nat.add_zero]
    · rw [if_neg h]
      have ea : A ++ w :: B = (A ++ [w]) ++ B := by rw [List.append_assoc]; rfl
      have el : (flN (A ++ [w])).length = (flN A).length + w.length + 1 := by
        rw [flN_a]
        show (flN A ++ (w ++ 0 :: [])).length = _
        rw [List.length_append, List.length_append]
        rfl
      rw [ea] at V0 ok hl0 hD
      have g2 := ih (A ++ [w]) j2 hD V0 ok hl0 (by omega)
      rw [← el, g2]
      by_cases h2 : cs ∈ B
      · rw [if_pos h2, if_pos (List.mem_cons.mpr (Or.inr h2)), el]
        show some (nI ((flN A).length + w.length + 1 + plN cs B), M) = some (nI ((flN A).length + (if w = cs then 0 else w.length + 1 + plN cs B)), M)
        rw [if_neg h]
        congr 3
        omega
      · rw [if_neg h2, if_neg (fun z => (List.mem_cons.mp z).elim (fun z => h z.symm) h2)]
theorem X9_nameAt {L : List (List Nat)} (T : Ty M) (n1 : fm_is M 84 84 p = true) (n2 : fm_is M 87 87 t = true) (n3 : fm_is M 83 83 c = true) (hd : M.2.2 261 (M.2.2 263 t 0) 0 ≠ M.2.2 261 (M.2.2 257 p 0) 0) (V : RwB (M.2.2 257 p 0) 16896 M (flN L)) (ok : okN L) (Wt : RwB (M.2.2 263 t 0) 16384 M W) (Pc : PcV c M W cs) (hW : W.length ≤ 16384) (hc : ∀ x, x ∈ cs → 0 < x ∧ x < 128) (hl : (flN L).length + cs.length + 1 ≤ 16896) (hL : L.length ≤ 1000) :
    HX9_nameAt p t c M ∧ ∃ N, GX9_nameAt p t c M = (nI (plN cs L), N) ∧ Frm (PRo (M.2.2 257 p 0) M) M N ∧ Ty N ∧ RwB (M.2.2 257 p 0) 16896 N (flN (addN cs L)) ∧ okN (addN cs L) := by
  obtain ⟨o, c1, c2, c3, c4⟩ := Pc
  obtain ⟨A1, N1, A2, A3, A4, A5⟩ := X3_addAll (from_ := o) (many := cs.length) T V Wt hd (Or.inl c3) hW (by omega) (by decide) (by decide)
  rw [c4] at A5
  obtain ⟨B1, N2, B2, B3, B4⟩ := X3_add A5 (by rw [List.length_append]; omega) (by decide) (Int32.ofInt 0)
  rw [show ui (Int32.ofInt 0) % 256 = 0 from rfl] at B4
  rw [← c1, ← c2] at A1 A2
  have q1 := pn_L (p := p) (t := t) (c := c) T n1 n2 n3 rfl Wt ⟨o, c1, c2, c3, c4⟩ hW (fun x hx => (hc x hx).1) A1 A2 A3.1 B1 B2 L [] fN rfl V ok (by show (flN L).length ≤ 16896; omega) (by unfold fN; omega)
  have T2 := pro_y B3 A5.1 A4
  have F2 := pro_t A3 B3
  have q2 : FX9_nameAt fN p t c M = if cs ∈ L then some (nI (plN cs L), M) else some (nI (flN L).length, N2) := by
    show FX9_nameAt_0 fN (FX9_nameAt_L fN fN).1 (FX9_nameAt_L fN fN).2 p t c M = _
    rw [(gX9_nameAt_0 (FX9_nameAt_L fN fN).1 (FX9_nameAt_L fN fN).2 p t c M T).1]
    refine Eq.trans q1 ?_
    show (if cs ∈ L then some (nI (0 + plN cs L), M) else some (nI (flN L).length, N2)) = _
    rw [Nat.zero_add]
  unfold addN
  by_cases h : cs ∈ L
  · rw [if_pos h] at q2 ⊢
    obtain ⟨h1, g1⟩ := op_of (d := ((0 : Int32), M)) q2 (P := OkR M) ⟨T, ext_r M⟩
    exact ⟨h1, M, g1, frm_r, T, V, ok⟩
  · rw [if_neg h] at q2 ⊢
    obtain ⟨h1, g1⟩ := op_of (d := ((0 : Int32), M)) q2 (P := OkR M) ⟨T2, frm_ext F2⟩
    refine ⟨h1, N2, by rw [plN_n h]; exact g1, F2, T2, ?_, fun w hw => ?_⟩
    · rw [flN_a, show flN [cs] = cs ++ [0] from rfl, ← List.append_assoc]
      exact B4
    · rcases List.mem_append.mp hw with hw | hw
      · exact ok w hw
      · rcases List.mem_cons.mp hw with rfl | hw
        · exact hc
        · cases hw
end Pn
