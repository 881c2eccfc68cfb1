/-! trees: the twin's texts, names -/
set_option maxRecDepth 100000
section Ch
variable {t s : Nat} {M : FM} {cs S X : List Nat}
theorem frt_txt {N : FM} (h : Frm (PTr t M) M N) (T : Ty M) (W : Wf M) (n : fm_is M 100 100 t = true) (tx : Txt s cs M) : Txt s cs N := by
  have k : Wk (fun y => fe_mem [416, 418, 420, 421, 1415, 1417, 1419] y = true) (fun _ => True) 0 (fm_nx M) M N := fr_wk h W (fun f y z => by
    have lc : ∀ a s, Sf M a s → M.2.2 0 a 0 ≠ 0 → lcn M 3 a = 1000 + s := fun a s h1 h2 => by
      unfold lcn
      rw [if_pos rfl]
      rcases h1 with q | q
      · exact absurd q (wf_n0 W h2)
      · rw [q.2]
    rcases z with ⟨z1, z⟩ | ⟨z1, z⟩
    · rw [z1]
      refine ⟨fm_ist rfl n, ?_⟩
      unfold lcn
      rcases z with z | z | z | z <;> rw [z, if_neg (by decide)] <;> rfl
    · rw [z1]
      rcases z with z | z | z
      · have := fm_ist rfl (tN_415 T.1 n)
        rw [z]
        exact ⟨this, by rw [lc _ 415 (sS_415 W n) this]; rfl⟩
      · have := fm_ist rfl (tN_417 T.1 n)
        rw [z]
        exact ⟨this, by rw [lc _ 417 (sS_417 W n) this]; rfl⟩
      · have := fm_ist rfl (tN_419 T.1 n)
        rw [z]
        exact ⟨this, by rw [lc _ 419 (sS_419 W n) this]; rfl⟩)
  exact txt_k T W k (by decide) tx
theorem frt_wf {N : FM} (h : Frm (PTr t M) M N) (T : Ty M) (W : Wf M) (n : fm_is M 100 100 t = true) : Wf N :=
  frm_wf h (fun f b q => by
    rcases q with ⟨q, _⟩ | ⟨_, q⟩
    · rw [q]; exact fm_ist rfl n
    · rcases q with q | q | q
      · rw [q]; exact fm_ist rfl (tN_415 T.1 n)
      · rw [q]; exact fm_ist rfl (tN_417 T.1 n)
      · rw [q]; exact fm_ist rfl (tN_419 T.1 n)) W
theorem frt_is {N : FM} (h : Frm (PTr t M) M N) (n : fm_is M 100 100 t = true) : fm_is N 100 100 t = true := frm_is h n
/-- letters behind one another -/
theorem X97_characters_L (n : fm_is M 100 100 t = true) (W : Wf M) (T : Ty M) (tx : Txt s cs M) : ∀ m j k N, k + m = cs.length → m < j → Frm (PTr t M) M N → Ty N → RwS 417 418 t N (S ++ cs.take k) → S.length + cs.length + 1 ≤ 6144 → N.1 420 t 0 = M.1 420 t 0 → N.1 421 t 0 = M.1 421 t 0 → (∀ i, M.2.2 419 t 0 ≠ M.2.2 417 t 0 → N.1 3 (M.2.2 419 t 0) i = M.1 3 (M.2.2 419 t 0) i) →
    ∃ N', FX97_characters_L2 fN j t s (nI k) N = some N' ∧ Frm (PTr t M) M N' ∧ Ty N' ∧ RwS 417 418 t N' (S ++ cs ++ [0]) ∧ N'.1 420 t 0 = M.1 420 t 0 ∧ N'.1 421 t 0 = M.1 421 t 0 ∧ (∀ i, M.2.2 419 t 0 ≠ M.2.2 417 t 0 → N'.1 3 (M.2.2 419 t 0) i = M.1 3 (M.2.2 419 t 0) i) := by
  intro m
  induction m with
  | zero =>
    intro j k N hk hj f TN V hl h20 h21 h19
    obtain ⟨j, rfl⟩ : ∃ y, j = y + 1 := ⟨j - 1, by omega⟩
    have nN := frm_is f n
    have txN := frt_txt f T W n tx
    have hk' : k = cs.length := by omega
    subst hk'
    rw [List.take_length] at V
    have L := J1_length txN
    have c1 : nI cs.length ≤ nI cs.length := (n_le (by have := tx.2.2.2.1; omega) (by have := tx.2.2.2.1; omega)).mpr (Nat.le_refl _)
    have hn : (S ++ cs).length = S.length + cs.length := List.length_append
    have i1 : fm_in N (N.2.2 417 t 0) (N.1 418 t 0) = true := by rw [V.1]; exact in_nI (N := 6144) (tL_417 TN.1 nN) (by omega) (by decide)
    have H : HX97_characters_2 t s (nI cs.length) N := by
      unfold HX97_characters_2
      dsimp only
      rw [L]
      exact ⟨fun _ => ⟨i1, trivial⟩, fun z => absurd c1 z⟩
    have s1 := rwS_1 V (by omega) (by decide) (Int32.ofInt 0) (x := 0) rfl
    refine ⟨_, ?_, frm_I (frm_I f (Or.inr ⟨rfl, Or.inr (Or.inl (by rw [f.1]))⟩)) (Or.inl ⟨rfl, Or.inr (Or.inl rfl)⟩), ⟨TN.1, tyb_sI rfl (tyb_s3 (t := 901) rfl TN.2 (tN_417 TN.1 nN))⟩, s1, ?_, ?_, fun i hne => ?_⟩
    · show FX97_characters_2 fN (FX97_characters_L2 fN j) t s (nI cs.length) N = _
      rw [(gX97_characters_2 (FX97_characters_L2 fN j) t s (nI cs.length) N TN txN.1 nN H).1]
      unfold GX97_characters_2
      dsimp only
      rw [L]
      dsimp only
      rw [fi_pos c1, V.1, o_cl (by omega), oI (f := 3) (f' := 418) (fun z => absurd z.1 (by decide)), V.1, up_b (by omega)]
      rfl
    · exact ((oI (fun z => absurd z.1 (by decide))).trans (oI (fun z => absurd z.1 (by decide)))).trans h20
    · exact ((oI (fun z => absurd z.1 (by decide))).trans (oI (fun z => absurd z.1 (by decide)))).trans h21
    · rw [oI (fun z => absurd z.1 (by decide)), oI (fun z => hne (by rw [z.2.1, f.1]))]
      exact h19 i hne
  | succ m ih =>
    intro j k N hk hj f TN V hl h20 h21 h19
    obtain ⟨j, rfl⟩ : ∃ y, j = y + 1 := ⟨j - 1, by omega⟩
    have nN := frm_is f n
    have txN := frt_txt f T W n tx
    have l4 := tx.2.2.2.1
    have hkl : k < cs.length := by omega
    have L := J1_length txN
    obtain ⟨y1, y2⟩ := J1_charAt txN hkl
    have c1 : ¬ nI cs.length ≤ nI k := fun z => by
      have := (n_le (by omega) (by omega)).mp z
      omega
    have hn : (S ++ cs.take k).length = S.length + k := by rw [List.length_append, List.length_take, Nat.min_eq_left (by omega)]
    have i1 : fm_in N (N.2.2 417 t 0) (N.1 418 t 0) = true := by rw [V.1]; exact in_nI (N := 6144) (tL_417 TN.1 nN) (by omega) (by decide)
    have s1 := rwS_1 V (by omega) (by decide) (nI (cs.getD k 0)) rfl
    have et : S ++ cs.take k ++ [cs.getD k 0] = S ++ cs.take (k + 1) := by
      rw [List.append_assoc, List.take_succ, List.getD_eq_getElem?_getD, List.getElem?_eq_getElem hkl]
      rfl
    rw [et] at s1
    have H : HX97_characters_2 t s (nI k) N := by
      unfold HX97_characters_2
      dsimp only
      rw [L]
      dsimp only
      rw [y2]
      exact ⟨fun z => absurd z c1, fun _ => ⟨y1, i1, trivial⟩⟩
    have G : GX97_characters_2 t s (nI k) N = .inl (t, s, nI (k + 1), fm_sI (fm_sI N 3 (N.2.2 417 t 0) (S ++ cs.take k).length (nI (cs.getD k 0))) 418 t 0 (nI ((S ++ cs.take k).length + 1))) := by
      unfold GX97_characters_2
      dsimp only
      rw [L]
      dsimp only
      rw [fi_neg c1, y2]
      dsimp only
      rw [V.1, o_cl (by omega), oI (f := 3) (f' := 418) (fun z => absurd z.1 (by decide)), V.1, up_b (by omega), up_b (by omega)]
    show ∃ N', FX97_characters_2 fN (FX97_characters_L2 fN j) t s (nI k) N = some N' ∧ _
    rw [(gX97_characters_2 (FX97_characters_L2 fN j) t s (nI k) N TN txN.1 nN H).1, G]
    refine ih j (k + 1) _ (by omega) (by omega) (frm_I (frm_I f (Or.inr ⟨rfl, Or.inr (Or.inl (by rw [f.1]))⟩)) (Or.inl ⟨rfl, Or.inr (Or.inl rfl)⟩)) ⟨TN.1, tyb_sI rfl (tyb_s3 (t := 901) rfl TN.2 (tN_417 TN.1 nN))⟩ s1 hl ?_ ?_ (fun i hne => ?_)
    · exact ((oI (fun z => absurd z.1 (by decide))).trans (oI (fun z => absurd z.1 (by decide)))).trans h20
    · exact ((oI (fun z => absurd z.1 (by decide))).trans (oI (fun z => absurd z.1 (by decide)))).trans h21
    · rw [oI (fun z => absurd z.1 (by decide)), oI (fun z => hne (by rw [z.2.1, f.1]))]
      exact h19 i hne
end Ch
/-- the twin's tree: what was written, the names, where the length of the present value stands -/
abbrev TSt : Type := List Nat × List Nat × Nat
def VTr (t : Nat) (M : FM) (s : TSt) : Prop := (Ty M ∧ Wf M ∧ fm_is M 100 100 t = true) ∧ RwS 417 418 t M s.1 ∧ RwS 419 420 t M s.2.1 ∧ M.1 421 t 0 = nI s.2.2
/-- what a method of the tree does to what is shown -/
def Tdo (t : Nat) (M N : FM) (s : TSt) : Prop := Frm (PTr t M) M N ∧ VTr t N s
section Td2
variable {t s : Nat} {M N : FM} {cs : List Nat} {st : TSt} {v : Int64}
theorem vtr_ne (V : VTr t M st) : M.2.2 419 t 0 ≠ M.2.2 417 t 0 := sf_ne V.1.2.1 (sS_419 V.1.2.1 V.1.2.2) (sS_417 V.1.2.1 V.1.2.2) (lo := 901) rfl (tN_419 V.1.1.1 V.1.2.2) (by decide)
/-- names stay where the row stays -/
theorem rwS_f {f fn : Nat} {S : List Nat} (h : RwS f fn t M S) (e1 : N.1 fn t 0 = M.1 fn t 0) (e2 : N.2.2 = M.2.2) (e3 : ∀ k, N.1 3 (M.2.2 f t 0) k = M.1 3 (M.2.2 f t 0) k) : RwS f fn t N S := by
  refine ⟨e1.trans h.1, fun k hk => ?_⟩
  rw [e2, e3]
  exact h.2 k hk
theorem t_four (V : VTr t M st) (hv : ul v < 9223372036854775808) (hn : st.1.length + 4 ≤ 6144) : HX97_four t v M ∧ Tdo t M (GX97_four t v M) (st.1 ++ be4 (ul v), st.2.1, st.2.2) := by
  have ne := vtr_ne V
  obtain ⟨⟨T, W, n⟩, V1, V2, V3⟩ := V
  obtain ⟨a1, N, a2, a3, a4, a5, a6, a7⟩ := X97_four T n hv V1 hn
  rw [a2]
  exact ⟨a1, a3, ⟨ptr_y a3 n T, frt_wf a3 T W n, frm_is a3 n⟩, a4, rwS_f V2 a6 a3.1 (fun k => a7 k ne), a5.trans V3⟩
theorem t_chars (V : VTr t M st) (tx : Txt s cs M) (hn : st.1.length + cs.length + 1 ≤ 6144) : HX97_characters t s M ∧ Tdo t M (GX97_characters t s M) (st.1 ++ cs ++ [0], st.2.1, st.2.2) := by
  have ne := vtr_ne V
  obtain ⟨⟨T, W, n⟩, V1, V2, V3⟩ := V
  obtain ⟨N, b1, b2, b3, b4, b5, b6, b7⟩ := X97_characters_L (S := st.1) n W T tx cs.length fN 0 M (by omega) (by have := tx.2.2.2.1; unfold fN; omega) frm_r T (by rw [List.take_zero, List.append_nil]; exact V1) hn rfl rfl (fun _ _ => rfl)
  have A : FX97_characters fN t s M = some N := by
    show FX97_characters_0 fN (FX97_characters_L2 fN fN) t s M = _
    rw [(gX97_characters_0 (FX97_characters_L2 fN fN) t s M T).1]
    exact b1
  obtain ⟨h1, g1⟩ := op_of (d := M) A (P := OkV M) ⟨b3, frm_ext b2⟩
  have g1 : GX97_characters t s M = N := g1
  rw [g1]
  exact ⟨h1, b2, ⟨b3, frt_wf b2 T W n, frm_is b2 n⟩, b4, rwS_f V2 b5 b2.1 (fun k => b7 k ne), b6.trans V3⟩
/-- zeros up to a multiple of four -/
def padL (S : List Nat) : List Nat := S ++ List.replicate ((4 - S.length % 4) % 4) 0
theorem X97_fillUp_L : ∀ m j M st, m = (4 - st.1.length % 4) % 4 → m < j → VTr t M st → st.1.length + 4 ≤ 6144 → ∃ N, FX97_fillUp_L0 fN j t M = some N ∧ Tdo t M N (padL st.1, st.2.1, st.2.2) := by
  intro m
  induction m with
  | zero =>
    intro j M st hm hj V hn
    obtain ⟨j, rfl⟩ : ∃ y, j = y + 1 := ⟨j - 1, by omega⟩
    have V0 := V
    obtain ⟨⟨T, W, n⟩, V1, V2, V3⟩ := V
    have c1 : M.1 418 t 0 - M.1 418 t 0 / Int32.ofInt 4 * Int32.ofInt 4 = 0 := ui_inj (by
      rw [V1.1, i_rem (by rw [ui_nI]; omega) (by decide), ui_nI, show ui (Int32.ofInt 4) = 4 from rfl, show ui (0 : Int32) = 0 by decide]
      omega)
    have ep : padL st.1 = st.1 := by
      unfold padL
      rw [← hm]
      exact List.append_nil _
    refine ⟨M, ?_, frm_r, ?_⟩
    · show FX97_fillUp_0 fN (FX97_fillUp_L0 fN j) t M = _
      rw [(gX97_fillUp_0 (FX97_fillUp_L0 fN j) t M T n ⟨fun _ => trivial, fun z => absurd c1 z⟩).1]
      unfold GX97_fillUp_0
      dsimp only
      rw [fi_pos c1]
      rfl
    · rw [ep]
      exact V0
  | succ m ih =>
    intro j M st hm hj V hn
    obtain ⟨j, rfl⟩ : ∃ y, j = y + 1 := ⟨j - 1, by omega⟩
    have ne := vtr_ne V
    obtain ⟨⟨T, W, n⟩, V1, V2, V3⟩ := V
    have c1 : ¬ M.1 418 t 0 - M.1 418 t 0 / Int32.ofInt 4 * Int32.ofInt 4 = 0 := fun z => by
      have := congrArg ui z
      rw [V1.1, i_rem (by rw [ui_nI]; omega) (by decide), ui_nI, show ui (Int32.ofInt 4) = 4 from rfl, show ui (0 : Int32) = 0 by decide] at this
      omega
    have i1 : fm_in M (M.2.2 417 t 0) (M.1 418 t 0) = true := by rw [V1.1]; exact in_nI (N := 6144) (tL_417 T.1 n) (by omega) (by decide)
    have s1 := rwS_1 V1 (by omega) (by decide) (Int32.ofInt 0) (x := 0) rfl
    have f1 : Frm (PTr t M) M (fm_sI (fm_sI M 3 (M.2.2 417 t 0) st.1.length (Int32.ofInt 0)) 418 t 0 (nI (st.1.length + 1))) := frm_I (frm_I frm_r (Or.inr ⟨rfl, Or.inr (Or.inl rfl)⟩)) (Or.inl ⟨rfl, Or.inr (Or.inl rfl)⟩)
    have V' : VTr t (fm_sI (fm_sI M 3 (M.2.2 417 t 0) st.1.length (Int32.ofInt 0)) 418 t 0 (nI (st.1.length + 1))) (st.1 ++ [0], st.2.1, st.2.2) := ⟨⟨ptr_y f1 n T, frt_wf f1 T W n, n⟩, s1, rwS_f V2 ((oI (fun z => absurd z.1 (by decide))).trans (oI (fun z => absurd z.1 (by decide)))) rfl (fun k => (oI (fun z => absurd z.1 (by decide))).trans (oI (fun z => ne z.2.1))), ((oI (fun z => absurd z.1 (by decide))).trans (oI (fun z => absurd z.1 (by decide)))).trans V3⟩
    obtain ⟨N, g1, g2, g3⟩ := ih j _ _ (by rw [len_a]; omega) (by omega) V' (by rw [len_a]; omega)
    refine ⟨N, ?_, ptr_t f1 g2, ?_⟩
    · show FX97_fillUp_0 fN (FX97_fillUp_L0 fN j) t M = _
      rw [(gX97_fillUp_0 (FX97_fillUp_L0 fN j) t M T n ⟨fun _ => trivial, fun _ => ⟨i1, trivial⟩⟩).1]
      unfold GX97_fillUp_0
      dsimp only
      rw [fi_neg c1, V1.1, o_cl (by omega), oI (f := 3) (f' := 418) (fun z => absurd z.1 (by decide)), V1.1, up_b (by omega)]
      exact g1
    · have ep : padL (st.1 ++ [0]) = padL st.1 := by
        unfold padL
        rw [len_a, List.append_assoc]
        congr 1
        rw [← hm, show (4 - (st.1.length + 1) % 4) % 4 = m by omega]
        rfl
      rw [ep] at g3
      exact g3
theorem t_fill (V : VTr t M st) (hn : st.1.length + 4 ≤ 6144) : HX97_fillUp t M ∧ Tdo t M (GX97_fillUp t M) (padL st.1, st.2.1, st.2.2) := by
  obtain ⟨N, g1, g2⟩ := X97_fillUp_L ((4 - st.1.length % 4) % 4) fN M st rfl (by unfold fN; omega) V hn
  obtain ⟨h1, e1⟩ := op_of (d := M) g1 (P := OkV M) ⟨g2.2.1.1, frm_ext g2.1⟩
  have e1 : GX97_fillUp t M = N := e1
  rw [e1]
  exact ⟨h1, g2⟩
end Td2
