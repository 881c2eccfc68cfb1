/-! trees: the component's tree: pieces, nodes, properties -/
set_option maxRecDepth 100000
/-- a row stays where its size and its bytes stay -/
theorem rwB_f {o room : Nat} {M N : FM} {Y : List Nat} (h : RwB o room M Y) (e : N.2.2 = M.2.2) (h1 : N.1 262 o 0 = M.1 262 o 0) (h2 : ∀ k, N.1 3 (M.2.2 261 o 0) k = M.1 3 (M.2.2 261 o 0) k) : RwB o room N Y := by
  obtain ⟨a1, a2, a3, a4, a5⟩ := h
  refine ⟨?_, by rw [e]; exact a2, h1.trans a3, fun k hk => ?_, a5⟩
  · unfold fm_is at a1 ⊢
    rw [e]
    exact a1
  · rw [e, h2]
    exact a4 k hk
/-- a piece: the bytes of the store that it stands for -/
def PcV (c : Nat) (M : FM) (W S : List Nat) : Prop := ∃ o, M.1 254 c 0 = nI o ∧ M.1 255 c 0 = nI S.length ∧ o + S.length ≤ W.length ∧ (W.drop o).take S.length = S
theorem pcV_k {c : Nat} {M N : FM} {W S : List Nat} (X : List Nat) (h : PcV c M W S) (h1 : N.1 254 c 0 = M.1 254 c 0) (h2 : N.1 255 c 0 = M.1 255 c 0) : PcV c N (W ++ X) S := by
  obtain ⟨o, a1, a2, a3, a4⟩ := h
  refine ⟨o, h1.trans a1, h2.trans a2, by rw [List.length_append]; omega, ?_⟩
  rw [List.drop_append_of_le_length (by omega), List.take_append_of_le_length (by rw [List.length_drop]; omega)]
  exact a4
/-- a name of a node: it may be empty, wherever it begins -/
def PcN (c : Nat) (M : FM) (W S : List Nat) : Prop := PcV c M W S ∨ (S = [] ∧ ∃ o, o ≤ 16384 ∧ M.1 254 c 0 = nI o ∧ M.1 255 c 0 = nI 0)
theorem pcN_k {c : Nat} {M N : FM} {W S : List Nat} (X : List Nat) (h : PcN c M W S) (h1 : N.1 254 c 0 = M.1 254 c 0) (h2 : N.1 255 c 0 = M.1 255 c 0) : PcN c N (W ++ X) S := by
  rcases h with h | ⟨h, o, a1, a2, a3⟩
  · exact Or.inl (pcV_k X h h1 h2)
  · exact Or.inr ⟨h, o, a1, h1.trans a2, h2.trans a3⟩
def PSe (c w : Nat) (M : FM) (f b : Nat) : Prop := ((f = 254 ∨ f = 255) ∧ b = c) ∨ PRo w M f b
section Pc
variable {c w s rs : Nat} {M : FM} {W Y : List Nat} {from_ many : Nat}
theorem X7_set (T : Ty M) (n : fm_is M 83 83 c = true) (hw : RwB w 16384 M W) (hs : RwB s rs M Y) (hne : M.2.2 261 s 0 ≠ M.2.2 261 w 0) (hf : from_ + many ≤ Y.length) (hy : Y.length ≤ rs) (hrs : rs ≤ 65536) (hl : W.length + many ≤ 16384) :
    HX7_set c w s (nI from_) (nI many) M ∧ ∃ N, GX7_set c w s (nI from_) (nI many) M = N ∧ Frm (PSe c w M) M N ∧ RwB w 16384 N (W ++ (Y.drop from_).take many) ∧ PcV c N (W ++ (Y.drop from_).take many) ((Y.drop from_).take many) := by
  have T2 : Ty (fm_sI (fm_sI M 254 c 0 (M.1 262 w 0)) 255 c 0 (nI many)) := ⟨T.1, tyb_sI rfl (tyb_sI rfl T.2)⟩
  have w2 : RwB w 16384 (fm_sI (fm_sI M 254 c 0 (M.1 262 w 0)) 255 c 0 (nI many)) W := rwB_f hw rfl ((oI (fun q => absurd q.1 (by decide))).trans (oI (fun q => absurd q.1 (by decide)))) (fun k => (oI (fun q => absurd q.1 (by decide))).trans (oI (fun q => absurd q.1 (by decide))))
  have s2 : RwB s rs (fm_sI (fm_sI M 254 c 0 (M.1 262 w 0)) 255 c 0 (nI many)) Y := rwB_f hs rfl ((oI (fun q => absurd q.1 (by decide))).trans (oI (fun q => absurd q.1 (by decide)))) (fun k => (oI (fun q => absurd q.1 (by decide))).trans (oI (fun q => absurd q.1 (by decide))))
  obtain ⟨p1, N, p2, p3, p4, p5⟩ := X3_addAll (from_ := from_) (many := many) T2 w2 s2 hne (Or.inl hf) hy hl (by decide) hrs
  have tk : ((Y.drop from_).take many).length = many := by
    rw [List.length_take, List.length_drop]
    omega
  have e254 : N.1 254 c 0 = nI W.length := (p3.2 254 c 0 (fun z => by rcases z with z | z <;> exact absurd z.1 (by decide))).1.trans ((oI (fun q => absurd q.1 (by decide))).trans ((if_pos ⟨rfl, rfl, rfl⟩).trans hw.2.2.1))
  have e255 : N.1 255 c 0 = nI many := (p3.2 255 c 0 (fun z => by rcases z with z | z <;> exact absurd z.1 (by decide))).1.trans (if_pos ⟨rfl, rfl, rfl⟩)
  unfold HX7_set HX7_set_0 GX7_set GX7_set_0
  refine ⟨⟨p1, trivial⟩, N, p2, ?_, p5, W.length, e254, by rw [tk]; exact e255, by rw [List.length_append]; omega, ?_⟩
  · refine frm_t (frm_I (frm_I frm_r (Or.inl ⟨Or.inl rfl, rfl⟩)) (Or.inl ⟨Or.inr rfl, rfl⟩)) (frm_w p3 (fun f b q => Or.inr (pro_w rfl f b q)))
  · rw [List.drop_left, List.take_length]
end Pc
/-- nodes: name, parent, depth, first property, how many; properties: name, value; the third: nodes that are open -/
abbrev Nd : Type := List Nat × Nat × Nat × Nat × Nat
abbrev Pp : Type := List Nat × List Nat
abbrev DSt : Type := List Nd × List Pp × List Nat
def nd0 : Nd := ([], 0, 0, 0, 0)
def pp0 : Pp := ([], [])
def incN (x : Nd) : Nd := (x.1, x.2.1, x.2.2.1, x.2.2.2.1, x.2.2.2.2 + 1)
def mdN : Nat → List Nd → List Nd
  | _, [] => []
  | 0, x :: t => incN x :: t
  | k + 1, x :: t => x :: mdN k t
theorem mdN_l : ∀ k (T : List Nd), (mdN k T).length = T.length
  | 0, [] => rfl
  | _ + 1, [] => rfl
  | 0, _ :: _ => rfl
  | k + 1, x :: t => by
    show (mdN k t).length + 1 = t.length + 1
    rw [mdN_l k t]
theorem mdN_g : ∀ k (T : List Nd) j, j < T.length → (mdN k T).getD j nd0 = if j = k then incN (T.getD j nd0) else T.getD j nd0
  | _, [], _, h => absurd h (Nat.not_lt_zero _)
  | 0, x :: t, 0, _ => rfl
  | 0, x :: t, j + 1, _ => by
    rw [if_neg (by omega)]
    rfl
  | k + 1, x :: t, 0, _ => by
    rw [if_neg (by omega)]
    rfl
  | k + 1, x :: t, j + 1, h => by
    show (mdN k t).getD j nd0 = if j + 1 = k + 1 then incN (t.getD j nd0) else t.getD j nd0
    rw [mdN_g k t j (Nat.lt_of_succ_lt_succ h)]
    by_cases q : j = k
    · rw [if_pos q, if_pos (by omega)]
    · rw [if_neg q, if_neg (by omega)]
def hdK (K : List Nat) : Nat := K.getD 0 0
def dOpen (S : List Nat) (s : DSt) : DSt := (s.1 ++ [(S, hdK s.2.2, (s.1.getD (hdK s.2.2) nd0).2.2.1 + 1, s.2.1.length, 0)], s.2.1, s.1.length :: s.2.2)
def dProp (X V : List Nat) (s : DSt) : DSt := (mdN (hdK s.2.2) s.1, s.2.1 ++ [(X, V)], s.2.2)
def dClose (s : DSt) : DSt := (s.1, s.2.1, s.2.2.tail)
/-- how the component's tree is laid -/
abbrev Rf : Type := Nat → Nat → Nat → Nat
def ndc (t : Nat) (R : Rf) (k : Nat) : Nat := R 3 (R 264 t 0) k
def ppc (t : Nat) (R : Rf) (k : Nat) : Nat := R 3 (R 265 t 0) k
def pcc (t : Nat) (R : Rf) (k : Nat) : Nat := if k < 128 then R 248 (ndc t R k) 0 else if k < 640 then R 258 (ppc t R (k - 128)) 0 else R 259 (ppc t R (k - 640)) 0
def StT (t : Nat) (R : Rf) : Prop := fr R 87 87 t = true ∧ R 1 (R 264 t 0) 0 = 128 ∧ R 1 (R 265 t 0) 0 = 512 ∧ (∀ j k, j < 128 → k < 128 → ndc t R j = ndc t R k → j = k) ∧ (∀ j k, j < 1152 → k < 1152 → pcc t R j = pcc t R k → j = k)
theorem pcc_n {t : Nat} {R : Rf} {k : Nat} (h : k < 128) : R 248 (ndc t R k) 0 = pcc t R k := (if_pos h).symm
theorem pcc_p {t : Nat} {R : Rf} {k : Nat} (h : k < 512) : R 258 (ppc t R k) 0 = pcc t R (k + 128) := by
  unfold pcc
  rw [if_neg (by omega), if_pos (by omega), Nat.add_sub_cancel]
theorem pcc_v {t : Nat} {R : Rf} {k : Nat} : R 259 (ppc t R k) 0 = pcc t R (k + 640) := by
  unfold pcc
  rw [if_neg (by omega), if_neg (by omega), Nat.add_sub_cancel]
def NdV (n : Nat) (M : FM) (W : List Nat) (x : Nd) : Prop := (M.1 249 n 0 = nI x.2.1 ∧ M.1 250 n 0 = nI x.2.2.1 ∧ M.1 251 n 0 = nI x.2.2.2.1 ∧ M.1 252 n 0 = nI x.2.2.2.2) ∧ PcN (M.2.2 248 n 0) M W x.1
def PpV (p : Nat) (M : FM) (W : List Nat) (x : Pp) : Prop := PcV (M.2.2 258 p 0) M W x.1 ∧ PcV (M.2.2 259 p 0) M W x.2
def VTtr (t : Nat) (M : FM) (W : List Nat) (s : DSt) : Prop := RwB (M.2.2 263 t 0) 16384 M W ∧ (M.1 266 t 0 = nI s.1.length ∧ M.1 267 t 0 = nI s.2.1.length ∧ M.1 268 t 0 = nI (hdK s.2.2)) ∧ (∀ k, k < s.1.length → NdV (ndc t M.2.2 k) M W (s.1.getD k nd0)) ∧ ∀ k, k < s.2.1.length → PpV (ppc t M.2.2 k) M W (s.2.1.getD k pp0)
/-- where the tree is written -/
def PTt (t : Nat) (M : FM) (f b : Nat) : Prop := ((f = 249 ∨ f = 250 ∨ f = 251 ∨ f = 252 ∨ f = 253) ∧ M.2.2 0 b 0 = 82) ∨ ((f = 254 ∨ f = 255) ∧ M.2.2 0 b 0 = 83) ∨ (f = 260 ∧ M.2.2 0 b 0 = 85) ∨ ((f = 266 ∨ f = 267 ∨ f = 268) ∧ b = t) ∨ PRo (M.2.2 263 t 0) M f b
theorem ptt_w {t : Nat} {M N : FM} (h : N.2.2 = M.2.2) (f b : Nat) (k : PTt t N f b) : PTt t M f b := by
  unfold PTt PRo at *
  rw [h] at k
  exact k
theorem ptt_t {t : Nat} {M N X : FM} (h : Frm (PTt t M) M N) (k : Frm (PTt t N) N X) : Frm (PTt t M) M X := frm_t h (frm_w k (ptt_w h.1))
theorem tg_e {M : FM} {g a : Nat} (h : fm_is M g g a = true) : M.2.2 0 a 0 = g := by
  have := fm_isd h
  omega
/-- another row than the store stays -/
theorem ptt_row {t q room : Nat} {M N : FM} {S : List Nat} (h : Frm (PTt t M) M N) (hq : RwB q room M S) (h1 : q ≠ M.2.2 263 t 0) (h2 : M.2.2 261 q 0 ≠ M.2.2 261 (M.2.2 263 t 0) 0) : RwB q room N S := by
  refine rwB_f hq h.1 (h.2 262 q 0 (fun z => ?_)).1 (fun k => (h.2 3 _ k (fun z => ?_)).1)
  · rcases z with z | z | z | z | z
    · omega
    · omega
    · omega
    · omega
    · rcases z with z | z
      · exact h1 z.2
      · exact absurd z.1 (by decide)
  · rcases z with z | z | z | z | z
    · omega
    · omega
    · omega
    · omega
    · rcases z with z | z
      · exact absurd z.1 (by decide)
      · exact h2 z.2
section Tt
variable {t q rq : Nat} {M N : FM} {W S X V : List Nat} {s : DSt} {a1 a2 : Int32} {c : Nat}
theorem st_n (T : Ty M) (D : StT t M.2.2) {k : Nat} (hk : k < 128) : fm_is M 82 82 (ndc t M.2.2 k) = true := tE_924 (i := nI k) T.1 (tN_264 T.1 D.1) (in_nI D.2.1 hk (by decide)) |> fun h => by rw [o_cl (by omega)] at h; exact h
theorem st_p (T : Ty M) (D : StT t M.2.2) {k : Nat} (hk : k < 512) : fm_is M 85 85 (ppc t M.2.2 k) = true := tE_925 (i := nI k) T.1 (tN_265 T.1 D.1) (in_nI D.2.2.1 hk (by decide)) |> fun h => by rw [o_cl (by omega)] at h; exact h
theorem X5_begin (D : StT t M.2.2) (hc : c < 128) (e : M.1 266 t 0 = nI c) : HX5_begin t a1 a2 M ∧ ∃ N, GX5_begin t a1 a2 M = N ∧ N.2 = M.2 ∧
    (∀ f b i, ¬ ((f = 249 ∨ f = 250 ∨ f = 251 ∨ f = 252 ∨ f = 253) ∧ b = ndc t M.2.2 c) → ¬ (f = 255 ∧ b = M.2.2 248 (ndc t M.2.2 c) 0) → ¬ ((f = 266 ∨ f = 268) ∧ b = t) → N.1 f b i = M.1 f b i) ∧
    N.1 249 (ndc t M.2.2 c) 0 = a1 ∧ N.1 250 (ndc t M.2.2 c) 0 = a2 ∧ N.1 251 (ndc t M.2.2 c) 0 = M.1 267 t 0 ∧ N.1 252 (ndc t M.2.2 c) 0 = nI 0 ∧ N.1 255 (M.2.2 248 (ndc t M.2.2 c) 0) 0 = nI 0 ∧ N.1 266 t 0 = nI (c + 1) ∧ N.1 268 t 0 = nI c := by
  unfold HX5_begin HX5_begin_0 GX5_begin GX5_begin_0
  dsimp only
  rw [e, o_cl (by omega)]
  refine ⟨⟨in_nI D.2.1 hc (by decide), trivial⟩, _, rfl, rfl, fun f b i h1 h2 h3 => ?_, ?_, ?_, ?_, ?_, ?_, ?_, ?_⟩
  · refine (oI (fun z => h3 ⟨Or.inr z.1, z.2.1⟩)).trans ?_
    refine (oI (fun z => h3 ⟨Or.inl z.1, z.2.1⟩)).trans ?_
    refine (oI (fun z => h2 ⟨z.1, z.2.1⟩)).trans ?_
    refine (oI (fun z => h1 ⟨Or.inr (Or.inr (Or.inr (Or.inr z.1))), z.2.1⟩)).trans ?_
    refine (oI (fun z => h1 ⟨Or.inr (Or.inr (Or.inr (Or.inl z.1))), z.2.1⟩)).trans ?_
    refine (oI (fun z => h1 ⟨Or.inr (Or.inr (Or.inl z.1)), z.2.1⟩)).trans ?_
    refine (oI (fun z => h1 ⟨Or.inr (Or.inl z.1), z.2.1⟩)).trans ?_
    exact oI (fun z => h1 ⟨Or.inl z.1, z.2.1⟩)
  · simp [fm_sI, ndc]
  · simp [fm_sI, ndc]
  · simp [fm_sI, ndc]
  · simp [fm_sI, ndc]
    rfl
  · simp [fm_sI, ndc]
    rfl
  · rw [← up_b (by omega), ← e]
    simp [fm_sI, ndc]
  · rw [← e]
    simp [fm_sI, ndc]
end Tt
theorem s2I {M : FM} {f a i : Nat} {v : Int32} : (fm_sI M f a i v).2 = M.2 := rfl
theorem up_g {s : Nat} : nI s + Int32.ofInt 1 = nI (s + 1) := nI_a (n := 1)
section Tu
variable {t q rq : Nat} {M N : FM} {W S X V Y : List Nat} {s : DSt} {a1 a2 : Int32} {c i j k : Nat}
/-- a piece is set: what else stands -/
theorem set_o (F : Frm (PSe c (M.2.2 263 t 0) M) M N) {f b k : Nat} (h1 : f ≠ 3) (h2 : f ≠ 262) (h3 : (f ≠ 254 ∧ f ≠ 255) ∨ b ≠ c) : N.1 f b k = M.1 f b k := (F.2 f b k (fun y => by
  rcases y with y | y | y
  · rcases h3 with h3 | h3
    · omega
    · exact h3 y.2
  · exact h2 y.1
  · exact h1 y.1)).1
theorem set_p (D : StT t M.2.2) (F : Frm (PSe (pcc t M.2.2 i) (M.2.2 263 t 0) M) M N) (hi : i < 1152) (hj : j < 1152) (h : j ≠ i) (V : PcV (pcc t M.2.2 j) M W X) (Y : List Nat) : PcV (pcc t M.2.2 j) N (W ++ Y) X :=
  have dn : pcc t M.2.2 j ≠ pcc t M.2.2 i := fun z => h (D.2.2.2.2 _ _ hj hi z)
  pcV_k Y V (set_o F (by decide) (by decide) (Or.inr dn)) (set_o F (by decide) (by decide) (Or.inr dn))
theorem set_pn (D : StT t M.2.2) (F : Frm (PSe (pcc t M.2.2 i) (M.2.2 263 t 0) M) M N) (hi : i < 1152) (hj : j < 1152) (h : j ≠ i) (V : PcN (pcc t M.2.2 j) M W X) (Y : List Nat) : PcN (pcc t M.2.2 j) N (W ++ Y) X :=
  have dn : pcc t M.2.2 j ≠ pcc t M.2.2 i := fun z => h (D.2.2.2.2 _ _ hj hi z)
  pcN_k Y V (set_o F (by decide) (by decide) (Or.inr dn)) (set_o F (by decide) (by decide) (Or.inr dn))
theorem set_n (D : StT t M.2.2) (F : Frm (PSe (pcc t M.2.2 i) (M.2.2 263 t 0) M) M N) (hi : i < 1152) (hj : j < 128) (h : j ≠ i) {x : Nd} (V : NdV (ndc t M.2.2 j) M W x) (Y : List Nat) : NdV (ndc t N.2.2 j) N (W ++ Y) x := by
  obtain ⟨⟨x1, x2, x3, x4⟩, x5⟩ := V
  unfold NdV
  rw [F.1]
  rw [pcc_n (t := t) (R := M.2.2) hj] at x5 ⊢
  exact ⟨⟨(set_o F (by decide) (by decide) (Or.inl (by decide))).trans x1, (set_o F (by decide) (by decide) (Or.inl (by decide))).trans x2, (set_o F (by decide) (by decide) (Or.inl (by decide))).trans x3, (set_o F (by decide) (by decide) (Or.inl (by decide))).trans x4⟩, set_pn D F hi (by omega) h x5 Y⟩
theorem set_q (D : StT t M.2.2) (F : Frm (PSe (pcc t M.2.2 i) (M.2.2 263 t 0) M) M N) (hi : i < 1152) (hj : j < 512) (h : j + 128 ≠ i ∧ j + 640 ≠ i) {x : Pp} (V : PpV (ppc t M.2.2 j) M W x) (Y : List Nat) : PpV (ppc t N.2.2 j) N (W ++ Y) x := by
  obtain ⟨x1, x2⟩ := V
  unfold PpV
  rw [F.1]
  rw [pcc_p (t := t) (R := M.2.2) hj] at x1 ⊢
  rw [pcc_v (t := t) (R := M.2.2)] at x2 ⊢
  exact ⟨set_p D F hi (by omega) h.1 x1 Y, set_p D F hi (by omega) h.2 x2 Y⟩
/-- numbers and pieces are not written -/
theorem ndV_k (e : N.2.2 = M.2.2) {x : Nd} (h : ∀ f, f = 249 ∨ f = 250 ∨ f = 251 ∨ f = 252 → N.1 f (ndc t M.2.2 j) 0 = M.1 f (ndc t M.2.2 j) 0) (h2 : ∀ f, f = 254 ∨ f = 255 → N.1 f (M.2.2 248 (ndc t M.2.2 j) 0) 0 = M.1 f (M.2.2 248 (ndc t M.2.2 j) 0) 0) (V : NdV (ndc t M.2.2 j) M W x) : NdV (ndc t N.2.2 j) N W x := by
  obtain ⟨⟨x1, x2, x3, x4⟩, x5⟩ := V
  unfold NdV
  rw [e]
  have := pcN_k [] x5 (h2 254 (Or.inl rfl)) (h2 255 (Or.inr rfl))
  rw [List.append_nil] at this
  exact ⟨⟨(h 249 (by omega)).trans x1, (h 250 (by omega)).trans x2, (h 251 (by omega)).trans x3, (h 252 (by omega)).trans x4⟩, this⟩
theorem ppV_k (e : N.2.2 = M.2.2) {x : Pp} (h1 : ∀ f, f = 254 ∨ f = 255 → N.1 f (M.2.2 258 (ppc t M.2.2 j) 0) 0 = M.1 f (M.2.2 258 (ppc t M.2.2 j) 0) 0) (h2 : ∀ f, f = 254 ∨ f = 255 → N.1 f (M.2.2 259 (ppc t M.2.2 j) 0) 0 = M.1 f (M.2.2 259 (ppc t M.2.2 j) 0) 0) (V : PpV (ppc t M.2.2 j) M W x) : PpV (ppc t N.2.2 j) N W x := by
  obtain ⟨x1, x2⟩ := V
  unfold PpV
  rw [e]
  have y1 := pcV_k [] x1 (h1 254 (Or.inl rfl)) (h1 255 (Or.inr rfl))
  have y2 := pcV_k [] x2 (h2 254 (Or.inl rfl)) (h2 255 (Or.inr rfl))
  rw [List.append_nil] at y1 y2
  exact ⟨y1, y2⟩
theorem st_w {R R' : Rf} (h : R' = R) (D : StT t R) : StT t R' := by
  rw [h]
  exact D
/-- a node is opened -/
theorem X5_open (T : Ty M) (D : StT t M.2.2) (V : VTtr t M W s) (hs : s.1.length < 128) (hp : s.2.1.length ≤ 512) (hk : hdK s.2.2 < s.1.length) (Q : RwB q 512 M S) (q1 : M.2.2 261 q 0 ≠ M.2.2 261 (M.2.2 263 t 0) 0) (hS : S.length ≤ 512) (hl : W.length + S.length ≤ 16384) :
    HX5_open t q (Int32.ofInt 0) (nI S.length) M ∧ ∃ N, (GX5_open t q (Int32.ofInt 0) (nI S.length) M).2 = N ∧ Frm (PTt t M) M N ∧ Ty N ∧ VTtr t N (W ++ S) (dOpen S s) := by
  obtain ⟨v1, ⟨v2, v3, v4⟩, v5, v6⟩ := V
  obtain ⟨⟨w1, w2, w3, w4⟩, w5⟩ := v5 _ hk
  have nh := tg_e (st_n T D (k := hdK s.2.2) (by omega))
  have ic := st_n T D (k := s.1.length) hs
  have nc := tg_e ic
  have npc := tN_248 T.1 ic
  have tpc := tg_e npc
  obtain ⟨b1, N1, b2, b3, b4, b5, b6, b7, b8, b9, b10, b11⟩ := X5_begin (t := t) (M := fm_sI M 253 (ndc t M.2.2 (hdK s.2.2)) 0 (Int32.ofInt 1)) (a1 := nI (hdK s.2.2)) (a2 := nI ((s.1.getD (hdK s.2.2) nd0).2.2.1 + 1)) (c := s.1.length) D hs ((oI (fun z => absurd z.1 (by decide))).trans v2)
  have T4 : Ty (fm_sI M 253 (ndc t M.2.2 (hdK s.2.2)) 0 (Int32.ofInt 1)) := ⟨T.1, tyb_sIb rfl T.2 (Or.inr rfl)⟩
  have T1 : Ty N1 := by
    have := (gX5_begin t (nI (hdK s.2.2)) (nI ((s.1.getD (hdK s.2.2) nd0).2.2.1 + 1)) _ T4 D.1 b1).2.1
    rw [b2] at this
    exact this
  have r1 : N1.2.2 = M.2.2 := congrArg Prod.snd b3
  have k1 : ∀ f b i, ¬ ((f = 249 ∨ f = 250 ∨ f = 251 ∨ f = 252 ∨ f = 253) ∧ M.2.2 0 b 0 = 82) → ¬ (f = 255 ∧ b = M.2.2 248 (ndc t M.2.2 s.1.length) 0) → ¬ ((f = 266 ∨ f = 268) ∧ b = t) → N1.1 f b i = M.1 f b i := fun f b i h1 h2 h3 => (b4 f b i (fun z => h1 ⟨z.1, by rw [z.2]; exact nc⟩) h2 h3).trans (oI (fun z => h1 ⟨Or.inr (Or.inr (Or.inr (Or.inr z.1))), by rw [z.2.1]; exact nh⟩))
  have row : ∀ {o room Y}, RwB o room M Y → RwB o room N1 Y := fun {o room Y} h => rwB_f h r1 (k1 262 o 0 (fun z => by omega) (fun z => by omega) (fun z => by omega)) (fun k => k1 3 _ k (fun z => by omega) (fun z => by omega) (fun z => by omega))
  have D1 : StT t N1.2.2 := st_w r1 D
  obtain ⟨p1, N, p2, p3, p4, p5⟩ := X7_set (c := M.2.2 248 (ndc t M.2.2 s.1.length) 0) (w := M.2.2 263 t 0) (from_ := 0) (many := S.length) T1 (by rw [fm_is, r1]; exact npc) (row v1) (row Q) (by rw [r1]; exact q1) (by omega) hS (by decide) hl
  rw [List.drop_zero, List.take_length] at p4 p5
  have p2 : GX7_set (M.2.2 248 (ndc t M.2.2 s.1.length) 0) (M.2.2 263 t 0) q (Int32.ofInt 0) (nI S.length) N1 = N := p2
  have p1 : HX7_set (M.2.2 248 (ndc t M.2.2 s.1.length) 0) (M.2.2 263 t 0) q (Int32.ofInt 0) (nI S.length) N1 := p1
  have H : HX5_open t q (Int32.ofInt 0) (nI S.length) M ∧ (GX5_open t q (Int32.ofInt 0) (nI S.length) M).2 = N := by
    have e250 : (fm_sI M 253 (ndc t M.2.2 (hdK s.2.2)) 0 (Int32.ofInt 1)).1 250 (ndc t M.2.2 (hdK s.2.2)) 0 = nI (s.1.getD (hdK s.2.2) nd0).2.2.1 := (oI (fun z => absurd z.1 (by decide))).trans w2
    unfold HX5_open HX5_open_0 GX5_open GX5_open_0
    dsimp only [s2I]
    rw [v4, o_cl (by omega), show M.2.2 3 (M.2.2 264 t 0) (hdK s.2.2) = ndc t M.2.2 (hdK s.2.2) from rfl, e250, up_g, b2, r1, b11, o_cl (by omega), show M.2.2 3 (M.2.2 264 t 0) s.1.length = ndc t M.2.2 s.1.length from rfl]
    refine ⟨⟨in_nI D.2.1 (by omega) (by decide), in_nI (M := fm_sI M 253 _ 0 _) D.2.1 (by omega) (by decide), b1, in_nI (by rw [r1]; exact D.2.1) hs (by decide), p1, trivial⟩, p2⟩
  have T' : Ty N := by
    have := (gX5_open t q (Int32.ofInt 0) (nI S.length) M T D.1 Q.1 H.1).2.1
    rw [H.2] at this
    exact this
  have r2 : N.2.2 = M.2.2 := p3.1.trans r1
  have F : Frm (PTt t M) M N := by
    refine ⟨r2, fun f b i z => ⟨?_, ?_⟩⟩
    · refine ((p3.2 f b i (fun y => ?_)).1).trans (k1 f b i (fun y => z (Or.inl y)) (fun y => z (Or.inr (Or.inl ⟨Or.inr y.1, by rw [y.2]; exact tpc⟩))) (fun y => z (Or.inr (Or.inr (Or.inr (Or.inl ⟨by omega, y.2⟩))))))
      rcases y with y | y
      · exact z (Or.inr (Or.inl ⟨y.1, by rw [y.2]; exact tpc⟩))
      · exact z (Or.inr (Or.inr (Or.inr (Or.inr (pro_w r1 f b y)))))
    · refine ((p3.2 f b i (fun y => ?_)).2).trans ?_
      · rcases y with y | y
        · exact z (Or.inr (Or.inl ⟨y.1, by rw [y.2]; exact tpc⟩))
        · exact z (Or.inr (Or.inr (Or.inr (Or.inr (pro_w r1 f b y)))))
      · rw [congrArg Prod.fst b3]
        rfl
  have pe : M.2.2 248 (ndc t M.2.2 s.1.length) 0 = pcc t N1.2.2 s.1.length := by rw [r1]; exact pcc_n hs
  have we : M.2.2 263 t 0 = N1.2.2 263 t 0 := by rw [r1]
  have p3' := p3
  rw [pe, we] at p3'
  have k2 : ∀ f b i, f ≠ 3 → f ≠ 262 → f ≠ 254 → f ≠ 255 → N.1 f b i = N1.1 f b i := fun f b i h1 h2 h3 h4 => set_o (t := t) p3' h1 h2 (Or.inl ⟨h3, h4⟩)
  refine ⟨H.1, N, H.2, F, T', by rw [r2]; exact p4, ⟨?_, ?_, ?_⟩, fun k hk' => ?_, fun k hk' => ?_⟩
  · rw [k2 266 t 0 (by decide) (by decide) (by decide) (by decide), b10]
    unfold dOpen
    dsimp only
    rw [List.length_append]
    rfl
  · rw [k2 267 t 0 (by decide) (by decide) (by decide) (by decide), k1 267 t 0 (fun z => by omega) (fun z => by omega) (fun z => by omega), v3]
    rfl
  · rw [k2 268 t 0 (by decide) (by decide) (by decide) (by decide), b11]
    rfl
  · have e0 : (dOpen S s).1 = s.1 ++ [(S, hdK s.2.2, (s.1.getD (hdK s.2.2) nd0).2.2.1 + 1, s.2.1.length, 0)] := rfl
    rw [e0, List.length_append] at hk'
    have hk' : k < s.1.length + 1 := hk'
    rw [e0]
    by_cases q : k = s.1.length
    · rw [q, List.getD_eq_getElem?_getD, List.getElem?_concat_length]
      unfold NdV
      rw [r2]
      refine ⟨⟨(k2 249 _ 0 (by decide) (by decide) (by decide) (by decide)).trans b5, (k2 250 _ 0 (by decide) (by decide) (by decide) (by decide)).trans b6, ?_, (k2 252 _ 0 (by decide) (by decide) (by decide) (by decide)).trans b8⟩, Or.inl p5⟩
      refine (k2 251 _ 0 (by decide) (by decide) (by decide) (by decide)).trans (b7.trans ?_)
      exact (oI (fun z => absurd z.1 (by decide))).trans v3
    · have hk2 : k < s.1.length := by omega
      rw [List.getD_eq_getElem?_getD, List.getElem?_append_left hk2, ← List.getD_eq_getElem?_getD]
      have dn : ndc t M.2.2 k ≠ ndc t M.2.2 s.1.length := fun z => q (D.2.2.2.1 _ _ (by omega) hs z)
      have dp : M.2.2 248 (ndc t M.2.2 k) 0 ≠ M.2.2 248 (ndc t M.2.2 s.1.length) 0 := fun z => q (D.2.2.2.2 _ _ (by omega) (by omega) (by rw [pcc_n (t := t) (R := M.2.2) (k := k) (by omega), pcc_n (t := t) (R := M.2.2) hs] at z; exact z))
      have A1 : NdV (ndc t N1.2.2 k) N1 W (s.1.getD k nd0) := ndV_k r1 (fun f h => (b4 f _ 0 (fun z => dn z.2) (fun z => by omega) (fun z => by omega)).trans (oI (fun z => by omega))) (fun f h => k1 f _ 0 (fun z => by omega) (fun z => dp z.2) (fun z => by omega)) (v5 k hk2)
      exact set_n D1 p3' (by omega) (by omega) q A1 S
  · have hk3 : k < s.2.1.length := hk'
    have dp : ∀ j, j < 1152 → j ≠ s.1.length → pcc t M.2.2 j ≠ M.2.2 248 (ndc t M.2.2 s.1.length) 0 := fun j hj h z => h (D.2.2.2.2 _ _ hj (by omega) (by rw [pcc_n (t := t) (R := M.2.2) hs] at z; exact z))
    have A1 : PpV (ppc t N1.2.2 k) N1 W (s.2.1.getD k pp0) := ppV_k r1 (fun f h => k1 f _ 0 (fun z => by omega) (fun z => dp (k + 128) (by omega) (by omega) (by rw [← pcc_p (t := t) (R := M.2.2) (k := k) (by omega)]; exact z.2)) (fun z => by omega)) (fun f h => k1 f _ 0 (fun z => by omega) (fun z => dp (k + 640) (by omega) (by omega) (by rw [← pcc_v (t := t) (R := M.2.2)]; exact z.2)) (fun z => by omega)) (v6 k hk3)
    exact set_q D1 p3' (by omega) (by omega) (by omega) A1 S
end Tu
