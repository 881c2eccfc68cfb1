/-! trees: the component's Press -/
set_option maxRecDepth 100000
/-- how the press is laid -/
def StP (p t : Nat) (R : Rf) : Prop := fr R 84 84 p = true ∧ StT t R ∧ (DR R (R 256 p 0) (R 263 t 0) ∧ DR R (R 257 p 0) (R 263 t 0) ∧ DR R (R 256 p 0) (R 257 p 0)) ∧ R 1 (R 261 (R 256 p 0) 0) 0 = 65536 ∧ R 1 (R 261 (R 257 p 0) 0) 0 = 16896
def VPr (p t n : Nat) (M : FM) (W : List Nat) (s : DSt) (r : Rst) : Prop := (Ty M ∧ StP p t M.2.2) ∧ (VTtr t M W s ∧ W.length ≤ 16384) ∧ RwB (M.2.2 256 p 0) 65536 M r.1 ∧ RwB (M.2.2 257 p 0) 16896 M (flN r.2) ∧ okN r.2 ∧ r.1.length ≤ 128 * n ∧ (flN r.2).length ≤ 32 * n ∧ r.2.length ≤ n
theorem vtt_ro {t r : Nat} {M N : FM} {W : List Nat} {s : DSt} (h : DR M.2.2 r (M.2.2 263 t 0)) (V : VTtr t M W s) (F : Frm (PRo r M) M N) : VTtr t N W s := by
  have e := F.1
  have ko : ∀ f b i, f ≠ 262 → f ≠ 3 → N.1 f b i = M.1 f b i := fun f b i h1 h2 => (F.2 f b i (fun z => by
    rcases z with z | z
    · exact h1 z.1
    · exact h2 z.1)).1
  obtain ⟨v1, ⟨v2, v3, v4⟩, v5, v6⟩ := V
  refine ⟨?_, ⟨(ko 266 _ 0 (by decide) (by decide)).trans v2, (ko 267 _ 0 (by decide) (by decide)).trans v3, (ko 268 _ 0 (by decide) (by decide)).trans v4⟩, fun k hk => ndV_k e (fun f h => ko f _ 0 (by omega) (by omega)) (fun f h => ko f _ 0 (by omega) (by omega)) (v5 k hk), fun k hk => ppV_k e (fun f h => ko f _ 0 (by omega) (by omega)) (fun f h => ko f _ 0 (by omega) (by omega)) (v6 k hk)⟩
  rw [e]
  exact rwB_o v1 F (fun z => h.1 z.symm) (fun z => h.2 z.symm)
section Pr
variable {p t n k : Nat} {M N : FM} {W S X NM : List Nat} {s : DSt} {r : Rst} {L : List (List Nat)}
theorem pr_out {n' : Nat} (V : VPr p t n M W s (S, L)) (F : Frm (PRo (M.2.2 256 p 0) M) M N) (TN : Ty N) (Q : RwB (M.2.2 256 p 0) 65536 N X) (h : X.length ≤ 128 * n') (hn : n ≤ n') : VPr p t n' N W s (X, L) := by
  obtain ⟨⟨T, D⟩, ⟨v, w⟩, o, m, ok, b1, b2, b3⟩ := V
  have e := F.1
  have b2 : (flN L).length ≤ 32 * n := b2
  have b3 : L.length ≤ n := b3
  refine ⟨⟨TN, by rw [e]; exact D⟩, ⟨vtt_ro D.2.2.1.1 v F, w⟩, by rw [e]; exact Q, ?_, ok, h, by show (flN L).length ≤ 32 * n'; omega, by show L.length ≤ n'; omega⟩
  rw [e]
  exact rwB_o m F (fun z => D.2.2.1.2.2.1 z.symm) (fun z => D.2.2.1.2.2.2 z.symm)
theorem pr_nm {n' : Nat} {L' : List (List Nat)} (V : VPr p t n M W s (S, L)) (F : Frm (PRo (M.2.2 257 p 0) M) M N) (TN : Ty N) (Q : RwB (M.2.2 257 p 0) 16896 N (flN L')) (ok' : okN L') (h1 : (flN L').length ≤ 32 * n') (h2 : L'.length ≤ n') (hn : n ≤ n') : VPr p t n' N W s (S, L') := by
  obtain ⟨⟨T, D⟩, ⟨v, w⟩, o, m, ok, b1, b2, b3⟩ := V
  have e := F.1
  have b1 : S.length ≤ 128 * n := b1
  refine ⟨⟨TN, by rw [e]; exact D⟩, ⟨vtt_ro D.2.2.1.2.1 v F, w⟩, ?_, by rw [e]; exact Q, ok', by show S.length ≤ 128 * n'; omega, h1, h2⟩
  rw [e]
  exact rwB_o o F D.2.2.1.2.2.1 D.2.2.1.2.2.2
theorem pr_le {n' : Nat} (V : VPr p t n M W s r) (h : n ≤ n') : VPr p t n' M W s r := by
  obtain ⟨a, b, o, m, ok, b1, b2, b3⟩ := V
  exact ⟨a, b, o, m, ok, by omega, by omega, by omega⟩
/-- steps of the press over the row that goes out -/
theorem pr_nu {n' v : Nat} (V : VPr p t n M W s (S, L)) (hv : v < 4294967296) (hl : S.length + 4 ≤ 128 * n') (hn : n ≤ n') (hn' : n' ≤ 500) : HX3_addNumber (M.2.2 256 p 0) (nI v) M ∧ Ext M (GX3_addNumber (M.2.2 256 p 0) (nI v) M) ∧ (GX3_addNumber (M.2.2 256 p 0) (nI v) M).2.2 = M.2.2 ∧ VPr p t n' (GX3_addNumber (M.2.2 256 p 0) (nI v) M) W s (S ++ be4 v, L) := by
  obtain ⟨p1, N, p2, p3, p4, p5⟩ := X3_addNumber V.1.1 hv (by decide) V.2.2.1 (by show S.length + 4 ≤ 65536; omega)
  rw [p2]
  refine ⟨p1, frm_ext p3, p3.1, pr_out V p3 p4 p5 ?_ hn⟩
  rw [List.length_append]
  exact hl
theorem pr_by {n' : Nat} (V : VPr p t n M W s (S, L)) (hl : S.length + 1 ≤ 128 * n') (hn : n ≤ n') (hn' : n' ≤ 500) : HX3_add (M.2.2 256 p 0) (Int32.ofInt 0) M ∧ Ext M (GX3_add (M.2.2 256 p 0) (Int32.ofInt 0) M) ∧ (GX3_add (M.2.2 256 p 0) (Int32.ofInt 0) M).2.2 = M.2.2 ∧ VPr p t n' (GX3_add (M.2.2 256 p 0) (Int32.ofInt 0) M) W s (S ++ [0], L) := by
  obtain ⟨p1, N, p2, p3, p4⟩ := X3_add V.2.2.1 (by show S.length < 65536; omega) (by decide) (Int32.ofInt 0)
  rw [show ui (Int32.ofInt 0) % 256 = 0 from rfl] at p4
  rw [p2]
  refine ⟨p1, frm_ext p3, p3.1, pr_out V p3 (pro_y p3 V.2.2.1.1 V.1.1) p4 ?_ hn⟩
  rw [List.length_append]
  exact hl
theorem padL_l : (padL S).length ≤ S.length + 3 := by
  unfold padL
  rw [List.length_append, List.length_replicate]
  omega
theorem pr_fil {n' : Nat} (V : VPr p t n M W s (S, L)) (hl : S.length + 3 ≤ 128 * n') (hn : n ≤ n') (hn' : n' ≤ 500) : HX3_fillUp (M.2.2 256 p 0) M ∧ Ext M (GX3_fillUp (M.2.2 256 p 0) M) ∧ (GX3_fillUp (M.2.2 256 p 0) M).2.2 = M.2.2 ∧ VPr p t n' (GX3_fillUp (M.2.2 256 p 0) M) W s (padL S, L) := by
  obtain ⟨p1, N, p2, p3, p4, p5⟩ := X3_fillUp V.1.1 (by decide) V.2.2.1 (by show S.length + 4 ≤ 65536; omega)
  rw [p2]
  exact ⟨p1, frm_ext p3, p3.1, pr_out V p3 p4 p5 (Nat.le_trans padL_l hl) hn⟩
/-- a piece is put behind -/
theorem pr_pc {n' c : Nat} {cs : List Nat} (V : VPr p t n M W s (S, L)) (Pc : PcV c M W cs) (hl : S.length + cs.length ≤ 128 * n') (hn : n ≤ n') (hn' : n' ≤ 500) : HX3_addAll (M.2.2 256 p 0) (M.2.2 263 t 0) (M.1 254 c 0) (M.1 255 c 0) M ∧ Ext M (GX3_addAll (M.2.2 256 p 0) (M.2.2 263 t 0) (M.1 254 c 0) (M.1 255 c 0) M) ∧ (GX3_addAll (M.2.2 256 p 0) (M.2.2 263 t 0) (M.1 254 c 0) (M.1 255 c 0) M).2.2 = M.2.2 ∧ VPr p t n' (GX3_addAll (M.2.2 256 p 0) (M.2.2 263 t 0) (M.1 254 c 0) (M.1 255 c 0) M) W s (S ++ cs, L) := by
  obtain ⟨o, c1, c2, c3, c4⟩ := Pc
  have W1 : RwB (M.2.2 263 t 0) 16384 M W := V.2.1.1.1
  obtain ⟨p1, N, p2, p3, p4, p5⟩ := X3_addAll (from_ := o) (many := cs.length) V.1.1 V.2.2.1 W1 (fun z => V.1.2.2.2.1.1.2 z.symm) (Or.inl c3) V.2.1.2 (by show S.length + cs.length ≤ 65536; omega) (by decide) (by decide)
  rw [c4] at p5
  rw [c1, c2, p2]
  refine ⟨p1, frm_ext p3, p3.1, pr_out V p3 p4 p5 ?_ hn⟩
  rw [List.length_append]
  exact hl
theorem pr_pn {n' c : Nat} {cs : List Nat} (V : VPr p t n M W s (S, L)) (Pc : PcN c M W cs) (hl : S.length + cs.length ≤ 128 * n') (hn : n ≤ n') (hn' : n' ≤ 500) : HX3_addAll (M.2.2 256 p 0) (M.2.2 263 t 0) (M.1 254 c 0) (M.1 255 c 0) M ∧ Ext M (GX3_addAll (M.2.2 256 p 0) (M.2.2 263 t 0) (M.1 254 c 0) (M.1 255 c 0) M) ∧ (GX3_addAll (M.2.2 256 p 0) (M.2.2 263 t 0) (M.1 254 c 0) (M.1 255 c 0) M).2.2 = M.2.2 ∧ VPr p t n' (GX3_addAll (M.2.2 256 p 0) (M.2.2 263 t 0) (M.1 254 c 0) (M.1 255 c 0) M) W s (S ++ cs, L) := by
  rcases Pc with Pc | ⟨e, o, c1, c2, c3⟩
  · exact pr_pc V Pc hl hn hn'
  · have W1 : RwB (M.2.2 263 t 0) 16384 M W := V.2.1.1.1
    obtain ⟨p1, N, p2, p3, p4, p5⟩ := X3_addAll (from_ := o) (many := 0) V.1.1 V.2.2.1 W1 (fun z => V.1.2.2.2.1.1.2 z.symm) (Or.inr ⟨rfl, c1⟩) V.2.1.2 (by show S.length + 0 ≤ 65536; omega) (by decide) (by decide)
    rw [List.take_zero] at p5
    rw [c2, c3, p2, e]
    refine ⟨p1, frm_ext p3, p3.1, pr_out V p3 p4 p5 ?_ hn⟩
    rw [List.append_nil]
    omega
theorem addN_l {cs : List Nat} : (flN (addN cs L)).length ≤ (flN L).length + cs.length + 1 ∧ (addN cs L).length ≤ L.length + 1 := by
  unfold addN
  by_cases h : cs ∈ L
  · rw [if_pos h]
    omega
  · rw [if_neg h, flN_a, List.length_append, List.length_append]
    refine ⟨?_, Nat.le_refl _⟩
    show _ + (cs ++ 0 :: []).length ≤ _
    rw [List.length_append]
    show _ + (cs.length + 1) ≤ _
    omega
theorem pr_name {n' c : Nat} {cs : List Nat} (V : VPr p t n M W s (S, L)) (n3 : fm_is M 83 83 c = true) (Pc : PcV c M W cs) (hc : ∀ x, x ∈ cs → 0 < x ∧ x < 128) (hl : cs.length ≤ 31) (hn : n + 1 ≤ n') (hn' : n' ≤ 500) : HX9_nameAt p t c M ∧ (GX9_nameAt p t c M).1 = nI (plN cs L) ∧ plN cs L < 65536 ∧ Ext M (GX9_nameAt p t c M).2 ∧ (GX9_nameAt p t c M).2.2.2 = M.2.2 ∧ VPr p t n' (GX9_nameAt p t c M).2 W s (S, addN cs L) := by
  have b2 : (flN L).length ≤ 32 * n := V.2.2.2.2.2.2.1
  have b3 : L.length ≤ n := V.2.2.2.2.2.2.2
  obtain ⟨l1, l2⟩ := addN_l (cs := cs) (L := L)
  obtain ⟨p1, N, p2, p3, p4, p5, p6⟩ := X9_nameAt (p := p) (t := t) (c := c) V.1.1 V.1.2.1 V.1.2.2.1.1 n3 (fun z => V.1.2.2.2.1.2.1.2 z.symm) V.2.2.2.1 V.2.2.2.2.1 V.2.1.1.1 Pc V.2.1.2 hc (by show (flN L).length + cs.length + 1 ≤ 16896; omega) (by show L.length ≤ 1000; omega)
  have hb : ∀ (B : List (List Nat)), plN cs B ≤ (flN B).length := by
    intro B
    induction B with
    | nil => exact Nat.le_refl _
    | cons w B ih =>
      show (if w = cs then 0 else w.length + 1 + plN cs B) ≤ (w ++ 0 :: flN B).length
      rw [List.length_append, List.length_cons]
      by_cases h : w = cs
      · rw [if_pos h]
        omega
      · rw [if_neg h]
        omega
  have := hb L
  rw [p2]
  exact ⟨p1, rfl, by omega, frm_ext p3, p3.1, pr_nm V p3 p4 p5 p6 (by omega) (by omega) (by omega)⟩
end Pr
