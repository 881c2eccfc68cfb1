/-! disks: the component gathers a request -/
set_option maxRecDepth 100000
section Gd
variable {q x r rq : Nat} {M : FM} {size gv : Nat} {bl an : Int64}
/-- the first block is fit -/
def fst16 (pre : List Blk) (B : Blk) : Prop := pre = [] → B.2.2 = false ∧ 16 ≤ ul B.2.1
theorem nuC_l {a : Int64} {s : Nat} (V : VQc q x r rq M size bl an gv) (ha : inR a s) (h8 : s ≤ 8) : ul (nuC x M a s) < 2 ^ (8 * s) := nuC_lt V.1 V.2.2.2.1 V.2.2.2.2.1 ha h8
theorem c136 {M' : FM} (h : Frm (PRq rq M) M M') (V : VQc q x r rq M size bl an gv) {pre : List Blk} {k : Nat} (g : Gc rq M' (nuC x M) pre) (hin : inR (gB bl k) 16) (hn : pre.length < size) :
    HX20_gather_136 q x rq (nI pre.length) (bz ((lstB pre).2.2 = true)) (gB bl k) (gBk (nuC x M) bl k).1 (gBk (nuC x M) bl k).2.1 (gMk (nuC x M) bl k) (bz ((gBk (nuC x M) bl k).2.2 = true)) M' ∧
    ∃ N, Frm (PRq rq M) M N ∧ (gOk (nuC x M) bl k (lstB pre).2.2 ∧ fst16 pre (gBk (nuC x M) bl k) → Gc rq N (nuC x M) (pre ++ [gBk (nuC x M) bl k]) ∧ N.1 80 rq 0 = M'.1 80 rq 0) ∧
      GX20_gather_136 q x rq (nI pre.length) (bz ((lstB pre).2.2 = true)) (gB bl k) (gBk (nuC x M) bl k).1 (gBk (nuC x M) bl k).2.1 (gMk (nuC x M) bl k) (bz ((gBk (nuC x M) bl k).2.2 = true)) M' =
        fi (gOk (nuC x M) bl k (lstB pre).2.2 ∧ fst16 pre (gBk (nuC x M) bl k)) (.inl (q, x, rq, nI (ul (nuC x M (gB bl k + Int64.ofInt 14) 2)), nI (pre.length + 1), bz (ib (gMk (nuC x M) bl k) 0 = true), bz ((gBk (nuC x M) bl k).2.2 = true), (gBk (nuC x M) bl k).2.1, N)) (.inr (Int32.ofInt 0, M')) := by
  have hs := V.2.2.2.2.2.2.2.2.2.2.2.2
  have V' := vq_f h V
  have lt4 : ul (gBk (nuC x M) bl k).2.1 < 2 ^ 32 := nuC_l (s := 4) V (gB_in hin 8 4 (by decide)) (by decide)
  have p32 : (2 : Nat) ^ 32 = 4294967296 := by decide
  have key := fun (hok : (gBk (nuC x M) bl k).2.1 = 0 ∨ inR (gBk (nuC x M) bl k).1 (ul (gBk (nuC x M) bl k).2.1)) (h0 : fst16 pre (gBk (nuC x M) bl k)) => c208 h V g hin hn hok h0 (gMk (nuC x M) bl k)
  have eo : ib (gMk (nuC x M) bl k) 1 = (gBk (nuC x M) bl k).2.2 := rfl
  unfold gOk
  rw [eo]
  generalize gBk (nuC x M) bl k = B at *
  generalize gMk (nuC x M) bl k = mk at *
  generalize (lstB pre).2.2 = po at *
  have i0 : nI pre.length = 0 ↔ pre = [] := ⟨fun z => List.length_eq_zero_iff.mp (nI_j (a := pre.length) (b := 0) (by omega) (by decide) z), fun z => by rw [z]; rfl⟩
  have m2 : mk &&& Int32.ofInt 4 = 0 ↔ ¬ ib mk 2 = true := and_0 (x := mk) (v := Int32.ofInt 4) (j := 2) (by decide) rfl
  have c16 : 0 ≤ lg_cmp B.2.1 (Int64.ofInt 16) ↔ 16 ≤ ul B.2.1 := by
    rw [cl_ge, tl, tl, show ul (Int64.ofInt 16) = 16 from rfl, if_pos (show (16 : Nat) < 9223372036854775808 by decide), if_pos (by omega)]
    omega
  have c0 : lg_cmp B.2.1 (Int64.ofInt 0) ≤ 0 ↔ B.2.1 = 0 := by
    rw [cl_le, tl, tl, if_pos (by omega), show ul (Int64.ofInt 0) = 0 from rfl, if_pos (by decide)]
    constructor
    · intro z
      exact ul_inj (by show ul B.2.1 = 0; omega)
    · intro z
      rw [z]
      decide
  have hh := X19_has (M := M') (a := B.1) (b := B.2.1) V'.2.2.2.2.1 V'.2.1 (by omega)
  -- behind the test of the marks
  have w178 : fst16 pre B → HX20_gather_178 q x rq (nI pre.length) (gB bl k) B.1 B.2.1 mk (bz (B.2.2 = true)) M' ∧ (∃ N, Frm (PRq rq M) M N ∧ (B.2.1 = 0 ∨ inR B.1 (ul B.2.1) → Gc rq N (nuC x M) (pre ++ [B]) ∧ N.1 80 rq 0 = M'.1 80 rq 0) ∧
      GX20_gather_178 q x rq (nI pre.length) (gB bl k) B.1 B.2.1 mk (bz (B.2.2 = true)) M' = fi (B.2.1 = 0 ∨ inR B.1 (ul B.2.1)) (.inl (q, x, rq, nI (ul (nuC x M (gB bl k + Int64.ofInt 14) 2)), nI (pre.length + 1), bz (ib mk 0 = true), bz (B.2.2 = true), B.2.1, N)) (.inr (Int32.ofInt 0, M'))) := fun h0 => by
    unfold HX20_gather_178 GX20_gather_178 HX20_gather_179 GX20_gather_179 GX20_gather_206
    rw [fi_pos (show Int32.ofInt 0 = 0 from rfl), propext c0, hh]
    dsimp only
    rw [fi_bz]
    by_cases hok : B.2.1 = 0 ∨ inR B.1 (ul B.2.1)
    · obtain ⟨k1, N, k2, k3, k4⟩ := key hok h0
      refine ⟨⟨fun _ => ⟨fun _ => k1, fun _ => ⟨fun _ => trivial, fun _ => k1⟩⟩, fun z => absurd rfl z⟩, N, k2, fun _ => k3, ?_⟩
      rw [fi_pos hok, k4]
      by_cases z : B.2.1 = 0
      · rw [fi_pos z]
      · rw [fi_neg z, fi_pos (hok.resolve_left z)]
    · have z1 : ¬ B.2.1 = 0 := fun z => hok (Or.inl z)
      have z2 : ¬ inR B.1 (ul B.2.1) := fun z => hok (Or.inr z)
      refine ⟨⟨fun _ => ⟨fun z => absurd z z1, fun _ => ⟨fun _ => trivial, fun z => absurd (bz_0.mpr z2) z⟩⟩, fun z => absurd rfl z⟩, M, frm_r, fun z => absurd z hok, ?_⟩
      rw [fi_neg hok, fi_neg z1, fi_neg z2]
  have w174 : HX20_gather_174 q x rq (nI pre.length) (gB bl k) B.1 B.2.1 mk (bz (B.2.2 = true)) M' ∧ GX20_gather_174 q x rq (nI pre.length) (gB bl k) B.1 B.2.1 mk (bz (B.2.2 = true)) M' = .inr (Int32.ofInt 0, M') := by
    unfold HX20_gather_174 GX20_gather_174 HX20_gather_179 GX20_gather_179 GX20_gather_206
    rw [fi_neg (by decide)]
    exact ⟨⟨fun z => absurd z (by decide), fun _ => trivial⟩, rfl⟩
  have w155 : HX20_gather_155 q x rq (nI pre.length) (gB bl k) B.1 B.2.1 mk (bz (B.2.2 = true)) M' ∧ (∃ N, Frm (PRq rq M) M N ∧ ((B.2.1 = 0 ∨ inR B.1 (ul B.2.1)) ∧ fst16 pre B → Gc rq N (nuC x M) (pre ++ [B]) ∧ N.1 80 rq 0 = M'.1 80 rq 0) ∧
      GX20_gather_155 q x rq (nI pre.length) (gB bl k) B.1 B.2.1 mk (bz (B.2.2 = true)) M' = fi ((B.2.1 = 0 ∨ inR B.1 (ul B.2.1)) ∧ fst16 pre B) (.inl (q, x, rq, nI (ul (nuC x M (gB bl k + Int64.ofInt 14) 2)), nI (pre.length + 1), bz (ib mk 0 = true), bz (B.2.2 = true), B.2.1, N)) (.inr (Int32.ofInt 0, M'))) := by
    unfold HX20_gather_155 GX20_gather_155
    rw [propext i0, propext (bz_b _), propext c16]
    by_cases h0 : fst16 pre B
    · obtain ⟨k1, N, k2, k3, k4⟩ := w178 h0
      have e : fi ((B.2.1 = 0 ∨ inR B.1 (ul B.2.1)) ∧ fst16 pre B) (Sum.inl (q, x, rq, nI (ul (nuC x M (gB bl k + Int64.ofInt 14) 2)), nI (pre.length + 1), bz (ib mk 0 = true), bz (B.2.2 = true), B.2.1, N)) (Sum.inr (Int32.ofInt 0, M')) = GX20_gather_178 q x rq (nI pre.length) (gB bl k) B.1 B.2.1 mk (bz (B.2.2 = true)) M' := by
        rw [k4]
        exact fi_c ⟨fun z => z.1, fun z => ⟨z, h0⟩⟩
      refine ⟨⟨fun _ => ⟨fun _ => ⟨fun _ => k1, fun _ => w174.1⟩, fun _ => w174.1⟩, fun _ => k1⟩, N, k2, fun z => k3 z.1, ?_⟩
      rw [e]
      by_cases hp : pre = []
      · obtain ⟨o1, o2⟩ := h0 hp
        rw [fi_pos hp, fi_pos o1, fi_pos o2]
      · rw [fi_neg hp]
    · have hp : pre = [] := Classical.byContradiction (fun z => h0 (fun y => absurd y z))
      have ho : ¬ (B.2.2 = false ∧ 16 ≤ ul B.2.1) := fun z => h0 (fun _ => z)
      have nG : ∀ (X : (Nat × Nat × Nat × Int32 × Int32 × Int32 × Int32 × Int64 × FM) ⊕ (Int32 × FM)), fi ((B.2.1 = 0 ∨ inR B.1 (ul B.2.1)) ∧ fst16 pre B) X (Sum.inr (Int32.ofInt 0, M')) = Sum.inr (Int32.ofInt 0, M') := fun X => fi_neg (fun z => h0 z.2)
      refine ⟨⟨fun _ => ⟨fun y1 => ⟨fun y2 => absurd ⟨y1, y2⟩ ho, fun _ => w174.1⟩, fun _ => w174.1⟩, fun z => absurd hp z⟩, M, frm_r, fun z => absurd z.2 h0, ?_⟩
      rw [nG, fi_pos hp, w174.2]
      by_cases y1 : B.2.2 = false
      · rw [fi_pos y1, fi_neg (fun y2 => ho ⟨y1, y2⟩)]
      · rw [fi_neg y1]
  obtain ⟨v1, N, v2, v3, v4⟩ := w155
  unfold HX20_gather_136 GX20_gather_136
  rw [propext m2, propext (bz_b _), propext (bz_b _), w174.2, v4]
  refine ⟨⟨fun _ => ⟨fun _ => v1, fun _ => ⟨fun _ => w174.1, fun _ => v1⟩⟩, fun _ => w174.1⟩, N, v2, fun z => v3 ⟨z.1.2.2, z.2⟩, ?_⟩
  by_cases k2 : ib mk 2 = true
  · rw [fi_neg (fun z => z k2), fi_neg (fun z => z.1.1 k2)]
  · rw [fi_pos k2]
    cases hpo : po with
    | false =>
      rw [fi_pos rfl]
      refine fi_c ?_
      exact ⟨fun z => ⟨⟨k2, fun y => absurd y.1 (by decide), z.1⟩, z.2⟩, fun z => ⟨z.1.2.2, z.2⟩⟩
    | true =>
      rw [fi_neg (by decide)]
      cases hb : B.2.2 with
      | false =>
        rw [fi_pos rfl, fi_neg (fun z => z.1.2.1 ⟨rfl, rfl⟩)]
      | true =>
        rw [fi_neg (by decide)]
        refine fi_c ?_
        exact ⟨fun z => ⟨⟨k2, fun y => absurd y.2 (by decide), z.1⟩, z.2⟩, fun z => ⟨z.1.2.2, z.2⟩⟩
/-- a step of gathering -/
theorem gC_step {M' : FM} (h : Frm (PRq rq M) M M') (V : VQc q x r rq M size bl an gv) {pre : List Blk} {k : Nat} {la : Int64} (g : Gc rq M' (nuC x M) pre) (hn : pre.length ≤ size) (hk : k < 65536) :
    HX20_gather_34 q x rq (nI k) (nI pre.length) (Int32.ofInt 1) (bz ((lstB pre).2.2 = true)) la M' ∧ ∃ N, Frm (PRq rq M) M N ∧ (gOk (nuC x M) bl k (lstB pre).2.2 ∧ fst16 pre (gBk (nuC x M) bl k) → (pre.length < size ∧ k < size ∧ inR (gB bl k) 16) → Gc rq N (nuC x M) (pre ++ [gBk (nuC x M) bl k]) ∧ N.1 80 rq 0 = M'.1 80 rq 0) ∧
      GX20_gather_34 q x rq (nI k) (nI pre.length) (Int32.ofInt 1) (bz ((lstB pre).2.2 = true)) la M' = fi (pre.length < size ∧ k < size ∧ inR (gB bl k) 16) (fi (gOk (nuC x M) bl k (lstB pre).2.2 ∧ fst16 pre (gBk (nuC x M) bl k))
        (.inl (q, x, rq, nI (ul (nuC x M (gB bl k + Int64.ofInt 14) 2)), nI (pre.length + 1), bz (ib (gMk (nuC x M) bl k) 0 = true), bz ((gBk (nuC x M) bl k).2.2 = true), (gBk (nuC x M) bl k).2.1, N)) (.inr (Int32.ofInt 0, M'))) (.inr (Int32.ofInt 0, M')) := by
  have hs := V.2.2.2.2.2.2.2.2.2.2.2.2
  have V' := vq_f h V
  obtain ⟨R', h202, nq', nx', hr', nr', S', v1, v2, v3, v4, v5, v6⟩ := V'
  have nz1 : ¬ (Int32.ofInt 1 : Int32) = 0 := by decide
  have eB : M'.2.1 73 q 0 + Int64.ofInt 16 * (nI k).toInt64 = gB bl k := by rw [v2]; rfl
  have c1 : (M'.1 71 q 0 ≤ nI k) ↔ ¬ k < size := by
    rw [v1, i_le (by rw [ui_nI]; omega) (by rw [ui_nI]; omega), ui_nI, ui_nI]
    omega
  have c2 : (nI pre.length = M'.1 71 q 0) ↔ ¬ pre.length < size := by
    rw [v1]
    constructor
    · intro z
      have := nI_j (by omega) (by omega) z
      omega
    · intro z
      exact congrArg nI (by omega)
  have th := X19_has (M := M') (a := gB bl k) (b := Int64.ofInt 16) hr' h202 (by decide)
  rw [show ul (Int64.ofInt 16) = 16 from rfl] at th
  by_cases hA : pre.length < size ∧ k < size ∧ inR (gB bl k) 16
  · obtain ⟨hn1, hk1, hin⟩ := hA
    have r0 : inR (gB bl k) 8 := by unfold inR at *; omega
    obtain ⟨a1, a2⟩ := nu_f h V r0 (by decide)
    obtain ⟨a3, a4⟩ := nu_f h V (gB_in hin 8 4 (by decide)) (by decide)
    obtain ⟨a5, a6⟩ := nu_f h V (gB_in hin 12 2 (by decide)) (by decide)
    rw [show nI 8 = Int32.ofInt 8 from rfl] at a1 a2
    rw [show nI 4 = Int32.ofInt 4 from rfl, show lN 8 = Int64.ofInt 8 from rfl] at a3 a4
    rw [show nI 2 = Int32.ofInt 2 from rfl, show lN 12 = Int64.ofInt 12 from rfl] at a5 a6
    obtain ⟨d1, N, d2, d3, d4⟩ := c136 h V g hin hn1
    have and2 := and_0 (x := gMk (nuC x M) bl k) (v := Int32.ofInt 2) (j := 1) (by decide) rfl
    have hG : GX20_gather_34 q x rq (nI k) (nI pre.length) (Int32.ofInt 1) (bz ((lstB pre).2.2 = true)) la M' = GX20_gather_136 q x rq (nI pre.length) (bz ((lstB pre).2.2 = true)) (gB bl k) (gBk (nuC x M) bl k).1 (gBk (nuC x M) bl k).2.1 (gMk (nuC x M) bl k) (bz ((gBk (nuC x M) bl k).2.2 = true)) M' := by
      unfold GX20_gather_34
      rw [fi_neg nz1]
      extract_lets x4 r5 r6 r7 r8 x9
      have e4 : x4 = gB bl k := eB
      have q5 : r5 = (bz (inR (gB bl k) 16), M') := by show GX19_has x x4 _ M' = _; rw [e4]; exact th
      have q6 : r6 = (nuC x M (gB bl k) 8, M') := by show GX107_number x x4 _ r5.2 = _; rw [e4, q5]; exact a2
      have q7 : r7 = (nuC x M (gB bl k + Int64.ofInt 8) 4, M') := by show GX107_number x (x4 + _) _ r6.2 = _; rw [e4, q6]; exact a4
      have q8 : r8 = (nuC x M (gB bl k + Int64.ofInt 12) 2, M') := by show GX107_number x (x4 + _) _ r7.2 = _; rw [e4, q7]; exact a6
      have q9 : x9 = gMk (nuC x M) bl k := by show r8.1.toInt32 = _; rw [q8]; rfl
      rw [propext c1, fi_neg (fun z => z hk1), propext c2, fi_neg (fun z => z hn1), q5, q6, q7, q8, q9, e4]
      dsimp only
      rw [fi_bz, fi_pos hin, propext and2]
      show fi _ (GX20_gather_136 q x rq (nI pre.length) (bz ((lstB pre).2.2 = true)) (gB bl k) (gBk (nuC x M) bl k).1 (gBk (nuC x M) bl k).2.1 (gMk (nuC x M) bl k) (Int32.ofInt 0) M') (GX20_gather_136 q x rq (nI pre.length) (bz ((lstB pre).2.2 = true)) (gB bl k) (gBk (nuC x M) bl k).1 (gBk (nuC x M) bl k).2.1 (gMk (nuC x M) bl k) (Int32.ofInt 1) M') = _
      have eo : (gBk (nuC x M) bl k).2.2 = ib (gMk (nuC x M) bl k) 1 := rfl
      by_cases z : ib (gMk (nuC x M) bl k) 1 = true
      · rw [fi_neg (fun y => y z), bz_t (eo.trans z)]
      · rw [fi_pos z, bz_f (fun y => z (eo.symm.trans y))]
    rw [hG, d4]
    refine ⟨?_, N, d2, fun z _ => d3 z, (fi_pos (show pre.length < size ∧ k < size ∧ inR (gB bl k) 16 from ⟨hn1, hk1, hin⟩)).symm⟩
    unfold HX20_gather_34
    refine ⟨fun z => absurd z nz1, fun _ => ?_⟩
    intro x4
    have e4 : x4 = gB bl k := eB
    refine ⟨fun _ => trivial, fun _ => ⟨fun _ => trivial, fun _ => ?_⟩⟩
    intro r5
    have q5 : r5 = (bz (inR (gB bl k) 16), M') := by show GX19_has x x4 _ M' = _; rw [e4]; exact th
    refine ⟨fun _ => trivial, fun _ => ⟨by rw [e4, q5]; exact a1, ?_⟩⟩
    intro r6
    have q6 : r6 = (nuC x M (gB bl k) 8, M') := by show GX107_number x x4 _ r5.2 = _; rw [e4, q5]; exact a2
    refine ⟨by rw [e4, q6]; exact a3, ?_⟩
    intro r7
    have q7 : r7 = (nuC x M (gB bl k + Int64.ofInt 8) 4, M') := by show GX107_number x (x4 + _) _ r6.2 = _; rw [e4, q6]; exact a4
    refine ⟨by rw [e4, q7]; exact a5, ?_⟩
    intro r8 x9
    have q8 : r8 = (nuC x M (gB bl k + Int64.ofInt 12) 2, M') := by show GX107_number x (x4 + _) _ r7.2 = _; rw [e4, q7]; exact a6
    have q9 : x9 = gMk (nuC x M) bl k := by show r8.1.toInt32 = _; rw [q8]; rfl
    rw [e4, q6, q7, q8, q9, propext and2]
    have eo : (gBk (nuC x M) bl k).2.2 = ib (gMk (nuC x M) bl k) 1 := rfl
    refine ⟨fun z => ?_, fun z => ?_⟩
    · rw [bz_f (fun y => z (eo.symm.trans y))] at d1
      exact d1
    · rw [bz_t (eo.trans (Classical.not_not.mp z))] at d1
      exact d1
  · refine ⟨?_, M, frm_r, fun _ z => absurd z hA, ?_⟩
    · unfold HX20_gather_34
      refine ⟨fun z => absurd z nz1, fun _ => ?_⟩
      intro x4
      have e4 : x4 = gB bl k := eB
      refine ⟨fun _ => trivial, fun y1 => ⟨fun _ => trivial, fun y2 => ?_⟩⟩
      intro r5
      have q5 : r5 = (bz (inR (gB bl k) 16), M') := by show GX19_has x x4 _ M' = _; rw [e4]; exact th
      have hin : ¬ inR (gB bl k) 16 := fun z => hA ⟨Classical.byContradiction (fun y => y2 (c2.mpr y)), Classical.byContradiction (fun y => y1 (c1.mpr y)), z⟩
      rw [q5]
      exact ⟨fun _ => trivial, fun z => absurd (bz_0.mpr hin) z⟩
    · rw [fi_neg hA]
      unfold GX20_gather_34 GX20_gather_85
      rw [fi_neg nz1]
      extract_lets x4 r5 r6 r7 r8 x9
      have e4 : x4 = gB bl k := eB
      have q5 : r5 = (bz (inR (gB bl k) 16), M') := by show GX19_has x x4 _ M' = _; rw [e4]; exact th
      rw [propext c1, propext c2]
      by_cases hk1 : k < size
      · rw [fi_neg (fun z => z hk1)]
        by_cases hn1 : pre.length < size
        · have hin : ¬ inR (gB bl k) 16 := fun z => hA ⟨hn1, hk1, z⟩
          rw [fi_neg (fun z => z hn1), q5]
          dsimp only
          rw [fi_bz, fi_neg hin]
        · rw [fi_pos hn1]
      · rw [fi_pos hk1]
end Gd
