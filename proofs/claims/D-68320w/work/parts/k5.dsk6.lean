/-! disks: the component gathers -/
set_option maxRecDepth 100000
theorem seg_l {l : List Blk} {x : Blk} (h : l ≠ []) : lstB (l ++ [x]) = x := lstB_a l x
/-- the answer's place -/
noncomputable def anA (an : Int64) (gv size : Nat) : Int64 := (an + Int64.ofInt 4) + (Int64.ofInt 8) * (nI (gv % size)).toInt64
def ansP (an : Int64) (gv size : Nat) : Prop := inR (anA an gv size) 8 ∧ inR (an + Int64.ofInt 2) 2
/-- the queue, the bytes, the request -/
def VQc (q x r rq : Nat) (M : FM) (size : Nat) (bl an : Int64) (gv : Nat) : Prop := RamI r M ∧ M.1 202 r 0 = Int32.ofInt 1024 ∧ fm_is M 28 28 q = true ∧ fm_is M 76 76 x = true ∧ M.2.2 222 x 0 = r ∧ fm_is M 29 29 rq = true ∧ StRq rq M ∧
  M.1 71 q 0 = nI size ∧ M.2.1 73 q 0 = bl ∧ M.2.1 75 q 0 = an ∧ M.1 77 q 0 = nI gv ∧ gv < 65536 ∧ (0 < size ∧ size ≤ 16)
/-- what is gathered stands in the request -/
def Gc (rq : Nat) (M : FM) (nu : Int64 → Nat → Int64) (pre : List Blk) : Prop := StrV (M.2.2 78 rq 0) M (clL pre) ∧ StrV (M.2.2 79 rq 0) M (opL pre) ∧
  (pre ≠ [] → M.1 81 rq 0 = (nu (pre.getD 0 (0, 0, false)).1 4).toInt32 ∧ M.2.1 82 rq 0 = nu ((pre.getD 0 (0, 0, false)).1 + Int64.ofInt 8) 8 ∧ M.2.1 83 rq 0 = ((lstB pre).1 + (lstB pre).2.1) - Int64.ofInt 1)
section Gc2
variable {q x r rq : Nat} {M : FM} {size gv : Nat} {bl an : Int64}
theorem vq_f {N : FM} (h : Frm (PRq rq M) M N) (V : VQc q x r rq M size bl an gv) : VQc q x r rq N size bl an gv := by
  obtain ⟨R, h2, nq, nx, hr, nr, S, v1, v2, v3, v4, v5⟩ := V
  have RN := (prq_q h nr R).1
  have hn : ∀ f b, f ≠ 3 → ¬ (80 ≤ f ∧ f ≤ 90) → ¬ PRq rq M f b := fun f b h1 h2 z => (prq_f z).elim h1 h2
  refine ⟨RN, ?_, frm_is h nq, frm_is h nx, by rw [h.1]; exact hr, frm_is h nr, by unfold StRq; rw [h.1]; exact S, ?_, ?_, ?_, ?_, v5⟩
  · rw [(h.2 202 r 0 (hn _ _ (by decide) (by decide))).1]
    exact h2
  · rw [(h.2 71 q 0 (hn _ _ (by decide) (by decide))).1]
    exact v1
  · rw [(h.2 73 q 0 (hn _ _ (by decide) (by decide))).2]
    exact v2
  · rw [(h.2 75 q 0 (hn _ _ (by decide) (by decide))).2]
    exact v3
  · rw [(h.2 77 q 0 (hn _ _ (by decide) (by decide))).1]
    exact v4
theorem nu_f {N : FM} (h : Frm (PRq rq M) M N) (V : VQc q x r rq M size bl an gv) {a : Int64} {s : Nat} (ha : inR a s) (h8 : s ≤ 8) : HX107_number x a (nI s) N ∧ GX107_number x a (nI s) N = (nuC x M a s, N) := by
  have VN := vq_f h V
  have e := nuC_e VN.1 VN.2.2.2.1 VN.2.2.2.2.1 ha h8
  rw [nuC_s V.1 V.2.2.2.1 V.2.2.2.2.1 VN.1 VN.2.2.2.1 VN.2.2.2.2.1 (prq_q h V.2.2.2.2.2.1 V.1).2.2.2.1 ha h8] at e
  exact e
theorem X20_answer (V : VQc q x r rq M size bl an gv) : HX20_answer q M ∧ GX20_answer q M = (anA an gv size, M) := by
  obtain ⟨R, h2, nq, nx, hr, nr, S, v1, v2, v3, v4, v5, v6⟩ := V
  have e : nI gv - nI gv / nI size * nI size = nI (gv % size) := by
    apply ui_inj
    rw [i_rem (by rw [ui_nI]; omega) (by rw [ui_nI]; omega), ui_nI, ui_nI, ui_nI]
    have := Nat.mod_lt gv v6.1
    rw [Nat.mod_eq_of_lt (show gv < 4294967296 by omega), Nat.mod_eq_of_lt (show size < 4294967296 by omega), Nat.mod_eq_of_lt (show gv % size < 4294967296 by omega)]
  unfold HX20_answer HX20_answer_0 GX20_answer GX20_answer_0
  dsimp only
  rw [v1, v3, v4, e]
  refine ⟨⟨fun z => ?_, trivial⟩, rfl⟩
  have := nI_j (a := size) (b := 0) (by omega) (by decide) z
  omega
/-- the place of the number in the block that follows -/
theorem c305 {N : FM} (h : Frm (PRq rq M) M N) (V : VQc q x r rq M size bl an gv) {k n : Nat} (hin : inR (gB bl k) 16) (hn : n < 16) (a7 : Int32) (a8 : Int64) (s0 : Int32) :
    HX20_gather_305 q x rq (nI n) a7 a8 (gB bl k) s0 N ∧ GX20_gather_305 q x rq (nI n) a7 a8 (gB bl k) s0 N = .inl (q, x, rq, nI (ul (nuC x M (gB bl k + Int64.ofInt 14) 2)), nI (n + 1), s0, a7, a8, N) := by
  obtain ⟨a1, a2⟩ := nu_f h V (gB_in hin 14 2 (by decide)) (by decide)
  rw [show nI 2 = Int32.ofInt 2 from rfl, show lN 14 = Int64.ofInt 14 from rfl] at a1 a2
  have lt : ul (nuC x M (gB bl k + lN 14) 2) < 2 ^ 16 := nuC_lt (s := 2) V.1 V.2.2.2.1 V.2.2.2.2.1 (gB_in hin 14 2 (by decide)) (by decide)
  have e14 : (nuC x M (gB bl k + Int64.ofInt 14) 2).toInt32 = nI (ul (nuC x M (gB bl k + Int64.ofInt 14) 2)) := by
    have z := o_32 (n := ul (nuC x M (gB bl k + Int64.ofInt 14) 2)) (by have : ul (nuC x M (gB bl k + Int64.ofInt 14) 2) < 2 ^ 16 := lt; omega)
    rw [lN_ul] at z
    exact z
  unfold HX20_gather_305 GX20_gather_305
  rw [a2]
  dsimp only
  rw [e14, up_1 (by omega)]
  exact ⟨⟨a1, trivial⟩, rfl⟩
theorem c274 {N : FM} (h : Frm (PRq rq M) M N) (V : VQc q x r rq M size bl an gv) {k n : Nat} (hin : inR (gB bl k) 16) (hn : n < 16) (a12 a14 : Int64) (mk a17 : Int32) :
    HX20_gather_274 q x rq (nI n) (gB bl k) a12 a14 mk a17 N ∧ GX20_gather_274 q x rq (nI n) (gB bl k) a12 a14 mk a17 N = .inl (q, x, rq, nI (ul (nuC x M (gB bl k + Int64.ofInt 14) 2)), nI (n + 1), bz (ib mk 0 = true), a17, a14, fm_sL N 83 rq 0 ((a12 + a14) - Int64.ofInt 1)) := by
  have f1 : Frm (PRq rq M) M (fm_sL N 83 rq 0 ((a12 + a14) - Int64.ofInt 1)) := frm_L h (Or.inl ⟨rfl, by decide, by decide⟩)
  have c := fun s0 => c305 f1 V hin hn a17 a14 s0
  have m0 : mk &&& Int32.ofInt 1 = 0 ↔ ¬ ib mk 0 = true := and_0 (x := mk) (v := Int32.ofInt 1) (j := 0) (by decide) rfl
  unfold HX20_gather_274 GX20_gather_274
  dsimp only
  rw [(c _).2, (c _).2, propext m0]
  refine ⟨⟨fun _ => (c _).1, fun _ => (c _).1⟩, ?_⟩
  by_cases z : ib mk 0 = true
  · rw [fi_neg (fun y => y z), bz_t z]
  · rw [fi_pos z, bz_f z]
theorem gc_o {N N' : FM} {P : Nat → Nat → Prop} {pre : List Blk} {nu : Int64 → Nat → Int64} (h : Frm P N N') (hP : ∀ f b, P f b → f ≠ 3 ∧ ¬ (81 ≤ f ∧ f ≤ 90)) (g : Gc rq N nu pre) : Gc rq N' nu pre := by
  obtain ⟨g1, g2, g3⟩ := g
  have hp : ∀ s f b, P f b → ¬ PSt s N f b := fun s f b z y => by
    obtain ⟨w1, w2⟩ := hP f b z
    rcases pst_f y with u | u
    · exact w1 u
    · exact w2 ⟨by omega, u.2⟩
  have hq : ∀ f i, 81 ≤ f → f ≤ 83 → N'.1 f rq i = N.1 f rq i ∧ N'.2.1 f rq i = N.2.1 f rq i := fun f i h1 h2 => h.2 f rq i (fun z => (hP f rq z).2 ⟨h1, by omega⟩)
  refine ⟨by rw [h.1]; exact strV_o h (hp _) g1, by rw [h.1]; exact strV_o h (hp _) g2, fun z => ?_⟩
  rw [(hq 81 0 (by decide) (by decide)).1, (hq 82 0 (by decide) (by decide)).2, (hq 83 0 (by decide) (by decide)).2]
  exact g3 z
/-- what stands behind a block that is taken -/
theorem c208 {M' : FM} (h : Frm (PRq rq M) M M') (V : VQc q x r rq M size bl an gv) {pre : List Blk} {k : Nat} (g : Gc rq M' (nuC x M) pre) (hin : inR (gB bl k) 16) (hn : pre.length < size) (hok : (gBk (nuC x M) bl k).2.1 = 0 ∨ inR (gBk (nuC x M) bl k).1 (ul (gBk (nuC x M) bl k).2.1))
    (h0 : pre = [] → (gBk (nuC x M) bl k).2.2 = false ∧ 16 ≤ ul (gBk (nuC x M) bl k).2.1) (mk : Int32) :
    HX20_gather_208 q x rq (nI pre.length) (gB bl k) (gBk (nuC x M) bl k).1 (gBk (nuC x M) bl k).2.1 mk (bz ((gBk (nuC x M) bl k).2.2 = true)) M' ∧
    ∃ N, Frm (PRq rq M) M N ∧ (Gc rq N (nuC x M) (pre ++ [gBk (nuC x M) bl k]) ∧ N.1 80 rq 0 = M'.1 80 rq 0) ∧
      GX20_gather_208 q x rq (nI pre.length) (gB bl k) (gBk (nuC x M) bl k).1 (gBk (nuC x M) bl k).2.1 mk (bz ((gBk (nuC x M) bl k).2.2 = true)) M' =
        .inl (q, x, rq, nI (ul (nuC x M (gB bl k + Int64.ofInt 14) 2)), nI (pre.length + 1), bz (ib mk 0 = true), bz ((gBk (nuC x M) bl k).2.2 = true), (gBk (nuC x M) bl k).2.1, N) := by
  have hs := V.2.2.2.2.2.2.2.2.2.2.2.2
  have V' := vq_f h V
  have R' := V'.1
  have nr' := V'.2.2.2.2.2.1
  have S' := V'.2.2.2.2.2.2.1
  obtain ⟨px1, px2⟩ := pst_x R'.1 R'.2.1 nr' S'
  obtain ⟨g1, g2, g3⟩ := g
  generalize hb : gBk (nuC x M) bl k = B at *
  have i0 : nI pre.length = 0 ↔ pre = [] := ⟨fun z => List.length_eq_zero_iff.mp (nI_j (a := pre.length) (b := 0) (by omega) (by decide) z), fun z => by rw [z]; rfl⟩
  unfold HX20_gather_208 GX20_gather_208
  rw [propext i0, propext (bz_b _)]
  -- the result's place is written last
  have fin_ : ∀ N, Frm (PRq rq M) M N → (StrV (N.2.2 78 rq 0) N (clL (pre ++ [B])) ∧ StrV (N.2.2 79 rq 0) N (opL (pre ++ [B])) ∧ N.1 81 rq 0 = (nuC x M ((pre ++ [B]).getD 0 (0, 0, false)).1 4).toInt32 ∧ N.2.1 82 rq 0 = nuC x M (((pre ++ [B]).getD 0 (0, 0, false)).1 + Int64.ofInt 8) 8) →
      Gc rq (fm_sL N 83 rq 0 ((B.1 + B.2.1) - Int64.ofInt 1)) (nuC x M) (pre ++ [B]) := fun N fN ⟨z1, z2, z3, z4⟩ => by
    have f1 : Frm (fun f b => f = 83 ∧ b = rq) N (fm_sL N 83 rq 0 ((B.1 + B.2.1) - Int64.ofInt 1)) := frm_L frm_r ⟨rfl, rfl⟩
    have hp : ∀ s f b, (f = 83 ∧ b = rq) → ¬ PSt s N f b := fun s f b z y => by rcases pst_f y with u | u <;> omega
    refine ⟨strV_o f1 (hp _) z1, strV_o f1 (hp _) z2, fun _ => ⟨z3, ?_, ?_⟩⟩
    · rw [oL (fun q => absurd q.1 (by decide))]
      exact z4
    · rw [rL, if_pos ⟨rfl, rfl, rfl⟩, lstB_a]
  by_cases hp : pre = []
  · obtain ⟨o1, o2⟩ := h0 hp
    have inA : inR B.1 (ul B.2.1) := hok.resolve_left (fun z => by rw [z] at o2; exact absurd o2 (by decide))
    have i4 : inR B.1 4 := by unfold inR at *; omega
    have i8 : inR (B.1 + lN 8) 8 := by
      unfold inR at *
      rw [ul_add, l_big (by omega)]
      omega
    obtain ⟨a1, a2⟩ := nu_f h V i4 (by decide)
    rw [show nI 4 = Int32.ofInt 4 from rfl] at a1 a2
    have f2 : Frm (PRq rq M) M (fm_sI M' 81 rq 0 (nuC x M B.1 4).toInt32) := frm_I h (Or.inl ⟨rfl, by decide, by decide⟩)
    have fo2 : Frm (fun f b => f = 81 ∧ b = rq) M' (fm_sI M' 81 rq 0 (nuC x M B.1 4).toInt32) := frm_I frm_r ⟨rfl, rfl⟩
    have v2 : (fm_sI M' 81 rq 0 (nuC x M B.1 4).toInt32).1 81 rq 0 = (nuC x M B.1 4).toInt32 := if_pos ⟨rfl, rfl, rfl⟩
    rw [fi_pos hp, a2]
    dsimp only
    generalize fm_sI M' 81 rq 0 (nuC x M B.1 4).toInt32 = M2 at *
    obtain ⟨a3, a4⟩ := nu_f f2 V i8 (by decide)
    rw [show nI 8 = Int32.ofInt 8 from rfl, show lN 8 = Int64.ofInt 8 from rfl] at a3 a4
    rw [a4]
    dsimp only
    have f4 : Frm (PRq rq M) M (fm_sL M2 82 rq 0 (nuC x M (B.1 + Int64.ofInt 8) 8)) := frm_L f2 (Or.inl ⟨rfl, by decide, by decide⟩)
    have fo4 : Frm (fun f b => f = 82 ∧ b = rq) M2 (fm_sL M2 82 rq 0 (nuC x M (B.1 + Int64.ofInt 8) 8)) := frm_L frm_r ⟨rfl, rfl⟩
    have v4 : (fm_sL M2 82 rq 0 (nuC x M (B.1 + Int64.ofInt 8) 8)).2.1 82 rq 0 = nuC x M (B.1 + Int64.ofInt 8) 8 := if_pos ⟨rfl, rfl, rfl⟩
    have v4' : (fm_sL M2 82 rq 0 (nuC x M (B.1 + Int64.ofInt 8) 8)).1 81 rq 0 = (nuC x M B.1 4).toInt32 := v2
    generalize fm_sL M2 82 rq 0 (nuC x M (B.1 + Int64.ofInt 8) 8) = M4 at *
    obtain ⟨c1, c2⟩ := c274 f4 V hin (show pre.length < 16 by omega) B.1 B.2.1 mk (bz (B.2.2 = true))
    rw [c2]
    have e82 : ∀ s f b, (f = 82 ∧ b = rq) → ¬ PSt s M2 f b := fun s f b z y => by rcases pst_f y with u | u <;> omega
    have e81 : ∀ s f b, (f = 81 ∧ b = rq) → ¬ PSt s M' f b := fun s f b z y => by rcases pst_f y with u | u <;> omega
    have w1 : StrV (M4.2.2 78 rq 0) M4 (clL (pre ++ [B])) := by
      rw [hp, clL_1, fo4.1, fo2.1]
      rw [hp] at g1
      exact strV_o fo4 (e82 _) (strV_o fo2 (e81 _) g1)
    have w2 : StrV (M4.2.2 79 rq 0) M4 (opL (pre ++ [B])) := by
      rw [hp, opL_1, fo4.1, fo2.1]
      rw [hp] at g2
      exact strV_o fo4 (e82 _) (strV_o fo2 (e81 _) g2)
    have e0 : (pre ++ [B]).getD 0 (0, 0, false) = B := by rw [hp]; rfl
    refine ⟨⟨fun _ => ⟨a1, a3, c1⟩, fun z => absurd hp z⟩, _, frm_L f4 (Or.inl ⟨rfl, by decide, by decide⟩), ⟨fin_ M4 f4 ⟨w1, w2, by rw [e0]; exact v4', by rw [e0]; exact v4⟩, ((fo4.2 80 rq 0 (fun z => by omega)).1).trans (fo2.2 80 rq 0 (fun z => by omega)).1⟩, rfl⟩
  · have lp : 0 < pre.length := List.length_pos_iff.mpr hp
    have e0 : (pre ++ [B]).getD 0 (0, 0, false) = pre.getD 0 (0, 0, false) := getD_l lp
    obtain ⟨y1, y2, _⟩ := g3 hp
    rw [fi_neg hp]
    dsimp only
    have e78 : M'.2.2 78 rq 0 = M.2.2 78 rq 0 := by rw [h.1]
    by_cases ho : B.2.2 = true
    · have hof : ¬ B.2.2 = false := by rw [ho]; decide
      obtain ⟨d1, N, d2, d3, d4, d5⟩ := X22_add R'.1 R'.2.1 (tN_79 R'.1.1 nr') g2 (by have := opL_n pre; omega) B.1 B.2.1
      have fN : Frm (PRq rq M) M N := frm_t h (frm_w d3 (fun f b z => by
        have := pst_79 z
        unfold PRq PSt at *
        rw [h.1] at this
        exact this))
      obtain ⟨c1, c2⟩ := c274 fN V hin (show pre.length < 16 by omega) B.1 B.2.1 mk (bz (B.2.2 = true))
      rw [fi_neg hof, d2, c2]
      refine ⟨⟨fun z => absurd z hp, fun _ => ⟨fun z => absurd z hof, fun _ => ⟨d1, c1⟩⟩⟩, _, frm_L fN (Or.inl ⟨rfl, by decide, by decide⟩), ⟨fin_ N fN ⟨?_, ?_, ?_, ?_⟩, (d3.2 80 rq 0 (fun z => by rcases pst_f z with u | u <;> omega)).1⟩, rfl⟩
      · rw [clL_a hp, if_pos ho, d3.1]
        exact strV_o d3 px2 g1
      · rw [opL_a hp, if_pos ho, d3.1]
        exact d5
      · rw [e0, (d3.2 81 rq 0 (fun z => by rcases pst_f z with u | u <;> omega)).1]
        exact y1
      · rw [e0, (d3.2 82 rq 0 (fun z => by rcases pst_f z with u | u <;> omega)).2]
        exact y2
    · have hof : B.2.2 = false := by
        cases hh : B.2.2 with
        | false => rfl
        | true => exact absurd hh ho
      obtain ⟨d1, N, d2, d3, d4, d5⟩ := X22_add R'.1 R'.2.1 (tN_78 R'.1.1 nr') g1 (by have := clL_n pre; omega) B.1 B.2.1
      have fN : Frm (PRq rq M) M N := frm_t h (frm_w d3 (fun f b z => by
        have := pst_78 z
        unfold PRq PSt at *
        rw [h.1] at this
        exact this))
      obtain ⟨c1, c2⟩ := c274 fN V hin (show pre.length < 16 by omega) B.1 B.2.1 mk (bz (B.2.2 = true))
      rw [fi_pos hof, d2, c2]
      refine ⟨⟨fun z => absurd z hp, fun _ => ⟨fun _ => ⟨d1, c1⟩, fun z => absurd hof z⟩⟩, _, frm_L fN (Or.inl ⟨rfl, by decide, by decide⟩), ⟨fin_ N fN ⟨?_, ?_, ?_, ?_⟩, (d3.2 80 rq 0 (fun z => by rcases pst_f z with u | u <;> omega)).1⟩, rfl⟩
      · rw [clL_a hp, if_neg ho, d3.1]
        exact d5
      · rw [opL_a hp, if_neg ho, d3.1]
        exact strV_o d3 px1 g2
      · rw [e0, (d3.2 81 rq 0 (fun z => by rcases pst_f z with u | u <;> omega)).1]
        exact y1
      · rw [e0, (d3.2 82 rq 0 (fun z => by rcases pst_f z with u | u <;> omega)).2]
        exact y2
end Gc2
