/-! trees: the component's Press lays a tree down -/
set_option maxRecDepth 100000
/-- ends of nodes -/
def enN (m : Nat) : List Itm := List.replicate m (2, [], [])
/-- the document of a row of nodes, so many are open -/
def layN (P : List Pp) : List Nd → Nat → List Itm
  | [], o => enN o
  | x :: r, o => enN (o + 1 - x.2.2.1) ++ (ndI P x ++ layN P r (min o (x.2.2.1 - 1) + 1))
def coN : List Nd → Nat → Nat
  | [], o => o
  | x :: r, o => (o + 1 - x.2.2.1) + ((2 * x.2.2.2.2 + 1) + coN r (min o (x.2.2.1 - 1) + 1))
/-- the head is put over the first bytes -/
def hdP (S : List Nat) (a1 st nl : Nat) : List Nat :=
  ptN (ptN (ptN (ptN (ptN (ptN (ptN (ptN (ptN S 0 3490578157 4) 4 S.length 4) 8 56 4) 12 a1 4) 16 40 4) 20 17 4) 24 16 4) 32 nl 4) 36 st 4
/-- the whole, out of the document that was laid -/
def finR (r : Rst) : List Nat := hdP ((r.1 ++ be4 9) ++ flN r.2) (r.1 ++ be4 9).length ((r.1 ++ be4 9).length - 56) (flN r.2).length
section Ly
variable {p t n k : Nat} {M N : FM} {W S X NM : List Nat} {s : DSt} {L : List (List Nat)}
theorem pr_pt {a v : Nat} (V : VPr p t n M W s (S, L)) (hv : v < 4294967296) (ha : a + 4 ≤ S.length) (hn : n ≤ 500) : HX3_putNumber (M.2.2 256 p 0) (nI a) (nI v) M ∧ Ext M (GX3_putNumber (M.2.2 256 p 0) (nI a) (nI v) M) ∧ (GX3_putNumber (M.2.2 256 p 0) (nI a) (nI v) M).2.2 = M.2.2 ∧ VPr p t n (GX3_putNumber (M.2.2 256 p 0) (nI a) (nI v) M) W s (ptN S a v 4, L) := by
  have b1 : S.length ≤ 128 * n := V.2.2.2.2.2.1
  obtain ⟨p1, N, p2, p3, p4, p5⟩ := X3_putNumber V.1.1 hv (by omega) (by decide) ha V.2.2.1
  rw [p2]
  exact ⟨p1, frm_ext p3, p3.1, pr_out V p3 p4 p5 (by rw [ptN_l]; exact b1) (Nat.le_refl _)⟩
theorem X9_head {a1 st nl : Nat} (V : VPr p t n M W s (S, L)) (hS : 56 ≤ S.length) (hn : n ≤ 500) (h1 : a1 < 4294967296) (h2 : st < 4294967296) (h3 : nl = (flN L).length) :
    HX9_head p (nI a1) (nI st) M ∧ ∃ N, GX9_head p (nI a1) (nI st) M = N ∧ N.2.2 = M.2.2 ∧ Ext M N ∧ VPr p t n N W s (hdP S a1 st nl, L) := by
  have b1 : S.length ≤ 128 * n := V.2.2.2.2.2.1
  have b2 : (flN L).length ≤ 32 * n := V.2.2.2.2.2.2.1
  obtain ⟨p1, x1, r1, q1⟩ := pr_pt (a := 0) (v := 3490578157) V (by decide) (by omega) hn
  have e1 : GX3_putNumber (M.2.2 256 p 0) (Int32.ofInt 0) (Int32.ofInt (-804389139)) M = GX3_putNumber (M.2.2 256 p 0) (nI 0) (nI 3490578157) M := rfl
  have p1' : HX3_putNumber (M.2.2 256 p 0) (Int32.ofInt 0) (Int32.ofInt (-804389139)) M := p1
  generalize GX3_putNumber (M.2.2 256 p 0) (nI 0) (nI 3490578157) M = M1 at e1 x1 r1 q1
  have s1 : M1.1 262 (M.2.2 256 p 0) 0 = nI S.length := by
    have := q1.2.2.1.2.2.1
    rw [r1, ptN_l] at this
    exact this
  obtain ⟨p2, x2, r2, q2⟩ := pr_pt (a := 4) (v := S.length) q1 (by omega) (by rw [ptN_l]; omega) hn
  rw [r1] at p2 x2 r2 q2
  have e2 : GX3_putNumber (M.2.2 256 p 0) (Int32.ofInt 4) (nI S.length) M1 = GX3_putNumber (M.2.2 256 p 0) (nI 4) (nI S.length) M1 := rfl
  generalize GX3_putNumber (M.2.2 256 p 0) (nI 4) (nI S.length) M1 = M2 at e2 x2 r2 q2
  obtain ⟨p3, x3, r3, q3⟩ := pr_pt (a := 8) (v := 56) q2 (by decide) (by rw [ptN_l, ptN_l]; omega) hn
  rw [r2] at p3 x3 r3 q3
  have e3 : GX3_putNumber (M.2.2 256 p 0) (Int32.ofInt 8) (Int32.ofInt 56) M2 = GX3_putNumber (M.2.2 256 p 0) (nI 8) (nI 56) M2 := rfl
  generalize GX3_putNumber (M.2.2 256 p 0) (nI 8) (nI 56) M2 = M3 at e3 x3 r3 q3
  obtain ⟨p4, x4, r4, q4⟩ := pr_pt (a := 12) (v := a1) q3 h1 (by simp only [ptN_l]; omega) hn
  rw [r3] at p4 x4 r4 q4
  have e4 : GX3_putNumber (M.2.2 256 p 0) (Int32.ofInt 12) (nI a1) M3 = GX3_putNumber (M.2.2 256 p 0) (nI 12) (nI a1) M3 := rfl
  generalize GX3_putNumber (M.2.2 256 p 0) (nI 12) (nI a1) M3 = M4 at e4 x4 r4 q4
  obtain ⟨p5, x5, r5, q5⟩ := pr_pt (a := 16) (v := 40) q4 (by decide) (by simp only [ptN_l]; omega) hn
  rw [r4] at p5 x5 r5 q5
  have e5 : GX3_putNumber (M.2.2 256 p 0) (Int32.ofInt 16) (Int32.ofInt 40) M4 = GX3_putNumber (M.2.2 256 p 0) (nI 16) (nI 40) M4 := rfl
  generalize GX3_putNumber (M.2.2 256 p 0) (nI 16) (nI 40) M4 = M5 at e5 x5 r5 q5
  obtain ⟨p6, x6, r6, q6⟩ := pr_pt (a := 20) (v := 17) q5 (by decide) (by simp only [ptN_l]; omega) hn
  rw [r5] at p6 x6 r6 q6
  have e6 : GX3_putNumber (M.2.2 256 p 0) (Int32.ofInt 20) (Int32.ofInt 17) M5 = GX3_putNumber (M.2.2 256 p 0) (nI 20) (nI 17) M5 := rfl
  generalize GX3_putNumber (M.2.2 256 p 0) (nI 20) (nI 17) M5 = M6 at e6 x6 r6 q6
  obtain ⟨p7, x7, r7, q7⟩ := pr_pt (a := 24) (v := 16) q6 (by decide) (by simp only [ptN_l]; omega) hn
  rw [r6] at p7 x7 r7 q7
  have e7 : GX3_putNumber (M.2.2 256 p 0) (Int32.ofInt 24) (Int32.ofInt 16) M6 = GX3_putNumber (M.2.2 256 p 0) (nI 24) (nI 16) M6 := rfl
  generalize GX3_putNumber (M.2.2 256 p 0) (nI 24) (nI 16) M6 = M7 at e7 x7 r7 q7
  have s7 : M7.1 262 (M.2.2 257 p 0) 0 = nI nl := by
    have := q7.2.2.2.1.2.2.1
    rw [r7, ← h3] at this
    exact this
  obtain ⟨p8, x8, r8, q8⟩ := pr_pt (a := 32) (v := nl) q7 (by omega) (by simp only [ptN_l]; omega) hn
  rw [r7] at p8 x8 r8 q8
  have e8 : GX3_putNumber (M.2.2 256 p 0) (Int32.ofInt 32) (nI nl) M7 = GX3_putNumber (M.2.2 256 p 0) (nI 32) (nI nl) M7 := rfl
  generalize GX3_putNumber (M.2.2 256 p 0) (nI 32) (nI nl) M7 = M8 at e8 x8 r8 q8
  obtain ⟨p9, x9, r9, q9⟩ := pr_pt (a := 36) (v := st) q8 h2 (by simp only [ptN_l]; omega) hn
  rw [r8] at p9 x9 r9 q9
  have e9 : GX3_putNumber (M.2.2 256 p 0) (Int32.ofInt 36) (nI st) M8 = GX3_putNumber (M.2.2 256 p 0) (nI 36) (nI st) M8 := rfl
  generalize GX3_putNumber (M.2.2 256 p 0) (nI 36) (nI st) M8 = M9 at e9 x9 r9 q9
  have A : HX9_head p (nI a1) (nI st) M ∧ GX9_head p (nI a1) (nI st) M = M9 := by
    unfold HX9_head HX9_head_0 GX9_head GX9_head_0
    dsimp only
    rw [e1, r1, s1, e2, r2, e3, r3, e4, r4, e5, r5, e6, r6, e7, r7, s7, e8, r8, e9]
    exact ⟨⟨p1', p2, p3, p4, p5, p6, p7, p8, p9, trivial⟩, rfl⟩
  exact ⟨A.1, M9, A.2, r9, ext_tr x1 (ext_tr x2 (ext_tr x3 (ext_tr x4 (ext_tr x5 (ext_tr x6 (ext_tr x7 (ext_tr x8 x9))))))), q9⟩
/-- what laying ends in -/
def LyE (p t : Nat) (M : FM) (W : List Nat) (s : DSt) (o : Option (Int32 × FM)) (r : Rst) : Prop := ∃ N, o = some (nI (finR r).length, N) ∧ N.2.2 = M.2.2 ∧ Ext M N ∧ VPr p t 500 N W s (finR r, r.2)
theorem lyE_m {r : Rst} {o : Option (Int32 × FM)} (e : N.2.2 = M.2.2) (x : Ext M N) (h : LyE p t N W s o r) : LyE p t M W s o r := by
  obtain ⟨N', h1, h2, h3, h4⟩ := h
  exact ⟨N', h1, h2.trans e, ext_tr x h3, h4⟩
theorem ly_98 : ∀ o j n M S L, o < j → VPr p t n M W s (S, L) → n + o ≤ 380 → 56 ≤ S.length → LyE p t M W s ((FX9_lay_L fN j).2.2.2 p (nI o) M) (rdr (enN o) (S, L)) := by
  intro o
  induction o with
  | zero =>
    intro j n M S L hj V hn hS
    obtain ⟨j, rfl⟩ : ∃ y, j = y + 1 := ⟨j - 1, by omega⟩
    show ∃ N, _ = some (nI (finR (S, L)).length, N) ∧ N.2.2 = M.2.2 ∧ Ext M N ∧ VPr p t 500 N W s (finR (S, L), L)
    have b1 : S.length ≤ 128 * n := V.2.2.2.2.2.1
    have b2 : (flN L).length ≤ 32 * n := V.2.2.2.2.2.2.1
    have l4 : ∀ n, (be4 n).length = 4 := fun _ => rfl
    obtain ⟨p1, a1, r1, q1⟩ := pr_nu (n' := n + 1) (v := 9) V (by decide) (by omega) (by omega) (by omega)
    have e1 : GX3_addNumber (M.2.2 256 p 0) (Int32.ofInt 9) M = GX3_addNumber (M.2.2 256 p 0) (nI 9) M := rfl
    generalize GX3_addNumber (M.2.2 256 p 0) (nI 9) M = M1 at e1 a1 r1 q1
    have s1 : M1.1 262 (M.2.2 256 p 0) 0 = nI (S ++ be4 9).length := by
      have := q1.2.2.1.2.2.1
      rw [r1] at this
      exact this
    have s2 : M1.1 262 (M.2.2 257 p 0) 0 = nI (flN L).length := by
      have := q1.2.2.2.1.2.2.1
      rw [r1] at this
      exact this
    have V1 := pr_le q1 (show n + 1 ≤ 500 by omega)
    obtain ⟨p2, M2, e2, p3, p4, p5⟩ := X3_addAll (r := M1.2.2 256 p 0) (s := M1.2.2 257 p 0) (from_ := 0) (many := (flN L).length) V1.1.1 V1.2.2.1 V1.2.2.2.1 (fun z => V1.1.2.2.2.1.2.2.2 z.symm) (Or.inl (by show 0 + (flN L).length ≤ (flN L).length; omega)) (by show (flN L).length ≤ 16896; omega) (by show (S ++ be4 9).length + (flN L).length ≤ 65536; rw [List.length_append, l4]; omega) (by decide) (by decide)
    have p5 : RwB (M1.2.2 256 p 0) 65536 M2 ((S ++ be4 9) ++ ((flN L).drop 0).take (flN L).length) := p5
    rw [List.drop_zero, List.take_length] at p5
    have V2 : VPr p t 500 M2 W s ((S ++ be4 9) ++ flN L, L) := pr_out V1 p3 p4 p5 (by rw [List.length_append, List.length_append, l4]; omega) (Nat.le_refl _)
    have r2 : M2.2.2 = M.2.2 := p3.1.trans r1
    have a2 := frm_ext p3
    rw [r1] at p2 e2
    obtain ⟨p6, M3, e3, r3, a3, V3⟩ := X9_head (a1 := (S ++ be4 9).length) (st := (S ++ be4 9).length - 56) (nl := (flN L).length) V2 (by rw [List.length_append, List.length_append, l4]; omega) (Nat.le_refl _) (by rw [List.length_append, l4]; omega) (by rw [List.length_append, l4]; omega) rfl
    have x4 : nI (S ++ be4 9).length - Int32.ofInt 56 = nI ((S ++ be4 9).length - 56) := by
      have h : nI ((S ++ be4 9).length - 56) + nI 56 = nI (S ++ be4 9).length := by
        rw [nI_a]
        congr 1
        rw [List.length_append, l4]
        omega
      rw [← h]
      exact Int32.add_sub_cancel _ _
    have ef : finR (S, L) = hdP ((S ++ be4 9) ++ flN L) (S ++ be4 9).length ((S ++ be4 9).length - 56) (flN L).length := rfl
    rw [ef]
    clear ef
    generalize hdP ((S ++ be4 9) ++ flN L) (S ++ be4 9).length ((S ++ be4 9).length - 56) (flN L).length = FF at V3 ⊢
    have s3 : M3.1 262 (M.2.2 256 p 0) 0 = nI FF.length := by
      have h3 : M3.1 262 (M3.2.2 256 p 0) 0 = nI FF.length := V3.2.2.1.2.2.1
      rw [r3, r2] at h3
      exact h3
    have c0 : nI 0 ≤ 0 := by decide
    have A : HX9_lay_98 p (nI 0) M ∧ GX9_lay_98 p (nI 0) M = .inr (.inr (.inr (.inr (nI FF.length, M3)))) := by
      have e2' : GX3_addAll (M.2.2 256 p 0) (M.2.2 257 p 0) (Int32.ofInt 0) (nI (flN L).length) M1 = M2 := e2
      have p2' : HX3_addAll (M.2.2 256 p 0) (M.2.2 257 p 0) (Int32.ofInt 0) (nI (flN L).length) M1 := p2
      unfold HX9_lay_98 GX9_lay_98
      dsimp only
      rw [fi_pos c0, e1, r1, s1, s2, e2', x4, e3, r3, r2, s3]
      exact ⟨⟨fun _ => ⟨p1, p2', p6, trivial⟩, fun z => absurd c0 z⟩, rfl⟩
    refine ⟨M3, ?_, r3.trans r2, ext_tr a1 (ext_tr a2 a3), V3⟩
    show FX9_lay_98 fN (FX9_lay_L fN j).1 (FX9_lay_L fN j).2.1 (FX9_lay_L fN j).2.2.1 (FX9_lay_L fN j).2.2.2 p (nI 0) M = _
    rw [(gX9_lay_98 (FX9_lay_L fN j).1 (FX9_lay_L fN j).2.1 (FX9_lay_L fN j).2.2.1 (FX9_lay_L fN j).2.2.2 p (nI 0) M V.1.1 V.1.2.1 A.1).1, A.2]
    rfl
  | succ o ih =>
    intro j n M S L hj V hn hS
    obtain ⟨j, rfl⟩ : ∃ y, j = y + 1 := ⟨j - 1, by omega⟩
    have b1 : S.length ≤ 128 * n := V.2.2.2.2.2.1
    obtain ⟨p1, a1, r1, q1⟩ := pr_nu (n' := n + 1) (v := 2) V (by decide) (by omega) (by omega) (by omega)
    have e1 : GX3_addNumber (M.2.2 256 p 0) (Int32.ofInt 2) M = GX3_addNumber (M.2.2 256 p 0) (nI 2) M := rfl
    generalize GX3_addNumber (M.2.2 256 p 0) (nI 2) M = M1 at e1 a1 r1 q1
    have c0 : ¬ nI (o + 1) ≤ 0 := fun z => by
      have := (n_le (a := o + 1) (b := 0) (by omega) (by omega)).mp z
      omega
    have x1 : nI (o + 1) + Int32.ofInt (-1) = nI o := by
      rw [← up_g, Int32.add_assoc, show (Int32.ofInt 1 + Int32.ofInt (-1)) = 0 from rfl, Int32.add_zero]
    have A : HX9_lay_98 p (nI (o + 1)) M ∧ GX9_lay_98 p (nI (o + 1)) M = .inr (.inr (.inr (.inl (p, nI o, M1)))) := by
      unfold HX9_lay_98 GX9_lay_98
      dsimp only
      rw [fi_neg c0, e1, x1]
      exact ⟨⟨fun z => absurd z c0, fun _ => ⟨p1, trivial⟩⟩, rfl⟩
    have g := ih j (n + 1) M1 (S ++ be4 2) L (by omega) q1 (by omega) (by rw [List.length_append]; omega)
    have g2 := lyE_m r1 a1 g
    show LyE p t M W s (FX9_lay_98 fN (FX9_lay_L fN j).1 (FX9_lay_L fN j).2.1 (FX9_lay_L fN j).2.2.1 (FX9_lay_L fN j).2.2.2 p (nI (o + 1)) M) _
    rw [(gX9_lay_98 (FX9_lay_L fN j).1 (FX9_lay_L fN j).2.1 (FX9_lay_L fN j).2.2.1 (FX9_lay_L fN j).2.2.2 p (nI (o + 1)) M V.1.1 V.1.2.1 A.1).1, A.2]
    exact g2
/-- nodes from a place on -/
theorem rd1_l (i : Itm) (r : Rst) : r.1.length ≤ (rd1 i r).1.length := by
  have hp : ∀ S : List Nat, S.length ≤ (padL S).length := fun S => by
    unfold padL
    rw [List.length_append]
    omega
  unfold rd1
  by_cases h : i.1 = 1
  · rw [if_pos h]
    refine Nat.le_trans ?_ (hp _)
    simp only [List.length_append]
    omega
  · rw [if_neg h]
    by_cases h3 : i.1 = 3
    · rw [if_pos h3]
      refine Nat.le_trans ?_ (hp _)
      simp only [List.length_append]
      omega
    · rw [if_neg h3, List.length_append]
      omega
theorem rdr_l : ∀ (l : List Itm) (r : Rst), r.1.length ≤ (rdr l r).1.length
  | [], _ => Nat.le_refl _
  | i :: l, r => Nat.le_trans (rd1_l i r) (rdr_l l _)
/-- steps of the laying -/
def fuL : List Nd → Nat → Nat
  | [], o => o + 2
  | x :: r, o => (o + 1 - x.2.2.1) + (2 + fuL r (min o (x.2.2.1 - 1) + 1))
theorem ly_51 {r : List Nd} (hT : s.1.length ≤ 128) (hP : s.2.1.length ≤ 512) (hq : ∀ q, q ∈ s.2.1 → okP q) (hk : k < s.1.length) (ok : okT s.2.1.length (s.1.getD k nd0))
    (ih : ∀ o j n M S L, o ≤ 100 → fuL r o < j → VPr p t n M W s (S, L) → n + coN r o ≤ 380 → 56 ≤ S.length → LyE p t M W s ((FX9_lay_L fN j).2.1 p t (nI o) (nI (k + 1)) M) (rdr (layN s.2.1 r o) (S, L))) :
    ∀ m o j n M S L, o + 1 - (s.1.getD k nd0).2.2.1 = m → o ≤ 100 → m + 1 + fuL r (min o ((s.1.getD k nd0).2.2.1 - 1) + 1) < j → VPr p t n M W s (S, L) → n + (m + ((2 * (s.1.getD k nd0).2.2.2.2 + 1) + coN r (min o ((s.1.getD k nd0).2.2.1 - 1) + 1))) ≤ 380 → 56 ≤ S.length →
    LyE p t M W s ((FX9_lay_L fN j).2.2.1 p t (nI o) (nI k) M) (rdr (enN m ++ (ndI s.2.1 (s.1.getD k nd0) ++ layN s.2.1 r (min o ((s.1.getD k nd0).2.2.1 - 1) + 1))) (S, L)) := by
  have d1 := ok.2.1
  have d2 := ok.2.2.1
  intro m
  induction m with
  | zero =>
    intro o j n M S L hm ho hj V hn hS
    obtain ⟨j, rfl⟩ : ∃ y, j = y + 1 := ⟨j - 1, by omega⟩
    obtain ⟨⟨-, w2, -, -⟩, -⟩ := V.2.1.1.2.2.1 k hk
    have i3 : fm_in M (M.2.2 264 t 0) (nI k) = true := in_nI V.1.2.2.1.2.1 (by omega) (by decide)
    have c0 : nI o < nI (s.1.getD k nd0).2.2.1 := (n_lt (by omega) (by omega)).mpr (by omega)
    have em : min o ((s.1.getD k nd0).2.2.1 - 1) = o := by omega
    rw [em] at hn hj ⊢
    obtain ⟨p1, N, e1, r1, a1, q1⟩ := X9_node hk hT hP hq ok V (by omega)
    have A : HX9_lay_51 p t (nI o) (nI k) M ∧ GX9_lay_51 p t (nI o) (nI k) M = .inr (.inl (p, t, nI (o + 1), nI (k + 1), N)) := by
      unfold HX9_lay_51 GX9_lay_51
      dsimp only
      rw [o_cl (by omega), show M.2.2 3 (M.2.2 264 t 0) k = ndc t M.2.2 k from rfl, w2, fi_pos c0, e1, up_g, up_g]
      exact ⟨⟨i3, fun _ => ⟨i3, p1, trivial⟩, fun z => absurd c0 z⟩, rfl⟩
    have h56 := rdr_l (ndI s.2.1 (s.1.getD k nd0)) (S, L)
    have g := lyE_m r1 a1 (ih (o + 1) j _ N _ _ (by omega) (by omega) q1 (by omega) (Nat.le_trans hS h56))
    show LyE p t M W s (FX9_lay_51 fN (FX9_lay_L fN j).1 (FX9_lay_L fN j).2.1 (FX9_lay_L fN j).2.2.1 (FX9_lay_L fN j).2.2.2 p t (nI o) (nI k) M) _
    rw [(gX9_lay_51 (FX9_lay_L fN j).1 (FX9_lay_L fN j).2.1 (FX9_lay_L fN j).2.2.1 (FX9_lay_L fN j).2.2.2 p t (nI o) (nI k) M V.1.1 V.1.2.2.1.1 V.1.2.1 A.1).1, A.2]
    show LyE p t M W s ((FX9_lay_L fN j).2.1 p t (nI (o + 1)) (nI (k + 1)) N) (rdr (ndI s.2.1 (s.1.getD k nd0) ++ layN s.2.1 r (o + 1)) (S, L))
    rw [rdr_a]
    exact g
  | succ m ihm =>
    intro o j n M S L hm ho hj V hn hS
    obtain ⟨j, rfl⟩ : ∃ y, j = y + 1 := ⟨j - 1, by omega⟩
    obtain ⟨o, rfl⟩ : ∃ y, o = y + 1 := ⟨o - 1, by omega⟩
    obtain ⟨⟨-, w2, -, -⟩, -⟩ := V.2.1.1.2.2.1 k hk
    have b1 : S.length ≤ 128 * n := V.2.2.2.2.2.1
    have i3 : fm_in M (M.2.2 264 t 0) (nI k) = true := in_nI V.1.2.2.1.2.1 (by omega) (by decide)
    have c0 : ¬ nI (o + 1) < nI (s.1.getD k nd0).2.2.1 := fun z => by
      have := (n_lt (by omega) (by omega)).mp z
      omega
    obtain ⟨p1, a1, r1, q1⟩ := pr_nu (n' := n + 1) (v := 2) V (by decide) (by omega) (by omega) (by omega)
    have e1 : GX3_addNumber (M.2.2 256 p 0) (Int32.ofInt 2) M = GX3_addNumber (M.2.2 256 p 0) (nI 2) M := rfl
    generalize GX3_addNumber (M.2.2 256 p 0) (nI 2) M = M1 at e1 a1 r1 q1
    have x1 : nI (o + 1) + Int32.ofInt (-1) = nI o := by
      rw [← up_g, Int32.add_assoc, show (Int32.ofInt 1 + Int32.ofInt (-1)) = 0 from rfl, Int32.add_zero]
    have A : HX9_lay_51 p t (nI (o + 1)) (nI k) M ∧ GX9_lay_51 p t (nI (o + 1)) (nI k) M = .inr (.inr (.inl (p, t, nI o, nI k, M1))) := by
      unfold HX9_lay_51 GX9_lay_51
      dsimp only
      rw [o_cl (by omega), show M.2.2 3 (M.2.2 264 t 0) k = ndc t M.2.2 k from rfl, w2, fi_neg c0, e1, x1]
      exact ⟨⟨i3, fun z => absurd z c0, fun _ => ⟨p1, trivial⟩⟩, rfl⟩
    have em : min (o + 1) ((s.1.getD k nd0).2.2.1 - 1) = min o ((s.1.getD k nd0).2.2.1 - 1) := by omega
    rw [em] at hn hj ⊢
    have g := lyE_m r1 a1 (ihm o j (n + 1) M1 (S ++ be4 2) L (by omega) (by omega) (by omega) q1 (by omega) (by rw [List.length_append]; omega))
    show LyE p t M W s (FX9_lay_51 fN (FX9_lay_L fN j).1 (FX9_lay_L fN j).2.1 (FX9_lay_L fN j).2.2.1 (FX9_lay_L fN j).2.2.2 p t (nI (o + 1)) (nI k) M) _
    rw [(gX9_lay_51 (FX9_lay_L fN j).1 (FX9_lay_L fN j).2.1 (FX9_lay_L fN j).2.2.1 (FX9_lay_L fN j).2.2.2 p t (nI (o + 1)) (nI k) M V.1.1 V.1.2.2.1.1 V.1.2.1 A.1).1, A.2]
    exact g
theorem ly_43 (hT : s.1.length ≤ 128) (hP : s.2.1.length ≤ 512) (hq : ∀ q, q ∈ s.2.1 → okP q) (hx : ∀ x, x ∈ s.1 → okT s.2.1.length x) : ∀ (r : List Nd) k o j n M S L, s.1.drop k = r → k ≤ s.1.length → o ≤ 100 → fuL r o < j → VPr p t n M W s (S, L) → n + coN r o ≤ 380 → 56 ≤ S.length →
    LyE p t M W s ((FX9_lay_L fN j).2.1 p t (nI o) (nI k) M) (rdr (layN s.2.1 r o) (S, L)) := by
  intro r
  induction r with
  | nil =>
    intro k o j n M S L hr hk ho hj V hn hS
    have hj : o + 2 < j := hj
    have hn : n + o ≤ 380 := hn
    obtain ⟨j, rfl⟩ : ∃ y, j = y + 1 := ⟨j - 1, by omega⟩
    have e : s.1.length ≤ k := List.drop_eq_nil_iff.mp hr
    have v2 : M.1 266 t 0 = nI s.1.length := V.2.1.1.2.1.1
    have c0 : M.1 266 t 0 ≤ nI k := by
      rw [v2]
      exact (n_le (by omega) (by omega)).mpr e
    show LyE p t M W s (FX9_lay_43 fN (FX9_lay_L fN j).1 (FX9_lay_L fN j).2.1 (FX9_lay_L fN j).2.2.1 (FX9_lay_L fN j).2.2.2 p t (nI o) (nI k) M) _
    rw [(gX9_lay_43 (FX9_lay_L fN j).1 (FX9_lay_L fN j).2.1 (FX9_lay_L fN j).2.2.1 (FX9_lay_L fN j).2.2.2 p t (nI o) (nI k) M V.1.1 V.1.2.2.1.1).1]
    unfold GX9_lay_43
    rw [fi_pos c0]
    exact ly_98 o j n M S L (by omega) V hn hS
  | cons x r ih =>
    intro k o j n M S L hr hk ho hj V hn hS
    have hj : (o + 1 - x.2.2.1) + (2 + fuL r (min o (x.2.2.1 - 1) + 1)) < j := hj
    have hn : n + ((o + 1 - x.2.2.1) + ((2 * x.2.2.2.2 + 1) + coN r (min o (x.2.2.1 - 1) + 1))) ≤ 380 := hn
    obtain ⟨j, rfl⟩ : ∃ y, j = y + 1 := ⟨j - 1, by omega⟩
    have hk2 : k < s.1.length := by
      rcases Nat.lt_or_ge k s.1.length with q | q
      · exact q
      · rw [List.drop_eq_nil_of_le q] at hr
        cases hr
    rw [List.drop_eq_getElem_cons hk2] at hr
    have hr := List.cons.inj hr
    have ex : s.1.getD k nd0 = x := by
      rw [List.getD_eq_getElem?_getD, List.getElem?_eq_getElem hk2]
      exact hr.1
    have v2 : M.1 266 t 0 = nI s.1.length := V.2.1.1.2.1.1
    have c0 : ¬ M.1 266 t 0 ≤ nI k := fun z => by
      rw [v2] at z
      have := (n_le (by omega) (by omega)).mp z
      omega
    have ok : okT s.2.1.length (s.1.getD k nd0) := hx _ (by rw [ex, ← hr.1]; exact List.getElem_mem hk2)
    have g := ly_51 (r := r) hT hP hq hk2 ok (fun o j n M S L h1 h2 h3 h4 h5 => ih (k + 1) o j n M S L hr.2 (by omega) h1 h2 h3 h4 h5) (o + 1 - x.2.2.1) o j n M S L (by rw [ex]) ho (by rw [ex]; omega) V (by rw [ex]; exact hn) hS
    rw [ex] at g
    show LyE p t M W s (FX9_lay_43 fN (FX9_lay_L fN j).1 (FX9_lay_L fN j).2.1 (FX9_lay_L fN j).2.2.1 (FX9_lay_L fN j).2.2.2 p t (nI o) (nI k) M) _
    rw [(gX9_lay_43 (FX9_lay_L fN j).1 (FX9_lay_L fN j).2.1 (FX9_lay_L fN j).2.2.1 (FX9_lay_L fN j).2.2.2 p t (nI o) (nI k) M V.1.1 V.1.2.2.1.1).1]
    unfold GX9_lay_43
    rw [fi_neg c0]
    exact g
/-- the head's room -/
theorem z56 (i : Nat) : List.replicate (4 * i) 0 ++ be4 0 = List.replicate (4 * (i + 1)) 0 := by
  rw [show be4 0 = List.replicate 4 0 from rfl, List.replicate_append_replicate]
  congr 1
theorem ly_16 (hT : s.1.length ≤ 128) (hP : s.2.1.length ≤ 512) (hq : ∀ q, q ∈ s.2.1 → okP q) (hx : ∀ x, x ∈ s.1 → okT s.2.1.length x) (hc : coN s.1 0 ≤ 370) : ∀ m i j M, i + m = 14 → m + fuL s.1 0 + 1 < j → VPr p t 4 M W s (List.replicate (4 * i) 0, []) →
    LyE p t M W s ((FX9_lay_L fN j).1 p t M) (rdr (layN s.2.1 s.1 0) (List.replicate 56 0, [])) := by
  intro m
  induction m with
  | zero =>
    intro i j M hi hj V
    obtain ⟨j, rfl⟩ : ∃ y, j = y + 1 := ⟨j - 1, by omega⟩
    have ei : i = 14 := by omega
    rw [ei] at V
    have s1 : M.1 262 (M.2.2 256 p 0) 0 = nI 56 := V.2.2.1.2.2.1
    have c0 : Int32.ofInt 56 ≤ M.1 262 (M.2.2 256 p 0) 0 := by
      rw [s1]
      decide
    have A : HX9_lay_16 p t M ∧ GX9_lay_16 p t M = .inr (.inl (p, t, nI 0, nI 0, M)) := by
      unfold HX9_lay_16 GX9_lay_16
      dsimp only
      rw [fi_pos c0]
      exact ⟨⟨fun _ => trivial, fun z => absurd c0 z⟩, rfl⟩
    have g := ly_43 hT hP hq hx s.1 0 0 j 4 M (List.replicate 56 0) [] List.drop_zero (Nat.zero_le _) (by decide) (by omega) V (by omega) (by rw [List.length_replicate]; exact Nat.le_refl _)
    show LyE p t M W s (FX9_lay_16 fN (FX9_lay_L fN j).1 (FX9_lay_L fN j).2.1 (FX9_lay_L fN j).2.2.1 (FX9_lay_L fN j).2.2.2 p t M) _
    rw [(gX9_lay_16 (FX9_lay_L fN j).1 (FX9_lay_L fN j).2.1 (FX9_lay_L fN j).2.2.1 (FX9_lay_L fN j).2.2.2 p t M V.1.1 V.1.2.1 A.1).1, A.2]
    exact g
  | succ m ih =>
    intro i j M hi hj V
    obtain ⟨j, rfl⟩ : ∃ y, j = y + 1 := ⟨j - 1, by omega⟩
    have s1 : M.1 262 (M.2.2 256 p 0) 0 = nI (4 * i) := by
      have := V.2.2.1.2.2.1
      rw [List.length_replicate] at this
      exact this
    have c0 : ¬ Int32.ofInt 56 ≤ M.1 262 (M.2.2 256 p 0) 0 := fun z => by
      rw [s1] at z
      have := (n_le (a := 56) (b := 4 * i) (by omega) (by omega)).mp z
      omega
    obtain ⟨p1, a1, r1, q1⟩ := pr_nu (n' := 4) (v := 0) V (by decide) (by rw [List.length_replicate]; omega) (by omega) (by omega)
    have e1 : GX3_addNumber (M.2.2 256 p 0) (Int32.ofInt 0) M = GX3_addNumber (M.2.2 256 p 0) (nI 0) M := rfl
    generalize GX3_addNumber (M.2.2 256 p 0) (nI 0) M = M1 at e1 a1 r1 q1
    rw [z56] at q1
    have A : HX9_lay_16 p t M ∧ GX9_lay_16 p t M = .inl (p, t, M1) := by
      unfold HX9_lay_16 GX9_lay_16
      dsimp only
      rw [fi_neg c0, e1]
      exact ⟨⟨fun z => absurd z c0, fun _ => ⟨p1, trivial⟩⟩, rfl⟩
    have g := lyE_m r1 a1 (ih (i + 1) j M1 (by omega) (by omega) q1)
    show LyE p t M W s (FX9_lay_16 fN (FX9_lay_L fN j).1 (FX9_lay_L fN j).2.1 (FX9_lay_L fN j).2.2.1 (FX9_lay_L fN j).2.2.2 p t M) _
    rw [(gX9_lay_16 (FX9_lay_L fN j).1 (FX9_lay_L fN j).2.1 (FX9_lay_L fN j).2.2.1 (FX9_lay_L fN j).2.2.2 p t M V.1.1 V.1.2.1 A.1).1, A.2]
    exact g
/-- a tree that stands is laid down -/
def layR (s : DSt) : Rst := rdr (layN s.2.1 s.1 0) (List.replicate 56 0, [])
theorem X9_lay (T : Ty M) (D : StP p t M.2.2) (Vt : VTtr t M W s) (hW : W.length ≤ 16384) (hT : s.1.length ≤ 128) (hP : s.2.1.length ≤ 512) (hq : ∀ q, q ∈ s.2.1 → okP q) (hx : ∀ x, x ∈ s.1 → okT s.2.1.length x) (hc : coN s.1 0 ≤ 370) (hf : fuL s.1 0 ≤ 1000) :
    HX9_lay p t M ∧ ∃ N, GX9_lay p t M = (nI (finR (layR s)).length, N) ∧ N.2.2 = M.2.2 ∧ Ext M N ∧ VPr p t 500 N W s (finR (layR s), (layR s).2) := by
  have F2 : Frm (PRo (M.2.2 257 p 0) M) M (fm_sI M 262 (M.2.2 257 p 0) 0 (Int32.ofInt 0)) := frm_I frm_r (Or.inl ⟨rfl, rfl⟩)
  have V2 := vtt_ro D.2.2.1.2.1 Vt F2
  have F4 : Frm (PRo (M.2.2 256 p 0) (fm_sI M 262 (M.2.2 257 p 0) 0 (Int32.ofInt 0))) (fm_sI M 262 (M.2.2 257 p 0) 0 (Int32.ofInt 0)) (fm_sI (fm_sI M 262 (M.2.2 257 p 0) 0 (Int32.ofInt 0)) 262 (M.2.2 256 p 0) 0 (Int32.ofInt 0)) := frm_I frm_r (Or.inl ⟨rfl, rfl⟩)
  have V4 := vtt_ro (r := M.2.2 256 p 0) (show DR (fm_sI M 262 (M.2.2 257 p 0) 0 (Int32.ofInt 0)).2.2 (M.2.2 256 p 0) ((fm_sI M 262 (M.2.2 257 p 0) 0 (Int32.ofInt 0)).2.2 263 t 0) from D.2.2.1.1) V2 F4
  have T4 : Ty (fm_sI (fm_sI M 262 (M.2.2 257 p 0) 0 (Int32.ofInt 0)) 262 (M.2.2 256 p 0) 0 (Int32.ofInt 0)) := ⟨T.1, tyb_sI rfl (tyb_sI rfl T.2)⟩
  have V : VPr p t 4 (fm_sI (fm_sI M 262 (M.2.2 257 p 0) 0 (Int32.ofInt 0)) 262 (M.2.2 256 p 0) 0 (Int32.ofInt 0)) W s ([], []) :=
    ⟨⟨T4, D⟩, ⟨V4, hW⟩, ⟨tN_256 T.1 D.1, D.2.2.2.1, if_pos ⟨rfl, rfl, rfl⟩, fun k h => absurd h (Nat.not_lt_zero k), fun x h => absurd h (List.not_mem_nil)⟩,
      ⟨tN_257 T.1 D.1, D.2.2.2.2, (oI (fun z => D.2.2.1.2.2.1 z.2.1.symm)).trans (if_pos ⟨rfl, rfl, rfl⟩), fun k h => absurd h (Nat.not_lt_zero k), fun x h => absurd h (List.not_mem_nil)⟩, fun w h => absurd h (List.not_mem_nil), Nat.zero_le _, Nat.zero_le _, Nat.zero_le _⟩
  obtain ⟨N, g1, g2, g3, g4⟩ := ly_16 hT hP hq hx hc 14 0 fN _ rfl (by unfold fN; omega) V
  have Ax : FX9_lay fN p t M = some (nI (finR (layR s)).length, N) := by
    show FX9_lay_0 fN (FX9_lay_L fN fN).1 (FX9_lay_L fN fN).2.1 (FX9_lay_L fN fN).2.2.1 (FX9_lay_L fN fN).2.2.2 p t M = _
    rw [(gX9_lay_0 (FX9_lay_L fN fN).1 (FX9_lay_L fN fN).2.1 (FX9_lay_L fN fN).2.2.1 (FX9_lay_L fN fN).2.2.2 p t M T D.1).1]
    exact g1
  obtain ⟨x1, x2⟩ := op_of (d := ((0 : Int32), M)) Ax (P := OkR M) ⟨g4.1.1, g3⟩
  exact ⟨x1, N, x2, g2, g3, g4⟩
end Ly
