/-! images: what is wrong with one (the twin) -/
set_option maxRecDepth 100000
def LtV (m : Nat) (M : FM) (X : Nat → Nat) (n : Nat) : Prop := Ty M ∧ TpT m M X n ∧ TpX X n
section Tf
variable {m n t k q p many : Nat} {M : FM} {X : Nat → Nat}
theorem tu (V : LtV m M X n) {a s : Nat} (hs : s ≤ 8) (ha : a + s ≤ 65536) : HX92_number m (nI a) (nI s) M ∧ GX92_number m (nI a) (nI s) M = (lN (nmV X a s), M) := X92_number V.1 V.2.1 V.2.2.1 hs ha
theorem tb (V : LtV m M X n) {k : Nat} (h : k < 100) (c : Nat) (hc : c < 256) : M.1 3 (M.2.2 308 m 0) (nI k).toNatClampNeg = nI c ↔ X k = c := by
  rw [o_cl (by omega), V.2.1.2.2 k (by omega)]
  have := V.2.2.1 k
  exact ⟨fun z => nI_j (by omega) (by omega) z, fun z => by rw [z]⟩
theorem X92_beg (V : LtV m M X n) : GX92_begins m M = (bz (nmV X 0 7 = 282584257676671), M) := by
  have e : nmV X 0 7 = 282584257676671 ↔ X 0 = 127 ∧ X 1 = 69 ∧ X 2 = 76 ∧ X 3 = 70 ∧ X 4 = 2 ∧ X 5 = 1 ∧ X 6 = 1 := by
    have h0 := V.2.2.1 0
    have h1 := V.2.2.1 1
    have h2 := V.2.2.1 2
    have h3 := V.2.2.1 3
    have h4 := V.2.2.1 4
    have h5 := V.2.2.1 5
    have h6 := V.2.2.1 6
    show X 0 + 256 * (X 1 + 256 * (X 2 + 256 * (X 3 + 256 * (X 4 + 256 * (X 5 + 256 * (X 6 + 256 * 0)))))) = _ ↔ _
    omega
  have b0 : M.1 3 (M.2.2 308 m 0) (Int32.ofInt 0).toNatClampNeg = Int32.ofInt 127 ↔ X 0 = 127 := tb V (k := 0) (by decide) 127 (by decide)
  have b1 : M.1 3 (M.2.2 308 m 0) (Int32.ofInt 1).toNatClampNeg = Int32.ofInt 69 ↔ X 1 = 69 := tb V (k := 1) (by decide) 69 (by decide)
  have b2 : M.1 3 (M.2.2 308 m 0) (Int32.ofInt 2).toNatClampNeg = Int32.ofInt 76 ↔ X 2 = 76 := tb V (k := 2) (by decide) 76 (by decide)
  have b3 : M.1 3 (M.2.2 308 m 0) (Int32.ofInt 3).toNatClampNeg = Int32.ofInt 70 ↔ X 3 = 70 := tb V (k := 3) (by decide) 70 (by decide)
  have b4 : M.1 3 (M.2.2 308 m 0) (Int32.ofInt 4).toNatClampNeg = Int32.ofInt 2 ↔ X 4 = 2 := tb V (k := 4) (by decide) 2 (by decide)
  have b5 : M.1 3 (M.2.2 308 m 0) (Int32.ofInt 5).toNatClampNeg = Int32.ofInt 1 ↔ X 5 = 1 := tb V (k := 5) (by decide) 1 (by decide)
  have b6 : M.1 3 (M.2.2 308 m 0) (Int32.ofInt 6).toNatClampNeg = Int32.ofInt 1 ↔ X 6 = 1 := tb V (k := 6) (by decide) 1 (by decide)
  unfold GX92_begins GX92_begins_0 GX92_begins_79 GX92_begins_80
  dsimp only
  by_cases c0 : X 0 = 127
  · rw [fi_pos (b0.mpr c0)]
    by_cases c1 : X 1 = 69
    · rw [fi_pos (b1.mpr c1)]
      by_cases c2 : X 2 = 76
      · rw [fi_pos (b2.mpr c2)]
        by_cases c3 : X 3 = 70
        · rw [fi_pos (b3.mpr c3)]
          by_cases c4 : X 4 = 2
          · rw [fi_pos (b4.mpr c4)]
            by_cases c5 : X 5 = 1
            · rw [fi_pos (b5.mpr c5)]
              by_cases c6 : X 6 = 1
              · rw [fi_pos (b6.mpr c6), bz_t (e.mpr ⟨c0, c1, c2, c3, c4, c5, c6⟩)]
              · rw [fi_neg (fun z => c6 (b6.mp z)), bz_f (fun z => c6 (e.mp z).2.2.2.2.2.2)]
            · rw [fi_neg (fun z => c5 (b5.mp z)), bz_f (fun z => c5 (e.mp z).2.2.2.2.2.1)]
          · rw [fi_neg (fun z => c4 (b4.mp z)), bz_f (fun z => c4 (e.mp z).2.2.2.2.1)]
        · rw [fi_neg (fun z => c3 (b3.mp z)), bz_f (fun z => c3 (e.mp z).2.2.2.1)]
      · rw [fi_neg (fun z => c2 (b2.mp z)), bz_f (fun z => c2 (e.mp z).2.2.1)]
    · rw [fi_neg (fun z => c1 (b1.mp z)), bz_f (fun z => c1 (e.mp z).2.1)]
  · rw [fi_neg (fun z => c0 (b0.mp z)), bz_f (fun z => c0 (e.mp z).1)]
/-- one earlier part is looked at -/
theorem pt_1 {F : Prop} (V : LtV m M X n) (hp : p + 56 ≤ 65536) (hq : q < p) :
    HX92_partFault_111 m (nI p) (lN (nmV X (p + 24) 8)) (lN (nmV X (p + 40) 8)) (bz F) (nI q) M ∧
    GX92_partFault_111 m (nI p) (lN (nmV X (p + 24) 8)) (lN (nmV X (p + 40) 8)) (bz F) (nI q) M = .inl (m, nI p, lN (nmV X (p + 24) 8), lN (nmV X (p + 40) 8), bz (F ∧ ¬ sgP X p q), nI (q + 56), M) := by
  have c1 : ¬ nI p ≤ nI q := fun z => by
    have := (n_le (by omega) (by omega)).mp z
    omega
  obtain ⟨p1, g1⟩ := tu V (a := q + 24) (s := 8) (by decide) (by omega)
  obtain ⟨p2, g2⟩ := tu V (a := q + 40) (s := 8) (by decide) (by omega)
  obtain ⟨p3, g3⟩ := tu V (a := q) (s := 4) (by decide) (by omega)
  rw [← nI_a (k := q) (n := 24)] at p1 g1
  rw [← nI_a (k := q) (n := 40)] at p2 g2
  have g1 : GX92_number m (nI q + Int32.ofInt 24) (Int32.ofInt 8) M = _ := g1
  have g2 : GX92_number m (nI q + Int32.ofInt 40) (Int32.ofInt 8) M = _ := g2
  have g3 : GX92_number m (nI q) (Int32.ofInt 4) M = _ := g3
  have cs : lg_cmp (lN (nmV X q 4)) (Int64.ofInt 1) = 0 ↔ nmV X q 4 = 1 := lgE (by have := nm_4 V.2.2.1 q; omega) (by decide)
  have lt0 : lg_cmp (lN (nmV X (q + 24) 8)) (lN (nmV X (p + 24) 8) + lN (nmV X (p + 40) 8)) < 0 ↔ ¬ 0 ≤ lg_cmp (lN (nmV X (q + 24) 8)) (lN (nmV X (p + 24) 8) + lN (nmV X (p + 40) 8)) := by
    rw [cl_lt, cl_ge]
    omega
  refine ⟨?_, ?_⟩
  · unfold HX92_partFault_111
    dsimp only
    rw [g1]
    dsimp only
    rw [g2]
    exact ⟨fun z => absurd z c1, fun _ => ⟨p1, p2, p3, trivial⟩⟩
  · unfold GX92_partFault_111
    dsimp only
    rw [fi_neg c1, g1]
    dsimp only
    rw [g2]
    dsimp only
    rw [g3]
    dsimp only
    have K0 : ¬ sgP X p q → ∀ s0, GX92_partFault_173 m (nI p) (lN (nmV X (p + 24) 8)) (lN (nmV X (p + 40) 8)) (bz F) (nI q) s0 (lN (nmV X (q + 40) 8)) M = .inl (m, nI p, lN (nmV X (p + 24) 8), lN (nmV X (p + 40) 8), bz (F ∧ ¬ sgP X p q), nI (q + 56), M) := by
      intro hn s0
      unfold GX92_partFault_173 GX92_partFault_174 GX92_partFault_210 GX92_partFault_206 GX92_partFault_211
      dsimp only
      rw [fi_bz, fi_pos (show Int32.ofInt 0 = 0 from rfl), show nI q + Int32.ofInt 56 = nI (q + 56) from nI_a (n := 56)]
      by_cases hF : F
      · rw [fi_pos hF, bz_t ⟨hF, hn⟩]
      · rw [fi_neg hF, bz_f (fun z => hF z.1)]
    by_cases h1 : nmV X q 4 = 1
    · rw [fi_pos (cs.mpr h1)]
      by_cases h2 : lg_cmp (lN (nmV X (q + 40) 8)) (Int64.ofInt 0) ≤ 0
      · rw [fi_pos h2]
        exact K0 (fun z => z.2.2.1 h2) _
      · rw [fi_neg h2]
        by_cases h3 : lg_cmp (lN (nmV X (p + 40) 8)) (Int64.ofInt 0) ≤ 0
        · rw [fi_pos h3]
          exact K0 (fun z => z.2.1 h3) _
        · rw [fi_neg h3]
          unfold GX92_partFault_174 GX92_partFault_210 GX92_partFault_206 GX92_partFault_211
          dsimp only
          rw [fi_bz, fi_neg (show ¬ Int32.ofInt 1 = 0 by decide), show nI q + Int32.ofInt 56 = nI (q + 56) from nI_a (n := 56)]
          by_cases hF : F
          · rw [fi_pos hF]
            by_cases h4 : 0 ≤ lg_cmp (lN (nmV X (p + 24) 8)) (lN (nmV X (q + 24) 8) + lN (nmV X (q + 40) 8))
            · rw [fi_pos h4, bz_t ⟨hF, fun z => z.2.2.2.1 h4⟩]
            · rw [fi_neg h4]
              by_cases h5 : lg_cmp (lN (nmV X (q + 24) 8)) (lN (nmV X (p + 24) 8) + lN (nmV X (p + 40) 8)) < 0
              · rw [fi_pos h5, bz_f (fun z => z.2 ⟨h1, h3, h2, h4, lt0.mp h5⟩)]
              · rw [fi_neg h5, bz_t ⟨hF, fun z => h5 (lt0.mpr z.2.2.2.2)⟩]
          · rw [fi_neg hF, bz_f (fun z => hF z.1)]
    · rw [fi_neg (fun z => h1 (cs.mp z))]
      exact K0 (fun z => h1 z.1) _
theorem pt_L (V : LtV m M X n) (ht : t + 56 * k + 56 ≤ 65536) : ∀ r j o (F : Prop), o + r = k → r < j →
    FX92_partFault_L111 fN j m (nI (t + 56 * k)) (lN (nmV X (t + 56 * k + 24) 8)) (lN (nmV X (t + 56 * k + 40) 8)) (bz F) (nI (t + 56 * o)) M = some (nI (fi (F ∧ ∀ i, o ≤ i → i < k → ¬ sgP X (t + 56 * k) (t + 56 * i)) 0 7), M) := by
  intro r
  induction r with
  | zero =>
    intro j o F ho hj
    obtain ⟨j, rfl⟩ : ∃ y, j = y + 1 := ⟨j - 1, by omega⟩
    have e : o = k := by omega
    have c1 : nI (t + 56 * k) ≤ nI (t + 56 * o) := (n_le (by omega) (by omega)).mpr (by omega)
    show FX92_partFault_111 fN (FX92_partFault_L111 fN j) m (nI (t + 56 * k)) _ _ (bz F) (nI (t + 56 * o)) M = _
    rw [(gX92_partFault_111 (FX92_partFault_L111 fN j) m (nI (t + 56 * k)) _ _ (bz F) (nI (t + 56 * o)) M V.1 V.2.1.1 ⟨fun _ => trivial, fun z => absurd c1 z⟩).1]
    unfold GX92_partFault_111 GX92_partFault_234
    dsimp only
    rw [fi_pos c1, fi_bz]
    by_cases hF : F
    · rw [fi_pos hF, fi_pos (show F ∧ ∀ i, o ≤ i → i < k → ¬ sgP X (t + 56 * k) (t + 56 * i) from ⟨hF, fun i h1 h2 => by omega⟩)]
      rfl
    · rw [fi_neg hF, fi_neg (fun z => hF z.1)]
      rfl
  | succ r ih =>
    intro j o F ho hj
    obtain ⟨j, rfl⟩ : ∃ y, j = y + 1 := ⟨j - 1, by omega⟩
    obtain ⟨p1, g1⟩ := pt_1 (F := F) (p := t + 56 * k) (q := t + 56 * o) V ht (by omega)
    show FX92_partFault_111 fN (FX92_partFault_L111 fN j) m (nI (t + 56 * k)) _ _ (bz F) (nI (t + 56 * o)) M = _
    rw [(gX92_partFault_111 (FX92_partFault_L111 fN j) m (nI (t + 56 * k)) _ _ (bz F) (nI (t + 56 * o)) M V.1 V.2.1.1 p1).1, g1]
    have g := ih j (o + 1) (F ∧ ¬ sgP X (t + 56 * k) (t + 56 * o)) (by omega) (by omega)
    rw [show t + 56 * (o + 1) = t + 56 * o + 56 by omega] at g
    refine Eq.trans g ?_
    congr 3
    unfold fi
    congr 1
    refine propext ⟨fun z => ⟨z.1.1, fun i h1 h2 => ?_⟩, fun z => ⟨⟨z.1, z.2 o (Nat.le_refl _) (by omega)⟩, fun i h1 h2 => z.2 i (by omega) h2⟩⟩
    by_cases e : i = o
    · rw [e]; exact z.1.2
    · exact z.2 i (by omega) h2
theorem X92_pt (V : LtV m M X n) (ht : t + 56 * k + 56 ≤ 65536) : HX92_partFault m (nI t) (nI (t + 56 * k)) M ∧ GX92_partFault m (nI t) (nI (t + 56 * k)) M = (nI (ptF X n t k), M) := by
  have hb := V.2.2.1
  obtain ⟨p0, g0⟩ := tu V (a := t + 56 * k) (s := 4) (by decide) (by omega)
  obtain ⟨p1, g1⟩ := tu V (a := t + 56 * k + 24) (s := 8) (by decide) (by omega)
  obtain ⟨p2, g2⟩ := tu V (a := t + 56 * k + 32) (s := 8) (by decide) (by omega)
  obtain ⟨p3, g3⟩ := tu V (a := t + 56 * k + 40) (s := 8) (by decide) (by omega)
  obtain ⟨p4, g4⟩ := tu V (a := t + 56 * k + 8) (s := 8) (by decide) (by omega)
  rw [← nI_a (k := t + 56 * k) (n := 24)] at p1 g1
  rw [← nI_a (k := t + 56 * k) (n := 32)] at p2 g2
  rw [← nI_a (k := t + 56 * k) (n := 40)] at p3 g3
  rw [← nI_a (k := t + 56 * k) (n := 8)] at p4 g4
  have g0 : GX92_number m (nI (t + 56 * k)) (Int32.ofInt 4) M = _ := g0
  have g1 : GX92_number m (nI (t + 56 * k) + Int32.ofInt 24) (Int32.ofInt 8) M = _ := g1
  have g2 : GX92_number m (nI (t + 56 * k) + Int32.ofInt 32) (Int32.ofInt 8) M = _ := g2
  have g3 : GX92_number m (nI (t + 56 * k) + Int32.ofInt 40) (Int32.ofInt 8) M = _ := g3
  have g4 : GX92_number m (nI (t + 56 * k) + Int32.ofInt 8) (Int32.ofInt 8) M = _ := g4
  have u2 := nm_8 hb (t + 56 * k + 32)
  have u3 := nm_8 hb (t + 56 * k + 40)
  have u4 := nm_8 hb (t + 56 * k + 8)
  have cs : lg_cmp (lN (nmV X (t + 56 * k) 4)) (Int64.ofInt 1) = 0 ↔ nmV X (t + 56 * k) 4 = 1 := lgE (by have := nm_4 hb (t + 56 * k); omega) (by decide)
  have kk : lg_cmp (lN (nmV X (t + 56 * k + 40) 8)) (Int64.ofInt 0) = 0 ↔ nmV X (t + 56 * k + 40) 8 = 0 := lgE u3 (by decide)
  have kn := lgN u3
  have L := pt_L V ht k fN 0 True (by omega) (by unfold fN; omega)
  have Ax : FX92_partFault fN m (nI t) (nI (t + 56 * k)) M = some (nI (ptF X n t k), M) := by
    show FX92_partFault_0 fN (FX92_partFault_L111 fN fN) m (nI t) (nI (t + 56 * k)) M = _
    have H : HX92_partFault_0 m (nI t) (nI (t + 56 * k)) M := by
      unfold HX92_partFault_0
      dsimp only
      rw [g0]
      dsimp only
      rw [g1]
      dsimp only
      rw [g2]
      dsimp only
      rw [g3]
      exact ⟨p0, fun _ => ⟨p1, p2, p3, p4, trivial⟩, fun _ => trivial⟩
    rw [(gX92_partFault_0 (FX92_partFault_L111 fN fN) m (nI t) (nI (t + 56 * k)) M V.1 V.2.1.1 H).1]
    unfold GX92_partFault_0 GX92_partFault_77 GX92_partFault_102
    dsimp only
    rw [g0]
    dsimp only
    rw [g1]
    dsimp only
    rw [g2]
    dsimp only
    rw [g3]
    dsimp only
    rw [g4]
    dsimp only
    rw [X92_isOnTape V.2.1 V.2.2.2 u4 u2]
    dsimp only
    rw [X92_isAbove u2 u3]
    dsimp only
    rw [fi_bz, fi_bz]
    unfold ptF
    by_cases h0 : nmV X (t + 56 * k) 4 = 1
    · rw [fi_pos (cs.mpr h0), fi_pos (show isS X (t + 56 * k) from h0)]
      unfold sgF
      by_cases h1 : fitP (nmV X (t + 56 * k + 8) 8) (nmV X (t + 56 * k + 32) 8) n
      · rw [fi_pos h1]
        by_cases h2 : nmV X (t + 56 * k + 40) 8 < nmV X (t + 56 * k + 32) 8
        · rw [fi_pos h2, fi_pos (Or.inr h2)]
          rfl
        · rw [fi_neg h2, fi_neg (not_or.mpr ⟨not_not_intro h1, h2⟩)]
          have done : kX92_partFault (FX92_partFault_L111 fN fN) (GX92_partFault_105 m (nI t) (nI (t + 56 * k)) (lN (nmV X (t + 56 * k + 24) 8)) (lN (nmV X (t + 56 * k + 40) 8)) M) = some (nI (fi (∃ o, o < k ∧ sgP X (t + 56 * k) (t + 56 * o)) 7 0), M) := by
            rw [show t + 56 * 0 = t from rfl, ← bz1] at L
            refine Eq.trans L ?_
            congr 3
            by_cases y : ∃ o, o < k ∧ sgP X (t + 56 * k) (t + 56 * o)
            · rw [fi_pos y, fi_neg (fun z => by obtain ⟨o, y1, y2⟩ := y; exact z.2 o (Nat.zero_le _) y1 y2)]
            · rw [fi_neg y, fi_pos ⟨trivial, fun i _ h2 z => y ⟨i, h2, z⟩⟩]
          by_cases h3 : nmV X (t + 56 * k + 40) 8 = 0
          · rw [fi_pos (kk.mpr h3), fi_neg (fun z => z.1 h3)]
            exact done
          · rw [fi_neg (fun z => h3 (kk.mp z))]
            by_cases h4 : lg_cmp (lN (nmV X (t + 56 * k + 40) 8)) (Int64.ofInt 0) < 0
            · have ni : ¬ inR (lN (nmV X (t + 56 * k + 24) 8)) (nmV X (t + 56 * k + 40) 8) := fun y => by
                have := kn.mp h4
                unfold inR at y
                omega
              rw [fi_pos h4, fi_pos ⟨h3, ni⟩]
              rfl
            · have h4' : ¬ 9223372036854775808 ≤ nmV X (t + 56 * k + 40) 8 := fun z => h4 (kn.mpr z)
              rw [fi_neg h4, X93_areBytes (by rw [lN_m _ u3]; omega), lN_m _ u3]
              dsimp only
              rw [fi_bz]
              by_cases h5 : inR (lN (nmV X (t + 56 * k + 24) 8)) (nmV X (t + 56 * k + 40) 8)
              · rw [fi_pos (show inR (lN (nmV X (t + 56 * k + 24) 8)) 1 ∧ _ from ⟨by unfold inR at h5 ⊢; omega, h5⟩), fi_neg (fun z => z.2 h5)]
                exact done
              · rw [fi_neg (fun z => h5 z.2), fi_pos ⟨h3, h5⟩]
                rfl
      · rw [fi_neg h1, fi_pos (Or.inl h1)]
        rfl
    · rw [fi_neg (fun z => h0 (cs.mp z)), fi_neg (show ¬ isS X (t + 56 * k) from h0)]
      rfl
  exact op_of (d := ((0 : Int32), M)) Ax (P := OkR M) ⟨V.1, ext_r M⟩
theorem im_177 (V : LtV m M X n) {a : Nat} (ha : a < 100) (kf : Nat → Int64 → Int64 → Int32 → Int32 → FM → Option (Int32 × FM)) : HX92_imageFault_177 m (nI a) M ∧ kX92_imageFault kf (GX92_imageFault_177 m (nI a) M) = some (nI (fi (a = 0) (fi (enO X) 0 8) a), M) := by
  obtain ⟨p1, g1⟩ := tu V (a := 24) (s := 8) (by decide) (by decide)
  have g1 : GX92_number m (Int32.ofInt 24) (Int32.ofInt 8) M = _ := g1
  have u := nm_8 V.2.2.1 24
  refine ⟨⟨p1, trivial⟩, ?_⟩
  unfold GX92_imageFault_177 GX92_imageFault_220 GX92_imageFault_222
  dsimp only
  rw [g1]
  dsimp only
  rw [X93_isByte]
  dsimp only
  rw [fi_bz]
  by_cases h : a = 0
  · rw [fi_pos ((n_z ha).mpr h), fi_pos h]
    by_cases hR : inR (lN (nmV X 24 8)) 1
    · have hR' := hR
      unfold inR at hR'
      rw [lN_m _ u] at hR'
      have c : lg_cmp (lN (nmV X 24 8) - lN (nmV X 24 8) / Int64.ofInt 2 * Int64.ofInt 2) (Int64.ofInt 0) = 0 ↔ nmV X 24 8 % 2 = 0 := by
        rw [cl_eq, l_rem (by rw [lN_m _ u]; omega) (by decide), lN_m _ u]
        exact Iff.rfl
      unfold enO
      by_cases h2 : nmV X 24 8 % 2 = 0
      · rw [fi_pos (c.mpr h2), fi_pos hR, fi_pos ⟨h2, hR⟩]
        rfl
      · rw [fi_neg (fun z => h2 (c.mp z)), fi_neg (fun z => h2 z.1)]
        rfl
    · rw [fi_neg hR, fi_neg (show ¬ enO X from fun z => hR z.2)]
      by_cases y : lg_cmp (lN (nmV X 24 8) - lN (nmV X 24 8) / Int64.ofInt 2 * Int64.ofInt 2) (Int64.ofInt 0) = 0
      · rw [fi_pos y]
        rfl
      · rw [fi_neg y]
        rfl
  · rw [fi_neg (fun z => h ((n_z ha).mp z)), fi_neg h]
    rfl
theorem im_L (V : LtV m M X n) (hm : many ≤ 16) (ht : t + 56 * many ≤ 65536) : ∀ r j k, k + r = many → r + 1 < j → FX92_imageFault_L142 fN j m (lN many) (lN t) (nI 0) (nI k) M = some (nI (fi (psF X n t k r = 0) (fi (enO X) 0 8) (psF X n t k r)), M) := by
  intro r
  have cm : ∀ k, k ≤ 16 → (0 ≤ lg_cmp (nI k).toInt64 (lN many) ↔ many ≤ k) := fun k hk => by
    rw [o_64 (by omega)]
    exact o_ge (by omega) (by omega)
  induction r with
  | zero =>
    intro j k hk hj
    obtain ⟨j, rfl⟩ : ∃ y, j = y + 1 := ⟨j - 1, by omega⟩
    have c1 : 0 ≤ lg_cmp (nI k).toInt64 (lN many) := (cm k (by omega)).mpr (by omega)
    obtain ⟨p1, g1⟩ := im_177 V (a := 0) (by decide) (FX92_imageFault_L142 fN j)
    show FX92_imageFault_142 fN (FX92_imageFault_L142 fN j) m (lN many) (lN t) (nI 0) (nI k) M = _
    rw [(gX92_imageFault_142 (FX92_imageFault_L142 fN j) m (lN many) (lN t) (nI 0) (nI k) M V.1 V.2.1.1 ⟨fun _ => p1, fun z => absurd c1 z⟩).1]
    unfold GX92_imageFault_142
    rw [fi_pos c1, g1, fi_pos rfl, fi_pos (show psF X n t k 0 = 0 from rfl)]
  | succ r ih =>
    intro j k hk hj
    obtain ⟨j, rfl⟩ : ∃ y, j = y + 1 := ⟨j - 1, by omega⟩
    have c1 : ¬ 0 ≤ lg_cmp (nI k).toInt64 (lN many) := fun z => by
      have := (cm k (by omega)).mp z
      omega
    have c2 : nI 0 = 0 := rfl
    obtain ⟨p2, g2⟩ := X92_pt (t := t) (k := k) V (by omega)
    have ea : (lN t).toInt32 = nI t := o_32 (by omega)
    have eb : nI t + Int32.ofInt 56 * nI k = nI (t + 56 * k) := by rw [show Int32.ofInt 56 = nI 56 from rfl, nI_m, nI_a]
    show FX92_imageFault_142 fN (FX92_imageFault_L142 fN j) m (lN many) (lN t) (nI 0) (nI k) M = _
    have H : HX92_imageFault_142 m (lN many) (lN t) (nI 0) (nI k) M := by
      unfold HX92_imageFault_142
      rw [ea, eb]
      exact ⟨fun z => absurd z c1, fun _ => ⟨fun _ => ⟨p2, trivial⟩, fun z => absurd c2 z⟩⟩
    rw [(gX92_imageFault_142 (FX92_imageFault_L142 fN j) m (lN many) (lN t) (nI 0) (nI k) M V.1 V.2.1.1 H).1]
    unfold GX92_imageFault_142
    dsimp only
    rw [fi_neg c1, fi_pos c2, ea, eb, g2]
    dsimp only
    rw [show nI k + Int32.ofInt 1 = nI (k + 1) from nI_a (n := 1)]
    have ep : psF X n t k (r + 1) = fi (ptF X n t k = 0) (psF X n t (k + 1) r) (ptF X n t k) := rfl
    rw [ep]
    by_cases h : ptF X n t k = 0
    · rw [fi_pos h, h]
      exact ih j (k + 1) (by omega) (by omega)
    · have hl := ptF_lt (X := X) (n := n) (t := t) (k := k)
      rw [fi_neg h, fi_neg h]
      obtain ⟨j, rfl⟩ : ∃ y, j = y + 1 := ⟨j - 1, by omega⟩
      obtain ⟨p3, g3⟩ := im_177 V (a := ptF X n t k) (by omega) (FX92_imageFault_L142 fN j)
      rw [fi_neg h] at g3
      have d2 : ¬ nI (ptF X n t k) = 0 := fun z => h (nI_j (by omega) (by decide) (b := 0) z)
      show FX92_imageFault_142 fN (FX92_imageFault_L142 fN j) m (lN many) (lN t) (nI (ptF X n t k)) (nI (k + 1)) M = _
      rw [(gX92_imageFault_142 (FX92_imageFault_L142 fN j) m (lN many) (lN t) (nI (ptF X n t k)) (nI (k + 1)) M V.1 V.2.1.1 ⟨fun _ => p3, fun _ => ⟨fun z => absurd z d2, fun _ => p3⟩⟩).1]
      unfold GX92_imageFault_142
      by_cases y : 0 ≤ lg_cmp (nI (k + 1)).toInt64 (lN many)
      · rw [fi_pos y]
        exact g3
      · rw [fi_neg y, fi_neg d2]
        exact g3
theorem X92_fault (V : LtV m M X n) : HX92_imageFault m M ∧ GX92_imageFault m M = (nI (imF X n), M) := by
  have hb := V.2.2.1
  have hn := V.2.2.2
  have sz := V.2.1.2.1
  have k64 : Int32.ofInt 64 ≤ nI n ↔ 64 ≤ n := n_le (a := 64) (by decide) (by omega)
  have Ax : FX92_imageFault fN m M = some (nI (imF X n), M) := by
    show FX92_imageFault_0 fN (FX92_imageFault_L142 fN fN) m M = _
    by_cases h0 : 64 ≤ n
    · have g0 := X92_beg V
      obtain ⟨p1, g1⟩ := tu V (a := 16) (s := 2) (by decide) (by decide)
      obtain ⟨p2, g2⟩ := tu V (a := 18) (s := 2) (by decide) (by decide)
      obtain ⟨p3, g3⟩ := tu V (a := 20) (s := 4) (by decide) (by decide)
      obtain ⟨p4, g4⟩ := tu V (a := 32) (s := 8) (by decide) (by decide)
      obtain ⟨p5, g5⟩ := tu V (a := 56) (s := 2) (by decide) (by decide)
      obtain ⟨p6, g6⟩ := tu V (a := 52) (s := 2) (by decide) (by decide)
      obtain ⟨p7, g7⟩ := tu V (a := 54) (s := 2) (by decide) (by decide)
      have g1 : GX92_number m (Int32.ofInt 16) (Int32.ofInt 2) M = _ := g1
      have g2 : GX92_number m (Int32.ofInt 18) (Int32.ofInt 2) M = _ := g2
      have g3 : GX92_number m (Int32.ofInt 20) (Int32.ofInt 4) M = _ := g3
      have g4 : GX92_number m (Int32.ofInt 32) (Int32.ofInt 8) M = _ := g4
      have g5 : GX92_number m (Int32.ofInt 56) (Int32.ofInt 2) M = _ := g5
      have g6 : GX92_number m (Int32.ofInt 52) (Int32.ofInt 2) M = _ := g6
      have g7 : GX92_number m (Int32.ofInt 54) (Int32.ofInt 2) M = _ := g7
      have b1 := nm_2 hb 16
      have b2 := nm_2 hb 18
      have b3 := nm_4 hb 20
      have b4 := nm_8 hb 32
      have b5 := nm_2 hb 56
      have b6 := nm_2 hb 52
      have b7 := nm_2 hb 54
      have c1 : lg_cmp (lN (nmV X 16 2)) (Int64.ofInt 2) = 0 ↔ nmV X 16 2 = 2 := lgE (by omega) (by decide)
      have c2 : lg_cmp (lN (nmV X 18 2)) (Int64.ofInt 243) = 0 ↔ nmV X 18 2 = 243 := lgE (by omega) (by decide)
      have c3 : lg_cmp (lN (nmV X 20 4)) (Int64.ofInt 1) = 0 ↔ nmV X 20 4 = 1 := lgE (by omega) (by decide)
      have c6 : lg_cmp (lN (nmV X 52 2)) (Int64.ofInt 64) = 0 ↔ nmV X 52 2 = 64 := lgE (by omega) (by decide)
      have c7 : lg_cmp (lN (nmV X 54 2)) (Int64.ofInt 56) = 0 ↔ nmV X 54 2 = 56 := lgE (by omega) (by decide)
      have c8 : lg_cmp (lN (nmV X 56 2)) (Int64.ofInt 1) < 0 ↔ nmV X 56 2 < 1 := o_lt (k := 1) (by omega) (by decide)
      have c9 : 0 < lg_cmp (lN (nmV X 56 2)) (Int64.ofInt 16) ↔ 16 < nmV X 56 2 := o_gt (k := 16) (by omega) (by decide)
      have ft : nmV X 56 2 ≤ 16 → GX92_isOnTape m (lN (nmV X 32 8)) (Int64.ofInt 56 * lN (nmV X 56 2)) M = (bz (fitP (nmV X 32 8) (56 * nmV X 56 2) n), M) := fun h => by
        rw [show Int64.ofInt 56 * lN (nmV X 56 2) = lN (56 * nmV X 56 2) from ul_inj (by rw [ul_mul, ul_lN, ul_lN, show ul (Int64.ofInt 56) = 56 from rfl]; omega)]
        exact X92_isOnTape V.2.1 hn b4 (by omega)
      have H : HX92_imageFault_0 m M := by
        unfold HX92_imageFault_0
        dsimp only
        rw [g0]
        dsimp only
        rw [g1]
        dsimp only
        rw [g2]
        dsimp only
        rw [g3]
        dsimp only
        rw [g5]
        dsimp only
        rw [g4]
        dsimp only
        rw [g6]
        exact ⟨fun _ => ⟨fun _ => trivial, fun _ => ⟨p1, fun _ => ⟨p2, fun _ => ⟨p3, fun _ => ⟨p5, p4, p6, fun _ => ⟨p7, trivial⟩, fun _ => trivial⟩, fun _ => trivial⟩, fun _ => trivial⟩, fun _ => trivial⟩⟩, fun _ => trivial⟩
      rw [(gX92_imageFault_0 (FX92_imageFault_L142 fN fN) m M V.1 V.2.1.1 H).1]
      unfold GX92_imageFault_0 GX92_imageFault_134 GX92_imageFault_60
      dsimp only
      rw [sz, fi_pos (k64.mpr h0), g0]
      dsimp only
      rw [g1]
      dsimp only
      rw [g2]
      dsimp only
      rw [g3]
      dsimp only
      rw [g5]
      dsimp only
      rw [g4]
      dsimp only
      rw [g6]
      dsimp only
      rw [g7]
      dsimp only
      rw [fi_bz]
      unfold imF
      rw [fi_pos h0]
      by_cases h1 : nmV X 0 7 = 282584257676671
      · rw [fi_pos h1, fi_pos h1]
        by_cases h2 : nmV X 16 2 = 2
        · rw [fi_pos (c1.mpr h2)]
          by_cases h3 : nmV X 18 2 = 243
          · rw [fi_pos (c2.mpr h3)]
            by_cases h4 : nmV X 20 4 = 1
            · rw [fi_pos (c3.mpr h4), fi_pos (show nmV X 16 2 = 2 ∧ nmV X 18 2 = 243 ∧ nmV X 20 4 = 1 from ⟨h2, h3, h4⟩)]
              by_cases h5 : nmV X 52 2 = 64
              · rw [fi_pos (c6.mpr h5)]
                by_cases h6 : nmV X 54 2 = 56
                · rw [fi_pos (c7.mpr h6)]
                  by_cases h7 : nmV X 56 2 < 1
                  · rw [fi_pos (c8.mpr h7), fi_neg (fun z => by have := z.2.2.1.1; omega)]
                    rfl
                  · rw [fi_neg (fun z => h7 (c8.mp z))]
                    by_cases h8 : 16 < nmV X 56 2
                    · rw [fi_pos (c9.mpr h8), fi_neg (fun z => by have := z.2.2.1.2; omega)]
                      rfl
                    · rw [fi_neg (fun z => h8 (c9.mp z)), ft (by omega)]
                      dsimp only
                      rw [fi_bz]
                      by_cases h9 : fitP (nmV X 32 8) (56 * nmV X 56 2) n
                      · rw [fi_pos h9, fi_pos (show nmV X 52 2 = 64 ∧ nmV X 54 2 = 56 ∧ (1 ≤ nmV X 56 2 ∧ nmV X 56 2 ≤ 16) ∧ fitP (nmV X 32 8) (56 * nmV X 56 2) n from ⟨h5, h6, ⟨by omega, by omega⟩, h9⟩)]
                        exact im_L V (by omega) (by unfold fitP at h9; omega) (nmV X 56 2) fN 0 (by omega) (by unfold fN; omega)
                      · rw [fi_neg h9, fi_neg (fun z => h9 z.2.2.2)]
                        rfl
                · rw [fi_neg (fun z => h6 (c7.mp z)), fi_neg (fun z => h6 z.2.1)]
                  rfl
              · rw [fi_neg (fun z => h5 (c6.mp z)), fi_neg (fun z => h5 z.1)]
                rfl
            · rw [fi_neg (fun z => h4 (c3.mp z)), fi_neg (fun z => h4 z.2.2)]
              rfl
          · rw [fi_neg (fun z => h3 (c2.mp z)), fi_neg (fun z => h3 z.2.1)]
            rfl
        · rw [fi_neg (fun z => h2 (c1.mp z)), fi_neg (fun z => h2 z.1)]
          rfl
      · rw [fi_neg h1, fi_neg h1]
        rfl
    · have c0 : ¬ Int32.ofInt 64 ≤ M.1 309 m 0 := fun z => by
        rw [sz] at z
        exact h0 (k64.mp z)
      rw [(gX92_imageFault_0 (FX92_imageFault_L142 fN fN) m M V.1 V.2.1.1 ⟨fun z => absurd z c0, fun _ => trivial⟩).1]
      unfold GX92_imageFault_0 imF
      dsimp only
      rw [fi_neg c0, fi_neg h0]
      rfl
  exact op_of (d := ((0 : Int32), M)) Ax (P := OkR M) ⟨V.1, ext_r M⟩
end Tf
