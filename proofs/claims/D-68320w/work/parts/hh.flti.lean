/-! floats: the twin: sums, products, other formats, fused ones -/
set_option maxRecDepth 100000
theorem cl0 : (Int32.ofInt 0).toNatClampNeg = 0 := by decide
theorem cl1 : (Int32.ofInt 1).toNatClampNeg = 1 := by decide
theorem cl2 : (Int32.ofInt 2).toNatClampNeg = 2 := by decide
theorem fin_1 {t md : Nat} {s : Bool} {A : Nat} {p : Int} {mo : Bool} : finF t md (1, s, A, p, mo) = rnd t md s A p mo := rfl
theorem fin_2 {t md : Nat} {s : Bool} {A : Nat} {p : Int} {mo : Bool} : finF t md (2, s, A, p, mo) = (pk t s (2 * fG t + 1) 0, 0) := rfl
theorem fin_3 {t md : Nat} {s : Bool} {A : Nat} {p : Int} {mo : Bool} : finF t md (3, s, A, p, mo) = (qN t, 0) := rfl
theorem fin_0 {t md : Nat} {s : Bool} {A : Nat} {p : Int} {mo : Bool} : finF t md (0, s, A, p, mo) = (pk t s 0 0, 0) := rfl
theorem opB2_n {t md a b : Nat} {R : Rt × Nat} (h : ¬ (3 ≤ a ∨ 3 ≤ b)) : opB2 t md a b R = ((finF t md R.1).1, R.2 ||| (finF t md R.1).2) := if_neg h
theorem opB2_y {t md a b : Nat} {R : Rt × Nat} (h : 3 ≤ a ∨ 3 ≤ b) : opB2 t md a b R = (qN t, if a = 4 ∨ b = 4 then 16 else 0) := if_pos h
theorem opB1_n {t md a : Nat} {R : Rt × Nat} (h : ¬ 3 ≤ a) : opB1 t md a R = ((finF t md R.1).1, R.2 ||| (finF t md R.1).2) := if_neg h
theorem opB1_y {t md a : Nat} {R : Rt × Nat} (h : 3 ≤ a) : opB1 t md a R = (qN t, if a = 4 then 16 else 0) := if_pos h
section Aa
variable {M N : FM} {f md t : Nat} {X Y Z : UU}
theorem kdI {x : UU} {i v : Nat} (h : SV f i M x) (g : gdU x) (hv : v ≤ 4) : M.1 3 (M.2.2 375 f 0) i = Int32.ofInt (v : Int) ↔ x.1 = v := by
  have := g.1
  rw [h.1, ← iz_nI]
  exact ni_i (by omega) (by omega)
theorem gdb {x : UU} (g : gdU x) : bln x.2.2.1 ≤ 54 ∧ ul (lN x.2.2.1) = x.2.2.1 := by
  have h := g.2.1
  exact ⟨bln_le h, l_big (by have : (2 : Nat) ^ 54 = 18014398509481984 := by decide
                             omega)⟩
/-- a row gets a size -/
theorem put1 (o : FlO f M) {a : Nat} (ha : a = M.2.2 379 f 0 ∨ a = M.2.2 380 f 0) {x : UU} (g : gdU x) : ∃ K, (HX99_put a (lN x.2.2.1) M ∧ GX99_put a (lN x.2.2.1) M = K) ∧ AOk a M K ∧ BH K a x.2.2.1 ∧ Rs f 0 M K ∧ FlO f K ∧ (∀ i y, SV f i M y → SV f i K y) ∧ K.2.2 = M.2.2 := by
  obtain ⟨n1, l1, n2, l2, ne⟩ := fl_one o
  have na : fm_is M 901 901 a = true ∧ M.2.2 1 a 0 = 220 := by
    rcases ha with e | e <;> rw [e]
    · exact ⟨n1, l1⟩
    · exact ⟨n2, l2⟩
  obtain ⟨K, k1, k2, k3⟩ := X99_put o.1 na.1 na.2 (lN x.2.2.1)
  rw [(gdb g).2] at k3
  exact ⟨K, k1, k2, k3, rs_a ha k2, frF_o o (rs_a ha k2).1, fun i y v => sv_a o ha k2 v, by rw [k2.2.1]⟩
theorem X99_added (o : FlO f M) (ht : t ≤ 1) (hm : md ≤ 4) (v0 : SV f 0 M X) (v1 : SV f 1 M Y) (gX : gdU X) (gY : gdU Y) (tn : Bool) :
    ∃ L, (HX99_added f (bz (tn = true)) (nI t) (nI md) M ∧ GX99_added f (bz (tn = true)) (nI t) (nI md) M = (lN (opB2 t md X.1 Y.1 (addR md X (Y.1, Y.2.1 ^^ tn, Y.2.2))).1, L)) ∧ Rs f (opB2 t md X.1 Y.1 (addR md X (Y.1, Y.2.1 ^^ tn, Y.2.2))).2 M L := by
  obtain ⟨h1, h2⟩ := X99_none2 o ht v0 v1 gX gY
  rcases h2 with ⟨nn, e⟩ | ⟨yy, L, e, r⟩
  · have x3 : M.1 3 (M.2.2 376 f 0) 1 ^^^ bz (tn = true) = bz ((Y.2.1 ^^ tn) = true) := by rw [v1.2.1, bz_x]
    -- the end
    have r62 : ∃ L, (HX99_added_62 f (nI t) (nI md) (bz ((Y.2.1 ^^ tn) = true)) (bz (X.1 = 2)) (bz (Y.1 = 2)) M ∧ GX99_added_62 f (nI t) (nI md) (bz ((Y.2.1 ^^ tn) = true)) (bz (X.1 = 2)) (bz (Y.1 = 2)) M = (lN (opB2 t md X.1 Y.1 (addR md X (Y.1, Y.2.1 ^^ tn, Y.2.2))).1, L)) ∧ Rs f (opB2 t md X.1 Y.1 (addR md X (Y.1, Y.2.1 ^^ tn, Y.2.2))).2 M L := by
      rw [opB2_n nn]
      have r74 : (X.1 = 2 ∨ Y.1 = 2) → ∃ L, (HX99_added_74 f (nI t) (bz ((Y.2.1 ^^ tn) = true)) (bz (X.1 = 2)) (bz (Y.1 = 2)) M ∧ GX99_added_74 f (nI t) (bz ((Y.2.1 ^^ tn) = true)) (bz (X.1 = 2)) (bz (Y.1 = 2)) M = (lN (finF t md (addR md X (Y.1, Y.2.1 ^^ tn, Y.2.2)).1).1, L)) ∧ Rs f ((addR md X (Y.1, Y.2.1 ^^ tn, Y.2.2)).2 ||| (finF t md (addR md X (Y.1, Y.2.1 ^^ tn, Y.2.2)).1).2) M L := fun hh => by
        obtain ⟨L, ⟨l1, l2⟩, l3⟩ := X99_infiniteSum o ht (X.1 = 2) (Y.1 = 2) X.2.1 (Y.2.1 ^^ tn) hh
        unfold HX99_added_74 GX99_added_74
        dsimp only
        rw [cl0, v0.2.1, l2]
        dsimp only
        refine ⟨L, ⟨⟨l1, trivial⟩, ?_⟩, ?_⟩
        · unfold addR
          dsimp only
          by_cases q : X.1 = 2 ∧ Y.1 = 2 ∧ X.2.1 ≠ (Y.2.1 ^^ tn)
          · rw [fi_pos q, if_pos q]
            rfl
          · rw [fi_neg q, if_neg q]
            by_cases q2 : X.1 = 2
            · rw [fi_pos q2, if_pos q2]
              rfl
            · rw [fi_neg q2, if_neg q2, if_pos (hh.resolve_left q2)]
              rfl
        · unfold addR
          dsimp only
          by_cases q : X.1 = 2 ∧ Y.1 = 2 ∧ X.2.1 ≠ (Y.2.1 ^^ tn)
          · rw [fi_pos q] at l3
            rw [if_pos q]
            dsimp only
            rw [fin_3, Nat.or_zero]
            exact l3
          · rw [fi_neg q] at l3
            rw [if_neg q]
            by_cases q2 : X.1 = 2
            · rw [if_pos q2]
              dsimp only
              rw [fin_2, Nat.or_zero]
              exact l3
            · rw [if_neg q2, if_pos (hh.resolve_left q2)]
              dsimp only
              rw [fin_2, Nat.or_zero]
              exact l3
      unfold GX99_added_62
      dsimp only
      rw [fi_bz, fi_bz]
      by_cases q : X.1 = 2
      · obtain ⟨L, ⟨l1, l2⟩, l3⟩ := r74 (Or.inl q)
        rw [fi_pos q]
        exact ⟨L, ⟨⟨fun w => absurd q (bz_0.mp w), fun _ => l1⟩, l2⟩, l3⟩
      · rw [fi_neg q]
        by_cases q2 : Y.1 = 2
        · obtain ⟨L, ⟨l1, l2⟩, l3⟩ := r74 (Or.inr q2)
          rw [fi_pos q2]
          exact ⟨L, ⟨⟨fun _ => ⟨fun w => absurd q2 (bz_0.mp w), fun _ => l1⟩, fun w => absurd (bz_0.mpr q) w⟩, l2⟩, l3⟩
        · rw [fi_neg q2]
          obtain ⟨K, ⟨k1, k2⟩, k3, k4, k5, k6, k7, k8⟩ := put1 o (Or.inl rfl) gX
          obtain ⟨K', ⟨m1, m2⟩, m3, m4, m5, m6, m7, m8⟩ := put1 k6 (Or.inr rfl) gY
          have ne := (fl_one o).2.2.2.2
          have B0 : BH K' (K'.2.2 379 f 0) X.2.2.1 := by
            rw [m8, k8]
            exact aok_b m3 (by rw [k8]; exact fun w => ne w.symm) k4
          have B1 : BH K' (K'.2.2 380 f 0) Y.2.2.1 := by
            rw [m8]
            exact m4
          have s0 := m7 0 X (k7 0 X v0)
          have s1 := m7 1 Y (k7 1 Y v1)
          have b0 := (gdb gX).1
          have b1 := (gdb gY).1
          have c0 := gX.2.2.1
          have c1 := gY.2.2.1
          obtain ⟨L, ⟨l1, l2⟩, l3⟩ := X99_sum (M := K') (md := md) (t := t) (s := X.2.1) (z := Y.2.1 ^^ tn) (p := X.2.2.2) (q := Y.2.2.2) m6 ht hm B0 B1 (by omega) (by omega) (by omega)
          have ea : addR md X (Y.1, Y.2.1 ^^ tn, Y.2.2) = (adN md X.2.1 X.2.2.1 X.2.2.2 (Y.2.1 ^^ tn) Y.2.2.1 Y.2.2.2, 0) := by
            unfold addR
            rw [if_neg (fun w => q w.1), if_neg q, if_neg q2]
          rw [ea, Nat.zero_or]
          refine ⟨L, ⟨⟨fun _ => ⟨fun _ => ?_, fun w => absurd (bz_0.mpr q2) w⟩, fun w => absurd (bz_0.mpr q) w⟩, ?_⟩, rs_0t k5 (rs_0t m5 l3)⟩
          · try dsimp only
            rw [cl0, cl1, v0.2.2.1, k2]
            try dsimp only
            rw [(k7 1 Y v1).2.2.1, m2]
            try dsimp only
            rw [s0.2.1, s0.2.2.2, s1.2.2.2]
            exact ⟨k1, m1, l1, trivial⟩
          · try dsimp only
            rw [cl0, cl1, v0.2.2.1, k2]
            try dsimp only
            rw [(k7 1 Y v1).2.2.1, m2]
            try dsimp only
            rw [s0.2.1, s0.2.2.2, s1.2.2.2, l2]
    obtain ⟨L, ⟨l1, l2⟩, l3⟩ := r62
    have e45 : ∀ p : Prop, GX99_added_45 f (nI t) (nI md) (bz ((Y.2.1 ^^ tn) = true)) (bz p) M = GX99_added_62 f (nI t) (nI md) (bz ((Y.2.1 ^^ tn) = true)) (bz p) (bz (Y.1 = 2)) M := fun p => by
      unfold GX99_added_45
      dsimp only
      rw [cl1, propext (show M.1 3 (M.2.2 375 f 0) 1 = Int32.ofInt 2 ↔ Y.1 = 2 from kdI v1 gY (by decide))]
      by_cases q : Y.1 = 2
      · rw [fi_pos q, bz_t (c := Y.1 = 2) q]
      · rw [fi_neg q, bz_f (c := Y.1 = 2) q]
    have h45 : HX99_added_45 f (nI t) (nI md) (bz ((Y.2.1 ^^ tn) = true)) (bz (X.1 = 2)) M := by
      unfold HX99_added_45
      dsimp only
      rw [cl1, propext (show M.1 3 (M.2.2 375 f 0) 1 = Int32.ofInt 2 ↔ Y.1 = 2 from kdI v1 gY (by decide))]
      refine ⟨fun q => ?_, fun q => ?_⟩
      · rw [bz_t (c := Y.1 = 2) q] at l1
        exact l1
      · rw [bz_f (c := Y.1 = 2) q] at l1
        exact l1
    refine ⟨L, ⟨?_, ?_⟩, l3⟩
    · unfold HX99_added HX99_added_0
      dsimp only
      rw [e]
      dsimp only
      rw [cl0, cl1, x3, propext (show M.1 3 (M.2.2 375 f 0) 0 = Int32.ofInt 2 ↔ X.1 = 2 from kdI v0 gX (by decide))]
      refine ⟨h1, fun _ => ⟨fun q => ?_, fun q => ?_⟩, fun w => absurd m1_eq w⟩
      · rw [bz_t (c := X.1 = 2) q] at h45
        exact h45
      · rw [bz_f (c := X.1 = 2) q] at h45
        exact h45
    · rw [← l2]
      unfold GX99_added GX99_added_0
      dsimp only
      rw [e]
      dsimp only
      rw [cl0, cl1, x3, fi_pos m1_eq, propext (show M.1 3 (M.2.2 375 f 0) 0 = Int32.ofInt 2 ↔ X.1 = 2 from kdI v0 gX (by decide))]
      have z1 := e45 True
      have z0 := e45 False
      rw [← bz1] at z1
      rw [← bz0] at z0
      rw [z1, z0]
      by_cases q : X.1 = 2
      · rw [fi_pos q, bz_t (c := X.1 = 2) q]
      · rw [fi_neg q, bz_f (c := X.1 = 2) q]
  · rw [opB2_y yy]
    refine ⟨L, ⟨?_, ?_⟩, r⟩
    · unfold HX99_added HX99_added_0
      dsimp only
      rw [e]
      exact ⟨h1, fun w => absurd w (qN_ne ht), fun _ => trivial⟩
    · unfold GX99_added GX99_added_0
      dsimp only
      rw [e]
      dsimp only
      rw [fi_neg (qN_ne ht)]
/-- the first row is rounded as it stands -/
theorem rnd1 (o : FlO f M) (ht : t ≤ 1) (hm : md ≤ 4) {A : Nat} (hB : BH M (M.2.2 379 f 0) A) (hA : A ≠ 0) (s : Bool) (p : Int) (hp : -9000 ≤ p ∧ p ≤ 9000) : ∃ L, (HX99_rounded f (nI t) (nI md) (fm_sI (fm_sI (fm_sI M 383 f 0 (Int32.ofInt p)) 382 f 0 (bz (s = true))) 381 f 0 (Int32.ofInt 0)) ∧
      GX99_rounded f (nI t) (nI md) (fm_sI (fm_sI (fm_sI M 383 f 0 (Int32.ofInt p)) 382 f 0 (bz (s = true))) 381 f 0 (Int32.ofInt 0)) = (lN (rnd t md s A p false).1, L)) ∧ Rs f (rnd t md s A p false).2 M L := by
  have r1 := rs_i (f := f) (g := 383) (v := Int32.ofInt p) (Or.inr rfl) o.1
  have r2 := rs_i (f := f) (g := 382) (v := bz (s = true)) (Or.inl rfl) r1.1.1
  have r3 := rs_m (f := f) (c := False) r2.1.1
  rw [← bz0] at r3
  obtain ⟨L, l1, l2⟩ := X99_rounded (mo := false) (sg := s) (sc := p) (frF_o (frF_o (frF_o o r1.1) r2.1) r3.1) ht hm (bh_I (by decide) (bh_I (by decide) (bh_I (by decide) hB))) hA
    ((oI (fun q => by omega)).trans (sI_at _ _ _ _ _)) ((oI (fun q => by omega)).trans ((oI (fun q => by omega)).trans (sI_at _ _ _ _ _))) ((sI_at _ _ _ _ _).trans (bz_f (by decide)).symm) hp
  exact ⟨L, l1, rs_0t r1 (rs_0t r2 (rs_0t r3 l2))⟩
/-- the product of two sizes in the first row -/
theorem mul1 (o : FlO f M) {x y : UU} (g : gdU x) (g' : gdU y) : ∃ K, (HX99_multiply (M.2.2 379 f 0) (lN x.2.2.1) (lN y.2.2.1) M ∧ GX99_multiply (M.2.2 379 f 0) (lN x.2.2.1) (lN y.2.2.1) M = K) ∧ AOk (M.2.2 379 f 0) M K ∧ BH K (M.2.2 379 f 0) (x.2.2.1 * y.2.2.1) ∧ Rs f 0 M K ∧ FlO f K ∧ (∀ i z, SV f i M z → SV f i K z) ∧ K.2.2 = M.2.2 := by
  obtain ⟨n1, l1, -, -, -⟩ := fl_one o
  obtain ⟨K, k1, k2, k3⟩ := X99_multiply o.1 n1 l1 (lN x.2.2.1) (lN y.2.2.1)
  rw [(gdb g).2, (gdb g').2] at k3
  exact ⟨K, k1, k2, k3, rs_a (Or.inl rfl) k2, frF_o o (rs_a (Or.inl rfl) k2).1, fun i y v => sv_a o (Or.inl rfl) k2 v, by rw [k2.2.1]⟩
end Aa
