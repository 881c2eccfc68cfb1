/-! floats: the twin: products, other formats, fused ones -/
set_option maxRecDepth 100000
section Ab
variable {M N : FM} {f md t : Nat} {X Y Z : UU}
theorem X99_multiplied (o : FlO f M) (ht : t ≤ 1) (hm : md ≤ 4) (v0 : SV f 0 M X) (v1 : SV f 1 M Y) (gX : gdU X) (gY : gdU Y) :
    ∃ L, (HX99_multiplied f (nI t) (nI md) M ∧ GX99_multiplied f (nI t) (nI md) M = (lN (opB2 t md X.1 Y.1 (mulR X Y)).1, L)) ∧ Rs f (opB2 t md X.1 Y.1 (mulR X Y)).2 M L := by
  obtain ⟨h1, h2⟩ := X99_none2 o ht v0 v1 gX gY
  rcases h2 with ⟨nn, e⟩ | ⟨yy, L, e, r⟩
  · have x4 : M.1 3 (M.2.2 376 f 0) 0 ^^^ M.1 3 (M.2.2 376 f 0) 1 = bz ((X.2.1 ^^ Y.2.1) = true) := by rw [v0.2.1, v1.2.1, bz_x]
    have k00 : M.1 3 (M.2.2 375 f 0) 0 = 0 ↔ X.1 = 0 := kdI (v := 0) v0 gX (by decide)
    have k10 : M.1 3 (M.2.2 375 f 0) 1 = 0 ↔ Y.1 = 0 := kdI (v := 0) v1 gY (by decide)
    have k02 : M.1 3 (M.2.2 375 f 0) 0 = Int32.ofInt 2 ↔ X.1 = 2 := kdI (v := 2) v0 gX (by decide)
    have k12 : M.1 3 (M.2.2 375 f 0) 1 = Int32.ofInt 2 ↔ Y.1 = 2 := kdI (v := 2) v1 gY (by decide)
    have i4 : fm_in M (M.2.2 374 f 0) (nI t) = true := in_nI (tL_374 o.1.1 o.2.1) (by omega) (by decide)
    have gx1 := gX.1
    have gy1 := gY.1
    generalize hs : (X.2.1 ^^ Y.2.1) = s at *
    have eR : mulR X Y = if X.1 = 2 ∧ Y.1 = 0 ∨ X.1 = 0 ∧ Y.1 = 2 then ((3, false, 0, 0, false), 16) else if X.1 = 2 ∨ Y.1 = 2 then ((2, s, 0, 0, false), 0)
        else if X.1 = 0 ∨ Y.1 = 0 then ((0, s, 0, 0, false), 0) else ((1, s, X.2.2.1 * Y.2.2.1, X.2.2.2 + Y.2.2.2, false), 0) := by
      unfold mulR
      rw [hs]
    rw [opB2_n nn]
    -- by infinite and zero
    have r82 : ∃ L, (HX99_multiplied_82 f (nI t) (nI md) (bz (s = true)) (bz (X.1 = 2 ∨ Y.1 = 2)) (bz (X.1 = 0 ∨ Y.1 = 0)) M ∧ GX99_multiplied_82 f (nI t) (nI md) (bz (s = true)) (bz (X.1 = 2 ∨ Y.1 = 2)) (bz (X.1 = 0 ∨ Y.1 = 0)) M = (lN (finF t md (mulR X Y).1).1, L)) ∧ Rs f ((mulR X Y).2 ||| (finF t md (mulR X Y).1).2) M L := by
      have h110 : HX99_multiplied_110 f (nI t) (bz (s = true)) (bz (X.1 = 2 ∨ Y.1 = 2)) M := ⟨fun _ => trivial, fun _ => ⟨i4, trivial⟩⟩
      have g110 : GX99_multiplied_110 f (nI t) (bz (s = true)) (bz (X.1 = 2 ∨ Y.1 = 2)) M = (lN (fi (X.1 = 2 ∨ Y.1 = 2) (pk t s (2 * fG t + 1) 0) (pk t s 0 0)), M) := by
        unfold GX99_multiplied_110 GX99_multiplied_139
        dsimp only
        rw [fi_bz, X99_zero ht, X99_inf o ht]
        by_cases q : X.1 = 2 ∨ Y.1 = 2
        · rw [fi_pos q, fi_pos q]
        · rw [fi_neg q, fi_neg q]
      obtain ⟨L, l1, l2⟩ := X99_invalid (t := t) o ht
      have r100 : ¬ ((X.1 = 2 ∨ Y.1 = 2) ∧ (X.1 = 0 ∨ Y.1 = 0)) → ∃ L, (HX99_multiplied_100 f (nI t) (nI md) (bz (s = true)) (bz (X.1 = 2 ∨ Y.1 = 2)) (bz (X.1 = 0 ∨ Y.1 = 0)) M ∧ GX99_multiplied_100 f (nI t) (nI md) (bz (s = true)) (bz (X.1 = 2 ∨ Y.1 = 2)) (bz (X.1 = 0 ∨ Y.1 = 0)) M = (lN (finF t md (mulR X Y).1).1, L)) ∧ Rs f ((mulR X Y).2 ||| (finF t md (mulR X Y).1).2) M L := fun hh => by
        have nw : ¬ (X.1 = 2 ∧ Y.1 = 0 ∨ X.1 = 0 ∧ Y.1 = 2) := fun w => hh (w.elim (fun w => ⟨Or.inl w.1, Or.inr w.2⟩) (fun w => ⟨Or.inr w.2, Or.inl w.1⟩))
        rw [eR, if_neg nw]
        by_cases q : X.1 = 2 ∨ Y.1 = 2
        · rw [if_pos q]
          dsimp only
          rw [fin_2, Nat.or_zero]
          refine ⟨M, ⟨⟨fun w => absurd q (bz_0.mp w), fun _ => h110⟩, ?_⟩, rs_r o.1⟩
          unfold GX99_multiplied_100
          rw [fi_bz, fi_pos q, g110, fi_pos q]
        · rw [if_neg q]
          by_cases q2 : X.1 = 0 ∨ Y.1 = 0
          · rw [if_pos q2]
            dsimp only
            rw [fin_0, Nat.or_zero]
            refine ⟨M, ⟨⟨fun _ => ⟨fun w => absurd q2 (bz_0.mp w), fun _ => h110⟩, fun w => absurd (bz_0.mpr q) w⟩, ?_⟩, rs_r o.1⟩
            unfold GX99_multiplied_100
            rw [fi_bz, fi_neg q, fi_bz, fi_pos q2, g110, fi_neg q]
          · rw [if_neg q2]
            have hx : X.1 = 1 := by omega
            have hy : Y.1 = 1 := by omega
            have zx : X.2.2.1 ≠ 0 := fun w => by have := (gX.2.2.2 (by omega)).mp w; omega
            have zy : Y.2.2.1 ≠ 0 := fun w => by have := (gY.2.2.2 (by omega)).mp w; omega
            obtain ⟨K, ⟨m1, m2⟩, m3, m4, m5, m6, m7, m8⟩ := mul1 o gX gY
            have s0 := m7 0 X v0
            have s1 := m7 1 Y v1
            have c0 := gX.2.2.1
            have c1 := gY.2.2.1
            obtain ⟨L, ⟨l1, l2⟩, l3⟩ := rnd1 (M := K) (md := md) (t := t) m6 ht hm (by rw [m8]; exact m4) (Nat.mul_ne_zero zx zy) s (X.2.2.2 + Y.2.2.2) (by omega)
            dsimp only
            rw [fin_1, Nat.zero_or]
            refine ⟨L, ⟨⟨fun _ => ⟨fun _ => ?_, fun w => absurd (bz_0.mpr q2) w⟩, fun w => absurd (bz_0.mpr q) w⟩, ?_⟩, rs_0t m5 l3⟩
            · dsimp only
              rw [cl0, cl1, v0.2.2.1, v1.2.2.1, m2, s0.2.2.2, s1.2.2.2, iz_a]
              exact ⟨m1, l1, trivial⟩
            · unfold GX99_multiplied_100
              dsimp only
              rw [fi_bz, fi_neg q, fi_bz, fi_neg q2, cl0, cl1, v0.2.2.1, v1.2.2.1, m2, s0.2.2.2, s1.2.2.2, iz_a, l2]
      unfold GX99_multiplied_82
      dsimp only
      rw [l1, fi_bz, fi_bz]
      by_cases q : X.1 = 2 ∨ Y.1 = 2
      · rw [fi_pos q]
        by_cases q2 : X.1 = 0 ∨ Y.1 = 0
        · have w : X.1 = 2 ∧ Y.1 = 0 ∨ X.1 = 0 ∧ Y.1 = 2 := by omega
          rw [fi_pos q2, eR, if_pos w]
          dsimp only
          rw [fin_3, Nat.or_zero]
          exact ⟨L, ⟨⟨fun w => absurd q (bz_0.mp w), fun _ => ⟨fun w => absurd q2 (bz_0.mp w), fun _ => trivial⟩⟩, rfl⟩, l2⟩
        · rw [fi_neg q2]
          obtain ⟨J, ⟨j1, j2⟩, j3⟩ := r100 (fun w => q2 w.2)
          exact ⟨J, ⟨⟨fun w => absurd q (bz_0.mp w), fun _ => ⟨fun _ => j1, fun w => absurd (bz_0.mpr q2) w⟩⟩, j2⟩, j3⟩
      · rw [fi_neg q]
        obtain ⟨J, ⟨j1, j2⟩, j3⟩ := r100 (fun w => q w.1)
        exact ⟨J, ⟨⟨fun _ => j1, fun w => absurd (bz_0.mpr q) w⟩, j2⟩, j3⟩
    obtain ⟨L, ⟨l1, l2⟩, l3⟩ := r82
    have r57 : HX99_multiplied_57 f (nI t) (nI md) (bz (s = true)) (bz (X.1 = 2 ∨ Y.1 = 2)) M ∧ GX99_multiplied_57 f (nI t) (nI md) (bz (s = true)) (bz (X.1 = 2 ∨ Y.1 = 2)) M = (lN (finF t md (mulR X Y).1).1, L) := by
      unfold HX99_multiplied_57 HX99_multiplied_77 GX99_multiplied_57 GX99_multiplied_77
      dsimp only
      rw [cl0, cl1, propext k00, propext k10]
      by_cases q : X.1 = 0
      · rw [bz_t (c := X.1 = 0 ∨ Y.1 = 0) (Or.inl q)] at l1 l2
        rw [fi_pos q]
        exact ⟨⟨fun _ => l1, fun w => absurd q w⟩, l2⟩
      · rw [fi_neg q]
        by_cases q2 : Y.1 = 0
        · rw [bz_t (c := X.1 = 0 ∨ Y.1 = 0) (Or.inr q2)] at l1 l2
          rw [fi_pos q2]
          exact ⟨⟨fun w => absurd w q, fun _ => ⟨fun _ => l1, fun w => absurd q2 w⟩⟩, l2⟩
        · rw [bz_f (c := X.1 = 0 ∨ Y.1 = 0) (fun w => w.elim q q2)] at l1 l2
          rw [fi_neg q2]
          exact ⟨⟨fun w => absurd w q, fun _ => ⟨fun w => absurd w q2, fun _ => l1⟩⟩, l2⟩
    refine ⟨L, ?_, l3⟩
    unfold HX99_multiplied HX99_multiplied_0 HX99_multiplied_52 GX99_multiplied GX99_multiplied_0 GX99_multiplied_52
    dsimp only
    rw [e]
    dsimp only
    rw [cl0, cl1, x4, fi_pos m1_eq, propext k02, propext k12]
    by_cases q : X.1 = 2
    · rw [bz_t (c := X.1 = 2 ∨ Y.1 = 2) (Or.inl q)] at r57
      rw [fi_pos q]
      exact ⟨⟨h1, fun _ => ⟨fun _ => r57.1, fun w => absurd q w⟩, fun w => absurd m1_eq w⟩, r57.2⟩
    · rw [fi_neg q]
      by_cases q2 : Y.1 = 2
      · rw [bz_t (c := X.1 = 2 ∨ Y.1 = 2) (Or.inr q2)] at r57
        rw [fi_pos q2]
        exact ⟨⟨h1, fun _ => ⟨fun w => absurd w q, fun _ => ⟨fun _ => r57.1, fun w => absurd q2 w⟩⟩, fun w => absurd m1_eq w⟩, r57.2⟩
      · rw [bz_f (c := X.1 = 2 ∨ Y.1 = 2) (fun w => w.elim q q2)] at r57
        rw [fi_neg q2]
        exact ⟨⟨h1, fun _ => ⟨fun w => absurd w q, fun _ => ⟨fun w => absurd w q2, fun _ => r57.1⟩⟩, fun w => absurd m1_eq w⟩, r57.2⟩
  · rw [opB2_y yy]
    refine ⟨L, ⟨?_, ?_⟩, r⟩
    · unfold HX99_multiplied HX99_multiplied_0
      dsimp only
      rw [e]
      exact ⟨h1, fun w => absurd w (qN_ne ht), fun _ => trivial⟩
    · unfold GX99_multiplied GX99_multiplied_0
      dsimp only
      rw [e]
      dsimp only
      rw [fi_neg (qN_ne ht)]
def othR (X : UU) : Rt × Nat := ((X.1, X.2.1, X.2.2.1, X.2.2.2, false), 0)
theorem X99_other (o : FlO f M) (ht : t ≤ 1) (hm : md ≤ 4) (v0 : SV f 0 M X) (gX : gdU X) :
    ∃ L, (HX99_other f (nI t) (nI md) M ∧ GX99_other f (nI t) (nI md) M = (lN (opB1 t md X.1 (othR X)).1, L)) ∧ Rs f (opB1 t md X.1 (othR X)).2 M L := by
  obtain ⟨h1, h2⟩ := X99_none1 o ht v0 gX
  rcases h2 with ⟨nn, e⟩ | ⟨yy, L, e, r⟩
  · have k00 : M.1 3 (M.2.2 375 f 0) 0 = 0 ↔ X.1 = 0 := kdI (v := 0) v0 gX (by decide)
    have k01 : M.1 3 (M.2.2 375 f 0) 0 = Int32.ofInt 1 ↔ X.1 = 1 := kdI (v := 1) v0 gX (by decide)
    have i4 : fm_in M (M.2.2 374 f 0) (nI t) = true := in_nI (tL_374 o.1.1 o.2.1) (by omega) (by decide)
    have gx1 := gX.1
    rw [opB1_n nn]
    unfold HX99_other HX99_other_0 GX99_other GX99_other_0 GX99_other_68 othR
    dsimp only
    rw [e]
    dsimp only
    rw [cl0, fi_pos m1_eq, propext k00, propext k01, v0.2.1, X99_zero ht, X99_inf o ht]
    dsimp only
    by_cases q : X.1 = 1
    · rw [fi_pos q]
      obtain ⟨K, ⟨k1, k2⟩, k3, k4, k5, k6, k7, k8⟩ := put1 o (Or.inl rfl) gX
      have s0 := k7 0 X v0
      have zx : X.2.2.1 ≠ 0 := fun w => by have := (gX.2.2.2 (by omega)).mp w; omega
      have c0 := gX.2.2.1
      obtain ⟨L, ⟨l1, l2⟩, l3⟩ := rnd1 (M := K) (md := md) (t := t) k6 ht hm (by rw [k8]; exact k4) zx X.2.1 X.2.2.2 (by omega)
      rw [v0.2.2.1, k2, s0.2.2.2]
      have e6 : (fm_sI K 383 f 0 (Int32.ofInt X.2.2.2)).1 3 ((fm_sI K 383 f 0 (Int32.ofInt X.2.2.2)).2.2 376 f 0) 0 = bz (X.2.1 = true) := (oI (fun q => by omega)).trans s0.2.1
      rw [e6, l2]
      have ef : finF t md (X.1, X.2.1, X.2.2.1, X.2.2.2, false) = rnd t md X.2.1 X.2.2.1 X.2.2.2 false := by rw [q]; rfl
      rw [ef, Nat.zero_or]
      exact ⟨L, ⟨⟨h1, fun _ => ⟨fun _ => ⟨k1, l1, trivial⟩, fun w => absurd q w⟩, fun w => absurd m1_eq w⟩, rfl⟩, rs_0t k5 l3⟩
    · rw [fi_neg q]
      by_cases q2 : X.1 = 0
      · have ef : finF t md (X.1, X.2.1, X.2.2.1, X.2.2.2, false) = (pk t X.2.1 0 0, 0) := by rw [q2]; rfl
        rw [fi_pos q2, ef, Nat.zero_or]
        exact ⟨M, ⟨⟨h1, fun _ => ⟨fun w => absurd w q, fun _ => ⟨fun _ => trivial, fun w => absurd q2 w⟩⟩, fun w => absurd m1_eq w⟩, rfl⟩, rs_r o.1⟩
      · have ef : finF t md (X.1, X.2.1, X.2.2.1, X.2.2.2, false) = (pk t X.2.1 (2 * fG t + 1) 0, 0) := by rw [show X.1 = 2 by omega]; rfl
        rw [fi_neg q2, ef, Nat.zero_or]
        exact ⟨M, ⟨⟨h1, fun _ => ⟨fun w => absurd w q, fun _ => ⟨fun w => absurd w q2, fun _ => ⟨i4, trivial⟩⟩⟩, fun w => absurd m1_eq w⟩, rfl⟩, rs_r o.1⟩
  · rw [opB1_y yy]
    refine ⟨L, ⟨?_, ?_⟩, r⟩
    · unfold HX99_other HX99_other_0
      dsimp only
      rw [e]
      exact ⟨h1, fun w => absurd w (qN_ne ht), fun _ => trivial⟩
    · unfold GX99_other GX99_other_0
      dsimp only
      rw [e]
      dsimp only
      rw [fi_neg (qN_ne ht)]
theorem X99_none3 (o : FlO f M) (ht : t ≤ 1) (v0 : SV f 0 M X) (v1 : SV f 1 M Y) (v2 : SV f 2 M Z) (gX : gdU X) (gY : gdU Y) (gZ : gdU Z) : HX99_none f (Int32.ofInt 3) (nI t) M ∧
    ((¬ (3 ≤ X.1 ∨ 3 ≤ Y.1 ∨ 3 ≤ Z.1) ∧ GX99_none f (Int32.ofInt 3) (nI t) M = (Int64.ofInt (-1), M)) ∨ ((3 ≤ X.1 ∨ 3 ≤ Y.1 ∨ 3 ≤ Z.1) ∧ ∃ L, GX99_none f (Int32.ofInt 3) (nI t) M = (lN (qN t), L) ∧ Rs f (if X.1 = 4 ∨ Y.1 = 4 ∨ Z.1 = 4 then 16 else 0) M L)) := by
  have g1 := gX.1
  have g2 := gY.1
  have g3 := gZ.1
  obtain ⟨L, ⟨l1, l2⟩, l3, l4⟩ := X99_none (n := 3) (t := t) o ht (by decide) (fun k => if k = 0 then X.1 else if k = 1 then Y.1 else Z.1) (fun k hk => by
    rcases (show k = 0 ∨ k = 1 ∨ k = 2 by omega) with e | e | e <;> subst e
    · exact ⟨v0.1, g1⟩
    · exact ⟨v1.1, g2⟩
    · exact ⟨v2.1, g3⟩)
  have e3 : (∃ j, j < 3 ∧ 3 ≤ (if j = 0 then X.1 else if j = 1 then Y.1 else Z.1)) ↔ (3 ≤ X.1 ∨ 3 ≤ Y.1 ∨ 3 ≤ Z.1) := ⟨fun ⟨j, j1, j2⟩ => by split at j2 <;> first | omega | (split at j2 <;> omega), fun h => h.elim (fun h => ⟨0, by decide, h⟩) (fun h => h.elim (fun h => ⟨1, by decide, h⟩) (fun h => ⟨2, by decide, h⟩))⟩
  have e4 : (∃ j, j < 3 ∧ (if j = 0 then X.1 else if j = 1 then Y.1 else Z.1) = 4) ↔ (X.1 = 4 ∨ Y.1 = 4 ∨ Z.1 = 4) := ⟨fun ⟨j, j1, j2⟩ => by split at j2 <;> first | omega | (split at j2 <;> omega), fun h => h.elim (fun h => ⟨0, by decide, h⟩) (fun h => h.elim (fun h => ⟨1, by decide, h⟩) (fun h => ⟨2, by decide, h⟩))⟩
  rw [propext e3] at l2 l4
  rw [propext e4, fi_if] at l3
  refine ⟨l1, ?_⟩
  by_cases q : 3 ≤ X.1 ∨ 3 ≤ Y.1 ∨ 3 ≤ Z.1
  · rw [fi_pos q] at l2
    exact Or.inr ⟨q, L, l2, l3⟩
  · rw [fi_neg q, l4 q] at l2
    exact Or.inl ⟨q, l2⟩
theorem X99_fused (o : FlO f M) (ht : t ≤ 1) (hm : md ≤ 4) (v0 : SV f 0 M X) (v1 : SV f 1 M Y) (v2 : SV f 2 M Z) (gX : gdU X) (gY : gdU Y) (gZ : gdU Z) (a b : Bool) :
    ∃ L, (HX99_fused f (bz (a = true)) (bz (b = true)) (nI t) (nI md) M ∧ GX99_fused f (bz (a = true)) (bz (b = true)) (nI t) (nI md) M = (lN (fusR t md X Y Z a b).1, L)) ∧ Rs f (fusR t md X Y Z a b).2 M L := by
  obtain ⟨h1, h2⟩ := X99_none3 o ht v0 v1 v2 gX gY gZ
  have k00 : M.1 3 (M.2.2 375 f 0) 0 = 0 ↔ X.1 = 0 := kdI (v := 0) v0 gX (by decide)
  have k10 : M.1 3 (M.2.2 375 f 0) 1 = 0 ↔ Y.1 = 0 := kdI (v := 0) v1 gY (by decide)
  have k02 : M.1 3 (M.2.2 375 f 0) 0 = Int32.ofInt 2 ↔ X.1 = 2 := kdI (v := 2) v0 gX (by decide)
  have k12 : M.1 3 (M.2.2 375 f 0) 1 = Int32.ofInt 2 ↔ Y.1 = 2 := kdI (v := 2) v1 gY (by decide)
  have k22 : M.1 3 (M.2.2 375 f 0) 2 = Int32.ofInt 2 ↔ Z.1 = 2 := kdI (v := 2) v2 gZ (by decide)
  have xs : M.1 3 (M.2.2 376 f 0) 0 ^^^ M.1 3 (M.2.2 376 f 0) 1 ^^^ bz (a = true) = bz (((X.2.1 ^^ Y.2.1) ^^ a) = true) := by rw [v0.2.1, v1.2.1, bz_x, bz_x]
  have xz : M.1 3 (M.2.2 376 f 0) 2 ^^^ bz (b = true) = bz ((Z.2.1 ^^ b) = true) := by rw [v2.2.1, bz_x]
  have gx1 := gX.1
  have gy1 := gY.1
  have gz1 := gZ.1
  unfold fusR
  generalize ((X.2.1 ^^ Y.2.1) ^^ a) = s at *
  generalize (Z.2.1 ^^ b) = z at *
  -- not wrong
  have r43 : ¬ (X.1 = 2 ∧ Y.1 = 0 ∨ X.1 = 0 ∧ Y.1 = 2) → ∃ L, (HX99_fused_43 f (bz (a = true)) (bz (b = true)) (nI t) (nI md) (Int32.ofInt 0) M ∧ GX99_fused_43 f (bz (a = true)) (bz (b = true)) (nI t) (nI md) (Int32.ofInt 0) M =
      (lN (if 3 ≤ X.1 ∨ 3 ≤ Y.1 ∨ 3 ≤ Z.1 then (qN t, if X.1 = 4 ∨ Y.1 = 4 ∨ Z.1 = 4 then 16 else 0)
        else if X.1 = 2 ∨ Y.1 = 2 then (if Z.1 = 2 ∧ s ≠ z then (qN t, 16) else (pk t s (2 * fG t + 1) 0, 0))
        else if Z.1 = 2 then (pk t z (2 * fG t + 1) 0, 0) else finF t md (adN md s (X.2.2.1 * Y.2.2.1) (X.2.2.2 + Y.2.2.2) z Z.2.2.1 Z.2.2.2)).1, L)) ∧
      Rs f (if 3 ≤ X.1 ∨ 3 ≤ Y.1 ∨ 3 ≤ Z.1 then (qN t, if X.1 = 4 ∨ Y.1 = 4 ∨ Z.1 = 4 then 16 else 0)
        else if X.1 = 2 ∨ Y.1 = 2 then (if Z.1 = 2 ∧ s ≠ z then (qN t, 16) else (pk t s (2 * fG t + 1) 0, 0))
        else if Z.1 = 2 then (pk t z (2 * fG t + 1) 0, 0) else finF t md (adN md s (X.2.2.1 * Y.2.2.1) (X.2.2.2 + Y.2.2.2) z Z.2.2.1 Z.2.2.2)).2 M L := fun _ => by
    unfold HX99_fused_43 GX99_fused_43
    dsimp only
    rw [fi_pos (show Int32.ofInt 0 = 0 from rfl)]
    rcases h2 with ⟨nn, e⟩ | ⟨yy, L, e, r⟩
    · rw [if_neg nn]
      rw [e]
      dsimp only
      rw [cl0, cl1, cl2, xs, xz, fi_pos m1_eq, propext k02, propext k12]
      have r145 : ∃ L, (HX99_fused_145 f (nI t) (nI md) (bz (s = true)) (bz (z = true)) (bz (X.1 = 2 ∨ Y.1 = 2)) (bz (Z.1 = 2)) M ∧ GX99_fused_145 f (nI t) (nI md) (bz (s = true)) (bz (z = true)) (bz (X.1 = 2 ∨ Y.1 = 2)) (bz (Z.1 = 2)) M =
          (lN (if X.1 = 2 ∨ Y.1 = 2 then (if Z.1 = 2 ∧ s ≠ z then (qN t, 16) else (pk t s (2 * fG t + 1) 0, 0))
            else if Z.1 = 2 then (pk t z (2 * fG t + 1) 0, 0) else finF t md (adN md s (X.2.2.1 * Y.2.2.1) (X.2.2.2 + Y.2.2.2) z Z.2.2.1 Z.2.2.2)).1, L)) ∧
          Rs f (if X.1 = 2 ∨ Y.1 = 2 then (if Z.1 = 2 ∧ s ≠ z then (qN t, 16) else (pk t s (2 * fG t + 1) 0, 0))
            else if Z.1 = 2 then (pk t z (2 * fG t + 1) 0, 0) else finF t md (adN md s (X.2.2.1 * Y.2.2.1) (X.2.2.2 + Y.2.2.2) z Z.2.2.1 Z.2.2.2)).2 M L := by
        have r157 : ((X.1 = 2 ∨ Y.1 = 2) ∨ Z.1 = 2) → ∃ L, (HX99_fused_157 f (nI t) (bz (s = true)) (bz (z = true)) (bz (X.1 = 2 ∨ Y.1 = 2)) (bz (Z.1 = 2)) M ∧ GX99_fused_157 f (nI t) (bz (s = true)) (bz (z = true)) (bz (X.1 = 2 ∨ Y.1 = 2)) (bz (Z.1 = 2)) M =
            (lN (if X.1 = 2 ∨ Y.1 = 2 then (if Z.1 = 2 ∧ s ≠ z then (qN t, 16) else (pk t s (2 * fG t + 1) 0, 0)) else (pk t z (2 * fG t + 1) 0, 0)).1, L)) ∧
            Rs f (if X.1 = 2 ∨ Y.1 = 2 then (if Z.1 = 2 ∧ s ≠ z then (qN t, 16) else (pk t s (2 * fG t + 1) 0, 0)) else (pk t z (2 * fG t + 1) 0, 0)).2 M L := fun hh => by
          obtain ⟨L, ⟨l1, l2⟩, l3⟩ := X99_infiniteSum o ht (X.1 = 2 ∨ Y.1 = 2) (Z.1 = 2) s z hh
          unfold HX99_fused_157 GX99_fused_157
          dsimp only
          rw [l2]
          dsimp only
          by_cases q : X.1 = 2 ∨ Y.1 = 2
          · rw [if_pos q]
            by_cases q2 : Z.1 = 2 ∧ s ≠ z
            · have w : (X.1 = 2 ∨ Y.1 = 2) ∧ Z.1 = 2 ∧ s ≠ z := ⟨q, q2⟩
              rw [fi_pos w] at l3
              rw [fi_pos w, if_pos q2]
              exact ⟨L, ⟨⟨l1, trivial⟩, rfl⟩, l3⟩
            · have w : ¬ ((X.1 = 2 ∨ Y.1 = 2) ∧ Z.1 = 2 ∧ s ≠ z) := fun w => q2 w.2
              rw [fi_neg w] at l3
              rw [fi_neg w, if_neg q2, fi_pos q]
              exact ⟨L, ⟨⟨l1, trivial⟩, rfl⟩, l3⟩
          · have w : ¬ ((X.1 = 2 ∨ Y.1 = 2) ∧ Z.1 = 2 ∧ s ≠ z) := fun w => q w.1
            rw [fi_neg w] at l3
            rw [if_neg q, fi_neg w, fi_neg q]
            exact ⟨L, ⟨⟨l1, trivial⟩, rfl⟩, l3⟩
        unfold GX99_fused_145
        dsimp only
        rw [fi_bz, fi_bz]
        by_cases q : X.1 = 2 ∨ Y.1 = 2
        · obtain ⟨L, ⟨l1, l2⟩, l3⟩ := r157 (Or.inl q)
          rw [if_pos q] at l2 l3
          rw [fi_pos q, if_pos q]
          exact ⟨L, ⟨⟨fun w => absurd q (bz_0.mp w), fun _ => l1⟩, l2⟩, l3⟩
        · rw [fi_neg q, if_neg q]
          by_cases q2 : Z.1 = 2
          · obtain ⟨L, ⟨l1, l2⟩, l3⟩ := r157 (Or.inr q2)
            rw [if_neg q] at l2 l3
            rw [fi_pos q2, if_pos q2]
            exact ⟨L, ⟨⟨fun _ => ⟨fun w => absurd q2 (bz_0.mp w), fun _ => l1⟩, fun w => absurd (bz_0.mpr q) w⟩, l2⟩, l3⟩
          · rw [fi_neg q2, if_neg q2]
            obtain ⟨K, ⟨m1, m2⟩, m3, m4, m5, m6, m7, m8⟩ := mul1 o gX gY
            obtain ⟨K', ⟨n1, n2⟩, n3, n4, n5, n6, n7, n8⟩ := put1 m6 (Or.inr rfl) gZ
            have ne := (fl_one o).2.2.2.2
            have B0 : BH K' (K'.2.2 379 f 0) (X.2.2.1 * Y.2.2.1) := by
              rw [n8, m8]
              exact aok_b n3 (by rw [m8]; exact fun w => ne w.symm) m4
            have B1 : BH K' (K'.2.2 380 f 0) Z.2.2.1 := by
              rw [n8]
              exact n4
            have s0 := n7 0 X (m7 0 X v0)
            have s1 := n7 1 Y (m7 1 Y v1)
            have s2 := n7 2 Z (m7 2 Z v2)
            have b0 := (gdb gX).1
            have b1 := (gdb gY).1
            have b2 := (gdb gZ).1
            have c0 := gX.2.2.1
            have c1 := gY.2.2.1
            have c2 := gZ.2.2.1
            have bm : bln (X.2.2.1 * Y.2.2.1) ≤ 108 := bln_le (by
              rw [show (108 : Nat) = 54 + 54 from rfl, Nat.pow_add]
              exact Nat.mul_lt_mul'' gX.2.1 gY.2.1)
            obtain ⟨L, ⟨l1, l2⟩, l3⟩ := X99_sum (M := K') (md := md) (t := t) (s := s) (z := z) (p := X.2.2.2 + Y.2.2.2) (q := Z.2.2.2) n6 ht hm B0 B1 (by omega) (by omega) (by omega)
            refine ⟨L, ⟨⟨fun _ => ⟨fun _ => ?_, fun w => absurd (bz_0.mpr q2) w⟩, fun w => absurd (bz_0.mpr q) w⟩, ?_⟩, rs_0t m5 (rs_0t n5 l3)⟩
            · try dsimp only
              rw [cl0, cl1, cl2, v0.2.2.1, v1.2.2.1, m2]
              try dsimp only
              rw [(m7 2 Z v2).2.2.1, n2]
              try dsimp only
              rw [s0.2.2.2, s1.2.2.2, s2.2.2.2, iz_a]
              exact ⟨m1, n1, l1, trivial⟩
            · try dsimp only
              rw [cl0, cl1, cl2, v0.2.2.1, v1.2.2.1, m2]
              try dsimp only
              rw [(m7 2 Z v2).2.2.1, n2]
              try dsimp only
              rw [s0.2.2.2, s1.2.2.2, s2.2.2.2, iz_a, l2]
      obtain ⟨L, ⟨l1, l2⟩, l3⟩ := r145
      have r128 : HX99_fused_128 f (nI t) (nI md) (bz (s = true)) (bz (z = true)) (bz (X.1 = 2 ∨ Y.1 = 2)) M ∧ GX99_fused_128 f (nI t) (nI md) (bz (s = true)) (bz (z = true)) (bz (X.1 = 2 ∨ Y.1 = 2)) M =
          (lN (if X.1 = 2 ∨ Y.1 = 2 then (if Z.1 = 2 ∧ s ≠ z then (qN t, 16) else (pk t s (2 * fG t + 1) 0, 0))
            else if Z.1 = 2 then (pk t z (2 * fG t + 1) 0, 0) else finF t md (adN md s (X.2.2.1 * Y.2.2.1) (X.2.2.2 + Y.2.2.2) z Z.2.2.1 Z.2.2.2)).1, L) := by
        unfold HX99_fused_128 GX99_fused_128
        dsimp only
        rw [cl2, propext k22]
        by_cases q : Z.1 = 2
        · rw [bz_t (c := Z.1 = 2) q] at l1 l2
          rw [fi_pos q]
          exact ⟨⟨fun _ => l1, fun w => absurd q w⟩, l2⟩
        · rw [bz_f (c := Z.1 = 2) q] at l1 l2
          rw [fi_neg q]
          exact ⟨⟨fun w => absurd w q, fun _ => l1⟩, l2⟩
      unfold HX99_fused_123 GX99_fused_123
      refine ⟨L, ?_, l3⟩
      by_cases q : X.1 = 2
      · rw [bz_t (c := X.1 = 2 ∨ Y.1 = 2) (Or.inl q)] at r128
        rw [fi_pos q]
        exact ⟨⟨fun _ => ⟨h1, fun _ => ⟨fun _ => r128.1, fun w => absurd q w⟩, fun w => absurd m1_eq w⟩, fun w => absurd rfl w⟩, r128.2⟩
      · rw [fi_neg q]
        by_cases q2 : Y.1 = 2
        · rw [bz_t (c := X.1 = 2 ∨ Y.1 = 2) (Or.inr q2)] at r128
          rw [fi_pos q2]
          exact ⟨⟨fun _ => ⟨h1, fun _ => ⟨fun w => absurd w q, fun _ => ⟨fun _ => r128.1, fun w => absurd q2 w⟩⟩, fun w => absurd m1_eq w⟩, fun w => absurd rfl w⟩, r128.2⟩
        · rw [bz_f (c := X.1 = 2 ∨ Y.1 = 2) (fun w => w.elim q q2)] at r128
          rw [fi_neg q2]
          exact ⟨⟨fun _ => ⟨h1, fun _ => ⟨fun w => absurd w q, fun _ => ⟨fun w => absurd w q2, fun _ => r128.1⟩⟩, fun w => absurd m1_eq w⟩, fun w => absurd rfl w⟩, r128.2⟩
    · rw [if_pos yy]
      rw [e]
      dsimp only
      rw [fi_neg (qN_ne ht)]
      exact ⟨L, ⟨⟨fun _ => ⟨h1, fun w => absurd w (qN_ne ht), fun _ => trivial⟩, fun w => absurd rfl w⟩, rfl⟩, r⟩
  obtain ⟨V, w1, w2⟩ := X99_invalid (t := t) o ht
  have r38 : HX99_fused_38 f (bz (a = true)) (bz (b = true)) (nI t) (nI md) M ∧ GX99_fused_38 f (bz (a = true)) (bz (b = true)) (nI t) (nI md) M = (lN (qN t), V) := by
    refine ⟨⟨fun w => absurd w (by decide), fun _ => trivial⟩, ?_⟩
    unfold GX99_fused_38 GX99_fused_43
    dsimp only
    rw [fi_neg (show ¬ Int32.ofInt 1 = 0 by decide), w1]
  unfold HX99_fused HX99_fused_0 HX99_fused_19 GX99_fused GX99_fused_0 GX99_fused_19
  dsimp only
  rw [cl0, cl1, propext k02, propext k10, propext k00, propext k12]
  by_cases q : X.1 = 2 ∧ Y.1 = 0 ∨ X.1 = 0 ∧ Y.1 = 2
  · rw [if_pos q]
    rcases q with q | q
    · rw [fi_pos q.1, fi_pos q.2]
      exact ⟨V, ⟨⟨fun _ => ⟨fun _ => r38.1, fun w => absurd q.2 w⟩, fun w => absurd q.1 w⟩, r38.2⟩, w2⟩
    · have n2 : ¬ X.1 = 2 := by omega
      rw [fi_neg n2, fi_pos q.1, fi_pos q.2]
      exact ⟨V, ⟨⟨fun w => absurd w n2, fun _ => ⟨fun _ => ⟨fun _ => r38.1, fun w => absurd q.2 w⟩, fun w => absurd q.1 w⟩⟩, r38.2⟩, w2⟩
  · obtain ⟨L, ⟨l1, l2⟩, l3⟩ := r43 q
    rw [if_neg q]
    have l1 : HX99_fused_42 f (bz (a = true)) (bz (b = true)) (nI t) (nI md) M := l1
    refine ⟨L, ⟨⟨fun a1 => ⟨fun a2 => absurd (Or.inl ⟨a1, a2⟩) q, fun _ => ⟨fun _ => ⟨fun a3 => ?_, fun _ => l1⟩, fun _ => l1⟩⟩, fun _ => ⟨fun a1 => ⟨fun a2 => absurd (Or.inr ⟨a1, a2⟩) q, fun _ => l1⟩, fun _ => l1⟩⟩, ?_⟩, l3⟩
    · omega
    · rw [← l2]
      unfold GX99_fused_42
      by_cases a1 : X.1 = 2
      · have a2 : ¬ Y.1 = 0 := fun w => q (Or.inl ⟨a1, w⟩)
        have a3 : ¬ X.1 = 0 := by omega
        rw [fi_pos a1, fi_neg a2, fi_neg a3]
      · rw [fi_neg a1]
        by_cases a3 : X.1 = 0
        · have a4 : ¬ Y.1 = 2 := fun w => q (Or.inr ⟨a3, w⟩)
          rw [fi_pos a3, fi_neg a4]
        · rw [fi_neg a3]
end Ab
