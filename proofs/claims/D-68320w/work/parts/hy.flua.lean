/-! floats: the component's unit fuses, over the memory -/
set_option maxRecDepth 100000
section Fu
variable {u rg k md t n : Nat} {c : Nat → Nat} {M N K : FM} {s : Fs} {w : Int32} {X Y Z : UU}
theorem fuse_143 (o : FlU u c rg M) {f1 : Nat} (v : VFc u c rg M (sFl f1 s)) (hf : f1 ≤ 16) (ht : t ≤ 1) (hm : md ≤ 4) {b : Bool} {p : UU} (vp : Tk c 0 M p) (gp : gW p) (vz : Tk c 2 M Z) (gZ : gdU Z) {s1 s2 : Int32} (hs : s1 ^^^ s2 = bz ((Z.2.1 ^^ b) = true)) :
    ∃ N, (HX59_fuse_143 u w (c (10 + t)) (1 + md) (c 2) s1 s2 M ∧ GX59_fuse_143 u w (c (10 + t)) (1 + md) (c 2) s1 s2 M = (Int32.ofInt 0, N)) ∧
      WrC u c rg t w s ((finF t md (nnR p.1 Z.1 (addR md p (Z.1, Z.2.1 ^^ b, Z.2.2))).1).1, f1 ||| ((nnR p.1 Z.1 (addR md p (Z.1, Z.2.1 ^^ b, Z.2.2))).2 ||| (finF t md (nnR p.1 Z.1 (addR md p (Z.1, Z.2.1 ^^ b, Z.2.2))).1).2)) M N := by
  have a1 := cf_I5 (S := fun j => j = 2) o.1 (show 2 < 4 by decide) ((Z.2.1 ^^ b) = true) rfl
  have o1 := flU_c o a1
  have v1 := vFc_c o v a1
  rw [sFl_0] at v1
  have vp1 := tk_k o.1 a1 (show 0 < 4 by decide) (by decide) vp
  have vz1 : Tk c 2 (fm_sI M 115 (c 2) 0 (bz ((Z.2.1 ^^ b) = true))) (Z.1, Z.2.1 ^^ b, Z.2.2) := ⟨⟨vz.1.1, sI_at _ _ _ _ _⟩, fun y => ⟨(oI (fun q => by omega)).trans (vz.2 y).1, (vz.2 y).2⟩⟩
  unfold HX59_fuse_143 GX59_fuse_143
  dsimp only
  rw [hs]
  generalize hM1 : fm_sI M 115 (c 2) 0 (bz ((Z.2.1 ^^ b) = true)) = M1 at *
  obtain ⟨e5, e6, e7, e8, e4⟩ := e105 o1.1
  rw [cl0, e5, e7, e4, e8]
  obtain ⟨o1', o2, o3, o4⟩ := o1.2.2.2.2.2.2.1
  have gz : gW (Z.1, Z.2.1 ^^ b, Z.2.2) := gW_g (X := (Z.1, Z.2.1 ^^ b, Z.2.2)) gZ
  obtain ⟨M2, ⟨h2, g2⟩, c2, r2⟩ := X65_run (op := M1.2.2 3 (M1.2.2 101 u 0) 0) (a3 := 1 + md) (S := fun _ => True) (X := p) (Y := (Z.1, Z.2.1 ^^ b, Z.2.2)) (R := addR md p (Z.1, Z.2.1 ^^ b, Z.2.2)) o1.1 trivial (show 0 < 4 by decide) (show 2 < 4 by decide) vp1.1 vz1.1 gp.1 gZ.1
    (fun N => Ou c 3 md N (nnR p.1 Z.1 (addR md p (Z.1, Z.2.1 ^^ b, Z.2.2))).1) (fun N h q => by
      unfold nnR
      rw [if_pos q]
      exact ou_k h (by decide) (by decide) (fun t _ => rfl)) (fun q => by
      unfold nnR
      rw [if_neg q]
      obtain ⟨t1, t2⟩ := o2 0 (by decide)
      have hX : p.1 ≤ 2 := by omega
      have hY : Z.1 ≤ 2 := by
        have : ¬ 3 ≤ Z.1 := fun y => q (Or.inr y)
        omega
      obtain ⟨N, ⟨h, e⟩, r⟩ := X66_works (S := fun _ => True) (x := 0) (md := md) (tn := false) o1.1 (show 0 < 3 by decide) (show 2 < 3 by decide) (by decide) trivial trivial trivial (by rw [t2]; exact bz_c (by simp)) vp1 vz1 hX hY gp gz
      rw [Bool.xor_false] at r
      exact ⟨N, ⟨(wk_38 t1).1 h, (wk_38 t1).2.trans e⟩, r⟩)
  have o5 := flU_c o1 c2
  have v5 := vFc_c o1 v1 c2
  have l1 : (nnR p.1 Z.1 (addR md p (Z.1, Z.2.1 ^^ b, Z.2.2))).2 ≤ 16 := nnR_le (addR_le _ _ _)
  rw [sFl_t s (by omega) (by exact Nat.lt_of_le_of_lt l1 (by decide))] at v5
  obtain ⟨N, ⟨h4, g4⟩, f4, v4⟩ := X59_r105 o5 v5 (or_lt32 (by omega) (Nat.lt_of_le_of_lt l1 (by decide))) ht hm r2 rfl w
  unfold HX59_reckon_105 at h4
  unfold GX59_reckon_105 at g4
  rw [g2]
  have f0 : FrU u c rg M M2 := by
    have := frU_t (frU_c (u := u) (rg := rg) a1.1) (frU_c c2.1)
    exact this
  refine ⟨N, ⟨⟨?_, h2, h4⟩, g4⟩, frU_t f0 f4, ?_⟩
  · by_cases y : (Z.2.1 ^^ b) = true
    · exact Or.inr (bz_t y)
    · exact Or.inl (bz_f y)
  · rw [← Nat.or_assoc]
    exact v4
theorem X59_fuse (o : FlU u c rg M) (v : VFc u c rg M s) (ht : t ≤ 1) (hm : s.2.2.1 < 8) (hn : n < 4) (w : Int32) :
    ∃ N, (HX59_fuse u w (c (10 + t)) (nI n) M ∧ GX59_fuse u w (c (10 + t)) (nI n) M = ((if mdO s.2.2.1 (pt w 12 3) < 5 then Int32.ofInt 0 else Int32.ofInt (-1)), N)) ∧
      (if mdO s.2.2.1 (pt w 12 3) < 5 then WrC u c rg t w s (fusR t (mdO s.2.2.1 (pt w 12 3)) (rdU t (pt w 15 5) s) (rdU t (pt w 20 5) s) (rdU t (pt w 27 5) s) (decide (1 < n)) (decide (n = 1 ∨ n = 3))) M N else N = M) := by
  obtain ⟨hmo, emo⟩ := X59_modeOf o v hm w
  unfold HX59_fuse HX59_fuse_0 GX59_fuse GX59_fuse_0
  dsimp only
  rw [emo]
  dsimp only
  by_cases q : mdO s.2.2.1 (pt w 12 3) < 5
  · rw [if_pos q, if_pos q, fi_neg (show ¬ 1 + mdO s.2.2.1 (pt w 12 3) = 0 by omega)]
    generalize mdO s.2.2.1 (pt w 12 3) = md at *
    have hmd : md ≤ 4 := by omega
    have gX := rdU_g ht (pt w 15 5) s
    have gY := rdU_g ht (pt w 20 5) s
    have gZ := rdU_g ht (pt w 27 5) s
    rw [p15]
    dsimp only
    obtain ⟨e5, e6, e7, e8, e4⟩ := e105 o.1
    obtain ⟨h1, c1, o1, v1, x1, f1⟩ := take1 o v ht (pt_lt w 15 5) (show 0 < 4 by decide)
    rw [e5]
    generalize GX59_take u (nI (pt w 15 5)) (c (10 + t)) (c 0) M = M1 at *
    obtain ⟨e5, e6, e7, e8, e4⟩ := e105 o1.1
    rw [p20]
    dsimp only
    obtain ⟨h2, c2, o2, v2, y2, f2⟩ := take1 o1 v1 ht (pt_lt w 20 5) (show 1 < 4 by decide)
    have x2 := tk_k o1.1 c2 (show 0 < 4 by decide) (by decide) x1
    rw [e6]
    generalize GX59_take u (nI (pt w 20 5)) (c (10 + t)) (c 1) M1 = M2 at *
    obtain ⟨e5, e6, e7, e8, e4⟩ := e105 o2.1
    rw [p27]
    dsimp only
    obtain ⟨h3, c3, o3, v3, z3, f3⟩ := take1 o2 v2 ht (pt_lt w 27 5) (show 2 < 4 by decide)
    have x3 := tk_k o2.1 c3 (show 0 < 4 by decide) (by decide) x2
    have y3 := tk_k o2.1 c3 (show 1 < 4 by decide) (by decide) y2
    rw [e7]
    generalize GX59_take u (nI (pt w 27 5)) (c (10 + t)) (c 2) M2 = M3 at *
    obtain ⟨e5, e6, e7, e8, e4⟩ := e105 o3.1
    rw [e5, e6, e4, e8]
    generalize rdU t (pt w 15 5) s = X at *
    generalize rdU t (pt w 20 5) s = Y at *
    generalize rdU t (pt w 27 5) s = Z at *
    obtain ⟨M4, ⟨h4, g4⟩, c4', r4⟩ := X65_run (op := M3.2.2 102 u 0) (a3 := 1 + md) (S := fun j => j = 3) (X := X) (Y := Y) (R := mulR X Y) o3.1 rfl (show 0 < 4 by decide) (show 1 < 4 by decide) x3.1 y3.1 gX.1 gY.1
      (fun N => Tk c 3 N (prU X Y) ∧ gW (prU X Y)) (fun N h q => by
        unfold prU nnR
        rw [if_pos q]
        exact ⟨⟨h, fun y => absurd y (show ¬ (3 : Nat) = 1 by decide)⟩, (show (3 : Nat) ≤ 4 by decide), fun y => absurd y (show ¬ (3 : Nat) = 1 by decide), fun y => absurd y (show ¬ (3 : Nat) = 0 by decide)⟩) (fun q => by
        unfold prU nnR
        rw [if_neg q]
        have hX : X.1 ≤ 2 := by omega
        have hY : Y.1 ≤ 2 := by omega
        obtain ⟨N, ⟨h, e⟩, b, r1, r2, r3⟩ := X67_work (S := fun j => j = 3) (op := M3.2.2 102 u 0) (m := 1 + md) o3.1 rfl (show 0 < 3 by decide) (show 1 < 3 by decide) x3 y3 gX gY hX hY
        exact ⟨N, ⟨(wk_34 o3.2.2.2.2.2.2.2.1).1 h, (wk_34 o3.2.2.2.2.2.2.2.1).2.trans e⟩, b, r1, r3⟩)
    have l4 : (nnR X.1 Y.1 (mulR X Y)).2 ≤ 16 := nnR_le (by have := opR_le 2 md X Y; exact this)
    have o4 := flU_c o3 c4'
    have v4 := vFc_c o3 v3 c4'
    have z4 := tk_k o3.1 c4' (show 2 < 4 by decide) (by decide) z3
    rw [g4]
    obtain ⟨e5, e6, e7, e8, e4⟩ := e105 o4.1
    rw [e5, e8]
    obtain ⟨c5, k5, n5⟩ := X71_copy (S := fun j => j = 0) o4.1 (show 3 < 4 by decide) (show 0 < 4 by decide) (by decide) rfl r4.2.1 r4.1.1
    have p5 : Tk c 0 (GX71_copy (c 0) (c 3) M4) (prU X Y) := ⟨k5, fun y => n5 _ _ (r4.1.2 y)⟩
    have o5 := flU_c o4 c5
    have v5 := vFc_c o4 v4 c5
    rw [sFl_0] at v5
    have z5 := tk_k o4.1 c5 (show 2 < 4 by decide) (by decide) z4
    have f5 : FrU u c rg M (GX71_copy (c 0) (c 3) M4) := frU_t f1 (frU_t f2 (frU_t f3 (frU_t (frU_c c4'.1) (frU_c c5.1))))
    generalize GX71_copy (c 0) (c 3) M4 = M5 at *
    obtain ⟨e5, e6, e7, e8, e4⟩ := e105 o5.1
    have im3 := md_is o3.1.1 hmd
    have im5 := md_is o5.1.1 hmd
    rw [e5, p5.1.2]
    have K116 : ∀ s2 : Int32, s2 = bz (decide (1 < n) = true) → ∃ N, (HX59_fuse_116 u w (c (10 + t)) (nI n) (1 + md) (c 0) (bz ((prU X Y).2.1 = true)) s2 M5 ∧ GX59_fuse_116 u w (c (10 + t)) (nI n) (1 + md) (c 0) (bz ((prU X Y).2.1 = true)) s2 M5 = (Int32.ofInt 0, N)) ∧
        WrC u c rg t w s (fusR t md X Y Z (decide (1 < n)) (decide (n = 1 ∨ n = 3))) M5 N := fun s2 hs2 => by
      have a6 := cf_I5 (S := fun j => j = 0) o5.1 (show 0 < 4 by decide) (((prU X Y).2.1 ^^ decide (1 < n)) = true) rfl
      have o6 := flU_c o5 a6
      have v6 := vFc_c o5 v5 a6
      rw [sFl_0] at v6
      have z6 := tk_k o5.1 a6 (show 2 < 4 by decide) (by decide) z5
      have p6 : Tk c 0 (fm_sI M5 115 (c 0) 0 (bz (((prU X Y).2.1 ^^ decide (1 < n)) = true))) ((prU X Y).1, (prU X Y).2.1 ^^ decide (1 < n), (prU X Y).2.2) := ⟨⟨p5.1.1, sI_at _ _ _ _ _⟩, fun y => ⟨(oI (fun q => by omega)).trans (p5.2 y).1, (p5.2 y).2⟩⟩
      have gp6 : gW ((prU X Y).1, (prU X Y).2.1 ^^ decide (1 < n), (prU X Y).2.2) := r4.2
      unfold HX59_fuse_116 GX59_fuse_116 HX59_fuse_138 GX59_fuse_138
      dsimp only
      rw [hs2, bz_x]
      have f6 := frU_c (u := u) (rg := rg) a6.1
      generalize hM6 : fm_sI M5 115 (c 0) 0 (bz (((prU X Y).2.1 ^^ decide (1 < n)) = true)) = M6 at *
      obtain ⟨e5, e6, e7, e8, e4⟩ := e105 o6.1
      rw [e7, z6.1.2]
      have one : ∀ (b : Bool) (s3 : Int32), s3 = bz (b = true) → b = decide (n = 1 ∨ n = 3) → ∃ N, (HX59_fuse_143 u w (c (10 + t)) (1 + md) (c 2) (bz (Z.2.1 = true)) s3 M6 ∧ GX59_fuse_143 u w (c (10 + t)) (1 + md) (c 2) (bz (Z.2.1 = true)) s3 M6 = (Int32.ofInt 0, N)) ∧
          WrC u c rg t w s (fusR t md X Y Z (decide (1 < n)) (decide (n = 1 ∨ n = 3))) M5 N := fun b s3 hs3 hb => by
        obtain ⟨N, n1, n2, n3⟩ := fuse_143 (w := w) (s1 := bz (Z.2.1 = true)) (s2 := s3) o6 v6 l4 ht hmd (b := b) p6 gp6 z6 gZ (by rw [hs3, bz_x])
        refine ⟨N, n1, frU_t f6 n2, ?_⟩
        rw [← fus_e gX gY gZ, ← hb]
        exact n3
      have zz : ∀ p : Prop, (bz p = 0 ∨ bz p = 1) := fun p => by
        by_cases y : p
        · exact Or.inr (bz_t y)
        · exact Or.inl (bz_f y)
      have c1 : (nI n = Int32.ofInt 1) = (n = 1) := propext (ni_i (b := 1) (by omega) (by decide))
      have c3 : (nI n = Int32.ofInt 3) = (n = 3) := propext (ni_i (b := 3) (by omega) (by decide))
      rw [c1, c3]
      by_cases q1 : n = 1
      · obtain ⟨N, ⟨h, e⟩, r⟩ := one true (Int32.ofInt 1) (bz_t rfl).symm (by rw [q1]; rfl)
        rw [fi_pos q1]
        exact ⟨N, ⟨⟨zz _, fun _ => h, fun y => absurd q1 y⟩, e⟩, r⟩
      · rw [fi_neg q1]
        by_cases q3 : n = 3
        · obtain ⟨N, ⟨h, e⟩, r⟩ := one true (Int32.ofInt 1) (bz_t rfl).symm (by rw [q3]; rfl)
          rw [fi_pos q3]
          exact ⟨N, ⟨⟨zz _, fun y => absurd y q1, fun _ => ⟨fun _ => h, fun y => absurd q3 y⟩⟩, e⟩, r⟩
        · obtain ⟨N, ⟨h, e⟩, r⟩ := one false (Int32.ofInt 0) (bz_f (by decide)).symm (decide_eq_false (fun y => y.elim q1 q3)).symm
          rw [fi_neg q3]
          exact ⟨N, ⟨⟨zz _, fun y => absurd y q1, fun _ => ⟨fun y => absurd y q3, fun _ => h⟩⟩, e⟩, r⟩
    have cn : (nI n ≤ Int32.ofInt 1) = ¬ 1 < n := propext (by
      have := ni_le (z := 1) (k := n) (by omega)
      rw [this]
      omega)
    rw [cn]
    by_cases q1 : 1 < n
    · obtain ⟨N, ⟨h, e⟩, r1, r2⟩ := K116 (Int32.ofInt 1) (bz_t (decide_eq_true q1)).symm
      rw [fi_neg (fun y => y q1)]
      refine ⟨N, ⟨⟨hmo, fun y => by omega, fun _ => ⟨h1, h2, h3, im3, h4, fun y => absurd q1 y, fun _ => ⟨im5, h⟩⟩⟩, e⟩, ?_⟩
      rw [if_pos q]
      exact ⟨frU_t f5 r1, r2⟩
    · obtain ⟨N, ⟨h, e⟩, r1, r2⟩ := K116 (Int32.ofInt 0) (bz_f (fun y => q1 (of_decide_eq_true y))).symm
      rw [fi_pos q1]
      refine ⟨N, ⟨⟨hmo, fun y => by omega, fun _ => ⟨h1, h2, h3, im3, h4, fun _ => ⟨im5, h⟩, fun y => absurd q1 y⟩⟩, e⟩, ?_⟩
      rw [if_pos q]
      exact ⟨frU_t f5 r1, r2⟩
  · rw [if_neg q, if_neg q, fi_pos rfl]
    refine ⟨M, ⟨⟨hmo, fun _ => trivial, fun y => absurd rfl y⟩, rfl⟩, ?_⟩
    rw [if_neg q]
end Fu
