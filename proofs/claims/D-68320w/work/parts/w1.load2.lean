/-! the machine: loading, both sides -/
set_option maxRecDepth 100000
section Lo
variable {bd hv m hq s dd x dk q rq r sg bl cr np mc : Nat} {B Bk Vv x1 ld n : Nat} {Mc Mt : FM} {X : Nat → Nat} {kd : Int32} {a : Int64}
/-- the twin's answer, once its way is known -/
theorem tw_load {v : Int32} {Nt : FM} (R : RelM bd hv m hq s dd x dk q rq r sg bl cr np mc B Bk Vv Mc Mt) (H : HX92_load_0 m kd a Mt) (e : kX92_load (FX92_load_L156 fN fN) (GX92_load_0 m kd a Mt) = some (v, Nt)) (TN : Ty Nt) : HX92_load m kd a Mt ∧ GX92_load m kd a Mt = (v, Nt) := by
  have RR := relM_ram R
  have n92 := (relM_m R).1
  have w2_ : FX92_load fN m kd a Mt = some (v, Nt) := by
    have G := (gX92_load_0 (FX92_load_L156 fN fN) m kd a Mt RR.2.1.1 n92 H).1
    show FX92_load_0 fN (FX92_load_L156 fN fN) m kd a Mt = _
    rw [G]
    exact e
  have kt : WK lX92_load Mt Nt := wX92_load (SL lX92_load) (fun _ => True) (fun _ h => h) fN m kd a Mt (wi_N RR.2.1.2.1) trivial _ w2_
  exact op_of (d := ((0 : Int32), Mt)) w2_ (P := OkR Mt) ⟨TN, wk_ext RR.2.1.2.1 kt⟩
theorem O_load (R : RelM bd hv m hq s dd x dk q rq r sg bl cr np mc B Bk Vv Mc Mt) (Q : RelR mc m B Mc Mt) (L : RelL mc ld m r cr Mc Mt) (LD : RelLd ld m r cr Mc Mt X n) (xm : XM x1 mc Mc) (c0 : ¬ kd < 0) (c3 : kd ≤ Int32.ofInt 3) (nb : ¬ ldBad kd a n) :
    ∃ v Nc Nt, (HX1_load x1 kd a Mc ∧ GX1_load x1 kd a Mc = (v, Nc)) ∧ (HX92_load m kd a Mt ∧ GX92_load m kd a Mt = (v, Nt)) ∧ RelM bd hv m hq s dd x dk q rq r sg bl cr np mc B (Bk + 134217728) Vv Nc Nt ∧ RelR mc m B Nc Nt ∧ RelL mc ld m r cr Nc Nt ∧ Nt.1 296 m 0 = 0 ∧ Sm m sg Nt Mt := by
  have RR := relM_ram R
  have RB := relM_b R
  have n92 := (relM_m R).1
  obtain ⟨R1, k1⟩ := ob_296 R (Int32.ofInt 0)
  have RR1 := relM_ram R1
  have b1 : Sm m sg (fm_sI Mt 296 m 0 (Int32.ofInt 0)) Mt := ⟨rfl, rfl⟩
  have h296 : (fm_sI Mt 296 m 0 (Int32.ofInt 0)).1 296 m 0 = 0 := rIe _
  have Q1 := relR_k (B' := B) (WK_r (S := []) RR.1.2.1) k1 (by decide) (by decide) RR.1.1 RR.1.2.1 RR.2.1.1 RR.2.1.2.1 R.1 n92 (Nat.le_refl _) Q
  have L1 := relL_k (WK_r (S := []) RR.1.2.1) k1 (by decide) (by decide) RR.1.2.1 RR.2.1.2.1 R.1 RR1 L
  have LD1 : RelLd ld m r cr Mc (fm_sI Mt 296 m 0 (Int32.ofInt 0)) X n := by
    obtain ⟨_, d2, d3, d4, d5⟩ := LD
    obtain ⟨y1, y2⟩ := ltV_k k1 ⟨dj_n (L := [309]) (by decide) 309 rfl, dj_n (L := [308]) (by decide) 308 rfl, dj_n (L := [298]) (by decide) 298 rfl, dj_n (L := [1308]) (by decide) 1308 rfl⟩ RR1.2.1.1 RR.2.1.2.1 d4
    exact ⟨RR1, d2, d3, y1, y2.trans d5⟩
  have t309 := LD.2.2.2.1.2.1.2.1
  have hn : n ≤ 65536 := LD.2.1.2.2.2.1.2
  have tp := LD.2.1.2.2.1
  rw [← L.2.1] at tp
  have s262 : Mc.1 262 (Mc.2.2 191 mc 0) 0 = nI n := tp.2.2.1
  obtain ⟨vI, IcM, ItM, ⟨i1, i2⟩, ⟨i3, i4⟩, iR, iQ, iL, i5, i6, _⟩ := O_image R1 Q1 L1
  obtain ⟨vT, TcM, TtM, ⟨t1, t2⟩, ⟨t3, t4⟩, tR, tQ, tL, t5, t6, _⟩ := O_typed R1 Q1 L1
  have H0 : HX92_load_0 m kd a Mt := ld_H (fun _ => i3) (fun _ => t3)
  have way := ld_yes (a := a) t309 hn c0 c3 nb
  have e18 : Mc.2.2 18 bd 0 = r := RB.1.1.2.2.1
  have i10 : ¬ Int32.ofInt 1 = (0 : Int32) := by decide
  have th1 : GX1_there (Int32.ofInt 1) Mc = Mc := by
    unfold GX1_there GX1_there_0
    try dsimp only
    rw [fi_neg i10]
  have hth1 : HX1_there (Int32.ofInt 1) Mc := ⟨fun q => absurd q i10, fun _ => trivial⟩
  have e64 : (nI n).toInt64 = lN n := o_64 (by omega)
  have nz : (nI n = (0 : Int32)) = (n = 0) := nI_e (b := 0) (by omega) (by decide)
  by_cases k1_ : kd = Int32.ofInt 1
  · subst k1_
    have e : kX92_load (FX92_load_L156 fN fN) (GX92_load_0 m (Int32.ofInt 1) a Mt) = some (vI, fm_sI ItM 309 m 0 (Int32.ofInt 0)) := by
      rw [way, fi_pos rfl, i4]
      rfl
    refine ⟨vI, IcM, _, ⟨?_, ?_⟩, tw_load R H0 e (relM_ram iR).2.1.1, iR, iQ, iL, (rIf (by decide)).trans (i5.trans h296), Sm.trans (show Sm m sg (fm_sI ItM 309 m 0 (Int32.ofInt 0)) (fm_sI Mt 296 m 0 (Int32.ofInt 0)) from ⟨i6.1, i6.2⟩) b1⟩
    · refine ⟨fun q => absurd q (by decide), fun _ => ⟨fun _ => ?_, fun q => absurd rfl q⟩⟩
      try dsimp only
      rw [xm.2]
      exact ⟨i1, trivial⟩
    · unfold GX1_load GX1_load_0
      try dsimp only
      rw [fi_neg (show ¬ Int32.ofInt 1 = Int32.ofInt 0 by decide), fi_pos rfl, xm.2, i2]
  by_cases k3 : kd = Int32.ofInt 3
  · subst k3
    have e : kX92_load (FX92_load_L156 fN fN) (GX92_load_0 m (Int32.ofInt 3) a Mt) = some (vT, fm_sI TtM 309 m 0 (Int32.ofInt 0)) := by
      rw [way, fi_neg (by decide), fi_pos rfl, t4]
      rfl
    refine ⟨vT, TcM, _, ⟨?_, ?_⟩, tw_load R H0 e (relM_ram tR).2.1.1, relM_up (Nat.le_refl _) (by omega) (Nat.le_refl _) tR, tQ, tL, (rIf (by decide)).trans (t5.trans h296), ⟨?_, ?_⟩⟩
    · refine ⟨fun q => absurd q (by decide), fun _ => ⟨fun q => absurd q (by decide), fun _ => ⟨fun q => absurd q (by decide), fun _ => ⟨fun _ => ?_, fun q => absurd rfl q⟩⟩⟩⟩
      try dsimp only
      rw [xm.2]
      exact ⟨t1, trivial⟩
    · unfold GX1_load GX1_load_0
      try dsimp only
      rw [fi_neg (show ¬ Int32.ofInt 3 = Int32.ofInt 0 by decide), fi_neg (show ¬ Int32.ofInt 3 = Int32.ofInt 1 by decide), fi_neg (show ¬ Int32.ofInt 3 = Int32.ofInt 2 by decide), fi_pos rfl, xm.2, t2]
    · show TtM.2.1 316 m 0 = _
      rw [t6]
      rfl
    · show TtM.2.1 414 sg 0 = _
      rw [t6]
      rfl
  rw [fi_neg k1_, fi_neg k3] at way
  by_cases k0 : kd = Int32.ofInt 0
  · subst k0
    have hr : inR a n ∨ n = 0 := by
      by_cases z : n = 0
      · exact Or.inr z
      · exact Or.inl (Classical.byContradiction fun q => nb ⟨z, Or.inl ⟨rfl, q⟩⟩)
    obtain ⟨Nc, Nt, ⟨d1_, d2_⟩, d3, dR, dQ, dL, d5, d6, _⟩ := O_bytes R1 Q1 L1 LD1 hr
    have e : kX92_load (FX92_load_L156 fN fN) (GX92_load_0 m (Int32.ofInt 0) a Mt) = some (nI n, Nt) := by
      rw [way]
      exact d3
    have hs := X11_has RR.2.2.1 (a := a) (b := lN n) (by rw [ul_lN]; omega)
    rw [ul_lN, show n % 18446744073709551616 = n by omega] at hs
    have g69 : GX1_load_69 x1 a Mc = (nI n, Nc) := by
      unfold GX1_load_69 GX1_load_74
      try dsimp only
      rw [th1, xm.2, d2_]
    have h69 : HX1_load_69 x1 a Mc := by
      unfold HX1_load_69 HX1_load_74
      try dsimp only
      rw [th1, xm.2]
      exact ⟨hth1, d1_, trivial⟩
    refine ⟨nI n, Nc, Nt, ⟨?_, ?_⟩, tw_load R H0 e (relM_ram dR).2.1.1, relM_up (Nat.le_refl _) (by omega) (Nat.le_refl _) dR, dQ, dL, d5.trans h296, d6.trans b1⟩
    · unfold HX1_load HX1_load_0
      try dsimp only
      rw [xm.2, s262]
      refine ⟨fun _ => ⟨fun _ => h69, fun q => ?_⟩, fun q => absurd rfl q⟩
      have hi : inR a n := hr.resolve_right (fun y => q (nz.mpr y))
      try dsimp only
      rw [R.2.1, e18, e64, hs, bz_t hi]
      exact ⟨fun y => absurd y i10, fun _ => h69⟩
    · unfold GX1_load GX1_load_0
      try dsimp only
      rw [fi_pos rfl, xm.2, s262, nz]
      by_cases z : n = 0
      · rw [fi_pos z, g69]
      · rw [fi_neg z, R.2.1, e18, e64, hs, bz_t (hr.resolve_right z)]
        try dsimp only
        rw [fi_neg i10, g69]
  · have k2 : kd = Int32.ofInt 2 := by
      have h1 := c0
      have h2 := c3
      rw [Int32.not_lt, show (0 : Int32) = Int32.ofInt 0 from rfl, le_ti, ti, ti] at h1
      rw [le_ti, ti, ti] at h2
      have hz := ui_lt kd
      have e0 : ui (Int32.ofInt 0) = 0 := rfl
      have e3 : ui (Int32.ofInt 3) = 3 := rfl
      rw [e0] at h1
      rw [e3] at h2
      have lt : ui kd ≤ 3 := by split at h1 <;> split at h2 <;> omega
      have u0 : ui kd ≠ 0 := fun q => k0 (ui_inj (q.trans e0.symm))
      have u1 : ui kd ≠ 1 := fun q => k1_ (ui_inj (q.trans (show (1 : Nat) = ui (Int32.ofInt 1) from rfl)))
      have u3 : ui kd ≠ 3 := fun q => k3 (ui_inj (q.trans e3.symm))
      exact ui_inj ((show ui kd = 2 by omega).trans (show (2 : Nat) = ui (Int32.ofInt 2) from rfl))
    subst k2
    have sc : n = 0 ∨ scP a n := by
      by_cases z : n = 0
      · exact Or.inl z
      · exact Or.inr (Classical.byContradiction fun q => nb ⟨z, Or.inr ⟨rfl, q⟩⟩)
    have e2048 : (Int64.ofInt 2048).toInt = 2048 := rfl
    have e0 : (Int64.ofInt 0).toInt = 0 := rfl
    have e1m : (Int64.ofInt 1048576).toInt = 1048576 := rfl
    have u512 : ul (Int64.ofInt 512) = 512 := rfl
    have u2048 : ul (Int64.ofInt 2048) = 2048 := rfl
    have bnd : n ≠ 0 → ul a ≤ 2048 ∧ 512 * ul a + n ≤ 1048576 := fun z => by
      obtain ⟨s1, s2, s3⟩ := sc.resolve_left z
      rw [cl_lt, e0, tl] at s1
      rw [cl_gt, e2048, tl] at s2
      have ha := ul_lt a
      have le : ul a ≤ 2048 := by split at s1 <;> omega
      have em : ul ((Int64.ofInt 512) * a + lN n) = 512 * ul a + n := by
        rw [ul_add, ul_mul, u512, ul_lN]
        omega
      rw [cl_gt, e1m, tl, em, if_pos (by omega)] at s3
      exact ⟨le, by omega⟩
    have hs : n = 0 ∨ (a = lN (ul a) ∧ 512 * ul a + n ≤ 1048576) := by
      by_cases z : n = 0
      · exact Or.inl z
      · exact Or.inr ⟨(lN_ul a).symm, (bnd z).2⟩
    obtain ⟨Nc, Nt, ⟨d1_, d2_⟩, d3, dR, dQ, dL, d5, d6, _⟩ := O_sect R1 Q1 L1 LD1 hs
    have e : kX92_load (FX92_load_L156 fN fN) (GX92_load_0 m (Int32.ofInt 2) a Mt) = some (nI n, Nt) := by
      rw [way]
      exact d3
    have g129 : GX1_load_129 x1 a Mc = (nI n, Nc) := by
      unfold GX1_load_129 GX1_load_134
      try dsimp only
      rw [th1, xm.2, d2_]
    have h129 : HX1_load_129 x1 a Mc := by
      unfold HX1_load_129 HX1_load_134
      try dsimp only
      rw [th1, xm.2]
      exact ⟨hth1, d1_, trivial⟩
    have q1 : n ≠ 0 → ¬ lg_cmp a (Int64.ofInt 0) < 0 := fun z => (sc.resolve_left z).1
    have q2 : n ≠ 0 → ¬ 0 ≤ lg_cmp a (Int64.ofInt 2048) := fun z q => by
      have b := bnd z
      rw [cl_ge, e2048, tl, if_pos (by omega)] at q
      omega
    have q3 : n ≠ 0 → ¬ 0 < lg_cmp (lN n) ((Int64.ofInt 512) * ((Int64.ofInt 2048) - a)) := fun z q => by
      have b := bnd z
      have em : ul ((Int64.ofInt 512) * ((Int64.ofInt 2048) - a)) = 512 * (2048 - ul a) := by
        rw [ul_mul, ul_sub, u512, u2048]
        omega
      rw [cl_gt, tl, em, if_pos (by omega), tl_o (by omega)] at q
      omega
    refine ⟨nI n, Nc, Nt, ⟨?_, ?_⟩, tw_load R H0 e (relM_ram dR).2.1.1, relM_up (Nat.le_refl _) (by omega) (Nat.le_refl _) dR, dQ, dL, d5.trans h296, d6.trans b1⟩
    · unfold HX1_load HX1_load_0
      try dsimp only
      rw [xm.2, s262, e64]
      refine ⟨fun q => absurd q (by decide), fun _ => ⟨fun q => absurd q (by decide), fun _ => ⟨fun _ => ⟨fun _ => h129, fun q => ?_⟩, fun q => absurd rfl q⟩⟩⟩
      have z : n ≠ 0 := fun y => q (nz.mpr y)
      exact ⟨fun y => absurd y (q1 z), fun _ => ⟨fun y => absurd y (q2 z), fun _ => ⟨fun y => absurd y (q3 z), fun _ => h129⟩⟩⟩
    · unfold GX1_load GX1_load_0
      try dsimp only
      rw [fi_neg (show ¬ Int32.ofInt 2 = Int32.ofInt 0 by decide), fi_neg (show ¬ Int32.ofInt 2 = Int32.ofInt 1 by decide), fi_pos rfl, xm.2, s262, nz, e64]
      by_cases z : n = 0
      · rw [fi_pos z, g129]
      · rw [fi_neg z, fi_neg (q1 z), fi_neg (q2 z), fi_neg (q3 z), g129]
end Lo
