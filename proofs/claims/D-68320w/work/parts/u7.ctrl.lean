/-! the machine: a control register is asked for -/
set_option maxRecDepth 100000
theorem isE_out {k : Int32} {M : FM} (h : k < 0 ∨ Int32.ofInt 4096 ≤ k) : GX100_isElsewhere k M = (Int32.ofInt 0, M) := by
  have e0 : (0 : Int32).toInt = 0 := by decide
  have e4 : (Int32.ofInt 4).toInt = 4 := by decide
  have e944 : (Int32.ofInt 944).toInt = 944 := by decide
  have e960 : (Int32.ofInt 960).toInt = 960 := by decide
  have e4096 : (Int32.ofInt 4096).toInt = 4096 := by decide
  have e928 : (Int32.ofInt 928).toInt = 928 := by decide
  have e930 : (Int32.ofInt 930).toInt = 930 := by decide
  rw [lt_ti, le_ti, e0, e4096] at h
  have n1 : ¬ k = Int32.ofInt 928 := fun q => by rw [q, e928] at h; omega
  have n2 : ¬ k = Int32.ofInt 930 := fun q => by rw [q, e930] at h; omega
  have k9 : GX100_isElsewhere_9 k M = (Int32.ofInt 0, M) := by
    unfold GX100_isElsewhere_9 GX100_isElsewhere_41 GX100_isElsewhere_42
    try dsimp only
    rw [fi_neg n1, fi_neg n2]
    by_cases c : k < Int32.ofInt 944
    · rw [fi_pos c]
    · have d : Int32.ofInt 960 ≤ k := by
        rw [lt_ti, e944] at c
        rw [le_ti, e960]
        omega
      rw [fi_neg c, fi_pos d]
  unfold GX100_isElsewhere GX100_isElsewhere_0
  try dsimp only
  by_cases c : k ≤ 0
  · rw [fi_pos c, k9]
  · have d : ¬ k < Int32.ofInt 4 := by
      rw [le_ti, e0] at c
      rw [lt_ti, e4]
      omega
    rw [fi_neg c, fi_neg d, k9]
theorem els_26 {u n : Nat} {Mc : FM} (S : StC u Mc) (z : Mc.2.2 0 0 0 = 0) (hn : n < 4096) : tbl Mc u n = Mc.2.2 26 u 0 ↔ els n := by
  by_cases h : thr n
  · exact els_there S hn h
  · have h0 : tbl Mc u n = 0 := Classical.byContradiction fun q => h ((rel_there S z hn).mp q)
    have h26 : Mc.2.2 26 u 0 ≠ 0 := S.2.2.2.2.2.2.2.2.2.2.2.1.2.1
    exact ⟨fun q => absurd (q.symm.trans h0) h26, fun q => absurd (show thr n from Or.inr (Or.inr (Or.inr q))) h⟩
section Ct
variable {bd hv m hq s dd x dk q rq r sg bl cr np mc : Nat} {B Bk Vv x1 h : Nat} {Mc Mt : FM}
theorem O_control (R : RelM bd hv m hq s dd x dk q rq r sg bl cr np mc B Bk Vv Mc Mt) (xm : XM x1 mc Mc) (hh : h < np) (k : Int32) : ∃ v Nc Nt, (HX1_control x1 (nI h) k Mc ∧ GX1_control x1 (nI h) k Mc = (v, Nc)) ∧ (HX92_control m (nI h) k Mt ∧ GX92_control m (nI h) k Mt = (v, Nt)) ∧ RelM bd hv m hq s dd x dk q rq r sg bl cr np mc B Bk Vv Nc Nt ∧
    Nt.1 296 m 0 = 0 ∧ Sm m sg Nt Mt ∧ WK [41, 43] Mc Nc ∧ WK lX92_control Mt Nt ∧ Evo r 0 Mc Nc := by
  obtain ⟨a1, a2, a3⟩ := O_at R xm hh
  obtain ⟨R1, k1⟩ := ob_296 R (Int32.ofInt 0)
  have RR1 := relM_ram R1
  have b1 : Sm m sg (fm_sI Mt 296 m 0 (Int32.ofInt 0)) Mt := ⟨rfl, rfl⟩
  have e296 : (fm_sI Mt 296 m 0 (Int32.ofInt 0)).1 296 m 0 = 0 := rIe _
  generalize hM1 : fm_sI Mt 296 m 0 (Int32.ofInt 0) = M1 at *
  obtain ⟨i67, i189, ilen, inp, i297, ⟨ow, Ow⟩, ⟨ow', Ow'⟩, H⟩ := id R1
  obtain ⟨p, a, fu, cf, rg, u, t, kp, fd, c1, f1, d1, w1, g, kn, fs, K, F, T, rt, tb, hp, hw, Gd, RP⟩ := H h hh
  have T0 := RR1.1.1
  have W := RR1.1.2.1
  have Tm := RR1.2.1.1
  have W' := RR1.2.1.2.1
  obtain ⟨rt', tb', Nc, N1, ⟨l1, l2⟩, ⟨t1, t2⟩, RP2, To2, kc, ev, kt⟩ := P_look RP
  have hcl : (nI h).toNatClampNeg = h := o_cl (by have := RP.2.1.1.2.2.1; omega)
  have n75 := RP.1.1.1
  have n92 := RP.2.1.1.1
  have op : ow p = h + 1 := by
    rw [← hp]
    exact own_row Ow W (tN_190 T0.1 i67) rfl (sS_190 W i67) rfl rfl (by rw [hp]; exact n75) rfl
  have om : ow' m = 0 := own_sh Ow' n92 rfl
  have g1 := gX46_look p Mc T0 n75 l1
  have g2 := gX92_tell m (nI h) M1 t1
  rw [l2] at g1
  rw [t2] at g2
  have kc' : Wk (SL lX46_look) (Zo ow (fm_nx Mc) h) h (fm_nx Mc) Mc Nc := wX46_look (SL lX46_look) (Zo ow (fm_nx Mc) h) (fun _ h => h) fN p Mc (own_wi Ow T0 W) (Or.inr (Or.inr op)) _ g1.1
  have kt' : Wk (SL lX92_tell) (Zo ow' (fm_nx M1) h) h (fm_nx M1) M1 N1 := wX92_tell (SL lX92_tell) (Zo ow' (fm_nx M1) h) (fun _ h => h) fN m (nI h) M1 (own_wi Ow' Tm W') (Or.inr (Or.inl om)) hcl _ g2.1
  have ng : fm_is Mc 90 90 g = true := by
    obtain ⟨⟨rt0, tb0, VC⟩, _⟩ := RP.2.2.2.2.2.2.1
    rw [← VC.2.2.2.2.1]
    exact tN_288 T0.1 VC.2.2.1
  have n190 := tN_190 T0.1 i67
  have e190 : Nc.2.2 190 mc 0 = Mc.2.2 190 mc 0 := congrFun (kf (f := 190) kc rfl (dj_n (L := [190]) (by decide) 190 rfl) (wf_lt W (fm_ist rfl i67))).2.2 0
  have r190 : Nc.2.2 3 (Mc.2.2 190 mc 0) = Mc.2.2 3 (Mc.2.2 190 mc 0) := (ka kc (sS_190 W i67) (wf_n0 W (fm_ist rfl n190)) (dj_n (L := [1190]) (by decide) 1190 rfl) (wf_lt W (fm_ist rfl n190))).2.2
  have R2 : RelM bd hv m hq s dd x dk q rq r sg bl cr np mc B Bk Vv Nc N1 := M_set (e := 0) R1 Ow Ow' kc kc' kt kt' (by decide) (by decide) (by decide) (by decide) (b316 kt (by decide) RP) ev (Nat.le_refl _)
    ⟨p, a, fu, cf, rg, u, t, kp, fd, c1, f1, d1, w1, g, kn, fs, K, F, T, rt', tb', by rw [e190, r190]; exact hp, hw, gdC_k kc (by decide) T0 W ng Gd, RP2⟩
  have RR2 := relM_ram R2
  have b2 := (sm_k kt (by decide) R1).trans b1
  have v4' : Nc.2.2 213 p 0 = u := RP2.1.1.2.2.2.2.2.1
  obtain ⟨z0, z1, z2, z3, ⟨z4, z5⟩, ⟨z6, z7⟩, ⟨z8, z9⟩, ⟨za, zb⟩, zc⟩ := RP2.2.1.1
  have in5 : fm_in N1 (N1.2.2 305 m 0) (nI h) = true := in_nI z8 (by omega) (by decide)
  have n95 := RP2.2.2.2.2.1.2.1.2.1
  have RC := RP2.2.2.2.2.1
  have e296' : N1.1 296 m 0 = 0 := (congrFun (kf (f := 296) kt rfl (dj_n (L := [296]) (by decide) 296 rfl) (wf_lt W' (fm_ist rfl n92))).1 0).trans e296
  have w0 : Nc.2.2 0 0 0 = 0 := RR2.1.2.1.2.2.1
  have hzero : (Int32.ofInt 0 : Int32) = 0 := rfl
  have i10 : ¬ Int32.ofInt 1 = (0 : Int32) := by decide
  -- what is shown by the table
  have peek : ∀ v : Int64, HX74_peek u k Nc → HX100_peek d1 k N1 → GX74_peek u k Nc = (v, Nc) → GX100_peek d1 k N1 = (v, fm_sI N1 358 d1 0 (Int32.ofInt 0)) → GX100_isElsewhere k N1 = (Int32.ofInt 0, N1) →
      (¬ k ≤ 0 → ¬ Int32.ofInt 4096 ≤ k → fm_in Nc (Nc.2.2 25 u 0) k = true ∧ ¬ Nc.2.2 3 (Nc.2.2 25 u 0) k.toNatClampNeg = Nc.2.2 26 u 0) →
      ∃ v Nc Nt, (HX1_control x1 (nI h) k Mc ∧ GX1_control x1 (nI h) k Mc = (v, Nc)) ∧ (HX92_control m (nI h) k Mt ∧ GX92_control m (nI h) k Mt = (v, Nt)) ∧ RelM bd hv m hq s dd x dk q rq r sg bl cr np mc B Bk Vv Nc Nt ∧
        Nt.1 296 m 0 = 0 ∧ Sm m sg Nt Mt ∧ WK [41, 43] Mc Nc ∧ WK lX92_control Mt Nt ∧ Evo r 0 Mc Nc := fun v h1 h2 h3 h4 h5 h6 => by
    obtain ⟨R3, k3⟩ := ob_w (f := 358) R2 n95 rfl rfl (by decide) ⟨RR2.2.1.1.1, tyb_sI rfl RR2.2.1.1.2⟩
    have c44 : GX1_control_44 k p Nc = (v, Nc) := by
      unfold GX1_control_44 GX1_control_45 GX1_control_68
      try dsimp only
      rw [fi_pos hzero, v4', h3]
    have hc44 : HX1_control_44 k p Nc := by
      unfold HX1_control_44 HX1_control_45
      try dsimp only
      rw [v4']
      exact ⟨fun _ => ⟨h1, trivial⟩, fun q => absurd hzero q⟩
    refine ⟨v, Nc, _, ⟨?_, ?_⟩, ⟨?_, ?_⟩, R3, (rIf (by decide)).trans e296', (sm_k k3 (by decide) R2).trans b2, kc, WK_t (WK_s (by decide) k1) (WK_t (WK_s (by decide) kt) (WK_s (by decide) k3)), ev⟩
    · unfold HX1_control HX1_control_0
      try dsimp only
      rw [a2]
      try dsimp only
      rw [hp, l2]
      refine ⟨a1, l1, fun _ => hc44, fun q => ⟨fun _ => hc44, fun q2 => ?_⟩⟩
      try dsimp only
      rw [v4']
      exact ⟨(h6 q q2).1, fun y => absurd y (h6 q q2).2, fun _ => hc44⟩
    · unfold GX1_control GX1_control_0
      try dsimp only
      rw [a2]
      try dsimp only
      rw [hp, l2]
      by_cases q : k ≤ 0
      · rw [fi_pos q, c44]
      · rw [fi_neg q]
        by_cases q2 : Int32.ofInt 4096 ≤ k
        · rw [fi_pos q2, c44]
        · rw [fi_neg q2, v4', fi_neg (h6 q q2).2, c44]
    · unfold HX92_control HX92_control_0
      try dsimp only
      rw [a3]
      refine ⟨fun _ => ⟨t1, ?_⟩, fun q => absurd hzero q⟩
      try dsimp only
      rw [t2, h5]
      refine ⟨fun _ => ⟨in5, ?_⟩, fun q => absurd hzero q⟩
      try dsimp only
      rw [hcl, z9]
      exact ⟨n95, h2, trivial⟩
    · unfold GX92_control GX92_control_0 GX92_control_41
      try dsimp only
      rw [a3]
      try dsimp only
      rw [fi_pos hzero, t2, h5]
      try dsimp only
      rw [fi_pos hzero, hcl, z9, h4]
  by_cases ko : k < 0 ∨ Int32.ofInt 4096 ≤ k
  · obtain ⟨h1, h2, h3, h4⟩ := peek_out (u := u) (d := d1) (Mc := Nc) (Mt := N1) ko
    refine peek _ h1 h2 h3 h4 (isE_out ko) (fun q1 q2 => ?_)
    rcases ko with y | y
    · exact absurd (Int32.le_of_lt y) q1
    · exact absurd y q2
  obtain ⟨n, hn, rfl⟩ : ∃ n, n < 4096 ∧ k = nI n := by
    have h1 : ¬ k < 0 := fun q => ko (Or.inl q)
    have h2 : ¬ Int32.ofInt 4096 ≤ k := fun q => ko (Or.inr q)
    rw [Int32.not_lt, show (0 : Int32) = Int32.ofInt 0 from rfl, le_ti, ti, ti] at h1
    rw [Int32.not_le, lt_ti, ti, ti] at h2
    have hk := ui_lt k
    have e0 : ui (Int32.ofInt 0) = 0 := rfl
    have e4 : ui (Int32.ofInt 4096) = 4096 := rfl
    rw [e0] at h1
    rw [e4] at h2
    have lt : ui k < 4096 := by split at h1 <;> split at h2 <;> omega
    exact ⟨ui k, lt, ui_inj (by rw [ui_nI]; omega)⟩
  have kcl : (nI n).toNatClampNeg = n := o_cl (by omega)
  have inn : fm_in Nc (Nc.2.2 25 u 0) (nI n) = true := in_u (tL_25 RR2.1.1.1 RC.1.2.1) (by rw [ui_nI]; omega) (by decide)
  have e26 := els_26 RC.1.2.2.1 w0 hn
  by_cases he : els n
  · -- elsewhere
    obtain ⟨v, Y, ⟨x1_, x2_⟩, ⟨y1_, y2_⟩, RP3, k3⟩ := P_else RP2 hn he
    obtain ⟨_, _, _, _, _, O1, ⟨ow2, Ow2⟩, _⟩ := id R2
    have g3 := gX92_elsewhere m (nI h) (nI n) N1 RR2.2.1.1 z0 y1_
    rw [y2_] at g3
    have k3' : Wk (SL lX92_elsewhere) (Zo ow2 (fm_nx N1) h) h (fm_nx N1) N1 Y := wX92_elsewhere (SL lX92_elsewhere) (Zo ow2 (fm_nx N1) h) (fun _ h => h) fN m (nI h) (nI n) N1 (own_wi Ow2 RR2.2.1.1 RR2.2.1.2.1) (Or.inr (Or.inl (own_sh Ow2 z0 rfl))) hcl _ g3.1
    have OY := own_k Ow2 RR2.2.1.1 RR2.2.1.2.1 k3' (xs_dj (by decide))
    have R3 := (M_k R2 (WK_r (S := []) RR2.1.2.1) k3 (by decide) (by decide) RR2.1.1 g3.2.1 O1 ⟨_, OY⟩).1
    have x296 : Y.1 296 m 0 = 0 := (congrFun (kf (f := 296) k3 rfl (dj_n (L := [296]) (by decide) 296 rfl) (wf_lt RR2.2.1.2.1 (fm_ist rfl z0))).1 0).trans e296'
    have n0 : ¬ nI n ≤ 0 := fun q => by
      have := (nle0 hn).mp q
      unfold els at he
      omega
    have n4 : ¬ Int32.ofInt 4096 ≤ nI n := fun q => ko (Or.inr q)
    have et : Nc.2.2 3 (Nc.2.2 25 u 0) n = Nc.2.2 26 u 0 := e26.mpr he
    have isE : GX100_isElsewhere (nI n) N1 = (Int32.ofInt 1, N1) := by rw [X100_isElsewhere hn, bz_t he]
    refine ⟨v, Nc, Y, ⟨?_, ?_⟩, ⟨?_, ?_⟩, R3, x296, (sm_k k3 (by decide) R2).trans b2, kc, WK_t (WK_s (by decide) k1) (WK_t (WK_s (by decide) kt) (WK_s (by decide) k3)), ev⟩
    · unfold HX1_control HX1_control_0 HX1_control_45
      try dsimp only
      rw [a2]
      try dsimp only
      rw [hp, l2]
      refine ⟨a1, l1, fun q => absurd q n0, fun _ => ⟨fun q => absurd q n4, fun _ => ?_⟩⟩
      try dsimp only
      rw [v4', kcl]
      exact ⟨inn, fun _ => ⟨fun q => absurd q i10, fun _ => ⟨x1_, trivial⟩⟩, fun q => absurd et q⟩
    · unfold GX1_control GX1_control_0 GX1_control_45 GX1_control_68
      try dsimp only
      rw [a2]
      try dsimp only
      rw [hp, l2, fi_neg n0, fi_neg n4, v4', kcl, fi_pos et, fi_neg i10, x2_]
    · unfold HX92_control HX92_control_0
      try dsimp only
      rw [a3]
      refine ⟨fun _ => ⟨t1, ?_⟩, fun q => absurd hzero q⟩
      try dsimp only
      rw [t2, isE]
      exact ⟨fun q => absurd q i10, fun _ => ⟨y1_, trivial⟩⟩
    · unfold GX92_control GX92_control_0 GX92_control_41
      try dsimp only
      rw [a3]
      try dsimp only
      rw [fi_pos hzero, t2, isE]
      try dsimp only
      rw [fi_neg i10, y2_]
  · obtain ⟨h1, h2, v, h3, h4⟩ := rel_peek RC w0 hn he
    refine peek v h1 h2 h3 h4 (by rw [X100_isElsewhere hn, bz_f he]) (fun _ _ => ⟨inn, ?_⟩)
    rw [kcl]
    exact fun q => he (e26.mp q)
end Ct
