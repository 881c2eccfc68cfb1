/-! the machine: what is asked of one processor -/
set_option maxRecDepth 100000
section Oc
variable {bd hv m hq s dd x dk q rq r sg bl cr np mc : Nat} {B Bk Vv x1 h k : Nat} {Mc Mt : FM}
/-- scratch of one processor's twin -/
theorem ob_w {f z lo hi : Nat} (R : RelM bd hv m hq s dd x dk q rq r sg bl cr np mc B Bk Vv Mc Mt) (n : fm_is Mt lo hi z = true) (hlo : Nat.ble 1 lo = true) (hf : Nat.ble 4 f = true) (hd : dj (297 :: uTt) [f] = true) (TN : Ty (fm_sI Mt f z 0 (Int32.ofInt 0))) : RelM bd hv m hq s dd x dk q rq r sg bl cr np mc B Bk Vv Mc (fm_sI Mt f z 0 (Int32.ofInt 0)) ∧ WK [f] Mt (fm_sI Mt f z 0 (Int32.ofInt 0)) := by
  have RR := relM_ram R
  have kk : WK [f] Mt (fm_sI Mt f z 0 (Int32.ofInt 0)) := WK_I RR.2.1.2.1 n hlo hf _
  obtain ⟨_, _, _, _, _, O1, ⟨ow', Ow'⟩, _⟩ := id R
  exact ⟨(M_k R (WK_r (S := []) RR.1.2.1) kk (by decide) hd RR.1.1 TN O1 ⟨_, own_n rfl Ow'⟩).1, kk⟩
theorem O_counter (R : RelM bd hv m hq s dd x dk q rq r sg bl cr np mc B Bk Vv Mc Mt) (xm : XM x1 mc Mc) (hh : h < np) : ∃ v Nt, (HX1_counter x1 (nI h) Mc ∧ GX1_counter x1 (nI h) Mc = (v, Mc)) ∧ (HX92_counter m (nI h) Mt ∧ GX92_counter m (nI h) Mt = (v, Nt)) ∧ RelM bd hv m hq s dd x dk q rq r sg bl cr np mc B Bk Vv Mc Nt ∧ Nt.1 296 m 0 = 0 ∧ WK [296, 345] Mt Nt := by
  obtain ⟨a1, a2, a3⟩ := O_at R xm hh
  obtain ⟨R1, k1⟩ := ob_296 R (Int32.ofInt 0)
  have RR1 := relM_ram R1
  obtain ⟨p, a, fu, cf, rg, u, t, kp, fd, c1, f1, d1, w1, g, kn, fs, K, F, T, rt, tb, hp, hw, Gd, RP⟩ := R1.2.2.2.2.2.2.2 h hh
  obtain ⟨y0, y1, y2, y3, ⟨y4, y5⟩, ⟨y6, y7⟩, ⟨y8, y9⟩, ⟨ya, yb⟩, yc⟩ := RP.2.1.1
  have hcl : (nI h).toNatClampNeg = h := o_cl (by omega)
  have n94 := RP.2.2.2.1.2.1
  have e179 := RP.2.2.2.1.2.2.2.1
  have v2 : Mc.2.2 211 p 0 = a := RP.1.1.2.2.2.1
  obtain ⟨R2, k2⟩ := ob_w (f := 345) R1 n94 rfl rfl (by decide) ⟨RR1.2.1.1.1, tyb_sI rfl RR1.2.1.1.2⟩
  have e296 : (fm_sI (fm_sI Mt 296 m 0 (Int32.ofInt 0)) 345 c1 0 (Int32.ofInt 0)).1 296 m 0 = 0 := (rIf (by decide)).trans (rIe _)
  refine ⟨(fm_sI Mt 296 m 0 (Int32.ofInt 0)).2.1 347 c1 0, _, ⟨?_, ?_⟩, ⟨?_, ?_⟩, R2, e296, WK_t (WK_s (by decide) k1) (WK_s (by decide) k2)⟩
  · unfold HX1_counter HX1_counter_0
    try dsimp only
    exact ⟨a1, trivial⟩
  · unfold GX1_counter GX1_counter_0 GX46_counter GX46_counter_0
    try dsimp only
    rw [a2]
    try dsimp only
    rw [hp, v2, e179]
  · unfold HX92_counter HX92_counter_0
    try dsimp only
    rw [a3]
    refine ⟨fun _ => ⟨in_nI y4 (by omega) (by decide), ?_⟩, fun q => absurd rfl q⟩
    try dsimp only
    rw [hcl, y5]
    exact ⟨n94, trivial⟩
  · unfold GX92_counter GX92_counter_0 GX92_counter_21 GX98_counter GX98_counter_0
    try dsimp only
    rw [a3]
    try dsimp only
    rw [fi_pos (show (Int32.ofInt 0 : Int32) = 0 from rfl), hcl, y5]
    rfl
theorem O_mode (R : RelM bd hv m hq s dd x dk q rq r sg bl cr np mc B Bk Vv Mc Mt) (xm : XM x1 mc Mc) (hh : h < np) : ∃ v Nt, (HX1_mode x1 (nI h) Mc ∧ GX1_mode x1 (nI h) Mc = (v, Mc)) ∧ (HX92_mode m (nI h) Mt ∧ GX92_mode m (nI h) Mt = (v, Nt)) ∧ RelM bd hv m hq s dd x dk q rq r sg bl cr np mc B Bk Vv Mc Nt ∧ Nt.1 296 m 0 = 0 ∧ WK [296, 358] Mt Nt := by
  obtain ⟨a1, a2, a3⟩ := O_at R xm hh
  obtain ⟨R1, k1⟩ := ob_296 R (Int32.ofInt 0)
  have RR1 := relM_ram R1
  obtain ⟨p, a, fu, cf, rg, u, t, kp, fd, c1, f1, d1, w1, g, kn, fs, K, F, T, rt, tb, hp, hw, Gd, RP⟩ := R1.2.2.2.2.2.2.2 h hh
  obtain ⟨y0, y1, y2, y3, ⟨y4, y5⟩, ⟨y6, y7⟩, ⟨y8, y9⟩, ⟨ya, yb⟩, yc⟩ := RP.2.1.1
  have hcl : (nI h).toNatClampNeg = h := o_cl (by omega)
  have n95 := RP.2.2.2.2.1.2.1.2.1
  have v4 : Mc.2.2 213 p 0 = u := RP.1.1.2.2.2.2.2.1
  have ow := RP.2.2.1
  unfold OwW at ow
  obtain ⟨R2, k2⟩ := ob_w (f := 358) R1 n95 rfl rfl (by decide) ⟨RR1.2.1.1.1, tyb_sI rfl RR1.2.1.1.2⟩
  have e296 : (fm_sI (fm_sI Mt 296 m 0 (Int32.ofInt 0)) 358 d1 0 (Int32.ofInt 0)).1 296 m 0 = 0 := (rIf (by decide)).trans (rIe _)
  have em := rel_mode RP.2.2.2.2.1
  have r307 : (fm_sI (fm_sI Mt 296 m 0 (Int32.ofInt 0)) 358 d1 0 (Int32.ofInt 0)).1 3 ((fm_sI (fm_sI Mt 296 m 0 (Int32.ofInt 0)) 358 d1 0 (Int32.ofInt 0)).2.2 307 m 0) h = Mc.1 218 p 0 := (rIf (by decide)).trans ow.symm
  refine ⟨Mc.1 37 u 0 + fi (Mc.1 218 p 0 = 0) (Int32.ofInt 0) (Int32.ofInt 4), _, ⟨?_, ?_⟩, ⟨?_, ?_⟩, R2, e296, WK_t (WK_s (by decide) k1) (WK_s (by decide) k2)⟩
  · unfold HX1_mode HX1_mode_0
    try dsimp only
    exact ⟨a1, trivial⟩
  · unfold GX1_mode GX1_mode_0 GX1_mode_25
    try dsimp only
    rw [a2]
    try dsimp only
    rw [hp, v4]
    by_cases c : Mc.1 218 p 0 = 0
    · rw [fi_pos c, fi_pos c]
    · rw [fi_neg c, fi_neg c]
  · unfold HX92_mode HX92_mode_0
    try dsimp only
    rw [a3]
    refine ⟨fun _ => ⟨in_nI y8 (by omega) (by decide), ?_⟩, fun q => absurd rfl q⟩
    try dsimp only
    rw [hcl, y9, em]
    exact ⟨n95, in_nI yc (by omega) (by decide), trivial⟩
  · unfold GX92_mode GX92_mode_0 GX92_mode_35 GX92_mode_36
    try dsimp only
    rw [a3]
    try dsimp only
    rw [fi_pos (show (Int32.ofInt 0 : Int32) = 0 from rfl), hcl, y9, em]
    try dsimp only
    rw [r307]
    by_cases c : Mc.1 218 p 0 = 0
    · rw [fi_pos c, fi_pos c]
    · rw [fi_neg c, fi_neg c]
theorem O_register (R : RelM bd hv m hq s dd x dk q rq r sg bl cr np mc B Bk Vv Mc Mt) (xm : XM x1 mc Mc) (hh : h < np) (hk : k < 32) : ∃ v Nt, (HX1_register x1 (nI h) (nI k) Mc ∧ GX1_register x1 (nI h) (nI k) Mc = (v, Mc)) ∧ (HX92_register m (nI h) (nI k) Mt ∧ GX92_register m (nI h) (nI k) Mt = (v, Nt)) ∧ RelM bd hv m hq s dd x dk q rq r sg bl cr np mc B Bk Vv Mc Nt ∧ Nt.1 296 m 0 = 0 ∧ WK [296, 345] Mt Nt := by
  obtain ⟨a1, a2, a3⟩ := O_at R xm hh
  obtain ⟨R1, k1⟩ := ob_296 R (Int32.ofInt 0)
  have RR1 := relM_ram R1
  obtain ⟨p, a, fu, cf, rg, u, t, kp, fd, c1, f1, d1, w1, g, kn, fs, K, F, T, rt, tb, hp, hw, Gd, RP⟩ := R1.2.2.2.2.2.2.2 h hh
  obtain ⟨y0, y1, y2, y3, ⟨y4, y5⟩, ⟨y6, y7⟩, ⟨y8, y9⟩, ⟨ya, yb⟩, yc⟩ := RP.2.1.1
  have hcl : (nI h).toNatClampNeg = h := o_cl (by omega)
  have kcl : (nI k).toNatClampNeg = k := o_cl (by omega)
  have n94 := RP.2.2.2.1.2.1
  have v2 : Mc.2.2 211 p 0 = a := RP.1.1.2.2.2.1
  obtain ⟨i1, i2, i3⟩ := rel_iget RR1.1.1 RR1.2.1.1 RP.2.2.2.1 hk
  obtain ⟨R2, k2⟩ := ob_w (f := 345) R1 n94 rfl rfl (by decide) ⟨RR1.2.1.1.1, tyb_sI rfl RR1.2.1.1.2⟩
  have e296 : (fm_sI (fm_sI Mt 296 m 0 (Int32.ofInt 0)) 345 c1 0 (Int32.ofInt 0)).1 296 m 0 = 0 := (rIf (by decide)).trans (rIe _)
  have b0 : ¬ nI h < 0 := nI0 (by omega)
  have b1 : ¬ Mt.1 297 m 0 ≤ nI h := by rw [R.2.2.2.2.1]; exact fun q => by have := (n_le (by omega) (by omega)).mp q; omega
  have c0 : ¬ nI k < 0 := nI0 (by omega)
  have c1_ : ¬ Int32.ofInt 32 ≤ nI k := fun q => by have := (nge (n := k) (by omega) 32 (by decide)).mp q; omega
  have c2 : nI k ≤ Int32.ofInt 31 := (nle (n := k) (by omega) 31 (by decide)).mpr (by omega)
  have z296 : (fm_sI Mt 296 m 0 (Int32.ofInt 0)).1 296 m 0 ≤ 0 := by rw [rIe]; decide
  have i10 : ¬ Int32.ofInt 1 = (0 : Int32) := by decide
  refine ⟨Mc.2.1 3 (rgI a Mc) k, _, ⟨?_, ?_⟩, ⟨?_, ?_⟩, R2, e296, WK_t (WK_s (by decide) k1) (WK_s (by decide) k2)⟩
  · unfold HX1_register HX1_register_0 HX1_register_21 GX1_there GX1_there_0 HX1_there HX1_there_0
    try dsimp only
    rw [a2]
    try dsimp only
    rw [fi_neg i10, hp, v2]
    exact ⟨a1, fun q => absurd q c0, fun _ => ⟨fun q => absurd q c1_, fun _ => ⟨⟨fun q => absurd q i10, fun _ => trivial⟩, i1, trivial⟩⟩⟩
  · unfold GX1_register GX1_register_0 GX1_register_21 GX1_there GX1_there_0
    try dsimp only
    rw [a2]
    try dsimp only
    rw [fi_neg c0, fi_neg c1_, fi_neg i10, hp, v2, kcl]
    rfl
  · unfold HX92_register HX92_register_0 HX92_register_28
    try dsimp only
    refine ⟨fun q => absurd q b0, fun _ => ⟨fun q => absurd q b1, fun _ => ⟨fun q => absurd q c0, fun _ => ⟨fun _ => ⟨fun _ => ⟨in_nI y4 (by omega) (by decide), ?_⟩, fun q => absurd z296 q⟩, fun q => absurd c2 q⟩⟩⟩⟩
    rw [hcl, y5]
    exact ⟨n94, i2, trivial⟩
  · unfold GX92_register GX92_register_0 GX92_register_28 GX92_register_52
    try dsimp only
    rw [fi_neg b0, fi_neg b1, fi_neg c0, fi_pos c2, fi_pos z296, hcl, y5, i3]
theorem O_floating (R : RelM bd hv m hq s dd x dk q rq r sg bl cr np mc B Bk Vv Mc Mt) (xm : XM x1 mc Mc) (hh : h < np) (hk : k < 32) : ∃ v Nt, (HX1_floating x1 (nI h) (nI k) Mc ∧ GX1_floating x1 (nI h) (nI k) Mc = (v, Mc)) ∧ (HX92_floating_2 m (nI h) (nI k) Mt ∧ GX92_floating_2 m (nI h) (nI k) Mt = (v, Nt)) ∧ RelM bd hv m hq s dd x dk q rq r sg bl cr np mc B Bk Vv Mc Nt ∧ Nt.1 296 m 0 = 0 ∧ WK [296, 366] Mt Nt := by
  obtain ⟨a1, a2, a3⟩ := O_at R xm hh
  obtain ⟨R1, k1⟩ := ob_296 R (Int32.ofInt 0)
  have RR1 := relM_ram R1
  obtain ⟨p, a, fu, cf, rg, u, t, kp, fd, c1, f1, d1, w1, g, kn, fs, K, F, T, rt, tb, hp, hw, Gd, RP⟩ := R1.2.2.2.2.2.2.2 h hh
  obtain ⟨y0, y1, y2, y3, ⟨y4, y5⟩, ⟨y6, y7⟩, ⟨y8, y9⟩, ⟨ya, yb⟩, yc⟩ := RP.2.1.1
  have hcl : (nI h).toNatClampNeg = h := o_cl (by omega)
  have kcl : (nI k).toNatClampNeg = k := o_cl (by omega)
  obtain ⟨FU, FO, vc, ⟨_, vt⟩, vi⟩ := RP.2.2.2.2.2.1
  have n96 := FO.2.1
  have v3 : Mc.2.2 212 p 0 = fu := RP.1.1.2.2.2.2.1
  have e93 : Mc.2.2 93 fu 0 = rg := FU.2.2.1.1
  have ec : Mc.2.1 3 rg k = fs.1 k := vc.1 k hk
  have et : (fm_sI Mt 296 m 0 (Int32.ofInt 0)).2.1 3 ((fm_sI Mt 296 m 0 (Int32.ofInt 0)).2.2 367 f1 0) k = fs.1 k := vt.1 k hk
  obtain ⟨R2, k2⟩ := ob_w (f := 366) R1 n96 rfl rfl (by decide) ⟨RR1.2.1.1.1, tyb_sI rfl RR1.2.1.1.2⟩
  have e296 : (fm_sI (fm_sI Mt 296 m 0 (Int32.ofInt 0)) 366 f1 0 (Int32.ofInt 0)).1 296 m 0 = 0 := (rIf (by decide)).trans (rIe _)
  have b0 : ¬ nI h < 0 := nI0 (by omega)
  have b1 : ¬ Mt.1 297 m 0 ≤ nI h := by rw [R.2.2.2.2.1]; exact fun q => by have := (n_le (by omega) (by omega)).mp q; omega
  have c0 : ¬ nI k < 0 := nI0 (by omega)
  have c1_ : ¬ Int32.ofInt 32 ≤ nI k := fun q => by have := (nge (n := k) (by omega) 32 (by decide)).mp q; omega
  have c2 : nI k ≤ Int32.ofInt 31 := (nle (n := k) (by omega) 31 (by decide)).mpr (by omega)
  have z296 : (fm_sI Mt 296 m 0 (Int32.ofInt 0)).1 296 m 0 ≤ 0 := by rw [rIe]; decide
  have i10 : ¬ Int32.ofInt 1 = (0 : Int32) := by decide
  have l93 : Mc.2.2 1 (Mc.2.2 93 fu 0) 0 = 32 := by rw [e93]; exact FU.2.2.1.2
  have iN : GX99_isNo f1 (nI k) (fm_sI Mt 296 m 0 (Int32.ofInt 0)) = (Int32.ofInt 0, fm_sI (fm_sI Mt 296 m 0 (Int32.ofInt 0)) 366 f1 0 (Int32.ofInt 0)) := by
    unfold GX99_isNo GX99_isNo_0 GX99_isNo_16 GX99_isNo_31
    try dsimp only
    rw [fi_neg c0, fi_pos c2, fi_pos (show (fm_sI (fm_sI Mt 296 m 0 (Int32.ofInt 0)) 366 f1 0 (Int32.ofInt 0)).1 366 f1 0 ≤ 0 by rw [rIe]; decide)]
  refine ⟨fs.1 k, _, ⟨?_, ?_⟩, ⟨?_, ?_⟩, R2, e296, WK_t (WK_s (by decide) k1) (WK_s (by decide) k2)⟩
  · unfold HX1_floating HX1_floating_0 HX1_floating_21 GX1_there GX1_there_0 HX1_there HX1_there_0
    try dsimp only
    rw [a2]
    try dsimp only
    rw [fi_neg i10, hp, v3]
    exact ⟨a1, fun q => absurd q c0, fun _ => ⟨fun q => absurd q c1_, fun _ => ⟨⟨fun q => absurd q i10, fun _ => trivial⟩, in_nI l93 hk (by decide), trivial⟩⟩⟩
  · unfold GX1_floating GX1_floating_0 GX1_floating_21 GX1_there GX1_there_0
    try dsimp only
    rw [a2]
    try dsimp only
    rw [fi_neg c0, fi_neg c1_, fi_neg i10, hp, v3, kcl, e93, ec]
  · unfold HX92_floating_2 HX92_floating_2_0 HX92_floating_2_28
    try dsimp only
    refine ⟨fun q => absurd q b0, fun _ => ⟨fun q => absurd q b1, fun _ => ⟨fun q => absurd q c0, fun _ => ⟨fun _ => ⟨fun _ => ⟨in_nI y6 (by omega) (by decide), ?_⟩, fun q => absurd z296 q⟩, fun q => absurd c2 q⟩⟩⟩⟩
    rw [hcl, y7]
    refine ⟨n96, ?_, trivial⟩
    unfold HX99_get HX99_get_0
    try dsimp only
    rw [iN]
    exact ⟨fun _ => ⟨in_nI (tL_367 RR1.2.1.1.1 n96) hk (by decide), trivial⟩, fun q => absurd rfl q⟩
  · unfold GX92_floating_2 GX92_floating_2_0 GX92_floating_2_28 GX92_floating_2_52
    try dsimp only
    rw [fi_neg b0, fi_neg b1, fi_neg c0, fi_pos c2, fi_pos z296, hcl, y7]
    unfold GX99_get GX99_get_0 GX99_get_18
    try dsimp only
    rw [iN]
    try dsimp only
    rw [fi_pos (show (Int32.ofInt 0 : Int32) = 0 from rfl), kcl]
    refine Prod.ext ?_ rfl
    exact et
end Oc
