/-! finding data: both sides -/
set_option maxRecDepth 100000
section Lr
variable {p h bd a fu rg u t hv kp fd m c1 f1 d1 w1 hq s dd x dk q rq r g sg bl cr np : Nat} {cf : Nat → Nat} {kn : Int32} {o : Option Wt} {fs : Fs} {B Bk Vv : Nat} {K : Rg} {F T : Nat → Nat} {rt : Int32} {tb : Int64} {Mc Mt : FM} {ad : Int64} {ac : Int32} {z : Nat}
theorem P_locate (R : RelP p h bd a fu cf rg u t hv kp fd m c1 f1 d1 w1 hq s dd x dk q rq r g sg bl cr np kn o fs B Bk Vv K F T rt tb Mc Mt) (To : Told d1 rt tb Mt) (hB : Bk + 8 < 9223372036854775808) (hV : Vv < 2147483648) (hac : ac = Int32.ofInt 1 ∨ ac = Int32.ofInt 2) (hz : z = 1 ∨ z = 2 ∨ z = 4 ∨ z = 8) :
    HX46_locate p ad ac (nI z) Mc ∧ HX92_finds m (nI h) ad (nI z) ac Mt ∧ ∃ Nc Nt, Evo r 8 Mc Nc ∧ WK lX46_locate Mc Nc ∧ WK lX92_finds Mt Nt ∧
      ((GX46_locate p ad ac (nI z) Mc = (Int32.ofInt 1, Nc) ∧ GX92_finds m (nI h) ad (nI z) ac Mt = (Int32.ofInt 1, Nt) ∧ RelP p h bd a fu cf rg u t hv kp fd m c1 f1 d1 w1 hq s dd x dk q rq r g sg bl cr np kn o fs B (Bk + 8) Vv K F T rt tb Nc Nt ∧ Told d1 rt tb Nt ∧ FdR fd m F T K ac (dMo d1 Mt) z ad Nc Nt) ∨
       (GX46_locate p ad ac (nI z) Mc = (Int32.ofInt 0, Nc) ∧ GX92_finds m (nI h) ad (nI z) ac Mt = (Int32.ofInt 0, Nt) ∧ HX92_step_96 m c1 d1 Nt ∧ RelP p h bd a fu cf rg u t hv kp fd m c1 f1 d1 w1 hq s dd x dk q rq r g sg bl cr np kn none fs B (Bk + 8) Vv K F T rt tb Nc (GX92_step_96 m c1 d1 Nt))) := by
  have RR := relP_ram R
  have T0 := RR.1.1
  have W := RR.1.2.1
  have T' := RR.2.1.1
  have W' := RR.2.1.2.1
  have nfd := R.1.2.2.2
  have n92 : fm_is Mt 92 92 m = true := R.2.1.1.1
  have nd := R.2.2.2.2.1.2.1.2.1
  have hz8 : z ≤ 8 := by omega
  have hmd := dMo_m R
  have hac3 : acc3 ac := Or.inr hac
  -- what is written first
  have k1 : WK [122] Mc (fm_sI Mc 122 fd 0 (nI z)) := WK_I W nfd rfl rfl _
  have k2 : WK [124] (fm_sI Mc 122 fd 0 (nI z)) (fm_sR (fm_sI Mc 122 fd 0 (nI z)) 124 fd 0 0) :=
    wk_fR (Nat.le_refl _) (wk_r (wi_N k1.1.1)) rfl rfl (show fm_is (fm_sI Mc 122 fd 0 (nI z)) 41 41 fd = true from nfd) trivial (Or.inr fe_1) trivial rfl rfl
  have nfd2 : fm_is (fm_sR (fm_sI Mc 122 fd 0 (nI z)) 124 fd 0 0) 41 41 fd = true := kis k2 k1.1.1 rfl nfd
  have zW := bz_z (ul ad % 4096 + z ≤ 4096)
  have k3 : WK [123] (fm_sR (fm_sI Mc 122 fd 0 (nI z)) 124 fd 0 0) (fm_sI (fm_sR (fm_sI Mc 122 fd 0 (nI z)) 124 fd 0 0) 123 fd 0 (bz (ul ad % 4096 + z ≤ 4096))) := WK_I k2.1.1 nfd2 rfl rfl _
  have kP : WK [122, 123, 124] Mc (fm_sI (fm_sR (fm_sI Mc 122 fd 0 (nI z)) 124 fd 0 0) 123 fd 0 (bz (ul ad % 4096 + z ≤ 4096))) := WK_t (WK_s (by decide) k1) (WK_t (WK_s (by decide) k2) (WK_s (by decide) k3))
  have TP : Ty (fm_sI (fm_sR (fm_sI Mc 122 fd 0 (nI z)) 124 fd 0 0) 123 fd 0 (bz (ul ad % 4096 + z ≤ 4096))) :=
    ⟨tS_124 (M := fm_sI Mc 122 fd 0 (nI z)) T0.1 (fun h => absurd rfl h), tyb_sIb rfl (tyb_sR (f := 124) (by decide) (tyb_sI (f := 122) rfl T0.2)) zW⟩
  have y1 : WK [358] Mt (fm_sI Mt 358 d1 0 (Int32.ofInt 0)) := WK_I W' nd rfl rfl _
  have y2 : WK [322] (fm_sI Mt 358 d1 0 (Int32.ofInt 0)) (fm_sI (fm_sI Mt 358 d1 0 (Int32.ofInt 0)) 322 m 0 (bz (ul ad % 4096 + z ≤ 4096))) := WK_I y1.1.1 (show fm_is (fm_sI Mt 358 d1 0 (Int32.ofInt 0)) 92 92 m = true from n92) rfl rfl _
  have yP : WK [322, 358] Mt (fm_sI (fm_sI Mt 358 d1 0 (Int32.ofInt 0)) 322 m 0 (bz (ul ad % 4096 + z ≤ 4096))) := WK_t (WK_s (by decide) y1) (WK_s (by decide) y2)
  have TY : Ty (fm_sI (fm_sI Mt 358 d1 0 (Int32.ofInt 0)) 322 m 0 (bz (ul ad % 4096 + z ≤ 4096))) := ⟨T'.1, tyb_sIb rfl (tyb_sI (f := 358) rfl T'.2) zW⟩
  have RP := relP_k kP yP (by decide) (by decide) TP TY R
  have ToP := told_k yP (by decide) T' W' nd To
  have qP : RamQ r Mc (fm_sI (fm_sR (fm_sI Mc 122 fd 0 (nI z)) 124 fd 0 0) 123 fd 0 (bz (ul ad % 4096 + z ≤ 4096))) := (wrR kP yP (by decide) (by decide) TP TY RR).2.1
  have p122 : (fm_sI (fm_sR (fm_sI Mc 122 fd 0 (nI z)) 124 fd 0 0) 123 fd 0 (bz (ul ad % 4096 + z ≤ 4096))).1 122 fd 0 = nI z := by
    rw [rIf2 _ (by decide)]
    exact rIe _
  have p123 : (fm_sI (fm_sR (fm_sI Mc 122 fd 0 (nI z)) 124 fd 0 0) 123 fd 0 (bz (ul ad % 4096 + z ≤ 4096))).1 123 fd 0 = bz (ul ad % 4096 + z ≤ 4096) := rIe _
  have p124 : (fm_sI (fm_sR (fm_sI Mc 122 fd 0 (nI z)) 124 fd 0 0) 123 fd 0 (bz (ul ad % 4096 + z ≤ 4096))).2.2 124 fd 0 = 0 := by
    show (fm_sR (fm_sI Mc 122 fd 0 (nI z)) 124 fd 0 0).2.2 124 fd 0 = 0
    rw [rR, if_pos ⟨rfl, rfl, rfl⟩]
  have p322 : (fm_sI (fm_sI Mt 358 d1 0 (Int32.ofInt 0)) 322 m 0 (bz (ul ad % 4096 + z ≤ 4096))).1 322 m 0 = bz (ul ad % 4096 + z ≤ 4096) := rIe _
  have L1 := loc_c (ad := ad) (ac := ac) R hz8
  obtain ⟨HL2, L2⟩ := loc_t (ad := ad) (ac := ac) R hz8
  have G1 := (gX46_locate_0 (FX46_locate_L fN fN).1 (FX46_locate_L fN fN).2 p ad ac (nI z) Mc T0 R.1.1.1).1
  have G2 := (gX92_finds_0 (FX92_finds_L fN fN).1 (FX92_finds_L fN fN).2 m (nI h) ad (nI z) ac Mt T' n92 HL2).1
  rw [L1] at G1
  rw [L2] at G2
  generalize hMp : fm_sI (fm_sR (fm_sI Mc 122 fd 0 (nI z)) 124 fd 0 0) 123 fd 0 (bz (ul ad % 4096 + z ≤ 4096)) = Mp at *
  generalize hYp : fm_sI (fm_sI Mt 358 d1 0 (Int32.ofInt 0)) 322 m 0 (bz (ul ad % 4096 + z ≤ 4096)) = Yp at *
  generalize hmd' : dMo d1 Mt = md at *
  have hfl : ∃ kk, kk < 64 ∧ ui (fi (ac = Int32.ofInt 1) (Int32.ofInt 5) (Int32.ofInt 7)) = kk := by
    by_cases c : ac = Int32.ofInt 1
    · rw [fi_pos c]
      exact ⟨5, by decide, rfl⟩
    · rw [fi_neg c]
      exact ⟨7, by decide, rfl⟩
  obtain ⟨kfl, kfl1, kfl2⟩ := hfl
  generalize hflt : fi (ac = Int32.ofInt 1) (Int32.ofInt 5) (Int32.ofInt 7) = flt at *
  -- the ends
  obtain ⟨Out, hOut⟩ : ∃ Out : Prop, Out = (HX46_locate p ad ac (nI z) Mc ∧ HX92_finds m (nI h) ad (nI z) ac Mt ∧ ∃ Nc Nt, Evo r 8 Mc Nc ∧ WK lX46_locate Mc Nc ∧ WK lX92_finds Mt Nt ∧
      ((GX46_locate p ad ac (nI z) Mc = (Int32.ofInt 1, Nc) ∧ GX92_finds m (nI h) ad (nI z) ac Mt = (Int32.ofInt 1, Nt) ∧ RelP p h bd a fu cf rg u t hv kp fd m c1 f1 d1 w1 hq s dd x dk q rq r g sg bl cr np kn o fs B (Bk + 8) Vv K F T rt tb Nc Nt ∧ Told d1 rt tb Nt ∧ FdR fd m F T K ac md z ad Nc Nt) ∨
       (GX46_locate p ad ac (nI z) Mc = (Int32.ofInt 0, Nc) ∧ GX92_finds m (nI h) ad (nI z) ac Mt = (Int32.ofInt 0, Nt) ∧ HX92_step_96 m c1 d1 Nt ∧ RelP p h bd a fu cf rg u t hv kp fd m c1 f1 d1 w1 hq s dd x dk q rq r g sg bl cr np kn none fs B (Bk + 8) Vv K F T rt tb Nc (GX92_step_96 m c1 d1 Nt)))) := ⟨_, rfl⟩
  rw [← hOut]
  have Good : ∀ Nc Nt, FX46_locate fN p ad ac (nI z) Mc = some (Int32.ofInt 1, Nc) → FX92_finds fN m (nI h) ad (nI z) ac Mt = some (Int32.ofInt 1, Nt) → Evo r 8 Mc Nc → WK lX46_locate Mc Nc → WK lX92_finds Mt Nt →
      RelP p h bd a fu cf rg u t hv kp fd m c1 f1 d1 w1 hq s dd x dk q rq r g sg bl cr np kn o fs B (Bk + 8) Vv K F T rt tb Nc Nt → Told d1 rt tb Nt → FdR fd m F T K ac md z ad Nc Nt →
      Out := by
    intro Nc Nt f1_ f2_ E kc kt R2 To2 Fd
    have RR2 := relP_ram R2
    obtain ⟨a1, a2⟩ := op_of (d := ((0 : Int32), Mc)) f1_ (P := OkZ Mc) ⟨RR2.1.1, wk_ext W kc, Or.inr rfl⟩
    obtain ⟨b1, b2⟩ := op_of (d := ((0 : Int32), Mt)) f2_ (P := OkZ Mt) ⟨RR2.2.1.1, wk_ext W' kt, Or.inr rfl⟩
    rw [hOut]
    exact ⟨a1, b1, Nc, Nt, E, kc, kt, Or.inl ⟨a2, b2, R2, To2, Fd⟩⟩
  have Bad : ∀ Nc Nt, FX46_locate fN p ad ac (nI z) Mc = some (Int32.ofInt 0, Nc) → FX92_finds fN m (nI h) ad (nI z) ac Mt = some (Int32.ofInt 0, Nt) → Evo r 8 Mc Nc → WK lX46_locate Mc Nc → WK lX92_finds Mt Nt → Ty Nt →
      HX92_step_96 m c1 d1 Nt → RelP p h bd a fu cf rg u t hv kp fd m c1 f1 d1 w1 hq s dd x dk q rq r g sg bl cr np kn none fs B (Bk + 8) Vv K F T rt tb Nc (GX92_step_96 m c1 d1 Nt) →
      Out := by
    intro Nc Nt f1_ f2_ E kc kt TN hs R2
    have RR2 := relP_ram R2
    obtain ⟨a1, a2⟩ := op_of (d := ((0 : Int32), Mc)) f1_ (P := OkZ Mc) ⟨RR2.1.1, wk_ext W kc, Or.inl rfl⟩
    obtain ⟨b1, b2⟩ := op_of (d := ((0 : Int32), Mt)) f2_ (P := OkZ Mt) ⟨TN, wk_ext W' kt, Or.inl rfl⟩
    rw [hOut]
    exact ⟨a1, b1, Nc, Nt, E, kc, kt, Or.inr ⟨a2, b2, hs, R2⟩⟩
  have hlx : ∀ N, WK (1121 :: lX46_find) Mp N → WK lX46_locate Mc N := fun N kk => WK_t (WK_s (by decide) kP) (WK_s (by decide) kk)
  have hly : ∀ N, WK (1323 :: lX101_find) Yp N → WK lX92_finds Mt N := fun N kk => WK_t (WK_s (by decide) yP) (WK_s (by decide) kk)
  by_cases c : ul ad % 4096 + z ≤ 4096
  · -- in one page
    rw [fi_pos c, fi_pos c] at G1
    rw [fi_pos c] at G2
    rw [bz_t c] at p123 p322
    obtain ⟨Nc, Nt, E, kX, kY, out⟩ := loc_L (o := o) (fs := fs) (B := B) (Vv := Vv) (K := K) (F := F) (T := T) (rt := rt) (tb := tb) (many := 1) (ea := z) (ad := ad) (ac := ac) (md := md) (sz := nI z) (flt := flt) hV hac3 hmd (by decide) hz
      (fun k hk => by
        have : k = 0 := by omega
        subst this
        rw [e00]
        exact c) 1 0 Bk Mp Yp (by decide) RP ToP (by omega) (Or.inr ⟨by rw [p322]; decide, rfl⟩) (fun i hi => by omega) fN fN (by unfold fN; omega) (by unfold fN; omega)
    rcases out with ⟨i, i', a1, a2, a3, a4, R2, To2, kc, kt, hpl⟩ | ⟨a1, a2, aT, a3, a4⟩
    · obtain ⟨hpe, hpg⟩ := hpl 0 (by decide)
      rw [e00] at hpg
      obtain ⟨i, rfl⟩ : ∃ y, i = y + 1 + 1 + 1 := ⟨i - 3, by unfold fN at a1; omega⟩
      obtain ⟨i', rfl⟩ : ∃ y, i' = y + 1 + 1 + 1 := ⟨i' - 3, by unfold fN at a2; omega⟩
      have RR2 := relP_ram R2
      have lfd := wf_lt (relP_ram RP).1.2.1 (fm_ist rfl RP.1.2.2.2)
      have lm := wf_lt (relP_ram RP).2.1.2.1 (fm_ist rfl RP.2.1.1.1)
      have q122 : Nc.1 122 fd 0 = nI z := (congrFun (kf (f := 122) kc rfl (dj_n (L := [122]) (by decide) 122 rfl) lfd).1 0).trans p122
      have q123 : Nc.1 123 fd 0 = Int32.ofInt 1 := (congrFun (kf (f := 123) kc rfl (dj_n (L := [123]) (by decide) 123 rfl) lfd).1 0).trans p123
      have q124 : Nc.2.2 124 fd 0 = 0 := (congrFun (kf (f := 124) kc rfl (dj_n (L := [124]) (by decide) 124 rfl) lfd).2.2 0).trans p124
      have q322 : Nt.1 322 m 0 = Int32.ofInt 1 := (congrFun (kf (f := 322) kt rfl (dj_n (L := [322]) (by decide) 322 rfl) lm).1 0).trans p322
      have ekk : Nt.2.1 3 (Nt.2.2 323 m 0) 0 = Nc.2.1 3 (Nc.2.2 121 fd 0) 0 := hpe
      obtain ⟨pv, hpv⟩ : ∃ pv, Nc.2.1 3 (Nc.2.2 121 fd 0) 0 = pv := ⟨_, rfl⟩
      rw [hpv] at hpg ekk
      have hp57 : ul pv < 4611686018427387904 := by
        have := hpg.2.1
        have p57 : (2 : Nat) ^ 57 = 144115188075855872 := by decide
        omega
      obtain ⟨A1, A2, A3⟩ := one_c (ad := ad) (ac := ac) (md := md) (flt := flt) R2 q123 q124 hz hflt hpv hp57 i
      obtain ⟨C1, C2, C3⟩ := one_t (ad := ad) (ac := ac) (md := md) (flt := flt) R2 q322 hz ekk hp57 (i' + 1 + 1)
      have G1' := Eq.trans G1 a3
      have G2' := Eq.trans G2 a4
      have EX : Evo r 8 Mc Nc := evo_w (evo_q qP E) (by omega)
      have b8 : Bk + 1 ≤ Bk + 8 := by omega
      have bad : (¬ inR pv z ∧ (¬ ul ad % z = 0 ∨ wnX pv z = 5)) → Out := fun q => by
        obtain ⟨X, kk, TX, s1⟩ := A3 q.1 q.2
        have s2 := C3 q.1 q.2
        have R3 := relP_c kk (by decide) TX R2
        obtain ⟨Nc2, Nt2, e1, e2, TN2, e3, e4, e5, e6, e7⟩ := P_fail R3 kfl2 kfl1 ad
        have hq := (wrR kk (WK_r (S := []) RR2.2.1.2.1) (by decide) (by decide) TX RR2.2.1.1 RR2).2.1
        exact Bad Nc2 Nt2 (G1'.trans (s1.trans (congrArg some e1))) (G2'.trans (s2.trans (congrArg some e2))) (evo_q' (evo_q' EX hq) e5) (WK_t (hlx _ kc) (WK_t (WK_s (by decide) kk) (WK_s (by decide) e6))) (WK_t (hly _ kt) (WK_s (by decide) e7)) TN2 e3 (relP_up (Nat.le_refl _) b8 e4)
      by_cases c1_ : inR pv z
      · exact Good Nc Nt (G1'.trans (A1 c1_)) (G2'.trans (C1 c1_)) EX (hlx _ kc) (hly _ kt) (relP_up (Nat.le_refl _) b8 R2) To2 ⟨q122, by rw [q123, bz_t c], by rw [q322, bz_t c], fun _ => ⟨hpe, by rw [hpv]; exact hpg, Or.inl ⟨by rw [hpv]; exact c1_, q124⟩⟩, fun q => absurd c q⟩
      · by_cases c2_ : ul ad % z = 0
        · by_cases c3_ : wnX pv z = 5
          · exact bad ⟨c1_, Or.inr c3_⟩
          · obtain ⟨X, kk, TX, r124, ro, rx, ry, s1⟩ := A2 c1_ c2_ c3_
            have R3 := relP_c kk (by decide) TX R2
            have hq := (wrR kk (WK_r (S := []) RR2.2.1.2.1) (by decide) (by decide) TX RR2.2.1.1 RR2).2.1
            have e121 : X.2.2 121 fd 0 = Nc.2.2 121 fd 0 := ro _ _ _ (by decide)
            refine Good X Nt (G1'.trans s1) (G2'.trans (C2 c1_ c2_ c3_)) (evo_q' EX hq) (WK_t (hlx _ kc) (WK_s (by decide) kk)) (hly _ kt) (relP_up (Nat.le_refl _) b8 R3) To2 ⟨by rw [rx]; exact q122, by rw [rx]; exact q123.trans (bz_t c).symm, by rw [q322, bz_t c], fun _ => ?_, fun q => absurd c q⟩
            unfold Nt_e
            rw [e121, ry, hpv]
            exact ⟨ekk, hpg, Or.inr ⟨c1_, c3_, r124⟩⟩
        · exact bad ⟨c1_, Or.inl c2_⟩
    · exact Bad Nc Nt (Eq.trans G1 a1) (Eq.trans G2 a2) (evo_w (evo_q qP E) (by omega)) (WK_t (WK_s (by decide) kP) kX) (WK_t (WK_s (by decide) yP) kY) aT a3 (relP_up (Nat.le_refl _) (by omega) a4)
  · -- over the end of a page
    rw [fi_neg c, fi_neg c] at G1
    rw [fi_neg c] at G2
    rw [bz_f c] at p123 p322
    obtain ⟨Nc, Nt, E, kX, kY, out⟩ := loc_L (o := o) (fs := fs) (B := B) (Vv := Vv) (K := K) (F := F) (T := T) (rt := rt) (tb := tb) (many := z) (ea := 1) (ad := ad) (ac := ac) (md := md) (sz := nI z) (flt := flt) hV hac3 hmd hz8 (Or.inl rfl)
      (fun k hk => by
        have := Nat.mod_lt (ul (ad + (nI k).toInt64)) (show 0 < 4096 by decide)
        omega) z 0 Bk Mp Yp (by omega) RP ToP (by omega) (Or.inl ⟨p322, rfl⟩) (fun i hi => by omega) fN fN (by unfold fN; omega) (by unfold fN; omega)
    rcases out with ⟨i, i', a1, a2, a3, a4, R2, To2, kc, kt, hpl⟩ | ⟨a1, a2, aT, a3, a4⟩
    · obtain ⟨i, rfl⟩ : ∃ y, i = y + 1 := ⟨i - 1, by unfold fN at a1; omega⟩
      obtain ⟨i', rfl⟩ : ∃ y, i' = y + 1 := ⟨i' - 1, by unfold fN at a2; omega⟩
      have RR2 := relP_ram R2
      have v9 := R2.1.1.2.2.2.2.2.2.2.2.2
      have n92N : fm_is Nt 92 92 m = true := R2.2.1.1.1
      have lfd := wf_lt (relP_ram RP).1.2.1 (fm_ist rfl RP.1.2.2.2)
      have lm := wf_lt (relP_ram RP).2.1.2.1 (fm_ist rfl RP.2.1.1.1)
      have q122 : Nc.1 122 fd 0 = nI z := (congrFun (kf (f := 122) kc rfl (dj_n (L := [122]) (by decide) 122 rfl) lfd).1 0).trans p122
      have q123 : Nc.1 123 fd 0 = Int32.ofInt 0 := (congrFun (kf (f := 123) kc rfl (dj_n (L := [123]) (by decide) 123 rfl) lfd).1 0).trans p123
      have q124 : Nc.2.2 124 fd 0 = 0 := (congrFun (kf (f := 124) kc rfl (dj_n (L := [124]) (by decide) 124 rfl) lfd).2.2 0).trans p124
      have q322 : Nt.1 322 m 0 = Int32.ofInt 0 := (congrFun (kf (f := 322) kt rfl (dj_n (L := [322]) (by decide) 322 rfl) lm).1 0).trans p322
      have hle : nI z ≤ nI z := (n_le (by omega) (by omega)).mpr (Nat.le_refl _)
      have H90 : HX46_locate_90 p ad ac (nI z) md (nI z) (nI 1) (nI z) Nc := by
        unfold HX46_locate_90
        try dsimp only
        refine ⟨fun _ => ⟨fun _ => trivial, fun w => absurd ?_ w⟩, fun z2 => absurd hle z2⟩
        try dsimp only
        rw [v9]
        exact q123
      have g90 := (gX46_locate_90 (FX46_locate_L fN i).1 (FX46_locate_L fN i).2 p ad ac (nI z) md (nI z) (nI 1) (nI z) Nc RR2.1.1 R2.1.1.1 H90).1
      have u90 : GX46_locate_90 p ad ac (nI z) md (nI z) (nI 1) (nI z) Nc = .inr (.inl (p, ad, ac, nI z, nI 1, nI 0, Nc)) := by
        unfold GX46_locate_90 GX46_locate_234
        try dsimp only
        rw [fi_pos hle]
        try dsimp only
        rw [v9, fi_pos (show Nc.1 123 fd 0 = 0 from q123)]
        rfl
      rw [u90] at g90
      have H68 : HX92_finds_68 m (nI h) ad (nI z) ac md flt (nI z) (nI z) Nt := by
        unfold HX92_finds_68
        try dsimp only
        exact ⟨fun _ => ⟨fun _ => trivial, fun w => absurd q322 w⟩, fun z2 => absurd hle z2⟩
      have g68 := (gX92_finds_68 (FX92_finds_L fN i').1 (FX92_finds_L fN i').2 m (nI h) ad (nI z) ac md flt (nI z) (nI z) Nt RR2.2.1.1 n92N H68).1
      have u68 : GX92_finds_68 m (nI h) ad (nI z) ac md flt (nI z) (nI z) Nt = .inr (.inl (m, ad, nI z, flt, nI 0, Nt)) := by
        unfold GX92_finds_68
        try dsimp only
        rw [fi_pos hle, fi_pos (show Nt.1 322 m 0 = 0 from q322)]
        rfl
      rw [u68] at g68
      have sC : FX46_locate fN p ad ac (nI z) Mc = (FX46_locate_L fN i).2 p ad ac (nI z) (nI 1) (nI 0) Nc := by
        refine Eq.trans G1 ?_
        refine Eq.trans a3 ?_
        exact g90
      have sD : FX92_finds fN m (nI h) ad (nI z) ac Mt = (FX92_finds_L fN i').2 m ad (nI z) flt (nI 0) Nt := by
        refine Eq.trans G2 ?_
        refine Eq.trans a4 ?_
        exact g68
      have EX : Evo r 8 Mc Nc := evo_w (evo_q qP E) (by omega)
      have b8 : Bk + z ≤ Bk + 8 := by omega
      rcases chk_L (many := z) (ad := ad) (ac := ac) (flt := flt) R2 hz8 q124 hflt.symm (fun x hx => (hpl x hx).1) z 0 (by omega) i i' (by unfold fN at a1; omega) (by unfold fN at a2; omega) with ⟨d1_, d2_, d3_⟩ | ⟨x, d1_, d2_, d3_⟩
      · exact Good Nc Nt (sC.trans d2_) (sD.trans d3_) EX (hlx _ kc) (hly _ kt) (relP_up (Nat.le_refl _) b8 R2) To2 ⟨q122, q123.trans (bz_f c).symm, q322.trans (bz_f c).symm, fun q => absurd q c, fun _ => ⟨q124, fun y hy => ⟨(hpl y hy).1, (hpl y hy).2, d1_ y (Nat.zero_le _) hy⟩⟩⟩
      · obtain ⟨Nc2, Nt2, e1, e2, TN2, e3, e4, e5, e6, e7⟩ := P_fail R2 kfl2 kfl1 (ad + (nI x).toInt64)
        exact Bad Nc2 Nt2 (by rw [sC, d2_, e1]) (by rw [sD, d3_, e2]) (evo_q' EX e5) (WK_t (hlx _ kc) (WK_s (by decide) e6)) (WK_t (hly _ kt) (WK_s (by decide) e7)) TN2 e3 (relP_up (Nat.le_refl _) b8 e4)
    · exact Bad Nc Nt (Eq.trans G1 a1) (Eq.trans G2 a2) (evo_w (evo_q qP E) (by omega)) (WK_t (WK_s (by decide) kP) kX) (WK_t (WK_s (by decide) yP) kY) aT a3 (relP_up (Nat.le_refl _) (by omega) a4)
end Lr
