/-! a processor against the twin's: stores of integers, atomics -/
set_option maxRecDepth 100000
section At
variable {p h bd a fu rg u t hv kp fd m c1 f1 d1 w1 hq s dd x dk q rq r g sg bl cr np : Nat} {cf : Nat → Nat} {kn : Int32} {o : Option Wt} {w : Wt} {fs : Fs} {B Bk Vv : Nat} {K : Rg} {F T : Nat → Nat} {rt : Int32} {tb : Int64} {Mc Mt Nc Nt : FM} {z k : Nat} {ad : Int64} {ac md : Int32}
theorem iz_z (hz : z = 1 ∨ z = 2 ∨ z = 4 ∨ z = 8) : (lN z).toInt32 = nI z := ui_inj (by rw [ui_low, ul_lN, ui_nI]; omega)
theorem P_storeI (R : RelP p h bd a fu cf rg u t hv kp fd m c1 f1 d1 w1 hq s dd x dk q rq r g sg bl cr np kn (some w) fs B Bk Vv K F T rt tb Mc Mt) (To : Told d1 rt tb Mt) (hl : Mt.1 354 c1 0 = Int32.ofInt 2 ∨ Mt.1 354 c1 0 = Int32.ofInt 4) (hw : fs.2.2.2.1 = Int32.ofInt 0) (hB : Bk + 8 < 9223372036854775808) (hB' : B < 2147483000) (hV : Vv < 2147483648) (hz : z = 1 ∨ z = 2 ∨ z = 4 ∨ z = 8) (hq' : w.2.2.1 = lN z) :
    HX46_store p Mc ∧ HX92_store m (nI h) w.2.1 (nI z) w.2.2.2.1 Mt ∧ OutP p h bd a fu cf rg u t hv kp fd m c1 f1 d1 w1 hq s dd x dk q rq r g sg bl cr np kn B Bk Vv rt tb Mc Mt (GX46_store p Mc) (GX92_store m (nI h) w.2.1 (nI z) w.2.2.2.1 Mt) := by
  have v2 : Mc.2.2 211 p 0 = a := R.1.1.2.2.2.1
  obtain ⟨⟨q0, q0'⟩, _⟩ := P_want R (k := 0) (by decide)
  obtain ⟨⟨q1, q1'⟩, _⟩ := P_want R (k := 1) (by decide)
  have e0 : Int32.ofInt 0 = nI 0 := rfl
  have e1 : Int32.ofInt 1 = nI 1 := rfl
  have w0 : wq w 0 = w.2.1 := rfl
  have w1' : wq w 1 = lN z := hq'
  rw [w0] at q0'
  rw [w1'] at q1'
  obtain ⟨hH, hL, Nc, Nt, cN, tN, a2, b2, out⟩ := P_store (v := w.2.2.2.1) R To hl hw hB hB' hV hz
  rw [b2]
  rcases out with ⟨rfl, rfl, ⟨Mt', R2⟩, E, kc, ⟨s1, s2, s3⟩, O⟩ | ⟨rfl, rfl, O⟩
  · obtain ⟨⟨r0, r0'⟩, _⟩ := P_want R2 (k := 2) (by decide)
    have w2' : wq w 2 = w.2.2.2.1 := rfl
    rw [w2'] at r0'
    have v2' : Nc.2.2 211 p 0 = a := R2.1.1.2.2.2.1
    have v9 : Nc.2.2 217 p 0 = fd := R2.1.1.2.2.2.2.2.2.2.2.2
    have b210 : Nc.2.2 210 p 0 = bd := R2.1.1.2.2.1
    have e2 : Int32.ofInt 2 = nI 2 := rfl
    have eG : GX46_store p Mc = (Int32.ofInt 1, (GX47_finish a (Int32.ofInt 0) (Int64.ofInt 0) (GX73_store fd bd w.2.2.2.1 Nc)).2) := by
      unfold GX46_store GX46_store_0
      try dsimp only
      rw [v2, show GX47_wanted a (Int32.ofInt 0) Mc = _ from q0']
      try dsimp only
      rw [v2, show GX47_wanted a (Int32.ofInt 1) Mc = _ from q1']
      try dsimp only
      rw [iz_z hz, a2]
      try dsimp only
      rw [fi_neg (show ¬ Int32.ofInt 1 = 0 by decide), v2', show GX47_wanted a (Int32.ofInt 2) Nc = _ from r0']
      try dsimp only
      rw [v9, b210, s2]
    refine ⟨?_, hH, by rw [eG]; exact O⟩
    unfold HX46_store HX46_store_0
    try dsimp only
    rw [v2, show GX47_wanted a (Int32.ofInt 0) Mc = _ from q0']
    try dsimp only
    rw [v2, show GX47_wanted a (Int32.ofInt 1) Mc = _ from q1']
    try dsimp only
    rw [iz_z hz, a2]
    refine ⟨q0, q1, hL, fun c => absurd c (show ¬ Int32.ofInt 1 = 0 by decide), fun _ => ?_⟩
    try dsimp only
    rw [v2', show GX47_wanted a (Int32.ofInt 2) Nc = _ from r0']
    try dsimp only
    rw [v9, b210, s2]
    exact ⟨r0, s1, s3, trivial⟩
  · have eG : GX46_store p Mc = (Int32.ofInt 0, Nc) := by
      unfold GX46_store GX46_store_0
      try dsimp only
      rw [v2, show GX47_wanted a (Int32.ofInt 0) Mc = _ from q0']
      try dsimp only
      rw [v2, show GX47_wanted a (Int32.ofInt 1) Mc = _ from q1']
      try dsimp only
      rw [iz_z hz, a2]
      try dsimp only
      rw [fi_pos (show Int32.ofInt 0 = 0 from rfl)]
    refine ⟨?_, hH, by rw [eG]; exact O⟩
    unfold HX46_store HX46_store_0
    try dsimp only
    rw [v2, show GX47_wanted a (Int32.ofInt 0) Mc = _ from q0']
    try dsimp only
    rw [v2, show GX47_wanted a (Int32.ofInt 1) Mc = _ from q1']
    try dsimp only
    rw [iz_z hz, a2]
    exact ⟨q0, q1, hL, fun _ => trivial, fun c => absurd rfl c⟩
/-- the twin finds what the component finds at once -/
theorem finds_1 (R : RelP p h bd a fu cf rg u t hv kp fd m c1 f1 d1 w1 hq s dd x dk q rq r g sg bl cr np kn o fs B Bk Vv K F T rt tb Mc Mt) (To : Told d1 rt tb Mt) (hB : Bk < 9223372036854775808) (hV : Vv < 2147483648) (hac : ac = Int32.ofInt 1 ∨ ac = Int32.ofInt 2) (hz : z = 1 ∨ z = 2 ∨ z = 4 ∨ z = 8) (hc : ul ad % 4096 + z ≤ 4096) (hd : dMo d1 Mt = md) :
    ∃ pv Nc Z, (HX46_find p ad ac md (nI z) Mc ∧ GX46_find p ad ac md (nI z) Mc = (pv, Nc)) ∧ HX92_finds m (nI h) ad (nI z) ac Mt ∧ RelP p h bd a fu cf rg u t hv kp fd m c1 f1 d1 w1 hq s dd x dk q rq r g sg bl cr np kn o fs B (Bk + 1) Vv K F T rt tb Nc Z ∧ Told d1 rt tb Z ∧ Evo r 1 Mc Nc ∧ WK (322 :: 358 :: 1323 :: lX101_find) Mt Z ∧ Z.1 322 m 0 = Int32.ofInt 1 ∧ Z.2.1 3 (Z.2.2 323 m 0) 0 = pv ∧
      ((lg_cmp pv (Int64.ofInt 0) < 0 ∧ (∃ kk, kk < 64 ∧ (-pv).toInt32 = nI kk) ∧ GX92_finds m (nI h) ad (nI z) ac Mt = GX92_fail m (-pv).toInt32 ad Z) ∨
       (PlG F T K ac md z ad pv ∧ (inR pv z → GX92_finds m (nI h) ad (nI z) ac Mt = (Int32.ofInt 1, Z)) ∧
          (¬ inR pv z → GX92_finds m (nI h) ad (nI z) ac Mt = (Int32.ofInt 1, Z) ∨ GX92_finds m (nI h) ad (nI z) ac Mt = GX92_fail m (fi (ac = Int32.ofInt 1) (Int32.ofInt 5) (Int32.ofInt 7)) ad Z))) := by
  have RR := relP_ram R
  have Tm := RR.2.1.1
  have W' := RR.2.1.2.1
  have n92 : fm_is Mt 92 92 m = true := R.2.1.1.1
  have nd := R.2.2.2.2.1.2.1.2.1
  have hz8 : z ≤ 8 := by omega
  have hmd := dMo_m R
  rw [hd] at hmd
  have y1 : WK [358] Mt (fm_sI Mt 358 d1 0 (Int32.ofInt 0)) := WK_I W' nd rfl rfl _
  have y2 : WK [322] (fm_sI Mt 358 d1 0 (Int32.ofInt 0)) (fm_sI (fm_sI Mt 358 d1 0 (Int32.ofInt 0)) 322 m 0 (bz (ul ad % 4096 + z ≤ 4096))) := WK_I y1.1.1 (show fm_is (fm_sI Mt 358 d1 0 (Int32.ofInt 0)) 92 92 m = true from n92) rfl rfl _
  have yP : WK [322, 358] Mt (fm_sI (fm_sI Mt 358 d1 0 (Int32.ofInt 0)) 322 m 0 (bz (ul ad % 4096 + z ≤ 4096))) := WK_t (WK_s (by decide) y1) (WK_s (by decide) y2)
  have TY : Ty (fm_sI (fm_sI Mt 358 d1 0 (Int32.ofInt 0)) 322 m 0 (bz (ul ad % 4096 + z ≤ 4096))) := ⟨Tm.1, tyb_sIb rfl (tyb_sI (f := 358) rfl Tm.2) (bz_z _)⟩
  have RP := relP_t yP (by decide) TY R
  have ToP := told_k yP (by decide) Tm W' nd To
  have p322 : (fm_sI (fm_sI Mt 358 d1 0 (Int32.ofInt 0)) 322 m 0 (bz (ul ad % 4096 + z ≤ 4096))).1 322 m 0 = Int32.ofInt 1 := by rw [rIe, bz_t hc]
  obtain ⟨HL2, L2⟩ := loc_t (ad := ad) (ac := ac) R hz8
  have G2 := (gX92_finds_0 (FX92_finds_L fN fN).1 (FX92_finds_L fN fN).2 m (nI h) ad (nI z) ac Mt Tm n92 HL2).1
  rw [L2, fi_pos hc, hd] at G2
  generalize hYp : fm_sI (fm_sI Mt 358 d1 0 (Int32.ofInt 0)) 322 m 0 (bz (ul ad % 4096 + z ≤ 4096)) = Yp at *
  generalize hflt : fi (ac = Int32.ofInt 1) (Int32.ofInt 5) (Int32.ofInt 7) = flt at *
  obtain ⟨pv, Nc, Nt, ⟨f1_, f2_⟩, ⟨g1_, g2_⟩, R2, To2, E2, kc, kt, hval, _⟩ := P_find (ad := ad) (ac := ac) (z := z) RP ToP hmd (Or.inr hac) hz hc hB hV
  have RRP := relP_ram RP
  have RR2 := relP_ram R2
  have W2' := RR2.2.1.2.1
  have n92P : fm_is Yp 92 92 m = true := RP.2.1.1.1
  have n92N : fm_is Nt 92 92 m = true := R2.2.1.1.1
  obtain ⟨x0, x1, x2, x3, ⟨x4, x5⟩, ⟨x6, x7⟩, ⟨x8, x9⟩, ⟨xa, xb⟩, xc⟩ := RP.2.1.1
  have hcl : (nI h).toNatClampNeg = h := o_cl (by omega)
  have nw1 : fm_is Yp 101 101 w1 = true := RP.2.2.2.2.2.2.1.2.1.1
  have n323' := tN_323 RR2.2.1.1.1 n92N
  have e323 : Nt.2.2 323 m 0 = Yp.2.2 323 m 0 := congrFun (kf (f := 323) kt rfl (dj_n (L := [323]) (by decide) 323 rfl) (wf_lt RRP.2.1.2.1 (fm_ist rfl n92P))).2.2 0
  have k1' : WK [1323] Nt (fm_sL Nt 3 (Nt.2.2 323 m 0) 0 pv) := WK_aL W2' n323' (sS_323 W2' n92N) pv
  have T1' : Ty (fm_sL Nt 3 (Nt.2.2 323 m 0) 0 pv) := ⟨RR2.2.1.1.1, RR2.2.1.1.2⟩
  have R3 := relP_t k1' (by decide) T1' R2
  have To3 := told_k k1' (by decide) RR2.2.1.1 W2' R2.2.2.2.2.1.2.1.2.1 To2
  have intw : fm_in Nt (Nt.2.2 323 m 0) (nI 0) = true := in_nI (tL_323 RR2.2.1.1.1 n92N) (by omega) (by decide)
  have intw' : fm_in (fm_sL Nt 3 (Nt.2.2 323 m 0) 0 pv) (Nt.2.2 323 m 0) (nI 0) = true := intw
  have z323 : (fm_sL Nt 3 (Nt.2.2 323 m 0) 0 pv).2.2 323 m 0 = Nt.2.2 323 m 0 := rfl
  have zv' : (fm_sL Nt 3 (Nt.2.2 323 m 0) 0 pv).2.1 3 (Nt.2.2 323 m 0) 0 = pv := rLe _
  have z322 : (fm_sL Nt 3 (Nt.2.2 323 m 0) 0 pv).1 322 m 0 = Int32.ofInt 1 := (congrFun (kf (f := 322) kt rfl (dj_n (L := [322]) (by decide) 322 rfl) (wf_lt RRP.2.1.2.1 (fm_ist rfl n92P))).1 0).trans p322
  have h0c' : (nI 0).toNatClampNeg = 0 := rfl
  have hk1 : nI 0 + Int32.ofInt 1 = nI 1 := rfl
  have nle0 : ¬ nI 1 ≤ nI 0 := by decide
  have n322 : ¬ Yp.1 322 m 0 = 0 := by rw [p322]; decide
  have kZ : WK (322 :: 358 :: 1323 :: lX101_find) Mt (fm_sL Nt 3 (Nt.2.2 323 m 0) 0 pv) := WK_t (WK_s (by decide) yP) (WK_t (WK_s (by decide) kt) (WK_s (by decide) k1'))
  have n92Z : fm_is (fm_sL Nt 3 (Nt.2.2 323 m 0) 0 pv) 92 92 m = true := n92N
  have H68 : HX92_finds_68 m (nI h) ad (nI z) ac md flt (nI 1) (nI 0) Yp := by
    unfold HX92_finds_68
    try dsimp only
    refine ⟨fun w => absurd w nle0, fun _ => ?_⟩
    try dsimp only
    rw [hcl, xb]
    refine ⟨in_nI xa (by omega) (by decide), fun w => absurd w n322, fun _ => ⟨nw1, ?_⟩⟩
    unfold HX92_finds_109
    try dsimp only
    rw [e00, g2_]
    try dsimp only
    rw [← e323, h0c', z323]
    exact ⟨g1_, intw, intw', fun _ => trivial, fun _ => ⟨intw', trivial⟩⟩
  have U68 : GX92_finds_68 m (nI h) ad (nI z) ac md flt (nI 1) (nI 0) Yp = fi (0 ≤ lg_cmp pv (Int64.ofInt 0)) (.inl (m, nI h, ad, nI z, ac, md, flt, nI 1, nI 1, fm_sL Nt 3 (Nt.2.2 323 m 0) 0 pv)) (.inr (.inr (GX92_fail m (-pv).toInt32 ad (fm_sL Nt 3 (Nt.2.2 323 m 0) 0 pv)))) := by
    unfold GX92_finds_68
    try dsimp only
    rw [fi_neg nle0]
    try dsimp only
    rw [fi_neg n322]
    unfold GX92_finds_109
    try dsimp only
    rw [hcl, xb, e00, g2_]
    try dsimp only
    rw [← e323, h0c', z323, zv', hk1]
  obtain ⟨y, hy⟩ : ∃ y, fN = y + 1 + 1 := ⟨fN - 2, by unfold fN; omega⟩
  have g68 := gX92_finds_68 (FX92_finds_L fN (y + 1)).1 (FX92_finds_L fN (y + 1)).2 m (nI h) ad (nI z) ac md flt (nI 1) (nI 0) Yp RRP.2.1.1 n92P H68
  have s0 : FX92_finds fN m (nI h) ad (nI z) ac Mt = kX92_finds (FX92_finds_L fN (y + 1)).1 (FX92_finds_L fN (y + 1)).2 (GX92_finds_68 m (nI h) ad (nI z) ac md flt (nI 1) (nI 0) Yp) := by
    refine Eq.trans G2 ?_
    show (FX92_finds_L fN fN).1 m (nI h) ad (nI z) ac md flt (nI 1) (nI 0) Yp = _
    rw [show (FX92_finds_L fN fN).1 = (FX92_finds_L fN (y + 1 + 1)).1 from congrArg (fun n => (FX92_finds_L fN n).1) hy]
    exact g68.1
  generalize hZ : fm_sL Nt 3 (Nt.2.2 323 m 0) 0 pv = Z at *
  have RR3 := relP_ram R3
  have zrow : Z.2.1 3 (Z.2.2 323 m 0) 0 = pv := by rw [z323]; exact zv'
  have Fin : ∀ v : Int32, (v = 0 ∨ v = 1) → ∀ Q : FM, Ty Q → WK (320 :: 321 :: 322 :: 358 :: 1323 :: lX101_find) Mt Q → FX92_finds fN m (nI h) ad (nI z) ac Mt = some (v, Q) → HX92_finds m (nI h) ad (nI z) ac Mt ∧ GX92_finds m (nI h) ad (nI z) ac Mt = (v, Q) := fun v hv' Q TQ kQ e => op_of (d := ((0 : Int32), Mt)) e (P := OkZ Mt) ⟨TQ, wk_ext W' kQ, hv'⟩
  have failK : ∀ c : Int32, WK (320 :: 321 :: 322 :: 358 :: 1323 :: lX101_find) Mt (GX92_fail m c ad Z).2 ∧ Ty (GX92_fail m c ad Z).2 := fun c => by
    have k2 : WK [320] Z (fm_sI Z 320 m 0 c) := WK_I RR3.2.1.2.1 n92Z rfl rfl _
    have k3 : WK [321] (fm_sI Z 320 m 0 c) (fm_sL (fm_sI Z 320 m 0 c) 321 m 0 ad) := WK_L k2.1.1 (show fm_is (fm_sI Z 320 m 0 c) 92 92 m = true from n92Z) rfl rfl _
    exact ⟨WK_t (WK_s (by decide) kZ) (WK_t (WK_s (by decide) k2) (WK_s (by decide) k3)), RR3.2.1.1.1, tyb_sI rfl RR3.2.1.1.2⟩
  rcases fin_v (Or.inr hac) hval with ⟨ng, hf⟩ | ⟨ng, h57, h4096, hl, _⟩
  · have ng' : ¬ 0 ≤ lg_cmp pv (Int64.ofInt 0) := fun w => by
      try dsimp only
      rw [cl_ge] at w
      rw [cl_lt] at ng
      omega
    rw [U68, fi_neg ng'] at s0
    obtain ⟨a1, a2⟩ := Fin (Int32.ofInt 0) (Or.inl rfl) _ (failK _).2 (failK (-pv).toInt32).1 s0
    exact ⟨pv, Nc, Z, ⟨f1_, f2_⟩, a1, R3, To3, E2, kZ, z322, zrow, Or.inl ⟨ng, (acF_g (Or.inr hac) hf).2, a2⟩⟩
  · have ge := ge_ng ng
    rw [U68, fi_pos ge] at s0
    have hp57 : ul pv < 4611686018427387904 := by
      have p57 : (2 : Nat) ^ 57 = 144115188075855872 := by decide
      omega
    obtain ⟨C1, C2, C3⟩ := one_t (ad := ad) (ac := ac) (md := md) (flt := flt) R3 z322 hz zrow hp57 y
    have PG : PlG F T K ac md z ad pv := ⟨ng, h57, h4096, hl⟩
    have kZ' : WK (320 :: 321 :: 322 :: 358 :: 1323 :: lX101_find) Mt Z := WK_s (by decide) kZ
    by_cases c1_ : inR pv z
    · obtain ⟨a1, a2⟩ := Fin (Int32.ofInt 1) (Or.inr rfl) Z RR3.2.1.1 kZ' (s0.trans (C1 c1_))
      exact ⟨pv, Nc, Z, ⟨f1_, f2_⟩, a1, R3, To3, E2, kZ, z322, zrow, Or.inr ⟨PG, fun _ => a2, fun w => absurd c1_ w⟩⟩
    · by_cases c2_ : ul ad % z = 0 ∧ ¬ wnX pv z = 5
      · obtain ⟨a1, a2⟩ := Fin (Int32.ofInt 1) (Or.inr rfl) Z RR3.2.1.1 kZ' (s0.trans (C2 c1_ c2_.1 c2_.2))
        exact ⟨pv, Nc, Z, ⟨f1_, f2_⟩, a1, R3, To3, E2, kZ, z322, zrow, Or.inr ⟨PG, fun w => absurd w c1_, fun _ => Or.inl a2⟩⟩
      · have c3_ : ¬ ul ad % z = 0 ∨ wnX pv z = 5 := by
          by_cases b : ul ad % z = 0
          · exact Or.inr (Classical.byContradiction (fun w => c2_ ⟨b, w⟩))
          · exact Or.inl b
        obtain ⟨a1, a2⟩ := Fin (Int32.ofInt 0) (Or.inl rfl) _ (failK _).2 (failK flt).1 (s0.trans (C3 c1_ c3_))
        exact ⟨pv, Nc, Z, ⟨f1_, f2_⟩, a1, R3, To3, E2, kZ, z322, zrow, Or.inr ⟨PG, fun w => absurd w c1_, fun _ => Or.inr a2⟩⟩
end At
