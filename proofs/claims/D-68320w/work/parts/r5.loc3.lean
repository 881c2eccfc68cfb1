/-! finding data: both sides -/
set_option maxRecDepth 100000
/-- what was found: the places are the same, memory or one window is there -/
def FdR (fd m : Nat) (F T : Nat → Nat) (K : Rg) (ac md : Int32) (s : Nat) (ad : Int64) (Mc Mt : FM) : Prop :=
  Mc.1 122 fd 0 = nI s ∧ Mc.1 123 fd 0 = bz (ul ad % 4096 + s ≤ 4096) ∧ Mt.1 322 m 0 = bz (ul ad % 4096 + s ≤ 4096) ∧
  (ul ad % 4096 + s ≤ 4096 → Nt_e fd m Mc Mt 0 ∧ PlG F T K ac md s ad (Mc.2.1 3 (Mc.2.2 121 fd 0) 0) ∧
    ((inR (Mc.2.1 3 (Mc.2.2 121 fd 0) 0) s ∧ Mc.2.2 124 fd 0 = 0) ∨
     (¬ inR (Mc.2.1 3 (Mc.2.2 121 fd 0) 0) s ∧ wnX (Mc.2.1 3 (Mc.2.2 121 fd 0) 0) s ≠ 5 ∧ Mc.2.2 124 fd 0 = wcd (wnX (Mc.2.1 3 (Mc.2.2 121 fd 0) 0) s)))) ∧
  (¬ ul ad % 4096 + s ≤ 4096 → Mc.2.2 124 fd 0 = 0 ∧ ∀ i, i < s → Nt_e fd m Mc Mt i ∧ PlG F T K ac md 1 (ad + (nI i).toInt64) (Mc.2.1 3 (Mc.2.2 121 fd 0) i) ∧ inR (Mc.2.1 3 (Mc.2.2 121 fd 0) i) 1)
section Lq
variable {p h bd a fu rg u t hv kp fd m c1 f1 d1 w1 hq s dd x dk q rq r g sg bl cr np : Nat} {cf : Nat → Nat} {kn : Int32} {o : Option Wt} {fs : Fs} {B Bk Vv : Nat} {K : Rg} {F T : Nat → Nat} {rt : Int32} {tb : Int64} {Mc Mt : FM} {ad : Int64} {ac : Int32} {z : Nat}
theorem dMo_m (R : RelP p h bd a fu cf rg u t hv kp fd m c1 f1 d1 w1 hq s dd x dk q rq r g sg bl cr np kn o fs B Bk Vv K F T rt tb Mc Mt) : dMo d1 Mt = 0 ∨ dMo d1 Mt = Int32.ofInt 1 ∨ dMo d1 Mt = Int32.ofInt 3 := by
  have hv := R.2.2.2.2.1.2.1.2.2.2.1
  have hm := R.2.2.2.2.1.2.2.2.2.1.2
  unfold dMo
  by_cases c : lb (ht Mt d1 768) 17 = true
  · rw [fi_pos c]
    rw [tw_is] at hv ⊢
    by_cases a : lb (ht Mt d1 768) 11 = true <;> by_cases b : lb (ht Mt d1 768) (11 + 1) = true
    · rw [fi_pos a, fi_pos b]
      exact Or.inr (Or.inr rfl)
    · rw [fi_pos a, fi_neg b]
      exact Or.inr (Or.inl rfl)
    · rw [fi_neg a, fi_pos b] at hv
      exact absurd rfl hv
    · rw [fi_neg a, fi_neg b]
      exact Or.inl rfl
  · rw [fi_neg c]
    exact hm
/-- an exception of one instruction: the component's at once, the twin's noted -/
theorem P_fail (R : RelP p h bd a fu cf rg u t hv kp fd m c1 f1 d1 w1 hq s dd x dk q rq r g sg bl cr np kn o fs B Bk Vv K F T rt tb Mc Mt) {c : Int32} {kc : Nat} (hc : ui c = kc) (hk : kc < 64) (v : Int64) :
    ∃ Nc Nt, GX46_raise p c v Mc = (Int32.ofInt 0, Nc) ∧ GX92_fail m c v Mt = (Int32.ofInt 0, Nt) ∧ Ty Nt ∧ HX92_step_96 m c1 d1 Nt ∧ RelP p h bd a fu cf rg u t hv kp fd m c1 f1 d1 w1 hq s dd x dk q rq r g sg bl cr np kn none fs B Bk Vv K F T rt tb Nc (GX92_step_96 m c1 d1 Nt) ∧
      RamQ r Mc Nc ∧ WK lX46_raise Mc Nc ∧ WK [320, 321] Mt Nt := by
  have RR := relP_ram R
  have n92 : fm_is Mt 92 92 m = true := R.2.1.1.1
  have k2 : WK [320] Mt (fm_sI Mt 320 m 0 c) := WK_I RR.2.1.2.1 n92 rfl rfl _
  have n92' : fm_is (fm_sI Mt 320 m 0 c) 92 92 m = true := n92
  have k3 : WK [321] (fm_sI Mt 320 m 0 c) (fm_sL (fm_sI Mt 320 m 0 c) 321 m 0 v) := WK_L k2.1.1 n92' rfl rfl _
  have T3 : Ty (fm_sL (fm_sI Mt 320 m 0 c) 321 m 0 v) := ⟨RR.2.1.1.1, tyb_sI rfl RR.2.1.1.2⟩
  have k23 : WK [320, 321] Mt (fm_sL (fm_sI Mt 320 m 0 c) 321 m 0 v) := WK_t (WK_s (by decide) k2) (WK_s (by decide) k3)
  have R3 := relP_t k23 (by decide) T3 R
  obtain ⟨Nc, Nt2, e1, ⟨e2, e3⟩, R4, kr, kr'⟩ := P_raise R3 hc hk v (by
    show (fm_sI Mt 320 m 0 c).1 320 m 0 = c
    exact rIe _) (rLe _)
  exact ⟨Nc, _, e1, rfl, T3, e2, by rw [e3]; exact R4, (wrR kr (WK_r (S := []) RR.2.1.2.1) (by decide) (by decide) (relP_ram R4).1.1 RR.2.1.1 RR).2.1, kr, k23⟩
/-- the component's start -/
theorem loc_c (R : RelP p h bd a fu cf rg u t hv kp fd m c1 f1 d1 w1 hq s dd x dk q rq r g sg bl cr np kn o fs B Bk Vv K F T rt tb Mc Mt) (hz : z ≤ 8) : GX46_locate_0 p ad ac (nI z) Mc =
    .inl (p, ad, ac, nI z, dMo d1 Mt, fi (ul ad % 4096 + z ≤ 4096) (nI 1) (nI z), fi (ul ad % 4096 + z ≤ 4096) (nI z) (nI 1), nI 0, fm_sI (fm_sR (fm_sI Mc 122 fd 0 (nI z)) 124 fd 0 0) 123 fd 0 (bz (ul ad % 4096 + z ≤ 4096))) := by
  have v9 := R.1.1.2.2.2.2.2.2.2.2.2
  have e1 : (fm_sI Mc 122 fd 0 (nI z)).2.2 217 p 0 = fd := v9
  have e2 : (fm_sR (fm_sI Mc 122 fd 0 (nI z)) 124 fd 0 0).2.2 217 p 0 = fd := by
    rw [rR, if_neg (fun q => absurd q.1 (by decide))]
    exact v9
  have e3 : ∀ v, (fm_sI (fm_sR (fm_sI Mc 122 fd 0 (nI z)) 124 fd 0 0) 123 fd 0 v).2.2 217 p 0 = fd := fun v => e2
  have e4 : ∀ v, (fm_sI (fm_sR (fm_sI Mc 122 fd 0 (nI z)) 124 fd 0 0) 123 fd 0 v).1 123 fd 0 = v := fun v => rIe _
  have ov := pg_over ad (n := nI z) rfl hz
  have dm := c_dataMode R.2.2.2.2.1 R.1.1.2.2.2.2.2.1
  unfold GX46_locate_0 GX46_locate_48 GX46_locate_67 GX46_locate_85
  try dsimp only
  rw [dm]
  try dsimp only
  rw [v9, e1, e2]
  try dsimp only
  rw [e3, e3, e4, e4]
  by_cases c : ul ad % 4096 + z ≤ 4096
  · rw [fi_neg (fun q => ov.mp q c), fi_neg (show ¬ Int32.ofInt 1 = 0 by decide), fi_neg (show ¬ Int32.ofInt 1 = 0 by decide), fi_pos c, fi_pos c, bz_t c]
    try rfl
  · rw [fi_pos (ov.mpr c), fi_pos (show Int32.ofInt 0 = 0 from rfl), fi_pos (show Int32.ofInt 0 = 0 from rfl), fi_neg c, fi_neg c, bz_f c]
    try rfl
theorem loc_t (R : RelP p h bd a fu cf rg u t hv kp fd m c1 f1 d1 w1 hq s dd x dk q rq r g sg bl cr np kn o fs B Bk Vv K F T rt tb Mc Mt) (hz : z ≤ 8) : HX92_finds_0 m (nI h) ad (nI z) ac Mt ∧ GX92_finds_0 m (nI h) ad (nI z) ac Mt =
    .inl (m, nI h, ad, nI z, ac, dMo d1 Mt, fi (ac = Int32.ofInt 1) (Int32.ofInt 5) (Int32.ofInt 7), fi (ul ad % 4096 + z ≤ 4096) (nI 1) (nI z), nI 0, fm_sI (fm_sI Mt 358 d1 0 (Int32.ofInt 0)) 322 m 0 (bz (ul ad % 4096 + z ≤ 4096))) := by
  obtain ⟨y0, y1, y2, y3, ⟨y4, y5⟩, ⟨y6, y7⟩, ⟨y8, y9⟩, ⟨ya, yb⟩, yc⟩ := R.2.1.1
  have hcl : (nI h).toNatClampNeg = h := o_cl (by omega)
  have nd := R.2.2.2.2.1.2.1.2.1
  have ov := pg_over ad (n := nI z) rfl hz
  have e4 : ∀ v, (fm_sI (fm_sI Mt 358 d1 0 (Int32.ofInt 0)) 322 m 0 v).1 322 m 0 = v := fun v => rIe _
  have key : ∀ fl : Int32, GX92_finds_23 m (nI h) ad (nI z) ac (dMo d1 Mt) fl (fm_sI Mt 358 d1 0 (Int32.ofInt 0)) = .inl (m, nI h, ad, nI z, ac, dMo d1 Mt, fl, fi (ul ad % 4096 + z ≤ 4096) (nI 1) (nI z), nI 0, fm_sI (fm_sI Mt 358 d1 0 (Int32.ofInt 0)) 322 m 0 (bz (ul ad % 4096 + z ≤ 4096))) := by
    intro fl
    unfold GX92_finds_23 GX92_finds_47 GX92_finds_63
    try dsimp only
    rw [e4, e4]
    by_cases c : ul ad % 4096 + z ≤ 4096
    · rw [fi_neg (fun q => ov.mp q c), fi_neg (show ¬ Int32.ofInt 1 = 0 by decide), fi_pos c, bz_t c]
      try rfl
    · rw [fi_pos (ov.mpr c), fi_pos (show Int32.ofInt 0 = 0 from rfl), fi_neg c, bz_f c]
      try rfl
  constructor
  · unfold HX92_finds_0
    try dsimp only
    rw [hcl, y9]
    exact ⟨in_nI y8 (by omega) (by decide), nd, trivial⟩
  · unfold GX92_finds_0
    try dsimp only
    rw [hcl, y9, t_dataMode]
    try dsimp only
    have eD : fi (lb (ht Mt d1 768) 17 = true) (tw (ht Mt d1 768) 11) (Mt.1 360 d1 0) = dMo d1 Mt := rfl
    rw [eD]
    by_cases c : ac = Int32.ofInt 1
    · rw [fi_pos c, fi_pos c, key]
    · rw [fi_neg c, fi_neg c, key]
theorem e00 (x : Int64) : x + (nI 0).toInt64 = x := by rw [show (nI 0).toInt64 = 0 from by decide, Int64.add_zero]
/-- the component behind its one place -/
theorem one_c {md flt : Int32} (R : RelP p h bd a fu cf rg u t hv kp fd m c1 f1 d1 w1 hq s dd x dk q rq r g sg bl cr np kn o fs B Bk Vv K F T rt tb Mc Mt) (h123 : Mc.1 123 fd 0 = Int32.ofInt 1) (h124 : Mc.2.2 124 fd 0 = 0) (hz : z = 1 ∨ z = 2 ∨ z = 4 ∨ z = 8) (hflt : fi (ac = Int32.ofInt 1) (Int32.ofInt 5) (Int32.ofInt 7) = flt) {pv : Int64} (hpv : Mc.2.1 3 (Mc.2.2 121 fd 0) 0 = pv) (hp : ul pv < 4611686018427387904) (i : Nat) :
    (inR pv z → (FX46_locate_L fN (i + 1 + 1 + 1)).1 p ad ac (nI z) md (nI 1) (nI z) (nI 1) Mc = some (Int32.ofInt 1, Mc)) ∧
    (¬ inR pv z → ul ad % z = 0 → ¬ wnX pv z = 5 → ∃ X, WK [124] Mc X ∧ Ty X ∧ X.2.2 124 fd 0 = wcd (wnX pv z) ∧ (∀ f a b, f ≠ 124 → X.2.2 f a b = Mc.2.2 f a b) ∧ X.1 = Mc.1 ∧ X.2.1 = Mc.2.1 ∧ (FX46_locate_L fN (i + 1 + 1 + 1)).1 p ad ac (nI z) md (nI 1) (nI z) (nI 1) Mc = some (Int32.ofInt 1, X)) ∧
    (¬ inR pv z → (¬ ul ad % z = 0 ∨ wnX pv z = 5) → ∃ X, WK [124] Mc X ∧ Ty X ∧ (FX46_locate_L fN (i + 1 + 1 + 1)).1 p ad ac (nI z) md (nI 1) (nI z) (nI 1) Mc = some (GX46_raise p flt ad X)) := by
  have RR2 := relP_ram R
  have v9 := R.1.1.2.2.2.2.2.2.2.2.2
  have b210 : Mc.2.2 210 p 0 = bd := R.1.1.2.2.1
  have b18 : Mc.2.2 18 bd 0 = r := R.2.2.2.2.2.2.2.2.1.1.2.2.1
  have SB := R.2.2.2.2.2.2.2.2.1.1.1
  have nfdN := R.1.2.2.2
  have npN := R.1.1.1
  have hz8 : z ≤ 8 := by omega
  have h0c : (Int32.ofInt 0).toNatClampNeg = 0 := rfl
  have ez : (nI z).toInt64 = lN z := o_64 (by omega)
  have ulz : ul (lN z) = z := by rw [ul_lN]; omega
  have hhas : ∀ X : FM, X.1 202 r 0 = Int32.ofInt 1024 → GX11_has r pv (lN z) X = (bz (inR pv z), X) := fun X hX => by
    have := X11_has (a := pv) hX (b := lN z) (by rw [ulz]; omega)
    rw [ulz] at this
    exact this
  obtain ⟨hfH, hfG⟩ := X10_find RR2.1.1 SB hp hz8
  have nz : ¬ lN z = 0 := by
    rcases hz with rfl | rfl | rfl | rfl <;> decide
  have H90 : HX46_locate_90 p ad ac (nI z) md (nI 1) (nI z) (nI 1) Mc := by
    unfold HX46_locate_90
    try dsimp only
    refine ⟨fun _ => ⟨fun _ => trivial, fun _ => ?_⟩, fun z2 => absurd (show nI 1 ≤ nI 1 by decide) z2⟩
    try dsimp only
    rw [v9, b210, b18, h0c, hpv, ez, hhas Mc RR2.2.2.1]
    try dsimp only
    rw [v9, b210, hpv]
    exact ⟨fun _ => ⟨nz, fun _ => ⟨hfH, trivial⟩, fun _ => trivial⟩, fun _ => trivial⟩
  have g90 := gX46_locate_90 (FX46_locate_L fN (i + 1 + 1)).1 (FX46_locate_L fN (i + 1 + 1)).2 p ad ac (nI z) md (nI 1) (nI z) (nI 1) Mc RR2.1.1 npN H90
  have s0 : (FX46_locate_L fN (i + 1 + 1 + 1)).1 p ad ac (nI z) md (nI 1) (nI z) (nI 1) Mc = kX46_locate (FX46_locate_L fN (i + 1 + 1)).1 (FX46_locate_L fN (i + 1 + 1)).2 (GX46_locate_90 p ad ac (nI z) md (nI 1) (nI z) (nI 1) Mc) := g90.1
  have gt := g90.2
  have U : ∀ Y, GX46_locate_90 p ad ac (nI z) md (nI 1) (nI z) (nI 1) Mc = Y ↔ fi (bz (inR pv z) = 0) (fi (lg_cmp (ad - ad / lN z * lN z) (Int64.ofInt 0) = 0) (.inr (.inl (p, ad, ac, nI 1, nI z, nI 0, fm_sR Mc 124 fd 0 (wcd (wnX pv z))))) (.inr (.inl (p, ad, ac, nI 1, nI z, nI 0, Mc)))) (.inr (.inl (p, ad, ac, nI 1, nI z, nI 0, Mc))) = Y := by
    intro Y
    unfold GX46_locate_90 GX46_locate_234
    try dsimp only
    rw [fi_pos (show nI 1 ≤ nI 1 by decide)]
    try dsimp only
    rw [v9, fi_neg (show ¬ Mc.1 123 fd 0 = 0 by rw [h123]; decide), b210, b18, h0c, hpv, ez, hhas Mc RR2.2.2.1]
    try dsimp only
    rw [v9, b210, hpv, hfG]
    exact Iff.rfl
  have st : ∀ X : FM, X.2.2 217 p 0 = fd → X.2.2 210 p 0 = bd → X.2.2 18 bd 0 = r → X.1 202 r 0 = Int32.ofInt 1024 → Ty X → fm_is X 75 75 p = true → fm_is X 41 41 fd = true → X.2.1 3 (X.2.2 121 fd 0) 0 = pv →
      (FX46_locate_L fN (i + 1 + 1)).2 p ad ac (nI 1) (nI z) (nI 0) X = fi (X.2.2 124 fd 0 = 0) (fi (inR pv z) (some (Int32.ofInt 1, X)) (some (GX46_raise p flt ad X))) (some (Int32.ofInt 1, X)) := by
    intro X x1 x2 x3 x4 x5 x6 x7 x8
    have hi0 : fm_in X (X.2.2 121 fd 0) (nI 0) = true := in_nI (k := 0) (tL_121 x5.1 x7) (by decide) (by decide)
    have nle0 : ¬ nI 1 ≤ nI 0 := by decide
    have h0c' : (nI 0).toNatClampNeg = 0 := rfl
    have HA : HX46_locate_237 p ad ac (nI 1) (nI z) (nI 0) X := by
      refine ⟨fun _ => trivial, fun _ => ?_⟩
      try dsimp only
      rw [x1]
      exact ⟨fun _ => ⟨hi0, trivial⟩, fun _ => trivial⟩
    have sA : (FX46_locate_L fN (i + 1 + 1)).2 p ad ac (nI 1) (nI z) (nI 0) X = kX46_locate (FX46_locate_L fN (i + 1)).1 (FX46_locate_L fN (i + 1)).2 (GX46_locate_237 p ad ac (nI 1) (nI z) (nI 0) X) := (gX46_locate_237 (FX46_locate_L fN (i + 1)).1 (FX46_locate_L fN (i + 1)).2 p ad ac (nI 1) (nI z) (nI 0) X x5 x6 HA).1
    have HB : HX46_locate_237 p ad ac (nI 1) (nI z) (nI 1) X := ⟨fun _ => trivial, fun z2 => absurd (show nI 1 ≤ nI 1 by decide) z2⟩
    have sB : (FX46_locate_L fN (i + 1)).2 p ad ac (nI 1) (nI z) (nI 1) X = some (Int32.ofInt 1, X) := by
      show FX46_locate_237 fN (FX46_locate_L fN i).1 (FX46_locate_L fN i).2 p ad ac (nI 1) (nI z) (nI 1) X = _
      rw [(gX46_locate_237 (FX46_locate_L fN i).1 (FX46_locate_L fN i).2 p ad ac (nI 1) (nI z) (nI 1) X x5 x6 HB).1]
      unfold GX46_locate_237
      try dsimp only
      rw [fi_pos (show nI 1 ≤ nI 1 by decide)]
      rfl
    have UA : GX46_locate_237 p ad ac (nI 1) (nI z) (nI 0) X = fi (X.2.2 124 fd 0 = 0) (fi (inR pv z) (.inr (.inl (p, ad, ac, nI 1, nI z, nI 1, X))) (.inr (.inr (GX46_raise p flt ad X)))) (.inr (.inr (Int32.ofInt 1, X))) := by
      unfold GX46_locate_237 GX46_locate_292 GX46_locate_307
      try dsimp only
      rw [fi_neg nle0]
      try dsimp only
      rw [x1, x2, x3, h0c', x8, ez, hhas X x4]
      try dsimp only
      rw [e00, ← hflt]
      by_cases d2_ : inR pv z
      · rw [bz_t d2_, fi_neg (show ¬ Int32.ofInt 1 = 0 by decide), fi_pos d2_]
        rfl
      · rw [bz_f d2_, fi_pos (show Int32.ofInt 0 = 0 from rfl), fi_neg d2_]
        by_cases d3_ : ac = Int32.ofInt 1
        · rw [fi_pos d3_, fi_pos d3_]
        · rw [fi_neg d3_, fi_neg d3_]
    rw [sA, UA]
    by_cases d1_ : X.2.2 124 fd 0 = 0
    · rw [fi_pos d1_, fi_pos d1_]
      by_cases d2_ : inR pv z
      · rw [fi_pos d2_, fi_pos d2_]
        exact sB
      · rw [fi_neg d2_, fi_neg d2_]
        rfl
    · rw [fi_neg d1_, fi_neg d1_]
      rfl
  have stM := st Mc v9 b210 b18 RR2.2.2.1 RR2.1.1 npN nfdN hpv
  rw [fi_pos h124] at stM
  have kk : WK [124] Mc (fm_sR Mc 124 fd 0 (wcd (wnX pv z))) := wk_fR (Nat.le_refl _) (wk_r (wi_N RR2.1.2.1)) rfl rfl nfdN trivial (Or.inr fe_1) trivial rfl rfl
  have r124 : (fm_sR Mc 124 fd 0 (wcd (wnX pv z))).2.2 124 fd 0 = wcd (wnX pv z) := by rw [rR, if_pos ⟨rfl, rfl, rfl⟩]
  have ro : ∀ f a b, f ≠ 124 → (fm_sR Mc 124 fd 0 (wcd (wnX pv z))).2.2 f a b = Mc.2.2 f a b := fun f a b hf => by rw [rR, if_neg (fun q => hf q.1)]
  refine ⟨fun c1_ => ?_, fun c1_ c2_ c3_ => ?_, fun c1_ c23 => ?_⟩
  · rw [s0, (U _).mpr (by rw [bz_t c1_, fi_neg (show ¬ Int32.ofInt 1 = 0 by decide)])]
    rw [fi_pos c1_] at stM
    exact stM
  · have u := (U _).mpr (by rw [bz_f c1_, fi_pos (show Int32.ofInt 0 = 0 from rfl), fi_pos ((al_c ad hz).mpr c2_)])
    rw [u] at s0 gt
    have TX : Ty (fm_sR Mc 124 fd 0 (wcd (wnX pv z))) := gt.1
    have s3 := s0.trans (st _ (by rw [ro _ _ _ (by decide)]; exact v9) (by rw [ro _ _ _ (by decide)]; exact b210) (by rw [ro _ _ _ (by decide)]; exact b18) RR2.2.2.1 TX (kis kk RR2.1.2.1 rfl npN) (kis kk RR2.1.2.1 rfl nfdN) (by rw [ro _ _ _ (by decide)]; exact hpv))
    have nw : ¬ (fm_sR Mc 124 fd 0 (wcd (wnX pv z))).2.2 124 fd 0 = 0 := by
      rw [r124]
      unfold wcd
      rw [if_neg c3_]
      omega
    rw [fi_neg nw] at s3
    exact ⟨_, kk, TX, r124, ro, rfl, rfl, s3⟩
  · by_cases c2_ : ul ad % z = 0
    · have c3_ : wnX pv z = 5 := c23.elim (fun w => absurd c2_ w) id
      have u := (U _).mpr (by rw [bz_f c1_, fi_pos (show Int32.ofInt 0 = 0 from rfl), fi_pos ((al_c ad hz).mpr c2_)])
      rw [u] at s0 gt
      have TX : Ty (fm_sR Mc 124 fd 0 (wcd (wnX pv z))) := gt.1
      have s3 := s0.trans (st _ (by rw [ro _ _ _ (by decide)]; exact v9) (by rw [ro _ _ _ (by decide)]; exact b210) (by rw [ro _ _ _ (by decide)]; exact b18) RR2.2.2.1 TX (kis kk RR2.1.2.1 rfl npN) (kis kk RR2.1.2.1 rfl nfdN) (by rw [ro _ _ _ (by decide)]; exact hpv))
      have nw : (fm_sR Mc 124 fd 0 (wcd (wnX pv z))).2.2 124 fd 0 = 0 := by
        rw [r124]
        unfold wcd
        rw [if_pos c3_]
      rw [fi_pos nw, fi_neg c1_] at s3
      exact ⟨_, kk, TX, s3⟩
    · have u := (U _).mpr (by rw [bz_f c1_, fi_pos (show Int32.ofInt 0 = 0 from rfl), fi_neg (fun q => c2_ ((al_c ad hz).mp q))])
      rw [u] at s0
      rw [fi_neg c1_] at stM
      exact ⟨Mc, WK_r RR2.1.2.1, RR2.1.1, s0.trans stM⟩
theorem one_t {md flt : Int32} (R : RelP p h bd a fu cf rg u t hv kp fd m c1 f1 d1 w1 hq s dd x dk q rq r g sg bl cr np kn o fs B Bk Vv K F T rt tb Mc Mt) (h322 : Mt.1 322 m 0 = Int32.ofInt 1) (hz : z = 1 ∨ z = 2 ∨ z = 4 ∨ z = 8) {pv : Int64} (hpv : Mt.2.1 3 (Mt.2.2 323 m 0) 0 = pv) (hp : ul pv < 4611686018427387904) (i : Nat) :
    (inR pv z → (FX92_finds_L fN (i + 1)).1 m (nI h) ad (nI z) ac md flt (nI 1) (nI 1) Mt = some (Int32.ofInt 1, Mt)) ∧
    (¬ inR pv z → ul ad % z = 0 → ¬ wnX pv z = 5 → (FX92_finds_L fN (i + 1)).1 m (nI h) ad (nI z) ac md flt (nI 1) (nI 1) Mt = some (Int32.ofInt 1, Mt)) ∧
    (¬ inR pv z → (¬ ul ad % z = 0 ∨ wnX pv z = 5) → (FX92_finds_L fN (i + 1)).1 m (nI h) ad (nI z) ac md flt (nI 1) (nI 1) Mt = some (GX92_fail m flt ad Mt)) := by
  have RR2 := relP_ram R
  have n92N : fm_is Mt 92 92 m = true := R.2.1.1.1
  have hz8 : z ≤ 8 := by omega
  have h0c : (Int32.ofInt 0).toNatClampNeg = 0 := rfl
  have ez : (nI z).toInt64 = lN z := o_64 (by omega)
  have ulz : ul (lN z) = z := by rw [ul_lN]; omega
  have hare : GX93_areBytes pv (lN z) Mt = (bz (inR pv z), Mt) := by
    rw [X93_areBytes (by rw [ulz]; omega), ulz]
    have : (inR pv 1 ∧ inR pv z) = inR pv z := propext ⟨fun q => q.2, fun q => ⟨by unfold inR at *; omega, q⟩⟩
    rw [this]
  obtain ⟨hwH, hwG⟩ := X92_windowOf (M := Mt) RR2.2.1.1 hp hz8
  have H68 : HX92_finds_68 m (nI h) ad (nI z) ac md flt (nI 1) (nI 1) Mt := by
    unfold HX92_finds_68
    try dsimp only
    refine ⟨fun _ => ⟨fun _ => trivial, fun _ => ⟨fun _ => ?_, fun _ => trivial⟩⟩, fun z2 => absurd (show nI 1 ≤ nI 1 by decide) z2⟩
    try dsimp only
    rw [h0c, hpv]
    exact ⟨hwH, trivial⟩
  have s0 : (FX92_finds_L fN (i + 1)).1 m (nI h) ad (nI z) ac md flt (nI 1) (nI 1) Mt = kX92_finds (FX92_finds_L fN i).1 (FX92_finds_L fN i).2 (GX92_finds_68 m (nI h) ad (nI z) ac md flt (nI 1) (nI 1) Mt) := (gX92_finds_68 (FX92_finds_L fN i).1 (FX92_finds_L fN i).2 m (nI h) ad (nI z) ac md flt (nI 1) (nI 1) Mt RR2.2.1.1 n92N H68).1
  have u188 : ∀ s0 : Int32, GX92_finds_188 m ad (nI z) flt s0 Mt = fi (inR pv z) (.inr (.inr (Int32.ofInt 1, Mt))) (fi (s0 = 0) (.inr (.inr (GX92_fail m flt ad Mt))) (.inr (.inr (Int32.ofInt 1, Mt)))) := by
    intro s0
    unfold GX92_finds_188 GX92_finds_220 GX92_finds_225
    try dsimp only
    rw [h0c, hpv, ez, hare]
    try dsimp only
    have e0 : (GX92_fail m flt ad Mt).1 = Int32.ofInt 0 := rfl
    rw [e0, fi_pos (show Int32.ofInt 0 = 0 from rfl)]
    by_cases d2_ : inR pv z
    · rw [bz_t d2_, fi_neg (show ¬ Int32.ofInt 1 = 0 by decide), fi_pos d2_]
    · rw [bz_f d2_, fi_pos (show Int32.ofInt 0 = 0 from rfl), fi_neg d2_]
      rfl
  have U : ∀ Y, GX92_finds_68 m (nI h) ad (nI z) ac md flt (nI 1) (nI 1) Mt = Y ↔ fi (lg_cmp (ad &&& (lN z - Int64.ofInt 1)) (Int64.ofInt 0) = 0) (fi (wtw (wnX pv z) < 0) (GX92_finds_188 m ad (nI z) flt (Int32.ofInt 0) Mt) (GX92_finds_188 m ad (nI z) flt (Int32.ofInt 1) Mt)) (GX92_finds_188 m ad (nI z) flt (Int32.ofInt 0) Mt) = Y := by
    intro Y
    unfold GX92_finds_68 GX92_finds_187
    try dsimp only
    rw [fi_pos (show nI 1 ≤ nI 1 by decide), fi_neg (show ¬ Mt.1 322 m 0 = 0 by rw [h322]; decide)]
    try dsimp only
    rw [h0c, hpv, hwG, ez]
  have one0 : ¬ Int32.ofInt 1 = 0 := by decide
  have zer0 : Int32.ofInt 0 = 0 := rfl
  refine ⟨fun c1_ => ?_, fun c1_ c2_ c3_ => ?_, fun c1_ c23 => ?_⟩
  · rw [s0, (U (.inr (.inr (Int32.ofInt 1, Mt)))).mpr (by
      rw [u188, u188, fi_pos c1_, fi_pos c1_, fi_self, fi_self])]
    rfl
  · have : ¬ wtw (wnX pv z) < 0 := by
      unfold wtw
      rw [if_neg c3_]
      have := (wnX_in c3_).1
      intro q
      rw [show (0 : Int32) = nI 0 from rfl, n_lt (by omega) (by omega)] at q
      omega
    rw [s0, (U (.inr (.inr (Int32.ofInt 1, Mt)))).mpr (by
      rw [fi_pos ((al_t ad hz).mpr c2_), fi_neg this, u188, fi_neg c1_, fi_neg one0])]
    rfl
  · rw [s0, (U (.inr (.inr (GX92_fail m flt ad Mt)))).mpr (by
      by_cases c2_ : ul ad % z = 0
      · have c3_ : wnX pv z = 5 := c23.elim (fun w => absurd c2_ w) id
        have : wtw (wnX pv z) < 0 := by
          unfold wtw
          rw [if_pos c3_]
          decide
        rw [fi_pos ((al_t ad hz).mpr c2_), fi_pos this, u188, fi_neg c1_, fi_pos zer0]
      · rw [fi_neg (fun q => c2_ ((al_t ad hz).mp q)), u188, fi_neg c1_, fi_pos zer0])]
    rfl
end Lq
