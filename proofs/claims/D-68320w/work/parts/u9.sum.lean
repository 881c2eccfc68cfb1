/-! the machine: a sum over memory -/
set_option maxRecDepth 100000
def sumP (a b : Int64) : Prop := ¬ lg_cmp b a < 0 ∧ ¬ lg_cmp (b - a) (Int64.ofInt 0) < 0 ∧ ¬ 0 < lg_cmp (b - a) (Int64.ofInt 65536)
theorem sumP_n {a b : Int64} (h : sumP a b) : ul (b - a) ≤ 65536 ∧ b = a + lN (ul (b - a)) := by
  obtain ⟨_, h2, h3⟩ := h
  rw [cl_lt] at h2
  rw [cl_gt] at h3
  have e0 : (Int64.ofInt 0).toInt = 0 := rfl
  have e6 : (Int64.ofInt 65536).toInt = 65536 := rfl
  have hk := ul_lt (b - a)
  rw [e0, tl] at h2
  rw [e6, tl] at h3
  refine ⟨by split at h2 <;> omega, ?_⟩
  rw [lN_ul]
  refine ul_inj ?_
  have ha := ul_lt a
  have hb := ul_lt b
  rw [ul_add, ul_sub]
  omega
section Su
variable {bd hv m hq s dd x dk q rq r sg bl cr np mc : Nat} {B Bk Vv x1 n : Nat} {Mc Mt : FM} {ad b : Int64}
theorem sum_L (R : RelM bd hv m hq s dd x dk q rq r sg bl cr np mc B Bk Vv Mc Mt) (xm : XM x1 mc Mc) (h296 : Mt.1 296 m 0 = 0) (hr : inR ad n ∨ n = 0) : ∀ (i c : Nat) (acc : Int64), c + i = n → ∀ j j', i < j → i < j' →
    ∃ v, FX1_sum_L72 fN j x1 (ad + lN n) acc (ad + lN c) Mc = some (v, Mc) ∧ FX92_sum_L74 fN j' m (ad + lN n) acc (ad + lN c) Mt = some (v, Mt)
  | 0, c, acc, hc, j, j', hj, hj' => by
    obtain ⟨j, rfl⟩ : ∃ z, j = z + 1 := ⟨j - 1, by omega⟩
    obtain ⟨j', rfl⟩ : ∃ z, j' = z + 1 := ⟨j' - 1, by omega⟩
    have e : c = n := by omega
    subst e
    have RR := relM_ram R
    have n92 := (relM_m R).1
    have l1 : 0 ≤ lg_cmp (ad + lN c) (ad + lN c) := cl_ge.mpr (Int.le_refl _)
    refine ⟨acc, ?_, ?_⟩
    · have G := (gX1_sum_72 (FX1_sum_L72 fN j) x1 (ad + lN c) acc (ad + lN c) Mc RR.1.1 xm.1 ⟨fun _ => trivial, fun q => absurd l1 q⟩).1
      show FX1_sum_72 fN (FX1_sum_L72 fN j) x1 (ad + lN c) acc (ad + lN c) Mc = _
      rw [G]
      unfold GX1_sum_72
      try dsimp only
      rw [fi_pos l1]
      rfl
    · have G := (gX92_sum_74 (FX92_sum_L74 fN j') m (ad + lN c) acc (ad + lN c) Mt RR.2.1.1 n92 ⟨fun _ => ⟨fun _ => trivial, fun q => absurd l1 q⟩, fun q => absurd h296 q⟩).1
      show FX92_sum_74 fN (FX92_sum_L74 fN j') m (ad + lN c) acc (ad + lN c) Mt = _
      rw [G]
      unfold GX92_sum_74 GX92_sum_116
      try dsimp only
      rw [fi_pos h296, fi_pos l1]
      rfl
  | i + 1, c, acc, hc, j, j', hj, hj' => by
    obtain ⟨j, rfl⟩ : ∃ z, j = z + 1 := ⟨j - 1, by omega⟩
    obtain ⟨j', rfl⟩ : ∃ z, j' = z + 1 := ⟨j' - 1, by omega⟩
    have RR := relM_ram R
    have RB := relM_b R
    have n92 := (relM_m R).1
    have hr' : inR ad n := by
      rcases hr with q | q
      · exact q
      · omega
    have hr2 := hr'
    unfold inR at hr2
    have ec : ul (ad + lN c) = ul ad + c := by rw [ul_add, ul_lN]; omega
    have en : ul (ad + lN n) = ul ad + n := by rw [ul_add, ul_lN]; omega
    have l1 : ¬ 0 ≤ lg_cmp (ad + lN c) (ad + lN n) := fun q => by
      have q := cl_ge.mp q
      rw [tl, tl, ec, en, if_pos (by omega), if_pos (by omega)] at q
      omega
    have hc1 : inR (ad + lN c) 1 := by
      unfold inR
      rw [ec]
      omega
    obtain ⟨w, _, w1_, w2_, w3_, w4_⟩ := rel_get RR hc1
    have e18 : Mc.2.2 18 bd 0 = r := RB.1.1.2.2.1
    have v298 : Mt.2.2 298 m 0 = cr := RB.1.2.2.1
    have enx : ad + lN c + Int64.ofInt 1 = ad + lN (c + 1) := ul_inj (by
      rw [ul_add, ec, ul_add, ul_lN, show ul (Int64.ofInt 1) = 1 from rfl]
      omega)
    obtain ⟨v, c1, c2⟩ := sum_L R xm h296 hr i (c + 1) (Int64.ofInt 31 * acc + w.toInt64) (by omega) j j' (by omega) (by omega)
    refine ⟨v, ?_, ?_⟩
    · have H : HX1_sum_72 x1 (ad + lN n) acc (ad + lN c) Mc := by
        refine ⟨fun _ => trivial, fun _ => ?_⟩
        try dsimp only
        rw [xm.2, R.2.1, e18]
        exact ⟨w1_, trivial⟩
      have G := (gX1_sum_72 (FX1_sum_L72 fN j) x1 (ad + lN n) acc (ad + lN c) Mc RR.1.1 xm.1 H).1
      show FX1_sum_72 fN (FX1_sum_L72 fN j) x1 (ad + lN n) acc (ad + lN c) Mc = _
      rw [G]
      unfold GX1_sum_72
      try dsimp only
      rw [fi_neg l1, xm.2, R.2.1, e18, w2_]
      try dsimp only
      rw [enx]
      exact c1
    · have H : HX92_sum_74 m (ad + lN n) acc (ad + lN c) Mt := by
        refine ⟨fun _ => ⟨fun _ => trivial, fun _ => ?_⟩, fun _ => trivial⟩
        try dsimp only
        rw [v298]
        exact ⟨w3_, trivial⟩
      have G := (gX92_sum_74 (FX92_sum_L74 fN j') m (ad + lN n) acc (ad + lN c) Mt RR.2.1.1 n92 H).1
      show FX92_sum_74 fN (FX92_sum_L74 fN j') m (ad + lN n) acc (ad + lN c) Mt = _
      rw [G]
      unfold GX92_sum_74
      try dsimp only
      rw [fi_pos h296, fi_neg l1, v298, w4_]
      try dsimp only
      rw [enx]
      exact c2
theorem zero_N {x : Int64} : x + lN 0 = x := ul_inj (by
  have := ul_lt x
  rw [ul_add, ul_lN]
  omega)
theorem O_sum (R : RelM bd hv m hq s dd x dk q rq r sg bl cr np mc B Bk Vv Mc Mt) (xm : XM x1 mc Mc) (hp : sumP ad b) (hr : b = ad ∨ inR ad (ul (b - ad))) : ∃ v, (HX1_sum x1 ad b Mc ∧ GX1_sum x1 ad b Mc = (v, Mc)) ∧ (HX92_sum m ad b Mt ∧ GX92_sum m ad b Mt = (v, fm_sI Mt 296 m 0 (Int32.ofInt 0))) := by
  obtain ⟨R1, k1⟩ := ob_296 R (Int32.ofInt 0)
  have RR := relM_ram R
  have RR1 := relM_ram R1
  have RB := relM_b R
  have n92 := (relM_m R).1
  obtain ⟨hn, hb⟩ := sumP_n hp
  obtain ⟨q1, q2, q3⟩ := id hp
  have hr' : inR ad (ul (b - ad)) ∨ ul (b - ad) = 0 := by
    rcases hr with q | q
    · right
      rw [q, ul_sub]
      have := ul_lt ad
      omega
    · exact Or.inl q
  obtain ⟨v, c1, c2⟩ := sum_L R1 xm (rIe _) hr' (ul (b - ad)) 0 (Int64.ofInt 0) (by omega) fN fN (by unfold fN; omega) (by unfold fN; omega)
  rw [← hb, zero_N] at c1 c2
  have e18 : Mc.2.2 18 bd 0 = r := RB.1.1.2.2.1
  have i10 : ¬ Int32.ofInt 1 = (0 : Int32) := by decide
  have hzero : (Int32.ofInt 0 : Int32) = 0 := rfl
  have hs := X11_has RR.2.2.1 (a := ad) (b := b - ad) (by omega)
  have ha := X93_areBytes (M := Mt) (a := ad) (b := b - ad) (by omega)
  have pr1 : GX1_proper (Int32.ofInt 1) Mc = Mc := by
    unfold GX1_proper GX1_proper_0
    try dsimp only
    rw [fi_neg i10]
  have hpr1 : HX1_proper (Int32.ofInt 1) Mc := ⟨fun q => absurd q i10, fun _ => trivial⟩
  have th1 : GX1_there (Int32.ofInt 1) Mc = Mc := by
    unfold GX1_there GX1_there_0
    try dsimp only
    rw [fi_neg i10]
  have hth1 : HX1_there (Int32.ofInt 1) Mc := ⟨fun q => absurd q i10, fun _ => trivial⟩
  have eq0 : lg_cmp b ad = 0 ↔ b = ad := by
    rw [cl_eq]
    exact ⟨fun q => ul_inj q, fun q => by rw [q]⟩
  have g0 : HX1_sum_0 x1 ad b Mc ∧ GX1_sum_0 x1 ad b Mc = .inl (x1, b, Int64.ofInt 0, ad, Mc) := by
    have g29 : HX1_sum_29 x1 ad b (Int32.ofInt 1) Mc ∧ GX1_sum_29 x1 ad b (Int32.ofInt 1) Mc = .inl (x1, b, Int64.ofInt 0, ad, Mc) := by
      unfold HX1_sum_29 GX1_sum_29 HX1_sum_58 HX1_sum_63 GX1_sum_58 GX1_sum_63
      try dsimp only
      rw [pr1, xm.2, R.2.1, e18, hs, th1]
      by_cases c : lg_cmp b ad = 0
      · rw [fi_pos c]
        exact ⟨⟨hpr1, fun _ => ⟨hth1, trivial⟩, fun q => absurd c q⟩, rfl⟩
      · have hi : inR ad (ul (b - ad)) := by
          rcases hr with q | q
          · exact absurd (eq0.mpr q) c
          · exact q
        rw [fi_neg c, bz_t hi, fi_neg i10]
        exact ⟨⟨hpr1, fun q => absurd q c, fun _ => ⟨fun q => absurd q i10, fun _ => ⟨hth1, trivial⟩⟩⟩, rfl⟩
    constructor
    · exact ⟨fun q => absurd q q1, fun _ => ⟨fun q => absurd q q2, fun _ => ⟨fun q => absurd q q3, fun _ => g29.1⟩⟩⟩
    · unfold GX1_sum_0
      try dsimp only
      rw [fi_neg q1, fi_neg q2, fi_neg q3, g29.2]
  have t0 : GX92_sum_0 m ad b Mt = .inl (m, b, Int64.ofInt 0, ad, fm_sI Mt 296 m 0 (Int32.ofInt 0)) := by
    unfold GX92_sum_0 GX92_sum_32 GX92_sum_64 GX92_sum_65
    try dsimp only
    rw [fi_neg q1, fi_neg q2, fi_neg q3, fi_neg i10]
    by_cases c : lg_cmp (b - ad) (Int64.ofInt 0) ≤ 0
    · rw [fi_pos c]
    · have hi : inR ad (ul (b - ad)) := by
        rcases hr with q | q
        · refine absurd ?_ c
          rw [q, cl_le, tl, tl, ul_sub]
          have := ul_lt ad
          have e0 : ul (Int64.ofInt 0) = 0 := rfl
          rw [e0]
          omega
        · exact q
      have n1 : 1 ≤ ul (b - ad) := by
        rw [cl_le, show (Int64.ofInt 0).toInt = 0 from rfl, tl] at c
        omega
      rw [fi_neg c, ha, bz_t ⟨by unfold inR at *; omega, hi⟩]
      try dsimp only
      rw [fi_neg i10]
  have w1_ : FX1_sum fN x1 ad b Mc = some (v, Mc) := by
    have G := (gX1_sum_0 (FX1_sum_L72 fN fN) x1 ad b Mc RR.1.1 xm.1 g0.1).1
    show FX1_sum_0 fN (FX1_sum_L72 fN fN) x1 ad b Mc = _
    rw [G, g0.2]
    exact c1
  have w2_ : FX92_sum fN m ad b Mt = some (v, fm_sI Mt 296 m 0 (Int32.ofInt 0)) := by
    have G := (gX92_sum_0 (FX92_sum_L74 fN fN) m ad b Mt RR.2.1.1 n92).1
    show FX92_sum_0 fN (FX92_sum_L74 fN fN) m ad b Mt = _
    rw [G, t0]
    exact c2
  obtain ⟨d1_, d2_⟩ := op_of (d := ((0 : Int64), Mc)) w1_ (P := OkR Mc) ⟨RR.1.1, ext_r _⟩
  obtain ⟨e1_, e2_⟩ := op_of (d := ((0 : Int64), Mt)) w2_ (P := OkR Mt) ⟨RR1.2.1.1, wk_ext RR.2.1.2.1 k1⟩
  exact ⟨v, ⟨d1_, d2_⟩, ⟨e1_, e2_⟩⟩
/-- no sum: improper (1), or not all of it is there (2) -/
theorem O_sum0 (R : RelM bd hv m hq s dd x dk q rq r sg bl cr np mc B Bk Vv Mc Mt) {k : Int32} (hk : ¬ k = 0) (h0 : GX92_sum_0 m ad b Mt = .inl (m, b, Int64.ofInt 0, ad, fm_sI Mt 296 m 0 k)) : HX92_sum m ad b Mt ∧ GX92_sum m ad b Mt = (Int64.ofInt 0, fm_sI Mt 296 m 0 k) := by
  obtain ⟨R1, k1⟩ := ob_296 R k
  have RR := relM_ram R
  have RR1 := relM_ram R1
  have n92 := (relM_m R).1
  have h296 : ¬ (fm_sI Mt 296 m 0 k).1 296 m 0 = 0 := by rw [rIe]; exact hk
  have w2_ : FX92_sum fN m ad b Mt = some (Int64.ofInt 0, fm_sI Mt 296 m 0 k) := by
    have G := (gX92_sum_0 (FX92_sum_L74 fN fN) m ad b Mt RR.2.1.1 n92).1
    show FX92_sum_0 fN (FX92_sum_L74 fN fN) m ad b Mt = _
    rw [G, h0]
    show FX92_sum_L74 fN (99999999 + 1) m b (Int64.ofInt 0) ad (fm_sI Mt 296 m 0 k) = _
    have G2 := (gX92_sum_74 (FX92_sum_L74 fN 99999999) m b (Int64.ofInt 0) ad (fm_sI Mt 296 m 0 k) RR1.2.1.1 (relM_m R1).1 ⟨fun q => absurd q h296, fun _ => trivial⟩).1
    show FX92_sum_74 fN (FX92_sum_L74 fN 99999999) m b (Int64.ofInt 0) ad (fm_sI Mt 296 m 0 k) = _
    rw [G2]
    unfold GX92_sum_74 GX92_sum_116
    try dsimp only
    rw [fi_neg h296]
    rfl
  exact op_of (d := ((0 : Int64), Mt)) w2_ (P := OkR Mt) ⟨RR1.2.1.1, wk_ext RR.2.1.2.1 k1⟩
theorem O_sum1 (R : RelM bd hv m hq s dd x dk q rq r sg bl cr np mc B Bk Vv Mc Mt) (hp : ¬ sumP ad b) : HX92_sum m ad b Mt ∧ GX92_sum m ad b Mt = (Int64.ofInt 0, fm_sI Mt 296 m 0 (Int32.ofInt 1)) := by
  refine O_sum0 R (by decide) ?_
  have e31 : GX92_sum_31 m ad b (b - ad) Mt = .inl (m, b, Int64.ofInt 0, ad, fm_sI Mt 296 m 0 (Int32.ofInt 1)) := by
    unfold GX92_sum_31 GX92_sum_32 GX92_sum_65
    try dsimp only
    rw [fi_pos (show (Int32.ofInt 0 : Int32) = 0 from rfl)]
  unfold GX92_sum_0
  try dsimp only
  by_cases q1 : lg_cmp b ad < 0
  · rw [fi_pos q1, e31]
  rw [fi_neg q1]
  by_cases q2 : lg_cmp (b - ad) (Int64.ofInt 0) < 0
  · rw [fi_pos q2, e31]
  rw [fi_neg q2]
  by_cases q3 : 0 < lg_cmp (b - ad) (Int64.ofInt 65536)
  · rw [fi_pos q3, e31]
  exact absurd ⟨q1, q2, q3⟩ hp
theorem O_sum2 (R : RelM bd hv m hq s dd x dk q rq r sg bl cr np mc B Bk Vv Mc Mt) (hp : sumP ad b) (hr : ¬ (b = ad ∨ inR ad (ul (b - ad)))) : GX11_has r ad (b - ad) Mc = (Int32.ofInt 0, Mc) ∧ (HX92_sum m ad b Mt ∧ GX92_sum m ad b Mt = (Int64.ofInt 0, fm_sI Mt 296 m 0 (Int32.ofInt 2))) := by
  have RR := relM_ram R
  obtain ⟨hn, hb⟩ := sumP_n hp
  obtain ⟨q1, q2, q3⟩ := id hp
  have hs := X11_has RR.2.2.1 (a := ad) (b := b - ad) (by omega)
  have ha := X93_areBytes (M := Mt) (a := ad) (b := b - ad) (by omega)
  have hi : ¬ inR ad (ul (b - ad)) := fun q => hr (Or.inr q)
  rw [bz_f hi] at hs
  rw [bz_f (fun q => hi q.2)] at ha
  have c : ¬ lg_cmp (b - ad) (Int64.ofInt 0) ≤ 0 := fun q => by
    rw [cl_le, show (Int64.ofInt 0).toInt = 0 from rfl, tl] at q
    have z : ul (b - ad) = 0 := by omega
    rw [z, zero_N] at hb
    exact hr (Or.inl hb)
  refine ⟨hs, O_sum0 R (by decide) ?_⟩
  unfold GX92_sum_0 GX92_sum_32 GX92_sum_65
  try dsimp only
  rw [fi_neg q1, fi_neg q2, fi_neg q3, fi_neg (show ¬ (Int32.ofInt 1 : Int32) = 0 by decide), fi_neg c, ha]
  try dsimp only
  rw [fi_pos (show (Int32.ofInt 0 : Int32) = 0 from rfl)]
end Su
