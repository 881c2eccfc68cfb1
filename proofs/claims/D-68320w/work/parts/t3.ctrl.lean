/-! a processor against the twin's: control instructions -/
set_option maxRecDepth 100000
theorem rg_c (w : Int32) {s : Int32} {k : Nat} (hs : ui s % 32 = k) : ((w.toUInt32 >>> (s.toUInt32 &&& Int32.toUInt32 31)).toInt32 &&& Int32.ofInt 31) = nI (ui w / 2 ^ k % 32) := by
  apply ui_inj
  rw [ui_and, ui_ushr, hs, show ui (Int32.ofInt 31) = 2 ^ 5 - 1 from rfl, Nat.and_two_pow_sub_one_eq_mod, ui_nI]
  have := Nat.mod_lt (ui w / 2 ^ k) (show 0 < 32 by decide)
  omega
theorem rg_t15 (w : Int32) : ((w >>> (Int32.ofInt 15 &&& 31)) &&& Int32.ofInt 31) = nI (ui w / 2 ^ 15 % 32) := by
  apply ui_inj
  rw [ui_and, show ui (Int32.ofInt 31) = 2 ^ 5 - 1 from rfl, Nat.and_two_pow_sub_one_eq_mod, ui_nI]
  have l := ui_lt w
  have p15 : (2 : Nat) ^ 15 = 32768 := by decide
  by_cases c : ui w < 2147483648
  · rw [ui_sar0 w _ c, show ui (Int32.ofInt 15) % 32 = 15 from rfl]
    omega
  · rw [ui_sar1 w _ (by omega), show ui (Int32.ofInt 15) % 32 = 15 from rfl]
    omega
section Ct
variable {p h bd a fu rg u t hv kp fd m c1 f1 d1 w1 hq s dd x dk q rq r g sg bl cr np : Nat} {cf : Nat → Nat} {kn : Int32} {o : Option Wt} {w : Wt} {fs fs' : Fs} {B Bk Vv : Nat} {K : Rg} {F T : Nat → Nat} {rt : Int32} {tb : Int64} {S S' : List Nat} {Mc Mt Nc Nt : FM} {k : Nat}
theorem P_system {da dq : Nat} (R : RelP p h bd a fu cf rg u t hv kp fd m c1 f1 d1 w1 hq s dd x dk q rq r g sg bl cr np kn (some w) fs B Bk Vv K F T rt tb Mc Mt) (hl : Mt.1 354 c1 0 = Int32.ofInt 2 ∨ Mt.1 354 c1 0 = Int32.ofInt 4) (hw : fs.2.2.2.1 = Int32.ofInt 0) (hg : Got p m Mc Mt) (hk : k < 4096) (hda : ui (Mc.1 219 p 0) / 2 ^ 15 % 32 = da) (hdq : ui (Mc.1 219 p 0) / 2 ^ 7 % 32 = dq) :
    HX46_system p (nI k) Mc ∧ HX92_system m (nI h) (nI k) (nI dq) (nI da) Mt ∧ OutP p h bd a fu cf rg u t hv kp fd m c1 f1 d1 w1 hq s dd x dk q rq r g sg bl cr np kn B Bk Vv rt tb Mc Mt (GX46_system p (nI k) Mc) (GX92_system m (nI h) (nI k) (nI dq) (nI da) Mt) := by
  have RR := relP_ram R
  obtain ⟨y0, y1, y2, y3, ⟨y4, y5⟩, ⟨y6, y7⟩, ⟨y8, y9⟩, ⟨ya, yb⟩, yc⟩ := R.2.1.1
  have hcl : (nI h).toNatClampNeg = h := o_cl (by omega)
  have in5 : fm_in Mt (Mt.2.2 305 m 0) (nI h) = true := in_nI y8 (by omega) (by decide)
  have nd := R.2.2.2.2.1.2.1.2.1
  have n94 : fm_is Mt 94 94 c1 = true := R.2.2.2.1.2.1
  have v4 : Mc.2.2 213 p 0 = u := R.1.1.2.2.2.2.2.1
  have v2 : Mc.2.2 211 p 0 = a := R.1.1.2.2.2.1
  have lda : da < 32 := by rw [← hda]; exact Nat.mod_lt _ (by decide)
  have ldq : dq < 32 := by rw [← hdq]; exact Nat.mod_lt _ (by decide)
  have ea : (((Mc.1 219 p 0).toUInt32 >>> ((Int32.ofInt 15).toUInt32 &&& Int32.toUInt32 31)).toInt32 &&& Int32.ofInt 31) = nI da := by rw [rg_c _ (k := 15) rfl, hda]
  have ed : (((Mc.1 219 p 0).toUInt32 >>> ((Int32.ofInt 7).toUInt32 &&& Int32.toUInt32 31)).toInt32 &&& Int32.ofInt 31) = nI dq := by rw [rg_c _ (k := 7) rfl, hdq]
  have za : nI da = 0 ↔ da = 0 := by
    try dsimp only
    rw [show (0 : Int32) = nI 0 from rfl, nI_e (by omega) (by decide)]
  have zd : nI dq = 0 ↔ dq = 0 := by
    try dsimp only
    rw [show (0 : Int32) = nI 0 from rfl, nI_e (by omega) (by decide)]
  have l288 : nI k < Int32.ofInt 288 ↔ k < 288 := (nlt hk 288 (by decide)).trans (by omega)
  have g320 : Int32.ofInt 320 ≤ nI k ↔ 320 ≤ k := (nge hk 320 (by decide)).trans (by omega)
  have q0 : nI k = Int32.ofInt 0 ↔ k = 0 := (neq hk 0 (by decide)).trans (by omega)
  have q1 : nI k = Int32.ofInt 1 ↔ k = 1 := (neq hk 1 (by decide)).trans (by omega)
  have q258 : nI k = Int32.ofInt 258 ↔ k = 258 := (neq hk 258 (by decide)).trans (by omega)
  have q261 : nI k = Int32.ofInt 261 ↔ k = 261 := (neq hk 261 (by decide)).trans (by omega)
  have q770 : nI k = Int32.ofInt 770 ↔ k = 770 := (neq hk 770 (by decide)).trans (by omega)
  have i00' : Int32.ofInt 0 = 0 := rfl
  have n10' : ¬ Int32.ofInt 1 = 0 := by decide
  by_cases Fc : 288 ≤ k ∧ k < 320
  · have nl : ¬ nI k < Int32.ofInt 288 := fun q => by have := l288.mp q; omega
    have ng : ¬ Int32.ofInt 320 ≤ nI k := fun q => by have := g320.mp q; omega
    have m0 : ¬ nI k = Int32.ofInt 0 := fun q => by have := q0.mp q; omega
    have m1 : ¬ nI k = Int32.ofInt 1 := fun q => by have := q1.mp q; omega
    have m258 : ¬ nI k = Int32.ofInt 258 := fun q => by have := q258.mp q; omega
    have m261 : ¬ nI k = Int32.ofInt 261 := fun q => by have := q261.mp q; omega
    have m770 : ¬ nI k = Int32.ofInt 770 := fun q => by have := q770.mp q; omega
    by_cases d0 : dq = 0
    · obtain ⟨v, e1, e2, hI, o1, o2⟩ := P_idle (b := 0) (qi := Int32.ofInt 1) R hl hw hg (Or.inl ⟨rfl, rfl⟩)
      have G31 : ∀ s0, GX46_system_31 p (nI k) s0 Mc = GX46_idle p 0 Mc := fun s0 => by
        unfold GX46_system_31
        try dsimp only
        rw [fi_neg nl, fi_neg ng, ed, fi_pos (zd.mpr d0)]
        rfl
      have H31 : ∀ s0, HX46_system_31 p (nI k) s0 Mc := fun s0 => by
        unfold HX46_system_31
        try dsimp only
        rw [ed]
        exact ⟨fun q => absurd q nl, fun _ => ⟨fun q => absurd q ng, fun _ => ⟨fun _ => ⟨hI, trivial⟩, fun q => absurd (zd.mpr d0) q⟩⟩⟩
      have GC : GX46_system p (nI k) Mc = GX46_idle p 0 Mc := by
        unfold GX46_system GX46_system_0 GX46_system_30
        try dsimp only
        rw [ea, ed, G31, G31, fi_self, fi_self]
      have HC : HX46_system p (nI k) Mc := by
        unfold HX46_system HX46_system_0 HX46_system_30
        try dsimp only
        exact ⟨fun _ => ⟨fun _ => H31 _, fun _ => H31 _⟩, fun _ => H31 _⟩
      have G48 : GX92_system_48 m (nI h) (nI k) d1 (Int32.ofInt 1) Mt = fi (v = 0) (GX92_illegal m (fm_sI Mt 358 d1 0 (Int32.ofInt 0))) (GX92_system_187 m (nI h) (Mt.2.2 307 m 0) (nI h) 0 (fm_sI Mt 358 d1 0 (Int32.ofInt 0))) := by
        unfold GX92_system_48 GX92_system_149 GX92_system_165 GX92_system_170
        try dsimp only
        rw [fi_neg m0, fi_neg m1, fi_neg m258, fi_neg m770, fi_neg n10', e2]
        try dsimp only
        rw [fi_neg m261, fi_neg m261]
        rfl
      have H48 : HX92_system_48 m (nI h) (nI k) d1 (Int32.ofInt 1) Mt := by
        unfold HX92_system_48 HX92_system_149 HX92_system_170
        try dsimp only
        refine ⟨fun q => absurd q m0, fun _ => ⟨fun q => absurd q m1, fun _ => ⟨fun q => absurd q m258, fun _ => ⟨fun q => absurd q m770, fun _ => ⟨fun q => absurd q n10', fun _ => ?_⟩⟩⟩⟩⟩
        try dsimp only
        rw [e2]
        exact ⟨fun _ => ⟨fun q => absurd q m261, fun _ => trivial⟩, fun v0 => ⟨fun q => absurd q m261, fun _ => (o2 v0).1⟩⟩
      have GT : GX92_system m (nI h) (nI k) (nI dq) (nI da) Mt = GX92_system_48 m (nI h) (nI k) d1 (Int32.ofInt 1) Mt := by
        unfold GX92_system GX92_system_0 GX92_system_27
        try dsimp only
        rw [hcl, y9, fi_neg nl, fi_neg ng, fi_pos (zd.mpr d0), fi_neg n10', fi_self]
      refine ⟨HC, ?_, ?_⟩
      · unfold HX92_system HX92_system_0 HX92_system_27
        try dsimp only
        rw [hcl, y9]
        exact ⟨in5, fun q => absurd q nl, fun _ => ⟨fun q => absurd q ng, fun _ => ⟨nd, fun _ => ⟨fun _ => H48, fun _ => ⟨fun q => absurd q n10', fun _ => H48⟩⟩, fun q => absurd (zd.mpr d0) q⟩⟩⟩
      · rw [GC, GT, G48]
        by_cases v0 : v = 0
        · rw [fi_pos v0]
          exact o1 v0
        · rw [fi_neg v0]
          exact (o2 v0).2
    · have zd' : ¬ nI dq = 0 := fun q => d0 (zd.mp q)
      have GC : GX46_system p (nI k) Mc = GX46_illegal p Mc := by
        unfold GX46_system GX46_system_0 GX46_system_30 GX46_system_31 GX46_system_65
        try dsimp only
        rw [ea, ed, fi_neg nl, fi_neg nl, fi_neg ng, fi_neg ng, fi_neg zd', fi_neg zd', fi_pos i00']
        rw [fi_self]
      have HC : HX46_system p (nI k) Mc := by
        have h31 : HX46_system_31 p (nI k) (Int32.ofInt 0) Mc := by
          unfold HX46_system_31 HX46_system_65
          try dsimp only
          rw [ed]
          exact ⟨fun q => absurd q nl, fun _ => ⟨fun q => absurd q ng, fun _ => ⟨fun q => absurd q zd', fun _ => ⟨fun _ => trivial, fun q => absurd i00' q⟩⟩⟩⟩
        unfold HX46_system HX46_system_0 HX46_system_30
        try dsimp only
        rw [ed]
        exact ⟨fun _ => ⟨fun q => absurd q zd', fun _ => h31⟩, fun _ => h31⟩
      have GT : GX92_system m (nI h) (nI k) (nI dq) (nI da) Mt = GX92_illegal m Mt := by
        unfold GX92_system GX92_system_0 GX92_system_27 GX92_system_43
        try dsimp only
        rw [hcl, y9, fi_neg nl, fi_neg ng, fi_neg zd']
      refine ⟨HC, ?_, ?_⟩
      · unfold HX92_system HX92_system_0 HX92_system_27
        try dsimp only
        rw [hcl, y9]
        exact ⟨in5, fun q => absurd q nl, fun _ => ⟨fun q => absurd q ng, fun _ => ⟨nd, fun q => absurd q zd', fun _ => trivial⟩⟩⟩
      · rw [GC, GT]
        exact out_i R hw hg
  · -- no fence
    have U31 : ∀ s0, GX46_system_31 p (nI k) s0 Mc = GX46_system_65 p (nI k) s0 Mc := fun s0 => by
      unfold GX46_system_31
      try dsimp only
      by_cases c : k < 288
      · rw [fi_pos (l288.mpr c)]
      · rw [fi_neg (fun q => c (l288.mp q)), fi_pos (g320.mpr (by omega))]
    have V31 : ∀ s0, HX46_system_65 p (nI k) s0 Mc → HX46_system_31 p (nI k) s0 Mc := fun s0 z => by
      unfold HX46_system_31
      try dsimp only
      exact ⟨fun _ => z, fun c => ⟨fun _ => z, fun c' => absurd ⟨Classical.byContradiction (fun q => c (l288.mpr (by omega))), Classical.byContradiction (fun q => c' (g320.mpr (by omega)))⟩ Fc⟩⟩
    have UT : GX92_system m (nI h) (nI k) (nI dq) (nI da) Mt = fi (nI dq = 0) (fi (nI da = 0) (GX92_system_48 m (nI h) (nI k) d1 (Int32.ofInt 0) Mt) (GX92_illegal m Mt)) (GX92_illegal m Mt) := by
      unfold GX92_system GX92_system_0 GX92_system_26 GX92_system_27 GX92_system_43
      try dsimp only
      rw [hcl, y9, fi_pos i00']
      by_cases c : k < 288
      · rw [fi_pos (l288.mpr c)]
      · rw [fi_neg (fun q => c (l288.mp q)), fi_pos (g320.mpr (by omega))]
    have VT : (dq = 0 → da = 0 → HX92_system_48 m (nI h) (nI k) d1 (Int32.ofInt 0) Mt) → HX92_system m (nI h) (nI k) (nI dq) (nI da) Mt := fun z => by
      have h26 : HX92_system_26 m (nI h) (nI k) (nI dq) (nI da) d1 Mt := by
        unfold HX92_system_26 HX92_system_27
        try dsimp only
        exact ⟨fun e => ⟨fun e' => z (zd.mp e) (za.mp e'), fun _ => ⟨fun _ => trivial, fun q => absurd i00' q⟩⟩, fun _ => trivial⟩
      unfold HX92_system HX92_system_0
      try dsimp only
      rw [hcl, y9]
      exact ⟨in5, fun _ => ⟨nd, h26⟩, fun c => ⟨fun _ => ⟨nd, h26⟩, fun c' => absurd ⟨Classical.byContradiction (fun q => c (l288.mpr (by omega))), Classical.byContradiction (fun q => c' (g320.mpr (by omega)))⟩ Fc⟩⟩
    have H650 : HX46_system_65 p (nI k) (Int32.ofInt 0) Mc := by
      unfold HX46_system_65
      try dsimp only
      exact ⟨fun _ => trivial, fun q => absurd i00' q⟩
    by_cases pl : dq = 0 ∧ da = 0
    · obtain ⟨d0, a0⟩ := pl
      have GC : GX46_system p (nI k) Mc = GX46_system_65 p (nI k) (Int32.ofInt 1) Mc := by
        unfold GX46_system GX46_system_0
        try dsimp only
        rw [ea, ed, fi_pos (za.mpr a0), fi_pos (zd.mpr d0), U31]
      have HC : HX46_system_65 p (nI k) (Int32.ofInt 1) Mc → HX46_system p (nI k) Mc := fun z => by
        unfold HX46_system HX46_system_0 HX46_system_30
        try dsimp only
        exact ⟨fun _ => ⟨fun _ => V31 _ z, fun _ => V31 _ H650⟩, fun _ => V31 _ H650⟩
      rw [fi_pos (zd.mpr d0), fi_pos (za.mpr a0)] at UT
      -- each number
      have key : HX46_system_65 p (nI k) (Int32.ofInt 1) Mc ∧ HX92_system_48 m (nI h) (nI k) d1 (Int32.ofInt 0) Mt ∧ OutP p h bd a fu cf rg u t hv kp fd m c1 f1 d1 w1 hq s dd x dk q rq r g sg bl cr np kn B Bk Vv rt tb Mc Mt (GX46_system_65 p (nI k) (Int32.ofInt 1) Mc) (GX92_system_48 m (nI h) (nI k) d1 (Int32.ofInt 0) Mt) := by
        by_cases k0 : k = 0
        · have e0 := q0.mpr k0
          have emode := rel_mode R.2.2.2.2.1
          have k1 : WK [358] Mt (fm_sI Mt 358 d1 0 (Int32.ofInt 0)) := WK_I RR.2.1.2.1 nd rfl rfl _
          have R1 := relP_t k1 (by decide) ⟨RR.2.1.1.1, tyb_sI rfl RR.2.1.1.2⟩ R
          have hmd := R.2.2.2.2.1.2.2.2.2.1
          have hc : ∃ kc, kc < 64 ∧ ui (Int32.ofInt 8 + Mc.1 37 u 0) = kc := by
            try dsimp only
            rw [hmd.1]
            rcases hmd.2 with q | q | q <;> rw [q]
            · exact ⟨8, by decide, rfl⟩
            · exact ⟨9, by decide, rfl⟩
            · exact ⟨11, by decide, rfl⟩
          obtain ⟨kc, hkc, hc⟩ := hc
          refine ⟨?_, ?_, ?_⟩
          · unfold HX46_system_65
            try dsimp only
            exact ⟨fun q => absurd q n10', fun _ => ⟨fun _ => trivial, fun q => absurd e0 q⟩⟩
          · unfold HX92_system_48
            try dsimp only
            exact ⟨fun _ => trivial, fun q => absurd e0 q⟩
          · have g1 : GX46_system_65 p (nI k) (Int32.ofInt 1) Mc = GX46_raise p (Int32.ofInt 8 + Mc.1 37 u 0) (Int64.ofInt 0) Mc := by
              unfold GX46_system_65
              try dsimp only
              rw [fi_neg n10', fi_pos e0]
              try dsimp only
              rw [v4]
            have g2 : GX92_system_48 m (nI h) (nI k) d1 (Int32.ofInt 0) Mt = GX92_fail m (Int32.ofInt 8 + Mc.1 37 u 0) (Int64.ofInt 0) (fm_sI Mt 358 d1 0 (Int32.ofInt 0)) := by
              unfold GX92_system_48
              try dsimp only
              rw [fi_pos e0, emode]
            rw [g1, g2]
            exact out_t (evo_r r 0 Mc) ⟨rfl, rfl, fun _ _ => rfl⟩ (out_f R1 hw hc hkc _)
        have m0 : ¬ nI k = Int32.ofInt 0 := fun q => k0 (q0.mp q)
        by_cases k1 : k = 1
        · have e1 := q1.mpr k1
          have kt1 : WK [345] Mt (fm_sI Mt 345 c1 0 (Int32.ofInt 0)) := WK_I RR.2.1.2.1 n94 rfl rfl _
          have R1 := relP_t kt1 (by decide) ⟨RR.2.1.1.1, tyb_sI rfl RR.2.1.1.2⟩ R
          have ecn : GX98_counter c1 Mt = (Mt.2.1 347 c1 0, fm_sI Mt 345 c1 0 (Int32.ofInt 0)) := rfl
          have ecc : GX46_counter p Mc = (Mt.2.1 347 c1 0, Mc) := by
            unfold GX46_counter GX46_counter_0
            try dsimp only
            rw [v2, R.2.2.2.1.2.2.2.1]
          refine ⟨?_, ?_, ?_⟩
          · unfold HX46_system_65
            try dsimp only
            exact ⟨fun q => absurd q n10', fun _ => ⟨fun q => absurd q m0, fun _ => ⟨fun _ => trivial, fun q => absurd e1 q⟩⟩⟩
          · unfold HX92_system_48
            try dsimp only
            refine ⟨fun q => absurd q m0, fun _ => ⟨fun _ => ?_, fun q => absurd e1 q⟩⟩
            try dsimp only
            rw [hcl, y5]
            exact ⟨in_nI y4 (by omega) (by decide), n94, trivial⟩
          · have g1 : GX46_system_65 p (nI k) (Int32.ofInt 1) Mc = GX46_raise p (Int32.ofInt 3) (Mt.2.1 347 c1 0) Mc := by
              unfold GX46_system_65
              try dsimp only
              rw [fi_neg n10', fi_neg m0, fi_pos e1, ecc]
            have g2 : GX92_system_48 m (nI h) (nI k) d1 (Int32.ofInt 0) Mt = GX92_fail m (Int32.ofInt 3) (Mt.2.1 347 c1 0) (fm_sI Mt 345 c1 0 (Int32.ofInt 0)) := by
              unfold GX92_system_48
              try dsimp only
              rw [fi_neg m0, fi_pos e1]
              try dsimp only
              rw [hcl, y5, ecn]
            rw [g1, g2]
            exact out_t (evo_r r 0 Mc) ⟨rfl, rfl, fun _ _ => rfl⟩ (out_f R1 hw (kc := 3) rfl (by decide) _)
        have m1 : ¬ nI k = Int32.ofInt 1 := fun q => k1 (q1.mp q)
        by_cases k258 : k = 258
        · have e258 := q258.mpr k258
          obtain ⟨hb, ob⟩ := P_back (b := Int32.ofInt 0) R hw hg (Or.inl rfl)
          refine ⟨?_, ?_, ?_⟩
          · unfold HX46_system_65
            try dsimp only
            exact ⟨fun q => absurd q n10', fun _ => ⟨fun q => absurd q m0, fun _ => ⟨fun q => absurd q m1, fun _ => ⟨fun _ => trivial, fun q => absurd e258 q⟩⟩⟩⟩
          · unfold HX92_system_48
            try dsimp only
            exact ⟨fun q => absurd q m0, fun _ => ⟨fun q => absurd q m1, fun _ => ⟨fun _ => ⟨hb, trivial⟩, fun q => absurd e258 q⟩⟩⟩
          · have g1 : GX46_system_65 p (nI k) (Int32.ofInt 1) Mc = GX46_back p (Int32.ofInt 0) Mc := by
              unfold GX46_system_65
              try dsimp only
              rw [fi_neg n10', fi_neg m0, fi_neg m1, fi_pos e258]
            have g2 : GX92_system_48 m (nI h) (nI k) d1 (Int32.ofInt 0) Mt = GX92_back m (nI h) (Int32.ofInt 0) Mt := by
              unfold GX92_system_48
              try dsimp only
              rw [fi_neg m0, fi_neg m1, fi_pos e258]
            rw [g1, g2]
            exact ob
        have m258 : ¬ nI k = Int32.ofInt 258 := fun q => k258 (q258.mp q)
        by_cases k770 : k = 770
        · have e770 := q770.mpr k770
          have m261 : ¬ nI k = Int32.ofInt 261 := fun q => by have := q261.mp q; omega
          obtain ⟨hb, ob⟩ := P_back (b := Int32.ofInt 1) R hw hg (Or.inr rfl)
          refine ⟨?_, ?_, ?_⟩
          · unfold HX46_system_65
            try dsimp only
            exact ⟨fun q => absurd q n10', fun _ => ⟨fun q => absurd q m0, fun _ => ⟨fun q => absurd q m1, fun _ => ⟨fun q => absurd q m258, fun _ => ⟨fun q => absurd q m261, fun _ => trivial⟩⟩⟩⟩⟩
          · unfold HX92_system_48
            try dsimp only
            exact ⟨fun q => absurd q m0, fun _ => ⟨fun q => absurd q m1, fun _ => ⟨fun q => absurd q m258, fun _ => ⟨fun _ => ⟨hb, trivial⟩, fun q => absurd e770 q⟩⟩⟩⟩
          · have g1 : GX46_system_65 p (nI k) (Int32.ofInt 1) Mc = GX46_back p (Int32.ofInt 1) Mc := by
              unfold GX46_system_65
              try dsimp only
              rw [fi_neg n10', fi_neg m0, fi_neg m1, fi_neg m258, fi_neg m261, fi_pos e770]
            have g2 : GX92_system_48 m (nI h) (nI k) d1 (Int32.ofInt 0) Mt = GX92_back m (nI h) (Int32.ofInt 1) Mt := by
              unfold GX92_system_48
              try dsimp only
              rw [fi_neg m0, fi_neg m1, fi_neg m258, fi_pos e770]
            rw [g1, g2]
            exact ob
        have m770 : ¬ nI k = Int32.ofInt 770 := fun q => k770 (q770.mp q)
        by_cases k261 : k = 261
        · have e261 := q261.mpr k261
          obtain ⟨v, e1, e2, hI, o1, o2⟩ := P_idle (b := 1) (qi := Int32.ofInt 0) R hl hw hg (Or.inr ⟨rfl, rfl⟩)
          refine ⟨?_, ?_, ?_⟩
          · unfold HX46_system_65
            try dsimp only
            exact ⟨fun q => absurd q n10', fun _ => ⟨fun q => absurd q m0, fun _ => ⟨fun q => absurd q m1, fun _ => ⟨fun q => absurd q m258, fun _ => ⟨fun _ => ⟨hI, trivial⟩, fun q => absurd e261 q⟩⟩⟩⟩⟩
          · unfold HX92_system_48 HX92_system_149 HX92_system_170
            try dsimp only
            refine ⟨fun q => absurd q m0, fun _ => ⟨fun q => absurd q m1, fun _ => ⟨fun q => absurd q m258, fun _ => ⟨fun q => absurd q m770, fun _ => ⟨fun _ => ⟨fun _ => ?_, fun q => absurd e261 q⟩, fun q => absurd i00' q⟩⟩⟩⟩⟩
            try dsimp only
            rw [e2]
            exact ⟨fun _ => trivial, fun v0 => ⟨fun _ => (o2 v0).1, fun q => absurd e261 q⟩⟩
          · have g1 : GX46_system_65 p (nI k) (Int32.ofInt 1) Mc = GX46_idle p 1 Mc := by
              unfold GX46_system_65
              try dsimp only
              rw [fi_neg n10', fi_neg m0, fi_neg m1, fi_neg m258, fi_pos e261]
              rfl
            have g2 : GX92_system_48 m (nI h) (nI k) d1 (Int32.ofInt 0) Mt = fi (v = 0) (GX92_illegal m (fm_sI Mt 358 d1 0 (Int32.ofInt 0))) (GX92_system_187 m (nI h) (Mt.2.2 307 m 0) (nI h) 1 (fm_sI Mt 358 d1 0 (Int32.ofInt 0))) := by
              unfold GX92_system_48 GX92_system_149 GX92_system_165 GX92_system_170
              try dsimp only
              rw [fi_neg m0, fi_neg m1, fi_neg m258, fi_neg m770, fi_pos i00', fi_pos e261, e2]
              try dsimp only
              rw [fi_pos e261]
              rfl
            rw [g1, g2]
            by_cases v0 : v = 0
            · rw [fi_pos v0]
              exact o1 v0
            · rw [fi_neg v0]
              exact (o2 v0).2
        · have m261 : ¬ nI k = Int32.ofInt 261 := fun q => k261 (q261.mp q)
          refine ⟨?_, ?_, ?_⟩
          · unfold HX46_system_65
            try dsimp only
            exact ⟨fun q => absurd q n10', fun _ => ⟨fun q => absurd q m0, fun _ => ⟨fun q => absurd q m1, fun _ => ⟨fun q => absurd q m258, fun _ => ⟨fun q => absurd q m261, fun _ => trivial⟩⟩⟩⟩⟩
          · unfold HX92_system_48 HX92_system_149
            try dsimp only
            exact ⟨fun q => absurd q m0, fun _ => ⟨fun q => absurd q m1, fun _ => ⟨fun q => absurd q m258, fun _ => ⟨fun q => absurd q m770, fun _ => ⟨fun _ => ⟨fun q => absurd q m261, fun _ => trivial⟩, fun q => absurd i00' q⟩⟩⟩⟩⟩
          · have g1 : GX46_system_65 p (nI k) (Int32.ofInt 1) Mc = GX46_illegal p Mc := by
              unfold GX46_system_65
              try dsimp only
              rw [fi_neg n10', fi_neg m0, fi_neg m1, fi_neg m258, fi_neg m261, fi_neg m770]
            have g2 : GX92_system_48 m (nI h) (nI k) d1 (Int32.ofInt 0) Mt = GX92_illegal m Mt := by
              unfold GX92_system_48 GX92_system_149 GX92_system_165
              try dsimp only
              rw [fi_neg m0, fi_neg m1, fi_neg m258, fi_neg m770, fi_pos i00', fi_neg m261]
            rw [g1, g2]
            exact out_i R hw hg
      refine ⟨HC key.1, VT (fun _ _ => key.2.1), ?_⟩
      try dsimp only
      rw [GC, UT]
      exact key.2.2
    · have GC : GX46_system p (nI k) Mc = GX46_illegal p Mc := by
        have e65 : GX46_system_65 p (nI k) (Int32.ofInt 0) Mc = GX46_illegal p Mc := by
          unfold GX46_system_65
          try dsimp only
          rw [fi_pos i00']
        unfold GX46_system GX46_system_0 GX46_system_30
        try dsimp only
        rw [ea, ed, U31, U31, e65]
        by_cases a0 : da = 0
        · have d0 : ¬ dq = 0 := fun q => pl ⟨q, a0⟩
          rw [fi_pos (za.mpr a0), fi_neg (fun q => d0 (zd.mp q))]
        · rw [fi_neg (fun q => a0 (za.mp q))]
      have HC : HX46_system p (nI k) Mc := by
        unfold HX46_system HX46_system_0 HX46_system_30
        try dsimp only
        rw [ea, ed]
        exact ⟨fun e => ⟨fun e' => absurd ⟨zd.mp e', za.mp e⟩ pl, fun _ => V31 _ H650⟩, fun _ => V31 _ H650⟩
      have GT : GX92_system m (nI h) (nI k) (nI dq) (nI da) Mt = GX92_illegal m Mt := by
        try dsimp only
        rw [UT]
        by_cases d0 : dq = 0
        · have a0 : ¬ da = 0 := fun q => pl ⟨d0, q⟩
          rw [fi_pos (zd.mpr d0), fi_neg (fun q => a0 (za.mp q))]
        · rw [fi_neg (fun q => d0 (zd.mp q))]
      refine ⟨HC, VT (fun e e' => absurd ⟨e, e'⟩ pl), ?_⟩
      try dsimp only
      rw [GC, GT]
      exact out_i R hw hg
end Ct
