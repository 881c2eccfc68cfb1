/-! a processor against the twin's: atomics -/
set_option maxRecDepth 100000
section Au
variable {p h bd a fu rg u t hv kp fd m c1 f1 d1 w1 hq s dd x dk q rq r g sg bl cr np : Nat} {cf : Nat → Nat} {kn : Int32} {w : Wt} {fs : Fs} {B Bk Vv : Nat} {K : Rg} {F T : Nat → Nat} {rt : Int32} {tb : Int64} {Mc Mt Nc Nt : FM} {z k : Nat} {ad v : Int64} {ac md : Int32}
/-- the end of an atomic, behind the twin's watch or without it -/
theorem atm_end (R : RelP p h bd a fu cf rg u t hv kp fd m c1 f1 d1 w1 hq s dd x dk q rq r g sg bl cr np kn (some w) fs B Bk Vv K F T rt tb Mc Mt) (hl : Mt.1 354 c1 0 = Int32.ofInt 2 ∨ Mt.1 354 c1 0 = Int32.ofInt 4) (v : Int64) :
    ∃ X Y, (HX47_finish a (Int32.ofInt 1) v Mc ∧ (GX47_finish a (Int32.ofInt 1) v Mc).2 = X) ∧ (HX92_atomic_135 m (nI h) v Mt ∧ GX92_atomic_135 m (nI h) v Mt = (Int32.ofInt 1, Y)) ∧ RelP p h bd a fu cf rg u t hv kp fd m c1 f1 d1 w1 hq s dd x dk q rq r g sg bl cr np kn none fs B Bk Vv K F T rt tb X Y ∧ RamQ r Mc X ∧ Br m h sg Y Mt := by
  obtain ⟨X, Y, ⟨f1_, f2_⟩, ⟨g1_, g2_⟩, R4, rq4, kc4, kt4⟩ := P_ifin R hl (Int32.ofInt 1) v
  obtain ⟨y0, y1, y2, y3, ⟨y4, y5⟩, yr⟩ := R.2.1.1
  have hcl : (nI h).toNatClampNeg = h := o_cl (by omega)
  refine ⟨X, Y, ⟨f1_, by rw [f2_]⟩, ⟨?_, ?_⟩, R4, rq4, b316 kt4 (by decide) R⟩
  · unfold HX92_atomic_135
    try dsimp only
    rw [hcl, y5]
    exact ⟨in_nI y4 (by omega) (by decide), R.2.2.2.1.2.1, g1_, trivial⟩
  · unfold GX92_atomic_135
    try dsimp only
    rw [hcl, y5, g2_]
theorem atm_watch (R : RelP p h bd a fu cf rg u t hv kp fd m c1 f1 d1 w1 hq s dd x dk q rq r g sg bl cr np kn (some w) fs B Bk Vv K F T rt tb Mc Mt) (To : Told d1 rt tb Mt) (hl : Mt.1 354 c1 0 = Int32.ofInt 2 ∨ Mt.1 354 c1 0 = Int32.ofInt 4) (hz : z ≤ 8) (hd : dMo d1 Mt = md) (Fd : FdT m F T K (Int32.ofInt 2) md z ad Mt) (v : Int64) :
    ∃ X Y, (HX47_finish a (Int32.ofInt 1) v Mc ∧ (GX47_finish a (Int32.ofInt 1) v Mc).2 = X) ∧ (HX92_atomic_128 m (nI h) (nI z) v Mt ∧ GX92_atomic_128 m (nI h) (nI z) v Mt = (Int32.ofInt 1, Y)) ∧ RelP p h bd a fu cf rg u t hv kp fd m c1 f1 d1 w1 hq s dd x dk q rq r g sg bl cr np kn none fs B Bk Vv K F T rt tb X Y ∧ RamQ r Mc X ∧ Br m h sg Y Mt := by
  obtain ⟨Y1, ⟨w1_, w2_⟩, R1, To1, k1, e316⟩ := P_watch R To hz hd Fd
  have e316 := br_of k1 (by decide) e316 (e414_k k1 (by decide) R) R
  have l3 : Y1.1 354 c1 0 = Mt.1 354 c1 0 := l354 k1 (by decide) R
  obtain ⟨X, Y, e1, ⟨g1_, g2_⟩, R4, rq4, e2⟩ := atm_end R1 (by rw [l3]; exact hl) v
  refine ⟨X, Y, e1, ⟨?_, ?_⟩, R4, rq4, e2.trans e316⟩
  · unfold HX92_atomic_128
    try dsimp only
    rw [w2_]
    exact ⟨w1_, g1_⟩
  · unfold GX92_atomic_128
    try dsimp only
    rw [w2_, g2_]
theorem knd_k {k : Nat} (h : k < 5 ∨ (k % 4 = 0 ∧ k < 29)) : knd (nI k) ∨ nI k = Int32.ofInt 2 ∨ nI k = Int32.ofInt 3 := by
  have : k = 0 ∨ k = 1 ∨ k = 2 ∨ k = 3 ∨ k = 4 ∨ k = 8 ∨ k = 12 ∨ k = 16 ∨ k = 20 ∨ k = 24 ∨ k = 28 := by omega
  unfold knd
  rcases this with rfl | rfl | rfl | rfl | rfl | rfl | rfl | rfl | rfl | rfl | rfl
  · exact Or.inl (Or.inl rfl)
  · exact Or.inl (Or.inr (Or.inl rfl))
  · exact Or.inr (Or.inl rfl)
  · exact Or.inr (Or.inr rfl)
  · exact Or.inl (Or.inr (Or.inr (Or.inl rfl)))
  · exact Or.inl (Or.inr (Or.inr (Or.inr (Or.inl rfl))))
  · exact Or.inl (Or.inr (Or.inr (Or.inr (Or.inr (Or.inl rfl)))))
  · exact Or.inl (Or.inr (Or.inr (Or.inr (Or.inr (Or.inr (Or.inl rfl))))))
  · exact Or.inl (Or.inr (Or.inr (Or.inr (Or.inr (Or.inr (Or.inr (Or.inl rfl)))))))
  · exact Or.inl (Or.inr (Or.inr (Or.inr (Or.inr (Or.inr (Or.inr (Or.inr (Or.inl rfl))))))))
  · exact Or.inl (Or.inr (Or.inr (Or.inr (Or.inr (Or.inr (Or.inr (Or.inr (Or.inr rfl))))))))
/-- behind the check of the place: both sides, with the access ac -/
theorem atm_41 (R : RelP p h bd a fu cf rg u t hv kp fd m c1 f1 d1 w1 hq s dd x dk q rq r g sg bl cr np kn (some w) fs B Bk Vv K F T rt tb Mc Mt) (To : Told d1 rt tb Mt) (hl : Mt.1 354 c1 0 = Int32.ofInt 2 ∨ Mt.1 354 c1 0 = Int32.ofInt 4) (hw : fs.2.2.2.1 = Int32.ofInt 0) (hB : Bk + 8 < 9223372036854775808) (hV : Vv < 2147483648) (hz : z = 4 ∨ z = 8)
    (hk32 : k < 32) (hk : k < 5 ∨ (k % 4 = 0 ∧ k < 29)) (hac : (k = 2 ∧ ac = Int32.ofInt 1) ∨ (¬ k = 2 ∧ ac = Int32.ofInt 2)) (al : ul ad % z = 0) :
    HX46_atomic_41 p ad (nI z) (nI k) ac Mc ∧ HX92_atomic_46 m (nI h) ad (nI z) (nI k) w.2.2.2.1 m (nI h) ad (nI z) ac Mt ∧
      OutP p h bd a fu cf rg u t hv kp fd m c1 f1 d1 w1 hq s dd x dk q rq r g sg bl cr np kn B Bk Vv rt tb Mc Mt (GX46_atomic_41 p ad (nI z) (nI k) ac Mc) (GX92_atomic_46 m (nI h) ad (nI z) (nI k) w.2.2.2.1 m (nI h) ad (nI z) ac Mt) := by
  have hz' : z = 1 ∨ z = 2 ∨ z = 4 ∨ z = 8 := Or.inr (Or.inr hz)
  have hz8 : z ≤ 8 := by omega
  have hc : ul ad % 4096 + z ≤ 4096 := by rcases hz with rfl | rfl <;> omega
  have hac' : ac = Int32.ofInt 1 ∨ ac = Int32.ofInt 2 := hac.imp And.right And.right
  have ez : (nI z).toInt64 = lN z := o_64 (by omega)
  have ulz : ul (lN z) = z := by rw [ul_lN]; omega
  have RR := relP_ram R
  have hd95 := R.2.2.2.2.1.2.1.2.1
  obtain ⟨pv, Nc, Z, ⟨f1_, f2_⟩, hF, R2, To2, E, kZ, z322, zrow, out⟩ := finds_1 (ad := ad) (ac := ac) (z := z) R To (by omega) hV hac' hz' hc rfl
  have dm := c_dataMode R.2.2.2.2.1 R.1.1.2.2.2.2.2.1
  have dm' : GX46_dataMode p Mc = (dMo d1 Mt, Mc) := dm
  have hnz : ¬ lN z = 0 := by rcases hz with rfl | rfl <;> decide
  have alc := (al_c ad hz').mpr al
  have l3 : Z.1 354 c1 0 = Mt.1 354 c1 0 := l354 kZ (by decide) R
  have b3 : Br m h sg Z Mt := b316 kZ (by decide) R
  have RR2 := relP_ram R2
  have b210 : Nc.2.2 210 p 0 = bd := R2.1.1.2.2.1
  have b18 : Nc.2.2 18 bd 0 = r := R2.2.2.2.2.2.2.2.2.1.1.2.2.1
  have h0c : (Int32.ofInt 0).toNatClampNeg = 0 := rfl
  have hhas : GX11_has r pv (lN z) Nc = (bz (inR pv z), Nc) := by
    have := X11_has (a := pv) RR2.2.2.1 (b := lN z) (by rw [ulz]; omega)
    rw [ulz] at this
    exact this
  have hare : GX93_areBytes pv (lN z) Z = (bz (inR pv z), Z) := by
    try dsimp only
    rw [X93_areBytes (by rw [ulz]; omega), ulz]
    have : (inR pv 1 ∧ inR pv z) = inR pv z := propext ⟨fun q => q.2, fun q => ⟨by unfold inR at *; omega, q⟩⟩
    rw [this]
  -- an exception behind finding
  have Exc : ∀ (c : Int32) (kc : Nat), ui c = kc → kc < 64 → OutP p h bd a fu cf rg u t hv kp fd m c1 f1 d1 w1 hq s dd x dk q rq r g sg bl cr np kn B Bk Vv rt tb Mc Mt (GX46_raise p c ad Nc) (GX92_fail m c ad Z) := fun c kc h1 h2 => by
    obtain ⟨Nc2, Nt2, e1, e2, TN, e3, e4, e5, e6, e7⟩ := P_fail R2 h1 h2 ad
    exact ⟨fs, K, F, T, Nc2, Nt2, evo_w (evo_q' E e5) (by omega), hw, (b316 e7 (by decide) R2).trans b3, Or.inr ⟨e1, e2, e3, relP_upw (by omega) (by omega) (by omega) e4⟩⟩
  have k2iff : (nI k = Int32.ofInt 2) ↔ k = 2 := ⟨fun q => by
    have := congrArg ui q
    rw [ui_nI, show ui (Int32.ofInt 2) = 2 from rfl] at this
    omega, fun q => by rw [q]; rfl⟩
  have k3iff : (nI k = Int32.ofInt 3) ↔ k = 3 := ⟨fun q => by
    have := congrArg ui q
    rw [ui_nI, show ui (Int32.ofInt 3) = 3 from rfl] at this
    omega, fun q => by rw [q]; rfl⟩
  rcases out with ⟨ng, ⟨kk, hkk, ek⟩, e2⟩ | ⟨PG, ok, nok⟩
  · have ng' : ¬ 0 ≤ lg_cmp pv (Int64.ofInt 0) := fun q => by
      try dsimp only
      rw [cl_ge] at q
      rw [cl_lt] at ng
      omega
    have O := Exc (-pv).toInt32 kk (by rw [ek, ui_nI]; omega) hkk
    refine ⟨?_, ?_, ?_⟩
    · unfold HX46_atomic_41
      try dsimp only
      rw [ez]
      refine ⟨hnz, fun _ => ?_, fun q => absurd alc q⟩
      try dsimp only
      rw [dm']
      try dsimp only
      rw [f2_]
      exact ⟨f1_, fun q => absurd q ng', fun _ => trivial⟩
    · unfold HX92_atomic_46
      try dsimp only
      rw [e2]
      exact ⟨hF, fun _ => trivial, fun q => absurd rfl q⟩
    · have g1 : GX46_atomic_41 p ad (nI z) (nI k) ac Mc = GX46_raise p (-pv).toInt32 ad Nc := by
        unfold GX46_atomic_41
        try dsimp only
        rw [ez, fi_pos alc, dm']
        try dsimp only
        rw [f2_]
        try dsimp only
        rw [fi_neg ng']
      have g2 : GX92_atomic_46 m (nI h) ad (nI z) (nI k) w.2.2.2.1 m (nI h) ad (nI z) ac Mt = GX92_fail m (-pv).toInt32 ad Z := by
        unfold GX92_atomic_46
        try dsimp only
        rw [e2]
        unfold GX92_fail GX92_fail_0
        try dsimp only
        rw [fi_pos (show Int32.ofInt 0 = 0 from rfl)]
      rw [g1, g2]
      exact O
  · have ge := ge_ng PG.1
    by_cases hi : inR pv z
    · have e2 := ok hi
      obtain ⟨⟨r0, r0'⟩, _⟩ := P_want R2 (k := 2) (by decide)
      have hp4 := R2.2.1.1.2.1
      have hnp := R2.2.1.1.2.2.1
      have v1 : Nc.1 209 p 0 = nI h := R2.1.1.2.1
      have v2 : Nc.2.2 211 p 0 = a := R2.1.1.2.2.2.1
      have m298 : Z.2.2 298 m 0 = cr := R2.2.2.2.2.2.2.2.2.1.2.2.1
      obtain ⟨a1, a2, a3, a4, a5⟩ := rel_atomic RR2 R2.1.2.2.1 (ph := nI h) (k := nI k) (sz := nI z) (p := h) (s := z) (by rw [ui_nI]; omega) (by omega) (by rw [ui_nI]; omega) hz hi (knd_k hk) w.2.2.2.1
      have gs1 := gX11_atomic r (nI h) (nI k) pv (nI z) w.2.2.2.1 Nc RR2.1.1 RR2.1.2.2.1 a1
      have gs2 := gX93_atomic cr (nI h) (nI k) pv (nI z) w.2.2.2.1 Z RR2.2.1.1 RR2.2.1.2.2.1 a2
      have kc : WK lX11_atomic Nc (GX11_atomic r (nI h) (nI k) pv (nI z) w.2.2.2.1 Nc).2 := wX11_atomic (SL lX11_atomic) (fun _ => True) (fun _ h => h) fN _ _ _ _ _ _ Nc (wi_N RR2.1.2.1) trivial _ gs1.1
      have kt : WK lX93_atomic Z (GX93_atomic cr (nI h) (nI k) pv (nI z) w.2.2.2.1 Z).2 := wX93_atomic (SL lX93_atomic) (fun _ => True) (fun _ h => h) fN _ _ _ _ _ _ Z (wi_N RR2.2.1.2.1) trivial _ gs2.1
      have R3 := relP_m (e := 1) kc kt (by decide) (by decide) (by decide) (by decide) a4 a5 R2
      have n92Z : fm_is Z 92 92 m = true := R2.2.1.1.1
      have To3 := told_k kt (by decide) RR2.2.1.1 RR2.2.1.2.1 R2.2.2.2.2.1.2.1.2.1 To2
      have l4 := (l354 kt (by decide) R2).trans l3
      have b4 := (b316 kt (by decide) R2).trans b3
      have Fd : FdT m F T K ac (dMo d1 Mt) z ad (GX93_atomic cr (nI h) (nI k) pv (nI z) w.2.2.2.1 Z).2 := fdT_k kt (by decide) RR2.2.1.1 RR2.2.1.2.1 n92Z ⟨z322.trans (bz_t hc).symm, fun _ => by rw [zrow]; exact PG, fun q => absurd hc q⟩
      have hd3 : dMo d1 (GX93_atomic cr (nI h) (nI k) pv (nI z) w.2.2.2.1 Z).2 = dMo d1 Mt := (dMo_k kt (by decide) RR2.2.1.1 RR2.2.1.2.1 R2.2.2.2.2.1.2.1.2.1).trans (dMo_k kZ (by decide) RR.2.1.1 RR.2.1.2.1 hd95)
      obtain ⟨had, hadd⟩ : ∃ x, (GX93_atomic cr (nI h) (nI k) pv (nI z) w.2.2.2.1 Z).1 = x := ⟨_, rfl⟩
      obtain ⟨Y1, hY1⟩ : ∃ x, (GX93_atomic cr (nI h) (nI k) pv (nI z) w.2.2.2.1 Z).2 = x := ⟨_, rfl⟩
      obtain ⟨X1, hX1⟩ : ∃ x, (GX11_atomic r (nI h) (nI k) pv (nI z) w.2.2.2.1 Nc).2 = x := ⟨_, rfl⟩
      rw [hY1] at R3 To3 l4 b4 Fd hd3
      rw [hX1] at R3 a5
      rw [hadd] at a3
      have v2' : X1.2.2 211 p 0 = a := R3.1.1.2.2.2.1
      have w2' : wq w 2 = w.2.2.2.1 := rfl
      rw [w2'] at r0'
      have n3Z : ¬ Int32.ofInt 1 = 0 := by decide
      -- both ends
      have Ends : (HX47_finish a (Int32.ofInt 1) had X1) ∧ ((k = 2 → HX92_atomic_135 m (nI h) had Y1) ∧ (¬ k = 2 → (k = 3 → (lg_cmp had (Int64.ofInt 0) = 0 → HX92_atomic_128 m (nI h) (nI z) had Y1) ∧ (¬ lg_cmp had (Int64.ofInt 0) = 0 → HX92_atomic_135 m (nI h) had Y1)) ∧ (¬ k = 3 → HX92_atomic_128 m (nI h) (nI z) had Y1))) ∧
          ∀ tG, (tG = fi (k = 2) (GX92_atomic_135 m (nI h) had Y1) (fi (k = 3) (fi (lg_cmp had (Int64.ofInt 0) = 0) (GX92_atomic_128 m (nI h) (nI z) had Y1) (GX92_atomic_135 m (nI h) had Y1)) (GX92_atomic_128 m (nI h) (nI z) had Y1))) → OutP p h bd a fu cf rg u t hv kp fd m c1 f1 d1 w1 hq s dd x dk q rq r g sg bl cr np kn B Bk Vv rt tb Mc Mt (Int32.ofInt 1, (GX47_finish a (Int32.ofInt 1) had X1).2) tG := by
        obtain ⟨X, Y, ⟨p1, p2⟩, ⟨q1, q2⟩, R4, rq4, e4⟩ := atm_end R3 (by rw [l4]; exact hl) had
        have O1 : OutP p h bd a fu cf rg u t hv kp fd m c1 f1 d1 w1 hq s dd x dk q rq r g sg bl cr np kn B Bk Vv rt tb Mc Mt (Int32.ofInt 1, (GX47_finish a (Int32.ofInt 1) had X1).2) (GX92_atomic_135 m (nI h) had Y1) := ⟨fs, K, F, T, X, Y, evo_w (evo_q' (evo_t E a5) rq4) (by omega), hw, e4.trans b4, Or.inl ⟨by rw [p2], q2, relP_upw (by omega) (by omega) (by omega) R4⟩⟩
        by_cases k2 : k = 2
        · refine ⟨p1, ⟨fun _ => q1, fun q => absurd k2 q⟩, fun tG ht' => ?_⟩
          try dsimp only
          rw [ht', fi_pos k2]
          exact O1
        · rcases hac with ⟨q, _⟩ | ⟨_, rfl⟩
          · exact absurd q k2
          obtain ⟨X', Y', ⟨p1', p2'⟩, ⟨q1', q2'⟩, R5, rq5, e5⟩ := atm_watch R3 To3 (by rw [l4]; exact hl) hz8 hd3 Fd had
          have O2 : OutP p h bd a fu cf rg u t hv kp fd m c1 f1 d1 w1 hq s dd x dk q rq r g sg bl cr np kn B Bk Vv rt tb Mc Mt (Int32.ofInt 1, (GX47_finish a (Int32.ofInt 1) had X1).2) (GX92_atomic_128 m (nI h) (nI z) had Y1) := ⟨fs, K, F, T, X', Y', evo_w (evo_q' (evo_t E a5) rq5) (by omega), hw, e5.trans b4, Or.inl ⟨by rw [p2'], q2', relP_upw (by omega) (by omega) (by omega) R5⟩⟩
          refine ⟨p1, ⟨fun q => absurd q k2, fun _ => ⟨fun _ => ⟨fun _ => q1', fun _ => q1⟩, fun _ => q1'⟩⟩, fun tG ht' => ?_⟩
          try dsimp only
          rw [ht', fi_neg k2]
          by_cases k3 : k = 3
          · rw [fi_pos k3]
            by_cases h0 : lg_cmp had (Int64.ofInt 0) = 0
            · rw [fi_pos h0]
              exact O2
            · rw [fi_neg h0]
              exact O1
          · rw [fi_neg k3]
            exact O2
      obtain ⟨n1, n2, n3⟩ := Ends
      refine ⟨?_, ?_, ?_⟩
      · unfold HX46_atomic_41
        try dsimp only
        rw [ez]
        refine ⟨hnz, fun _ => ?_, fun q => absurd alc q⟩
        try dsimp only
        rw [dm']
        try dsimp only
        rw [f2_]
        refine ⟨f1_, fun _ => ?_, fun q => absurd ge q⟩
        try dsimp only
        rw [b210, b18, hhas]
        refine ⟨fun q => absurd q (by rw [bz_t hi]; show ¬ Int32.ofInt 1 = 0; decide), fun _ => ?_⟩
        try dsimp only
        rw [v2, show GX47_wanted a (Int32.ofInt 2) Nc = _ from r0']
        try dsimp only
        rw [b210, b18, v1, hX1, a3]
        exact ⟨r0, a1, n1, trivial⟩
      · unfold HX92_atomic_46
        try dsimp only
        rw [e2]
        refine ⟨hF, fun q => absurd q n3Z, fun _ => ?_⟩
        try dsimp only
        rw [h0c, zrow, ez, hare]
        refine ⟨fun _ => trivial, fun _ => ?_⟩
        try dsimp only
        rw [m298, zrow, hadd, hY1]
        exact ⟨a2, fun q => n2.1 (k2iff.mp q), fun q => ⟨fun q3 => (n2.2 (fun y => q (k2iff.mpr y))).1 (k3iff.mp q3), fun q3 => (n2.2 (fun y => q (k2iff.mpr y))).2 (fun y => q3 (k3iff.mpr y))⟩⟩
      · have g1 : GX46_atomic_41 p ad (nI z) (nI k) ac Mc = (Int32.ofInt 1, (GX47_finish a (Int32.ofInt 1) had X1).2) := by
          unfold GX46_atomic_41
          try dsimp only
          rw [ez, fi_pos alc, dm']
          try dsimp only
          rw [f2_]
          try dsimp only
          rw [fi_pos ge, b210, b18, hhas]
          try dsimp only
          rw [bz_t hi, fi_neg n3Z, v2, show GX47_wanted a (Int32.ofInt 2) Nc = _ from r0']
          try dsimp only
          rw [b210, b18, v1, hX1, a3]
        have g2 : GX92_atomic_46 m (nI h) ad (nI z) (nI k) w.2.2.2.1 m (nI h) ad (nI z) ac Mt = fi (k = 2) (GX92_atomic_135 m (nI h) had Y1) (fi (k = 3) (fi (lg_cmp had (Int64.ofInt 0) = 0) (GX92_atomic_128 m (nI h) (nI z) had Y1) (GX92_atomic_135 m (nI h) had Y1)) (GX92_atomic_128 m (nI h) (nI z) had Y1)) := by
          unfold GX92_atomic_46
          try dsimp only
          rw [e2]
          try dsimp only
          rw [fi_neg n3Z, h0c, zrow, ez, hare]
          try dsimp only
          rw [bz_t hi, fi_neg n3Z, m298, zrow, hadd, hY1, propext k2iff, propext k3iff]
        rw [g1]
        exact n3 _ g2
    · -- no memory there
      have cc : ∃ (c : Int32) (kc : Nat), ui c = kc ∧ kc < 64 ∧ fi (ac = Int32.ofInt 1) (Int32.ofInt 5) (Int32.ofInt 7) = c ∧ (nI k = Int32.ofInt 2 → c = Int32.ofInt 5) ∧ (¬ nI k = Int32.ofInt 2 → c = Int32.ofInt 7) := by
        rcases hac with ⟨q, rfl⟩ | ⟨q, rfl⟩
        · exact ⟨Int32.ofInt 5, 5, rfl, by decide, fi_pos rfl, fun _ => rfl, fun y => absurd (k2iff.mpr q) y⟩
        · exact ⟨Int32.ofInt 7, 7, rfl, by decide, fi_neg (by decide), fun y => absurd (k2iff.mp y) q, fun _ => rfl⟩
      obtain ⟨c, kc, hc1, hc2, hc3, hc4, hc5⟩ := cc
      have O := Exc c kc hc1 hc2
      have g1 : GX46_atomic_41 p ad (nI z) (nI k) ac Mc = GX46_raise p c ad Nc := by
        unfold GX46_atomic_41 GX46_atomic_131
        try dsimp only
        rw [ez, fi_pos alc, dm']
        try dsimp only
        rw [f2_]
        try dsimp only
        rw [fi_pos ge, b210, b18, hhas]
        try dsimp only
        rw [bz_f hi, fi_pos (show Int32.ofInt 0 = 0 from rfl), ← hc3]
        by_cases y : ac = Int32.ofInt 1
        · rw [fi_pos y, fi_pos y]
        · rw [fi_neg y, fi_neg y]
      have H1 : HX46_atomic_41 p ad (nI z) (nI k) ac Mc := by
        unfold HX46_atomic_41
        try dsimp only
        rw [ez]
        refine ⟨hnz, fun _ => ?_, fun q => absurd alc q⟩
        try dsimp only
        rw [dm']
        try dsimp only
        rw [f2_]
        refine ⟨f1_, fun _ => ?_, fun q => absurd ge q⟩
        try dsimp only
        rw [b210, b18, hhas]
        exact ⟨fun _ => trivial, fun q => absurd (bz_f hi) q⟩
      rcases nok hi with e2 | e2
      · refine ⟨H1, ?_, ?_⟩
        · unfold HX92_atomic_46
          try dsimp only
          rw [e2]
          refine ⟨hF, fun q => absurd q (show ¬ Int32.ofInt 1 = 0 by decide), fun _ => ?_⟩
          try dsimp only
          rw [h0c, zrow, ez, hare]
          exact ⟨fun _ => trivial, fun q => absurd (bz_f hi) q⟩
        · have g2 : GX92_atomic_46 m (nI h) ad (nI z) (nI k) w.2.2.2.1 m (nI h) ad (nI z) ac Mt = GX92_fail m c ad Z := by
            unfold GX92_atomic_46 GX92_atomic_82
            try dsimp only
            rw [e2]
            try dsimp only
            rw [fi_neg (show ¬ Int32.ofInt 1 = 0 by decide), h0c, zrow, ez, hare]
            try dsimp only
            rw [bz_f hi, fi_pos (show Int32.ofInt 0 = 0 from rfl)]
            by_cases y : nI k = Int32.ofInt 2
            · rw [fi_pos y, hc4 y]
            · rw [fi_neg y, hc5 y]
          rw [g1, g2]
          exact O
      · rw [hc3] at e2
        refine ⟨H1, ?_, ?_⟩
        · unfold HX92_atomic_46
          try dsimp only
          rw [e2]
          exact ⟨hF, fun _ => trivial, fun q => absurd rfl q⟩
        · have g2 : GX92_atomic_46 m (nI h) ad (nI z) (nI k) w.2.2.2.1 m (nI h) ad (nI z) ac Mt = GX92_fail m c ad Z := by
            unfold GX92_atomic_46
            try dsimp only
            rw [e2]
            unfold GX92_fail GX92_fail_0
            try dsimp only
            rw [fi_pos (show Int32.ofInt 0 = 0 from rfl)]
          rw [g1, g2]
          exact O
theorem P_atomic (R : RelP p h bd a fu cf rg u t hv kp fd m c1 f1 d1 w1 hq s dd x dk q rq r g sg bl cr np kn (some w) fs B Bk Vv K F T rt tb Mc Mt) (To : Told d1 rt tb Mt) (hl : Mt.1 354 c1 0 = Int32.ofInt 2 ∨ Mt.1 354 c1 0 = Int32.ofInt 4) (hw : fs.2.2.2.1 = Int32.ofInt 0) (hB : Bk + 8 < 9223372036854775808) (hV : Vv < 2147483648) (hz : z = 4 ∨ z = 8) (hq' : w.2.2.1 = lN z)
    (hk32 : k < 32) (hk : k < 5 ∨ (k % 4 = 0 ∧ k < 29)) (hs : w.2.2.2.2.1 = lN k) :
    HX46_atomic p Mc ∧ HX92_atomic m (nI h) w.2.1 (nI z) (nI k) w.2.2.2.1 Mt ∧ OutP p h bd a fu cf rg u t hv kp fd m c1 f1 d1 w1 hq s dd x dk q rq r g sg bl cr np kn B Bk Vv rt tb Mc Mt (GX46_atomic p Mc) (GX92_atomic m (nI h) w.2.1 (nI z) (nI k) w.2.2.2.1 Mt) := by
  have hz' : z = 1 ∨ z = 2 ∨ z = 4 ∨ z = 8 := Or.inr (Or.inr hz)
  have v2 : Mc.2.2 211 p 0 = a := R.1.1.2.2.2.1
  obtain ⟨⟨q0, q0'⟩, _⟩ := P_want R (k := 0) (by decide)
  obtain ⟨⟨q1, q1'⟩, _⟩ := P_want R (k := 1) (by decide)
  obtain ⟨⟨q3, q3'⟩, _⟩ := P_want R (k := 3) (by decide)
  have w0 : wq w 0 = w.2.1 := rfl
  have w1' : wq w 1 = lN z := hq'
  have w3' : wq w 3 = lN k := hs
  rw [w0] at q0'
  rw [w1'] at q1'
  rw [w3'] at q3'
  have ek : (lN k).toInt32 = nI k := ui_inj (by rw [ui_low, ul_lN, ui_nI]; omega)
  have ez : (nI z).toInt64 = lN z := o_64 (by omega)
  have hnz : ¬ lN z = 0 := by rcases hz with rfl | rfl <;> decide
  have k2iff : (nI k = Int32.ofInt 2) ↔ k = 2 := ⟨fun q => by
    have := congrArg ui q
    rw [ui_nI, show ui (Int32.ofInt 2) = 2 from rfl] at this
    omega, fun q => by rw [q]; rfl⟩
  have UG : GX46_atomic p Mc = fi (nI k = Int32.ofInt 2) (GX46_atomic_41 p w.2.1 (nI z) (nI k) (Int32.ofInt 1) Mc) (GX46_atomic_41 p w.2.1 (nI z) (nI k) (Int32.ofInt 2) Mc) := by
    unfold GX46_atomic GX46_atomic_0
    try dsimp only
    rw [v2, show GX47_wanted a (Int32.ofInt 0) Mc = _ from q0']
    try dsimp only
    rw [v2, show GX47_wanted a (Int32.ofInt 1) Mc = _ from q1']
    try dsimp only
    rw [v2, show GX47_wanted a (Int32.ofInt 3) Mc = _ from q3']
    try dsimp only
    rw [iz_z hz', ek]
  have UH : ((nI k = Int32.ofInt 2 → HX46_atomic_41 p w.2.1 (nI z) (nI k) (Int32.ofInt 1) Mc) ∧ (¬ nI k = Int32.ofInt 2 → HX46_atomic_41 p w.2.1 (nI z) (nI k) (Int32.ofInt 2) Mc)) → HX46_atomic p Mc := by
    intro q
    unfold HX46_atomic HX46_atomic_0
    try dsimp only
    rw [v2, show GX47_wanted a (Int32.ofInt 0) Mc = _ from q0']
    try dsimp only
    rw [v2, show GX47_wanted a (Int32.ofInt 1) Mc = _ from q1']
    try dsimp only
    rw [v2, show GX47_wanted a (Int32.ofInt 3) Mc = _ from q3']
    try dsimp only
    rw [iz_z hz', ek]
    exact ⟨q0, q1, q3, q⟩
  by_cases al : ul w.2.1 % z = 0
  · have alt := (al_t w.2.1 hz').mpr al
    by_cases y : k = 2
    · obtain ⟨h1, h2, h3⟩ := atm_41 (k := k) (ad := w.2.1) (ac := Int32.ofInt 1) R To hl hw hB hV hz hk32 hk (Or.inl ⟨y, rfl⟩) al
      refine ⟨UH ⟨fun _ => h1, fun q => absurd (k2iff.mpr y) q⟩, ?_, ?_⟩
      · unfold HX92_atomic HX92_atomic_0
        try dsimp only
        rw [ez]
        exact ⟨fun _ => ⟨fun _ => h2, fun q => absurd (k2iff.mpr y) q⟩, fun q => absurd alt q⟩
      · rw [UG, fi_pos (k2iff.mpr y)]
        unfold GX92_atomic GX92_atomic_0
        try dsimp only
        rw [ez, fi_pos alt, fi_pos (k2iff.mpr y)]
        exact h3
    · have y' : ¬ nI k = Int32.ofInt 2 := fun q => y (k2iff.mp q)
      obtain ⟨h1, h2, h3⟩ := atm_41 (k := k) (ad := w.2.1) (ac := Int32.ofInt 2) R To hl hw hB hV hz hk32 hk (Or.inr ⟨y, rfl⟩) al
      refine ⟨UH ⟨fun q => absurd q y', fun _ => h1⟩, ?_, ?_⟩
      · unfold HX92_atomic HX92_atomic_0
        try dsimp only
        rw [ez]
        exact ⟨fun _ => ⟨fun q => absurd q y', fun _ => h2⟩, fun q => absurd alt q⟩
      · rw [UG, fi_neg y']
        unfold GX92_atomic GX92_atomic_0
        try dsimp only
        rw [ez, fi_pos alt, fi_neg y']
        exact h3
  · have alt : ¬ lg_cmp (w.2.1 &&& (lN z - Int64.ofInt 1)) (Int64.ofInt 0) = 0 := fun q => al ((al_t w.2.1 hz').mp q)
    have alc : ¬ lg_cmp (w.2.1 - w.2.1 / lN z * lN z) (Int64.ofInt 0) = 0 := fun q => al ((al_c w.2.1 hz').mp q)
    have H41 : ∀ ac, HX46_atomic_41 p w.2.1 (nI z) (nI k) ac Mc := fun ac => by
      unfold HX46_atomic_41
      try dsimp only
      rw [ez]
      exact ⟨hnz, fun q => absurd q alc, fun _ => trivial⟩
    refine ⟨UH ⟨fun _ => H41 _, fun _ => H41 _⟩, ?_, ?_⟩
    · unfold HX92_atomic HX92_atomic_0
      try dsimp only
      rw [ez]
      exact ⟨fun q => absurd q alt, fun _ => trivial⟩
    · rw [UG]
      unfold GX92_atomic GX92_atomic_0 GX92_atomic_25 GX46_atomic_41 GX46_atomic_65
      try dsimp only
      rw [ez, fi_neg alt, fi_neg alc, fi_neg alc, fi_pos (show Int32.ofInt 1 = Int32.ofInt 1 from rfl), fi_neg (show ¬ Int32.ofInt 2 = Int32.ofInt 1 by decide)]
      by_cases y : nI k = Int32.ofInt 2
      · rw [fi_pos y, fi_pos y]
        exact out_f R hw (kc := 4) rfl (by decide) _
      · rw [fi_neg y, fi_neg y]
        exact out_f R hw (kc := 6) rfl (by decide) _
end Au
