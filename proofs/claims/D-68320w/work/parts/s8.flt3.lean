/-! a processor against the twin's: float stores and operations -/
set_option maxRecDepth 100000
section Fk
variable {p h bd a fu rg u t hv kp fd m c1 f1 d1 w1 hq s dd x dk q rq r g sg bl cr np : Nat} {cf : Nat → Nat} {kn : Int32} {o : Option Wt} {w : Wt} {fs : Fs} {B Bk Vv : Nat} {K : Rg} {F T : Nat → Nat} {rt : Int32} {tb : Int64} {S S' : List Nat} {Mc Mt Nc Nt X : FM} {z k dreg : Nat} {ad v : Int64} {ac md d_ sz : Int32}
/-- where nothing is given, what was given last doesn't count -/
theorem fin_v0 (c : Nat) (x y : Int64) (M : FM) : GX98_finish c (Int32.ofInt 0) x M = GX98_finish c (Int32.ofInt 0) y M := by
  unfold GX98_finish GX98_finish_0 GX98_finish_14
  try dsimp only
  simp only [fi_pos (show Int32.ofInt 0 = 0 from rfl)]
theorem fin_h0 (c : Nat) (x : Int64) (M : FM) : HX98_finish c (Int32.ofInt 0) x M :=
  ⟨fun _ => ⟨fun _ => ⟨fun _ => trivial, fun q => absurd rfl q⟩, fun _ => trivial⟩, fun _ => ⟨fun _ => ⟨fun _ => trivial, fun q => absurd rfl q⟩, fun _ => trivial⟩⟩
/-- a store out of the floats -/
theorem P_flo39 (R : RelP p h bd a fu cf rg u t hv kp fd m c1 f1 d1 w1 hq s dd x dk q rq r g sg bl cr np kn (some w) fs B Bk Vv K F T rt tb Mc Mt) (To : Told d1 rt tb Mt) (hl : Mt.1 354 c1 0 = Int32.ofInt 2 ∨ Mt.1 354 c1 0 = Int32.ofInt 4) (hw : fs.2.2.2.1 = Int32.ofInt 0) (h13 : ¬ tw (ht Mt d1 768) 13 = 0) (hg : Got p m Mc Mt) (hB : Bk + 8 < 9223372036854775808) (hB' : B < 2147483000) (hV : Vv < 2147483648) (hz : z = 4 ∨ z = 8) (hq' : w.2.2.1 = lN z) (hs : w.2.2.2.2.1 = Int64.ofInt 39) :
    HX46_floating p Mc ∧ HX92_floating m (nI h) w.2.1 (nI z) (Int32.ofInt 39) d_ Mt ∧ OutP p h bd a fu cf rg u t hv kp fd m c1 f1 d1 w1 hq s dd x dk q rq r g sg bl cr np kn B Bk Vv rt tb Mc Mt (GX46_floating p Mc) (GX92_floating m (nI h) w.2.1 (nI z) (Int32.ofInt 39) d_ Mt) := by
  have hz' : z = 1 ∨ z = 2 ∨ z = 4 ∨ z = 8 := Or.inr (Or.inr hz)
  have RR := relP_ram R
  have v4 : Mc.2.2 213 p 0 = u := R.1.1.2.2.2.2.2.1
  have v2 : Mc.2.2 211 p 0 = a := R.1.1.2.2.2.1
  obtain ⟨y0, y1, y2, y3, ⟨y4, y5⟩, ⟨y6, y7⟩, ⟨y8, y9⟩, ⟨ya, yb⟩, yc⟩ := R.2.1.1
  have hcl : (nI h).toNatClampNeg = h := o_cl (by omega)
  have nd := R.2.2.2.2.1.2.1.2.1
  obtain ⟨e1, e2⟩ := rel_floats R.2.2.2.2.1
  rw [bz_t h13] at e1 e2
  have k1 : WK [358] Mt (fm_sI Mt 358 d1 0 (Int32.ofInt 0)) := WK_I RR.2.1.2.1 nd rfl rfl _
  have T1 : Ty (fm_sI Mt 358 d1 0 (Int32.ofInt 0)) := ⟨RR.2.1.1.1, tyb_sI rfl RR.2.1.1.2⟩
  have R1 := relP_t k1 (by decide) T1 R
  have To1 := told_k k1 (by decide) RR.2.1.1 RR.2.1.2.1 nd To
  have l1 := l354 k1 (by decide) R
  have b1 := b316 k1 (by decide) R
  have x317 : (fm_sI Mt 358 d1 0 (Int32.ofInt 0)).1 317 m 0 = Mt.1 317 m 0 := rIf2 _ (by decide)
  generalize hM8 : fm_sI Mt 358 d1 0 (Int32.ofInt 0) = M8 at *
  obtain ⟨oc, ot, vc, vt, vi⟩ := id R1.2.2.2.2.2.1
  have hi32 : ui (Mt.1 317 m 0) / 1048576 % 32 < 32 := Nat.mod_lt _ (by decide)
  obtain ⟨gx1, gx2⟩ := X99_get ot vt hi32
  have RR1 := relP_ram R1
  have k2 : WK [366] M8 (fm_sI M8 366 f1 0 (Int32.ofInt 0)) := WK_I RR1.2.1.2.1 ot.2.1 rfl rfl _
  have T2 : Ty (fm_sI M8 366 f1 0 (Int32.ofInt 0)) := ⟨T1.1, tyb_sI rfl T1.2⟩
  have R2 := relP_t k2 (by decide) T2 R1
  have To2 := told_k k2 (by decide) T1 RR1.2.1.2.1 R1.2.2.2.2.1.2.1.2.1 To1
  have l2 := (l354 k2 (by decide) R1).trans l1
  have b2 := (b316 k2 (by decide) R1).trans b1
  generalize hM9 : fm_sI M8 366 f1 0 (Int32.ofInt 0) = M9 at *
  obtain ⟨⟨q0, q0'⟩, _⟩ := P_want R1 (k := 0) (by decide)
  obtain ⟨⟨q1, q1'⟩, _⟩ := P_want R1 (k := 1) (by decide)
  obtain ⟨⟨q3, q3'⟩, _⟩ := P_want R1 (k := 3) (by decide)
  have w1' : wq w 1 = lN z := hq'
  have w3' : wq w 3 = Int64.ofInt 39 := hs
  rw [show wq w 0 = w.2.1 from rfl] at q0'
  rw [w1'] at q1'
  rw [w3'] at q3'
  have e39 : (Int64.ofInt 39).toInt32 = Int32.ofInt 39 := by decide
  have n1 : ¬ Int32.ofInt 1 = 0 := by decide
  have n397 : ¬ Int32.ofInt 39 = Int32.ofInt 7 := by decide
  have UG : GX46_floating p Mc = GX46_floating_110 p (GX46_floatStore p Mc).1 (GX46_floatStore p Mc).2 := by
    unfold GX46_floating GX46_floating_0
    try dsimp only
    rw [v4, e1]
    try dsimp only
    rw [fi_neg n1, v2, show GX47_wanted a (Int32.ofInt 3) Mc = _ from q3']
    try dsimp only
    rw [e39, fi_neg n397, fi_pos (show Int32.ofInt 39 = Int32.ofInt 39 from rfl)]
  have UH : HX46_floatStore p Mc → HX46_floating p Mc := fun q => by
    unfold HX46_floating HX46_floating_0
    try dsimp only
    rw [v4, e1]
    refine ⟨fun y => absurd y n1, fun _ => ?_⟩
    try dsimp only
    rw [v2, show GX47_wanted a (Int32.ofInt 3) Mc = _ from q3']
    try dsimp only
    rw [e39]
    exact ⟨q3, fun y => absurd y n397, fun _ => ⟨fun _ => ⟨q, trivial⟩, fun y => absurd rfl y⟩⟩
  obtain ⟨sv, hsv⟩ : ∃ sv, fs.1 (ui (Mt.1 317 m 0) / 1048576 % 32) = sv := ⟨_, rfl⟩
  rw [hsv] at gx2
  obtain ⟨hS, hL, Nc, Nt, cN, tN, a2, b2', out⟩ := P_store (v := sv) R2 To2 (by rw [l2]; exact hl) hw hB hB' hV hz'
  have GT : GX92_floating m (nI h) w.2.1 (nI z) (Int32.ofInt 39) d_ Mt = (tN, Nt) := by
    unfold GX92_floating GX92_floating_0
    try dsimp only
    rw [hcl, y7, y9, e2]
    try dsimp only
    rw [fi_neg n1, fi_pos (show Int32.ofInt 39 = Int32.ofInt 39 from rfl), x317, rsgT, gx2]
    try dsimp only
    rw [b2']
  have HT : HX92_floating m (nI h) w.2.1 (nI z) (Int32.ofInt 39) d_ Mt := by
    unfold HX92_floating HX92_floating_0
    try dsimp only
    rw [hcl, y7, y9, e2]
    refine ⟨in_nI y6 (by omega) (by decide), in_nI y8 (by omega) (by decide), nd, fun y => absurd y n1, fun _ => ⟨fun _ => ?_, fun y => absurd rfl y⟩⟩
    try dsimp only
    rw [x317, rsgT, gx2]
    exact ⟨ot.2.1, gx1, hS, trivial⟩
  have eBack : ∀ X : FM, (∃ fs' o' Y B' Bk' Vv' K' F' T', RelP p h bd a fu cf rg u t hv kp fd m c1 f1 d1 w1 hq s dd x dk q rq r g sg bl cr np kn o' fs' B' Bk' Vv' K' F' T' rt tb X Y ∧ fs'.2.2.2.1 = Int32.ofInt 0) → ∀ v : Int32, GX46_floating_110 p v X = (v, X) := fun X ⟨fs', o', Y, B', Bk', Vv', K', F', T', RX, hX⟩ v => by
    have eW := X59_isWritten RX.2.2.2.2.2.1.1 RX.2.2.2.2.2.1.2.2.1
    rw [hX] at eW
    have v3' : X.2.2 212 p 0 = fu := RX.1.1.2.2.2.2.1
    unfold GX46_floating_110 GX46_floating_140
    try dsimp only
    rw [v3', eW]
    try dsimp only
    rw [fi_pos (show Int32.ofInt 0 = 0 from rfl)]
  rw [GT]
  rcases out with ⟨rfl, rfl, ⟨Mt', R3⟩, E, kcL, ⟨s1, s2, s3⟩, O⟩ | ⟨rfl, rfl, O⟩
  · have v2' : Nc.2.2 211 p 0 = a := R3.1.1.2.2.2.1
    have v3' : Nc.2.2 212 p 0 = fu := R3.1.1.2.2.2.2.1
    have v9 : Nc.2.2 217 p 0 = fd := R3.1.1.2.2.2.2.2.2.2.2.2
    have b210 : Nc.2.2 210 p 0 = bd := R3.1.1.2.2.1
    have RF3 := R3.2.2.2.2.2.1
    have e93 : Nc.2.2 93 fu 0 = rg := RF3.1.2.2.1.1
    have l93 : Nc.2.2 1 rg 0 = 32 := RF3.1.2.2.1.2
    have w219 : Nc.1 219 p 0 = Mt.1 317 m 0 := (congrFun (kf (f := 219) kcL rfl (dj_n (L := [219]) (by decide) 219 rfl) (wf_lt RR.1.2.1 (fm_ist rfl R.1.1.1))).1 0).trans hg.1
    have ev : Nc.2.1 3 rg (ui (Mt.1 317 m 0) / 1048576 % 32) = sv := (RF3.2.2.1.1 _ hi32).trans hsv
    have hc32 : (nI (ui (Mt.1 317 m 0) / 1048576 % 32)).toNatClampNeg = ui (Mt.1 317 m 0) / 1048576 % 32 := o_cl (by omega)
    have FL : GX46_floatStore p Mc = (Int32.ofInt 1, (GX47_finish a (Int32.ofInt 0) (Int64.ofInt 0) (GX73_store fd bd sv Nc)).2) := by
      unfold GX46_floatStore GX46_floatStore_0
      try dsimp only
      rw [v2, show GX47_wanted a (Int32.ofInt 0) Mc = _ from q0']
      try dsimp only
      rw [v2, show GX47_wanted a (Int32.ofInt 1) Mc = _ from q1']
      try dsimp only
      rw [iz_z hz', a2]
      try dsimp only
      rw [fi_neg n1, v3', e93, w219, rsgC, hc32, ev, v9, b210, s2]
    have FH : HX46_floatStore p Mc := by
      unfold HX46_floatStore HX46_floatStore_0
      try dsimp only
      rw [v2, show GX47_wanted a (Int32.ofInt 0) Mc = _ from q0']
      try dsimp only
      rw [v2, show GX47_wanted a (Int32.ofInt 1) Mc = _ from q1']
      try dsimp only
      rw [iz_z hz', a2]
      refine ⟨q0, q1, hL, fun y => absurd y n1, fun _ => ?_⟩
      try dsimp only
      rw [v3', e93, w219, rsgC, hc32, ev, v9, b210, s2]
      exact ⟨in_nI l93 hi32 (by decide), s1, s3, trivial⟩
    refine ⟨UH FH, HT, ?_⟩
    try dsimp only
    rw [UG, FL]
    have O2 := out_t (evo_r r 0 Mc) b2 O
    obtain ⟨fs', K', F', T', Nc', Nt', o1, o2, o3, o4⟩ := id O2
    rcases o4 with ⟨p1, p2, p3⟩ | ⟨p1, p2, p3, p4⟩
    · have : (GX47_finish a (Int32.ofInt 0) (Int64.ofInt 0) (GX73_store fd bd sv Nc)).2 = Nc' := congrArg Prod.snd p1
      try dsimp only
      rw [eBack _ ⟨fs', none, Nt', _, _, _, K', F', T', by rw [this]; exact p3, o2⟩]
      exact O2
    · exact absurd (congrArg Prod.fst p1) (by show ¬ Int32.ofInt 1 = Int32.ofInt 0; decide)
  · have FL : GX46_floatStore p Mc = (Int32.ofInt 0, Nc) := by
      unfold GX46_floatStore GX46_floatStore_0
      try dsimp only
      rw [v2, show GX47_wanted a (Int32.ofInt 0) Mc = _ from q0']
      try dsimp only
      rw [v2, show GX47_wanted a (Int32.ofInt 1) Mc = _ from q1']
      try dsimp only
      rw [iz_z hz', a2]
      try dsimp only
      rw [fi_pos (show Int32.ofInt 0 = 0 from rfl)]
    have FH : HX46_floatStore p Mc := by
      unfold HX46_floatStore HX46_floatStore_0
      try dsimp only
      rw [v2, show GX47_wanted a (Int32.ofInt 0) Mc = _ from q0']
      try dsimp only
      rw [v2, show GX47_wanted a (Int32.ofInt 1) Mc = _ from q1']
      try dsimp only
      rw [iz_z hz', a2]
      exact ⟨q0, q1, hL, fun _ => trivial, fun y => absurd rfl y⟩
    refine ⟨UH FH, HT, ?_⟩
    try dsimp only
    rw [UG, FL]
    have O2 := out_t (evo_r r 0 Mc) b2 O
    obtain ⟨fs', K', F', T', Nc', Nt', o1, o2, o3, o4⟩ := id O2
    rcases o4 with ⟨p1, p2, p3⟩ | ⟨p1, p2, p3, p4⟩
    · exact absurd (congrArg Prod.fst p1) (by show ¬ Int32.ofInt 0 = Int32.ofInt 1; decide)
    · have : Nc = Nc' := congrArg Prod.snd p1
      try dsimp only
      rw [eBack _ ⟨fs', none, _, _, _, _, K', F', T', by rw [this]; exact p4, o2⟩]
      exact O2
/-- how a float operation ends -/
theorem fAp_v {t d : Nat} {oo : Fo} {s : Fs} (hs : s.2.2.2.1 = Int32.ofInt 0) : (fAp t d oo s).1 = Int32.ofInt (-1) ∧ (fAp t d oo s).2 = s ∨ ((fAp t d oo s).1 = Int32.ofInt 0 ∨ (fAp t d oo s).1 = Int32.ofInt 1) ∧ ((fAp t d oo s).2.2.2.2.1 = 0 ∨ (fAp t d oo s).2.2.2.2.1 = Int32.ofInt 1) := by
  cases oo with
  | none => exact Or.inl ⟨rfl, rfl⟩
  | some y =>
    obtain ⟨fl, y⟩ := y
    cases y with
    | inl b => exact Or.inr ⟨Or.inl rfl, Or.inr rfl⟩
    | inr x =>
      refine Or.inr ⟨Or.inr rfl, ?_⟩
      show s.2.2.2.1 ||| bz (fl ≠ 0) = 0 ∨ s.2.2.2.1 ||| bz (fl ≠ 0) = Int32.ofInt 1
      rw [hs]
      rcases bz_z (fl ≠ 0) with q | q
      · rw [q]
        exact Or.inl (by decide)
      · rw [q]
        exact Or.inr (by decide)
theorem P_floX {so : Int32} {kk : Nat} (R : RelP p h bd a fu cf rg u t hv kp fd m c1 f1 d1 w1 hq s dd x dk q rq r g sg bl cr np kn (some w) fs B Bk Vv K F T rt tb Mc Mt) (hl : Mt.1 354 c1 0 = Int32.ofInt 2 ∨ Mt.1 354 c1 0 = Int32.ofInt 4) (hw : fs.2.2.2.1 = Int32.ofInt 0) (h13 : ¬ tw (ht Mt d1 768) 13 = 0) (hg : Got p m Mc Mt) (hk : kk = 67 ∨ kk = 71 ∨ kk = 75 ∨ kk = 79 ∨ kk = 83) (hs : w.2.2.2.2.1 = lN kk) :
    HX46_floating p Mc ∧ HX92_floating m (nI h) ad sz (nI kk) d_ Mt ∧ OutP p h bd a fu cf rg u t hv kp fd m c1 f1 d1 w1 hq s dd x dk q rq r g sg bl cr np kn B Bk Vv rt tb Mc Mt (GX46_floating p Mc) (GX92_floating m (nI h) ad sz (nI kk) d_ Mt) := by
  have RR := relP_ram R
  have v4 : Mc.2.2 213 p 0 = u := R.1.1.2.2.2.2.2.1
  have v2 : Mc.2.2 211 p 0 = a := R.1.1.2.2.2.1
  have v3 : Mc.2.2 212 p 0 = fu := R.1.1.2.2.2.2.1
  obtain ⟨y0, y1, y2, y3, ⟨y4, y5⟩, ⟨y6, y7⟩, ⟨y8, y9⟩, ⟨ya, yb⟩, yc⟩ := R.2.1.1
  have hcl : (nI h).toNatClampNeg = h := o_cl (by omega)
  have nd := R.2.2.2.2.1.2.1.2.1
  obtain ⟨e1, e2⟩ := rel_floats R.2.2.2.2.1
  rw [bz_t h13] at e1 e2
  have k1 : WK [358] Mt (fm_sI Mt 358 d1 0 (Int32.ofInt 0)) := WK_I RR.2.1.2.1 nd rfl rfl _
  have T1 : Ty (fm_sI Mt 358 d1 0 (Int32.ofInt 0)) := ⟨RR.2.1.1.1, tyb_sI rfl RR.2.1.1.2⟩
  have R1 := relP_t k1 (by decide) T1 R
  have l1 := l354 k1 (by decide) R
  have b1 := b316 k1 (by decide) R
  have s1 := tw13_k k1 (by decide) R
  have hg1 := got_k (WK_r (S := []) RR.1.2.1) k1 (by decide) (by decide) R hg
  have x303 : (fm_sI Mt 358 d1 0 (Int32.ofInt 0)).2.2 3 ((fm_sI Mt 358 d1 0 (Int32.ofInt 0)).2.2 303 m 0) h = c1 := y5
  have l303 : (fm_sI Mt 358 d1 0 (Int32.ofInt 0)).2.2 1 ((fm_sI Mt 358 d1 0 (Int32.ofInt 0)).2.2 303 m 0) 0 = 4 := y4
  have x317 : (fm_sI Mt 358 d1 0 (Int32.ofInt 0)).1 317 m 0 = Mt.1 317 m 0 := rIf2 _ (by decide)
  generalize hM8 : fm_sI Mt 358 d1 0 (Int32.ofInt 0) = M8 at *
  obtain ⟨⟨q3, q3'⟩, _⟩ := P_want R1 (k := 3) (by decide)
  obtain ⟨⟨q2, q2'⟩, ⟨t2, t2'⟩⟩ := P_want R1 (k := 2) (by decide)
  have w3' : wq w 3 = lN kk := hs
  rw [w3'] at q3'
  have RR1 := relP_ram R1
  have n94 : fm_is M8 94 94 c1 = true := R1.2.2.2.1.2.1
  have k2 : WK [345] M8 (fm_sI M8 345 c1 0 (Int32.ofInt 0)) := WK_I RR1.2.1.2.1 n94 rfl rfl _
  have T2 : Ty (fm_sI M8 345 c1 0 (Int32.ofInt 0)) := ⟨T1.1, tyb_sI rfl T1.2⟩
  have R2 := relP_t k2 (by decide) T2 R1
  have l2 := (l354 k2 (by decide) R1).trans l1
  have b2 := (b316 k2 (by decide) R1).trans b1
  have s2 := (tw13_k k2 (by decide) R1).trans s1
  have hg2 := got_k (WK_r (S := []) RR.1.2.1) k2 (by decide) (by decide) R1 hg1
  generalize hM9 : fm_sI M8 345 c1 0 (Int32.ofInt 0) = M9 at *
  obtain ⟨Nc, Nt, fs', ⟨hc1, ht1⟩, rr, ec, et, fr1, fr2, eap, RF, hval⟩ := rel_frun (w := Mt.1 317 m 0) (v := wq w 2) R2.2.2.2.2.2.1
  have RR2 := relP_ram R2
  have gc := gX59_run fu (Mt.1 317 m 0) (wq w 2) Mc RR2.1.1 R2.2.2.2.2.2.1.1.1.2.1 hc1
  have gt_ := gX99_run f1 (Mt.1 317 m 0) (wq w 2) M9 RR2.2.1.1 R2.2.2.2.2.2.1.2.1.2.1 ht1
  have kc := wX59_run (SL lX59_run) (fun _ => True) (fun _ h => h) fN fu (Mt.1 317 m 0) (wq w 2) Mc (wi_N RR2.1.2.1) trivial _ gc.1
  have kt := wX99_run (SL lX99_run) (fun _ => True) (fun _ h => h) fN f1 (Mt.1 317 m 0) (wq w 2) M9 (wi_N RR2.2.1.2.1) trivial _ gt_.1
  rw [ec] at kc
  rw [et] at kt
  obtain ⟨R3, rq3⟩ := relP_f (S := lX59_run) (S' := lX99_run) kc kt (by decide) (by decide) fr1.1 fr2.1 R2 RF
  have l3 := (l354 (S' := lX99_run) kt (by decide) R2).trans l2
  have b3 := (b316 (S' := lX99_run) kt (by decide) R2).trans b2
  have s3 := (tw13_k (S' := lX99_run) kt (by decide) R2).trans s2
  have hg3 := got_k (S := lX59_run) (S' := lX99_run) kc kt (by decide) (by decide) R2 hg2
  have ek : (lN kk).toInt32 = nI kk := ui_inj (by rw [ui_low, ul_lN, ui_nI]; omega)
  have n1 : ¬ Int32.ofInt 1 = 0 := by decide
  have nk7 : ¬ nI kk = Int32.ofInt 7 := by rcases hk with rfl | rfl | rfl | rfl | rfl <;> decide
  have nk39 : ¬ nI kk = Int32.ofInt 39 := by rcases hk with rfl | rfl | rfl | rfl | rfl <;> decide
  have UG : ∀ Z, GX46_floating p Mc = Z ↔ fi (rr = Int32.ofInt (-1)) ((GX46_illegal p Nc).1, (GX46_illegal p Nc).2) (fi (rr = Int32.ofInt 1) (GX46_floating_97 p (Nc.2.2 211 p 0) (Int32.ofInt 1) Nc) (GX46_floating_97 p (Nc.2.2 211 p 0) (Int32.ofInt 0) Nc)) = Z := by
    intro Z
    unfold GX46_floating GX46_floating_0
    try dsimp only
    rw [v4, e1]
    try dsimp only
    rw [fi_neg n1, v2, show GX47_wanted a (Int32.ofInt 3) Mc = _ from q3']
    try dsimp only
    rw [ek, fi_neg nk7, fi_neg nk39, v2, show GX47_wanted a (Int32.ofInt 2) Mc = _ from q2']
    try dsimp only
    rw [v3, hg.1, ec]
  have UT : ∀ Z, GX92_floating m (nI h) ad sz (nI kk) d_ Mt = Z ↔ fi (0 ≤ rr) (fi (rr = Int32.ofInt 1) (GX92_floating_176 m (nI h) f1 (Nt.2.2 3 (Nt.2.2 303 m 0) h) (Int32.ofInt 1) Nt) (GX92_floating_176 m (nI h) f1 (Nt.2.2 3 (Nt.2.2 303 m 0) h) (Int32.ofInt 0) Nt)) ((GX92_illegal m Nt).1, (GX92_illegal m Nt).2) = Z := by
    intro Z
    unfold GX92_floating GX92_floating_0
    try dsimp only
    rw [hcl, y7, y9, e2]
    try dsimp only
    rw [fi_neg n1, fi_neg nk39, fi_neg nk7, x303, show GX98_wanted c1 (Int32.ofInt 2) M8 = _ from t2']
    try dsimp only
    rw [x317, et]
  obtain ⟨x0, x1, x2, x3, ⟨x4, x5⟩, xr⟩ := R3.2.1.1
  have n96 : fm_is Nt 96 96 f1 = true := R3.2.2.2.2.2.1.2.1.2.1
  have HT : ((0 ≤ rr → (rr = Int32.ofInt 1 → HX92_floating_176 m (nI h) f1 c1 (Int32.ofInt 1) Nt) ∧ (¬ rr = Int32.ofInt 1 → HX92_floating_176 m (nI h) f1 c1 (Int32.ofInt 0) Nt)) → HX92_floating m (nI h) ad sz (nI kk) d_ Mt) := by
    intro q
    unfold HX92_floating HX92_floating_0
    try dsimp only
    rw [hcl, y7, y9, e2]
    refine ⟨in_nI y6 (by omega) (by decide), in_nI y8 (by omega) (by decide), nd, fun y => absurd y n1, fun _ => ⟨fun y => absurd y nk39, fun _ => ⟨fun y => absurd y nk7, fun _ => ?_⟩⟩⟩
    try dsimp only
    rw [x303, show GX98_wanted c1 (Int32.ofInt 2) M8 = _ from t2']
    refine ⟨in_nI l303 (by omega) (by decide), n94, t2, R2.2.2.2.2.2.1.2.1.2.1, ?_⟩
    try dsimp only
    rw [x317, et]
    refine ⟨ht1, fun y => ?_, fun _ => trivial⟩
    try dsimp only
    rw [x5]
    exact ⟨in_nI x4 (by omega) (by decide), fun z1 => ⟨n96, R3.2.2.2.1.2.1, (q y).1 z1⟩, fun z1 => ⟨n96, R3.2.2.2.1.2.1, (q y).2 z1⟩⟩
  have HC : ((¬ rr = Int32.ofInt (-1) → (rr = Int32.ofInt 1 → HX46_floating_97 p a (Int32.ofInt 1) Nc) ∧ (¬ rr = Int32.ofInt 1 → HX46_floating_97 p a (Int32.ofInt 0) Nc)) → HX46_floating p Mc) := by
    intro q
    unfold HX46_floating HX46_floating_0
    try dsimp only
    rw [v4, e1]
    refine ⟨fun y => absurd y n1, fun _ => ?_⟩
    try dsimp only
    rw [v2, show GX47_wanted a (Int32.ofInt 3) Mc = _ from q3']
    try dsimp only
    rw [ek]
    refine ⟨q3, fun y => absurd y nk7, fun _ => ⟨fun y => absurd y nk39, fun _ => ?_⟩⟩
    try dsimp only
    rw [v2, show GX47_wanted a (Int32.ofInt 2) Mc = _ from q2']
    try dsimp only
    rw [v3, hg.1, ec]
    try dsimp only
    rw [show Nc.2.2 211 p 0 = a from R3.1.1.2.2.2.1]
    exact ⟨q2, hc1, fun _ => trivial, q⟩
  have hcases := fAp_v (t := pt (Mt.1 317 m 0) 25 2) (d := pt (Mt.1 317 m 0) 7 5) (oo := fRun (Mt.1 317 m 0) (wq w 2) fs) hw
  rw [← eap] at hcases
  dsimp only at hcases
  rcases hcases with ⟨r1, r2⟩ | ⟨r1, r2⟩
  · have nneg : ¬ (0 : Int32) ≤ rr := by rw [r1]; decide
    refine ⟨HC (fun y => absurd r1 y), HT (fun y => absurd y nneg), ?_⟩
    try dsimp only
    rw [(UG _).mpr (fi_pos r1), (UT _).mpr (fi_neg nneg)]
    exact out_t (evo_q' (evo_r r 0 Mc) rq3) b3 (out_i R3 (by rw [r2]; exact hw) hg3)
  · have nn : ¬ rr = Int32.ofInt (-1) := by rcases r1 with q | q <;> rw [q] <;> decide
    have np0 : (0 : Int32) ≤ rr := by rcases r1 with q | q <;> rw [q] <;> decide
    -- the value
    obtain ⟨oc, ot, vc, vt, vi⟩ := id R3.2.2.2.2.2.1
    have k4 : WK [366] Nt (fm_sI Nt 366 f1 0 (Int32.ofInt 0)) := WK_I (relP_ram R3).2.1.2.1 ot.2.1 rfl rfl _
    have T4 : Ty (fm_sI Nt 366 f1 0 (Int32.ofInt 0)) := ⟨(relP_ram R3).2.1.1.1, tyb_sI rfl (relP_ram R3).2.1.1.2⟩
    have R4 := relP_t k4 (by decide) T4 R3
    have l4 := (l354 k4 (by decide) R3).trans l3
    have b4 := (b316 k4 (by decide) R3).trans b3
    have s4 := (tw13_k k4 (by decide) R3).trans s3
    obtain ⟨yv, vt0⟩ := vt
    have eval := (t_told_v vt0).2.2.2
    have hy1 : rr = Int32.ofInt 1 → yv = fs'.2.2.2.2 := fun z => vt0.2.2.2.2.symm.trans (hval z).2.2.2.2
    have c97 : Nc.2.1 97 fu 0 = fs'.2.2.2.2 := vc.2.2.2.2
    have v3' : Nc.2.2 212 p 0 = fu := R3.1.1.2.2.2.2.1
    have key : ∀ gg : Int32, (gg = Int32.ofInt 0 ∨ rr = Int32.ofInt 1) → HX46_floating_97 p a gg Nc ∧ HX92_floating_176 m (nI h) f1 c1 gg Nt ∧ OutP p h bd a fu cf rg u t hv kp fd m c1 f1 d1 w1 hq s dd x dk q rq r g sg bl cr np kn B Bk Vv rt tb Mc Mt (GX46_floating_97 p a gg Nc) (GX92_floating_176 m (nI h) f1 c1 gg Nt) := by
      intro gg hgg
      obtain ⟨X5, Y5, fs5, ⟨p1, p2⟩, ⟨u1, u2, u3⟩, R5, hw5, rq5, e5⟩ := flo_end R4 (by rw [l4]; exact hl) (by rw [s4]; exact h13) r2 gg fs'.2.2.2.2
      have ev2 : ∀ Z, GX98_finish c1 gg yv Z = GX98_finish c1 gg fs'.2.2.2.2 Z := fun Z => by
        rcases hgg with rfl | z
        · exact fin_v0 _ _ _ _
        · rw [hy1 z]
      have hv2 : ∀ Z, HX98_finish c1 gg fs'.2.2.2.2 Z → HX98_finish c1 gg yv Z := fun Z k => by
        rcases hgg with rfl | z
        · exact fin_h0 _ _ _
        · rw [hy1 z]; exact k
      refine ⟨?_, ?_, fs5, K, F, T, X5, Y5, evo_w (evo_q' (evo_q' (evo_r r 0 Mc) rq3) rq5) (by omega), hw5, e5.trans b4, Or.inl ⟨?_, ?_, relP_upw (by omega) (by omega) (by omega) R5⟩⟩
      · unfold HX46_floating_97
        try dsimp only
        rw [v3', c97]
        exact ⟨p1, trivial⟩
      · unfold HX92_floating_176
        try dsimp only
        rw [eval]
        try dsimp only
        rw [show GX98_finish c1 gg (sVal yv fs').2.2.2.2 (fm_sI Nt 366 f1 0 (Int32.ofInt 0)) = _ from ev2 (fm_sI Nt 366 f1 0 (Int32.ofInt 0))]
        exact ⟨hv2 _ u1, u2⟩
      · unfold GX46_floating_97
        try dsimp only
        rw [v3', c97]
        exact p2
      · unfold GX92_floating_176
        try dsimp only
        rw [eval]
        try dsimp only
        rw [show GX98_finish c1 gg (sVal yv fs').2.2.2.2 (fm_sI Nt 366 f1 0 (Int32.ofInt 0)) = _ from ev2 (fm_sI Nt 366 f1 0 (Int32.ofInt 0))]
        exact u3
    refine ⟨HC (fun _ => ⟨fun z => (key _ (Or.inr z)).1, fun _ => (key _ (Or.inl rfl)).1⟩), HT (fun _ => ⟨fun z => (key _ (Or.inr z)).2.1, fun _ => (key _ (Or.inl rfl)).2.1⟩), ?_⟩
    try dsimp only
    rw [(UG _).mpr (fi_neg nn), (UT _).mpr (fi_pos np0), show Nc.2.2 211 p 0 = a from R3.1.1.2.2.2.1, x5]
    by_cases y : rr = Int32.ofInt 1
    · rw [fi_pos y, fi_pos y]
      exact (key _ (Or.inr y)).2.2
    · rw [fi_neg y, fi_neg y]
      exact (key _ (Or.inl rfl)).2.2
end Fk
