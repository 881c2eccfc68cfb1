/-! a processor against the twin's: looking at the lines and at the time; what the twin is told of it -/
set_option maxRecDepth 100000
theorem rt_0 (x : Int64) : (ib (rtS x) 0 = true) = (lb x 18 = true) := by
  unfold rtS
  rw [ib_and, ib_low, lb_sar (k := 18) _ _ rfl 0 (by decide)]
  rw [show ib (Int32.ofInt 3) 0 = true by decide, show decide (0 < 32) = true by decide, if_pos (by decide)]
  rw [Bool.true_and, Bool.and_true]
theorem rt_1 (x : Int64) : (ib (rtS x) 1 = true) = (lb x 19 = true) := by
  unfold rtS
  rw [ib_and, ib_low, lb_sar (k := 18) _ _ rfl 1 (by decide)]
  rw [show ib (Int32.ofInt 3) 1 = true by decide, show decide (1 < 32) = true by decide, if_pos (by decide)]
  rw [Bool.true_and, Bool.and_true]
theorem dty_18 (x : Int64) {i : Nat} (hi : i = 18 ∨ i = 19) : lb ((x ||| Int64.ofInt 42949672960) ||| dty x) i = lb x i := by
  have d0 : lb (dty x) i = false := by
    unfold dty
    by_cases c : tw x 13 = Int32.ofInt 3
    · rw [fi_pos c]
      rcases hi with rfl | rfl <;> decide
    · rw [fi_neg c]
      rcases hi with rfl | rfl <;> decide
  have d1 : lb (Int64.ofInt 42949672960) i = false := by rcases hi with rfl | rfl <;> decide
  rw [lb_or, lb_or, d0, d1, Bool.or_false, Bool.or_false]
theorem pk_2' {d n : Nat} {Z : FM} (hn : n = 384 ∨ n = 768) : (GX100_peek d (nI n) Z).2.2.2 = Z.2.2 := by
  have hn4 : n < 4096 := by omega
  have n0 : ¬ nI n < 0 := fun z => by have := (nlt0 hn4).mp z; omega
  have n2 : nI n ≤ Int32.ofInt 4095 := (nle hn4 4095 (by decide)).mpr (by omega)
  unfold GX100_peek GX100_peek_0 GX100_peek_25
  try dsimp only
  rw [fi_neg n0, fi_pos n2]
  try dsimp only
  rw [t_shown]
  rcases hn with rfl | rfl
  · rw [t_def (by decide) (by decide)]
    rfl
  · rw [t768]
    rfl
theorem stb_2 (w : Nat) (v : Int64) (Z : FM) : (GX101_setTable w v Z).2.2 = Z.2.2 := by
  have e : ∀ s1, (GX101_setTable_33 w v w s1 Z).2.2 = Z.2.2 := fun s1 => by
    unfold GX101_setTable_33 GX101_setTable_48
    try dsimp only
    by_cases c : (fm_sI Z 422 w 0 s1).1 422 w 0 = 0
    · rw [fi_pos c]
      rfl
    · rw [fi_neg c]
      rfl
  have f : ∀ (c : Prop) (x y : FM), x.2.2 = Z.2.2 → y.2.2 = Z.2.2 → (fi c x y).2.2 = Z.2.2 := fun c x y hx hy => by
    by_cases z : c
    · rw [fi_pos z]
      exact hx
    · rw [fi_neg z]
      exact hy
  unfold GX101_setTable GX101_setTable_0 GX101_setTable_28
  try dsimp only
  exact f _ _ _ (e _) (f _ _ _ (e _) (f _ _ _ (e _) (e _)))
def uCg : List Nat := uPr ++ (uH ++ (uA ++ (218 :: (uI ++ (lC ++ (uFl ++ (uW ++ (uKp ++ (uR ++ (uB ++ ([22, 23] ++ uD)))))))))))
def uTg : List Nat := uQ ++ (lIt ++ (307 :: 1307 :: (lCt ++ (lFt ++ (lWt ++ (uRt ++ (uBt ++ ([315] ++ lDt))))))))
section Lk
variable {p h bd a fu rg u t hv kp fd m c1 f1 d1 w1 hq s dd x dk q rq r g sg bl cr np : Nat} {cf : Nat → Nat} {kn : Int32} {o : Option Wt} {fs : Fs} {B Bk Vv : Nat} {K : Rg} {F T : Nat → Nat} {rt rt' : Int32} {tb tb' : Int64} {S S' : List Nat} {Mc Mt Nc Nt : FM}
/-- the signals go on -/
theorem relP_g (kc : WK S Mc Nc) (kt : WK S' Mt Nt) (hc : dj uCg S = true) (ht' : dj uTg S' = true) (TN : Ty Nc) (TN' : Ty Nt) (R : RelP p h bd a fu cf rg u t hv kp fd m c1 f1 d1 w1 hq s dd x dk q rq r g sg bl cr np kn o fs B Bk Vv K F T rt tb Mc Mt) (RG : RelG s sg np B Nc Nt) : RelP p h bd a fu cf rg u t hv kp fd m c1 f1 d1 w1 hq s dd x dk q rq r g sg bl cr np kn o fs B Bk Vv K F T rt tb Nc Nt ∧ RamQ r Mc Nc := by
  have RR := relP_ram R
  obtain ⟨PC, PT, OW, RI, RC, RF, RT, KP, RB⟩ := R
  have T0 := RR.1.1
  have W := RR.1.2.1
  have Tm := RR.2.1.1
  have W' := RR.2.1.2.1
  obtain ⟨R', q1, q2⟩ := wrR kc kt (dj_sub hc (by decide)) (dj_sub ht' (by decide)) TN TN' RR
  have E : Evo r 0 Mc Nc := evo_same (fun p _ => q1.2.2.2.2.1 p) q1.2.2.2.1
  exact ⟨⟨prC_k kc (dj_sub hc (by decide)) (dj_sub hc (by decide)) (dj_sub hc (by decide)) RR.1 PC, prT_k kt (dj_sub ht' (by decide)) (dj_sub ht' (by decide)) RI.2.1 Tm W' PT,
    owW_k kc kt (dj_sub hc (by decide)) (dj_sub ht' (by decide)) W Tm W' PC.1.1 PT.1.1 OW, wrI kc kt (dj_sub hc (by decide)) (dj_sub ht' (by decide)) T0 W Tm W' RI, wrCt kc kt (dj_sub hc (by decide)) (dj_sub ht' (by decide)) W W' TN TN' RC,
    wrF kc kt (dj_sub hc (by decide)) (dj_sub ht' (by decide)) W W' TN TN' RF, wrTo (e := 0) kc kt (dj_sub hc (by decide)) (dj_sub ht' (by decide)) Tm W' R'.1 q1.2.1 E RT, kcP_k (e := 0) kc (dj_sub hc (by decide)) E RR.1 R'.1 KP,
    ⟨⟨stB_k kc (dj_sub hc (by decide)) T0 W RB.1.1, stTw_k kt (dj_sub ht' (by decide)) W' RB.1.2⟩, ⟨RG, wrD kc kt (dj_sub hc (by decide)) (dj_sub ht' (by decide)) R' RB.2.1.2⟩, enB_k kc kt (dj_sub hc (by decide)) (dj_sub ht' (by decide)) W W' RB.1.1.1.1 RB.1.2.1 RB.2.2⟩⟩, q1⟩
/-- the twin's walk is told something -/
theorem relP_told (kt : WK S' Mt Nt) (ht' : dj uTw S' = true) (TN' : Ty Nt) (R : RelP p h bd a fu cf rg u t hv kp fd m c1 f1 d1 w1 hq s dd x dk q rq r g sg bl cr np kn o fs B Bk Vv K F T rt tb Mc Mt) (V : WtV w1 cr Nt K rt' tb') : RelP p h bd a fu cf rg u t hv kp fd m c1 f1 d1 w1 hq s dd x dk q rq r g sg bl cr np kn o fs B Bk Vv K F T rt' tb' Mc Nt :=
  (relP_w (WK_r (S := []) (relP_ram R).1.2.1) kt (by decide) ht' (relP_ram R).1.1 TN' R (fun _ _ _ _ =>
    ⟨R.2.2.2.2.2.2.1.1, V, R.2.2.2.2.2.2.1.2.2⟩)).1
/-- one line, both sides -/
theorem P_line1 (R : RelP p h bd a fu cf rg u t hv kp fd m c1 f1 d1 w1 hq s dd x dk q rq r g sg bl cr np kn o fs B Bk Vv K F T rt tb Mc Mt) {l : Nat} (hl : l = 3 ∨ l = 7 ∨ l = 9 ∨ l = 11) : ∃ b Nt,
    (HX30_line s (nI h) (nI l) Mc ∧ GX30_line s (nI h) (nI l) Mc = (b, Mc)) ∧
    (HX96_line sg (nI h) (nI l) Mt ∧ GX96_line sg (nI h) (nI l) Mt = (b, fm_sI Mt 394 sg 0 (Int32.ofInt 0))) ∧
    (HX100_line d1 (nI l) b (fm_sI Mt 394 sg 0 (Int32.ofInt 0)) ∧ GX100_line d1 (nI l) b (fm_sI Mt 394 sg 0 (Int32.ofInt 0)) = Nt) ∧
    RelP p h bd a fu cf rg u t hv kp fd m c1 f1 d1 w1 hq s dd x dk q rq r g sg bl cr np kn o fs B Bk Vv K F T rt tb (GX74_line u (nI l) b Mc) Nt ∧ WK [43] Mc (GX74_line u (nI l) b Mc) ∧ RamQ r Mc (GX74_line u (nI l) b Mc) ∧ WK lX92_tell Mt Nt := by
  have RR := relP_ram R
  have RB := R.2.2.2.2.2.2.2.2
  obtain ⟨P, ⟨e1, e2⟩, ⟨e3, e4⟩⟩ := rel_gline RR.1.1 RR.1.2.1 RR.2.1.1 RR.2.1.2.1 RB.2.1.1 (q := h) R.2.1.1.2.1 (l := nI l) (by rcases hl with rfl | rfl | rfl | rfl <;> decide)
  have nsg : fm_is Mt 99 99 sg = true := by
    have := tN_301 RR.2.1.1.1 R.2.1.1.1
    rw [RB.1.2.2.2.2] at this
    exact this
  have k1 : WK [394] Mt (fm_sI Mt 394 sg 0 (Int32.ofInt 0)) := WK_I RR.2.1.2.1 nsg rfl rfl _
  have T1 : Ty (fm_sI Mt 394 sg 0 (Int32.ofInt 0)) := ⟨RR.2.1.1.1, tyb_sI rfl RR.2.1.1.2⟩
  have R1 : RelP p h bd a fu cf rg u t hv kp fd m c1 f1 d1 w1 hq s dd x dk q rq r g sg bl cr np kn o fs B Bk Vv K F T rt tb Mc (fm_sI Mt 394 sg 0 (Int32.ofInt 0)) :=
    (relP_g (WK_r (S := []) RR.1.2.1) k1 (by decide) (by decide) RR.1.1 T1 R (relG_94 RB.2.1.1 _)).1
  have RR1 := relP_ram R1
  obtain ⟨f1_, f2_⟩ := rel_line R1.2.2.2.2.1 hl (bz_z P)
  have nu := R1.2.2.2.2.1.1.2.1
  have nd := R1.2.2.2.2.1.2.1.2.1
  have ga := gX74_line u (nI l) (bz P) Mc RR1.1.1 nu
  have gb := gX100_line d1 (nI l) (bz P) _ RR1.2.1.1 nd f1_
  have kc : WK lX74_line Mc (GX74_line u (nI l) (bz P) Mc) := wX74_line (SL lX74_line) (fun _ => True) (fun _ h => h) u (nI l) (bz P) Mc (wi_N RR1.1.2.1) trivial _ ga.1
  have kt : WK lX100_line (fm_sI Mt 394 sg 0 (Int32.ofInt 0)) (GX100_line d1 (nI l) (bz P) (fm_sI Mt 394 sg 0 (Int32.ofInt 0))) := wX100_line (SL lX100_line) (fun _ => True) (fun _ h => h) d1 (nI l) (bz P) _ (wi_N RR1.2.1.2.1) trivial _ gb.1
  obtain ⟨R2, rq⟩ := relP_u kc kt (by decide) (by decide) f2_.1.1 f2_.2.1.1 R1 f2_
  exact ⟨bz P, _, ⟨e1, e2⟩, ⟨e3, e4⟩, ⟨f1_, rfl⟩, R2, kc, rq, WK_t (WK_s (by decide) k1) (WK_s (by decide) kt)⟩
/-- one line, as the twin's loop does it -/
theorem tell_1 (R : RelP p h bd a fu cf rg u t hv kp fd m c1 f1 d1 w1 hq s dd x dk q rq r g sg bl cr np kn o fs B Bk Vv K F T rt tb Mc Mt) {l l' : Nat} (hl : (l = 3 ∧ l' = 7) ∨ (l = 7 ∧ l' = 9) ∨ (l = 9 ∧ l' = 11) ∨ (l = 11 ∧ l' = 13)) : ∃ b Nt,
    (HX30_line s (nI h) (nI l) Mc ∧ GX30_line s (nI h) (nI l) Mc = (b, Mc)) ∧
    (∀ j, FX92_tell_L9 fN (j + 1) m (nI h) d1 (nI l) Mt = FX92_tell_L9 fN j m (nI h) d1 (nI l') Nt) ∧
    RelP p h bd a fu cf rg u t hv kp fd m c1 f1 d1 w1 hq s dd x dk q rq r g sg bl cr np kn o fs B Bk Vv K F T rt tb (GX74_line u (nI l) b Mc) Nt ∧ WK [43] Mc (GX74_line u (nI l) b Mc) ∧ RamQ r Mc (GX74_line u (nI l) b Mc) ∧ WK lX92_tell Mt Nt := by
  have hl4 : l = 3 ∨ l = 7 ∨ l = 9 ∨ l = 11 := by omega
  obtain ⟨b, Nt, hc1, ⟨e1, e2⟩, ⟨e3, e4⟩, R2, kc, rq, kt⟩ := P_line1 R hl4
  refine ⟨b, Nt, hc1, fun j => ?_, R2, kc, rq, kt⟩
  have RR := relP_ram R
  have v301 : Mt.2.2 301 m 0 = sg := R.2.2.2.2.2.2.2.2.1.2.2.2.2
  have n12 : ¬ Int32.ofInt 12 ≤ nI l := by rcases hl4 with rfl | rfl | rfl | rfl <;> decide
  have H : HX92_tell_9 m (nI h) d1 (nI l) Mt := by
    unfold HX92_tell_9
    try dsimp only
    refine ⟨fun c => absurd c n12, fun _ => ?_⟩
    try dsimp only
    rw [v301, e2]
    exact ⟨e1, e3, trivial⟩
  have G := (gX92_tell_9 (FX92_tell_L9 fN j) m (nI h) d1 (nI l) Mt RR.2.1.1 R.2.1.1.1 R.2.2.2.2.1.2.1.2.1 H).1
  show FX92_tell_9 fN (FX92_tell_L9 fN j) m (nI h) d1 (nI l) Mt = _
  rw [G]
  unfold GX92_tell_9 GX92_tell_42
  try dsimp only
  rw [fi_neg n12, v301, e2]
  try dsimp only
  rw [e4]
  rcases hl with ⟨rfl, rfl⟩ | ⟨rfl, rfl⟩ | ⟨rfl, rfl⟩ | ⟨rfl, rfl⟩
  · rw [fi_pos (show nI 3 = Int32.ofInt 3 from rfl)]
    rfl
  · rw [fi_neg (show ¬ nI 7 = Int32.ofInt 3 by decide)]
    rfl
  · rw [fi_neg (show ¬ nI 9 = Int32.ofInt 3 by decide)]
    rfl
  · rw [fi_neg (show ¬ nI 11 = Int32.ofInt 3 by decide)]
    rfl
/-- what the twin's walk is told -/
theorem tell_w (R : RelP p h bd a fu cf rg u t hv kp fd m c1 f1 d1 w1 hq s dd x dk q rq r g sg bl cr np kn o fs B Bk Vv K F T rt tb Mc Mt) : ∃ rt' tb' Nt, (HX100_peek d1 (Int32.ofInt 384) Mt ∧ fm_is (GX100_peek d1 (Int32.ofInt 384) Mt).2 101 101 w1 = true ∧
    HX100_peek d1 (Int32.ofInt 768) (GX101_setTable w1 (GX100_peek d1 (Int32.ofInt 384) Mt).1 (GX100_peek d1 (Int32.ofInt 384) Mt).2)) ∧
    RelP p h bd a fu cf rg u t hv kp fd m c1 f1 d1 w1 hq s dd x dk q rq r g sg bl cr np kn o fs B Bk Vv K F T rt' tb' Mc Nt ∧ Told d1 rt' tb' Nt ∧ WK lX92_tell Mt Nt ∧
    fm_is (GX100_peek d1 (Int32.ofInt 768) (GX101_setTable w1 (GX100_peek d1 (Int32.ofInt 384) Mt).1 (GX100_peek d1 (Int32.ofInt 384) Mt).2)).2 101 101 w1 = true ∧
    GX101_rights w1 (bz (lb (GX100_peek d1 (Int32.ofInt 768) (GX101_setTable w1 (GX100_peek d1 (Int32.ofInt 384) Mt).1 (GX100_peek d1 (Int32.ofInt 384) Mt).2)).1 18 = true)) (bz (lb (GX100_peek d1 (Int32.ofInt 768) (GX101_setTable w1 (GX100_peek d1 (Int32.ofInt 384) Mt).1 (GX100_peek d1 (Int32.ofInt 384) Mt).2)).1 19 = true))
      (GX100_peek d1 (Int32.ofInt 768) (GX101_setTable w1 (GX100_peek d1 (Int32.ofInt 384) Mt).1 (GX100_peek d1 (Int32.ofInt 384) Mt).2)).2 = Nt := by
  have RR := relP_ram R
  have Tm := RR.2.1.1
  have W' := RR.2.1.2.1
  have nd := R.2.2.2.2.1.2.1.2.1
  have VT := R.2.2.2.2.2.2.1.2.1
  have nw := VT.1
  have I384 := R.2.2.2.2.1.2.1.2.2.2.2.2.2.1
  -- the two looks
  have pk : ∀ (n : Nat) (Z : FM), n < 4096 → Ty Z → fm_is Z 95 95 d1 = true → HX100_peek d1 (nI n) Z ∧ GX100_peek d1 (nI n) Z = GX100_shown d1 (nI n) (fm_sI Z 358 d1 0 (Int32.ofInt 0)) := fun n Z hn TZ nZ => by
    have n0 : ¬ nI n < 0 := fun z => by have := (nlt0 hn).mp z; omega
    have n2 : nI n ≤ Int32.ofInt 4095 := (nle hn 4095 (by decide)).mpr (by omega)
    refine ⟨⟨fun _ => trivial, fun _ => ⟨fun _ => ⟨t_shownH hn ⟨TZ.1, tyb_sI rfl TZ.2⟩ nZ, trivial⟩, fun _ => trivial⟩⟩, ?_⟩
    unfold GX100_peek GX100_peek_0 GX100_peek_25
    try dsimp only
    rw [fi_neg n0, fi_pos n2]
  obtain ⟨a1, a2⟩ := pk 384 Mt (by decide) Tm nd
  have k1 : WK [358] Mt (fm_sI Mt 358 d1 0 (Int32.ofInt 0)) := WK_I W' nd rfl rfl _
  have T1 : Ty (fm_sI Mt 358 d1 0 (Int32.ofInt 0)) := ⟨Tm.1, tyb_sI rfl Tm.2⟩
  have a3 : GX100_peek d1 (Int32.ofInt 384) Mt = (ht Mt d1 384, fm_sI Mt 358 d1 0 (Int32.ofInt 0)) := by
    show GX100_peek d1 (nI 384) Mt = _
    rw [a2, t_shown, t_def (by decide) (by decide), fi_pos (by decide)]
    rfl
  have R1 := relP_t k1 (by decide) T1 R
  rw [a3]
  try dsimp only
  -- the table
  have es : GX101_setTable w1 (ht Mt d1 384) (fm_sI Mt 358 d1 0 (Int32.ofInt 0)) = fm_sL (fm_sI (fm_sI Mt 358 d1 0 (Int32.ofInt 0)) 422 w1 0 (Int32.ofInt 0)) 424 w1 0 (ht Mt d1 384) := by
    have e33 : ∀ Z, GX101_setTable_33 w1 (ht Mt d1 384) w1 (Int32.ofInt 0) Z = fm_sL (fm_sI Z 422 w1 0 (Int32.ofInt 0)) 424 w1 0 (ht Mt d1 384) := fun Z => by
      unfold GX101_setTable_33 GX101_setTable_48
      try dsimp only
      rw [fi_pos (by rw [rIe]; rfl)]
    have eq := ul_ushr (ht Mt d1 384) (Int32.ofInt 60)
    rw [show ui (Int32.ofInt 60) % 64 = 60 by decide] at eq
    unfold GX101_setTable GX101_setTable_0 GX101_sortOf GX101_sortOf_0 GX101_setTable_28
    try dsimp only
    rw [e33]
    have c0 : (lg_cmp ((ht Mt d1 384).toUInt64 >>> ((Int32.ofInt 60).toInt64.toUInt64 &&& Int64.toUInt64 63)).toInt64 (Int64.ofInt 0) = 0) = (ul (ht Mt d1 384) / 2 ^ 60 = 0) := propext (by rw [cl_eq, eq]; rfl)
    have c8 : (lg_cmp ((ht Mt d1 384).toUInt64 >>> ((Int32.ofInt 60).toInt64.toUInt64 &&& Int64.toUInt64 63)).toInt64 (Int64.ofInt 8) = 0) = (ul (ht Mt d1 384) / 2 ^ 60 = 8) := propext (by rw [cl_eq, eq]; rfl)
    have c9 : (lg_cmp ((ht Mt d1 384).toUInt64 >>> ((Int32.ofInt 60).toInt64.toUInt64 &&& Int64.toUInt64 63)).toInt64 (Int64.ofInt 9) = 0) = (ul (ht Mt d1 384) / 2 ^ 60 = 9) := propext (by rw [cl_eq, eq]; rfl)
    rw [c0, c8, c9]
    rcases I384 with z | z | z
    · rw [fi_pos z]
    · rw [fi_neg (by rw [z]; decide), fi_pos z]
    · rw [fi_neg (by rw [z]; decide), fi_neg (by rw [z]; decide), fi_pos z]
  have g2 := gX101_setTable w1 (ht Mt d1 384) (fm_sI Mt 358 d1 0 (Int32.ofInt 0)) T1 nw
  have k2 : WK lX101_setTable (fm_sI Mt 358 d1 0 (Int32.ofInt 0)) (GX101_setTable w1 (ht Mt d1 384) (fm_sI Mt 358 d1 0 (Int32.ofInt 0))) := wX101_setTable (SL lX101_setTable) (fun _ => True) (fun _ h => h) w1 (ht Mt d1 384) _ (wi_N (relP_ram R1).2.1.2.1) trivial _ g2.1
  have T2 := g2.2.1
  rw [es] at k2 T2 ⊢
  have R2 : RelP p h bd a fu cf rg u t hv kp fd m c1 f1 d1 w1 hq s dd x dk q rq r g sg bl cr np kn o fs B Bk Vv K F T rt (ht Mt d1 384) Mc (fm_sL (fm_sI (fm_sI Mt 358 d1 0 (Int32.ofInt 0)) 422 w1 0 (Int32.ofInt 0)) 424 w1 0 (ht Mt d1 384)) := by
    refine relP_told k2 (by decide) T2 R1 ?_
    obtain ⟨x1, x2, x3, ⟨x4, x4'⟩, x5, x6, x7⟩ := VT
    refine ⟨x1, x2, x3, ⟨fun i hi => ?_, fun i hi => ?_⟩, ?_, ?_, ?_⟩
    · show (fm_sI (fm_sI Mt 358 d1 0 (Int32.ofInt 0)) 422 w1 0 (Int32.ofInt 0)).1 3 (Mt.2.2 427 w1 0) i = _
      rw [rIf (by decide), rIf (by decide)]
      exact x4 i hi
    · rw [rLf (by decide)]
      exact x4' i hi
    · show (fm_sI (fm_sI Mt 358 d1 0 (Int32.ofInt 0)) 422 w1 0 (Int32.ofInt 0)).1 425 w1 0 = _
      rw [rIf (by decide), rIf (by decide)]
      exact x5
    · show (fm_sI (fm_sI Mt 358 d1 0 (Int32.ofInt 0)) 422 w1 0 (Int32.ofInt 0)).1 426 w1 0 = _
      rw [rIf (by decide), rIf (by decide)]
      exact x6
    · rw [rL, if_pos ⟨rfl, rfl, rfl⟩]
  generalize hX : fm_sL (fm_sI (fm_sI Mt 358 d1 0 (Int32.ofInt 0)) 422 w1 0 (Int32.ofInt 0)) 424 w1 0 (ht Mt d1 384) = X at *
  have hX384 : ht X d1 384 = ht Mt d1 384 := by
    rw [← hX]
    unfold ht
    rw [rLf (by decide)]
    rfl
  have RR2 := relP_ram R2
  have nd2 := R2.2.2.2.2.1.2.1.2.1
  obtain ⟨b1, b2⟩ := pk 768 X (by decide) RR2.2.1.1 nd2
  have k3 : WK [358] X (fm_sI X 358 d1 0 (Int32.ofInt 0)) := WK_I RR2.2.1.2.1 nd2 rfl rfl _
  have T3 : Ty (fm_sI X 358 d1 0 (Int32.ofInt 0)) := ⟨RR2.2.1.1.1, tyb_sI rfl RR2.2.1.1.2⟩
  have b3 : GX100_peek d1 (Int32.ofInt 768) X = ((ht X d1 768 ||| Int64.ofInt 42949672960) ||| dty (ht X d1 768), fm_sI X 358 d1 0 (Int32.ofInt 0)) := by
    show GX100_peek d1 (nI 768) X = _
    rw [b2, t_shown, t768]
    rfl
  have R3 := relP_t k3 (by decide) T3 R2
  rw [b3]
  try dsimp only
  rw [dty_18 _ (Or.inl rfl), dty_18 _ (Or.inr rfl)]
  have VT3 := R3.2.2.2.2.2.2.1.2.1
  have nw3 := VT3.1
  have g4 := gX101_rights w1 (bz (lb (ht X d1 768) 18 = true)) (bz (lb (ht X d1 768) 19 = true)) (fm_sI X 358 d1 0 (Int32.ofInt 0)) T3 nw3 (bz_z _) (bz_z _)
  have k4 : WK lX101_rights (fm_sI X 358 d1 0 (Int32.ofInt 0)) (GX101_rights w1 (bz (lb (ht X d1 768) 18 = true)) (bz (lb (ht X d1 768) 19 = true)) (fm_sI X 358 d1 0 (Int32.ofInt 0))) :=
    wX101_rights (SL lX101_rights) (fun _ => True) (fun _ h => h) w1 _ _ _ (wi_N (relP_ram R3).2.1.2.1) trivial _ g4.1
  have T4 := g4.2.1
  have To3 : Told d1 (rtS (ht X d1 768)) (ht Mt d1 384) (fm_sI X 358 d1 0 (Int32.ofInt 0)) := ⟨rfl, hX384⟩
  have To4 := told_k k4 (by decide) T3 (relP_ram R3).2.1.2.1 R3.2.2.2.2.1.2.1.2.1 To3
  refine ⟨rtS (ht X d1 768), ht Mt d1 384, _, ⟨a1, nw, b1⟩, ?_, To4, WK_t (WK_t (WK_s (by decide) k1) (WK_s (by decide) k2)) (WK_t (WK_s (by decide) k3) (WK_s (by decide) k4)), nw3, rfl⟩
  refine relP_told k4 (by decide) T4 R3 ?_
  obtain ⟨x1, x2, x3, ⟨x4, x4'⟩, x5, x6, x7⟩ := VT3
  have er : GX101_rights w1 (bz (lb (ht X d1 768) 18 = true)) (bz (lb (ht X d1 768) 19 = true)) (fm_sI X 358 d1 0 (Int32.ofInt 0)) =
    fm_sI (fm_sI (fm_sI (fm_sI X 358 d1 0 (Int32.ofInt 0)) 422 w1 0 (Int32.ofInt 0)) 425 w1 0 (bz (lb (ht X d1 768) 18 = true))) 426 w1 0 (bz (lb (ht X d1 768) 19 = true)) := rfl
  rw [er]
  refine ⟨x1, x2, x3, ⟨fun i hi => ?_, fun i hi => ?_⟩, ?_, ?_, ?_⟩
  · rw [rIf (by decide), rIf (by decide), rIf (by decide)]
    exact x4 i hi
  · exact x4' i hi
  · rw [rIf (by decide), rIe, rt_0]
  · rw [rIe, rt_1]
  · exact x7
/-- looking, both sides -/
theorem P_look (R : RelP p h bd a fu cf rg u t hv kp fd m c1 f1 d1 w1 hq s dd x dk q rq r g sg bl cr np kn o fs B Bk Vv K F T rt tb Mc Mt) : ∃ rt' tb' Nc Nt, (HX46_look p Mc ∧ GX46_look p Mc = Nc) ∧ (HX92_tell m (nI h) Mt ∧ GX92_tell m (nI h) Mt = Nt) ∧
    RelP p h bd a fu cf rg u t hv kp fd m c1 f1 d1 w1 hq s dd x dk q rq r g sg bl cr np kn o fs B Bk Vv K F T rt' tb' Nc Nt ∧ Told d1 rt' tb' Nt ∧ WK [41, 43] Mc Nc ∧ Evo r 0 Mc Nc ∧ WK lX92_tell Mt Nt := by
  have RR := relP_ram R
  obtain ⟨w1_, M1, ⟨a1, a2⟩, a3, R1, a4, a5, a6⟩ := tell_1 R (l := 3) (l' := 7) (by omega)
  obtain ⟨w2_, M2, ⟨b1, b2⟩, b3, R2, b4, b5, b6⟩ := tell_1 R1 (l := 7) (l' := 9) (by omega)
  obtain ⟨w3_, M3, ⟨j1, j2⟩, j3, R3, j4, j5, j6⟩ := tell_1 R2 (l := 9) (l' := 11) (by omega)
  obtain ⟨w4_, M4, ⟨e1, e2⟩, e3, R4, e4, e5, e6⟩ := tell_1 R3 (l := 11) (l' := 13) (by omega)
  have v210 : Mc.2.2 210 p 0 = bd := R.1.1.2.2.1
  have v19 : Mc.2.2 19 bd 0 = s := R.2.2.2.2.2.2.2.2.1.1.2.2.2.1
  have v209 : Mc.1 209 p 0 = nI h := R.1.1.2.1
  have v213 : Mc.2.2 213 p 0 = u := R.1.1.2.2.2.2.2.1
  have r209 := R1.1.1.2.1
  have r213 := R1.1.1.2.2.2.2.2.1
  have s209 := R2.1.1.2.1
  have s213 := R2.1.1.2.2.2.2.2.1
  have t209 := R3.1.1.2.1
  have t213 := R3.1.1.2.2.2.2.2.1
  have u213 := R4.1.1.2.2.2.2.2.1
  have u210 := R4.1.1.2.2.1
  have u19 := R4.2.2.2.2.2.2.2.2.1.1.2.2.2.1
  have z3 : nI 3 = Int32.ofInt 3 := rfl
  have z7 : nI 7 = Int32.ofInt 7 := rfl
  have z9 : nI 9 = Int32.ofInt 9 := rfl
  have z11 : nI 11 = Int32.ofInt 11 := rfl
  rw [z3] at a1 a2 a4 a5 R1 b1 b2 b4 b5 R2 j1 j2 j4 j5 R3 e1 e2 e4 e5 R4 r209 r213 s209 s213 t209 t213 u213 u210 u19
  rw [z7] at b1 b2 b4 b5 R2 j1 j2 j4 j5 R3 e1 e2 e4 e5 R4 s209 s213 t209 t213 u213 u210 u19
  rw [z9] at j1 j2 j4 j5 R3 e1 e2 e4 e5 R4 t209 t213 u213 u210 u19
  rw [z11] at e1 e2 e4 e5 R4 u213 u210 u19
  have UH : HX46_look p Mc := by
    unfold HX46_look HX46_look_0
    try dsimp only
    rw [v210, v19, v209, v213, a2]
    refine ⟨a1, ?_⟩
    try dsimp only
    rw [r209, r213, b2]
    refine ⟨b1, ?_⟩
    try dsimp only
    rw [s209, s213, j2]
    refine ⟨j1, ?_⟩
    try dsimp only
    rw [t209]
    exact ⟨e1, trivial⟩
  have RR4 := relP_ram R4
  have hti := (rel_gpass RR4.1.1 RR4.1.2.1 R4.2.2.2.2.2.2.2.2.2.1.1).1
  generalize hC4 : GX74_line u (Int32.ofInt 11) w4_ (GX74_line u (Int32.ofInt 9) w3_ (GX74_line u (Int32.ofInt 7) w2_ (GX74_line u (Int32.ofInt 3) w1_ Mc))) = C4 at *
  have UG : GX46_look p Mc = fm_sL C4 41 (C4.2.2 36 u 0) 0 (C4.2.1 3 (C4.2.2 246 (C4.2.2 240 s 0) 0) 4) := by
    unfold GX46_look GX46_look_0 GX10_time GX10_time_0
    try dsimp only
    rw [v210, v19, v209, v213, a2]
    try dsimp only
    rw [r209, r213, b2]
    try dsimp only
    rw [s209, s213, j2]
    try dsimp only
    rw [t209, t213, e2]
    try dsimp only
    rw [hC4, u213, u210, u19]
    rfl
  rw [hti] at UG
  -- the time
  have nu4 := R4.2.2.2.2.1.1.2.1
  have nd4 := R4.2.2.2.2.1.2.1.2.1
  have RC5 := rel_time R4.2.2.2.2.1 (M4.2.1 398 sg 0)
  have k5 : WK [41] C4 (fm_sL C4 41 (C4.2.2 36 u 0) 0 (M4.2.1 398 sg 0)) := WK_L RR4.1.2.1 (tN_36 RR4.1.1.1 nu4) rfl rfl _
  have g5 := gX100_time d1 (M4.2.1 398 sg 0) M4 RR4.2.1.1 nd4
  have k5' : WK lX100_time M4 (GX100_time d1 (M4.2.1 398 sg 0) M4) := wX100_time (SL lX100_time) (fun _ => True) (fun _ h => h) d1 _ M4 (wi_N RR4.2.1.2.1) trivial _ g5.1
  obtain ⟨R5, rq5⟩ := relP_u k5 k5' (by decide) (by decide) RC5.1.1 RC5.2.1.1 R4 RC5
  obtain ⟨rt', tb', Nt, ⟨x1, x2, x3⟩, R6, To6, k6, x4, x5⟩ := tell_w R5
  have RR5 := relP_ram R5
  have kt : WK lX92_tell Mt Nt := WK_t (WK_t (WK_t a6 b6) (WK_t j6 e6)) (WK_t (WK_s (by decide) k5') k6)
  have kc : WK [41, 43] Mc (fm_sL C4 41 (C4.2.2 36 u 0) 0 (M4.2.1 398 sg 0)) := WK_t (WK_t (WK_t (WK_s (by decide) a4) (WK_s (by decide) b4)) (WK_t (WK_s (by decide) j4) (WK_s (by decide) e4))) (WK_s (by decide) k5)
  have ev : Evo r 0 Mc (fm_sL C4 41 (C4.2.2 36 u 0) 0 (M4.2.1 398 sg 0)) := evo_q' (evo_q' (evo_q' (evo_q' (evo_q' (evo_r r 0 Mc) a5) b5) j5) e5) rq5
  -- the twin's loop
  have v301 : M4.2.2 301 m 0 = sg := R4.2.2.2.2.2.2.2.2.1.2.2.2.2
  obtain ⟨y0, y1, y2, y3, ⟨y4, y5⟩, ⟨y6, y7⟩, ⟨y8, y9⟩, ⟨ya, yb⟩, yc⟩ := R5.2.1.1
  have hcl : (nI h).toNatClampNeg = h := o_cl (by omega)
  have n12 : Int32.ofInt 12 ≤ nI 13 := by decide
  have kp6 : ∀ Z : FM, WK lX92_tell (GX100_time d1 (M4.2.1 398 sg 0) M4) Z → Z.2.2 306 m 0 = (GX100_time d1 (M4.2.1 398 sg 0) M4).2.2 306 m 0 := fun Z kz =>
    congrFun (kf (f := 306) kz rfl (dj_n (L := [306]) (by decide) 306 rfl) (wf_lt RR5.2.1.2.1 (fm_ist rfl R5.2.1.1.1))).2.2 0
  generalize hM5 : GX100_time d1 (M4.2.1 398 sg 0) M4 = M5 at *
  have e7 : (GX100_peek d1 (Int32.ofInt 384) M5).2.2.2 = M5.2.2 := by
    exact pk_2' (n := 384) (Or.inl rfl)
  have e8 : (GX101_setTable w1 (GX100_peek d1 (Int32.ofInt 384) M5).1 (GX100_peek d1 (Int32.ofInt 384) M5).2).2.2 = M5.2.2 := (stb_2 _ _ _).trans e7
  have nd5 : fm_is (GX101_setTable w1 (GX100_peek d1 (Int32.ofInt 384) M5).1 (GX100_peek d1 (Int32.ofInt 384) M5).2) 95 95 d1 = true := by
    unfold fm_is
    rw [e8]
    exact R5.2.2.2.2.1.2.1.2.1
  have e9 : (GX100_peek d1 (Int32.ofInt 768) (GX101_setTable w1 (GX100_peek d1 (Int32.ofInt 384) M5).1 (GX100_peek d1 (Int32.ofInt 384) M5).2)).2.2.2 = M5.2.2 := by
    exact (pk_2' (n := 768) (Or.inr rfl)).trans e8
  have in6 : fm_in M5 (M5.2.2 306 m 0) (nI h) = true := in_nI ya (by omega) (by decide)
  have in6' : fm_in (GX100_peek d1 (Int32.ofInt 768) (GX101_setTable w1 (GX100_peek d1 (Int32.ofInt 384) M5).1 (GX100_peek d1 (Int32.ofInt 384) M5).2)).2 (M5.2.2 306 m 0) (nI h) = true := by
    refine in_nI (N := 4) ?_ (by omega) (by decide)
    rw [e9]
    exact ya
  have H : HX92_tell_9 m (nI h) d1 (nI 13) M4 := by
    unfold HX92_tell_9
    try dsimp only
    refine ⟨fun _ => ?_, fun c => absurd n12 c⟩
    try dsimp only
    rw [v301, hM5, hcl, yb]
    refine ⟨in6, x1, x2, x3, ?_⟩
    try dsimp only
    rw [e9, yb]
    exact ⟨in6', fun _ => ⟨x4, trivial⟩, fun _ => ⟨x4, trivial⟩⟩
  have last : ∀ j, FX92_tell_L9 fN (j + 1) m (nI h) d1 (nI 13) M4 = some Nt := fun j => by
    have G := (gX92_tell_9 (FX92_tell_L9 fN j) m (nI h) d1 (nI 13) M4 RR4.2.1.1 R4.2.1.1.1 nd4 H).1
    show FX92_tell_9 fN (FX92_tell_L9 fN j) m (nI h) d1 (nI 13) M4 = _
    rw [G]
    unfold GX92_tell_9
    try dsimp only
    rw [fi_pos n12, v301, hM5, hcl, yb]
    try dsimp only
    rw [e9, yb, propext (bit_c1 (k := 18) _ rfl (by decide))]
    have e103 : ∀ (v : Int64) (w : Int32) (Z : FM), GX92_tell_103 v w1 w Z = .inr (GX101_rights w1 w (bz (lb v 19 = true)) Z) := fun v w Z => by
      unfold GX92_tell_103 GX92_tell_119
      try dsimp only
      rw [propext (bit_c1 (k := 19) _ rfl (by decide))]
      by_cases z : lb v 19 = true
      · rw [fi_pos z, bz_t z]
      · rw [fi_neg z, bz_f z]
    rw [e103, e103]
    refine Eq.trans ?_ (congrArg some x5)
    by_cases z : lb (GX100_peek d1 (Int32.ofInt 768) (GX101_setTable w1 (GX100_peek d1 (Int32.ofInt 384) M5).1 (GX100_peek d1 (Int32.ofInt 384) M5).2)).1 18 = true
    · rw [fi_pos z, bz_t z]
      rfl
    · rw [fi_neg z, bz_f z]
      rfl
  obtain ⟨o0, o1, o2, o3, ⟨o4, o5⟩, ⟨o6, o7⟩, ⟨o8, o9⟩, ⟨oa, ob⟩, oc⟩ := R.2.1.1
  have in5 : fm_in Mt (Mt.2.2 305 m 0) (nI h) = true := in_nI o8 (by omega) (by decide)
  have whole : FX92_tell fN m (nI h) Mt = some Nt := by
    have G := (gX92_tell_0 (FX92_tell_L9 fN fN) m (nI h) Mt RR.2.1.1 o0 ⟨in5, trivial⟩).1
    show FX92_tell_0 fN (FX92_tell_L9 fN fN) m (nI h) Mt = _
    rw [G]
    unfold GX92_tell_0
    try dsimp only
    rw [hcl, o9]
    show FX92_tell_L9 fN (99999995 + 1 + 1 + 1 + 1 + 1) m (nI h) d1 (nI 3) Mt = some Nt
    rw [a3, b3, j3, e3]
    exact last 99999995
  obtain ⟨g1, g2⟩ := op_of (d := Mt) whole (P := OkV Mt) ⟨(relP_ram R6).2.1.1, wk_ext RR.2.1.2.1 kt⟩
  exact ⟨rt', tb', _, Nt, ⟨UH, UG⟩, ⟨g1, g2⟩, R6, To6, kc, ev, kt⟩
end Lk
