/-! a processor against the twin's: loads, stores -/
set_option maxRecDepth 100000
theorem fm_II {M : FM} {f a i : Nat} {v w : Int32} : fm_sI (fm_sI M f a i v) f a i w = fm_sI M f a i w := by
  unfold fm_sI
  refine Prod.ext ?_ rfl
  funext g b j
  show (if g = f ∧ b = a ∧ j = i then w else if g = f ∧ b = a ∧ j = i then v else M.1 g b j) = if g = f ∧ b = a ∧ j = i then w else M.1 g b j
  by_cases c : g = f ∧ b = a ∧ j = i
  · rw [if_pos c, if_pos c]
  · rw [if_neg c, if_neg c, if_neg c]
/-- what a step of processor h leaves alone: the breaches, and who else waits -/
def Br (m h sg : Nat) (N M : FM) : Prop := N.2.1 316 m 0 = M.2.1 316 m 0 ∧ N.2.1 414 sg 0 = M.2.1 414 sg 0 ∧ ∀ i, i ≠ h → N.1 3 (N.2.2 307 m 0) i = M.1 3 (M.2.2 307 m 0) i
theorem Br.trans {m h sg : Nat} {N M X : FM} (k : Br m h sg X N) (j : Br m h sg N M) : Br m h sg X M := ⟨k.1.trans j.1, k.2.1.trans j.2.1, fun i hi => (k.2.2 i hi).trans (j.2.2 i hi)⟩
theorem br_r {m h sg : Nat} {M : FM} : Br m h sg M M := ⟨rfl, rfl, fun _ _ => rfl⟩
theorem br_pk {m h sg : Nat} {M : FM} {v : Int32} : Br m h sg (fm_sI M 3 (M.2.2 307 m 0) h v) M := ⟨rfl, rfl, fun i hi => by
  show (fm_sI M 3 (M.2.2 307 m 0) h v).1 3 (M.2.2 307 m 0) i = _
  rw [rI, if_neg (fun q => hi q.2.2)]⟩
/-- how an instruction ends, both sides -/
def OutP (p h bd a fu : Nat) (cf : Nat → Nat) (rg u t hv kp fd m c1 f1 d1 w1 hq s dd x dk q rq r g sg bl cr np : Nat) (kn : Int32) (B Bk Vv : Nat) (rt : Int32) (tb : Int64) (Mc Mt : FM) (cG tG : Int32 × FM) : Prop :=
  ∃ (fs : Fs) (K : Rg) (F T : Nat → Nat) (Nc Nt : FM), Evo r 2560010 Mc Nc ∧ fs.2.2.2.1 = Int32.ofInt 0 ∧ Br m h sg Nt Mt ∧
    ((cG = (Int32.ofInt 1, Nc) ∧ tG = (Int32.ofInt 1, Nt) ∧ RelP p h bd a fu cf rg u t hv kp fd m c1 f1 d1 w1 hq s dd x dk q rq r g sg bl cr np kn none fs (B + 1) (Bk + 2560010) (Vv + 1) K F T rt tb Nc Nt) ∨
     (cG = (Int32.ofInt 0, Nc) ∧ tG = (Int32.ofInt 0, Nt) ∧ HX92_step_96 m c1 d1 Nt ∧ RelP p h bd a fu cf rg u t hv kp fd m c1 f1 d1 w1 hq s dd x dk q rq r g sg bl cr np kn none fs (B + 1) (Bk + 2560010) (Vv + 1) K F T rt tb Nc (GX92_step_96 m c1 d1 Nt)))
section Ls
variable {p h bd a fu rg u t hv kp fd m c1 f1 d1 w1 hq s dd x dk q rq r g sg bl cr np : Nat} {cf : Nat → Nat} {kn : Int32} {o : Option Wt} {w : Wt} {fs : Fs} {B Bk Vv : Nat} {K : Rg} {F T : Nat → Nat} {rt : Int32} {tb : Int64} {S S' : List Nat} {Mc Mt Nc Nt X : FM} {z : Nat} {cG tG : Int32 × FM}
theorem nsg_P (R : RelP p h bd a fu cf rg u t hv kp fd m c1 f1 d1 w1 hq s dd x dk q rq r g sg bl cr np kn o fs B Bk Vv K F T rt tb Mc Mt) : fm_is Mt 99 99 sg = true := by
  obtain ⟨_, _, _, _, _, ns, _⟩ := R.2.2.2.2.2.2.2.2.2.1.1
  exact ns
theorem br_of (k : WK S' Mt Nt) (hd : dj [307, 1307] S' = true) (e : Nt.2.1 316 m 0 = Mt.2.1 316 m 0) (e' : Nt.2.1 414 sg 0 = Mt.2.1 414 sg 0) (R : RelP p h bd a fu cf rg u t hv kp fd m c1 f1 d1 w1 hq s dd x dk q rq r g sg bl cr np kn o fs B Bk Vv K F T rt tb Mc Mt) : Br m h sg Nt Mt := by
  have W' := (relP_ram R).2.1.2.1
  have n := R.2.1.1.1
  have n7 := tN_307 (relP_ram R).2.1.1.1 n
  refine ⟨e, e', fun i _ => ?_⟩
  rw [(kf (f := 307) k rfl (dj_n hd 307 rfl) (wf_lt W' (fm_ist rfl n))).2.2, (ka k (sS_307 W' n) (wf_n0 W' (fm_ist rfl n7)) (dj_n hd 1307 rfl) (wf_lt W' (fm_ist rfl n7))).1]
theorem e316_k (k : WK S' Mt Nt) (hd : dj [316] S' = true) (R : RelP p h bd a fu cf rg u t hv kp fd m c1 f1 d1 w1 hq s dd x dk q rq r g sg bl cr np kn o fs B Bk Vv K F T rt tb Mc Mt) : Nt.2.1 316 m 0 = Mt.2.1 316 m 0 := congrFun (kf (f := 316) k rfl (dj_n hd 316 rfl) (wf_lt (relP_ram R).2.1.2.1 (fm_ist rfl R.2.1.1.1))).2.1 0
theorem e414_k (k : WK S' Mt Nt) (hd : dj [414] S' = true) (R : RelP p h bd a fu cf rg u t hv kp fd m c1 f1 d1 w1 hq s dd x dk q rq r g sg bl cr np kn o fs B Bk Vv K F T rt tb Mc Mt) : Nt.2.1 414 sg 0 = Mt.2.1 414 sg 0 := congrFun (kf (f := 414) k rfl (dj_n hd 414 rfl) (wf_lt (relP_ram R).2.1.2.1 (fm_ist rfl (nsg_P R)))).2.1 0
theorem b316 (k : WK S' Mt Nt) (hd : dj [307, 316, 414, 1307] S' = true) (R : RelP p h bd a fu cf rg u t hv kp fd m c1 f1 d1 w1 hq s dd x dk q rq r g sg bl cr np kn o fs B Bk Vv K F T rt tb Mc Mt) : Br m h sg Nt Mt :=
  br_of k (dj_sub hd (by decide)) (e316_k k (dj_sub hd (by decide)) R) (e414_k k (dj_sub hd (by decide)) R) R
theorem l354 (k : WK S' Mt Nt) (hd : dj [354] S' = true) (R : RelP p h bd a fu cf rg u t hv kp fd m c1 f1 d1 w1 hq s dd x dk q rq r g sg bl cr np kn o fs B Bk Vv K F T rt tb Mc Mt) : Nt.1 354 c1 0 = Mt.1 354 c1 0 :=
  congrFun (kf (f := 354) k rfl (dj_n hd 354 rfl) (wf_lt (relP_ram R).2.1.2.1 (fm_ist rfl R.2.2.2.1.2.1))).1 0
/-- an ending that began a little earlier -/
theorem out_t (E : Evo r 0 Mc Nc) (e : Br m h sg Nt Mt) (hO : OutP p h bd a fu cf rg u t hv kp fd m c1 f1 d1 w1 hq s dd x dk q rq r g sg bl cr np kn B Bk Vv rt tb Nc Nt cG tG) : OutP p h bd a fu cf rg u t hv kp fd m c1 f1 d1 w1 hq s dd x dk q rq r g sg bl cr np kn B Bk Vv rt tb Mc Mt cG tG := by
  obtain ⟨fs, K, F, T, X, Y, E2, a1, a2, a3⟩ := hO
  exact ⟨fs, K, F, T, X, Y, evo_w (evo_t E E2) (by omega), a1, a2.trans e, a3⟩
/-- an exception ends it -/
theorem out_f (R : RelP p h bd a fu cf rg u t hv kp fd m c1 f1 d1 w1 hq s dd x dk q rq r g sg bl cr np kn o fs B Bk Vv K F T rt tb Mc Mt) (hw : fs.2.2.2.1 = Int32.ofInt 0) {c : Int32} {kc : Nat} (hc : ui c = kc) (hk : kc < 64) (v : Int64) : OutP p h bd a fu cf rg u t hv kp fd m c1 f1 d1 w1 hq s dd x dk q rq r g sg bl cr np kn B Bk Vv rt tb Mc Mt (GX46_raise p c v Mc) (GX92_fail m c v Mt) := by
  obtain ⟨Nc, Nt, e1, e2, TN, e3, e4, e5, e6, e7⟩ := P_fail R hc hk v
  exact ⟨fs, K, F, T, Nc, Nt, evo_w (evo_q' (evo_r r 0 Mc) e5) (by omega), hw, b316 e7 (by decide) R, Or.inr ⟨e1, e2, e3, relP_upw (by omega) (by omega) (by omega) e4⟩⟩
/-- no instruction -/
theorem illV_e : GX46_illegal p Mc = GX46_raise p (Int32.ofInt 2) (illV (Mc.1 221 p 0) (Mc.1 220 p 0)) Mc := by
  unfold GX46_illegal GX46_illegal_0 GX46_illegal_24 illV
  by_cases c : Mc.1 221 p 0 = Int32.ofInt 2
  · rw [fi_pos c, fi_pos c]
  · rw [fi_neg c, fi_neg c]
theorem out_i (R : RelP p h bd a fu cf rg u t hv kp fd m c1 f1 d1 w1 hq s dd x dk q rq r g sg bl cr np kn o fs B Bk Vv K F T rt tb Mc Mt) (hw : fs.2.2.2.1 = Int32.ofInt 0) (hg : Got p m Mc Mt) : OutP p h bd a fu cf rg u t hv kp fd m c1 f1 d1 w1 hq s dd x dk q rq r g sg bl cr np kn B Bk Vv rt tb Mc Mt (GX46_illegal p Mc) (GX92_illegal m Mt) := by
  try dsimp only
  rw [illV_e]
  have e : GX92_illegal m Mt = GX92_fail m (Int32.ofInt 2) (illV (Mc.1 221 p 0) (Mc.1 220 p 0)) Mt := by
    unfold GX92_illegal GX92_illegal_0
    try dsimp only
    rw [hg.2.2.2]
  rw [e]
  exact out_f R hw (kc := 2) rfl (by decide) _
/-- the five numbers, twin's side -/
theorem P_wants (R : RelP p h bd a fu cf rg u t hv kp fd m c1 f1 d1 w1 hq s dd x dk q rq r g sg bl cr np kn (some w) fs B Bk Vv K F T rt tb Mc Mt) : RelP p h bd a fu cf rg u t hv kp fd m c1 f1 d1 w1 hq s dd x dk q rq r g sg bl cr np kn (some w) fs B Bk Vv K F T rt tb Mc (fm_sI Mt 345 c1 0 (Int32.ofInt 0)) ∧ WK [345] Mt (fm_sI Mt 345 c1 0 (Int32.ofInt 0)) ∧
    ∀ k, k < 5 → (HX98_wanted c1 (nI k) Mt ∧ GX98_wanted c1 (nI k) Mt = (wq w k, fm_sI Mt 345 c1 0 (Int32.ofInt 0))) ∧ (HX98_wanted c1 (nI k) (fm_sI Mt 345 c1 0 (Int32.ofInt 0)) ∧ GX98_wanted c1 (nI k) (fm_sI Mt 345 c1 0 (Int32.ofInt 0)) = (wq w k, fm_sI Mt 345 c1 0 (Int32.ofInt 0))) := by
  have RR := relP_ram R
  have n94 : fm_is Mt 94 94 c1 = true := R.2.2.2.1.2.1
  have k1 : WK [345] Mt (fm_sI Mt 345 c1 0 (Int32.ofInt 0)) := WK_I RR.2.1.2.1 n94 rfl rfl _
  have R1 := relP_t k1 (by decide) ⟨RR.2.1.1.1, tyb_sI rfl RR.2.1.1.2⟩ R
  refine ⟨R1, k1, fun k hk => ⟨(P_want R hk).2, ?_⟩⟩
  have := (P_want R1 hk).2
  rw [fm_II] at this
  exact this
theorem dj_316 : dj [307, 316, 414, 1307] lX92_finds = true ∧ dj [307, 316, 1307] lX92_get = true ∧ dj [307, 316, 414, 1307] lX92_put = true ∧ dj [307, 316, 414, 1307] lX98_finish = true ∧ dj [354] lX92_finds = true ∧ dj [354] lX92_get = true ∧ dj [354] lX92_put = true ∧ dj [354] lX92_watch = true := by decide
/-- a load -/
theorem P_load (R : RelP p h bd a fu cf rg u t hv kp fd m c1 f1 d1 w1 hq s dd x dk q rq r g sg bl cr np kn (some w) fs B Bk Vv K F T rt tb Mc Mt) (To : Told d1 rt tb Mt) (hl : Mt.1 354 c1 0 = Int32.ofInt 2 ∨ Mt.1 354 c1 0 = Int32.ofInt 4) (hw : fs.2.2.2.1 = Int32.ofInt 0) (hB : Bk + 8 < 9223372036854775808) (hV : Vv < 2147483648) (hz : z = 1 ∨ z = 2 ∨ z = 4 ∨ z = 8) (hq' : w.2.2.1 = lN z) :
    HX46_load p Mc ∧ (HX92_finds m (nI h) w.2.1 (nI z) (Int32.ofInt 1) Mt ∧ (¬ (GX92_finds m (nI h) w.2.1 (nI z) (Int32.ofInt 1) Mt).1 = 0 → HX92_get m (nI z) (GX92_finds m (nI h) w.2.1 (nI z) (Int32.ofInt 1) Mt).2 ∧
        fm_is (GX92_get m (nI z) (GX92_finds m (nI h) w.2.1 (nI z) (Int32.ofInt 1) Mt).2).2 94 94 c1 = true ∧ HX98_finish c1 (Int32.ofInt 1) (GX92_get m (nI z) (GX92_finds m (nI h) w.2.1 (nI z) (Int32.ofInt 1) Mt).2).1 (GX92_get m (nI z) (GX92_finds m (nI h) w.2.1 (nI z) (Int32.ofInt 1) Mt).2).2)) ∧
      OutP p h bd a fu cf rg u t hv kp fd m c1 f1 d1 w1 hq s dd x dk q rq r g sg bl cr np kn B Bk Vv rt tb Mc Mt (GX46_load p Mc) (fi ((GX92_finds m (nI h) w.2.1 (nI z) (Int32.ofInt 1) Mt).1 = 0) (Int32.ofInt 0, (GX92_finds m (nI h) w.2.1 (nI z) (Int32.ofInt 1) Mt).2)
        (Int32.ofInt 1, (GX98_finish c1 (Int32.ofInt 1) (GX92_get m (nI z) (GX92_finds m (nI h) w.2.1 (nI z) (Int32.ofInt 1) Mt).2).1 (GX92_get m (nI z) (GX92_finds m (nI h) w.2.1 (nI z) (Int32.ofInt 1) Mt).2).2).2)) := by
  have v2 : Mc.2.2 211 p 0 = a := R.1.1.2.2.2.1
  obtain ⟨⟨q0, q0'⟩, _⟩ := P_want R (k := 0) (by decide)
  obtain ⟨⟨q1, q1'⟩, _⟩ := P_want R (k := 1) (by decide)
  have ez : (lN z).toInt32 = nI z := ui_inj (by rw [ui_low, ul_lN, ui_nI]; omega)
  have e0 : Int32.ofInt 0 = nI 0 := rfl
  have e1 : Int32.ofInt 1 = nI 1 := rfl
  have w0 : wq w 0 = w.2.1 := rfl
  have w1' : wq w 1 = lN z := hq'
  rw [w0] at q0'
  rw [w1'] at q1'
  obtain ⟨a1, b1, Nc, Nt, E, kc, kt, out⟩ := P_locate (ad := w.2.1) (ac := Int32.ofInt 1) R To hB hV (Or.inl rfl) hz
  rcases out with ⟨a2, b2, R2, To2, Fd⟩ | ⟨a2, b2, hx, R2⟩
  · obtain ⟨v, X, Y, ⟨c1_, c2_⟩, ⟨d1_, d2_⟩, R3, To3, E3, kc3, kt3, e414⟩ := P_get R2 To2 hz Fd
    have bg := br_of kt3 (by decide) (e316_k kt3 (by decide) R2) e414 R2
    have l3 : Y.1 354 c1 0 = Mt.1 354 c1 0 := (l354 kt3 (by decide) R2).trans (l354 kt (by decide) R)
    obtain ⟨X4, Y4, ⟨f1_, f2_⟩, ⟨g1_, g2_⟩, R4, rq4, kc4, kt4⟩ := P_ifin R3 (by rw [l3]; exact hl) (Int32.ofInt 1) v
    have v9 : Nc.2.2 217 p 0 = fd := R2.1.1.2.2.2.2.2.2.2.2.2
    have b210 : Nc.2.2 210 p 0 = bd := R2.1.1.2.2.1
    have v2' : Nc.2.2 211 p 0 = a := R2.1.1.2.2.2.1
    refine ⟨?_, ⟨b1, fun _ => ?_⟩, fs, K, F, T, X4, Y4, evo_w (evo_q' (evo_t E E3) rq4) (by omega), hw, (b316 kt4 (by decide) R3).trans (bg.trans (b316 kt (by decide) R)), Or.inl ⟨?_, ?_, relP_upw (by omega) (by omega) (by omega) R4⟩⟩
    · unfold HX46_load HX46_load_0
      try dsimp only
      rw [v2, e0, q0']
      try dsimp only
      rw [v2, e1, q1']
      try dsimp only
      rw [ez, ← e1, a2]
      refine ⟨q0, q1, a1, fun c => absurd c (show ¬ Int32.ofInt 1 = 0 by decide), fun _ => ?_⟩
      try dsimp only
      rw [v9, b210, c2_]
      try dsimp only
      rw [v2']
      exact ⟨c1_, f1_, trivial⟩
    · rw [b2]
      try dsimp only
      rw [d2_]
      exact ⟨d1_, R3.2.2.2.1.2.1, g1_⟩
    · unfold GX46_load GX46_load_0
      try dsimp only
      rw [v2, e0, q0']
      try dsimp only
      rw [v2, e1, q1']
      try dsimp only
      rw [ez, ← e1, a2]
      try dsimp only
      rw [fi_neg (show ¬ Int32.ofInt 1 = 0 by decide), v9, b210, c2_]
      try dsimp only
      rw [v2', f2_]
    · rw [b2]
      try dsimp only
      rw [fi_neg (show ¬ Int32.ofInt 1 = 0 by decide), d2_]
      try dsimp only
      rw [g2_]
  · refine ⟨?_, ⟨b1, fun c => absurd (by rw [b2]; rfl) c⟩, fs, K, F, T, Nc, Nt, evo_w E (by omega), hw, b316 kt (by decide) R, Or.inr ⟨?_, ?_, hx, relP_upw (by omega) (by omega) (by omega) R2⟩⟩
    · unfold HX46_load HX46_load_0
      try dsimp only
      rw [v2, e0, q0']
      try dsimp only
      rw [v2, e1, q1']
      try dsimp only
      rw [ez, ← e1, a2]
      exact ⟨q0, q1, a1, fun _ => trivial, fun c => absurd rfl c⟩
    · unfold GX46_load GX46_load_0
      try dsimp only
      rw [v2, e0, q0']
      try dsimp only
      rw [v2, e1, q1']
      try dsimp only
      rw [ez, ← e1, a2]
      try dsimp only
      rw [fi_pos (show Int32.ofInt 0 = 0 from rfl)]
    · rw [b2]
      try dsimp only
      rw [fi_pos (show Int32.ofInt 0 = 0 from rfl)]
/-- what is stored, behind finding: the twin watches -/
theorem P_stored {ad v : Int64} (R : RelP p h bd a fu cf rg u t hv kp fd m c1 f1 d1 w1 hq s dd x dk q rq r g sg bl cr np kn (some w) fs B Bk Vv K F T rt tb Mc Mt) (To : Told d1 rt tb Mt) (hl : Mt.1 354 c1 0 = Int32.ofInt 2 ∨ Mt.1 354 c1 0 = Int32.ofInt 4) (hB : B < 2147483000) (hz : z = 1 ∨ z = 2 ∨ z = 4 ∨ z = 8) {md : Int32} (hd : dMo d1 Mt = md) (Fd : FdR fd m F T K (Int32.ofInt 2) md z ad Mc Mt) :
    ∃ X Y, (HX73_store fd bd v Mc ∧ HX47_finish a (Int32.ofInt 0) (Int64.ofInt 0) (GX73_store fd bd v Mc) ∧ (GX47_finish a (Int32.ofInt 0) (Int64.ofInt 0) (GX73_store fd bd v Mc)).2 = X) ∧
      (HX92_watch m (nI h) (nI z) Mt ∧ HX92_put m (nI z) v (GX92_watch m (nI h) (nI z) Mt) ∧ HX98_finish c1 (Int32.ofInt 0) (Int64.ofInt 0) (GX92_put m (nI z) v (GX92_watch m (nI h) (nI z) Mt)) ∧ (GX98_finish c1 (Int32.ofInt 0) (Int64.ofInt 0) (GX92_put m (nI z) v (GX92_watch m (nI h) (nI z) Mt))).2 = Y) ∧
      (GX73_store fd bd v Mc).2.2 211 p 0 = a ∧ (fm_is (GX92_put m (nI z) v (GX92_watch m (nI h) (nI z) Mt)) 94 94 c1 = true ∧ fm_in (GX92_put m (nI z) v (GX92_watch m (nI h) (nI z) Mt)) ((GX92_put m (nI z) v (GX92_watch m (nI h) (nI z) Mt)).2.2 303 m 0) (nI h) = true ∧
        (GX92_put m (nI z) v (GX92_watch m (nI h) (nI z) Mt)).2.2 3 ((GX92_put m (nI z) v (GX92_watch m (nI h) (nI z) Mt)).2.2 303 m 0) h = c1) ∧
      RelP p h bd a fu cf rg u t hv kp fd m c1 f1 d1 w1 hq s dd x dk q rq r g sg bl cr np kn none fs (B + 1) (Bk + 2560000) Vv K F T rt tb X Y ∧ Evo r 2560000 Mc X ∧ Br m h sg Y Mt := by
  obtain ⟨Y1, ⟨w1_, w2_⟩, R1, To1, k1, e316⟩ := P_watch R To (by omega) hd (fdT_r Fd)
  have e316 := br_of k1 (by decide) e316 (e414_k k1 (by decide) R) R
  have RR := relP_ram R
  have Fd1 := fdR_t k1 (by decide) RR.2.1.1 RR.2.1.2.1 R.2.1.1.1 Fd
  obtain ⟨X, Y, ⟨p1, p2⟩, ⟨q1, q2⟩, R2, To2, E2, kc2, kt2⟩ := P_put R1 To1 hz Fd1 hB v
  have l3 : Y.1 354 c1 0 = Mt.1 354 c1 0 := (l354 kt2 (by decide) R1).trans (l354 k1 (by decide) R)
  obtain ⟨X4, Y4, ⟨f1_, f2_⟩, ⟨g1_, g2_⟩, R4, rq4, kc4, kt4⟩ := P_ifin R2 (by rw [l3]; exact hl) (Int32.ofInt 0) (Int64.ofInt 0)
  rw [w2_, q2, p2, f2_, g2_]
  obtain ⟨y0, y1, y2, y3, ⟨y4, y5⟩, yr⟩ := R2.2.1.1
  exact ⟨X4, Y4, ⟨p1, f1_, rfl⟩, ⟨w1_, q1, g1_, rfl⟩, R2.1.1.2.2.2.1, ⟨R2.2.2.2.1.2.1, in_nI y4 (by omega) (by decide), y5⟩, R4, evo_q' E2 rq4, (b316 kt4 (by decide) R2).trans ((b316 kt2 (by decide) R1).trans e316)⟩
/-- a store: the twin's store is one for integers and floats -/
theorem P_store {v : Int64} (R : RelP p h bd a fu cf rg u t hv kp fd m c1 f1 d1 w1 hq s dd x dk q rq r g sg bl cr np kn (some w) fs B Bk Vv K F T rt tb Mc Mt) (To : Told d1 rt tb Mt) (hl : Mt.1 354 c1 0 = Int32.ofInt 2 ∨ Mt.1 354 c1 0 = Int32.ofInt 4) (hw : fs.2.2.2.1 = Int32.ofInt 0) (hB : Bk + 8 < 9223372036854775808) (hB' : B < 2147483000) (hV : Vv < 2147483648) (hz : z = 1 ∨ z = 2 ∨ z = 4 ∨ z = 8) :
    HX92_store m (nI h) w.2.1 (nI z) v Mt ∧ HX46_locate p w.2.1 (Int32.ofInt 2) (nI z) Mc ∧ ∃ Nc Nt cN tN, GX46_locate p w.2.1 (Int32.ofInt 2) (nI z) Mc = (cN, Nc) ∧ GX92_store m (nI h) w.2.1 (nI z) v Mt = (tN, Nt) ∧
      ((cN = Int32.ofInt 1 ∧ tN = Int32.ofInt 1 ∧ (∃ Mt', RelP p h bd a fu cf rg u t hv kp fd m c1 f1 d1 w1 hq s dd x dk q rq r g sg bl cr np kn (some w) fs B (Bk + 8) Vv K F T rt tb Nc Mt') ∧ Evo r 8 Mc Nc ∧ WK lX46_locate Mc Nc ∧ (HX73_store fd bd v Nc ∧ (GX73_store fd bd v Nc).2.2 211 p 0 = a ∧ HX47_finish a (Int32.ofInt 0) (Int64.ofInt 0) (GX73_store fd bd v Nc)) ∧
          OutP p h bd a fu cf rg u t hv kp fd m c1 f1 d1 w1 hq s dd x dk q rq r g sg bl cr np kn B Bk Vv rt tb Mc Mt (Int32.ofInt 1, (GX47_finish a (Int32.ofInt 0) (Int64.ofInt 0) (GX73_store fd bd v Nc)).2) (tN, Nt)) ∨
       (cN = Int32.ofInt 0 ∧ tN = Int32.ofInt 0 ∧ OutP p h bd a fu cf rg u t hv kp fd m c1 f1 d1 w1 hq s dd x dk q rq r g sg bl cr np kn B Bk Vv rt tb Mc Mt (Int32.ofInt 0, Nc) (tN, Nt))) := by
  have RR := relP_ram R
  have n95 := R.2.2.2.2.1.2.1.2.1
  have hcl : (nI h).toNatClampNeg = h := o_cl (by have h1 := R.2.1.1.2.1; have h2 := R.2.1.1.2.2.1; omega)
  obtain ⟨a1, b1, Nc, Nt, E, kc, kt, out⟩ := P_locate (ad := w.2.1) (ac := Int32.ofInt 2) R To hB hV (Or.inr rfl) hz
  rcases out with ⟨a2, b2, R2, To2, Fd⟩ | ⟨a2, b2, hx, R2⟩
  · have ed : dMo d1 Nt = dMo d1 Mt := dMo_k kt (by decide) RR.2.1.1 RR.2.1.2.1 n95
    have l3 : Nt.1 354 c1 0 = Mt.1 354 c1 0 := l354 kt (by decide) R
    obtain ⟨X, Y, ⟨p1, p2, p3⟩, ⟨q1, q2, q3, q4⟩, s1, ⟨s2, s3, s4⟩, R3, E3, e316⟩ := P_stored (v := v) R2 To2 (by rw [l3]; exact hl) hB' hz ed Fd
    refine ⟨?_, a1, Nc, Y, _, Int32.ofInt 1, a2, ?_, Or.inl ⟨rfl, rfl, ⟨Nt, R2⟩, E, kc, ⟨p1, s1, p2⟩, fs, K, F, T, X, Y, evo_w (evo_t E E3) (by omega), hw, e316.trans (b316 kt (by decide) R), Or.inl ⟨by rw [p3], rfl, relP_upw (by omega) (by omega) (by omega) R3⟩⟩⟩
    · unfold HX92_store HX92_store_0
      try dsimp only
      rw [b2]
      refine ⟨b1, fun c => absurd c (show ¬ Int32.ofInt 1 = 0 by decide), fun _ => ⟨q1, q2, s3, ?_⟩⟩
      try dsimp only
      rw [hcl, s4]
      exact ⟨s2, q3, trivial⟩
    · unfold GX92_store GX92_store_0
      try dsimp only
      rw [b2]
      try dsimp only
      rw [fi_neg (show ¬ Int32.ofInt 1 = 0 by decide), hcl, s4, q4]
  · refine ⟨?_, a1, Nc, Nt, _, Int32.ofInt 0, a2, ?_, Or.inr ⟨rfl, rfl, fs, K, F, T, Nc, Nt, evo_w E (by omega), hw, b316 kt (by decide) R, Or.inr ⟨rfl, rfl, hx, relP_upw (by omega) (by omega) (by omega) R2⟩⟩⟩
    · unfold HX92_store HX92_store_0
      try dsimp only
      rw [b2]
      exact ⟨b1, fun _ => trivial, fun c => absurd rfl c⟩
    · unfold GX92_store GX92_store_0
      try dsimp only
      rw [b2]
      try dsimp only
      rw [fi_pos (show Int32.ofInt 0 = 0 from rfl)]
end Ls
