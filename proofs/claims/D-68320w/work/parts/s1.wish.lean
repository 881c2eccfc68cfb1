/-! a processor against the twin's: what an instruction wishes -/
set_option maxRecDepth 100000
/-- what is wished -/
def WqF (w : Int32) (q : Wt) : Prop :=
  (q.1 = Int32.ofInt 2 ∧ ∃ z, (z = 1 ∨ z = 2 ∨ z = 4 ∨ z = 8) ∧ q.2.2.1 = lN z) ∨
  (q.1 = Int32.ofInt 3 ∧ ∃ z, (z = 1 ∨ z = 2 ∨ z = 4 ∨ z = 8) ∧ q.2.2.1 = lN z) ∨
  (q.1 = Int32.ofInt 4 ∧ (∃ z, (z = 4 ∨ z = 8) ∧ q.2.2.1 = lN z) ∧ ∃ k, k < 32 ∧ q.2.2.2.2.1 = lN k ∧ (k < 5 ∨ (k % 4 = 0 ∧ k < 29))) ∨
  (q.1 = Int32.ofInt 5 ∧ q.2.2.2.2.1 = Int64.ofInt 7 ∧ (∃ z, (z = 4 ∨ z = 8) ∧ q.2.2.1 = lN z) ∧ q.2.2.2.2.2 = nI (fd w 11 7)) ∨
  (q.1 = Int32.ofInt 5 ∧ q.2.2.2.2.1 = Int64.ofInt 39 ∧ (∃ z, (z = 4 ∨ z = 8) ∧ q.2.2.1 = lN z)) ∨
  (q.1 = Int32.ofInt 5 ∧ ∃ k, (k = 67 ∨ k = 71 ∨ k = 75 ∨ k = 79 ∨ k = 83) ∧ q.2.2.2.2.1 = lN k) ∨
  (q.1 = Int32.ofInt 6 ∧ q.2.1 = (nI (fd w 31 20)).toInt64 ∧ q.2.2.2.2.2 = nI (fd w 11 7) ∧ ∃ k, k < 8 ∧ k ≠ 4 ∧ q.2.2.2.2.1 = lN k)
theorem pw_zz {f : Int32} : ∃ z, (z = 1 ∨ z = 2 ∨ z = 4 ∨ z = 8) ∧ pw f = lN z := by
  unfold pw
  by_cases a : f = 0
  · rw [fi_pos a]
    exact ⟨1, Or.inl rfl, rfl⟩
  rw [fi_neg a]
  by_cases b : f = Int32.ofInt 1
  · rw [fi_pos b]
    exact ⟨2, Or.inr (Or.inl rfl), rfl⟩
  rw [fi_neg b]
  by_cases c : f = Int32.ofInt 2
  · rw [fi_pos c]
    exact ⟨4, Or.inr (Or.inr (Or.inl rfl)), rfl⟩
  · rw [fi_neg c]
    exact ⟨8, Or.inr (Or.inr (Or.inr rfl)), rfl⟩
theorem pw_48 {f : Int32} (h : f = Int32.ofInt 2 ∨ f = Int32.ofInt 3) : ∃ z, (z = 4 ∨ z = 8) ∧ pw f = lN z := by
  rcases h with rfl | rfl
  · exact ⟨4, Or.inl rfl, by unfold pw; rw [fi_neg (by decide), fi_neg (by decide), fi_pos rfl]; try rfl⟩
  · exact ⟨8, Or.inr rfl, by unfold pw; rw [fi_neg (by decide), fi_neg (by decide), fi_neg (by decide)]; try rfl⟩
theorem md4 {k : Nat} (hk : k < 32) : (nI k - nI k / Int32.ofInt 4 * Int32.ofInt 4 = 0) ↔ k % 4 = 0 := by
  have : ∀ k, k < 32 → ((nI k - nI k / Int32.ofInt 4 * Int32.ofInt 4 = 0) ↔ k % 4 = 0) := by decide
  exact this k hk
theorem fd_5 (w : Int32) : fd w 31 27 < 32 ∧ fd w 11 7 < 32 ∧ fd w 14 12 < 8 ∧ fd w 31 20 < 4096 := by
  refine ⟨?_, ?_, ?_, ?_⟩
  · exact fd_lt w (hi := 31) (lo := 27) (by decide)
  · exact fd_lt w (hi := 11) (lo := 7) (by decide)
  · exact fd_lt w (hi := 14) (lo := 12) (by decide)
  · exact fd_lt w (hi := 31) (lo := 20) (by decide)
theorem wt_q {R : Nat → Int64} {pc : Int64} {w len : Int32} {q : Wt} (h : (cx R pc w len).2.2.2.2 = some q) : WqF w q := by
  obtain ⟨l1, l2, l3, l4⟩ := fd_5 w
  have key : ∀ {x y : Int64} {cd : Int32}, wt cd (nI (fd w 14 12)) w x y (nI (fd w 11 7)) = some q → WqF w q := by
    intro x y cd e
    generalize fd w 14 12 = f at *
    generalize hd : fd w 11 7 = d at *
    unfold wt at e
    by_cases c3 : cd = Int32.ofInt 3
    · rw [fi_pos c3] at e
      by_cases g : Int32.ofInt 7 ≤ nI f
      · rw [fi_pos g] at e
        cases e
      · rw [fi_neg g] at e
        cases e
        exact Or.inl ⟨rfl, pw_zz⟩
    rw [fi_neg c3] at e
    by_cases c7 : cd = Int32.ofInt 7
    · rw [fi_pos c7] at e
      by_cases g : nI f = Int32.ofInt 2 ∨ nI f = Int32.ofInt 3
      · rw [fi_pos g] at e
        cases e
        exact Or.inr (Or.inr (Or.inr (Or.inl ⟨rfl, rfl, pw_48 g, congrArg nI hd.symm⟩)))
      · rw [fi_neg g] at e
        cases e
    rw [fi_neg c7] at e
    by_cases c35 : cd = Int32.ofInt 35
    · rw [fi_pos c35] at e
      by_cases g : Int32.ofInt 4 ≤ nI f
      · rw [fi_pos g] at e
        cases e
      · rw [fi_neg g] at e
        cases e
        exact Or.inr (Or.inl ⟨rfl, pw_zz⟩)
    rw [fi_neg c35] at e
    by_cases c39 : cd = Int32.ofInt 39
    · rw [fi_pos c39] at e
      by_cases g : nI f = Int32.ofInt 2 ∨ nI f = Int32.ofInt 3
      · rw [fi_pos g] at e
        cases e
        exact Or.inr (Or.inr (Or.inr (Or.inr (Or.inl ⟨rfl, rfl, pw_48 g⟩))))
      · rw [fi_neg g] at e
        cases e
    rw [fi_neg c39] at e
    by_cases c47 : cd = Int32.ofInt 47
    · rw [fi_pos c47] at e
      unfold wtA at e
      by_cases g : (fi (Int32.ofInt 5 ≤ nI (fd w 31 27)) (nI (fd w 31 27) - nI (fd w 31 27) / Int32.ofInt 4 * Int32.ofInt 4 = 0 ∧ ¬ Int32.ofInt 29 ≤ nI (fd w 31 27)) (nI (fd w 31 27) = Int32.ofInt 2 → nI (fd w 24 20) = 0)) ∧ (nI f = Int32.ofInt 2 ∨ nI f = Int32.ofInt 3)
      · rw [fi_pos g] at e
        cases e
        refine Or.inr (Or.inr (Or.inl ⟨rfl, pw_48 g.2, fd w 31 27, l1, o_64 (by omega), ?_⟩))
        have g1 := g.1
        by_cases b : Int32.ofInt 5 ≤ nI (fd w 31 27)
        · rw [fi_pos b] at g1
          refine Or.inr ⟨(md4 l1).mp g1.1, ?_⟩
          have : ¬ 29 ≤ fd w 31 27 := fun z => g1.2 ((n_le (a := 29) (by decide) (by omega)).mpr z)
          omega
        · refine Or.inl ?_
          have : ¬ 5 ≤ fd w 31 27 := fun z => b ((n_le (a := 5) (by decide) (by omega)).mpr z)
          omega
      · rw [fi_neg g] at e
        cases e
    rw [fi_neg c47] at e
    by_cases c67 : cd = Int32.ofInt 67 ∨ cd = Int32.ofInt 71 ∨ cd = Int32.ofInt 75 ∨ cd = Int32.ofInt 79 ∨ cd = Int32.ofInt 83
    · rw [fi_pos c67] at e
      cases e
      refine Or.inr (Or.inr (Or.inr (Or.inr (Or.inr (Or.inl ⟨rfl, ?_⟩)))))
      rcases c67 with rfl | rfl | rfl | rfl | rfl
      · exact ⟨67, Or.inl rfl, by show (Int32.ofInt 67).toInt64 = lN 67; decide⟩
      · exact ⟨71, Or.inr (Or.inl rfl), by show (Int32.ofInt 71).toInt64 = lN 71; decide⟩
      · exact ⟨75, Or.inr (Or.inr (Or.inl rfl)), by show (Int32.ofInt 75).toInt64 = lN 75; decide⟩
      · exact ⟨79, Or.inr (Or.inr (Or.inr (Or.inl rfl))), by show (Int32.ofInt 79).toInt64 = lN 79; decide⟩
      · exact ⟨83, Or.inr (Or.inr (Or.inr (Or.inr rfl))), by show (Int32.ofInt 83).toInt64 = lN 83; decide⟩
    rw [fi_neg c67] at e
    by_cases c115 : cd = Int32.ofInt 115
    · rw [fi_pos c115] at e
      unfold wtC at e
      by_cases g : nI f = Int32.ofInt 4
      · rw [fi_pos g] at e
        cases e
      · rw [fi_neg g] at e
        cases e
        exact Or.inr (Or.inr (Or.inr (Or.inr (Or.inr (Or.inr ⟨rfl, rfl, congrArg nI hd.symm, f, l3, fun z => g (by rw [z]; rfl), o_64 (by omega)⟩)))))
    · rw [fi_neg c115] at e
      cases e
  revert h
  unfold cx
  have none_c : ∀ {o : Option Int64} {d : Nat} {nx : Int64}, (cval o d nx pc).2.2.2.2 = some q → WqF w q := by
    intro o d nx e
    cases o <;> cases e
  have none_i : (cill pc).2.2.2.2 = some q → WqF w q := fun e => by cases e
  have F : ∀ {c : Prop} {t e : CR}, (t.2.2.2.2 = some q → WqF w q) → (e.2.2.2.2 = some q → WqF w q) → ((fi c t e).2.2.2.2 = some q → WqF w q) := by
    intro c t e h k
    by_cases b : c
    · rw [fi_pos b]
      exact h
    · rw [fi_neg b]
      exact k
  refine F none_c (F none_c (F none_c (F none_c (F none_c (F none_c (F (F none_i (fun e => by cases e)) (F (F (fun e => by cases e) none_i) (F (fun e => by cases e) (F (F none_i (fun e => by cases e)) (fun e => ?_))))))))))
  have e' : ∀ o : Option Wt, (cwt o pc).2.2.2.2 = some q → o = some q := fun o z => by
    cases o
    · cases z
    · cases z
      rfl
  exact key (e' _ e)
section Ir
variable {p h bd a fu rg u t hv kp fd m c1 f1 d1 w1 hq s dd x dk q rq r g sg bl cr np : Nat} {cf : Nat → Nat} {kn : Int32} {o : Option Wt} {qw : Wt} {fs : Fs} {B Bk Vv : Nat} {K : Rg} {F T : Nat → Nat} {rt : Int32} {tb : Int64} {Mc Mt : FM}
/-- the integer unit runs a word -/
theorem P_irun (R : RelP p h bd a fu cf rg u t hv kp fd m c1 f1 d1 w1 hq s dd x dk q rq r g sg bl cr np kn o fs B Bk Vv K F T rt tb Mc Mt) (w : Int32) {len : Int32} (hl : len = Int32.ofInt 2 ∨ len = Int32.ofInt 4) :
    ∃ (res : CR) (X Y : FM), (HX47_run a w len Mc ∧ GX47_run a w len Mc = (res.1, X)) ∧ (HX98_run c1 w len Mt ∧ GX98_run c1 w len Mt = (res.1, Y)) ∧ RelP p h bd a fu cf rg u t hv kp fd m c1 f1 d1 w1 hq s dd x dk q rq r g sg bl cr np kn res.2.2.2.2 fs B Bk Vv K F T rt tb X Y ∧ RamQ r Mc X ∧ WK lX47_run Mc X ∧ WK lX98_run Mt Y ∧
      (res.2.2.2.2 = none → res.1 = Int32.ofInt (-1) ∨ res.1 = Int32.ofInt 0 ∨ res.1 = Int32.ofInt 1) ∧ (∀ qw, res.2.2.2.2 = some qw → res.1 = qw.1 ∧ WqF w qw ∧ Y.1 354 c1 0 = len) := by
  have RR := relP_ram R
  have Tc := RR.1.1
  have W := RR.1.2.1
  have Tm := RR.2.1.1
  have W' := RR.2.1.2.1
  have RI := R.2.2.2.1
  have nt := RI.2.1
  obtain ⟨res, X, Y, e1, TX, EX, ⟨eH, eY⟩, RI', k1, k2⟩ := rel_irun Tc W Tm W' RI w hl
  obtain ⟨t1, t2, t3⟩ := tc_ne Tm W' nt
  obtain ⟨_, Y2, eY2, y1, y2, y3, yR, yP, yN, yS⟩ := X98_run Tm nt t1 t2 t3 w hl
  have hY : Y2 = Y := by
    rw [eY] at eY2
    exact (congrArg Prod.snd eY2).symm
  subst hY
  have Ev : EvT c1 Y2 := by
    have := ev_run Tm W' nt R.2.1.2.2 w hl
    rw [eY] at this
    exact this
  have g98 := gX98_run c1 w len Mt Tm nt eH
  have TY : Ty Y2 := by
    have := g98.2.1
    rw [eY] at this
    exact this
  have kc : WK lX47_run Mc X := wX47_run (SL lX47_run) (fun _ => True) (fun _ h => h) fN a w len Mc (wi_N W) trivial _ e1
  have kt : WK lX98_run Mt Y2 := by
    have := wX98_run (SL lX98_run) (fun _ => True) (fun _ h => h) fN c1 w len Mt (wi_N W') trivial _ g98.1
    rw [eY] at this
    exact this
  obtain ⟨R2, rq⟩ := relP_i kc kt (by decide) (by decide) TX TY R Ev RI'
  refine ⟨res, X, Y2, op_of (d := ((0 : Int32), Mc)) e1 (P := OkR Mc) ⟨TX, EX⟩, ⟨eH, eY⟩, R2, rq, kc, kt, k1, fun qw hq => ⟨k2 qw hq, ?_⟩⟩
  have e3 : (cx (Mt.2.1 3 (Mt.2.2 346 c1 0)) (Mt.2.1 347 c1 0) w len).2.2.2.2 = some qw := by
    cases h0 : (cx (Mt.2.1 3 (Mt.2.2 346 c1 0)) (Mt.2.1 347 c1 0) w len).2.2.2.2 with
    | none =>
      have n1 := yN h0
      obtain ⟨z1, z2, z3, z4_, z5⟩ := RI'.2.2.2.2.2 qw hq
      rw [n1] at z3
      have := Uk_k z2
      rw [← z3] at this
      exact absurd this (by decide)
    | some qw' =>
      obtain ⟨b1, b2, b3, b4, b5, b6, b7⟩ := yS qw' h0
      obtain ⟨z1, z2, z3, z4_, z5, z6⟩ := RI'.2.2.2.2.2 qw hq
      rw [← y1] at b3 b4 b5 b6 b7
      obtain ⟨dk, hdk, hd1⟩ := z2.2.2.2
      have w5 : qw'.2.2.2.2.2.toInt64 = qw.2.2.2.2.2.toInt64 := b7.symm.trans z6.2.2.2.2
      have w5' : qw'.2.2.2.2.2 = qw.2.2.2.2.2 := by
        have := congrArg Int64.toInt32 w5
        rw [i32_64, i32_64] at this
        exact this
      have : qw' = qw := by
        obtain ⟨x1, x2, x3, x4, x5, x6⟩ := qw'
        obtain ⟨v1, v2, v3, v4, v5, v6⟩ := qw
        have a1 : x1 = v1 := b1.symm.trans z3
        have a2 : x2 = v2 := b3.symm.trans z6.1
        have a3 : x3 = v3 := b4.symm.trans z6.2.1
        have a4 : x4 = v4 := b5.symm.trans z6.2.2.1
        have a5 : x5 = v5 := b6.symm.trans z6.2.2.2.1
        have a6 : x6 = v6 := w5'
        rw [a1, a2, a3, a4, a5, a6]
      rw [this]
  exact ⟨wt_q e3, (yS qw e3).2.1⟩
theorem ev_fin (Tc : Ty Mc) (Tm : Ty Mt) (hr : RelI a c1 Mc Mt (some qw)) (E : EvT c1 Mt) (hl : Mt.1 354 c1 0 = Int32.ofInt 2 ∨ Mt.1 354 c1 0 = Int32.ofInt 4) (gg : Int32) (v : Int64) : EvT c1 (GX98_finish c1 gg v Mt).2 := by
  obtain ⟨C, nt, hR, hP, -, hq'⟩ := hr
  obtain ⟨u1, u2, u3, u4, u5, u6⟩ := hq' qw rfl
  have kq := Uk_k u2
  obtain ⟨w1_, w2, w3, dk, hk, w4⟩ := u2
  have q1 : qw.1 ≠ Int32.ofInt (-1) := by rcases kq with e | e | e | e | e <;> rw [e] <;> decide
  obtain ⟨b1, b2⟩ := X98_finish Tm nt u3 q1 u6.2.1 u6.2.2.2.2 w4 hk gg v (lv := fin (Int32.ofInt 2) (Mc.1 159 (Mc.2.2 174 a 0) 0) (Mc.1 160 (Mc.2.2 174 a 0) 0) v) (fun e2 => by
    rcases w1_ with ⟨w, x1, x2, ⟨_, y1, y2⟩ | ⟨y, _⟩ | ⟨y, _⟩ | y⟩ | ⟨w, y | y⟩
    · exact t_lv v y1 y2 (by rw [← x1]; exact u6.2.1) (by rw [← x2]; exact u6.2.2.2.1)
    all_goals (rw [e2] at y; exact absurd y (by decide)))
  rw [b2]
  have k345 : ∀ f b, f ≠ 345 → (fm_sI Mt 345 c1 0 (Int32.ofInt 0)).1 f b = Mt.1 f b := fun f b z => funext fun j => by rw [rI, if_neg (fun y => z y.1)]
  by_cases g0 : gg = 0 ∨ qw.1 = Int32.ofInt 3
  · rw [fi_pos g0]
    exact ev_end (dk := 0) (x := 0) E k345 rfl (fun f b j => by rw [if_neg (by omega)]; rfl) hl
  · rw [fi_neg g0]
    obtain ⟨d1_, d2_, d3_⟩ := tput_1 (r := c1) (dk := dk) (x := fval qw (fin (Int32.ofInt 2) (Mc.1 159 (Mc.2.2 174 a 0) 0) (Mc.1 160 (Mc.2.2 174 a 0) 0) v) v) (M := fm_sI Mt 345 c1 0 (Int32.ofInt 0))
    exact ev_end E (fun f b z => by rw [d1_]; exact k345 f b z) d2_ d3_ hl
/-- the instruction ends -/
theorem P_ifin (R : RelP p h bd a fu cf rg u t hv kp fd m c1 f1 d1 w1 hq s dd x dk q rq r g sg bl cr np kn (some qw) fs B Bk Vv K F T rt tb Mc Mt) (hl : Mt.1 354 c1 0 = Int32.ofInt 2 ∨ Mt.1 354 c1 0 = Int32.ofInt 4) (gg : Int32) (v : Int64) :
    ∃ X Y, (HX47_finish a gg v Mc ∧ GX47_finish a gg v Mc = (qw.1, X)) ∧ (HX98_finish c1 gg v Mt ∧ GX98_finish c1 gg v Mt = (qw.1, Y)) ∧ RelP p h bd a fu cf rg u t hv kp fd m c1 f1 d1 w1 hq s dd x dk q rq r g sg bl cr np kn none fs B Bk Vv K F T rt tb X Y ∧ RamQ r Mc X ∧ WK lX47_finish Mc X ∧ WK lX98_finish Mt Y := by
  have RR := relP_ram R
  have Tc := RR.1.1
  have W := RR.1.2.1
  have Tm := RR.2.1.1
  have W' := RR.2.1.2.1
  have RI := R.2.2.2.1
  obtain ⟨X, Y, ⟨a1, a2⟩, ⟨b1, b2⟩, RI'⟩ := rel_ifin Tc W Tm W' RI gg v
  have ga := gX47_finish a gg v Mc Tc RI.1.1 a1
  have gb := gX98_finish c1 gg v Mt Tm RI.2.1 b1
  have ka_ := wX47_finish (SL lX47_finish) (fun _ => True) (fun _ h => h) a gg v Mc (wi_N W) trivial _ ga.1
  have kb := wX98_finish (SL lX98_finish) (fun _ => True) (fun _ h => h) c1 gg v Mt (wi_N W') trivial _ gb.1
  have Ev := ev_fin Tc Tm RI R.2.1.2.2 hl gg v
  have TX := ga.2.1
  have TY := gb.2.1
  rw [a2] at ka_ TX
  rw [b2] at kb TY Ev
  obtain ⟨R2, rq⟩ := relP_i (S := lX47_finish) (S' := lX98_finish) ka_ kb (by decide) (by decide) TX TY R Ev RI'
  exact ⟨X, Y, ⟨a1, a2⟩, ⟨b1, b2⟩, R2, rq, ka_, kb⟩
/-- a number that is wished -/
theorem P_want (R : RelP p h bd a fu cf rg u t hv kp fd m c1 f1 d1 w1 hq s dd x dk q rq r g sg bl cr np kn (some qw) fs B Bk Vv K F T rt tb Mc Mt) {k : Nat} (hk : k < 5) :
    (HX47_wanted a (nI k) Mc ∧ GX47_wanted a (nI k) Mc = (wq qw k, Mc)) ∧ (HX98_wanted c1 (nI k) Mt ∧ GX98_wanted c1 (nI k) Mt = (wq qw k, fm_sI Mt 345 c1 0 (Int32.ofInt 0))) :=
  rel_want (relP_ram R).1.1 (relP_ram R).1.2.1 (relP_ram R).2.1.1 R.2.2.2.1 hk
end Ir
