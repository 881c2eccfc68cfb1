/-! the machine: what is asked of it -/
set_option maxRecDepth 100000
/-- the component as a whole -/
def XM (x1 mc : Nat) (M : FM) : Prop := fm_is M 10 10 x1 = true ∧ M.2.2 17 x1 0 = mc
theorem fm_I2 {M : FM} {f a i : Nat} {v : Int32} : (fm_sI M f a i v).2 = M.2 := rfl
section Ob
variable {bd hv m hq s dd x dk q rq r sg bl cr np mc : Nat} {B Bk Vv x1 h : Nat} {Mc Mt : FM}
theorem ob_sg (R : RelM bd hv m hq s dd x dk q rq r sg bl cr np mc B Bk Vv Mc Mt) : fm_is Mt 99 99 sg = true := by
  have := tN_301 (relM_ram R).2.1.1.1 (relM_m R).1
  rw [(relM_b R).1.2.2.2.2] at this
  exact this
/-- whether something was thrown -/
theorem ob_296 (R : RelM bd hv m hq s dd x dk q rq r sg bl cr np mc B Bk Vv Mc Mt) (v : Int32) : RelM bd hv m hq s dd x dk q rq r sg bl cr np mc B Bk Vv Mc (fm_sI Mt 296 m 0 v) ∧ WK [296] Mt (fm_sI Mt 296 m 0 v) := by
  have RR := relM_ram R
  have k : WK [296] Mt (fm_sI Mt 296 m 0 v) := WK_I RR.2.1.2.1 (relM_m R).1 rfl rfl _
  obtain ⟨_, _, _, _, _, O1, ⟨ow', Ow'⟩, _⟩ := id R
  exact ⟨(M_k R (WK_r (S := []) RR.1.2.1) k (by decide) (by decide) RR.1.1 ⟨RR.2.1.1.1, tyb_sI rfl RR.2.1.1.2⟩ O1 ⟨_, own_n rfl Ow'⟩).1, k⟩
theorem ob_394 (R : RelM bd hv m hq s dd x dk q rq r sg bl cr np mc B Bk Vv Mc Mt) : RelM bd hv m hq s dd x dk q rq r sg bl cr np mc B Bk Vv Mc (fm_sI Mt 394 sg 0 (Int32.ofInt 0)) ∧ WK [394] Mt (fm_sI Mt 394 sg 0 (Int32.ofInt 0)) := by
  have RR := relM_ram R
  have k : WK [394] Mt (fm_sI Mt 394 sg 0 (Int32.ofInt 0)) := WK_I RR.2.1.2.1 (ob_sg R) rfl rfl _
  obtain ⟨_, _, _, _, _, O1, ⟨ow', Ow'⟩, _⟩ := id R
  exact ⟨(M_g R (WK_r (S := []) RR.1.2.1) k (by decide) (by decide) RR.1.1 ⟨RR.2.1.1.1, tyb_sI rfl RR.2.1.1.2⟩ (relG_94 (relM_b R).2.1.1 _) O1 ⟨_, own_n rfl Ow'⟩).1, k⟩
theorem ob_324 (R : RelM bd hv m hq s dd x dk q rq r sg bl cr np mc B Bk Vv Mc Mt) (v : Int32) : RelM bd hv m hq s dd x dk q rq r sg bl cr np mc B Bk Vv Mc (fm_sI Mt 324 bl 0 v) ∧ WK [324] Mt (fm_sI Mt 324 bl 0 v) := by
  have RR := relM_ram R
  have nb : fm_is Mt 93 93 bl = true := (relM_b R).2.1.2.2.2.1.1
  have k : WK [324] Mt (fm_sI Mt 324 bl 0 v) := WK_I RR.2.1.2.1 nb rfl rfl _
  obtain ⟨_, _, _, _, _, O1, ⟨ow', Ow'⟩, _⟩ := id R
  exact ⟨(M_k R (WK_r (S := []) RR.1.2.1) k (by decide) (by decide) RR.1.1 ⟨RR.2.1.1.1, tyb_sI rfl RR.2.1.1.2⟩ O1 ⟨_, own_n rfl Ow'⟩).1, k⟩
theorem O_code (R : RelM bd hv m hq s dd x dk q rq r sg bl cr np mc B Bk Vv Mc Mt) (x : XM x1 mc Mc) : GX1_code x1 Mc = (Mt.1 315 m 0, Mc) ∧ GX92_code m Mt = (Mt.1 315 m 0, fm_sI Mt 296 m 0 (Int32.ofInt 0)) := by
  unfold GX1_code GX1_code_0 GX92_code GX92_code_0
  try dsimp only
  rw [x.2, R.2.1, (relM_b R).2.2.1, rIf (by decide)]
  exact ⟨rfl, rfl⟩
theorem O_procs (R : RelM bd hv m hq s dd x dk q rq r sg bl cr np mc B Bk Vv Mc Mt) (x : XM x1 mc Mc) : GX1_processors x1 Mc = (nI np, Mc) ∧ GX92_processors m Mt = (nI np, fm_sI Mt 296 m 0 (Int32.ofInt 0)) := by
  unfold GX1_processors GX1_processors_0 GX92_processors GX92_processors_0
  try dsimp only
  rw [x.2, R.2.2.1, rIf (by decide), R.2.2.2.2.1]
  exact ⟨rfl, rfl⟩
theorem O_waiting (Q : RelR mc m B Mc Mt) (x : XM x1 mc Mc) : GX1_waiting x1 Mc = (Mt.1 312 m 0, Mc) ∧ GX92_waiting m Mt = (Mt.1 312 m 0, fm_sI Mt 296 m 0 (Int32.ofInt 0)) := by
  obtain ⟨X, z, f, n, p1, p2, p3, p4, p5, p6, _⟩ := Q
  unfold GX1_waiting GX1_waiting_0 GX92_waiting GX92_waiting_0
  try dsimp only
  rw [x.2, p6.1, rIf (by decide), p6.2]
  exact ⟨rfl, rfl⟩
theorem O_time (R : RelM bd hv m hq s dd x dk q rq r sg bl cr np mc B Bk Vv Mc Mt) (x : XM x1 mc Mc) : GX1_time x1 Mc = (Mt.2.1 398 sg 0, Mc) ∧ GX92_time m Mt = (Mt.2.1 398 sg 0, fm_sI Mt 296 m 0 (Int32.ofInt 0)) := by
  have RR := relM_ram R
  have RB := relM_b R
  have e := (rel_gpass RR.1.1 RR.1.2.1 RB.2.1.1).1
  have v301 : (fm_sI Mt 296 m 0 (Int32.ofInt 0)).2.2 301 m 0 = sg := RB.1.2.2.2.2
  unfold GX1_time GX1_time_0 GX10_time GX10_time_0 GX92_time GX92_time_0
  try dsimp only
  rw [x.2, R.2.1, RB.1.1.2.2.2.1, v301, show (Int32.ofInt 4).toNatClampNeg = 4 from rfl, e]
  exact ⟨rfl, rfl⟩
theorem O_sent (R : RelM bd hv m hq s dd x dk q rq r sg bl cr np mc B Bk Vv Mc Mt) (x : XM x1 mc Mc) (hB : B < 2147483000) : GX1_sent x1 Mc = (Mt.2.1 413 sg 0, Mc) ∧ GX92_sent m Mt = (Mt.2.1 413 sg 0, fm_sI (fm_sI Mt 296 m 0 (Int32.ofInt 0)) 394 sg 0 (Int32.ofInt 0)) := by
  have RR := relM_ram R
  have RB := relM_b R
  have e := (rel_gout RR.1.1 RR.2.1.1 RB.2.1.1 hB (Int64.ofInt 0)).1
  have v301 : (fm_sI Mt 296 m 0 (Int32.ofInt 0)).2.2 301 m 0 = sg := RB.1.2.2.2.2
  unfold GX1_sent GX1_sent_0 GX92_sent GX92_sent_0 GX96_sent GX96_sent_0
  try dsimp only
  rw [x.2, R.2.1, RB.1.1.2.2.2.1, v301, e]
  exact ⟨rfl, rfl⟩
theorem O_out (R : RelM bd hv m hq s dd x dk q rq r sg bl cr np mc B Bk Vv Mc Mt) (x : XM x1 mc Mc) (hB : B < 2147483000) (k : Int64) : ∃ v, (HX1_out x1 k Mc ∧ GX1_out x1 k Mc = (v, Mc)) ∧ (HX92_out m k Mt ∧ GX92_out m k Mt = (v, fm_sI (fm_sI Mt 296 m 0 (Int32.ofInt 0)) 394 sg 0 (Int32.ofInt 0))) := by
  have R1 := (ob_296 R (Int32.ofInt 0)).1
  have RR := relM_ram R1
  have RB := relM_b R1
  obtain ⟨_, v, ⟨a1, a2⟩, ⟨b1, b2⟩⟩ := rel_gout RR.1.1 RR.2.1.1 RB.2.1.1 hB k
  have v301 : (fm_sI Mt 296 m 0 (Int32.ofInt 0)).2.2 301 m 0 = sg := RB.1.2.2.2.2
  refine ⟨v, ⟨?_, ?_⟩, ⟨?_, ?_⟩⟩
  · unfold HX1_out HX1_out_0
    try dsimp only
    rw [x.2, R.2.1, RB.1.1.2.2.2.1]
    exact ⟨a1, trivial⟩
  · unfold GX1_out GX1_out_0
    try dsimp only
    rw [x.2, R.2.1, RB.1.1.2.2.2.1, a2]
  · unfold HX92_out HX92_out_0
    try dsimp only
    rw [v301]
    exact ⟨b1, trivial⟩
  · unfold GX92_out GX92_out_0
    try dsimp only
    rw [v301, b2]
theorem O_changed (R : RelM bd hv m hq s dd x dk q rq r sg bl cr np mc B Bk Vv Mc Mt) (x : XM x1 mc Mc) : ∃ v, GX1_changed x1 Mc = (v, Mc) ∧ GX92_changed m Mt = (v, fm_sI (fm_sI Mt 296 m 0 (Int32.ofInt 0)) 324 bl 0 (Int32.ofInt 0)) := by
  have RB := relM_b R
  obtain ⟨_, ⟨⟨_, _, e59, _⟩, _⟩, _, size, tk, gv, _, _, _, _, _, _, e70, _⟩ := RB.2.1.2
  have v300 : (fm_sI Mt 296 m 0 (Int32.ofInt 0)).2.2 300 m 0 = bl := RB.1.2.2.2.1
  refine ⟨Mt.1 338 bl 0, ?_, ?_⟩
  · unfold GX1_changed GX1_changed_0
    try dsimp only
    rw [x.2, R.2.1, RB.1.1.2.2.2.2, e59, e70]
  · unfold GX92_changed GX92_changed_0 GX95_changed GX95_changed_0
    try dsimp only
    rw [v300, rIf (by decide), rIf (by decide)]
theorem O_breaches (R : RelM bd hv m hq s dd x dk q rq r sg bl cr np mc B Bk Vv Mc Mt) (h1 : Mt.2.1 316 m 0 = Int64.ofInt 0) (h2 : Mt.2.1 414 sg 0 = Int64.ofInt 0) : GX1_breaches x1 Mc = (Int64.ofInt 0, Mc) ∧ GX92_breaches m Mt = (Int64.ofInt 0, fm_sI Mt 296 m 0 (Int32.ofInt 0)) := by
  have RB := relM_b R
  have e393 : Mt.2.1 393 cr 0 = Int64.ofInt 0 := (relM_ram R).2.1.2.2.2.1
  have v298 : (fm_sI Mt 296 m 0 (Int32.ofInt 0)).2.2 298 m 0 = cr := RB.1.2.2.1
  have v301 : (fm_sI Mt 296 m 0 (Int32.ofInt 0)).2.2 301 m 0 = sg := RB.1.2.2.2.2
  refine ⟨rfl, ?_⟩
  unfold GX92_breaches GX92_breaches_0
  try dsimp only
  rw [v298, v301]
  try dsimp only
  rw [fm_I2, h1, h2, e393]
  rfl
/-- numbers of processors: there is one, or not -/
theorem idx_c (R : RelM bd hv m hq s dd x dk q rq r sg bl cr np mc B Bk Vv Mc Mt) (k : Int32) : (k < 0 ∨ nI np ≤ k) ∨ ∃ h, h < np ∧ k = nI h ∧ ¬ k < 0 ∧ ¬ nI np ≤ k := by
  have np4 := (relM_m R).2
  by_cases c : k < 0
  · exact Or.inl (Or.inl c)
  by_cases d : nI np ≤ k
  · exact Or.inl (Or.inr d)
  refine Or.inr ⟨ui k, ?_, ?_, c, d⟩
  · rw [Int32.not_lt, show (0 : Int32) = Int32.ofInt 0 from rfl, le_ti, ti, ti] at c
    rw [Int32.not_le, lt_ti, ti, ti, ui_nI] at d
    have hk := ui_lt k
    have : ui (Int32.ofInt 0) = 0 := rfl
    rw [this] at c
    split at c <;> split at d <;> omega
  · exact ui_inj (by rw [ui_nI]; have := ui_lt k; omega)
/-- a processor, by its number -/
theorem O_at (R : RelM bd hv m hq s dd x dk q rq r sg bl cr np mc B Bk Vv Mc Mt) (x : XM x1 mc Mc) (hh : h < np) : HX1_at x1 (nI h) Mc ∧ GX1_at x1 (nI h) Mc = (Mc.2.2 3 (Mc.2.2 190 mc 0) h, Mc) ∧ GX92_isNone m (nI h) Mt = (Int32.ofInt 0, fm_sI Mt 296 m 0 (Int32.ofInt 0)) := by
  have np4 := (relM_m R).2
  have a0 : ¬ nI h < 0 := nI0 (by omega)
  have a1 : ¬ nI np ≤ nI h := fun q => by have := (n_le (by omega) (by omega)).mp q; omega
  have a2 : nI h < Mt.1 297 m 0 := by rw [R.2.2.2.2.1]; exact (n_lt (by omega) (by omega)).mpr hh
  have hcl : (nI h).toNatClampNeg = h := o_cl (by omega)
  have inr : fm_in Mc (Mc.2.2 190 mc 0) (nI h) = true := in_nI R.2.2.1 hh (by omega)
  have i10 : ¬ Int32.ofInt 1 = (0 : Int32) := by decide
  refine ⟨?_, ?_, ?_⟩
  · unfold HX1_at HX1_at_0 HX1_at_21 GX1_there GX1_there_0 HX1_there HX1_there_0
    try dsimp only
    rw [x.2, R.2.2.1, fi_neg i10, x.2]
    exact ⟨fun q => absurd q a0, fun _ => ⟨fun q => absurd q a1, fun _ => ⟨⟨fun q => absurd q i10, fun _ => trivial⟩, inr, trivial⟩⟩⟩
  · unfold GX1_at GX1_at_0 GX1_at_21 GX1_there GX1_there_0
    try dsimp only
    rw [x.2, R.2.2.1, fi_neg a0, fi_neg (show ¬ Int32.ofNat np ≤ nI h from a1), fi_neg i10, x.2, hcl]
  · unfold GX92_isNone GX92_isNone_0 GX92_isNone_18 GX92_isNone_33
    try dsimp only
    rw [fi_neg a0, fi_pos a2]
    try dsimp only
    rw [fi_pos (show (fm_sI Mt 296 m 0 (Int32.ofInt 0)).1 296 m 0 ≤ 0 by rw [rIe]; decide)]
theorem O_none (R : RelM bd hv m hq s dd x dk q rq r sg bl cr np mc B Bk Vv Mc Mt) {k : Int32} (hk : k < 0 ∨ nI np ≤ k) : GX92_isNone m k Mt = (Int32.ofInt 1, fm_sI Mt 296 m 0 (Int32.ofInt 1)) := by
  have e18 : GX92_isNone_13 m m Mt = (Int32.ofInt 1, fm_sI Mt 296 m 0 (Int32.ofInt 1)) := by
    unfold GX92_isNone_13 GX92_isNone_18 GX92_isNone_33
    try dsimp only
    rw [fi_neg (show ¬ (fm_sI Mt 296 m 0 (Int32.ofInt 1)).1 296 m 0 ≤ 0 by rw [rIe]; decide)]
  unfold GX92_isNone GX92_isNone_0
  try dsimp only
  by_cases c : k < 0
  · rw [fi_pos c, e18]
  · have d : ¬ k < Mt.1 297 m 0 := by
      rw [R.2.2.2.2.1]
      exact fun q => by
        have := hk.resolve_left c
        rw [le_ti] at this
        rw [lt_ti] at q
        omega
    rw [fi_neg c, fi_neg d, e18]
end Ob
