/-! a processor against the twin's: the instruction is carried out -/
set_option maxRecDepth 100000
theorem fd_7 (w : Int32) : fd w 11 7 = ui w / 2 ^ 7 % 32 := by
  have p7 : (2 : Nat) ^ 7 = 128 := by decide
  have p12 : (2 : Nat) ^ (11 + 1) = 4096 := by decide
  unfold fd
  rw [p7, p12]
  omega
theorem f_and3 {f : Nat} (hf : f < 8) : nI f &&& Int32.ofInt 3 = nI (f % 4) ∧ nI f - nI f / Int32.ofInt 4 * Int32.ofInt 4 = nI (f % 4) := by
  have : ∀ f, f < 8 → (nI f &&& Int32.ofInt 3 = nI (f % 4) ∧ nI f - nI f / Int32.ofInt 4 * Int32.ofInt 4 = nI (f % 4)) := by decide
  exact this f hf
def kcsr (w : Int32) : Nat := fd w 31 20
section Ex2
variable {p h bd a fu rg u t hv kp fd m c1 f1 d1 w1 hq s dd x dk q rq r g sg bl cr np : Nat} {cf : Nat → Nat} {kn : Int32} {o : Option Wt} {w : Wt} {fs fs' : Fs} {B Bk Vv : Nat} {K : Rg} {F T : Nat → Nat} {rt : Int32} {tb : Int64} {S S' : List Nat} {Mc Mt Nc Nt : FM} {k : Nat}
/-- access, with the question whether the register is written -/
theorem P_acc0 {da f : Nat} (R : RelP p h bd a fu cf rg u t hv kp fd m c1 f1 d1 w1 hq s dd x dk q rq r g sg bl cr np kn (some w) fs B Bk Vv K F T rt tb Mc Mt) (hl : Mt.1 354 c1 0 = Int32.ofInt 2 ∨ Mt.1 354 c1 0 = Int32.ofInt 4) (hw : fs.2.2.2.1 = Int32.ofInt 0) (Gd : GdC g Mc) (hg : Got p m Mc Mt) (hk : k < 4096) (hf : f = 1 ∨ f = 2 ∨ f = 3) (v : Int64) (hda : ui (Mc.1 219 p 0) / 2 ^ 15 % 32 = da) :
    HX46_access p (nI k) (nI f) v Mc ∧ ((nI f = Int32.ofInt 1 → HX92_access m (nI h) (nI k) (nI f) (Int32.ofInt 1) v Mt) ∧ (¬ nI f = Int32.ofInt 1 → (nI da = 0 → HX92_access m (nI h) (nI k) (nI f) (Int32.ofInt 0) v Mt) ∧ (¬ nI da = 0 → HX92_access m (nI h) (nI k) (nI f) (Int32.ofInt 1) v Mt))) ∧
      OutP p h bd a fu cf rg u t hv kp fd m c1 f1 d1 w1 hq s dd x dk q rq r g sg bl cr np kn B Bk Vv rt tb Mc Mt (GX46_access p (nI k) (nI f) v Mc) (fi (nI f = Int32.ofInt 1) (GX92_access m (nI h) (nI k) (nI f) (Int32.ofInt 1) v Mt) (fi (nI da = 0) (GX92_access m (nI h) (nI k) (nI f) (Int32.ofInt 0) v Mt) (GX92_access m (nI h) (nI k) (nI f) (Int32.ofInt 1) v Mt))) := by
  have ea : (((Mc.1 219 p 0).toUInt32 >>> ((Int32.ofInt 15).toUInt32 &&& Int32.toUInt32 31)).toInt32 &&& Int32.ofInt 31) = nI da := by rw [rg_c _ (k := 15) rfl, hda]
  have hop : nI f = Int32.ofInt 1 ∨ nI f = Int32.ofInt 2 ∨ nI f = Int32.ofInt 3 := by
    rcases hf with rfl | rfl | rfl
    · exact Or.inl rfl
    · exact Or.inr (Or.inl rfl)
    · exact Or.inr (Or.inr rfl)
  have A := fun wr => P_access (op := nI f) (wr := wr) R hl hw Gd hg hk hop v
  refine ⟨?_, ⟨fun _ => (A _).2.1, fun _ => ⟨fun _ => (A _).2.1, fun _ => (A _).2.1⟩⟩, ?_⟩
  · unfold HX46_access HX46_access_0 HX46_access_18
    try dsimp only
    rw [ea]
    exact ⟨fun _ => (A _).1, fun _ => ⟨fun _ => (A _).1, fun _ => (A _).1⟩⟩
  · unfold GX46_access GX46_access_0 GX46_access_18
    try dsimp only
    rw [ea]
    by_cases c1 : nI f = Int32.ofInt 1
    · rw [fi_pos c1, fi_pos c1]
      exact (A _).2.2
    · rw [fi_neg c1, fi_neg c1]
      by_cases c2 : nI da = 0
      · rw [fi_pos c2, fi_pos c2]
        exact (A _).2.2
      · rw [fi_neg c2, fi_neg c2]
        exact (A _).2.2
theorem P_exec (R : RelP p h bd a fu cf rg u t hv kp fd m c1 f1 d1 w1 hq s dd x dk q rq r g sg bl cr np kn o fs B Bk Vv K F T rt tb Mc Mt) (To : Told d1 rt tb Mt) (hw : fs.2.2.2.1 = Int32.ofInt 0) (Gd : GdC g Mc) (hg : Got p m Mc Mt) (nz : ¬ (Mc.1 221 p 0 = Int32.ofInt 2 ∧ Mc.1 219 p 0 = 0)) (hB : Bk + 8 < 9223372036854775808) (hB' : B < 2147483000) (hV : Vv < 2147483648) :
    HX46_execute p Mc ∧ HX92_carries m (nI h) Mt ∧ OutP p h bd a fu cf rg u t hv kp fd m c1 f1 d1 w1 hq s dd x dk q rq r g sg bl cr np kn B Bk Vv rt tb Mc Mt (GX46_execute p Mc) (GX92_carries m (nI h) Mt) := by
  have RR := relP_ram R
  obtain ⟨y0, y1, y2, y3, ⟨y4, y5⟩, ⟨y6, y7⟩, ⟨y8, y9⟩, ⟨ya, yb⟩, yc⟩ := R.2.1.1
  have hcl : (nI h).toNatClampNeg = h := o_cl (by omega)
  have in3 : fm_in Mt (Mt.2.2 303 m 0) (nI h) = true := in_nI y4 (by omega) (by decide)
  have n94 : fm_is Mt 94 94 c1 = true := R.2.2.2.1.2.1
  have nd := R.2.2.2.2.1.2.1.2.1
  have v2 : Mc.2.2 211 p 0 = a := R.1.1.2.2.2.1
  have hlen : Mc.1 221 p 0 = Int32.ofInt 2 ∨ Mc.1 221 p 0 = Int32.ofInt 4 := by rw [hg.2.1]; exact hg.2.2.1
  have UE : GX46_execute p Mc = GX46_execute_20 p Mc := by
    unfold GX46_execute GX46_execute_0
    try dsimp only
    by_cases c2 : Mc.1 221 p 0 = Int32.ofInt 2
    · rw [fi_pos c2, fi_neg (fun qq => nz ⟨c2, qq⟩)]
    · rw [fi_neg c2]
  have VE : HX46_execute_20 p Mc → HX46_execute p Mc := fun z => by
    unfold HX46_execute HX46_execute_0
    try dsimp only
    exact ⟨fun c2 => ⟨fun qq => absurd ⟨c2, qq⟩ nz, fun _ => z⟩, fun _ => z⟩
  obtain ⟨res, X, Y0, ⟨a1, a2⟩, ⟨b1, b2⟩, R1, rq1, kc1, kt1, k1, k2⟩ := P_irun R (Mc.1 219 p 0) hlen
  have hg1 := got_k kc1 kt1 (by decide) (by decide) R hg
  have To1 := told_k kt1 (by decide) RR.2.1.1 RR.2.1.2.1 nd To
  have b316' := b316 kt1 (by decide) R
  have ng : fm_is Mc 90 90 g = true := by
    obtain ⟨⟨rt0, tb0, VC⟩, _⟩ := R.2.2.2.2.2.2.1
    rw [← VC.2.2.2.2.1]
    exact tN_288 RR.1.1.1 VC.2.2.1
  have Gd1 := gdC_k kc1 (by decide) RR.1.1 RR.1.2.1 ng Gd
  have E1 : Evo r 0 Mc X := evo_q' (evo_r r 0 Mc) rq1
  have x219 : X.1 219 p 0 = Mc.1 219 p 0 := congrFun (kf (f := 219) kc1 rfl (dj_n (L := [219]) (by decide) 219 rfl) (wf_lt RR.1.2.1 (fm_ist rfl R.1.1.1))).1 0
  have ew : Mt.1 317 m 0 = Mc.1 219 p 0 := hg.1.symm
  have el : Mt.1 318 m 0 = Mc.1 221 p 0 := hg.2.1.symm
  -- both sides behind the run
  have UC : ∀ Z, GX46_execute p Mc = Z ↔ fi (res.1 = Int32.ofInt (-1)) ((GX46_illegal p X).1, (GX46_illegal p X).2) (fi (res.1 = Int32.ofInt 0) (Int32.ofInt 1, X) (fi (res.1 = Int32.ofInt 1) (Int32.ofInt 1, X) (fi (res.1 = Int32.ofInt 2) ((GX46_load p X).1, (GX46_load p X).2) (fi (res.1 = Int32.ofInt 3) ((GX46_store p X).1, (GX46_store p X).2)
      (fi (res.1 = Int32.ofInt 4) ((GX46_atomic p X).1, (GX46_atomic p X).2) (fi (res.1 = Int32.ofInt 5) ((GX46_floating p X).1, (GX46_floating p X).2) (fi (res.1 = Int32.ofInt 6) ((GX46_control p X).1, (GX46_control p X).2) (Int32.ofInt 1, X)))))))) = Z := by
    intro Z
    rw [UE]
    unfold GX46_execute_20 GX46_execute_110
    try dsimp only
    rw [v2, a2]
  cases ho : res.2.2.2.2 with
  | none =>
    rw [ho] at R1
    have kk := k1 ho
    have H20 : HX46_execute_20 p Mc := by
      unfold HX46_execute_20
      try dsimp only
      rw [v2, a2]
      refine ⟨a1, fun _ => trivial, fun q1 => ⟨fun _ => trivial, fun q2 => ⟨fun _ => trivial, fun q3 => ?_⟩⟩⟩
      rcases kk with z | z | z
      · exact absurd z q1
      · exact absurd z q2
      · exact absurd z q3
    have HT : HX92_carries m (nI h) Mt := by
      unfold HX92_carries HX92_carries_0
      try dsimp only
      rw [hcl, y5, ew, el, b2]
      refine ⟨in3, n94, b1, fun _ => trivial, fun q2 => ⟨fun _ => trivial, fun q3 => ⟨fun _ => trivial, fun q1 => ?_⟩⟩⟩
      rcases kk with z | z | z
      · exact absurd z q1
      · exact absurd z q2
      · exact absurd z q3
    refine ⟨VE H20, HT, ?_⟩
    have UT : ∀ Z, GX92_carries m (nI h) Mt = Z ↔ fi (res.1 = 0) (Int32.ofInt 1, Y0) (fi (res.1 = Int32.ofInt 1) (Int32.ofInt 1, Y0) ((GX92_illegal m Y0).1, (GX92_illegal m Y0).2)) = Z := by
      intro Z
      unfold GX92_carries GX92_carries_0 GX92_carries_29
      try dsimp only
      rw [hcl, y5, ew, el, b2]
      try dsimp only
      rcases kk with z | z | z
      · have n0 : ¬ res.1 = 0 := by rw [z]; decide
        have n1 : ¬ res.1 = Int32.ofInt 1 := by rw [z]; decide
        rw [fi_neg n0, fi_neg n0, fi_neg n1, fi_neg n1, fi_pos z]
      · have z0 : res.1 = 0 := z
        rw [fi_pos z0, fi_pos z0]
      · have n0 : ¬ res.1 = 0 := by rw [z]; decide
        rw [fi_neg n0, fi_neg n0, fi_pos z, fi_pos z]
    have good : OutP p h bd a fu cf rg u t hv kp fd m c1 f1 d1 w1 hq s dd x dk q rq r g sg bl cr np kn B Bk Vv rt tb Mc Mt (Int32.ofInt 1, X) (Int32.ofInt 1, Y0) := ⟨fs, K, F, T, X, Y0, evo_w E1 (by omega), hw, b316', Or.inl ⟨rfl, rfl, relP_upw (by omega) (by omega) (by omega) R1⟩⟩
    rcases kk with z | z | z
    · have n0 : ¬ res.1 = 0 := by rw [z]; decide
      have n1 : ¬ res.1 = Int32.ofInt 1 := by rw [z]; decide
      rw [(UC _).mpr (fi_pos z), (UT _).mpr ((fi_neg n0).trans (fi_neg n1))]
      exact out_t E1 b316' (out_i R1 hw hg1)
    · have nm : ¬ res.1 = Int32.ofInt (-1) := by rw [z]; decide
      have z0 : res.1 = 0 := z
      rw [(UC _).mpr ((fi_neg nm).trans (fi_pos z)), (UT _).mpr (fi_pos z0)]
      exact good
    · have nm : ¬ res.1 = Int32.ofInt (-1) := by rw [z]; decide
      have n0 : ¬ res.1 = Int32.ofInt 0 := by rw [z]; decide
      have n0' : ¬ res.1 = 0 := n0
      rw [(UC _).mpr ((fi_neg nm).trans ((fi_neg n0).trans (fi_pos z))), (UT _).mpr ((fi_neg n0').trans (fi_pos z))]
      exact good
  | some qq =>
    rw [ho] at R1
    obtain ⟨hq1, hwf, h354⟩ := k2 qq ho
    have hl1 : Y0.1 354 c1 0 = Int32.ofInt 2 ∨ Y0.1 354 c1 0 = Int32.ofInt 4 := by rw [h354]; exact hlen
    obtain ⟨R2, kt2, wants⟩ := P_wants R1
    have RR1 := relP_ram R1
    have hg2 := got_k (WK_r (S := []) RR1.1.2.1) kt2 (by decide) (by decide) R1 hg1
    have To2 := told_k kt2 (by decide) RR1.2.1.1 RR1.2.1.2.1 R1.2.2.2.2.1.2.1.2.1 To1
    have b2' := (b316 kt2 (by decide) R1).trans b316'
    have hl2 : (fm_sI Y0 345 c1 0 (Int32.ofInt 0)).1 354 c1 0 = Int32.ofInt 2 ∨ (fm_sI Y0 345 c1 0 (Int32.ofInt 0)).1 354 c1 0 = Int32.ofInt 4 := by
      try dsimp only
      rw [l354 kt2 (by decide) R1]
      exact hl1
    have w317 : (fm_sI Y0 345 c1 0 (Int32.ofInt 0)).1 317 m 0 = Mc.1 219 p 0 := hg2.1.symm.trans x219
    have n94Y0 : fm_is Y0 94 94 c1 = true := R1.2.2.2.1.2.1
    have n94Y : fm_is (fm_sI Y0 345 c1 0 (Int32.ofInt 0)) 94 94 c1 = true := R2.2.2.2.1.2.1
    have ws := fun k hk => (wants k hk).1
    have ws' := fun k hk => (wants k hk).2
    generalize hY : fm_sI Y0 345 c1 0 (Int32.ofInt 0) = Y at *
    have s0 : GX98_wanted c1 (Int32.ofInt 0) Y0 = (qq.2.1, Y) := (ws 0 (by decide)).2
    have s1 : GX98_wanted c1 (Int32.ofInt 1) Y = (qq.2.2.1, Y) := (ws' 1 (by decide)).2
    have s2 : GX98_wanted c1 (Int32.ofInt 2) Y = (qq.2.2.2.1, Y) := (ws' 2 (by decide)).2
    have s3 : GX98_wanted c1 (Int32.ofInt 3) Y = (qq.2.2.2.2.1, Y) := (ws' 3 (by decide)).2
    have s4 : GX98_wanted c1 (Int32.ofInt 4) Y = (qq.2.2.2.2.2.toInt64, Y) := (ws' 4 (by decide)).2
    have kq : res.1 = Int32.ofInt 2 ∨ res.1 = Int32.ofInt 3 ∨ res.1 = Int32.ofInt 4 ∨ res.1 = Int32.ofInt 5 ∨ res.1 = Int32.ofInt 6 := by
      try dsimp only
      rw [hq1]
      rcases hwf with z | z | z | z | z | z | z
      · exact Or.inl z.1
      · exact Or.inr (Or.inl z.1)
      · exact Or.inr (Or.inr (Or.inl z.1))
      · exact Or.inr (Or.inr (Or.inr (Or.inl z.1)))
      · exact Or.inr (Or.inr (Or.inr (Or.inl z.1)))
      · exact Or.inr (Or.inr (Or.inr (Or.inl z.1)))
      · exact Or.inr (Or.inr (Or.inr (Or.inr z.1)))
    have nm : ¬ res.1 = Int32.ofInt (-1) := by rcases kq with z | z | z | z | z <;> rw [z] <;> decide
    have nn0 : ¬ res.1 = Int32.ofInt 0 := by rcases kq with z | z | z | z | z <;> rw [z] <;> decide
    have nn0' : ¬ res.1 = 0 := nn0
    have nn1 : ¬ res.1 = Int32.ofInt 1 := by rcases kq with z | z | z | z | z <;> rw [z] <;> decide
    have ew2 : (((Y.1 317 m 0) >>> (Int32.ofInt 15 &&& 31)) &&& Int32.ofInt 31) = nI (ui (Mc.1 219 p 0) / 2 ^ 15 % 32) := by rw [rg_t15, w317]
    have UT : ∀ Z, GX92_carries m (nI h) Mt = Z ↔ fi (res.1 = Int32.ofInt 2) (fi ((GX92_finds m (nI h) qq.2.1 qq.2.2.1.toInt32 (Int32.ofInt 1) Y).1 = 0) (Int32.ofInt 0, (GX92_finds m (nI h) qq.2.1 qq.2.2.1.toInt32 (Int32.ofInt 1) Y).2)
          (Int32.ofInt 1, (GX98_finish c1 (Int32.ofInt 1) (GX92_get m qq.2.2.1.toInt32 (GX92_finds m (nI h) qq.2.1 qq.2.2.1.toInt32 (Int32.ofInt 1) Y).2).1 (GX92_get m qq.2.2.1.toInt32 (GX92_finds m (nI h) qq.2.1 qq.2.2.1.toInt32 (Int32.ofInt 1) Y).2).2).2))
        (fi (res.1 = Int32.ofInt 3) (GX92_store m (nI h) qq.2.1 qq.2.2.1.toInt32 qq.2.2.2.1 Y)
        (fi (res.1 = Int32.ofInt 4) (GX92_atomic m (nI h) qq.2.1 qq.2.2.1.toInt32 qq.2.2.2.2.1.toInt32 qq.2.2.2.1 Y)
        (fi (res.1 = Int32.ofInt 5) (GX92_floating m (nI h) qq.2.1 qq.2.2.1.toInt32 qq.2.2.2.2.1.toInt32 qq.2.2.2.2.2.toInt64.toInt32 Y)
        (fi (qq.2.2.2.2.1.toInt32 = 0) (GX92_system m (nI h) qq.2.1.toInt32 qq.2.2.2.2.2.toInt64.toInt32 (nI (ui (Mc.1 219 p 0) / 2 ^ 15 % 32)) Y)
        (fi (qq.2.2.2.2.1.toInt32 - qq.2.2.2.2.1.toInt32 / Int32.ofInt 4 * Int32.ofInt 4 = Int32.ofInt 1) (GX92_access m (nI h) qq.2.1.toInt32 (qq.2.2.2.2.1.toInt32 - qq.2.2.2.2.1.toInt32 / Int32.ofInt 4 * Int32.ofInt 4) (Int32.ofInt 1) qq.2.2.2.1 Y)
        (fi (nI (ui (Mc.1 219 p 0) / 2 ^ 15 % 32) = 0) (GX92_access m (nI h) qq.2.1.toInt32 (qq.2.2.2.2.1.toInt32 - qq.2.2.2.2.1.toInt32 / Int32.ofInt 4 * Int32.ofInt 4) (Int32.ofInt 0) qq.2.2.2.1 Y)
          (GX92_access m (nI h) qq.2.1.toInt32 (qq.2.2.2.2.1.toInt32 - qq.2.2.2.2.1.toInt32 / Int32.ofInt 4 * Int32.ofInt 4) (Int32.ofInt 1) qq.2.2.2.1 Y))))))) = Z := by
      intro Z
      unfold GX92_carries GX92_carries_0 GX92_carries_240 GX92_carries_235 GX92_carries_240 GX92_carries_245
      try dsimp only
      rw [hcl, y5, ew, el, b2]
      try dsimp only
      rw [fi_neg nn0', fi_neg nn1, fi_neg nm, s0]
      try dsimp only
      rw [s1]
      try dsimp only
      rw [s2]
      try dsimp only
      rw [s3]
      try dsimp only
      rw [s4]
      try dsimp only
      rw [ew2]
    have HT : ((res.1 = Int32.ofInt 2 → (HX92_finds m (nI h) qq.2.1 qq.2.2.1.toInt32 (Int32.ofInt 1) Y ∧ (¬ (GX92_finds m (nI h) qq.2.1 qq.2.2.1.toInt32 (Int32.ofInt 1) Y).1 = 0 → HX92_get m qq.2.2.1.toInt32 (GX92_finds m (nI h) qq.2.1 qq.2.2.1.toInt32 (Int32.ofInt 1) Y).2 ∧
          fm_is (GX92_get m qq.2.2.1.toInt32 (GX92_finds m (nI h) qq.2.1 qq.2.2.1.toInt32 (Int32.ofInt 1) Y).2).2 94 94 c1 = true ∧ HX98_finish c1 (Int32.ofInt 1) (GX92_get m qq.2.2.1.toInt32 (GX92_finds m (nI h) qq.2.1 qq.2.2.1.toInt32 (Int32.ofInt 1) Y).2).1 (GX92_get m qq.2.2.1.toInt32 (GX92_finds m (nI h) qq.2.1 qq.2.2.1.toInt32 (Int32.ofInt 1) Y).2).2))) ∧
        (res.1 = Int32.ofInt 3 → HX92_store m (nI h) qq.2.1 qq.2.2.1.toInt32 qq.2.2.2.1 Y) ∧ (res.1 = Int32.ofInt 4 → HX92_atomic m (nI h) qq.2.1 qq.2.2.1.toInt32 qq.2.2.2.2.1.toInt32 qq.2.2.2.1 Y) ∧
        (res.1 = Int32.ofInt 5 → HX92_floating m (nI h) qq.2.1 qq.2.2.1.toInt32 qq.2.2.2.2.1.toInt32 qq.2.2.2.2.2.toInt64.toInt32 Y) ∧
        (res.1 = Int32.ofInt 6 → (qq.2.2.2.2.1.toInt32 = 0 → HX92_system m (nI h) qq.2.1.toInt32 qq.2.2.2.2.2.toInt64.toInt32 (nI (ui (Mc.1 219 p 0) / 2 ^ 15 % 32)) Y) ∧
          (¬ qq.2.2.2.2.1.toInt32 = 0 → (qq.2.2.2.2.1.toInt32 - qq.2.2.2.2.1.toInt32 / Int32.ofInt 4 * Int32.ofInt 4 = Int32.ofInt 1 → HX92_access m (nI h) qq.2.1.toInt32 (qq.2.2.2.2.1.toInt32 - qq.2.2.2.2.1.toInt32 / Int32.ofInt 4 * Int32.ofInt 4) (Int32.ofInt 1) qq.2.2.2.1 Y) ∧
            (¬ qq.2.2.2.2.1.toInt32 - qq.2.2.2.2.1.toInt32 / Int32.ofInt 4 * Int32.ofInt 4 = Int32.ofInt 1 → (nI (ui (Mc.1 219 p 0) / 2 ^ 15 % 32) = 0 → HX92_access m (nI h) qq.2.1.toInt32 (qq.2.2.2.2.1.toInt32 - qq.2.2.2.2.1.toInt32 / Int32.ofInt 4 * Int32.ofInt 4) (Int32.ofInt 0) qq.2.2.2.1 Y) ∧
              (¬ nI (ui (Mc.1 219 p 0) / 2 ^ 15 % 32) = 0 → HX92_access m (nI h) qq.2.1.toInt32 (qq.2.2.2.2.1.toInt32 - qq.2.2.2.2.1.toInt32 / Int32.ofInt 4 * Int32.ofInt 4) (Int32.ofInt 1) qq.2.2.2.1 Y))))) → HX92_carries m (nI h) Mt := by
      intro ⟨z2, z3, z4_, z5, z6⟩
      unfold HX92_carries HX92_carries_0 HX92_carries_240 HX92_carries_235 HX92_carries_240
      try dsimp only
      rw [hcl, y5, ew, el, b2]
      refine ⟨in3, n94, b1, fun y => absurd y nn0', fun _ => ⟨fun y => absurd y nn1, fun _ => ⟨fun y => absurd y nm, fun _ => ⟨n94Y0, (ws 0 (by decide)).1, ?_⟩⟩⟩⟩
      try dsimp only
      rw [s0]
      try dsimp only
      refine ⟨n94Y, (ws' 1 (by decide)).1, ?_⟩
      try dsimp only
      rw [s1]
      try dsimp only
      refine ⟨n94Y, (ws' 2 (by decide)).1, ?_⟩
      try dsimp only
      rw [s2]
      try dsimp only
      refine ⟨n94Y, (ws' 3 (by decide)).1, ?_⟩
      try dsimp only
      rw [s3]
      try dsimp only
      refine ⟨n94Y, (ws' 4 (by decide)).1, ?_⟩
      try dsimp only
      rw [s4]
      try dsimp only
      rw [ew2]
      exact ⟨fun y => ⟨(z2 y).1, fun _ => trivial, fun x => ⟨((z2 y).2 x).1, ((z2 y).2 x).2.1, ((z2 y).2 x).2.2, trivial⟩⟩, fun e2 => ⟨fun y => ⟨z3 y, trivial⟩, fun e3 => ⟨fun y => ⟨z4_ y, trivial⟩, fun e4 => ⟨fun y => ⟨z5 y, trivial⟩, fun e5 => by
        have e6 : res.1 = Int32.ofInt 6 := by
          rcases kq with y | y | y | y | y
          · exact absurd y e2
          · exact absurd y e3
          · exact absurd y e4
          · exact absurd y e5
          · exact y
        obtain ⟨u1, u2⟩ := z6 e6
        exact ⟨fun y => ⟨u1 y, trivial⟩, fun y => ⟨fun x => ⟨(u2 y).1 x, trivial⟩, fun x => ⟨fun v => ⟨((u2 y).2 x).1 v, trivial⟩, fun v => ⟨((u2 y).2 x).2 v, trivial⟩⟩⟩⟩⟩⟩⟩⟩
    have HC : ((res.1 = Int32.ofInt 2 → HX46_load p X) ∧ (res.1 = Int32.ofInt 3 → HX46_store p X) ∧ (res.1 = Int32.ofInt 4 → HX46_atomic p X) ∧ (res.1 = Int32.ofInt 5 → HX46_floating p X) ∧ (res.1 = Int32.ofInt 6 → HX46_control p X)) → HX46_execute p Mc := by
      intro ⟨z2, z3, z4_, z5, z6⟩
      refine VE ?_
      unfold HX46_execute_20
      try dsimp only
      rw [v2, a2]
      exact ⟨a1, fun _ => trivial, fun _ => ⟨fun _ => trivial, fun _ => ⟨fun _ => trivial, fun _ => ⟨fun y => ⟨z2 y, trivial⟩, fun _ => ⟨fun y => ⟨z3 y, trivial⟩, fun _ => ⟨fun y => ⟨z4_ y, trivial⟩, fun _ => ⟨fun y => ⟨z5 y, trivial⟩, fun _ => ⟨fun y => ⟨z6 y, trivial⟩, fun _ => trivial⟩⟩⟩⟩⟩⟩⟩⟩
    have back : ∀ {cG tG : Int32 × FM}, OutP p h bd a fu cf rg u t hv kp fd m c1 f1 d1 w1 hq s dd x dk q rq r g sg bl cr np kn B Bk Vv rt tb X Y cG tG → OutP p h bd a fu cf rg u t hv kp fd m c1 f1 d1 w1 hq s dd x dk q rq r g sg bl cr np kn B Bk Vv rt tb Mc Mt cG tG := fun O => out_t E1 b2' O
    have U0 := UC
    -- the kinds
    have N : ∀ a b : Int, a ≠ b → 0 ≤ a → a < 100 → 0 ≤ b → b < 100 → ¬ Int32.ofInt a = Int32.ofInt b := fun a b hab a0 a1 b0 b1 e => by
      have h1 : (Int32.ofInt a).toInt = a := Int32.toInt_ofInt_of_le (by omega) (by omega)
      have h2 : (Int32.ofInt b).toInt = b := Int32.toInt_ofInt_of_le (by omega) (by omega)
      rw [e] at h1
      exact hab (h1.symm.trans h2)
    have dif : ∀ {c d : Int}, res.1 = Int32.ofInt c → c ≠ d → 0 ≤ c → c < 100 → 0 ≤ d → d < 100 → ¬ res.1 = Int32.ofInt d := fun e h1 h2 h3 h4 h5 y => N _ _ h1 h2 h3 h4 h5 (e.symm.trans y)
    rcases hwf with ⟨z1, z, hz, hqz⟩ | ⟨z1, z, hz, hqz⟩ | ⟨z1, ⟨z, hz, hqz⟩, kk, hk32, hks, hkr⟩ | ⟨z1, hs7, ⟨z, hz, hqz⟩, hdd⟩ | ⟨z1, hs39, ⟨z, hz, hqz⟩⟩ | ⟨z1, kk, hkk, hks⟩ | ⟨z1, hadr, hdd, f, hf8, hf4, hfs⟩
    · have e2 : res.1 = Int32.ofInt 2 := hq1.trans z1
      obtain ⟨l1, l2, l3⟩ := P_load R2 To2 hl2 hw hB hV hz hqz
      have ez : qq.2.2.1.toInt32 = nI z := by rw [hqz, iz_z hz]
      rw [ez] at UT HT
      have m3 := dif (d := 3) e2 (by decide) (by decide) (by decide) (by decide) (by decide)
      have m4 := dif (d := 4) e2 (by decide) (by decide) (by decide) (by decide) (by decide)
      have m5 := dif (d := 5) e2 (by decide) (by decide) (by decide) (by decide) (by decide)
      have m6 := dif (d := 6) e2 (by decide) (by decide) (by decide) (by decide) (by decide)
      refine ⟨HC ⟨fun _ => l1, fun y => absurd y m3, fun y => absurd y m4, fun y => absurd y m5, fun y => absurd y m6⟩, HT ⟨fun _ => l2, fun y => absurd y m3, fun y => absurd y m4, fun y => absurd y m5, fun y => absurd y m6⟩, ?_⟩
      try dsimp only
      rw [(UC _).mpr ((fi_neg nm).trans ((fi_neg nn0).trans ((fi_neg nn1).trans (fi_pos e2)))), (UT _).mpr (fi_pos e2)]
      exact back l3
    · have e3 : res.1 = Int32.ofInt 3 := hq1.trans z1
      obtain ⟨l1, l2, l3⟩ := P_storeI R2 To2 hl2 hw hB hB' hV hz hqz
      have ez : qq.2.2.1.toInt32 = nI z := by rw [hqz, iz_z hz]
      rw [ez] at UT HT
      have m2 := dif (d := 2) e3 (by decide) (by decide) (by decide) (by decide) (by decide)
      have m4 := dif (d := 4) e3 (by decide) (by decide) (by decide) (by decide) (by decide)
      have m5 := dif (d := 5) e3 (by decide) (by decide) (by decide) (by decide) (by decide)
      have m6 := dif (d := 6) e3 (by decide) (by decide) (by decide) (by decide) (by decide)
      refine ⟨HC ⟨fun y => absurd y m2, fun _ => l1, fun y => absurd y m4, fun y => absurd y m5, fun y => absurd y m6⟩, HT ⟨fun y => absurd y m2, fun _ => l2, fun y => absurd y m4, fun y => absurd y m5, fun y => absurd y m6⟩, ?_⟩
      try dsimp only
      rw [(UC _).mpr ((fi_neg nm).trans ((fi_neg nn0).trans ((fi_neg nn1).trans ((fi_neg m2).trans (fi_pos e3))))), (UT _).mpr ((fi_neg m2).trans (fi_pos e3))]
      exact back l3
    · have e4 : res.1 = Int32.ofInt 4 := hq1.trans z1
      obtain ⟨l1, l2, l3⟩ := P_atomic (k := kk) R2 To2 hl2 hw hB hV hz hqz hk32 hkr hks
      have ez : qq.2.2.1.toInt32 = nI z := by rw [hqz, iz_z (Or.inr (Or.inr hz))]
      have es : qq.2.2.2.2.1.toInt32 = nI kk := by rw [hks]; exact ui_inj (by rw [ui_low, ul_lN, ui_nI]; omega)
      rw [ez, es] at UT HT
      have m2 := dif (d := 2) e4 (by decide) (by decide) (by decide) (by decide) (by decide)
      have m3 := dif (d := 3) e4 (by decide) (by decide) (by decide) (by decide) (by decide)
      have m5 := dif (d := 5) e4 (by decide) (by decide) (by decide) (by decide) (by decide)
      have m6 := dif (d := 6) e4 (by decide) (by decide) (by decide) (by decide) (by decide)
      refine ⟨HC ⟨fun y => absurd y m2, fun y => absurd y m3, fun _ => l1, fun y => absurd y m5, fun y => absurd y m6⟩, HT ⟨fun y => absurd y m2, fun y => absurd y m3, fun _ => l2, fun y => absurd y m5, fun y => absurd y m6⟩, ?_⟩
      try dsimp only
      rw [(UC _).mpr ((fi_neg nm).trans ((fi_neg nn0).trans ((fi_neg nn1).trans ((fi_neg m2).trans ((fi_neg m3).trans (fi_pos e4)))))), (UT _).mpr ((fi_neg m2).trans ((fi_neg m3).trans (fi_pos e4)))]
      exact back l3
    · have e5 : res.1 = Int32.ofInt 5 := hq1.trans z1
      have l12 := (fd_5 (Mc.1 219 p 0)).2.1
      have key : HX46_floating p X ∧ HX92_floating m (nI h) qq.2.1 qq.2.2.1.toInt32 qq.2.2.2.2.1.toInt32 qq.2.2.2.2.2.toInt64.toInt32 Y ∧ OutP p h bd a fu cf rg u t hv kp fd m c1 f1 d1 w1 hq s dd x dk q rq r g sg bl cr np kn B Bk Vv rt tb X Y (GX46_floating p X) (GX92_floating m (nI h) qq.2.1 qq.2.2.1.toInt32 qq.2.2.2.2.1.toInt32 qq.2.2.2.2.2.toInt64.toInt32 Y) := by
        by_cases h13 : tw (ht Y d1 768) 13 = 0
        · exact flo_off R2 hw h13 hg2
        · rw [hqz, iz_z (Or.inr (Or.inr hz)), hs7, i32_64, hdd]
          exact P_flo7 R2 To2 hl2 hw h13 hB hV hz hqz hs7 hdd l12
      have m2 := dif (d := 2) e5 (by decide) (by decide) (by decide) (by decide) (by decide)
      have m3 := dif (d := 3) e5 (by decide) (by decide) (by decide) (by decide) (by decide)
      have m4 := dif (d := 4) e5 (by decide) (by decide) (by decide) (by decide) (by decide)
      have m6 := dif (d := 6) e5 (by decide) (by decide) (by decide) (by decide) (by decide)
      refine ⟨HC ⟨fun y => absurd y m2, fun y => absurd y m3, fun y => absurd y m4, fun _ => key.1, fun y => absurd y m6⟩, HT ⟨fun y => absurd y m2, fun y => absurd y m3, fun y => absurd y m4, fun _ => key.2.1, fun y => absurd y m6⟩, ?_⟩
      try dsimp only
      rw [(UC _).mpr ((fi_neg nm).trans ((fi_neg nn0).trans ((fi_neg nn1).trans ((fi_neg m2).trans ((fi_neg m3).trans ((fi_neg m4).trans (fi_pos e5))))))), (UT _).mpr ((fi_neg m2).trans ((fi_neg m3).trans ((fi_neg m4).trans (fi_pos e5))))]
      exact back key.2.2
    · have e5 : res.1 = Int32.ofInt 5 := hq1.trans z1
      have e39 : (Int64.ofInt 39).toInt32 = Int32.ofInt 39 := by decide
      have key : HX46_floating p X ∧ HX92_floating m (nI h) qq.2.1 qq.2.2.1.toInt32 qq.2.2.2.2.1.toInt32 qq.2.2.2.2.2.toInt64.toInt32 Y ∧ OutP p h bd a fu cf rg u t hv kp fd m c1 f1 d1 w1 hq s dd x dk q rq r g sg bl cr np kn B Bk Vv rt tb X Y (GX46_floating p X) (GX92_floating m (nI h) qq.2.1 qq.2.2.1.toInt32 qq.2.2.2.2.1.toInt32 qq.2.2.2.2.2.toInt64.toInt32 Y) := by
        by_cases h13 : tw (ht Y d1 768) 13 = 0
        · exact flo_off R2 hw h13 hg2
        · rw [hqz, iz_z (Or.inr (Or.inr hz)), hs39, e39]
          exact P_flo39 R2 To2 hl2 hw h13 hg2 hB hB' hV hz hqz hs39
      have m2 := dif (d := 2) e5 (by decide) (by decide) (by decide) (by decide) (by decide)
      have m3 := dif (d := 3) e5 (by decide) (by decide) (by decide) (by decide) (by decide)
      have m4 := dif (d := 4) e5 (by decide) (by decide) (by decide) (by decide) (by decide)
      have m6 := dif (d := 6) e5 (by decide) (by decide) (by decide) (by decide) (by decide)
      refine ⟨HC ⟨fun y => absurd y m2, fun y => absurd y m3, fun y => absurd y m4, fun _ => key.1, fun y => absurd y m6⟩, HT ⟨fun y => absurd y m2, fun y => absurd y m3, fun y => absurd y m4, fun _ => key.2.1, fun y => absurd y m6⟩, ?_⟩
      try dsimp only
      rw [(UC _).mpr ((fi_neg nm).trans ((fi_neg nn0).trans ((fi_neg nn1).trans ((fi_neg m2).trans ((fi_neg m3).trans ((fi_neg m4).trans (fi_pos e5))))))), (UT _).mpr ((fi_neg m2).trans ((fi_neg m3).trans ((fi_neg m4).trans (fi_pos e5))))]
      exact back key.2.2
    · have e5 : res.1 = Int32.ofInt 5 := hq1.trans z1
      have es : qq.2.2.2.2.1.toInt32 = nI kk := by rw [hks]; exact ui_inj (by rw [ui_low, ul_lN, ui_nI]; omega)
      have key : HX46_floating p X ∧ HX92_floating m (nI h) qq.2.1 qq.2.2.1.toInt32 qq.2.2.2.2.1.toInt32 qq.2.2.2.2.2.toInt64.toInt32 Y ∧ OutP p h bd a fu cf rg u t hv kp fd m c1 f1 d1 w1 hq s dd x dk q rq r g sg bl cr np kn B Bk Vv rt tb X Y (GX46_floating p X) (GX92_floating m (nI h) qq.2.1 qq.2.2.1.toInt32 qq.2.2.2.2.1.toInt32 qq.2.2.2.2.2.toInt64.toInt32 Y) := by
        by_cases h13 : tw (ht Y d1 768) 13 = 0
        · exact flo_off R2 hw h13 hg2
        · rw [es]
          exact P_floX (so := 0) R2 hl2 hw h13 hg2 hkk hks
      have m2 := dif (d := 2) e5 (by decide) (by decide) (by decide) (by decide) (by decide)
      have m3 := dif (d := 3) e5 (by decide) (by decide) (by decide) (by decide) (by decide)
      have m4 := dif (d := 4) e5 (by decide) (by decide) (by decide) (by decide) (by decide)
      have m6 := dif (d := 6) e5 (by decide) (by decide) (by decide) (by decide) (by decide)
      refine ⟨HC ⟨fun y => absurd y m2, fun y => absurd y m3, fun y => absurd y m4, fun _ => key.1, fun y => absurd y m6⟩, HT ⟨fun y => absurd y m2, fun y => absurd y m3, fun y => absurd y m4, fun _ => key.2.1, fun y => absurd y m6⟩, ?_⟩
      try dsimp only
      rw [(UC _).mpr ((fi_neg nm).trans ((fi_neg nn0).trans ((fi_neg nn1).trans ((fi_neg m2).trans ((fi_neg m3).trans ((fi_neg m4).trans (fi_pos e5))))))), (UT _).mpr ((fi_neg m2).trans ((fi_neg m3).trans ((fi_neg m4).trans (fi_pos e5))))]
      exact back key.2.2
    · have e6 : res.1 = Int32.ofInt 6 := hq1.trans z1
      have m2 := dif (d := 2) e6 (by decide) (by decide) (by decide) (by decide) (by decide)
      have m3 := dif (d := 3) e6 (by decide) (by decide) (by decide) (by decide) (by decide)
      have m4 := dif (d := 4) e6 (by decide) (by decide) (by decide) (by decide) (by decide)
      have m5 := dif (d := 5) e6 (by decide) (by decide) (by decide) (by decide) (by decide)
      have ek : qq.2.1.toInt32 = nI (kcsr (Mc.1 219 p 0)) := by
        rw [hadr, i32_64]
        rfl
      have l4096 : kcsr (Mc.1 219 p 0) < 4096 := (fd_5 (Mc.1 219 p 0)).2.2.2
      have es : qq.2.2.2.2.1.toInt32 = nI f := by rw [hfs]; exact ui_inj (by rw [ui_low, ul_lN, ui_nI]; omega)
      have ed : qq.2.2.2.2.2.toInt64.toInt32 = nI (ui (Mc.1 219 p 0) / 2 ^ 7 % 32) := by rw [i32_64, hdd]; exact congrArg nI (fd_7 _)
      obtain ⟨f1_, f2_⟩ := f_and3 hf8
      rw [ek, es, ed, f2_] at UT HT
      -- the component's control
      have v2X : X.2.2 211 p 0 = a := R2.1.1.2.2.2.1
      obtain ⟨⟨p0, p0'⟩, _⟩ := P_want R2 (k := 0) (by decide)
      obtain ⟨⟨p3, p3'⟩, _⟩ := P_want R2 (k := 3) (by decide)
      obtain ⟨⟨p2, p2'⟩, _⟩ := P_want R2 (k := 2) (by decide)
      rw [show wq qq 0 = qq.2.1 from rfl] at p0'
      rw [show wq qq 3 = qq.2.2.2.2.1 from rfl] at p3'
      rw [show wq qq 2 = qq.2.2.2.1 from rfl] at p2'
      have UCt : GX46_control p X = fi (nI f = 0) (GX46_system p (nI (kcsr (Mc.1 219 p 0))) X) (GX46_access p (nI (kcsr (Mc.1 219 p 0))) (nI (f % 4)) qq.2.2.2.1 X) := by
        unfold GX46_control GX46_control_0 GX46_control_48
        try dsimp only
        rw [v2X, show GX47_wanted a (Int32.ofInt 0) X = _ from p0']
        try dsimp only
        rw [v2X, show GX47_wanted a (Int32.ofInt 3) X = _ from p3']
        try dsimp only
        rw [ek, es, v2X, show GX47_wanted a (Int32.ofInt 2) X = _ from p2']
        try dsimp only
        rw [f1_]
      have HCt : ((nI f = 0 → HX46_system p (nI (kcsr (Mc.1 219 p 0))) X) ∧ (¬ nI f = 0 → HX46_access p (nI (kcsr (Mc.1 219 p 0))) (nI (f % 4)) qq.2.2.2.1 X)) → HX46_control p X := by
        intro z
        unfold HX46_control HX46_control_0
        try dsimp only
        rw [v2X, show GX47_wanted a (Int32.ofInt 0) X = _ from p0']
        try dsimp only
        rw [v2X, show GX47_wanted a (Int32.ofInt 3) X = _ from p3']
        try dsimp only
        rw [ek, es]
        refine ⟨p0, p3, fun y => ⟨z.1 y, trivial⟩, fun y => ?_⟩
        try dsimp only
        rw [v2X, show GX47_wanted a (Int32.ofInt 2) X = _ from p2']
        try dsimp only
        rw [f1_]
        exact ⟨p2, z.2 y, trivial⟩
      have zf : nI f = 0 ↔ f = 0 := by rw [show (0 : Int32) = nI 0 from rfl, nI_e (by omega) (by decide)]
      rw [(UC _).mpr ((fi_neg nm).trans ((fi_neg nn0).trans ((fi_neg nn1).trans ((fi_neg m2).trans ((fi_neg m3).trans ((fi_neg m4).trans ((fi_neg m5).trans (fi_pos e6))))))))]
      by_cases f0 : f = 0
      · have F0 := zf.mpr f0
        obtain ⟨l1, l2, l3⟩ := P_system (k := kcsr (Mc.1 219 p 0)) R2 hl2 hw hg2 l4096 (da := ui (Mc.1 219 p 0) / 2 ^ 15 % 32) (dq := ui (Mc.1 219 p 0) / 2 ^ 7 % 32) (by rw [x219]) (by rw [x219])
        refine ⟨HC ⟨fun y => absurd y m2, fun y => absurd y m3, fun y => absurd y m4, fun y => absurd y m5, fun _ => HCt ⟨fun _ => l1, fun y => absurd F0 y⟩⟩, HT ⟨fun y => absurd y m2, fun y => absurd y m3, fun y => absurd y m4, fun y => absurd y m5, fun _ => ⟨fun _ => l2, fun y => absurd F0 y⟩⟩, ?_⟩
        try dsimp only
        rw [(UT _).mpr ((fi_neg m2).trans ((fi_neg m3).trans ((fi_neg m4).trans ((fi_neg m5).trans (fi_pos F0))))), UCt, fi_pos F0]
        exact back l3
      · have F0 : ¬ nI f = 0 := fun y => f0 (zf.mp y)
        have hf123 : f % 4 = 1 ∨ f % 4 = 2 ∨ f % 4 = 3 := by omega
        obtain ⟨l1, ⟨l2, l3⟩, l4⟩ := P_acc0 (k := kcsr (Mc.1 219 p 0)) (f := f % 4) R2 hl2 hw Gd1 hg2 l4096 hf123 qq.2.2.2.1 (da := ui (Mc.1 219 p 0) / 2 ^ 15 % 32) (by rw [x219])
        refine ⟨HC ⟨fun y => absurd y m2, fun y => absurd y m3, fun y => absurd y m4, fun y => absurd y m5, fun _ => HCt ⟨fun y => absurd y F0, fun _ => l1⟩⟩, HT ⟨fun y => absurd y m2, fun y => absurd y m3, fun y => absurd y m4, fun y => absurd y m5, fun _ => ⟨fun y => absurd y F0, fun _ => ⟨l2, l3⟩⟩⟩, ?_⟩
        try dsimp only
        rw [(UT _).mpr ((fi_neg m2).trans ((fi_neg m3).trans ((fi_neg m4).trans ((fi_neg m5).trans (fi_neg F0))))), UCt, fi_neg F0]
        exact back l4
end Ex2
