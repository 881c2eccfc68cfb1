/-! the machine: which load the twin takes -/
set_option maxRecDepth 100000
def scP (a : Int64) (n : Nat) : Prop := ¬ lg_cmp a (Int64.ofInt 0) < 0 ∧ ¬ 0 < lg_cmp a (Int64.ofInt 2048) ∧ ¬ 0 < lg_cmp ((Int64.ofInt 512) * a + lN n) (Int64.ofInt 1048576)
def ldBad (kd : Int32) (a : Int64) (n : Nat) : Prop := n ≠ 0 ∧ ((kd = 0 ∧ ¬ inR a n) ∨ (kd = Int32.ofInt 2 ∧ ¬ scP a n))
theorem ab_2 {a b : Int64} {M : FM} : (GX93_areBytes a b M).2 = M := by
  unfold GX93_areBytes GX93_areBytes_0 GX93_areBytes_21 GX93_areBytes_22
  try dsimp only
  rw [X93_isByte]
  try dsimp only
  by_cases c : bz (inR a 1) = 0
  · rw [fi_pos c]
  · rw [fi_neg c]
    by_cases d : 0 < lg_cmp b ((Int64.ofInt 2151677952) - a)
    · rw [fi_pos d]
    · rw [fi_neg d]
section Ld
variable {m n : Nat} {kd : Int32} {a : Int64} {M : FM}
theorem ld_53 (h : M.1 309 m 0 = nI n) (hn : n ≤ 65536) (s : Int32) : GX92_load_53 m kd a s M = fi (n = 0) (GX92_load_80 m kd a M) (fi (s = 0) (fi (kd = 0) (GX92_load_76 m kd a M) (fi (kd = Int32.ofInt 2) (GX92_load_76 m kd a M) (GX92_load_80 m kd a M))) (GX92_load_80 m kd a M)) := by
  unfold GX92_load_53
  try dsimp only
  rw [h, propext (nI_le0 (n := n) (by omega))]
theorem ld_81 (h : M.1 309 m 0 = nI n) (hn : n ≤ 65536) : GX92_load_0 m kd a M = GX92_load_81 m kd a (bz (ldBad kd a n)) M := by
  have h53 := fun s => ld_53 (kd := kd) (a := a) h hn s
  have e64 : (nI n).toInt64 = lN n := o_64 (by omega)
  have z0 : (Int32.ofInt 0 : Int32) = 0 := rfl
  have i10 : ¬ Int32.ofInt 1 = (0 : Int32) := by decide
  have g80 : ¬ ldBad kd a n → GX92_load_80 m kd a M = GX92_load_81 m kd a (bz (ldBad kd a n)) M := fun q => by rw [bz_f q]; rfl
  have g76 : ldBad kd a n → GX92_load_76 m kd a M = GX92_load_81 m kd a (bz (ldBad kd a n)) M := fun q => by rw [bz_t q]; rfl
  unfold GX92_load_0 GX92_load_52
  try dsimp only
  rw [h, e64]
  by_cases k0 : kd = 0
  · have k2 : ¬ kd = Int32.ofInt 2 := by rw [k0]; decide
    rw [fi_pos k0, X93_areBytes (by rw [ul_lN]; omega), ul_lN, show n % 18446744073709551616 = n by omega]
    try dsimp only
    rw [h53]
    by_cases n0 : n = 0
    · rw [fi_pos n0, g80 (fun q => q.1 n0)]
    · rw [fi_neg n0]
      by_cases hi : inR a n
      · rw [bz_t ⟨by unfold inR at *; omega, hi⟩, fi_neg i10, g80 (fun q => q.2.elim (fun y => y.2 hi) (fun y => k2 y.1))]
      · rw [bz_f (fun y => hi y.2), fi_pos z0, fi_pos k0, g76 ⟨n0, Or.inl ⟨k0, hi⟩⟩]
  · rw [fi_neg k0, h53, h53]
    have bad : ldBad kd a n ↔ (n ≠ 0 ∧ kd = Int32.ofInt 2 ∧ ¬ scP a n) := ⟨fun q => ⟨q.1, q.2.resolve_left (fun y => k0 y.1)⟩, fun q => ⟨q.1, Or.inr q.2⟩⟩
    have no : ¬ scP a n → fi (n = 0) (GX92_load_80 m kd a M) (fi ((Int32.ofInt 0 : Int32) = 0) (fi (kd = 0) (GX92_load_76 m kd a M) (fi (kd = Int32.ofInt 2) (GX92_load_76 m kd a M) (GX92_load_80 m kd a M))) (GX92_load_80 m kd a M)) = GX92_load_81 m kd a (bz (ldBad kd a n)) M := fun sc => by
      by_cases n0 : n = 0
      · rw [fi_pos n0, g80 (fun q => q.1 n0)]
      · rw [fi_neg n0, fi_pos z0, fi_neg k0]
        by_cases k2 : kd = Int32.ofInt 2
        · rw [fi_pos k2, g76 (bad.mpr ⟨n0, k2, sc⟩)]
        · rw [fi_neg k2, g80 (fun q => k2 (bad.mp q).2.1)]
    by_cases s1 : lg_cmp a (Int64.ofInt 0) < 0
    · rw [fi_pos s1]
      exact no (fun q => q.1 s1)
    · rw [fi_neg s1]
      by_cases s2 : 0 < lg_cmp a (Int64.ofInt 2048)
      · rw [fi_pos s2]
        exact no (fun q => q.2.1 s2)
      · rw [fi_neg s2]
        by_cases s3 : 0 < lg_cmp ((Int64.ofInt 512) * a + lN n) (Int64.ofInt 1048576)
        · rw [fi_pos s3]
          exact no (fun q => q.2.2 s3)
        · rw [fi_neg s3]
          have nb : ¬ ldBad kd a n := fun q => (bad.mp q).2.2 ⟨s1, s2, s3⟩
          by_cases n0 : n = 0
          · rw [fi_pos n0, g80 nb]
          · rw [fi_neg n0, fi_neg i10, g80 nb]
/-- what is refused -/
theorem ld_no (h : M.1 309 m 0 = nI n) (hn : n ≤ 65536) (hb : (kd < 0 ∨ ¬ kd ≤ Int32.ofInt 3) ∨ ldBad kd a n) :
    GX92_load_0 m kd a M = .inr (Int32.ofInt 0, fm_sI M 296 m 0 (fi (kd < 0 ∨ ¬ kd ≤ Int32.ofInt 3) (Int32.ofInt 1) (Int32.ofInt 2))) := by
  have g107 : ∀ s : Int32, ¬ s ≤ 0 → GX92_load_107 m kd a m s M = .inr (Int32.ofInt 0, fm_sI M 296 m 0 s) := fun s hs => by
    unfold GX92_load_107
    try dsimp only
    rw [fi_neg (show ¬ (fm_sI M 296 m 0 s).1 296 m 0 ≤ 0 by rw [rIe]; exact hs)]
  rw [ld_81 h hn]
  unfold GX92_load_81 GX92_load_93
  try dsimp only
  by_cases c : kd < 0
  · rw [fi_pos c, g107 _ (by decide), fi_pos (Or.inl c)]
  · rw [fi_neg c]
    by_cases e : kd ≤ Int32.ofInt 3
    · have hbad : ldBad kd a n := hb.resolve_left (fun q => q.elim c (fun y => y e))
      rw [fi_pos e, bz_t hbad, fi_neg (show ¬ (Int32.ofInt 1 : Int32) = 0 by decide), g107 _ (by decide), fi_neg (fun q => q.elim c (fun y => y e))]
    · rw [fi_neg e, g107 _ (by decide), fi_pos (Or.inr e)]
/-- what is taken -/
theorem ld_yes (h : M.1 309 m 0 = nI n) (hn : n ≤ 65536) (c : ¬ kd < 0) (e : kd ≤ Int32.ofInt 3) (nb : ¬ ldBad kd a n) :
    GX92_load_0 m kd a M = fi (kd = Int32.ofInt 1) (GX92_load_220 m (GX92_loadImage m (fm_sI M 296 m 0 (Int32.ofInt 0))).1 (GX92_loadImage m (fm_sI M 296 m 0 (Int32.ofInt 0))).2)
      (fi (kd = Int32.ofInt 3) (GX92_load_220 m (GX92_loadInput m (fm_sI M 296 m 0 (Int32.ofInt 0))).1 (GX92_loadInput m (fm_sI M 296 m 0 (Int32.ofInt 0))).2) (.inl (m, kd, a, nI n, Int32.ofInt 0, fm_sI M 296 m 0 (Int32.ofInt 0)))) := by
  rw [ld_81 h hn]
  unfold GX92_load_81
  try dsimp only
  rw [fi_neg c, fi_pos e, bz_f nb, fi_pos (show (Int32.ofInt 0 : Int32) = 0 from rfl)]
  unfold GX92_load_107
  try dsimp only
  rw [fi_pos (show (fm_sI M 296 m 0 (Int32.ofInt 0)).1 296 m 0 ≤ 0 by rw [rIe]; decide), rIf (by decide), h]
theorem ld_H (hI : kd = Int32.ofInt 1 → HX92_loadImage m (fm_sI M 296 m 0 (Int32.ofInt 0))) (hT : kd = Int32.ofInt 3 → HX92_loadInput m (fm_sI M 296 m 0 (Int32.ofInt 0))) : HX92_load_0 m kd a M := by
  have h107 : ∀ s : Int32, s = Int32.ofInt 0 ∨ s = Int32.ofInt 1 ∨ s = Int32.ofInt 2 → HX92_load_107 m kd a m s M := fun s hs => by
    refine ⟨fun q => ?_, fun _ => trivial⟩
    have q : (fm_sI M 296 m 0 s).1 296 m 0 ≤ 0 := q
    rw [rIe] at q
    have e : s = Int32.ofInt 0 := by
      rcases hs with y | y | y
      · exact y
      · exact absurd q (by rw [y]; decide)
      · exact absurd q (by rw [y]; decide)
    subst e
    exact ⟨fun y => ⟨hI y, trivial⟩, fun _ => ⟨fun y => ⟨hT y, trivial⟩, fun _ => trivial⟩⟩
  have h81 : ∀ s : Int32, HX92_load_81 m kd a s M := fun s => ⟨fun _ => h107 _ (Or.inr (Or.inl rfl)), fun _ => ⟨fun _ => ⟨fun _ => h107 _ (Or.inl rfl), fun _ => h107 _ (Or.inr (Or.inr rfl))⟩, fun _ => h107 _ (Or.inr (Or.inl rfl))⟩⟩
  have h53 : ∀ s : Int32, HX92_load_53 m kd a s M := fun s => ⟨fun _ => h81 _, fun _ => ⟨fun _ => ⟨fun _ => h81 _, fun _ => ⟨fun _ => h81 _, fun _ => h81 _⟩⟩, fun _ => h81 _⟩⟩
  refine ⟨fun _ => ?_, fun _ => ⟨fun _ => h53 _, fun _ => ⟨fun _ => h53 _, fun _ => ⟨fun _ => h53 _, fun _ => h53 _⟩⟩⟩⟩
  try dsimp only
  rw [ab_2]
  exact h53 _
end Ld
