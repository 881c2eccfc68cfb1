/-! control registers: what is shown, on both sides -/
set_option maxRecDepth 100000
section Sh
variable {u d n : Nat} {k : Int32} {Mc Mt : FM}
abbrev cV : List Nat := [256, 260, 324, 3072, 3073, 3074]
abbrev tSp : List Nat := [256, 260, 324, 768, 769, 836, 3072, 3073, 3074, 3860]
def anB (n : Nat) : Bool := (cH.any fun q => Nat.beq q.1 n) || (cK.any fun q => Nat.beq q n) || (cE.any fun q => Nat.beq q n) || (cV.any fun q => Nat.beq q n)
theorem an_of (h : thr n) : anB n = true := by
  rcases h with (h | h | h | h | h) | (h | h | h | h) | h | (h | h | h | h)
  · have : n = 768 ∨ n = 769 ∨ n = 770 ∨ n = 771 ∨ n = 772 ∨ n = 773 ∨ n = 774 := by omega
    rcases this with rfl | rfl | rfl | rfl | rfl | rfl | rfl <;> rfl
  · have : n = 832 ∨ n = 833 ∨ n = 834 ∨ n = 835 ∨ n = 836 := by omega
    rcases this with rfl | rfl | rfl | rfl | rfl <;> rfl
  · rw [h]; rfl
  · rw [h]; rfl
  · have : n = 3857 ∨ n = 3858 ∨ n = 3859 ∨ n = 3860 ∨ n = 3861 := by omega
    rcases this with rfl | rfl | rfl | rfl | rfl <;> rfl
  · rw [h]; rfl
  · have : n = 260 ∨ n = 261 ∨ n = 262 := by omega
    rcases this with rfl | rfl | rfl <;> rfl
  · have : n = 320 ∨ n = 321 ∨ n = 322 ∨ n = 323 ∨ n = 324 := by omega
    rcases this with rfl | rfl | rfl | rfl | rfl <;> rfl
  · rw [h]; rfl
  · have : n = 3072 ∨ n = 3073 ∨ n = 3074 := by omega
    rcases this with rfl | rfl | rfl <;> rfl
  · have : n = 1 ∨ n = 2 ∨ n = 3 := by omega
    rcases this with rfl | rfl | rfl <;> rfl
  · rw [h]; rfl
  · rw [h]; rfl
  · have : n = 944 ∨ n = 945 ∨ n = 946 ∨ n = 947 ∨ n = 948 ∨ n = 949 ∨ n = 950 ∨ n = 951 ∨ n = 952 ∨ n = 953 ∨ n = 954 ∨ n = 955 ∨ n = 956 ∨ n = 957 ∨ n = 958 ∨ n = 959 := by omega
    rcases this with rfl | rfl | rfl | rfl | rfl | rfl | rfl | rfl | rfl | rfl | rfl | rfl | rfl | rfl | rfl | rfl <;> rfl
/-- the twin's registers that show what they hold -/
theorem t_def (hn : n < 4096) (hs : n ∉ tSp) (s : Int64) (M : FM) : GX100_shown_15 d (nI n) s M = (fi (thr n ∧ ¬ els n) (ht M d n) (Int64.ofInt 0), M) := by
  have hs' : ∀ (c : Int) (k : Nat), c = (k : Int) → k ∈ tSp → k < 4096 → ¬ nI n = Int32.ofInt c := fun c k e hc hl z => by
    have := (neq hn c ⟨by omega, by omega⟩).mp z
    exact hs (by rw [show n = k by omega]; exact hc)
  unfold GX100_shown_15 GX100_shown_254 GX100_shown_255
  rw [fi_neg (hs' 256 256 rfl (by decide) (by decide)), fi_neg (hs' 260 260 rfl (by decide) (by decide)), fi_neg (hs' 324 324 rfl (by decide) (by decide)), fi_neg (hs' 768 768 rfl (by decide) (by decide)), fi_neg (hs' 769 769 rfl (by decide) (by decide)), fi_neg (hs' 836 836 rfl (by decide) (by decide)), fi_neg (hs' 3072 3072 rfl (by decide) (by decide)), fi_neg (hs' 3073 3073 rfl (by decide) (by decide)), fi_neg (hs' 3074 3074 rfl (by decide) (by decide)), fi_neg (hs' 3860 3860 rfl (by decide) (by decide)), X100_isThere hn]
  dsimp only
  rw [X100_isElsewhere hn]
  dsimp only
  rw [nI_clamp (by omega)]
  by_cases a : thr n
  · rw [fi_neg (fun z => bz_0.mp z a)]
    by_cases b : els n
    · rw [fi_neg (fun z => bz_0.mp z b), fi_neg (fun z => z.2 b)]
    · rw [fi_pos (bz_0.mpr b), fi_pos ⟨a, b⟩]
  · rw [fi_pos (bz_0.mpr a), fi_neg (fun z => a z.1)]
noncomputable def dty (x : Int64) : Int64 := fi (tw x 13 = Int32.ofInt 3) (Int64.ofInt (-9223372036854775808)) (Int64.ofInt 0)
theorem t_shown (M : FM) (a : Int32) : GX100_shown d a M = GX100_shown_15 d a (dty (ht M d 768)) M := by
  unfold GX100_shown GX100_shown_0 dty
  rw [X100_floating]
  dsimp only
  by_cases h : tw (ht M d 768) 13 = Int32.ofInt 3
  · rw [fi_pos h, fi_pos h]
  · rw [fi_neg h, fi_neg h]
theorem t_shownH (hn : n < 4096) (T : Ty Mt) (nd : fm_is Mt 95 95 d = true) : HX100_shown d (nI n) Mt := by
  have hl := (X100_lineBits T nd).1
  have q : ∀ s, HX100_shown_15 d (nI n) s Mt := fun s =>
    ⟨fun _ => ⟨(X100_statusSeen _ Mt T).1, trivial⟩, fun _ => ⟨fun _ => trivial, fun _ => ⟨fun _ => ⟨hl, trivial⟩, fun _ => ⟨fun _ => trivial, fun _ => ⟨fun _ => trivial, fun _ => ⟨fun _ => ⟨hl, trivial⟩, fun _ => ⟨fun _ => trivial, fun _ => ⟨fun _ => trivial, fun _ => ⟨fun _ => trivial, fun _ => ⟨fun _ => trivial, fun _ => by
      rw [X100_isThere hn]
      dsimp only
      refine ⟨fun _ => trivial, fun _ => ?_⟩
      rw [X100_isElsewhere hn]
      exact ⟨fun _ => ⟨h361 T nd (by rw [ui_nI]; omega), trivial⟩, fun _ => trivial⟩⟩⟩⟩⟩⟩⟩⟩⟩⟩⟩
  unfold HX100_shown HX100_shown_0
  rw [X100_floating]
  exact ⟨fun _ => q _, fun _ => q _⟩
/-- the component's registers -/
noncomputable def cSh (x : Nat) (M : FM) : Int64 × FM := fi (fm_is M 13 13 x = true) (GX76_show x M) ((fi (fm_is M 14 14 x = true) (GX77_show x M) ((fi (fm_is M 15 15 x = true) (GX79_show x M) ((fi (fm_is M 16 16 x = true) (GX78_show x M) ((fi (fm_is M 17 17 x = true) (GX77_show x M) ((fi (fm_is M 18 18 x = true) (GX83_show x M) (GX81_show x M)))))))))))
variable {x : Nat} {M : FM}
theorem cSh_13 (h : M.2.2 0 x 0 = 13) : cSh x M = (M.2.1 40 x 0, M) := fi_pos (isT h (by decide) (by decide))
theorem cSh_14 (h : M.2.2 0 x 0 = 14) : cSh x M = (M.2.1 41 x 0, M) := by
  unfold cSh
  rw [fi_neg (isN h (by decide)), fi_pos (isT h (by decide) (by decide))]
  rfl
theorem cSh_15 (h : M.2.2 0 x 0 = 15) : cSh x M = (M.2.1 41 x 0 ||| M.2.1 43 x 0, M) := by
  unfold cSh
  rw [fi_neg (isN h (by decide)), fi_neg (isN h (by decide)), fi_pos (isT h (by decide) (by decide))]
  rfl
theorem c78_show : GX78_show x M = (((M.2.1 41 x 0) ||| Int64.ofInt 42949672960) ||| dty (M.2.1 41 x 0), M) := by
  unfold GX78_show GX78_show_0
  have : GX78_summary x M = (dty (M.2.1 41 x 0), M) := by
    unfold GX78_summary GX78_summary_0 dty
    rw [X78_two (k := 13) rfl (by decide)]
    dsimp only
    by_cases h : tw (M.2.1 41 x 0) 13 = Int32.ofInt 3
    · rw [fi_pos h, fi_pos h]; rfl
    · rw [fi_neg h, fi_neg h]; rfl
  rw [this]
theorem cSh_16 (h : M.2.2 0 x 0 = 16) : cSh x M = (((M.2.1 41 x 0) ||| Int64.ofInt 42949672960) ||| dty (M.2.1 41 x 0), M) := by
  unfold cSh
  rw [fi_neg (isN h (by decide)), fi_neg (isN h (by decide)), fi_neg (isN h (by decide)), fi_pos (isT h (by decide) (by decide))]
  exact c78_show
theorem cSh_17 (h : M.2.2 0 x 0 = 17) : cSh x M = (M.2.1 41 x 0, M) := by
  unfold cSh
  rw [fi_neg (isN h (by decide)), fi_neg (isN h (by decide)), fi_neg (isN h (by decide)), fi_neg (isN h (by decide)), fi_pos (isT h (by decide) (by decide))]
  rfl
theorem cSh_18 (h : M.2.2 0 x 0 = 18) (h2 : M.2.2 0 (M.2.2 44 x 0) 0 = 14) : cSh x M = (M.2.1 41 (M.2.2 44 x 0) 0, M) := by
  unfold cSh
  rw [fi_neg (isN h (by decide)), fi_neg (isN h (by decide)), fi_neg (isN h (by decide)), fi_neg (isN h (by decide)), fi_neg (isN h (by decide)), fi_pos (isT h (by decide) (by decide))]
  unfold GX83_show GX83_show_0
  dsimp only
  rw [fi_neg (isN h2 (by decide)), fi_pos (isT h2 (by decide) (by decide))]
  rfl
/-- a window: what the other one shows, by its class -/
noncomputable def oSh (x : Nat) (M : FM) : Int64 × FM := fi (fm_is M 14 14 x = true) (GX77_show x M) ((fi (fm_is M 15 15 x = true) (GX79_show x M) ((fi (fm_is M 16 16 x = true) (GX78_show x M) (GX77_show x M)))))
theorem cSh_19 (h : M.2.2 0 x 0 = 19) {v w : Int64} (h2 : oSh (M.2.2 45 x 0) M = (v, M)) (h3 : (M.2.2 0 (M.2.2 46 x 0) 0 = 13 ∧ M.2.1 40 (M.2.2 46 x 0) 0 = w) ∨ (M.2.2 0 (M.2.2 46 x 0) 0 = 14 ∧ M.2.1 41 (M.2.2 46 x 0) 0 = w)) : cSh x M = (v &&& (w ||| M.2.1 48 x 0), M) := by
  unfold cSh
  rw [fi_neg (isN h (by decide)), fi_neg (isN h (by decide)), fi_neg (isN h (by decide)), fi_neg (isN h (by decide)), fi_neg (isN h (by decide)), fi_neg (isN h (by decide))]
  unfold GX81_show GX81_show_0
  dsimp only
  unfold oSh at h2
  rw [h2]
  dsimp only
  rcases h3 with ⟨t, e⟩ | ⟨t, e⟩
  · rw [fi_pos (isT t (by decide) (by decide))]
    unfold GX76_show GX76_show_0
    rw [e]
  · rw [fi_neg (isN t (by decide)), fi_pos (isT t (by decide) (by decide))]
    unfold GX77_show GX77_show_0
    rw [e]
end Sh
