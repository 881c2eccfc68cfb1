/-! the law: what is refused of one processor -/
set_option maxRecDepth 100000
section Zn
variable {bd hv m hq s dd x dk q rq r sg bl cr np mc : Nat} {B Bk Vv ld x1 h : Nat} {N : FM} {z y : Int32}
theorem Z_counter0 (Z1 : RelZ bd hv m hq s dd x dk q rq r sg bl cr np mc ld x1 B Bk Vv N) (hz : z < 0 ∨ nI np ≤ z) : ∃ Nt, (HX92_counter m z N ∧ GX92_counter m z N = (Int64.ofInt 0, Nt)) ∧ Nt.1 296 m 0 = Int32.ofInt 1 ∧ RelZ bd hv m hq s dd x dk q rq r sg bl cr np mc ld x1 B Bk Vv Nt := by
  have e := O_none Z1.1 hz
  have i10 : ¬ Int32.ofInt 1 = (0 : Int32) := by decide
  refine ⟨_, ⟨?_, ?_⟩, rIe _, Z_296 Z1 (Int32.ofInt 1)⟩
  · unfold HX92_counter HX92_counter_0
    try dsimp only
    rw [e]
    exact ⟨fun q => absurd q i10, fun _ => trivial⟩
  · unfold GX92_counter GX92_counter_0 GX92_counter_21
    try dsimp only
    rw [e]
    try dsimp only
    rw [fi_neg i10]
theorem Z_mode0 (Z1 : RelZ bd hv m hq s dd x dk q rq r sg bl cr np mc ld x1 B Bk Vv N) (hz : z < 0 ∨ nI np ≤ z) : ∃ Nt, (HX92_mode m z N ∧ GX92_mode m z N = (Int32.ofInt 0, Nt)) ∧ Nt.1 296 m 0 = Int32.ofInt 1 ∧ RelZ bd hv m hq s dd x dk q rq r sg bl cr np mc ld x1 B Bk Vv Nt := by
  have e := O_none Z1.1 hz
  have i10 : ¬ Int32.ofInt 1 = (0 : Int32) := by decide
  refine ⟨_, ⟨?_, ?_⟩, rIe _, Z_296 Z1 (Int32.ofInt 1)⟩
  · unfold HX92_mode HX92_mode_0
    try dsimp only
    rw [e]
    exact ⟨fun q => absurd q i10, fun _ => trivial⟩
  · unfold GX92_mode GX92_mode_0 GX92_mode_36
    try dsimp only
    rw [e]
    try dsimp only
    rw [fi_neg i10]
theorem Z_control0 (Z1 : RelZ bd hv m hq s dd x dk q rq r sg bl cr np mc ld x1 B Bk Vv N) (hz : z < 0 ∨ nI np ≤ z) : ∃ Nt, (HX92_control m z y N ∧ GX92_control m z y N = (Int64.ofInt 0, Nt)) ∧ Nt.1 296 m 0 = Int32.ofInt 1 ∧ RelZ bd hv m hq s dd x dk q rq r sg bl cr np mc ld x1 B Bk Vv Nt := by
  have e := O_none Z1.1 hz
  have i10 : ¬ Int32.ofInt 1 = (0 : Int32) := by decide
  refine ⟨_, ⟨?_, ?_⟩, rIe _, Z_296 Z1 (Int32.ofInt 1)⟩
  · unfold HX92_control HX92_control_0
    try dsimp only
    rw [e]
    exact ⟨fun q => absurd q i10, fun _ => trivial⟩
  · unfold GX92_control GX92_control_0
    try dsimp only
    rw [e]
    try dsimp only
    rw [fi_neg i10]
theorem Z_register0 (Z1 : RelZ bd hv m hq s dd x dk q rq r sg bl cr np mc ld x1 B Bk Vv N) (hz : z < 0 ∨ nI np ≤ z ∨ y < 0 ∨ ¬ y ≤ Int32.ofInt 31) : ∃ Nt, (HX92_register m z y N ∧ GX92_register m z y N = (Int64.ofInt 0, Nt)) ∧ Nt.1 296 m 0 = Int32.ofInt 1 ∧ RelZ bd hv m hq s dd x dk q rq r sg bl cr np mc ld x1 B Bk Vv Nt := by
  have n297 := Z1.1.2.2.2.2.1
  have q0 : ¬ (fm_sI N 296 m 0 (Int32.ofInt 1)).1 296 m 0 ≤ 0 := by rw [rIe]; decide
  have h23 : HX92_register_23 m z y m N := by
    unfold HX92_register_23 HX92_register_28
    try dsimp only
    exact ⟨fun q => absurd q q0, fun _ => trivial⟩
  have g23 : GX92_register_23 m z y m N = (Int64.ofInt 0, fm_sI N 296 m 0 (Int32.ofInt 1)) := by
    unfold GX92_register_23 GX92_register_28 GX92_register_52
    try dsimp only
    rw [fi_neg q0]
  refine ⟨_, ⟨?_, ?_⟩, rIe _, Z_296 Z1 (Int32.ofInt 1)⟩
  · unfold HX92_register HX92_register_0
    try dsimp only
    rw [n297]
    refine ⟨fun _ => h23, fun a => ⟨fun _ => h23, fun b => ⟨fun _ => h23, fun c => ⟨fun d => ?_, fun _ => h23⟩⟩⟩⟩
    rcases hz with q | q | q | q
    · exact absurd q a
    · exact absurd q b
    · exact absurd q c
    · exact absurd d q
  · unfold GX92_register GX92_register_0
    try dsimp only
    rw [n297]
    by_cases a : z < 0
    · rw [fi_pos a, g23]
    rw [fi_neg a]
    by_cases b : nI np ≤ z
    · rw [fi_pos b, g23]
    rw [fi_neg b]
    by_cases c : y < 0
    · rw [fi_pos c, g23]
    rw [fi_neg c]
    by_cases d : y ≤ Int32.ofInt 31
    · rcases hz with q | q | q | q
      · exact absurd q a
      · exact absurd q b
      · exact absurd q c
      · exact absurd d q
    · rw [fi_neg d, g23]
theorem Z_floating0 (Z1 : RelZ bd hv m hq s dd x dk q rq r sg bl cr np mc ld x1 B Bk Vv N) (hz : z < 0 ∨ nI np ≤ z ∨ y < 0 ∨ ¬ y ≤ Int32.ofInt 31) : ∃ Nt, (HX92_floating_2 m z y N ∧ GX92_floating_2 m z y N = (Int64.ofInt 0, Nt)) ∧ Nt.1 296 m 0 = Int32.ofInt 1 ∧ RelZ bd hv m hq s dd x dk q rq r sg bl cr np mc ld x1 B Bk Vv Nt := by
  have n297 := Z1.1.2.2.2.2.1
  have q0 : ¬ (fm_sI N 296 m 0 (Int32.ofInt 1)).1 296 m 0 ≤ 0 := by rw [rIe]; decide
  have h23 : HX92_floating_2_23 m z y m N := by
    unfold HX92_floating_2_23 HX92_floating_2_28
    try dsimp only
    exact ⟨fun q => absurd q q0, fun _ => trivial⟩
  have g23 : GX92_floating_2_23 m z y m N = (Int64.ofInt 0, fm_sI N 296 m 0 (Int32.ofInt 1)) := by
    unfold GX92_floating_2_23 GX92_floating_2_28 GX92_floating_2_52
    try dsimp only
    rw [fi_neg q0]
  refine ⟨_, ⟨?_, ?_⟩, rIe _, Z_296 Z1 (Int32.ofInt 1)⟩
  · unfold HX92_floating_2 HX92_floating_2_0
    try dsimp only
    rw [n297]
    refine ⟨fun _ => h23, fun a => ⟨fun _ => h23, fun b => ⟨fun _ => h23, fun c => ⟨fun d => ?_, fun _ => h23⟩⟩⟩⟩
    rcases hz with q | q | q | q
    · exact absurd q a
    · exact absurd q b
    · exact absurd q c
    · exact absurd d q
  · unfold GX92_floating_2 GX92_floating_2_0
    try dsimp only
    rw [n297]
    by_cases a : z < 0
    · rw [fi_pos a, g23]
    rw [fi_neg a]
    by_cases b : nI np ≤ z
    · rw [fi_pos b, g23]
    rw [fi_neg b]
    by_cases c : y < 0
    · rw [fi_pos c, g23]
    rw [fi_neg c]
    by_cases d : y ≤ Int32.ofInt 31
    · rcases hz with q | q | q | q
      · exact absurd q a
      · exact absurd q b
      · exact absurd q c
      · exact absurd d q
    · rw [fi_neg d, g23]
end Zn
