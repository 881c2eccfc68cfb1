/-! the law: calls that are refused, the component's side: the exception that is caught -/
set_option maxRecDepth 100000
section Rf
variable {x1 mc bd tp r dd dk np : Nat} {M : FM} {z k : Int32} {a b : Int64} {o : Nat}
theorem no_p : FX1_proper (Int32.ofInt 0) M = none := fi_pos (show (Int32.ofInt 0 : Int32) = 0 from rfl)
theorem ok_p : FX1_proper (Int32.ofInt 1) M = some M := fi_neg (show ¬ (Int32.ofInt 1 : Int32) = 0 by decide)
theorem no_t : FX1_there (Int32.ofInt 0) M = none := fi_pos (show (Int32.ofInt 0 : Int32) = 0 from rfl)
theorem ok_t : FX1_there (Int32.ofInt 1) M = some M := fi_neg (show ¬ (Int32.ofInt 1 : Int32) = 0 by decide)
theorem th_p : TX1_proper fN (Int32.ofInt 0) M = some (102, fm_exc M) := fi_pos (show (Int32.ofInt 0 : Int32) = 0 from rfl)
theorem th_t : TX1_there fN (Int32.ofInt 0) M = some (104, fm_exc M) := fi_pos (show (Int32.ofInt 0 : Int32) = 0 from rfl)
theorem nh_p : TX1_proper fN (Int32.ofInt 1) M = none := fi_neg (show ¬ (Int32.ofInt 1 : Int32) = 0 by decide)
theorem or_so {α : Type} {x : α} {y : Option α} : (some x).or y = some x := rfl
theorem or_n {α : Type} {y : Option α} : (none : Option α).or y = y := rfl
theorem bi_n {α β : Type} {g : α → Option β} : (none : Option α).bind g = none := rfl
theorem bi_s {α β : Type} {x : α} {g : α → Option β} : (some x).bind g = g x := rfl
/-- no such processor -/
theorem at_no (C : CmpI x1 mc bd tp r dd dk np M) (hn : np ≤ 4) (hz : z < 0 ∨ nI np ≤ z) : FX1_at x1 z M = none ∧ TX1_at fN x1 z M = some (104, fm_exc M) := by
  obtain ⟨⟨n10, e17⟩, ⟨n67, e189, e191, n922, ln, eln⟩, _⟩ := C
  have n9 : fm_is M 901 990 (M.2.2 190 mc 0) = true := fm_w rfl rfl n922
  constructor
  · unfold FX1_at FX1_at_0 BX1_at_0 FX1_at_20 BX1_at_20 FX1_at_21 BX1_at_21
    try dsimp only
    by_cases c : z < 0
    · rw [fi_pos c, no_t]
      rfl
    · rw [fi_neg c, fi_pos n10, e17, fi_pos n67, fi_pos n9, eln, fi_pos (hz.resolve_left c), no_t]
      rfl
  · unfold TX1_at
    try dsimp only
    by_cases c : z < 0
    · rw [fi_pos c, th_t]
      rfl
    · rw [fi_neg c, fi_pos n10, e17, fi_pos n67, fi_pos n9, eln, fi_pos (hz.resolve_left c), th_t]
      rfl
theorem at_ok {h : Nat} (C : CmpI x1 mc bd tp r dd dk np M) (hn : np ≤ 4) (hh : h < np) : FX1_at x1 (nI h) M = some (M.2.2 3 (M.2.2 190 mc 0) h, M) ∧ TX1_at fN x1 (nI h) M = none := by
  obtain ⟨⟨n10, e17⟩, ⟨n67, e189, e191, n922, ln, eln⟩, _⟩ := C
  have n9 : fm_is M 901 990 (M.2.2 190 mc 0) = true := fm_w rfl rfl n922
  have n91 : fm_is M 910 990 (M.2.2 190 mc 0) = true := fm_w rfl rfl n922
  have c : ¬ nI h < 0 := nI0 (by omega)
  have c2 : ¬ nI np ≤ nI h := fun q => by have := (n_le (by omega) (by omega)).mp q; omega
  have hin : fm_in M (M.2.2 190 mc 0) (nI h) = true := in_nI ln hh (by omega)
  constructor
  · unfold FX1_at FX1_at_0 BX1_at_0 FX1_at_21 BX1_at_21
    try dsimp only
    rw [fi_neg c, fi_pos n10, e17, fi_pos n67, fi_pos n9, eln, fi_neg c2, ok_t, bi_s, fi_pos n10, e17, fi_pos n67, fi_pos ⟨n91, hin⟩, o_cl (by omega)]
  · unfold TX1_at TX1_there
    try dsimp only
    rw [fi_neg c, fi_pos n10, e17, fi_pos n67, fi_pos n9, eln, fi_neg c2, fi_neg (show ¬ (Int32.ofInt 1 : Int32) = 0 by decide), or_n, ok_t]
    rfl
theorem rf_end (C : CmpI x1 mc bd tp r dd dk np M) (hz : z < 0 ∨ M.1 262 tp 0 < z) : Fh_law_end fN x1 z M = some (Int32.ofInt 1, fm_exc M) := by
  obtain ⟨⟨n10, e17⟩, ⟨n67, e189, e191, n922, ln, eln⟩, _, n73, n86, _⟩ := C
  have e1 : FX1_end x1 z M = none := by
    unfold FX1_end FX1_end_0 BX1_end_0 FX1_end_22 BX1_end_22 FX1_end_23 BX1_end_23
    try dsimp only
    by_cases c : z < 0
    · rw [fi_pos c, no_p]
      rfl
    · rw [fi_neg c, fi_pos n10, e17, fi_pos n67, e191, fi_pos n86, fi_pos (hz.resolve_left c), no_p]
      rfl
  have e2 : TX1_end fN x1 z M = some (102, fm_exc M) := by
    unfold TX1_end
    try dsimp only
    by_cases c : z < 0
    · rw [fi_pos c, th_p]
      rfl
    · rw [fi_neg c, fi_pos n10, e17, fi_pos n67, e191, fi_pos n86, fi_pos (hz.resolve_left c), th_p]
      rfl
  unfold Fh_law_end FX0_end FX0_end_0 BX0_end_0
  rw [fi_pos n10, e1, e2, bi_n, or_n, bi_s]
  exact fi_pos rfl
theorem rf_run (C : CmpI x1 mc bd tp r dd dk np M) (hz : z < 0 ∨ ¬ z ≤ Int32.ofInt 10000) : Fh_law_run fN x1 z o M = some (Int32.ofInt 1, fm_exc M) := by
  obtain ⟨⟨n10, e17⟩, _⟩ := C
  have hz' : ¬ z < 0 → Int32.ofInt 10000 < z := fun c => by
    have := hz.resolve_left c
    rw [le_ti] at this
    rw [lt_ti]
    omega
  have e1 : FX1_run fN x1 z M = none := by
    unfold FX1_run FX1_run_0 BX1_run_0 FX1_run_15 BX1_run_15 FX1_run_16 BX1_run_16
    try dsimp only
    by_cases c : z < 0
    · rw [fi_pos c, no_p]
      rfl
    · rw [fi_neg c, fi_pos (hz' c), no_p]
      rfl
  have e2 : TX1_run fN x1 z M = some (102, fm_exc M) := by
    unfold TX1_run
    try dsimp only
    by_cases c : z < 0
    · rw [fi_pos c, th_p]
      rfl
    · rw [fi_neg c, fi_pos (hz' c), th_p]
      rfl
  unfold Fh_law_run FX0_run FX0_run_0 BX0_run_0
  rw [fi_pos n10, e1, e2, bi_n, or_n, bi_s]
  exact fi_pos rfl
theorem rf_counter (C : CmpI x1 mc bd tp r dd dk np M) (hn : np ≤ 4) (hz : z < 0 ∨ nI np ≤ z) : Fh_law_counter fN x1 z o M = some (Int32.ofInt 1, fm_exc M) := by
  obtain ⟨a1, a2⟩ := at_no C hn hz
  have n10 := C.1.1
  have e1 : FX1_counter x1 z M = none := by
    unfold FX1_counter FX1_counter_0 BX1_counter_0
    rw [fi_pos n10, a1]
    rfl
  have e2 : TX1_counter fN x1 z M = some (104, fm_exc M) := by
    unfold TX1_counter
    rw [fi_pos n10, a2]
    rfl
  unfold Fh_law_counter FX0_counter FX0_counter_0 BX0_counter_0
  rw [fi_pos n10, e1, e2, bi_n, or_n, bi_s]
  exact fi_pos rfl
theorem rf_mode (C : CmpI x1 mc bd tp r dd dk np M) (hn : np ≤ 4) (hz : z < 0 ∨ nI np ≤ z) : Fh_law_mode fN x1 z o M = some (Int32.ofInt 1, fm_exc M) := by
  obtain ⟨a1, a2⟩ := at_no C hn hz
  have n10 := C.1.1
  have e1 : FX1_mode x1 z M = none := by
    unfold FX1_mode FX1_mode_0 BX1_mode_0
    rw [fi_pos n10, a1]
    rfl
  have e2 : TX1_mode fN x1 z M = some (104, fm_exc M) := by
    unfold TX1_mode
    rw [fi_pos n10, a2]
    rfl
  unfold Fh_law_mode FX0_mode FX0_mode_0 BX0_mode_0
  rw [fi_pos n10, e1, e2, bi_n, or_n, bi_s]
  exact fi_pos rfl
theorem rf_control (C : CmpI x1 mc bd tp r dd dk np M) (hn : np ≤ 4) (hz : z < 0 ∨ nI np ≤ z) : Fh_law_control fN x1 z k o M = some (Int32.ofInt 1, fm_exc M) := by
  obtain ⟨a1, a2⟩ := at_no C hn hz
  have n10 := C.1.1
  have e1 : FX1_control fN x1 z k M = none := by
    unfold FX1_control FX1_control_0 BX1_control_0
    rw [fi_pos n10, a1]
    rfl
  have e2 : TX1_control fN x1 z k M = some (104, fm_exc M) := by
    unfold TX1_control
    rw [fi_pos n10, a2]
    rfl
  unfold Fh_law_control FX0_control FX0_control_0 BX0_control_0
  rw [fi_pos n10, e1, e2, bi_n, or_n, bi_s]
  exact fi_pos rfl
/-- a processor, or one of its registers, isn't there -/
theorem rf_register (C : CmpI x1 mc bd tp r dd dk np M) (hn : np ≤ 4) (hz : (z < 0 ∨ nI np ≤ z) ∨ ((∃ h, h < np ∧ z = nI h) ∧ (k < 0 ∨ Int32.ofInt 32 ≤ k))) : Fh_law_register fN x1 z k o M = some (Int32.ofInt 1, fm_exc M) := by
  have n10 := C.1.1
  have key : FX1_register x1 z k M = none ∧ TX1_register fN x1 z k M = some (104, fm_exc M) := by
    rcases hz with hz | ⟨⟨h, hh, rfl⟩, hk⟩
    · obtain ⟨a1, a2⟩ := at_no C hn hz
      unfold FX1_register FX1_register_0 BX1_register_0 TX1_register
      rw [fi_pos n10, fi_pos n10, a1, a2]
      exact ⟨rfl, rfl⟩
    · obtain ⟨a1, a2⟩ := at_ok C hn hh
      unfold FX1_register FX1_register_0 BX1_register_0 TX1_register FX1_register_20 BX1_register_20 FX1_register_21 BX1_register_21
      rw [fi_pos n10, fi_pos n10, a1, a2, bi_s, or_n, bi_s]
      try dsimp only
      by_cases c : k < 0
      · rw [fi_pos c, fi_pos c, no_t, th_t]
        exact ⟨rfl, rfl⟩
      · rw [fi_neg c, fi_neg c, fi_pos (hk.resolve_left c), fi_pos (hk.resolve_left c), no_t, th_t]
        exact ⟨rfl, rfl⟩
  unfold Fh_law_register FX0_register FX0_register_0 BX0_register_0
  rw [fi_pos n10, key.1, key.2, bi_n, or_n, bi_s]
  exact fi_pos rfl
theorem rf_floating (C : CmpI x1 mc bd tp r dd dk np M) (hn : np ≤ 4) (hz : (z < 0 ∨ nI np ≤ z) ∨ ((∃ h, h < np ∧ z = nI h) ∧ (k < 0 ∨ Int32.ofInt 32 ≤ k))) : Fh_law_floating fN x1 z k o M = some (Int32.ofInt 1, fm_exc M) := by
  have n10 := C.1.1
  have key : FX1_floating x1 z k M = none ∧ TX1_floating fN x1 z k M = some (104, fm_exc M) := by
    rcases hz with hz | ⟨⟨h, hh, rfl⟩, hk⟩
    · obtain ⟨a1, a2⟩ := at_no C hn hz
      unfold FX1_floating FX1_floating_0 BX1_floating_0 TX1_floating
      rw [fi_pos n10, fi_pos n10, a1, a2]
      exact ⟨rfl, rfl⟩
    · obtain ⟨a1, a2⟩ := at_ok C hn hh
      unfold FX1_floating FX1_floating_0 BX1_floating_0 TX1_floating FX1_floating_20 BX1_floating_20 FX1_floating_21 BX1_floating_21
      rw [fi_pos n10, fi_pos n10, a1, a2, bi_s, or_n, bi_s]
      try dsimp only
      by_cases c : k < 0
      · rw [fi_pos c, fi_pos c, no_t, th_t]
        exact ⟨rfl, rfl⟩
      · rw [fi_neg c, fi_neg c, fi_pos (hk.resolve_left c), fi_pos (hk.resolve_left c), no_t, th_t]
        exact ⟨rfl, rfl⟩
  unfold Fh_law_floating FX0_floating FX0_floating_0 BX0_floating_0
  rw [fi_pos n10, key.1, key.2, bi_n, or_n, bi_s]
  exact fi_pos rfl
theorem rf_disk (T : Ty M) (C : CmpI x1 mc bd tp r dd dk np M) (hp : GX23_isPlace dk z M = (Int32.ofInt 0, M)) : Fh_law_disk fN x1 z o M = some (Int32.ofInt 1, fm_exc M) := by
  obtain ⟨⟨n10, e17⟩, ⟨n67, e189, e191, n922, ln, eln⟩, ⟨n11, e18, e20⟩, n73, n86, ⟨n22, e59⟩, n23⟩ := C
  have g := (gX23_isPlace dk z M T n23).1
  rw [hp] at g
  have key : FX1_disk x1 z M = none ∧ TX1_disk fN x1 z M = some (104, fm_exc M) := by
    unfold FX1_disk FX1_disk_0 BX1_disk_0 TX1_disk
    try dsimp only
    rw [fi_pos n10, fi_pos n10, e17, fi_pos n67, fi_pos n67, e189, fi_pos n11, fi_pos n11, e20, fi_pos n22, fi_pos n22, e59, fi_pos n23, fi_pos n23, g, bi_s, bi_s]
    try dsimp only
    rw [no_t, th_t]
    exact ⟨rfl, rfl⟩
  unfold Fh_law_disk FX0_disk FX0_disk_0 BX0_disk_0
  rw [fi_pos n10, key.1, key.2, bi_n, or_n, bi_s]
  exact fi_pos rfl
theorem rf_word (T : Ty M) (C : CmpI x1 mc bd tp r dd dk np M) (hp : GX11_has r a (Int64.ofInt 8) M = (Int32.ofInt 0, M)) : Fh_law_word fN x1 a o M = some (Int32.ofInt 1, fm_exc M) := by
  obtain ⟨⟨n10, e17⟩, ⟨n67, e189, e191, n922, ln, eln⟩, ⟨n11, e18, e20⟩, n73, n86, ⟨n22, e59⟩, n23⟩ := C
  have g := (gX11_has r a (Int64.ofInt 8) M T n73).1
  rw [hp] at g
  have key : FX1_word x1 a M = none ∧ TX1_word fN x1 a M = some (104, fm_exc M) := by
    unfold FX1_word FX1_word_0 BX1_word_0 TX1_word
    try dsimp only
    rw [fi_pos n10, fi_pos n10, e17, fi_pos n67, fi_pos n67, e189, fi_pos n11, fi_pos n11, e18, fi_pos n73, fi_pos n73, g, bi_s, bi_s]
    try dsimp only
    rw [no_t, th_t]
    exact ⟨rfl, rfl⟩
  unfold Fh_law_word FX0_word FX0_word_0 BX0_word_0
  rw [fi_pos n10, key.1, key.2, bi_n, or_n, bi_s]
  exact fi_pos rfl
theorem rf_feed {e1 e2 e3 e4 e5 : Int32} (C : CmpI x1 mc bd tp r dd dk np M) (hp : ¬ M.1 262 tp 0 + Int32.ofInt 20 ≤ Int32.ofInt 65536) : Fh_law_feed fN x1 e1 e2 e3 e4 e5 o M = some (Int32.ofInt 1, fm_exc M) := by
  obtain ⟨⟨n10, e17⟩, ⟨n67, e189, e191, n922, ln, eln⟩, ⟨n11, e18, e20⟩, n73, n86, _⟩ := C
  have key : FX1_feed fN x1 e1 e2 e3 e4 e5 M = none ∧ TX1_feed fN x1 e1 e2 e3 e4 e5 M = some (103, fm_exc M) := by
    unfold FX1_feed FX1_feed_0 BX1_feed_0 TX1_feed
    try dsimp only
    rw [fi_pos n10, fi_pos n10, e17, fi_pos n67, fi_pos n67, e191, fi_pos n86, fi_pos n86, fi_neg hp, fi_neg hp, fi_pos n10, fi_pos n67, fi_pos n86]
    exact ⟨rfl, rfl⟩
  unfold Fh_law_feed FX0_feed FX0_feed_0 BX0_feed_0
  rw [fi_pos n10, key.1, key.2, bi_n, or_n, bi_s]
  exact fi_pos rfl
theorem cl_3 {x y : Int64} : 0 ≤ lg_cmp x y ↔ ¬ lg_cmp x y < 0 := by rw [cl_ge, cl_lt]; omega
theorem rf_sum1 (C : CmpI x1 mc bd tp r dd dk np M) (hp : ¬ sumP a b) : Fh_law_sum fN x1 a b o M = some (Int32.ofInt 1, fm_exc M) := by
  have n10 := C.1.1
  have key : FX1_sum fN x1 a b M = none ∧ TX1_sum fN x1 a b M = some (102, fm_exc M) := by
    unfold FX1_sum FX1_sum_0 BX1_sum_0 TX1_sum FX1_sum_28 BX1_sum_28 FX1_sum_29 BX1_sum_29
    try dsimp only
    by_cases c1 : lg_cmp b a < 0
    · rw [fi_pos c1, fi_pos c1, no_p, th_p]
      exact ⟨rfl, rfl⟩
    · rw [fi_neg c1, fi_neg c1]
      by_cases c2 : lg_cmp (b - a) (Int64.ofInt 0) < 0
      · rw [fi_pos c2, fi_pos c2, no_p, th_p]
        exact ⟨rfl, rfl⟩
      · rw [fi_neg c2, fi_neg c2]
        have c3 : 0 < lg_cmp (b - a) (Int64.ofInt 65536) := Classical.byContradiction fun c3 => hp ⟨c1, c2, c3⟩
        rw [fi_pos c3, fi_pos c3, no_p, th_p]
        exact ⟨rfl, rfl⟩
  unfold Fh_law_sum FX0_sum FX0_sum_0 BX0_sum_0
  rw [fi_pos n10, key.1, key.2, bi_n, or_n, bi_s]
  exact fi_pos rfl
theorem rf_sum2 (T : Ty M) (C : CmpI x1 mc bd tp r dd dk np M) (hp : sumP a b) (hne : ¬ b = a) (hr : GX11_has r a (b - a) M = (Int32.ofInt 0, M)) : Fh_law_sum fN x1 a b o M = some (Int32.ofInt 2, fm_exc M) := by
  obtain ⟨⟨n10, e17⟩, ⟨n67, e189, e191, n922, ln, eln⟩, ⟨n11, e18, e20⟩, n73, n86, _⟩ := C
  obtain ⟨c1, c2, c3⟩ := hp
  have g := (gX11_has r a (b - a) M T n73).1
  rw [hr] at g
  have c0 : ¬ lg_cmp b a = 0 := fun q => hne (ul_inj (cl_eq.mp q))
  have z0 : (Int32.ofInt 0 : Int32) = 0 := rfl
  have key : FX1_sum fN x1 a b M = none ∧ TX1_sum fN x1 a b M = some (104, fm_exc M) := by
    unfold FX1_sum FX1_sum_0 BX1_sum_0 TX1_sum FX1_sum_29 BX1_sum_29 FX1_sum_63 BX1_sum_63
    try dsimp only
    rw [fi_neg c1, fi_neg c1, fi_neg c2, fi_neg c2, fi_neg c3, fi_neg c3, ok_p, nh_p, bi_s, bi_s, or_n, fi_neg c0, fi_neg c0, fi_pos n10, fi_pos n10, e17, fi_pos n67, fi_pos n67, e189, fi_pos n11, fi_pos n11, e18, fi_pos n73, fi_pos n73, g, bi_s, bi_s]
    try dsimp only
    rw [fi_pos z0, fi_pos z0, no_t, th_t]
    exact ⟨rfl, rfl⟩
  unfold Fh_law_sum FX0_sum FX0_sum_0 BX0_sum_0
  rw [fi_pos n10, key.1, key.2, bi_n, or_n, bi_s]
  exact (fi_neg (show ¬ (104 : Nat) = 102 by decide)).trans (fi_pos rfl)
/-- what the component asks before it writes sectors is what the twin asks -/
theorem sc_c {n : Nat} (h0 : ¬ lg_cmp a (Int64.ofInt 0) < 0) (h1 : ¬ 0 ≤ lg_cmp a (Int64.ofInt 2048)) (hn : n ≤ 65536) (h2 : ¬ 0 < lg_cmp (nI n).toInt64 ((Int64.ofInt 512) * ((Int64.ofInt 2048) - a))) : scP a n := by
  rw [o_64 (by omega)] at h2
  have u := ul_lt a
  rw [cl_lt, tl a, show (Int64.ofInt 0).toInt = 0 from rfl] at h0
  rw [cl_ge, tl a, show (Int64.ofInt 2048).toInt = 2048 from rfl] at h1
  have ua : ul a < 2048 := by
    split at h0 <;> split at h1 <;> omega
  have e1 : ul ((Int64.ofInt 512) * ((Int64.ofInt 2048) - a)) = 512 * (2048 - ul a) := by
    rw [ul_mul, ul_sub, show ul (Int64.ofInt 512) = 512 from rfl, show ul (Int64.ofInt 2048) = 2048 from rfl]
    omega
  rw [cl_gt, tl, tl, e1, ul_lN] at h2
  have h3 : n ≤ 512 * (2048 - ul a) := by
    split at h2 <;> split at h2 <;> omega
  refine ⟨?_, ?_, ?_⟩
  · rw [cl_lt, tl a, show (Int64.ofInt 0).toInt = 0 from rfl]
    split <;> omega
  · rw [cl_gt, tl a, show (Int64.ofInt 2048).toInt = 2048 from rfl]
    split <;> omega
  · have e2 : ul ((Int64.ofInt 512) * a + lN n) = 512 * ul a + n := by
      rw [ul_add, ul_mul, ul_lN, show ul (Int64.ofInt 512) = 512 from rfl]
      omega
    rw [cl_gt, tl ((Int64.ofInt 512) * a + lN n), e2, show (Int64.ofInt 1048576).toInt = 1048576 from rfl]
    split <;> omega
theorem rf_load1 (C : CmpI x1 mc bd tp r dd dk np M) (hz : z < 0 ∨ ¬ z ≤ Int32.ofInt 3) : Fh_law_load fN x1 z a o M = some (Int32.ofInt 1, fm_exc M) := by
  obtain ⟨⟨n10, e17⟩, ⟨n67, e189, e191, n922, ln, eln⟩, ⟨n11, e18, e20⟩, n73, n86, _⟩ := C
  have w : ∀ j : Int32, (j = Int32.ofInt 0 ∨ j = Int32.ofInt 1 ∨ j = Int32.ofInt 2 ∨ j = Int32.ofInt 3) → ¬ z = j := fun j hj e => by
    subst e
    rcases hj with rfl | rfl | rfl | rfl <;> rcases hz with y | y <;> first | exact absurd y (by decide) | exact y (by decide)
  have key : FX1_load fN x1 z a M = none ∧ TX1_load fN x1 z a M = some (102, fm_exc M) := by
    unfold FX1_load FX1_load_0 BX1_load_0 TX1_load
    try dsimp only
    rw [fi_pos n10, fi_pos n10, e17, fi_pos n67, fi_pos n67, e191, fi_pos n86, fi_pos n86, fi_neg (w _ (Or.inl rfl)), fi_neg (w _ (Or.inl rfl)), fi_neg (w _ (Or.inr (Or.inl rfl))), fi_neg (w _ (Or.inr (Or.inl rfl))), fi_neg (w _ (Or.inr (Or.inr (Or.inl rfl)))), fi_neg (w _ (Or.inr (Or.inr (Or.inl rfl)))), fi_neg (w _ (Or.inr (Or.inr (Or.inr rfl)))), fi_neg (w _ (Or.inr (Or.inr (Or.inr rfl)))), fi_pos n10, fi_pos n67]
    exact ⟨rfl, rfl⟩
  unfold Fh_law_load FX0_load FX0_load_0 BX0_load_0
  rw [fi_pos n10, key.1, key.2, bi_n, or_n, bi_s]
  exact fi_pos rfl
theorem rf_load2 {n : Nat} (T : Ty M) (h202 : M.1 202 r 0 = Int32.ofInt 1024) (C : CmpI x1 mc bd tp r dd dk np M) (h262 : M.1 262 tp 0 = nI n) (hn : n ≤ 65536) (hz : ldBad z a n) : Fh_law_load fN x1 z a o M = some (Int32.ofInt 2, fm_exc M) := by
  obtain ⟨⟨n10, e17⟩, ⟨n67, e189, e191, n922, ln, eln⟩, ⟨n11, e18, e20⟩, n73, n86, _⟩ := C
  obtain ⟨hn0, hz⟩ := hz
  have x0 : ¬ nI n = 0 := fun q => by
    have h : ui (nI n) = ui (0 : Int32) := congrArg ui q
    rw [ui_nI, show ui (0 : Int32) = 0 from rfl] at h
    omega
  have z0 : (Int32.ofInt 0 : Int32) = 0 := rfl
  have key : FX1_load fN x1 z a M = none ∧ TX1_load fN x1 z a M = some (104, fm_exc M) := by
    unfold FX1_load FX1_load_0 BX1_load_0 TX1_load
    try dsimp only
    rw [fi_pos n10, fi_pos n10, e17, fi_pos n67, fi_pos n67, e191, fi_pos n86, fi_pos n86, h262]
    rcases hz with ⟨rfl, hr⟩ | ⟨rfl, hs⟩
    · have g := (gX11_has r a (nI n).toInt64 M T n73).1
      have e64 : (nI n).toInt64 = lN n := o_64 (by omega)
      have un : ul (lN n) = n := by rw [ul_lN]; omega
      rw [e64, X11_has h202 (by rw [un]; omega), un, bz_f hr, ← e64] at g
      rw [fi_pos (show (0 : Int32) = Int32.ofInt 0 from rfl), fi_pos (show (0 : Int32) = Int32.ofInt 0 from rfl), fi_neg x0, fi_neg x0, e189, fi_pos n11, fi_pos n11, e18, fi_pos n73, fi_pos n73, g, bi_s, bi_s]
      try dsimp only
      rw [fi_pos z0, fi_pos z0, th_t]
      unfold FX1_load_74 BX1_load_74
      rw [no_t, fi_pos n10, fi_pos n67, fi_pos n10, fi_pos n67]
      exact ⟨rfl, rfl⟩
    · have d20 : ¬ Int32.ofInt 2 = Int32.ofInt 0 := by decide
      have d21 : ¬ Int32.ofInt 2 = Int32.ofInt 1 := by decide
      have d22 : Int32.ofInt 2 = Int32.ofInt 2 := rfl
      rw [fi_pos n10, fi_pos n67, fi_neg d20, fi_neg d20, fi_neg d21, fi_neg d21, fi_pos d22, fi_neg x0, fi_neg x0]
      unfold FX1_load_133 BX1_load_133 FX1_load_134 BX1_load_134
      by_cases c1 : lg_cmp a (Int64.ofInt 0) < 0
      · rw [fi_pos c1, fi_pos c1, no_t, th_t, fi_pos n10, fi_pos n67, fi_pos d22]
        exact ⟨rfl, rfl⟩
      · rw [fi_neg c1, fi_neg c1]
        by_cases c2 : 0 ≤ lg_cmp a (Int64.ofInt 2048)
        · rw [fi_pos c2, fi_pos c2, no_t, th_t, fi_pos n10, fi_pos n67, fi_pos d22]
          exact ⟨rfl, rfl⟩
        · rw [fi_neg c2, fi_neg c2]
          have c3 : 0 < lg_cmp (nI n).toInt64 ((Int64.ofInt 512) * ((Int64.ofInt 2048) - a)) := Classical.byContradiction fun c3 => hs (sc_c c1 c2 hn c3)
          rw [fi_pos c3, fi_pos c3, no_t, th_t, fi_pos n10, fi_pos n67, fi_pos d22]
          exact ⟨rfl, rfl⟩
  unfold Fh_law_load FX0_load FX0_load_0 BX0_load_0
  rw [fi_pos n10, key.1, key.2, bi_n, or_n, bi_s]
  exact (fi_neg (show ¬ (104 : Nat) = 102 by decide)).trans (fi_pos rfl)
end Rf
