/-! the law: each case of its switch, both sides alike -/
set_option maxRecDepth 100000
section Ca
variable {bd hv m hq s dd x dk q rq r sg bl cr np mc ld x1 o s0 ln c i : Nat} {sc : Nat → Int32} {M : FM} {k33 : Nat → Nat → Nat → Nat → Int32 → FM → Option (Int32 × FM)}
/-- calls without exceptions -/
def OpN (bd hv m hq s dd x dk q rq r sg bl cr np mc ld x1 o s0 ln : Nat) (sc : Nat → Int32) (c : Nat) {α : Type} (f : Option (α × FM)) (tw : FM → Option (α × FM)) : Prop :=
  ∃ (v : α) (N N2 : FM), f = some (v, N) ∧ LawI o s0 ln sc N ∧ fm_is N 92 92 m = true ∧ tw N = some (v, N2) ∧ ZI bd hv m hq s dd x dk q rq r sg bl cr np mc ld x1 o s0 ln sc c N2
theorem on_mk {α : Type} {f : Option (α × FM)} {tw : FM → Option (α × FM)} {v : α} {N N2 : FM} {S : List Nat} (hf : f = some (v, N)) (L : LawI o s0 ln sc N) (W : Wf N) (n : fm_is N 92 92 m = true) (ht' : tw N = some (v, N2)) (k : WK S N N2) (hd : dj [1000] S = true)
    (Z2 : ∃ B Bk Vv, (B ≤ 40000 * c ∧ Bk ≤ 102400800000 * c ∧ Vv ≤ 40000 * c) ∧ RelZ bd hv m hq s dd x dk q rq r sg bl cr np mc ld x1 B Bk Vv N2) : OpN bd hv m hq s dd x dk q rq r sg bl cr np mc ld x1 o s0 ln sc c f tw := ⟨v, N, N2, hf, L, n, ht', Z2, lawI_k k hd W L⟩
theorem on_code (Z : ZI bd hv m hq s dd x dk q rq r sg bl cr np mc ld x1 o s0 ln sc c M) : OpN bd hv m hq s dd x dk q rq r sg bl cr np mc ld x1 o s0 ln sc (c + 1) (FX1_code x1 M) (fun N => FX92_code m N) := by
  obtain ⟨⟨B, Bk, Vv, ⟨b1, b2, b3⟩, Z⟩, L⟩ := Z
  obtain ⟨C, np4, np1, T, W, n92⟩ := cmp_Z Z
  obtain ⟨v, N2, a1, a2, Z2⟩ := Z_code Z
  have e1 := (gX1_code x1 M T C.1.1).1
  rw [a1] at e1
  have e2 := (gX92_code m M T n92).1
  rw [a2] at e2
  have k : WK lX92_code M N2 := wX92_code (SL lX92_code) (fun _ => True) (fun _ h => h) m M (wi_N W) trivial _ e2
  exact on_mk e1 L W n92 e2 k (by decide) (zi_up ⟨b1, b2, b3⟩ Z2)
theorem on_processors (Z : ZI bd hv m hq s dd x dk q rq r sg bl cr np mc ld x1 o s0 ln sc c M) : OpN bd hv m hq s dd x dk q rq r sg bl cr np mc ld x1 o s0 ln sc (c + 1) (FX1_processors x1 M) (fun N => FX92_processors m N) := by
  obtain ⟨⟨B, Bk, Vv, ⟨b1, b2, b3⟩, Z⟩, L⟩ := Z
  obtain ⟨C, np4, np1, T, W, n92⟩ := cmp_Z Z
  obtain ⟨v, N2, a1, a2, Z2⟩ := Z_procs Z
  have e1 := (gX1_processors x1 M T C.1.1).1
  rw [a1] at e1
  have e2 := (gX92_processors m M T n92).1
  rw [a2] at e2
  have k : WK lX92_processors M N2 := wX92_processors (SL lX92_processors) (fun _ => True) (fun _ h => h) m M (wi_N W) trivial _ e2
  exact on_mk e1 L W n92 e2 k (by decide) (zi_up ⟨b1, b2, b3⟩ Z2)
theorem on_waiting (Z : ZI bd hv m hq s dd x dk q rq r sg bl cr np mc ld x1 o s0 ln sc c M) : OpN bd hv m hq s dd x dk q rq r sg bl cr np mc ld x1 o s0 ln sc (c + 1) (FX1_waiting x1 M) (fun N => FX92_waiting m N) := by
  obtain ⟨⟨B, Bk, Vv, ⟨b1, b2, b3⟩, Z⟩, L⟩ := Z
  obtain ⟨C, np4, np1, T, W, n92⟩ := cmp_Z Z
  obtain ⟨v, N2, a1, a2, Z2⟩ := Z_waiting Z
  have e1 := (gX1_waiting x1 M T C.1.1).1
  rw [a1] at e1
  have e2 := (gX92_waiting m M T n92).1
  rw [a2] at e2
  have k : WK lX92_waiting M N2 := wX92_waiting (SL lX92_waiting) (fun _ => True) (fun _ h => h) m M (wi_N W) trivial _ e2
  exact on_mk e1 L W n92 e2 k (by decide) (zi_up ⟨b1, b2, b3⟩ Z2)
theorem on_time (Z : ZI bd hv m hq s dd x dk q rq r sg bl cr np mc ld x1 o s0 ln sc c M) : OpN bd hv m hq s dd x dk q rq r sg bl cr np mc ld x1 o s0 ln sc (c + 1) (FX1_time x1 M) (fun N => FX92_time m N) := by
  obtain ⟨⟨B, Bk, Vv, ⟨b1, b2, b3⟩, Z⟩, L⟩ := Z
  obtain ⟨C, np4, np1, T, W, n92⟩ := cmp_Z Z
  obtain ⟨v, N2, a1, a2, Z2⟩ := Z_time Z
  have e1 := (gX1_time x1 M T C.1.1).1
  rw [a1] at e1
  have e2 := (gX92_time m M T n92).1
  rw [a2] at e2
  have k : WK lX92_time M N2 := wX92_time (SL lX92_time) (fun _ => True) (fun _ h => h) m M (wi_N W) trivial _ e2
  exact on_mk e1 L W n92 e2 k (by decide) (zi_up ⟨b1, b2, b3⟩ Z2)
theorem on_breaches (Z : ZI bd hv m hq s dd x dk q rq r sg bl cr np mc ld x1 o s0 ln sc c M) : OpN bd hv m hq s dd x dk q rq r sg bl cr np mc ld x1 o s0 ln sc (c + 1) (FX1_breaches x1 M) (fun N => FX92_breaches m N) := by
  obtain ⟨⟨B, Bk, Vv, ⟨b1, b2, b3⟩, Z⟩, L⟩ := Z
  obtain ⟨C, np4, np1, T, W, n92⟩ := cmp_Z Z
  obtain ⟨v, N2, a1, a2, Z2⟩ := Z_breaches Z
  have e1 := (gX1_breaches x1 M T).1
  rw [a1] at e1
  have e2 := (gX92_breaches m M T n92).1
  rw [a2] at e2
  have k : WK lX92_breaches M N2 := wX92_breaches (SL lX92_breaches) (fun _ => True) (fun _ h => h) m M (wi_N W) trivial _ e2
  exact on_mk e1 L W n92 e2 k (by decide) (zi_up ⟨b1, b2, b3⟩ Z2)
theorem on_sent (hc : c ≤ 1000) (Z : ZI bd hv m hq s dd x dk q rq r sg bl cr np mc ld x1 o s0 ln sc c M) : OpN bd hv m hq s dd x dk q rq r sg bl cr np mc ld x1 o s0 ln sc (c + 1) (FX1_sent x1 M) (fun N => FX92_sent m N) := by
  obtain ⟨⟨B, Bk, Vv, ⟨b1, b2, b3⟩, Z⟩, L⟩ := Z
  obtain ⟨C, np4, np1, T, W, n92⟩ := cmp_Z Z
  obtain ⟨v, N2, a1, a2, Z2⟩ := Z_sent Z (by omega)
  have e1 := (gX1_sent x1 M T C.1.1).1
  rw [a1] at e1
  have e2 := (gX92_sent m M T n92).1
  rw [a2] at e2
  have k : WK lX92_sent M N2 := wX92_sent (SL lX92_sent) (fun _ => True) (fun _ h => h) m M (wi_N W) trivial _ e2
  exact on_mk e1 L W n92 e2 k (by decide) (zi_up ⟨b1, b2, b3⟩ Z2)
theorem on_changed (Z : ZI bd hv m hq s dd x dk q rq r sg bl cr np mc ld x1 o s0 ln sc c M) : OpN bd hv m hq s dd x dk q rq r sg bl cr np mc ld x1 o s0 ln sc (c + 1) (FX1_changed x1 M) (fun N => FX92_changed m N) := by
  obtain ⟨⟨B, Bk, Vv, ⟨b1, b2, b3⟩, Z⟩, L⟩ := Z
  obtain ⟨C, np4, np1, T, W, n92⟩ := cmp_Z Z
  obtain ⟨v, N2, a1, a2, Z2⟩ := Z_changed Z
  have e1 := (gX1_changed x1 M T C.1.1).1
  rw [a1] at e1
  have e2 := (gX92_changed m M T n92).1
  rw [a2] at e2
  have k : WK lX92_changed M N2 := wX92_changed (SL lX92_changed) (fun _ => True) (fun _ h => h) m M (wi_N W) trivial _ e2
  exact on_mk e1 L W n92 e2 k (by decide) (zi_up ⟨b1, b2, b3⟩ Z2)
theorem on_start (Z : ZI bd hv m hq s dd x dk q rq r sg bl cr np mc ld x1 o s0 ln sc c M) : OpN bd hv m hq s dd x dk q rq r sg bl cr np mc ld x1 o s0 ln sc (c + 1) (FX1_start fN x1 M) (fun N => FX92_start fN m N) := by
  obtain ⟨⟨B, Bk, Vv, ⟨b1, b2, b3⟩, Z⟩, L⟩ := Z
  obtain ⟨C, np4, np1, T, W, n92⟩ := cmp_Z Z
  obtain ⟨v, N, N2, ⟨a1, a2⟩, ⟨h1, h2⟩, Z2⟩ := Z_start Z
  have g1 := gX1_start x1 M T C.1.1 a1
  rw [a2] at g1
  have kc : WK lX1_start M N := wX1_start (SL lX1_start) (fun _ => True) (fun _ h => h) fN x1 M (wi_N W) trivial (fun _ => trivial) _ g1.1
  have n92N := kis kc W rfl n92
  have e2 := (gX92_start m N g1.2.1 n92N h1).1
  rw [h2] at e2
  have k : WK lX92_start N N2 := wX92_start (SL lX92_start) (fun _ => True) (fun _ h => h) fN m N (wi_N kc.1.1) trivial (fun _ => trivial) _ e2
  exact on_mk g1.1 (lawI_k kc (by decide) W L) kc.1.1 n92N e2 k (by decide) ⟨_, _, _, by omega, Z2⟩
theorem on_out (hc : c ≤ 1000) (Z : ZI bd hv m hq s dd x dk q rq r sg bl cr np mc ld x1 o s0 ln sc c M) (a : Int64) : OpN bd hv m hq s dd x dk q rq r sg bl cr np mc ld x1 o s0 ln sc (c + 1) (FX1_out x1 a M) (fun N => FX92_out m a N) := by
  obtain ⟨⟨B, Bk, Vv, ⟨b1, b2, b3⟩, Z⟩, L⟩ := Z
  obtain ⟨C, np4, np1, T, W, n92⟩ := cmp_Z Z
  obtain ⟨v, N2, ⟨a1, a2⟩, ⟨h1, h2⟩, Z2⟩ := Z_outAt Z (by omega) a
  have e1 := (gX1_out x1 a M T C.1.1 a1).1
  rw [a2] at e1
  have e2 := (gX92_out m a M T n92 h1).1
  rw [h2] at e2
  have k : WK lX92_out M N2 := wX92_out (SL lX92_out) (fun _ => True) (fun _ h => h) m a M (wi_N W) trivial _ e2
  exact on_mk e1 L W n92 e2 k (by decide) (zi_up ⟨b1, b2, b3⟩ Z2)
theorem op_end (Z : ZI bd hv m hq s dd x dk q rq r sg bl cr np mc ld x1 o s0 ln sc c M) (z : Int32) : ∃ (k : Int32) (N N2 : FM), Fh_law_end fN x1 z M = some (k, N) ∧ LawI o s0 ln sc N ∧ fm_is N 92 92 m = true ∧ FX92_end m z N = some N2 ∧ fm_is N2 92 92 m = true ∧ N2.1 296 m 0 = k ∧ ZI bd hv m hq s dd x dk q rq r sg bl cr np mc ld x1 o s0 ln sc (c + 1) N2 := by
  obtain ⟨⟨B, Bk, Vv, ⟨b1, b2, b3⟩, Z⟩, L⟩ := Z
  obtain ⟨C, np4, np1, T, W, n92⟩ := cmp_Z Z
  rcases Z_end (z := z) Z with ⟨N, N2, ⟨a1, a2⟩, h2, h3, kc, kt', Z2⟩ | ⟨hz, _⟩
  · have g1 := gX1_end x1 z M T C.1.1 a1
    rw [a2] at g1
    have n1 := kis kc W rfl n92
    have e2 := (gX92_end m z N g1.2.1 n1).1
    rw [h2] at e2
    have L0 := lawI_k kc (by decide) W L
    refine ⟨Int32.ofInt 0, N, N2, ?_, L0, n1, e2, kis kt' kc.1.1 rfl n1, h3, zi_up ⟨b1, b2, b3⟩ Z2, lawI_k kt' (by decide) kc.1.1 L0⟩
    unfold Fh_law_end FX0_end FX0_end_0 BX0_end_0
    rw [fi_pos C.1.1, g1.1, bi_s]
    rfl
  · have zE := Z_exc Z
    have n1 : fm_is (fm_exc M) 92 92 m = true := by rw [exc_is]; exact n92
    have L1 := lawI_k (S := []) (exc_k W) (by decide) W L
    rcases Z_end (z := z) zE with ⟨N, N2, ⟨a1, a2⟩, _⟩ | ⟨_, N2, h2, h3, kt', Z2⟩
    · refine absurd ?_ (end_no zE.2.2.2.1 a1)
      rw [exc_3 _ _ _ (by decide)]
      exact hz
    · have e2 := (gX92_end m z (fm_exc M) (exc_ty T) n1).1
      rw [h2] at e2
      exact ⟨Int32.ofInt 1, fm_exc M, N2, rf_end C hz, L1, n1, e2, kis kt' (exc_wf W) rfl n1, h3, zi_up ⟨b1, b2, b3⟩ Z2, lawI_k kt' (by decide) (exc_wf W) L1⟩
/-- the script's places -/
theorem sc5 (L : LawI o s0 ln sc M) (hi : i + 5 < ln) (hl : ln ≤ 385) : ((fm_is M 906 906 s0 = true ∧ fm_in M s0 (nI i + Int32.ofInt 1) = true) ∧ M.1 3 s0 (nI i + Int32.ofInt 1).toNatClampNeg = sc (i + 1)) ∧ ((fm_is M 906 906 s0 = true ∧ fm_in M s0 (nI i + Int32.ofInt 2) = true) ∧ M.1 3 s0 (nI i + Int32.ofInt 2).toNatClampNeg = sc (i + 2)) ∧
    ((fm_is M 906 906 s0 = true ∧ fm_in M s0 (nI i + Int32.ofInt 3) = true) ∧ M.1 3 s0 (nI i + Int32.ofInt 3).toNatClampNeg = sc (i + 3)) ∧ ((fm_is M 906 906 s0 = true ∧ fm_in M s0 (nI i + Int32.ofInt 4) = true) ∧ M.1 3 s0 (nI i + Int32.ofInt 4).toNatClampNeg = sc (i + 4)) ∧
    ((fm_is M 906 906 s0 = true ∧ fm_in M s0 (nI i + Int32.ofInt 5) = true) ∧ M.1 3 s0 (nI i + Int32.ofInt 5).toNatClampNeg = sc (i + 5)) := by
  obtain ⟨_, n, _, l, w⟩ := L
  have k : ∀ j, j ≤ 5 → (fm_is M 906 906 s0 = true ∧ fm_in M s0 (nI i + nI j) = true) ∧ M.1 3 s0 (nI i + nI j).toNatClampNeg = sc (i + j) := fun j hj => by
    have e : nI i + nI j = nI (i + j) := ui_inj (by rw [ui_add, ui_nI, ui_nI, ui_nI]; omega)
    rw [e, o_cl (by omega)]
    exact ⟨⟨n, in_nI l (by omega) (by omega)⟩, w (i + j) (by omega)⟩
  exact ⟨k 1 (by decide), k 2 (by decide), k 3 (by decide), k 4 (by decide), k 5 (by decide)⟩
theorem th_e {N : FM} (n : fm_is N 92 92 m = true) : FX92_thrown m N = some (N.1 296 m 0, N) := fi_pos n
theorem go_6 {N : FM} (hi : i < 2000) : FL_law_1194 fN k33 s0 x1 m o (nI i) N = k33 s0 x1 m o (nI (i + 6)) N := by
  have e : nI i + Int32.ofInt 6 = nI (i + 6) := ui_inj (by rw [ui_add, ui_nI, ui_nI, show ui (Int32.ofInt 6) = 6 from rfl]; omega)
  unfold FL_law_1194 BL_law_1194
  rw [e]
theorem lc_0 (hc : c ≤ 1000) (hi : i + 5 < ln) (hl : ln ≤ 385) (Z : ZI bd hv m hq s dd x dk q rq r sg bl cr np mc ld x1 o s0 ln sc c M) : ∃ N2, LC_0 k33 s0 x1 m o (nI i) M = k33 s0 x1 m o (nI (i + 6)) N2 ∧ ZI bd hv m hq s dd x dk q rq r sg bl cr np mc ld x1 o s0 ln sc (c + 1) N2 := by
  obtain ⟨s1, s2, s3, s4, s5⟩ := sc5 Z.2 hi hl
  obtain ⟨k, N, v, N2, e1, L1, n1, e2, n2, e3, e4, Z2⟩ := op_feed Z (sc (i + 1)) (sc (i + 2)) (sc (i + 3)) (sc (i + 4)) (sc (i + 5))
  obtain ⟨t1, t2, t3, t4, t5⟩ := sc5 L1 hi hl
  have io := oi0 Z2.2
  dsimp only at e2
  have bl_ : FL_law_249 fN k33 s0 x1 m o (nI i) N2 = FL_law_1194 fN k33 s0 x1 m o (nI i) N2 := rfl
  refine ⟨N2, ?_, Z2⟩
  refine Eq.trans ?_ (go_6 (by omega))
  unfold LC_0
  try dsimp only
  rw [fi_pos s1.1, fi_pos s2.1, fi_pos s3.1, fi_pos s4.1, fi_pos s5.1, s1.2, s2.2, s3.2, s4.2, s5.2, e1, bi_s]
  try dsimp only
  rw [fi_pos t1.1, fi_pos t2.1, fi_pos t3.1, fi_pos t4.1, fi_pos t5.1, fi_pos n1, t1.2, t2.2, t3.2, t4.2, t5.2, e2, bi_s]
  try dsimp only
  rw [fi_pos n2, th_e n2, bi_s]
  try dsimp only
  rw [fi_pos e3, bl_]
  by_cases k0 : k = 0
  · have e5 := e4 k0
    try rw [id_eq] at e5
    rw [fi_pos k0, fi_pos io, show (Int32.ofInt 0).toNatClampNeg = 0 from rfl, e5, fi_pos (cl_eq.mpr rfl)]
  · rw [fi_neg k0]
theorem lc_1 (hc : c ≤ 1000) (hi : i + 5 < ln) (hl : ln ≤ 385) (Z : ZI bd hv m hq s dd x dk q rq r sg bl cr np mc ld x1 o s0 ln sc c M) : ∃ N2, LC_1 k33 s0 x1 m o (nI i) M = k33 s0 x1 m o (nI (i + 6)) N2 ∧ ZI bd hv m hq s dd x dk q rq r sg bl cr np mc ld x1 o s0 ln sc (c + 1) N2 := by
  obtain ⟨s1, _⟩ := sc5 Z.2 hi hl
  obtain ⟨k, N, N2, e1, L1, n1, e2, n2, e3, Z2⟩ := op_end Z (sc (i + 1))
  obtain ⟨t1, _⟩ := sc5 L1 hi hl
  refine ⟨N2, ?_, Z2⟩
  refine Eq.trans ?_ (go_6 (by omega))
  unfold LC_1
  try dsimp only
  rw [fi_pos s1.1, s1.2, e1, bi_s]
  try dsimp only
  rw [fi_pos t1.1, fi_pos n1, t1.2, e2, bi_s]
  try dsimp only
  rw [fi_pos n2, th_e n2, bi_s]
  try dsimp only
  rw [fi_pos e3]
theorem lc_2 (hc : c ≤ 1000) (hi : i + 5 < ln) (hl : ln ≤ 385) (Z : ZI bd hv m hq s dd x dk q rq r sg bl cr np mc ld x1 o s0 ln sc c M) : ∃ N2, LC_2 k33 s0 x1 m o (nI i) M = k33 s0 x1 m o (nI (i + 6)) N2 ∧ ZI bd hv m hq s dd x dk q rq r sg bl cr np mc ld x1 o s0 ln sc (c + 1) N2 := by
  obtain ⟨s1, s2, s3, s4, s5⟩ := sc5 Z.2 hi hl
  obtain ⟨k, N, v, N2, e1, L1, n1, e2, n2, e3, e4, Z2⟩ := op_load Z (sc (i + 1)) (((sc (i + 2)).toInt64 <<< ((Int32.ofInt 32).toInt64 &&& 63)) ||| ((sc (i + 3)).toInt64 &&& (Int64.ofInt 4294967295)))
  obtain ⟨t1, t2, t3, t4, t5⟩ := sc5 L1 hi hl
  have io := oi0 Z2.2
  dsimp only at e2
  have bl_ : FL_law_385 fN k33 s0 x1 m o (nI i) N2 = FL_law_1194 fN k33 s0 x1 m o (nI i) N2 := rfl
  refine ⟨N2, ?_, Z2⟩
  refine Eq.trans ?_ (go_6 (by omega))
  unfold LC_2
  try dsimp only
  rw [fi_pos s1.1, fi_pos s2.1, fi_pos s3.1, s1.2, s2.2, s3.2, e1, bi_s]
  try dsimp only
  rw [fi_pos t1.1, fi_pos t2.1, fi_pos t3.1, fi_pos n1, t1.2, t2.2, t3.2, e2, bi_s]
  try dsimp only
  rw [fi_pos n2, th_e n2, bi_s]
  try dsimp only
  rw [fi_pos e3, bl_]
  by_cases k0 : k = 0
  · have e5 := e4 k0
    try rw [id_eq] at e5
    rw [fi_pos k0, fi_pos io, show (Int32.ofInt 0).toNatClampNeg = 0 from rfl, e5, fi_pos (cl_eq.mpr rfl)]
  · rw [fi_neg k0]
theorem lc_3 (hc : c ≤ 1000) (hi : i + 5 < ln) (hl : ln ≤ 385) (Z : ZI bd hv m hq s dd x dk q rq r sg bl cr np mc ld x1 o s0 ln sc c M) : ∃ N2, LC_3 k33 s0 x1 m o (nI i) M = k33 s0 x1 m o (nI (i + 6)) N2 ∧ ZI bd hv m hq s dd x dk q rq r sg bl cr np mc ld x1 o s0 ln sc (c + 1) N2 := by
  have n10 : fm_is M 10 10 x1 = true := by
    obtain ⟨⟨B, Bk, Vv, _, Z⟩, _⟩ := Z
    exact Z.2.2.2.1.1
  obtain ⟨v, N, N2, e1, L1, n1, e2, Z2⟩ := on_start Z
  dsimp only at e2
  refine ⟨N2, ?_, Z2⟩
  refine Eq.trans ?_ (go_6 (by omega))
  unfold LC_3
  try dsimp only
  rw [fi_pos n10, e1, bi_s]
  try dsimp only
  rw [fi_pos n1, e2, bi_s]
  try dsimp only
  rw [fi_pos (rfl)]
theorem lc_4 (hc : c ≤ 1000) (hi : i + 5 < ln) (hl : ln ≤ 385) (Z : ZI bd hv m hq s dd x dk q rq r sg bl cr np mc ld x1 o s0 ln sc c M) : ∃ N2, LC_4 k33 s0 x1 m o (nI i) M = k33 s0 x1 m o (nI (i + 6)) N2 ∧ ZI bd hv m hq s dd x dk q rq r sg bl cr np mc ld x1 o s0 ln sc (c + 1) N2 := by
  obtain ⟨s1, s2, s3, s4, s5⟩ := sc5 Z.2 hi hl
  obtain ⟨k, N, v, N2, e1, L1, n1, e2, n2, e3, e4, Z2⟩ := op_run hc Z (sc (i + 1))
  obtain ⟨t1, t2, t3, t4, t5⟩ := sc5 L1 hi hl
  have io := oi0 Z2.2
  dsimp only at e2
  have bl_ : FL_law_454 fN k33 s0 x1 m o (nI i) N2 = FL_law_1194 fN k33 s0 x1 m o (nI i) N2 := rfl
  refine ⟨N2, ?_, Z2⟩
  refine Eq.trans ?_ (go_6 (by omega))
  unfold LC_4
  try dsimp only
  rw [fi_pos s1.1, s1.2, e1, bi_s]
  try dsimp only
  rw [fi_pos t1.1, fi_pos n1, t1.2, e2, bi_s]
  try dsimp only
  rw [fi_pos n2, th_e n2, bi_s]
  try dsimp only
  rw [fi_pos e3, bl_]
  by_cases k0 : k = 0
  · have e5 := e4 k0
    try rw [id_eq] at e5
    rw [fi_pos k0, fi_pos io, show (Int32.ofInt 0).toNatClampNeg = 0 from rfl, e5, fi_pos (cl_eq.mpr rfl)]
  · rw [fi_neg k0]
theorem lc_5 (hc : c ≤ 1000) (hi : i + 5 < ln) (hl : ln ≤ 385) (Z : ZI bd hv m hq s dd x dk q rq r sg bl cr np mc ld x1 o s0 ln sc c M) : ∃ N2, LC_5 k33 s0 x1 m o (nI i) M = k33 s0 x1 m o (nI (i + 6)) N2 ∧ ZI bd hv m hq s dd x dk q rq r sg bl cr np mc ld x1 o s0 ln sc (c + 1) N2 := by
  have n10 : fm_is M 10 10 x1 = true := by
    obtain ⟨⟨B, Bk, Vv, _, Z⟩, _⟩ := Z
    exact Z.2.2.2.1.1
  obtain ⟨v, N, N2, e1, L1, n1, e2, Z2⟩ := on_code Z
  dsimp only at e2
  refine ⟨N2, ?_, Z2⟩
  refine Eq.trans ?_ (go_6 (by omega))
  unfold LC_5
  try dsimp only
  rw [fi_pos n10, e1, bi_s]
  try dsimp only
  rw [fi_pos n1, e2, bi_s]
  try dsimp only
  rw [fi_pos (rfl)]
theorem lc_6 (hc : c ≤ 1000) (hi : i + 5 < ln) (hl : ln ≤ 385) (Z : ZI bd hv m hq s dd x dk q rq r sg bl cr np mc ld x1 o s0 ln sc c M) : ∃ N2, LC_6 k33 s0 x1 m o (nI i) M = k33 s0 x1 m o (nI (i + 6)) N2 ∧ ZI bd hv m hq s dd x dk q rq r sg bl cr np mc ld x1 o s0 ln sc (c + 1) N2 := by
  have n10 : fm_is M 10 10 x1 = true := by
    obtain ⟨⟨B, Bk, Vv, _, Z⟩, _⟩ := Z
    exact Z.2.2.2.1.1
  obtain ⟨v, N, N2, e1, L1, n1, e2, Z2⟩ := on_processors Z
  dsimp only at e2
  refine ⟨N2, ?_, Z2⟩
  refine Eq.trans ?_ (go_6 (by omega))
  unfold LC_6
  try dsimp only
  rw [fi_pos n10, e1, bi_s]
  try dsimp only
  rw [fi_pos n1, e2, bi_s]
  try dsimp only
  rw [fi_pos (rfl)]
theorem lc_7 (hc : c ≤ 1000) (hi : i + 5 < ln) (hl : ln ≤ 385) (Z : ZI bd hv m hq s dd x dk q rq r sg bl cr np mc ld x1 o s0 ln sc c M) : ∃ N2, LC_7 k33 s0 x1 m o (nI i) M = k33 s0 x1 m o (nI (i + 6)) N2 ∧ ZI bd hv m hq s dd x dk q rq r sg bl cr np mc ld x1 o s0 ln sc (c + 1) N2 := by
  obtain ⟨s1, s2, s3, s4, s5⟩ := sc5 Z.2 hi hl
  obtain ⟨k, N, v, N2, e1, L1, n1, e2, n2, e3, e4, Z2⟩ := op_counter Z (sc (i + 1))
  obtain ⟨t1, t2, t3, t4, t5⟩ := sc5 L1 hi hl
  have io := oi0 Z2.2
  dsimp only at e2
  have bl_ : FL_law_535 fN k33 s0 x1 m o (nI i) N2 = FL_law_1194 fN k33 s0 x1 m o (nI i) N2 := rfl
  refine ⟨N2, ?_, Z2⟩
  refine Eq.trans ?_ (go_6 (by omega))
  unfold LC_7
  try dsimp only
  rw [fi_pos s1.1, s1.2, e1, bi_s]
  try dsimp only
  rw [fi_pos t1.1, fi_pos n1, t1.2, e2, bi_s]
  try dsimp only
  rw [fi_pos n2, th_e n2, bi_s]
  try dsimp only
  rw [fi_pos e3, bl_]
  by_cases k0 : k = 0
  · have e5 := e4 k0
    try rw [id_eq] at e5
    rw [fi_pos k0, fi_pos io, show (Int32.ofInt 0).toNatClampNeg = 0 from rfl, e5, fi_pos (cl_eq.mpr rfl)]
  · rw [fi_neg k0]
theorem lc_8 (hc : c ≤ 1000) (hi : i + 5 < ln) (hl : ln ≤ 385) (Z : ZI bd hv m hq s dd x dk q rq r sg bl cr np mc ld x1 o s0 ln sc c M) : ∃ N2, LC_8 k33 s0 x1 m o (nI i) M = k33 s0 x1 m o (nI (i + 6)) N2 ∧ ZI bd hv m hq s dd x dk q rq r sg bl cr np mc ld x1 o s0 ln sc (c + 1) N2 := by
  obtain ⟨s1, s2, s3, s4, s5⟩ := sc5 Z.2 hi hl
  obtain ⟨k, N, v, N2, e1, L1, n1, e2, n2, e3, e4, Z2⟩ := op_register Z (sc (i + 1)) (sc (i + 2))
  obtain ⟨t1, t2, t3, t4, t5⟩ := sc5 L1 hi hl
  have io := oi0 Z2.2
  dsimp only at e2
  have bl_ : FL_law_602 fN k33 s0 x1 m o (nI i) N2 = FL_law_1194 fN k33 s0 x1 m o (nI i) N2 := rfl
  refine ⟨N2, ?_, Z2⟩
  refine Eq.trans ?_ (go_6 (by omega))
  unfold LC_8
  try dsimp only
  rw [fi_pos s1.1, fi_pos s2.1, s1.2, s2.2, e1, bi_s]
  try dsimp only
  rw [fi_pos t1.1, fi_pos t2.1, fi_pos n1, t1.2, t2.2, e2, bi_s]
  try dsimp only
  rw [fi_pos n2, th_e n2, bi_s]
  try dsimp only
  rw [fi_pos e3, bl_]
  by_cases k0 : k = 0
  · have e5 := e4 k0
    try rw [id_eq] at e5
    rw [fi_pos k0, fi_pos io, show (Int32.ofInt 0).toNatClampNeg = 0 from rfl, e5, fi_pos (cl_eq.mpr rfl)]
  · rw [fi_neg k0]
theorem lc_9 (hc : c ≤ 1000) (hi : i + 5 < ln) (hl : ln ≤ 385) (Z : ZI bd hv m hq s dd x dk q rq r sg bl cr np mc ld x1 o s0 ln sc c M) : ∃ N2, LC_9 k33 s0 x1 m o (nI i) M = k33 s0 x1 m o (nI (i + 6)) N2 ∧ ZI bd hv m hq s dd x dk q rq r sg bl cr np mc ld x1 o s0 ln sc (c + 1) N2 := by
  obtain ⟨s1, s2, s3, s4, s5⟩ := sc5 Z.2 hi hl
  obtain ⟨k, N, v, N2, e1, L1, n1, e2, n2, e3, e4, Z2⟩ := op_floating Z (sc (i + 1)) (sc (i + 2))
  obtain ⟨t1, t2, t3, t4, t5⟩ := sc5 L1 hi hl
  have io := oi0 Z2.2
  dsimp only at e2
  have bl_ : FL_law_669 fN k33 s0 x1 m o (nI i) N2 = FL_law_1194 fN k33 s0 x1 m o (nI i) N2 := rfl
  refine ⟨N2, ?_, Z2⟩
  refine Eq.trans ?_ (go_6 (by omega))
  unfold LC_9
  try dsimp only
  rw [fi_pos s1.1, fi_pos s2.1, s1.2, s2.2, e1, bi_s]
  try dsimp only
  rw [fi_pos t1.1, fi_pos t2.1, fi_pos n1, t1.2, t2.2, e2, bi_s]
  try dsimp only
  rw [fi_pos n2, th_e n2, bi_s]
  try dsimp only
  rw [fi_pos e3, bl_]
  by_cases k0 : k = 0
  · have e5 := e4 k0
    try rw [id_eq] at e5
    rw [fi_pos k0, fi_pos io, show (Int32.ofInt 0).toNatClampNeg = 0 from rfl, e5, fi_pos (cl_eq.mpr rfl)]
  · rw [fi_neg k0]
theorem lc_10 (hc : c ≤ 1000) (hi : i + 5 < ln) (hl : ln ≤ 385) (Z : ZI bd hv m hq s dd x dk q rq r sg bl cr np mc ld x1 o s0 ln sc c M) : ∃ N2, LC_10 k33 s0 x1 m o (nI i) M = k33 s0 x1 m o (nI (i + 6)) N2 ∧ ZI bd hv m hq s dd x dk q rq r sg bl cr np mc ld x1 o s0 ln sc (c + 1) N2 := by
  obtain ⟨s1, s2, s3, s4, s5⟩ := sc5 Z.2 hi hl
  obtain ⟨k, N, v, N2, e1, L1, n1, e2, n2, e3, e4, Z2⟩ := op_control Z (sc (i + 1)) (sc (i + 2))
  obtain ⟨t1, t2, t3, t4, t5⟩ := sc5 L1 hi hl
  have io := oi0 Z2.2
  dsimp only at e2
  have bl_ : FL_law_736 fN k33 s0 x1 m o (nI i) N2 = FL_law_1194 fN k33 s0 x1 m o (nI i) N2 := rfl
  refine ⟨N2, ?_, Z2⟩
  refine Eq.trans ?_ (go_6 (by omega))
  unfold LC_10
  try dsimp only
  rw [fi_pos s1.1, fi_pos s2.1, s1.2, s2.2, e1, bi_s]
  try dsimp only
  rw [fi_pos t1.1, fi_pos t2.1, fi_pos n1, t1.2, t2.2, e2, bi_s]
  try dsimp only
  rw [fi_pos n2, th_e n2, bi_s]
  try dsimp only
  rw [fi_pos e3, bl_]
  by_cases k0 : k = 0
  · have e5 := e4 k0
    try rw [id_eq] at e5
    rw [fi_pos k0, fi_pos io, show (Int32.ofInt 0).toNatClampNeg = 0 from rfl, e5, fi_pos (cl_eq.mpr rfl)]
  · rw [fi_neg k0]
theorem lc_11 (hc : c ≤ 1000) (hi : i + 5 < ln) (hl : ln ≤ 385) (Z : ZI bd hv m hq s dd x dk q rq r sg bl cr np mc ld x1 o s0 ln sc c M) : ∃ N2, LC_11 k33 s0 x1 m o (nI i) M = k33 s0 x1 m o (nI (i + 6)) N2 ∧ ZI bd hv m hq s dd x dk q rq r sg bl cr np mc ld x1 o s0 ln sc (c + 1) N2 := by
  obtain ⟨s1, s2, s3, s4, s5⟩ := sc5 Z.2 hi hl
  obtain ⟨k, N, v, N2, e1, L1, n1, e2, n2, e3, e4, Z2⟩ := op_mode Z (sc (i + 1))
  obtain ⟨t1, t2, t3, t4, t5⟩ := sc5 L1 hi hl
  have io := oi0 Z2.2
  dsimp only at e2
  have bl_ : FL_law_792 fN k33 s0 x1 m o (nI i) N2 = FL_law_1194 fN k33 s0 x1 m o (nI i) N2 := rfl
  refine ⟨N2, ?_, Z2⟩
  refine Eq.trans ?_ (go_6 (by omega))
  unfold LC_11
  try dsimp only
  rw [fi_pos s1.1, s1.2, e1, bi_s]
  try dsimp only
  rw [fi_pos t1.1, fi_pos n1, t1.2, e2, bi_s]
  try dsimp only
  rw [fi_pos n2, th_e n2, bi_s]
  try dsimp only
  rw [fi_pos e3, bl_]
  by_cases k0 : k = 0
  · have e5 := e4 k0
    try rw [id_eq] at e5
    rw [fi_pos k0, fi_pos io, show (Int32.ofInt 0).toNatClampNeg = 0 from rfl, e5, fi_pos (cl_eq.mpr rfl)]
  · rw [fi_neg k0]
theorem lc_12 (hc : c ≤ 1000) (hi : i + 5 < ln) (hl : ln ≤ 385) (Z : ZI bd hv m hq s dd x dk q rq r sg bl cr np mc ld x1 o s0 ln sc c M) : ∃ N2, LC_12 k33 s0 x1 m o (nI i) M = k33 s0 x1 m o (nI (i + 6)) N2 ∧ ZI bd hv m hq s dd x dk q rq r sg bl cr np mc ld x1 o s0 ln sc (c + 1) N2 := by
  obtain ⟨s1, s2, s3, s4, s5⟩ := sc5 Z.2 hi hl
  obtain ⟨k, N, v, N2, e1, L1, n1, e2, n2, e3, e4, Z2⟩ := op_word Z (((sc (i + 1)).toInt64 <<< ((Int32.ofInt 32).toInt64 &&& 63)) ||| ((sc (i + 2)).toInt64 &&& (Int64.ofInt 4294967295)))
  obtain ⟨t1, t2, t3, t4, t5⟩ := sc5 L1 hi hl
  have io := oi0 Z2.2
  dsimp only at e2
  have bl_ : FL_law_879 fN k33 s0 x1 m o (nI i) N2 = FL_law_1194 fN k33 s0 x1 m o (nI i) N2 := rfl
  refine ⟨N2, ?_, Z2⟩
  refine Eq.trans ?_ (go_6 (by omega))
  unfold LC_12
  try dsimp only
  rw [fi_pos s1.1, fi_pos s2.1, s1.2, s2.2, e1, bi_s]
  try dsimp only
  rw [fi_pos t1.1, fi_pos t2.1, fi_pos n1, t1.2, t2.2, e2, bi_s]
  try dsimp only
  rw [fi_pos n2, th_e n2, bi_s]
  try dsimp only
  rw [fi_pos e3, bl_]
  by_cases k0 : k = 0
  · have e5 := e4 k0
    try rw [id_eq] at e5
    rw [fi_pos k0, fi_pos io, show (Int32.ofInt 0).toNatClampNeg = 0 from rfl, e5, fi_pos (cl_eq.mpr rfl)]
  · rw [fi_neg k0]
theorem lc_13 (hc : c ≤ 1000) (hi : i + 5 < ln) (hl : ln ≤ 385) (Z : ZI bd hv m hq s dd x dk q rq r sg bl cr np mc ld x1 o s0 ln sc c M) : ∃ N2, LC_13 k33 s0 x1 m o (nI i) M = k33 s0 x1 m o (nI (i + 6)) N2 ∧ ZI bd hv m hq s dd x dk q rq r sg bl cr np mc ld x1 o s0 ln sc (c + 1) N2 := by
  obtain ⟨s1, s2, s3, s4, s5⟩ := sc5 Z.2 hi hl
  obtain ⟨k, N, v, N2, e1, L1, n1, e2, n2, e3, e4, Z2⟩ := op_sum Z (((sc (i + 1)).toInt64 <<< ((Int32.ofInt 32).toInt64 &&& 63)) ||| ((sc (i + 2)).toInt64 &&& (Int64.ofInt 4294967295))) (((sc (i + 3)).toInt64 <<< ((Int32.ofInt 32).toInt64 &&& 63)) ||| ((sc (i + 4)).toInt64 &&& (Int64.ofInt 4294967295)))
  obtain ⟨t1, t2, t3, t4, t5⟩ := sc5 L1 hi hl
  have io := oi0 Z2.2
  dsimp only at e2
  have bl_ : FL_law_1010 fN k33 s0 x1 m o (nI i) N2 = FL_law_1194 fN k33 s0 x1 m o (nI i) N2 := rfl
  refine ⟨N2, ?_, Z2⟩
  refine Eq.trans ?_ (go_6 (by omega))
  unfold LC_13
  try dsimp only
  rw [fi_pos s1.1, fi_pos s2.1, fi_pos s3.1, fi_pos s4.1, s1.2, s2.2, s3.2, s4.2, e1, bi_s]
  try dsimp only
  rw [fi_pos t1.1, fi_pos t2.1, fi_pos t3.1, fi_pos t4.1, fi_pos n1, t1.2, t2.2, t3.2, t4.2, e2, bi_s]
  try dsimp only
  rw [fi_pos n2, th_e n2, bi_s]
  try dsimp only
  rw [fi_pos e3, bl_]
  by_cases k0 : k = 0
  · have e5 := e4 k0
    try rw [id_eq] at e5
    rw [fi_pos k0, fi_pos io, show (Int32.ofInt 0).toNatClampNeg = 0 from rfl, e5, fi_pos (cl_eq.mpr rfl)]
  · rw [fi_neg k0]
theorem lc_14 (hc : c ≤ 1000) (hi : i + 5 < ln) (hl : ln ≤ 385) (Z : ZI bd hv m hq s dd x dk q rq r sg bl cr np mc ld x1 o s0 ln sc c M) : ∃ N2, LC_14 k33 s0 x1 m o (nI i) M = k33 s0 x1 m o (nI (i + 6)) N2 ∧ ZI bd hv m hq s dd x dk q rq r sg bl cr np mc ld x1 o s0 ln sc (c + 1) N2 := by
  obtain ⟨s1, s2, s3, s4, s5⟩ := sc5 Z.2 hi hl
  obtain ⟨k, N, v, N2, e1, L1, n1, e2, n2, e3, e4, Z2⟩ := op_disk Z (sc (i + 1))
  obtain ⟨t1, t2, t3, t4, t5⟩ := sc5 L1 hi hl
  have io := oi0 Z2.2
  dsimp only at e2
  have bl_ : FL_law_1066 fN k33 s0 x1 m o (nI i) N2 = FL_law_1194 fN k33 s0 x1 m o (nI i) N2 := rfl
  refine ⟨N2, ?_, Z2⟩
  refine Eq.trans ?_ (go_6 (by omega))
  unfold LC_14
  try dsimp only
  rw [fi_pos s1.1, s1.2, e1, bi_s]
  try dsimp only
  rw [fi_pos t1.1, fi_pos n1, t1.2, e2, bi_s]
  try dsimp only
  rw [fi_pos n2, th_e n2, bi_s]
  try dsimp only
  rw [fi_pos e3, bl_]
  by_cases k0 : k = 0
  · have e5 := e4 k0
    try rw [id_eq] at e5
    rw [fi_pos k0, fi_pos io, show (Int32.ofInt 0).toNatClampNeg = 0 from rfl, e5, fi_pos (cl_eq.mpr rfl)]
  · rw [fi_neg k0]
theorem lc_15 (hc : c ≤ 1000) (hi : i + 5 < ln) (hl : ln ≤ 385) (Z : ZI bd hv m hq s dd x dk q rq r sg bl cr np mc ld x1 o s0 ln sc c M) : ∃ N2, LC_15 k33 s0 x1 m o (nI i) M = k33 s0 x1 m o (nI (i + 6)) N2 ∧ ZI bd hv m hq s dd x dk q rq r sg bl cr np mc ld x1 o s0 ln sc (c + 1) N2 := by
  have n10 : fm_is M 10 10 x1 = true := by
    obtain ⟨⟨B, Bk, Vv, _, Z⟩, _⟩ := Z
    exact Z.2.2.2.1.1
  obtain ⟨v, N, N2, e1, L1, n1, e2, Z2⟩ := on_sent hc Z
  dsimp only at e2
  refine ⟨N2, ?_, Z2⟩
  refine Eq.trans ?_ (go_6 (by omega))
  unfold LC_15
  try dsimp only
  rw [fi_pos n10, e1, bi_s]
  try dsimp only
  rw [fi_pos n1, e2, bi_s]
  try dsimp only
  rw [fi_pos (cl_eq.mpr rfl)]
theorem lc_16 (hc : c ≤ 1000) (hi : i + 5 < ln) (hl : ln ≤ 385) (Z : ZI bd hv m hq s dd x dk q rq r sg bl cr np mc ld x1 o s0 ln sc c M) : ∃ N2, LC_16 k33 s0 x1 m o (nI i) M = k33 s0 x1 m o (nI (i + 6)) N2 ∧ ZI bd hv m hq s dd x dk q rq r sg bl cr np mc ld x1 o s0 ln sc (c + 1) N2 := by
  have n10 : fm_is M 10 10 x1 = true := by
    obtain ⟨⟨B, Bk, Vv, _, Z⟩, _⟩ := Z
    exact Z.2.2.2.1.1
  obtain ⟨s1, s2, s3, s4, s5⟩ := sc5 Z.2 hi hl
  obtain ⟨v, N, N2, e1, L1, n1, e2, Z2⟩ := on_out hc Z (((sc (i + 1)).toInt64 <<< ((Int32.ofInt 32).toInt64 &&& 63)) ||| ((sc (i + 2)).toInt64 &&& (Int64.ofInt 4294967295)))
  obtain ⟨t1, t2, t3, t4, t5⟩ := sc5 L1 hi hl
  dsimp only at e2
  refine ⟨N2, ?_, Z2⟩
  refine Eq.trans ?_ (go_6 (by omega))
  unfold LC_16
  try dsimp only
  rw [fi_pos s1.1, fi_pos s2.1, fi_pos n10, s1.2, s2.2, e1, bi_s]
  try dsimp only
  rw [fi_pos t1.1, fi_pos t2.1, fi_pos n1, t1.2, t2.2, e2, bi_s]
  try dsimp only
  rw [fi_pos (rfl)]
theorem lc_17 (hc : c ≤ 1000) (hi : i + 5 < ln) (hl : ln ≤ 385) (Z : ZI bd hv m hq s dd x dk q rq r sg bl cr np mc ld x1 o s0 ln sc c M) : ∃ N2, LC_17 k33 s0 x1 m o (nI i) M = k33 s0 x1 m o (nI (i + 6)) N2 ∧ ZI bd hv m hq s dd x dk q rq r sg bl cr np mc ld x1 o s0 ln sc (c + 1) N2 := by
  have n10 : fm_is M 10 10 x1 = true := by
    obtain ⟨⟨B, Bk, Vv, _, Z⟩, _⟩ := Z
    exact Z.2.2.2.1.1
  obtain ⟨v, N, N2, e1, L1, n1, e2, Z2⟩ := on_waiting Z
  dsimp only at e2
  refine ⟨N2, ?_, Z2⟩
  refine Eq.trans ?_ (go_6 (by omega))
  unfold LC_17
  try dsimp only
  rw [fi_pos n10, e1, bi_s]
  try dsimp only
  rw [fi_pos n1, e2, bi_s]
  try dsimp only
  rw [fi_pos (rfl)]
theorem lc_18 (hc : c ≤ 1000) (hi : i + 5 < ln) (hl : ln ≤ 385) (Z : ZI bd hv m hq s dd x dk q rq r sg bl cr np mc ld x1 o s0 ln sc c M) : ∃ N2, LC_18 k33 s0 x1 m o (nI i) M = k33 s0 x1 m o (nI (i + 6)) N2 ∧ ZI bd hv m hq s dd x dk q rq r sg bl cr np mc ld x1 o s0 ln sc (c + 1) N2 := by
  have n10 : fm_is M 10 10 x1 = true := by
    obtain ⟨⟨B, Bk, Vv, _, Z⟩, _⟩ := Z
    exact Z.2.2.2.1.1
  obtain ⟨v, N, N2, e1, L1, n1, e2, Z2⟩ := on_changed Z
  dsimp only at e2
  refine ⟨N2, ?_, Z2⟩
  refine Eq.trans ?_ (go_6 (by omega))
  unfold LC_18
  try dsimp only
  rw [fi_pos n10, e1, bi_s]
  try dsimp only
  rw [fi_pos n1, e2, bi_s]
  try dsimp only
  rw [fi_pos (rfl)]
theorem lc_19 (hc : c ≤ 1000) (hi : i + 5 < ln) (hl : ln ≤ 385) (Z : ZI bd hv m hq s dd x dk q rq r sg bl cr np mc ld x1 o s0 ln sc c M) : ∃ N2, LC_19 k33 s0 x1 m o (nI i) M = k33 s0 x1 m o (nI (i + 6)) N2 ∧ ZI bd hv m hq s dd x dk q rq r sg bl cr np mc ld x1 o s0 ln sc (c + 1) N2 := by
  have n10 : fm_is M 10 10 x1 = true := by
    obtain ⟨⟨B, Bk, Vv, _, Z⟩, _⟩ := Z
    exact Z.2.2.2.1.1
  obtain ⟨v, N, N2, e1, L1, n1, e2, Z2⟩ := on_time Z
  dsimp only at e2
  refine ⟨N2, ?_, Z2⟩
  refine Eq.trans ?_ (go_6 (by omega))
  unfold LC_19
  try dsimp only
  rw [fi_pos n10, e1, bi_s]
  try dsimp only
  rw [fi_pos n1, e2, bi_s]
  try dsimp only
  rw [fi_pos (cl_eq.mpr rfl)]
theorem lc_20 (hc : c ≤ 1000) (hi : i + 5 < ln) (hl : ln ≤ 385) (Z : ZI bd hv m hq s dd x dk q rq r sg bl cr np mc ld x1 o s0 ln sc c M) : ∃ N2, LC_20 k33 s0 x1 m o (nI i) M = k33 s0 x1 m o (nI (i + 6)) N2 ∧ ZI bd hv m hq s dd x dk q rq r sg bl cr np mc ld x1 o s0 ln sc (c + 1) N2 := by
  have n10 : fm_is M 10 10 x1 = true := by
    obtain ⟨⟨B, Bk, Vv, _, Z⟩, _⟩ := Z
    exact Z.2.2.2.1.1
  obtain ⟨v, N, N2, e1, L1, n1, e2, Z2⟩ := on_breaches Z
  dsimp only at e2
  refine ⟨N2, ?_, Z2⟩
  refine Eq.trans ?_ (go_6 (by omega))
  unfold LC_20
  try dsimp only
  rw [fi_pos n10, e1, bi_s]
  try dsimp only
  rw [fi_pos n1, e2, bi_s]
  try dsimp only
  rw [fi_pos (cl_eq.mpr rfl)]
end Ca
