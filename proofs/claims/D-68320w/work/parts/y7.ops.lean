/-! the law: its calls with handlers, both sides -/
set_option maxRecDepth 100000
/-- a call of the law: what the component gives (caught), what the twin gives -/
def OpG (bd hv m hq s dd x dk q rq r sg bl cr np mc ld x1 o s0 ln : Nat) (sc : Nat → Int32) (c : Nat) {α : Type} (cv : α → Int64) (fh : Option (Int32 × FM)) (tw : FM → Option (α × FM)) : Prop :=
  ∃ (k : Int32) (N : FM) (v : α) (N2 : FM), fh = some (k, N) ∧ LawI o s0 ln sc N ∧ fm_is N 92 92 m = true ∧ tw N = some (v, N2) ∧ fm_is N2 92 92 m = true ∧ N2.1 296 m 0 = k ∧ (k = 0 → N2.2.1 3 o 0 = cv v) ∧ ZI bd hv m hq s dd x dk q rq r sg bl cr np mc ld x1 o s0 ln sc c N2
theorem nI_ex {z : Int32} (h : ¬ z < 0) : ∃ k, k < 2147483648 ∧ z = nI k := by
  have u := ui_lt z
  rw [lt_ti, ti, show (0 : Int32).toInt = 0 from rfl] at h
  refine ⟨ui z, ?_, ui_inj ?_⟩
  · split at h <;> omega
  · rw [ui_nI]
    omega
section Op
variable {bd hv m hq s dd x dk q rq r sg bl cr np mc ld x1 o s0 ln c : Nat} {sc : Nat → Int32} {M : FM} {z k : Int32} {a b : Int64}
/-- a count more -/
theorem zi_up {B Bk Vv : Nat} (h : B ≤ 40000 * c ∧ Bk ≤ 102400800000 * c ∧ Vv ≤ 40000 * c) (Z : RelZ bd hv m hq s dd x dk q rq r sg bl cr np mc ld x1 B Bk Vv M) : ∃ B Bk Vv, (B ≤ 40000 * (c + 1) ∧ Bk ≤ 102400800000 * (c + 1) ∧ Vv ≤ 40000 * (c + 1)) ∧ RelZ bd hv m hq s dd x dk q rq r sg bl cr np mc ld x1 B Bk Vv M := ⟨B, Bk, Vv, by omega, Z⟩
theorem op_mk {α : Type} {cv : α → Int64} {fh : Option (Int32 × FM)} {tw : FM → Option (α × FM)} {v : α} {N0 N2 : FM} {S : List Nat} (L0 : LawI o s0 ln sc N0) (W0 : Wf N0) (n0 : fm_is N0 92 92 m = true)
    (hf : fh = some (Int32.ofInt 0, fm_sL N0 3 o 0 (cv v))) (ht' : tw (fm_sL N0 3 o 0 (cv v)) = some (v, N2)) (kt' : WK S (fm_sL N0 3 o 0 (cv v)) N2) (hd : dj [1000, 1009] S = true) (h296 : N2.1 296 m 0 = 0)
    (Z2 : ∃ B Bk Vv, (B ≤ 40000 * c ∧ Bk ≤ 102400800000 * c ∧ Vv ≤ 40000 * c) ∧ RelZ bd hv m hq s dd x dk q rq r sg bl cr np mc ld x1 B Bk Vv N2) : OpG bd hv m hq s dd x dk q rq r sg bl cr np mc ld x1 o s0 ln sc c cv fh tw := by
  have k9 : WK [1000 + 9] N0 (fm_sL N0 3 o 0 (cv v)) := WK_aL W0 L0.1.1 L0.1.2.1 _
  have L1 := lawI_k k9 (by decide) W0 L0
  have W1 := k9.1.1
  have L2 := lawI_k kt' (dj_sub hd (by decide)) W1 L1
  have n1 : fm_is (fm_sL N0 3 o 0 (cv v)) 92 92 m = true := n0
  refine ⟨_, _, v, N2, hf, L1, n1, ht', kis kt' W1 rfl n1, h296, fun _ => ?_, Z2, L2⟩
  rw [(ka kt' L1.1.2.1 (wf_n0 W1 (fm_ist rfl L1.1.1)) (dj_n hd 1009 rfl) (wf_lt W1 (fm_ist rfl L1.1.1))).2.1]
  exact rLe _
theorem op_no {α : Type} {cv : α → Int64} {fh : Option (Int32 × FM)} {tw : FM → Option (α × FM)} {v : α} {N2 : FM} {S : List Nat} {k : Int32} (L : LawI o s0 ln sc M) (W : Wf M) (n92 : fm_is M 92 92 m = true)
    (hf : fh = some (k, fm_exc M)) (hk : ¬ k = 0) (ht' : tw (fm_exc M) = some (v, N2)) (kt' : WK S (fm_exc M) N2) (hd : dj [1000] S = true) (h296 : N2.1 296 m 0 = k)
    (Z2 : ∃ B Bk Vv, (B ≤ 40000 * c ∧ Bk ≤ 102400800000 * c ∧ Vv ≤ 40000 * c) ∧ RelZ bd hv m hq s dd x dk q rq r sg bl cr np mc ld x1 B Bk Vv N2) : OpG bd hv m hq s dd x dk q rq r sg bl cr np mc ld x1 o s0 ln sc c cv fh tw := by
  have L1 := lawI_k (S := []) (exc_k W) (by decide) W L
  have n1 : fm_is (fm_exc M) 92 92 m = true := by rw [exc_is]; exact n92
  exact ⟨_, _, v, N2, hf, L1, n1, ht', kis kt' (exc_wf W) rfl n1, h296, fun q => absurd q hk, Z2, lawI_k kt' hd (exc_wf W) L1⟩
theorem run_1 {j v : Nat} {N0 : FM} (hj : j ≤ 10000) (xm : XM x1 mc M) (a1 : HX2_run mc (nI j) M) (a2 : GX2_run mc (nI j) M = (nI v, N0)) : HX1_run x1 (nI j) M ∧ GX1_run x1 (nI j) M = (nI v, N0) := by
  have c0 : ¬ nI j < 0 := fun q => by rw [show (0 : Int32) = nI 0 from rfl] at q; have := (n_lt (by omega) (by omega)).mp q; omega
  have c1 : ¬ Int32.ofInt 10000 < nI j := fun q => by rw [show Int32.ofInt 10000 = nI 10000 from rfl] at q; have := (n_lt (by omega) (by omega)).mp q; omega
  have p1 : ¬ (Int32.ofInt 1 : Int32) = 0 := by decide
  have ep : GX1_proper (Int32.ofInt 1) M = M := by
    unfold GX1_proper GX1_proper_0
    first
      | rfl
      | exact fi_neg p1
  have hp : HX1_proper (Int32.ofInt 1) M := by
    unfold HX1_proper HX1_proper_0
    first
      | exact p1
      | exact ⟨fun q => absurd q p1, fun _ => trivial⟩
      | exact ⟨p1, trivial⟩
  constructor
  · refine ⟨fun q => absurd q c0, fun _ => ⟨fun q => absurd q c1, fun _ => ⟨hp, ?_⟩⟩⟩
    try dsimp only
    rw [ep, xm.2]
    exact ⟨a1, trivial⟩
  · unfold GX1_run GX1_run_0 GX1_run_16
    rw [fi_neg c0, fi_neg c1]
    try dsimp only
    rw [ep, xm.2, a2]
theorem oi0 {N0 : FM} (L : LawI o s0 ln sc N0) : fm_is N0 902 902 o = true ∧ fm_in N0 o (Int32.ofInt 0) = true := ⟨L.1.1, in_nI (N := 1) (k := 0) L.1.2.2 (by decide) (by decide)⟩
theorem hn_counter {o : Nat} {N0 : FM} {v : Int64} (z : Int32) (n10 : fm_is M 10 10 x1 = true) (e1 : FX1_counter x1 z M = some (v, N0)) (io : fm_is N0 902 902 o = true ∧ fm_in N0 o (Int32.ofInt 0) = true) : Fh_law_counter fN x1 z o M = some (Int32.ofInt 0, fm_sL N0 3 o 0 v) := by
  unfold Fh_law_counter FX0_counter FX0_counter_0 BX0_counter_0
  rw [fi_pos n10, e1, bi_s]
  try dsimp only
  rw [fi_pos io]
  rfl
theorem op_counter (Z : ZI bd hv m hq s dd x dk q rq r sg bl cr np mc ld x1 o s0 ln sc c M) (z : Int32) : OpG bd hv m hq s dd x dk q rq r sg bl cr np mc ld x1 o s0 ln sc (c + 1) id (Fh_law_counter fN x1 z o M) (fun N => FX92_counter m z N) := by
  obtain ⟨⟨B, Bk, Vv, ⟨b1, b2, b3⟩, Z⟩, L⟩ := Z
  obtain ⟨C, np4, np1, T, W, n92⟩ := cmp_Z Z
  have n10 := C.1.1
  by_cases hz : z < 0 ∨ nI np ≤ z
  · have n1 : fm_is (fm_exc M) 92 92 m = true := by rw [exc_is]; exact n92
    obtain ⟨Nt, ⟨h1, h2⟩, h3, Z2⟩ := Z_counter0 (Z_exc Z) hz
    have g := (gX92_counter m z (fm_exc M) (exc_ty T) n1 h1).1
    rw [h2] at g
    have kt' : WK lX92_counter (fm_exc M) Nt := wk_A (fun _ => trivial) (wX92_counter (SL lX92_counter) (fun _ => True) (fun _ h => h) m z (fm_exc M) (wi_A (h2 := z.toNatClampNeg) (fun _ => trivial) (wi_N (exc_wf W))) trivial rfl _ g)
    exact op_no L W n92 (rf_counter C np4 hz) (by decide) g kt' (by decide) h3 (zi_up ⟨b1, b2, b3⟩ Z2)
  · obtain ⟨h, _, rfl⟩ := nI_ex (fun q => hz (Or.inl q))
    have hh : h < np := Classical.byContradiction fun q => hz (Or.inr ((n_le (by omega) (by omega)).mpr (by omega)))
    obtain ⟨v, _, ⟨a1, a2⟩, _⟩ := Z_counter Z Z Z.1 hh
    have Z1 := Z_out (v := v) Z L.1.1 L.1.2.1
    have R1 := Z_mid (v := v) Z L.1.1 L.1.2.1
    obtain ⟨v', N2, ⟨_, c2⟩, ⟨h1, h2⟩, h3, Z2⟩ := Z_counter Z Z1 R1 hh
    have ev := (Prod.mk.inj (a2.symm.trans c2)).1
    rw [← ev] at h2
    have e1 := (gX1_counter x1 (nI h) M T n10 a1).1
    rw [a2] at e1
    have n1 : fm_is (fm_sL M 3 o 0 v) 92 92 m = true := n92
    have g := (gX92_counter m (nI h) (fm_sL M 3 o 0 v) (Z_r Z1).2.1 n1 h1).1
    rw [h2] at g
    have kt' : WK lX92_counter (fm_sL M 3 o 0 v) N2 := wk_A (fun _ => trivial) (wX92_counter (SL lX92_counter) (fun _ => True) (fun _ h => h) m (nI h) _ (wi_A (h2 := (nI h).toNatClampNeg) (fun _ => trivial) (wi_N (Z_r Z1).2.2)) trivial rfl _ g)
    exact op_mk (cv := id) L W n92 (hn_counter (nI h) n10 e1 (oi0 L)) g kt' (by decide) h3 (zi_up ⟨b1, b2, b3⟩ Z2)
theorem hn_mode {o : Nat} {N0 : FM} {v : Int32} (z : Int32) (n10 : fm_is M 10 10 x1 = true) (e1 : FX1_mode x1 z M = some (v, N0)) (io : fm_is N0 902 902 o = true ∧ fm_in N0 o (Int32.ofInt 0) = true) : Fh_law_mode fN x1 z o M = some (Int32.ofInt 0, fm_sL N0 3 o 0 v.toInt64) := by
  unfold Fh_law_mode FX0_mode FX0_mode_0 BX0_mode_0
  rw [fi_pos n10, e1, bi_s]
  try dsimp only
  rw [fi_pos io]
  rfl
theorem op_mode (Z : ZI bd hv m hq s dd x dk q rq r sg bl cr np mc ld x1 o s0 ln sc c M) (z : Int32) : OpG bd hv m hq s dd x dk q rq r sg bl cr np mc ld x1 o s0 ln sc (c + 1) Int32.toInt64 (Fh_law_mode fN x1 z o M) (fun N => FX92_mode m z N) := by
  obtain ⟨⟨B, Bk, Vv, ⟨b1, b2, b3⟩, Z⟩, L⟩ := Z
  obtain ⟨C, np4, np1, T, W, n92⟩ := cmp_Z Z
  have n10 := C.1.1
  by_cases hz : z < 0 ∨ nI np ≤ z
  · have n1 : fm_is (fm_exc M) 92 92 m = true := by rw [exc_is]; exact n92
    obtain ⟨Nt, ⟨h1, h2⟩, h3, Z2⟩ := Z_mode0 (Z_exc Z) hz
    have g := (gX92_mode m z (fm_exc M) (exc_ty T) n1 h1).1
    rw [h2] at g
    have kt' : WK lX92_mode (fm_exc M) Nt := wk_A (fun _ => trivial) (wX92_mode (SL lX92_mode) (fun _ => True) (fun _ h => h) m z (fm_exc M) (wi_A (h2 := z.toNatClampNeg) (fun _ => trivial) (wi_N (exc_wf W))) trivial rfl _ g)
    exact op_no L W n92 (rf_mode C np4 hz) (by decide) g kt' (by decide) h3 (zi_up ⟨b1, b2, b3⟩ Z2)
  · obtain ⟨h, _, rfl⟩ := nI_ex (fun q => hz (Or.inl q))
    have hh : h < np := Classical.byContradiction fun q => hz (Or.inr ((n_le (by omega) (by omega)).mpr (by omega)))
    obtain ⟨v, _, ⟨a1, a2⟩, _⟩ := Z_mode Z Z Z.1 hh
    have Z1 := Z_out (v := v.toInt64) Z L.1.1 L.1.2.1
    have R1 := Z_mid (v := v.toInt64) Z L.1.1 L.1.2.1
    obtain ⟨v', N2, ⟨_, c2⟩, ⟨h1, h2⟩, h3, Z2⟩ := Z_mode Z Z1 R1 hh
    have ev := (Prod.mk.inj (a2.symm.trans c2)).1
    rw [← ev] at h2
    have e1 := (gX1_mode x1 (nI h) M T n10 a1).1
    rw [a2] at e1
    have n1 : fm_is (fm_sL M 3 o 0 v.toInt64) 92 92 m = true := n92
    have g := (gX92_mode m (nI h) (fm_sL M 3 o 0 v.toInt64) (Z_r Z1).2.1 n1 h1).1
    rw [h2] at g
    have kt' : WK lX92_mode (fm_sL M 3 o 0 v.toInt64) N2 := wk_A (fun _ => trivial) (wX92_mode (SL lX92_mode) (fun _ => True) (fun _ h => h) m (nI h) _ (wi_A (h2 := (nI h).toNatClampNeg) (fun _ => trivial) (wi_N (Z_r Z1).2.2)) trivial rfl _ g)
    exact op_mk (cv := Int32.toInt64) L W n92 (hn_mode (nI h) n10 e1 (oi0 L)) g kt' (by decide) h3 (zi_up ⟨b1, b2, b3⟩ Z2)
theorem hn_register {o : Nat} {N0 : FM} {v : Int64} (z k : Int32) (n10 : fm_is M 10 10 x1 = true) (e1 : FX1_register x1 z k M = some (v, N0)) (io : fm_is N0 902 902 o = true ∧ fm_in N0 o (Int32.ofInt 0) = true) : Fh_law_register fN x1 z k o M = some (Int32.ofInt 0, fm_sL N0 3 o 0 v) := by
  unfold Fh_law_register FX0_register FX0_register_0 BX0_register_0
  rw [fi_pos n10, e1, bi_s]
  try dsimp only
  rw [fi_pos io]
  rfl
theorem op_register (Z : ZI bd hv m hq s dd x dk q rq r sg bl cr np mc ld x1 o s0 ln sc c M) (z : Int32) (k : Int32) : OpG bd hv m hq s dd x dk q rq r sg bl cr np mc ld x1 o s0 ln sc (c + 1) id (Fh_law_register fN x1 z k o M) (fun N => FX92_register m z k N) := by
  obtain ⟨⟨B, Bk, Vv, ⟨b1, b2, b3⟩, Z⟩, L⟩ := Z
  obtain ⟨C, np4, np1, T, W, n92⟩ := cmp_Z Z
  have n10 := C.1.1
  by_cases hz : z < 0 ∨ nI np ≤ z
  · have n1 : fm_is (fm_exc M) 92 92 m = true := by rw [exc_is]; exact n92
    obtain ⟨Nt, ⟨h1, h2⟩, h3, Z2⟩ := Z_register0 (Z_exc Z) (hz.elim Or.inl (fun q => Or.inr (Or.inl q)))
    have g := (gX92_register m z k (fm_exc M) (exc_ty T) n1 h1).1
    rw [h2] at g
    have kt' : WK lX92_register (fm_exc M) Nt := wk_A (fun _ => trivial) (wX92_register (SL lX92_register) (fun _ => True) (fun _ h => h) m z k (fm_exc M) (wi_A (h2 := z.toNatClampNeg) (fun _ => trivial) (wi_N (exc_wf W))) trivial rfl _ g)
    exact op_no L W n92 (rf_register C np4 (Or.inl hz)) (by decide) g kt' (by decide) h3 (zi_up ⟨b1, b2, b3⟩ Z2)
  · obtain ⟨h, _, rfl⟩ := nI_ex (fun q => hz (Or.inl q))
    have hh : h < np := Classical.byContradiction fun q => hz (Or.inr ((n_le (by omega) (by omega)).mpr (by omega)))
    by_cases hk : k < 0 ∨ Int32.ofInt 32 ≤ k
    · have hk' : k < 0 ∨ ¬ k ≤ Int32.ofInt 31 := hk.imp id (fun q y => by rw [le_ti] at q y; have e1 : (Int32.ofInt 32).toInt = 32 := rfl; have e2 : (Int32.ofInt 31).toInt = 31 := rfl; omega)
      have n1 : fm_is (fm_exc M) 92 92 m = true := by rw [exc_is]; exact n92
      obtain ⟨Nt, ⟨h1, h2⟩, h3, Z2⟩ := Z_register0 (Z_exc Z) (Or.inr (Or.inr hk'))
      have g := (gX92_register m (nI h) k (fm_exc M) (exc_ty T) n1 h1).1
      rw [h2] at g
      have kt' : WK lX92_register (fm_exc M) Nt := wk_A (fun _ => trivial) (wX92_register (SL lX92_register) (fun _ => True) (fun _ h => h) m (nI h) k (fm_exc M) (wi_A (h2 := (nI h).toNatClampNeg) (fun _ => trivial) (wi_N (exc_wf W))) trivial rfl _ g)
      exact op_no L W n92 (rf_register C np4 (Or.inr ⟨⟨h, hh, rfl⟩, hk⟩)) (by decide) g kt' (by decide) h3 (zi_up ⟨b1, b2, b3⟩ Z2)
    · obtain ⟨j, _, rfl⟩ := nI_ex (fun q => hk (Or.inl q))
      have hj : j < 32 := Classical.byContradiction fun q => hk (Or.inr (by rw [show Int32.ofInt 32 = nI 32 from rfl]; exact (n_le (by omega) (by omega)).mpr (by omega)))
      obtain ⟨v, _, ⟨a1, a2⟩, _⟩ := Z_register Z Z Z.1 hh hj
      have Z1 := Z_out (v := v) Z L.1.1 L.1.2.1
      have R1 := Z_mid (v := v) Z L.1.1 L.1.2.1
      obtain ⟨v', N2, ⟨_, c2⟩, ⟨h1, h2⟩, h3, Z2⟩ := Z_register Z Z1 R1 hh hj
      have ev := (Prod.mk.inj (a2.symm.trans c2)).1
      rw [← ev] at h2
      have e1 := (gX1_register x1 (nI h) (nI j) M T n10 a1).1
      rw [a2] at e1
      have n1 : fm_is (fm_sL M 3 o 0 v) 92 92 m = true := n92
      have g := (gX92_register m (nI h) (nI j) (fm_sL M 3 o 0 v) (Z_r Z1).2.1 n1 h1).1
      rw [h2] at g
      have kt' : WK lX92_register (fm_sL M 3 o 0 v) N2 := wk_A (fun _ => trivial) (wX92_register (SL lX92_register) (fun _ => True) (fun _ h => h) m (nI h) (nI j) _ (wi_A (h2 := (nI h).toNatClampNeg) (fun _ => trivial) (wi_N (Z_r Z1).2.2)) trivial rfl _ g)
      exact op_mk (cv := id) L W n92 (hn_register (nI h) (nI j) n10 e1 (oi0 L)) g kt' (by decide) h3 (zi_up ⟨b1, b2, b3⟩ Z2)
theorem hn_floating {o : Nat} {N0 : FM} {v : Int64} (z k : Int32) (n10 : fm_is M 10 10 x1 = true) (e1 : FX1_floating x1 z k M = some (v, N0)) (io : fm_is N0 902 902 o = true ∧ fm_in N0 o (Int32.ofInt 0) = true) : Fh_law_floating fN x1 z k o M = some (Int32.ofInt 0, fm_sL N0 3 o 0 v) := by
  unfold Fh_law_floating FX0_floating FX0_floating_0 BX0_floating_0
  rw [fi_pos n10, e1, bi_s]
  try dsimp only
  rw [fi_pos io]
  rfl
theorem op_floating (Z : ZI bd hv m hq s dd x dk q rq r sg bl cr np mc ld x1 o s0 ln sc c M) (z : Int32) (k : Int32) : OpG bd hv m hq s dd x dk q rq r sg bl cr np mc ld x1 o s0 ln sc (c + 1) id (Fh_law_floating fN x1 z k o M) (fun N => FX92_floating_2 m z k N) := by
  obtain ⟨⟨B, Bk, Vv, ⟨b1, b2, b3⟩, Z⟩, L⟩ := Z
  obtain ⟨C, np4, np1, T, W, n92⟩ := cmp_Z Z
  have n10 := C.1.1
  by_cases hz : z < 0 ∨ nI np ≤ z
  · have n1 : fm_is (fm_exc M) 92 92 m = true := by rw [exc_is]; exact n92
    obtain ⟨Nt, ⟨h1, h2⟩, h3, Z2⟩ := Z_floating0 (Z_exc Z) (hz.elim Or.inl (fun q => Or.inr (Or.inl q)))
    have g := (gX92_floating_2 m z k (fm_exc M) (exc_ty T) n1 h1).1
    rw [h2] at g
    have kt' : WK lX92_floating_2 (fm_exc M) Nt := wk_A (fun _ => trivial) (wX92_floating_2 (SL lX92_floating_2) (fun _ => True) (fun _ h => h) m z k (fm_exc M) (wi_A (h2 := z.toNatClampNeg) (fun _ => trivial) (wi_N (exc_wf W))) trivial rfl _ g)
    exact op_no L W n92 (rf_floating C np4 (Or.inl hz)) (by decide) g kt' (by decide) h3 (zi_up ⟨b1, b2, b3⟩ Z2)
  · obtain ⟨h, _, rfl⟩ := nI_ex (fun q => hz (Or.inl q))
    have hh : h < np := Classical.byContradiction fun q => hz (Or.inr ((n_le (by omega) (by omega)).mpr (by omega)))
    by_cases hk : k < 0 ∨ Int32.ofInt 32 ≤ k
    · have hk' : k < 0 ∨ ¬ k ≤ Int32.ofInt 31 := hk.imp id (fun q y => by rw [le_ti] at q y; have e1 : (Int32.ofInt 32).toInt = 32 := rfl; have e2 : (Int32.ofInt 31).toInt = 31 := rfl; omega)
      have n1 : fm_is (fm_exc M) 92 92 m = true := by rw [exc_is]; exact n92
      obtain ⟨Nt, ⟨h1, h2⟩, h3, Z2⟩ := Z_floating0 (Z_exc Z) (Or.inr (Or.inr hk'))
      have g := (gX92_floating_2 m (nI h) k (fm_exc M) (exc_ty T) n1 h1).1
      rw [h2] at g
      have kt' : WK lX92_floating_2 (fm_exc M) Nt := wk_A (fun _ => trivial) (wX92_floating_2 (SL lX92_floating_2) (fun _ => True) (fun _ h => h) m (nI h) k (fm_exc M) (wi_A (h2 := (nI h).toNatClampNeg) (fun _ => trivial) (wi_N (exc_wf W))) trivial rfl _ g)
      exact op_no L W n92 (rf_floating C np4 (Or.inr ⟨⟨h, hh, rfl⟩, hk⟩)) (by decide) g kt' (by decide) h3 (zi_up ⟨b1, b2, b3⟩ Z2)
    · obtain ⟨j, _, rfl⟩ := nI_ex (fun q => hk (Or.inl q))
      have hj : j < 32 := Classical.byContradiction fun q => hk (Or.inr (by rw [show Int32.ofInt 32 = nI 32 from rfl]; exact (n_le (by omega) (by omega)).mpr (by omega)))
      obtain ⟨v, _, ⟨a1, a2⟩, _⟩ := Z_floating Z Z Z.1 hh hj
      have Z1 := Z_out (v := v) Z L.1.1 L.1.2.1
      have R1 := Z_mid (v := v) Z L.1.1 L.1.2.1
      obtain ⟨v', N2, ⟨_, c2⟩, ⟨h1, h2⟩, h3, Z2⟩ := Z_floating Z Z1 R1 hh hj
      have ev := (Prod.mk.inj (a2.symm.trans c2)).1
      rw [← ev] at h2
      have e1 := (gX1_floating x1 (nI h) (nI j) M T n10 a1).1
      rw [a2] at e1
      have n1 : fm_is (fm_sL M 3 o 0 v) 92 92 m = true := n92
      have g := (gX92_floating_2 m (nI h) (nI j) (fm_sL M 3 o 0 v) (Z_r Z1).2.1 n1 h1).1
      rw [h2] at g
      have kt' : WK lX92_floating_2 (fm_sL M 3 o 0 v) N2 := wk_A (fun _ => trivial) (wX92_floating_2 (SL lX92_floating_2) (fun _ => True) (fun _ h => h) m (nI h) (nI j) _ (wi_A (h2 := (nI h).toNatClampNeg) (fun _ => trivial) (wi_N (Z_r Z1).2.2)) trivial rfl _ g)
      exact op_mk (cv := id) L W n92 (hn_floating (nI h) (nI j) n10 e1 (oi0 L)) g kt' (by decide) h3 (zi_up ⟨b1, b2, b3⟩ Z2)
theorem has_exc {r : Nat} {a b : Int64} (h : GX11_has r a b (fm_exc M) = (Int32.ofInt 0, fm_exc M)) : GX11_has r a b M = (Int32.ofInt 0, M) := by
  unfold GX11_has GX11_has_0 GX11_has_35 GX11_has_36 at *
  try dsimp only at *
  have e : ∀ f a i, (fm_exc M).1 f a i = M.1 f a i := fun _ _ _ => rfl
  have F : ∀ (p : Prop) (A B A' B' : Int32 × FM), (A = (Int32.ofInt 0, fm_exc M) → A' = (Int32.ofInt 0, M)) → (B = (Int32.ofInt 0, fm_exc M) → B' = (Int32.ofInt 0, M)) → fi p A B = (Int32.ofInt 0, fm_exc M) → fi p A' B' = (Int32.ofInt 0, M) := fun p A B A' B' h1 h2 h => by
    by_cases q : p
    · rw [fi_pos q] at h ⊢
      exact h1 h
    · rw [fi_neg q] at h ⊢
      exact h2 h
  have K : ∀ w : Int32, (w, fm_exc M) = (Int32.ofInt 0, fm_exc M) → (w, M) = (Int32.ofInt 0, M) := fun w q => by rw [(Prod.mk.inj q).1]
  revert h
  repeat (first | exact K _ | refine F _ _ _ _ _ ?_ ?_)
theorem place_exc {d : Nat} (h : GX23_isPlace d z (fm_exc M) = (Int32.ofInt 0, fm_exc M)) : GX23_isPlace d z M = (Int32.ofInt 0, M) := by
  unfold GX23_isPlace GX23_isPlace_0 GX23_isPlace_20 GX23_isPlace_21 at *
  try dsimp only at *
  have F : ∀ (p : Prop) (A B A' B' : Int32 × FM), (A = (Int32.ofInt 0, fm_exc M) → A' = (Int32.ofInt 0, M)) → (B = (Int32.ofInt 0, fm_exc M) → B' = (Int32.ofInt 0, M)) → fi p A B = (Int32.ofInt 0, fm_exc M) → fi p A' B' = (Int32.ofInt 0, M) := fun p A B A' B' h1 h2 h => by
    by_cases q : p
    · rw [fi_pos q] at h ⊢
      exact h1 h
    · rw [fi_neg q] at h ⊢
      exact h2 h
  have K : ∀ w : Int32, (w, fm_exc M) = (Int32.ofInt 0, fm_exc M) → (w, M) = (Int32.ofInt 0, M) := fun w q => by rw [(Prod.mk.inj q).1]
  revert h
  repeat (first | exact K _ | refine F _ _ _ _ _ ?_ ?_)
theorem hn_word {o : Nat} {N0 : FM} {v : Int64} (a : Int64) (n10 : fm_is M 10 10 x1 = true) (e1 : FX1_word x1 a M = some (v, N0)) (io : fm_is N0 902 902 o = true ∧ fm_in N0 o (Int32.ofInt 0) = true) : Fh_law_word fN x1 a o M = some (Int32.ofInt 0, fm_sL N0 3 o 0 v) := by
  unfold Fh_law_word FX0_word FX0_word_0 BX0_word_0
  rw [fi_pos n10, e1, bi_s]
  try dsimp only
  rw [fi_pos io]
  rfl
theorem op_word (Z : ZI bd hv m hq s dd x dk q rq r sg bl cr np mc ld x1 o s0 ln sc c M) (a : Int64) : OpG bd hv m hq s dd x dk q rq r sg bl cr np mc ld x1 o s0 ln sc (c + 1) id (Fh_law_word fN x1 a o M) (fun N => FX92_word fN m a N) := by
  obtain ⟨⟨B, Bk, Vv, ⟨b1, b2, b3⟩, Z⟩, L⟩ := Z
  obtain ⟨C, np4, np1, T, W, n92⟩ := cmp_Z Z
  have n10 := C.1.1
  by_cases hz : inR a 8
  · obtain ⟨v, _, ⟨a1, a2⟩, _⟩ := Z_word Z Z Z.1 hz
    have Z1 := Z_out (v := v) Z L.1.1 L.1.2.1
    have R1 := Z_mid (v := v) Z L.1.1 L.1.2.1
    obtain ⟨v', N2, ⟨_, c2⟩, ⟨h1, h2⟩, h3, Z2⟩ := Z_word Z Z1 R1 hz
    have ev := (Prod.mk.inj (a2.symm.trans c2)).1
    rw [← ev] at h2
    have e1 := (gX1_word x1 a M T n10 a1).1
    rw [a2] at e1
    have n1 : fm_is (fm_sL M 3 o 0 v) 92 92 m = true := n92
    have g := (gX92_word m a (fm_sL M 3 o 0 v) (Z_r Z1).2.1 n1 h1).1
    rw [h2] at g
    have kt' : WK lX92_word (fm_sL M 3 o 0 v) N2 := wX92_word (SL lX92_word) (fun _ => True) (fun _ h => h) fN m a _ (wi_N (Z_r Z1).2.2) trivial _ g
    exact op_mk (cv := id) L W n92 (hn_word a n10 e1 (oi0 L)) g kt' (by decide) h3 (zi_up ⟨b1, b2, b3⟩ Z2)
  · have n1 : fm_is (fm_exc M) 92 92 m = true := by rw [exc_is]; exact n92
    obtain ⟨Nt, hp0, ⟨h1, h2⟩, h3, Z2⟩ := Z_word0 (Z_exc Z) hz
    have hp : GX11_has r a (Int64.ofInt 8) M = (Int32.ofInt 0, M) := has_exc hp0
    have g := (gX92_word m a (fm_exc M) (exc_ty T) n1 h1).1
    rw [h2] at g
    have kt' : WK lX92_word (fm_exc M) Nt := wX92_word (SL lX92_word) (fun _ => True) (fun _ h => h) fN m a (fm_exc M) (wi_N (exc_wf W)) trivial _ g
    exact op_no L W n92 (rf_word T C hp) (by decide) g kt' (by decide) h3 (zi_up ⟨b1, b2, b3⟩ Z2)
theorem hn_disk {o : Nat} {N0 : FM} {v : Int32} (z : Int32) (n10 : fm_is M 10 10 x1 = true) (e1 : FX1_disk x1 z M = some (v, N0)) (io : fm_is N0 902 902 o = true ∧ fm_in N0 o (Int32.ofInt 0) = true) : Fh_law_disk fN x1 z o M = some (Int32.ofInt 0, fm_sL N0 3 o 0 v.toInt64) := by
  unfold Fh_law_disk FX0_disk FX0_disk_0 BX0_disk_0
  rw [fi_pos n10, e1, bi_s]
  try dsimp only
  rw [fi_pos io]
  rfl
theorem op_disk (Z : ZI bd hv m hq s dd x dk q rq r sg bl cr np mc ld x1 o s0 ln sc c M) (z : Int32) : OpG bd hv m hq s dd x dk q rq r sg bl cr np mc ld x1 o s0 ln sc (c + 1) Int32.toInt64 (Fh_law_disk fN x1 z o M) (fun N => FX92_disk m z N) := by
  obtain ⟨⟨B, Bk, Vv, ⟨b1, b2, b3⟩, Z⟩, L⟩ := Z
  obtain ⟨C, np4, np1, T, W, n92⟩ := cmp_Z Z
  have n10 := C.1.1
  by_cases hz : z < 0 ∨ nI 1048576 ≤ z
  · have n1 : fm_is (fm_exc M) 92 92 m = true := by rw [exc_is]; exact n92
    obtain ⟨Nt, hp0, ⟨h1, h2⟩, h3, Z2⟩ := Z_disk0 (Z_exc Z) hz
    have g := (gX92_disk m z (fm_exc M) (exc_ty T) n1 h1).1
    rw [h2] at g
    have kt' : WK lX92_disk (fm_exc M) Nt := wX92_disk (SL lX92_disk) (fun _ => True) (fun _ h => h) m z (fm_exc M) (wi_N (exc_wf W)) trivial _ g
    exact op_no L W n92 (rf_disk T C (place_exc hp0)) (by decide) g kt' (by decide) h3 (zi_up ⟨b1, b2, b3⟩ Z2)
  · obtain ⟨h, _, rfl⟩ := nI_ex (fun q => hz (Or.inl q))
    have hh : h < 1048576 := Classical.byContradiction fun q => hz (Or.inr ((n_le (by omega) (by omega)).mpr (by omega)))
    obtain ⟨v, _, ⟨a1, a2⟩, _⟩ := Z_disk Z Z Z.1 hh
    have Z1 := Z_out (v := v.toInt64) Z L.1.1 L.1.2.1
    have R1 := Z_mid (v := v.toInt64) Z L.1.1 L.1.2.1
    obtain ⟨v', N2, ⟨_, c2⟩, ⟨h1, h2⟩, h3, Z2⟩ := Z_disk Z Z1 R1 hh
    have ev := (Prod.mk.inj (a2.symm.trans c2)).1
    rw [← ev] at h2
    have e1 := (gX1_disk x1 (nI h) M T n10 a1).1
    rw [a2] at e1
    have n1 : fm_is (fm_sL M 3 o 0 v.toInt64) 92 92 m = true := n92
    have g := (gX92_disk m (nI h) (fm_sL M 3 o 0 v.toInt64) (Z_r Z1).2.1 n1 h1).1
    rw [h2] at g
    have kt' : WK lX92_disk (fm_sL M 3 o 0 v.toInt64) N2 := wX92_disk (SL lX92_disk) (fun _ => True) (fun _ h => h) m (nI h) _ (wi_N (Z_r Z1).2.2) trivial _ g
    exact op_mk (cv := Int32.toInt64) L W n92 (hn_disk (nI h) n10 e1 (oi0 L)) g kt' (by decide) h3 (zi_up ⟨b1, b2, b3⟩ Z2)
theorem hn_sum {o : Nat} {N0 : FM} {v : Int64} (a b : Int64) (n10 : fm_is M 10 10 x1 = true) (e1 : FX1_sum fN x1 a b M = some (v, N0)) (io : fm_is N0 902 902 o = true ∧ fm_in N0 o (Int32.ofInt 0) = true) : Fh_law_sum fN x1 a b o M = some (Int32.ofInt 0, fm_sL N0 3 o 0 v) := by
  unfold Fh_law_sum FX0_sum FX0_sum_0 BX0_sum_0
  rw [fi_pos n10, e1, bi_s]
  try dsimp only
  rw [fi_pos io]
  rfl
theorem op_sum (Z : ZI bd hv m hq s dd x dk q rq r sg bl cr np mc ld x1 o s0 ln sc c M) (a : Int64) (b : Int64) : OpG bd hv m hq s dd x dk q rq r sg bl cr np mc ld x1 o s0 ln sc (c + 1) id (Fh_law_sum fN x1 a b o M) (fun N => FX92_sum fN m a b N) := by
  obtain ⟨⟨B, Bk, Vv, ⟨b1, b2, b3⟩, Z⟩, L⟩ := Z
  obtain ⟨C, np4, np1, T, W, n92⟩ := cmp_Z Z
  have n10 := C.1.1
  by_cases hp : sumP a b
  · by_cases hr : b = a ∨ inR a (ul (b - a))
    · obtain ⟨v, _, ⟨a1, a2⟩, _⟩ := Z_sum Z Z Z.1 hp hr
      have Z1 := Z_out (v := v) Z L.1.1 L.1.2.1
      have R1 := Z_mid (v := v) Z L.1.1 L.1.2.1
      obtain ⟨v', N2, ⟨_, c2⟩, ⟨h1, h2⟩, h3, Z2⟩ := Z_sum Z Z1 R1 hp hr
      have ev := (Prod.mk.inj (a2.symm.trans c2)).1
      rw [← ev] at h2
      have e1 := (gX1_sum x1 a b M a1).1
      rw [a2] at e1
      have n1 : fm_is (fm_sL M 3 o 0 v) 92 92 m = true := n92
      have g := (gX92_sum m a b (fm_sL M 3 o 0 v) h1).1
      rw [h2] at g
      have kt' : WK lX92_sum (fm_sL M 3 o 0 v) N2 := wX92_sum (SL lX92_sum) (fun _ => True) (fun _ h => h) fN m a b _ (wi_N (Z_r Z1).2.2) trivial _ g
      exact op_mk (cv := id) L W n92 (hn_sum a b n10 e1 (oi0 L)) g kt' (by decide) h3 (zi_up ⟨b1, b2, b3⟩ Z2)
    · have n1 : fm_is (fm_exc M) 92 92 m = true := by rw [exc_is]; exact n92
      obtain ⟨Nt, hp0, ⟨h1, h2⟩, h3, Z2⟩ := Z_sum2 (Z_exc Z) hp hr
      have g := (gX92_sum m a b (fm_exc M) h1).1
      rw [h2] at g
      have kt' : WK lX92_sum (fm_exc M) Nt := wX92_sum (SL lX92_sum) (fun _ => True) (fun _ h => h) fN m a b (fm_exc M) (wi_N (exc_wf W)) trivial _ g
      exact op_no L W n92 (rf_sum2 T C hp (fun y => hr (Or.inl y)) (has_exc hp0)) (by decide) g kt' (by decide) h3 (zi_up ⟨b1, b2, b3⟩ Z2)
  · have n1 : fm_is (fm_exc M) 92 92 m = true := by rw [exc_is]; exact n92
    obtain ⟨Nt, ⟨h1, h2⟩, h3, Z2⟩ := Z_sum1 (Z_exc Z) hp
    have g := (gX92_sum m a b (fm_exc M) h1).1
    rw [h2] at g
    have kt' : WK lX92_sum (fm_exc M) Nt := wX92_sum (SL lX92_sum) (fun _ => True) (fun _ h => h) fN m a b (fm_exc M) (wi_N (exc_wf W)) trivial _ g
    exact op_no L W n92 (rf_sum1 C hp) (by decide) g kt' (by decide) h3 (zi_up ⟨b1, b2, b3⟩ Z2)
theorem hn_run {o : Nat} {N0 : FM} {v : Int32} (z : Int32) (n10 : fm_is M 10 10 x1 = true) (e1 : FX1_run fN x1 z M = some (v, N0)) (io : fm_is N0 902 902 o = true ∧ fm_in N0 o (Int32.ofInt 0) = true) : Fh_law_run fN x1 z o M = some (Int32.ofInt 0, fm_sL N0 3 o 0 v.toInt64) := by
  unfold Fh_law_run FX0_run FX0_run_0 BX0_run_0
  rw [fi_pos n10, e1, bi_s]
  try dsimp only
  rw [fi_pos io]
  rfl
theorem op_run (hc : c ≤ 1000) (Z : ZI bd hv m hq s dd x dk q rq r sg bl cr np mc ld x1 o s0 ln sc c M) (z : Int32) : OpG bd hv m hq s dd x dk q rq r sg bl cr np mc ld x1 o s0 ln sc (c + 1) Int32.toInt64 (Fh_law_run fN x1 z o M) (fun N => FX92_run fN m z N) := by
  obtain ⟨⟨B, Bk, Vv, ⟨b1, b2, b3⟩, Z⟩, L⟩ := Z
  obtain ⟨C, np4, np1, T, W, n92⟩ := cmp_Z Z
  have n10 := C.1.1
  by_cases hz : z < 0 ∨ ¬ z ≤ Int32.ofInt 10000
  · have n1 : fm_is (fm_exc M) 92 92 m = true := by rw [exc_is]; exact n92
    obtain ⟨Nt, ⟨h1, h2⟩, h3, Z2⟩ := Z_run0 (Z_exc Z) hz
    have g := (gX92_run m z (fm_exc M) h1).1
    rw [h2] at g
    have kt' : WK lX92_run (fm_exc M) Nt := wX92_run (SL lX92_run) (fun _ => True) (fun _ h => h) fN m z (fm_exc M) (wi_N (exc_wf W)) trivial (fun _ => trivial) _ g
    exact op_no L W n92 (rf_run C hz) (by decide) g kt' (by decide) h3 (zi_up ⟨b1, b2, b3⟩ Z2)
  · obtain ⟨j, _, rfl⟩ := nI_ex (fun q => hz (Or.inl q))
    have hj : j ≤ 10000 := Classical.byContradiction fun q => hz (Or.inr (fun y => by rw [show Int32.ofInt 10000 = nI 10000 from rfl] at y; have := (n_le (by omega) (by omega)).mp y; omega))
    obtain ⟨v, N0, ⟨a1, a2⟩, kc, F⟩ := Z_run Z L.1.1 L.1.2.1 hj (by omega) (by omega) (by omega)
    obtain ⟨N2, ⟨h1, h2⟩, h3, kt', Z2⟩ := F (nI v).toInt64
    have e1 := (gX1_run x1 (nI j) M T n10 (run_1 hj Z.2.2.2.1 a1 a2).1).1
    rw [(run_1 hj Z.2.2.2.1 a1 a2).2] at e1
    have L0 := lawI_k kc (by decide) W L
    have g := (gX92_run m (nI j) (fm_sL N0 3 o 0 (nI v).toInt64) h1).1
    rw [h2] at g
    exact op_mk (cv := Int32.toInt64) L0 kc.1.1 (kis kc W rfl n92) (hn_run (nI j) n10 e1 (oi0 L0)) g kt' (by decide) h3 ⟨_, _, _, by omega, Z2⟩
theorem hn_load {o : Nat} {N0 : FM} {v : Int32} (z : Int32) (a : Int64) (n10 : fm_is M 10 10 x1 = true) (e1 : FX1_load fN x1 z a M = some (v, N0)) (io : fm_is N0 902 902 o = true ∧ fm_in N0 o (Int32.ofInt 0) = true) : Fh_law_load fN x1 z a o M = some (Int32.ofInt 0, fm_sL N0 3 o 0 v.toInt64) := by
  unfold Fh_law_load FX0_load FX0_load_0 BX0_load_0
  rw [fi_pos n10, e1, bi_s]
  try dsimp only
  rw [fi_pos io]
  rfl
theorem op_load (Z : ZI bd hv m hq s dd x dk q rq r sg bl cr np mc ld x1 o s0 ln sc c M) (z : Int32) (a : Int64) : OpG bd hv m hq s dd x dk q rq r sg bl cr np mc ld x1 o s0 ln sc (c + 1) Int32.toInt64 (Fh_law_load fN x1 z a o M) (fun N => FX92_load fN m z a N) := by
  obtain ⟨⟨B, Bk, Vv, ⟨b1, b2, b3⟩, Z⟩, L⟩ := Z
  obtain ⟨C, np4, np1, T, W, n92⟩ := cmp_Z Z
  have n10 := C.1.1
  obtain ⟨l1, l2, ⟨X, n, LD⟩, _⟩ := id Z.2.2.1
  have hn : n ≤ 65536 := LD.2.1.2.2.2.1.2
  have tp := LD.2.1.2.2.1
  rw [← l2] at tp
  have zE := Z_exc Z
  have LDE : RelLd ld m r cr (fm_exc M) (fm_exc M) X n := by
    obtain ⟨_, _, ⟨X', n', LD'⟩, _⟩ := id zE.2.2.1
    obtain ⟨_, _, d3, _, d5⟩ := LD'
    obtain ⟨y1, y2⟩ := ldV_k (exc_k (S := []) W) ⟨dj_n (L := [262]) (by decide) 262 rfl, dj_n (L := [186]) (by decide) 186 rfl, dj_n (L := [187]) (by decide) 187 rfl, dj_n (L := [261]) (by decide) 261 rfl, dj_n (L := [202]) (by decide) 202 rfl, dj_n (L := [1261]) (by decide) 1261 rfl⟩ (exc_ty T) W LD.2.1
    obtain ⟨y3, y4⟩ := ltV_k (exc_k (S := []) W) ⟨dj_n (L := [309]) (by decide) 309 rfl, dj_n (L := [308]) (by decide) 308 rfl, dj_n (L := [298]) (by decide) 298 rfl, dj_n (L := [1308]) (by decide) 1308 rfl⟩ (exc_ty T) W LD.2.2.2.1
    exact ⟨relM_ram zE.1, y1, d3, y3, d5⟩
  have n1 : fm_is (fm_exc M) 92 92 m = true := by rw [exc_is]; exact n92
  have no : ∀ k : Int32, (z < 0 ∨ ¬ z ≤ Int32.ofInt 3 ∨ ldBad z a n) → (z < 0 ∨ ¬ z ≤ Int32.ofInt 3 → k = Int32.ofInt 1) → (¬ (z < 0 ∨ ¬ z ≤ Int32.ofInt 3) → k = Int32.ofInt 2) → Fh_law_load fN x1 z a o M = some (k, fm_exc M) → OpG bd hv m hq s dd x dk q rq r sg bl cr np mc ld x1 o s0 ln sc (c + 1) Int32.toInt64 (Fh_law_load fN x1 z a o M) (fun N => FX92_load fN m z a N) := fun k hb k1 k2 hf => by
    obtain ⟨Nt, ⟨h1, h2⟩, h3, Z2⟩ := Z_load0 zE LDE (hb.elim (fun y => Or.inl (Or.inl y)) (fun y => y.elim (fun y => Or.inl (Or.inr y)) Or.inr))
    have g := (gX92_load m z a (fm_exc M) h1).1
    rw [h2] at g
    have kt' : WK lX92_load (fm_exc M) Nt := wX92_load (SL lX92_load) (fun _ => True) (fun _ h => h) fN m z a (fm_exc M) (wi_N (exc_wf W)) trivial _ g
    have hk : k = fi (z < 0 ∨ ¬ z ≤ Int32.ofInt 3) (Int32.ofInt 1) (Int32.ofInt 2) := by
      by_cases y : z < 0 ∨ ¬ z ≤ Int32.ofInt 3
      · rw [fi_pos y]; exact k1 y
      · rw [fi_neg y]; exact k2 y
    have hk0 : ¬ k = 0 := by
      by_cases y : z < 0 ∨ ¬ z ≤ Int32.ofInt 3
      · rw [k1 y]; decide
      · rw [k2 y]; decide
    exact op_no L W n92 hf hk0 g kt' (by decide) (h3.trans hk.symm) (zi_up ⟨b1, b2, b3⟩ Z2)
  by_cases c0 : z < 0 ∨ ¬ z ≤ Int32.ofInt 3
  · exact no (Int32.ofInt 1) (c0.elim Or.inl (fun y => Or.inr (Or.inl y))) (fun _ => rfl) (fun y => absurd c0 y) (rf_load1 C c0)
  · by_cases cb : ldBad z a n
    · exact no (Int32.ofInt 2) (Or.inr (Or.inr cb)) (fun y => absurd y c0) (fun _ => rfl) (rf_load2 T (relM_ram Z.1).2.2.1 C tp.2.2.1 hn cb)
    · obtain ⟨v, N0, ⟨a1, a2⟩, F⟩ := Z_load Z LD L.1.1 L.1.2.1 (fun y => c0 (Or.inl y)) (Classical.byContradiction fun y => c0 (Or.inr y)) cb
      obtain ⟨N2, ⟨h1, h2⟩, h3, Z2⟩ := F v.toInt64
      have e1 := (gX1_load x1 z a M T n10 a1).1
      rw [a2] at e1
      have kc : WK lX1_load M N0 := wX1_load (SL lX1_load) (fun _ => True) (fun _ h => h) fN x1 z a M (wi_N W) trivial _ e1
      have L0 := lawI_k kc (by decide) W L
      have W0 := kc.1.1
      have k9 : WK [1000 + 9] N0 (fm_sL N0 3 o 0 v.toInt64) := WK_aL W0 L0.1.1 L0.1.2.1 _
      have g := (gX92_load m z a (fm_sL N0 3 o 0 v.toInt64) h1).1
      rw [h2] at g
      have kt' : WK lX92_load (fm_sL N0 3 o 0 v.toInt64) N2 := wX92_load (SL lX92_load) (fun _ => True) (fun _ h => h) fN m z a _ (wi_N k9.1.1) trivial _ g
      exact op_mk (cv := Int32.toInt64) L0 W0 (kis kc W rfl n92) (hn_load z a n10 e1 (oi0 L0)) g kt' (by decide) h3 ⟨_, _, _, by omega, Z2⟩
theorem hn_feed {o : Nat} {N0 : FM} {v : Int32} (e1 e2 e3 e4 e5 : Int32) (n10 : fm_is M 10 10 x1 = true) (f1_ : FX1_feed fN x1 e1 e2 e3 e4 e5 M = some (v, N0)) (io : fm_is N0 902 902 o = true ∧ fm_in N0 o (Int32.ofInt 0) = true) : Fh_law_feed fN x1 e1 e2 e3 e4 e5 o M = some (Int32.ofInt 0, fm_sL N0 3 o 0 v.toInt64) := by
  unfold Fh_law_feed FX0_feed FX0_feed_0 BX0_feed_0
  rw [fi_pos n10, f1_, bi_s]
  try dsimp only
  rw [fi_pos io]
  rfl
theorem op_feed (Z : ZI bd hv m hq s dd x dk q rq r sg bl cr np mc ld x1 o s0 ln sc c M) (e1 e2 e3 e4 e5 : Int32) : OpG bd hv m hq s dd x dk q rq r sg bl cr np mc ld x1 o s0 ln sc (c + 1) Int32.toInt64 (Fh_law_feed fN x1 e1 e2 e3 e4 e5 o M) (fun N => FX92_feed fN m e1 e2 e3 e4 e5 N) := by
  obtain ⟨⟨B, Bk, Vv, ⟨b1, b2, b3⟩, Z⟩, L⟩ := Z
  obtain ⟨C, np4, np1, T, W, n92⟩ := cmp_Z Z
  have n10 := C.1.1
  rcases Z_feed (e1 := e1) (e2 := e2) (e3 := e3) (e4 := e4) (e5 := e5) Z L.1.1 L.1.2.1 with ⟨v, N0, ⟨a1, a2⟩, F⟩ | ⟨hz, _⟩
  · obtain ⟨N2, ⟨h1, h2⟩, h3, Z2⟩ := F v.toInt64
    have f1_ := (gX1_feed x1 e1 e2 e3 e4 e5 M T n10 a1).1
    rw [a2] at f1_
    have kc : WK lX1_feed M N0 := wX1_feed (SL lX1_feed) (fun _ => True) (fun _ h => h) fN x1 e1 e2 e3 e4 e5 M (wi_N W) trivial _ f1_
    have L0 := lawI_k kc (by decide) W L
    have W0 := kc.1.1
    have k9 : WK [1000 + 9] N0 (fm_sL N0 3 o 0 v.toInt64) := WK_aL W0 L0.1.1 L0.1.2.1 _
    have g := (gX92_feed m e1 e2 e3 e4 e5 (fm_sL N0 3 o 0 v.toInt64) h1).1
    rw [h2] at g
    have kt' : WK lX92_feed (fm_sL N0 3 o 0 v.toInt64) N2 := wX92_feed (SL lX92_feed) (fun _ => True) (fun _ h => h) fN m e1 e2 e3 e4 e5 _ (wi_N k9.1.1) trivial _ g
    exact op_mk (cv := Int32.toInt64) L0 W0 (kis kc W rfl n92) (hn_feed e1 e2 e3 e4 e5 n10 f1_ (oi0 L0)) g kt' (by decide) h3 (zi_up ⟨b1, b2, b3⟩ Z2)
  · have n1 : fm_is (fm_exc M) 92 92 m = true := by rw [exc_is]; exact n92
    have hzE : ¬ (fm_exc M).1 262 ((fm_exc M).2.2 191 mc 0) 0 + Int32.ofInt 20 ≤ Int32.ofInt 65536 := by
      rw [exc_3 _ _ _ (by decide)]
      exact hz
    have zE := Z_exc Z
    have LE := lawI_k (S := []) (exc_k W) (by decide) W L
    rcases Z_feed (e1 := e1) (e2 := e2) (e3 := e3) (e4 := e4) (e5 := e5) zE LE.1.1 LE.1.2.1 with ⟨v, N0, ⟨a1, a2⟩, F⟩ | ⟨_, N2, ⟨h1, h2⟩, h3, Z2⟩
    · exact absurd (feed_in zE.2.2.2.1 a1) hzE
    · have g := (gX92_feed m e1 e2 e3 e4 e5 (fm_exc M) h1).1
      rw [h2] at g
      have kt' : WK lX92_feed (fm_exc M) N2 := wX92_feed (SL lX92_feed) (fun _ => True) (fun _ h => h) fN m e1 e2 e3 e4 e5 _ (wi_N (exc_wf W)) trivial _ g
      exact op_no L W n92 (rf_feed C hz) (by decide) g kt' (by decide) h3 (zi_up ⟨b1, b2, b3⟩ Z2)
theorem hn_control {o : Nat} {N0 : FM} {v : Int64} (z k : Int32) (n10 : fm_is M 10 10 x1 = true) (e1 : FX1_control fN x1 z k M = some (v, N0)) (io : fm_is N0 902 902 o = true ∧ fm_in N0 o (Int32.ofInt 0) = true) : Fh_law_control fN x1 z k o M = some (Int32.ofInt 0, fm_sL N0 3 o 0 v) := by
  unfold Fh_law_control FX0_control FX0_control_0 BX0_control_0
  rw [fi_pos n10, e1, bi_s]
  try dsimp only
  rw [fi_pos io]
  rfl
theorem op_control (Z : ZI bd hv m hq s dd x dk q rq r sg bl cr np mc ld x1 o s0 ln sc c M) (z k : Int32) : OpG bd hv m hq s dd x dk q rq r sg bl cr np mc ld x1 o s0 ln sc (c + 1) id (Fh_law_control fN x1 z k o M) (fun N => FX92_control fN m z k N) := by
  obtain ⟨⟨B, Bk, Vv, ⟨b1, b2, b3⟩, Z⟩, L⟩ := Z
  obtain ⟨C, np4, np1, T, W, n92⟩ := cmp_Z Z
  have n10 := C.1.1
  by_cases hz : z < 0 ∨ nI np ≤ z
  · have n1 : fm_is (fm_exc M) 92 92 m = true := by rw [exc_is]; exact n92
    obtain ⟨Nt, ⟨h1, h2⟩, h3, Z2⟩ := Z_control0 (y := k) (Z_exc Z) hz
    have g := (gX92_control m z k (fm_exc M) (exc_ty T) n1 h1).1
    rw [h2] at g
    have kt' : WK lX92_control (fm_exc M) Nt := wk_A (fun _ => trivial) (wX92_control (SL lX92_control) (fun _ => True) (fun _ h => h) fN m z k (fm_exc M) (wi_A (h2 := z.toNatClampNeg) (fun _ => trivial) (wi_N (exc_wf W))) trivial rfl _ g)
    exact op_no L W n92 (rf_control C np4 hz) (by decide) g kt' (by decide) h3 (zi_up ⟨b1, b2, b3⟩ Z2)
  · obtain ⟨h, _, rfl⟩ := nI_ex (fun q => hz (Or.inl q))
    have hh : h < np := Classical.byContradiction fun q => hz (Or.inr ((n_le (by omega) (by omega)).mpr (by omega)))
    obtain ⟨v, N0, ⟨a1, a2⟩, F⟩ := Z_control (k := k) Z L.1.1 L.1.2.1 hh
    obtain ⟨N2, ⟨h1, h2⟩, h3, Z2⟩ := F v
    have e1 := (gX1_control x1 (nI h) k M T n10 a1).1
    rw [a2] at e1
    have kc : WK lX1_control M N0 := wX1_control (SL lX1_control) (fun _ => True) (fun _ h => h) fN x1 (nI h) k M (wi_N W) trivial (fun _ => trivial) _ e1
    have L0 := lawI_k kc (by decide) W L
    have W0 := kc.1.1
    have T0 := (gX1_control x1 (nI h) k M T n10 a1).2.1
    rw [a2] at T0
    have k9 : WK [1000 + 9] N0 (fm_sL N0 3 o 0 v) := WK_aL W0 L0.1.1 L0.1.2.1 _
    have n92' : fm_is N0 92 92 m = true := kis kc W rfl n92
    have g := (gX92_control m (nI h) k (fm_sL N0 3 o 0 v) ⟨T0.1, T0.2⟩ n92' h1).1
    rw [h2] at g
    have kt' : WK lX92_control (fm_sL N0 3 o 0 v) N2 := wk_A (fun _ => trivial) (wX92_control (SL lX92_control) (fun _ => True) (fun _ h => h) fN m (nI h) k _ (wi_A (h2 := (nI h).toNatClampNeg) (fun _ => trivial) (wi_N k9.1.1)) trivial rfl _ g)
    exact op_mk (cv := id) L0 W0 (kis kc W rfl n92) (hn_control (nI h) k n10 e1 (oi0 L0)) g kt' (by decide) h3 (zi_up ⟨b1, b2, b3⟩ Z2)
end Op
