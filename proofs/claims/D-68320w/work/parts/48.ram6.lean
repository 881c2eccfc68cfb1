/-! the component's memory is written: reservations, a page, its frame -/
theorem sf_ne {M : FM} {a b s t lo hi : Nat} (W : Wf M) (h1 : Sf M a s) (h2 : Sf M b t) (hlo : Nat.ble 1 lo = true) (ha : fm_is M lo hi a = true) (hst : s ≠ t) : a ≠ b := by
  intro e
  have hn := fm_ist hlo ha
  have h0 := wf_n0 W hn
  rcases h1 with h1 | h1
  · exact h0 h1
  rcases h2 with h2 | h2
  · exact h0 (e.trans h2)
  · rw [e] at h1
    exact hst (h1.2.symm.trans h2.2)
def thit (fr to x : Int64) : Prop := ¬ (0 ≤ lg_cmp fr ((x &&& Int64.ofInt (-8)) + Int64.ofInt 8)) ∧ ¬ (lg_cmp to (x &&& Int64.ofInt (-8)) ≤ 0)
abbrev rsv (M : FM) (r p : Nat) : Nat := M.2.2 3 (M.2.2 205 r 0) p
noncomputable def rtM (r : Nat) (fr to : Int64) (k : Nat) (M : FM) : FM := (fun f b i => fi (f = 208 ∧ i = 0 ∧ (∃ p, p < k ∧ b = rsv M r p) ∧ thit fr to (M.2.1 207 b 0)) (Int32.ofInt 0) (M.1 f b i), M.2.1, M.2.2)
section Tc
variable {r : Nat} {M : FM} {fr to : Int64}
theorem rtM_0 : rtM r fr to 0 M = M := by
  refine Prod.ext ?_ rfl
  funext f b i
  exact fi_neg (fun q => by obtain ⟨_, _, ⟨p, hp, _⟩, _⟩ := q; exact Nat.not_lt_zero _ hp)
theorem rtM_ty {k : Nat} (T : Ty M) : Ty (rtM r fr to k M) := by
  have hB : ∀ f ∈ ty_B, f ≠ 208 := by decide
  refine ⟨T.1, fun f hf a i => ?_, fun a i ha => ?_⟩
  · show fi _ _ _ = 0 ∨ fi _ _ _ = 1
    rw [fi_neg (fun q => hB f hf q.1)]
    exact T.2.1 f hf a i
  · show fi _ _ _ = 0 ∨ fi _ _ _ = 1
    rw [fi_neg (fun q => absurd q.1 (by decide))]
    exact T.2.2 a i ha
theorem X12_touch (q : Nat) (M : FM) : GX12_touch q fr to M = (fun f b i => fi (f = 208 ∧ i = 0 ∧ b = q ∧ thit fr to (M.2.1 207 b 0)) (Int32.ofInt 0) (M.1 f b i), M.2.1, M.2.2) := by
  unfold GX12_touch GX12_touch_0 GX12_touch_33
  dsimp only
  by_cases h1 : 0 ≤ lg_cmp fr ((M.2.1 207 q 0 &&& Int64.ofInt (-8)) + Int64.ofInt 8)
  · rw [fi_pos h1]
    refine Prod.ext ?_ rfl
    funext f b i
    exact (fi_neg (fun z => by obtain ⟨_, _, rfl, z⟩ := z; exact z.1 h1)).symm
  · rw [fi_neg h1]
    by_cases h2 : lg_cmp to (M.2.1 207 q 0 &&& Int64.ofInt (-8)) ≤ 0
    · rw [fi_pos h2]
      refine Prod.ext ?_ rfl
      funext f b i
      exact (fi_neg (fun z => by obtain ⟨_, _, rfl, z⟩ := z; exact z.2 h2)).symm
    · rw [fi_neg h2]
      refine Prod.ext ?_ rfl
      funext f b i
      show (if f = 208 ∧ b = q ∧ i = 0 then _ else _) = fi _ _ _
      by_cases c : f = 208 ∧ b = q ∧ i = 0
      · rw [if_pos c]
        obtain ⟨rfl, rfl, rfl⟩ := c
        exact (fi_pos ⟨rfl, rfl, rfl, h1, h2⟩).symm
      · rw [if_neg c]
        exact (fi_neg (fun z => c ⟨z.1, z.2.2.1, z.2.1⟩)).symm
theorem rtM_s (k : Nat) : rtM r fr to (k + 1) M = GX12_touch (rsv M r k) fr to (rtM r fr to k M) := by
  rw [X12_touch]
  refine Prod.ext ?_ rfl
  funext f b i
  show fi _ _ _ = fi _ _ (fi _ _ _)
  by_cases h : f = 208 ∧ i = 0 ∧ b = rsv M r k ∧ thit fr to (M.2.1 207 b 0)
  · rw [fi_pos (show f = 208 ∧ i = 0 ∧ b = rsv M r k ∧ thit fr to ((rtM r fr to k M).2.1 207 b 0) from h), fi_pos ⟨h.1, h.2.1, ⟨k, by omega, h.2.2.1⟩, h.2.2.2⟩]
  · rw [fi_neg (show ¬ (f = 208 ∧ i = 0 ∧ b = rsv M r k ∧ thit fr to ((rtM r fr to k M).2.1 207 b 0)) from h)]
    refine fi_c ⟨fun ⟨q1, q2, ⟨p, q3, q4⟩, q5⟩ => ⟨q1, q2, ⟨p, ?_, q4⟩, q5⟩, fun ⟨q1, q2, ⟨p, q3, q4⟩, q5⟩ => ⟨q1, q2, ⟨p, by omega, q4⟩, q5⟩⟩
    have : p ≠ k := fun e => h ⟨q1, q2, by rw [← e]; exact q4, q5⟩
    omega
theorem X11_touch_L (T : Ty M) (n : fm_is M 73 73 r = true) : ∀ m j, m < j → m ≤ 4 →
    FX11_touch_L14 fN j fr to (M.2.2 205 r 0) (nI 4) (nI (4 - m)) (rtM r fr to (4 - m) M) = some (rtM r fr to 4 M) := by
  intro m
  induction m with
  | zero =>
    intro j hj hm
    obtain ⟨j, rfl⟩ : ∃ i, j = i + 1 := ⟨j - 1, by omega⟩
    show FX11_touch_14 fN (FX11_touch_L14 fN j) _ _ _ _ _ _ = _
    have hle : nI 4 ≤ nI (4 - 0) := by decide
    rw [(gX11_touch_14 _ fr to (M.2.2 205 r 0) _ _ (rtM r fr to _ M) (rtM_ty T) (tN_205 T.1 n) ⟨fun _ => trivial, fun q => absurd hle q⟩).1]
    unfold GX11_touch_14
    rw [fi_pos hle]
    rfl
  | succ m ih =>
    intro j hj hm
    obtain ⟨j, rfl⟩ : ∃ i, j = i + 1 := ⟨j - 1, by omega⟩
    have hle : ¬ nI 4 ≤ nI (4 - (m + 1)) := by
      rw [i_le (by decide) (by rw [ui_nI]; omega), ui_nI, ui_nI]
      omega
    have ik : fm_in M (M.2.2 205 r 0) (nI (4 - (m + 1))) = true := in_nI (tL_205 T.1 n) (by omega) (by decide)
    have ck : (nI (4 - (m + 1))).toNatClampNeg = 4 - (m + 1) := nI_clamp (by omega)
    have up : nI (4 - (m + 1)) + Int32.ofInt 1 = nI (4 - m) := by
      apply ui_inj
      rw [ui_add, ui_nI, ui_nI, show ui (Int32.ofInt 1) = 1 from rfl]
      omega
    show FX11_touch_14 fN (FX11_touch_L14 fN j) _ _ _ _ _ _ = _
    rw [(gX11_touch_14 _ fr to (M.2.2 205 r 0) _ _ (rtM r fr to _ M) (rtM_ty T) (tN_205 T.1 n) ⟨fun q => absurd q hle, fun _ => ⟨ik, trivial⟩⟩).1]
    unfold GX11_touch_14
    rw [fi_neg hle]
    dsimp only
    rw [ck]
    show FX11_touch_L14 fN j fr to (M.2.2 205 r 0) (nI 4) (nI (4 - (m + 1)) + Int32.ofInt 1) (GX12_touch (rsv M r (4 - (m + 1))) fr to (rtM r fr to (4 - (m + 1)) M)) = _
    rw [← rtM_s, up, ← ih j (by omega) (by omega), show 4 - m = 4 - (m + 1) + 1 from by omega]
theorem X11_touch (T : Ty M) (n : fm_is M 73 73 r = true) : HX11_touch r fr to M ∧ GX11_touch r fr to M = rtM r fr to 4 M := by
  have k : FX11_touch fN r fr to M = some (rtM r fr to 4 M) := by
    show FX11_touch_0 fN (FX11_touch_L14 fN fN) r fr to M = _
    rw [(gX11_touch_0 _ _ _ _ M T n).1]
    have h := X11_touch_L (fr := fr) (to := to) T n 4 fN (by unfold fN; omega) (Nat.le_refl _)
    rw [show 4 - 4 = 0 from rfl, rtM_0] at h
    unfold GX11_touch_0
    dsimp only
    rw [tL_205 T.1 n]
    exact h
  exact op_of (P := OkV M) (d := M) k ⟨rtM_ty T, fun _ _ => ⟨rfl, rfl⟩⟩
end Tc
/-- rows of pages are apart -/
def PgI (r : Nat) (M : FM) : Prop := ∀ p q, p < 1024 → q < 1024 → cpg M r p ≠ 0 → cpg M r q ≠ 0 → M.2.2 201 (cpg M r p) 0 = M.2.2 201 (cpg M r q) 0 → p = q
section Pt
variable {a : Nat} {M : FM} {at_ sz : Int32} {v : Int64}
theorem X91_put_fr : (GX91_put a at_ sz v M).1 = M.1 ∧ (GX91_put a at_ sz v M).2.2 = M.2.2 ∧ ∀ f b i, ¬ (f = 3 ∧ b = M.2.2 201 a 0) → (GX91_put a at_ sz v M).2.1 f b i = M.2.1 f b i := by
  have hm : (GX91_mask sz M).2 = M := by
    simp only [GX91_mask_20, GX91_mask_0, GX91_mask, fi_if]
    split <;> rfl
  unfold GX91_put GX91_put_0 GX91_put_106
  dsimp only
  rw [hm]
  by_cases hc : (Int32.ofInt 8 * (at_ &&& Int32.ofInt 7)) + (Int32.ofInt 8 * sz) ≤ Int32.ofInt 64
  · rw [fi_pos hc]
    exact ⟨rfl, rfl, fun f b i h => if_neg (fun q => h ⟨q.1, q.2.1⟩)⟩
  · rw [fi_neg hc]
    refine ⟨rfl, rfl, fun f b i h => ?_⟩
    rw [rL, if_neg (fun q => h ⟨q.1, q.2.1⟩), rL, if_neg (fun q => h ⟨q.1, q.2.1⟩)]
end Pt
section Pm
variable {r : Nat} {M : FM}
/-- a put into a page, by the bits of memory -/
theorem put_mb (T : Ty M) (n : fm_is M 73 73 r = true) (PI : PgI r M) {k at_ s : Nat} {p sz : Int32} (hk : k < 1024) (hp : ui p = at_) (hs : ui sz = s) (h1 : 1 ≤ s) (h8 : s ≤ 8) (hb : at_ + s ≤ 4096) (h : ¬ cpg M r k = 0) (v : Int64) :
    HX91_put (cpg M r k) p sz v M ∧ ∀ i, i < 33554432 → cmb (GX91_put (cpg M r k) p sz v M) r i = if 32768 * k + 8 * at_ ≤ i ∧ i < 32768 * k + 8 * (at_ + s) then lb v (i - (32768 * k + 8 * at_)) else cmb M r i := by
  obtain ⟨g1, g2⟩ := X91_put T (cpg_is T n hk h) hp hs h1 h8 hb v
  obtain ⟨f1, f2, f3⟩ := X91_put_fr (a := cpg M r k) (M := M) (at_ := p) (sz := sz) (v := v)
  refine ⟨g1, fun i hi => ?_⟩
  have ec : ∀ q, cpg (GX91_put (cpg M r k) p sz v M) r q = cpg M r q := fun q => by unfold cpg; rw [f2]
  by_cases hk2 : i / 32768 = k
  · rw [cmb_1 (by rw [ec, hk2]; exact h), ec, f2, hk2, g2 _ _ (by omega)]
    by_cases c : 32768 * k + 8 * at_ ≤ i ∧ i < 32768 * k + 8 * (at_ + s)
    · rw [if_pos c, if_pos (by omega), show 64 * (i / 64 % 512) + i % 64 - 8 * at_ = i - (32768 * k + 8 * at_) from by omega]
    · rw [if_neg c, if_neg (by omega), cmb_1 (by rw [hk2]; exact h), hk2]
  · rw [if_neg (by omega)]
    by_cases h0 : cpg M r (i / 32768) = 0
    · rw [cmb_0 h0, cmb_0 (by rw [ec]; exact h0)]
    · rw [cmb_1 h0, cmb_1 (by rw [ec]; exact h0), ec, f2, f3 _ _ _ (fun q => hk2 (PI _ _ (by omega) hk h0 h q.2))]
theorem put_pgi {k : Nat} {p sz : Int32} {v : Int64} (PI : PgI r M) : PgI r (GX91_put (cpg M r k) p sz v M) := by
  obtain ⟨f1, f2, f3⟩ := X91_put_fr (a := cpg M r k) (M := M) (at_ := p) (sz := sz) (v := v)
  unfold PgI cpg
  rw [f2]
  exact PI
/-- pages that are made -/
theorem mdM_c (T : Ty M) (W : Wf M) (n : fm_is M 73 73 r = true) {k : Nat} (hk : k < 1024) (PI : PgI r M) :
    PgI r (mdM r k M) ∧ cpg (mdM r k M) r k = mdg r k M ∧ mdg r k M ≠ 0 ∧ (∀ i, i < 33554432 → cmb (mdM r k M) r i = cmb M r i) ∧ (mdM r k M).1 = M.1 ∧ (mdM r k M).2.1 = M.2.1 ∧ (mdM r k M).2.2 203 r 0 = M.2.2 203 r 0 ∧ (mdM r k M).2.2 204 r 0 = M.2.2 204 r 0 ∧ (mdM r k M).2.2 205 r 0 = M.2.2 205 r 0 ∧ (∀ p, rsv (mdM r k M) r p = rsv M r p) ∧ (∀ q, q ≠ k → cpg (mdM r k M) r q = cpg M r q) := by
  by_cases h0 : M.2.2 3 (M.2.2 203 r 0) k = 0
  · rw [show mdM r k M = npM (M.2.2 203 r 0) k M from if_pos h0, show mdg r k M = fm_nx M from if_pos h0]
    have hP := tN_203 T.1 n
    have hPl : M.2.2 203 r 0 < fm_nx M := wf_lt W (fm_ist (lo := 920) rfl hP)
    have hrl : r < fm_nx M := wf_lt W (fm_ist (lo := 73) rfl n)
    have hQ := tN_205 T.1 n
    have hQl : M.2.2 205 r 0 < fm_nx M := wf_lt W (fm_ist (lo := 921) rfl hQ)
    have hPQ : M.2.2 205 r 0 ≠ M.2.2 203 r 0 := sf_ne W (sS_205 W n) (sS_203 W n) (lo := 921) rfl hQ (by decide)
    have hN := W.2.2.2
    have r3 : (npM (M.2.2 203 r 0) k M).2.2 203 r 0 = M.2.2 203 r 0 := npM_old W _ _ _ hrl (by decide) (by omega)
    have c1 : cpg (npM (M.2.2 203 r 0) k M) r k = fm_nx M := by
      unfold cpg
      rw [r3, npM_x, if_pos ⟨rfl, rfl, rfl⟩]
    have c2 : ∀ q, q ≠ k → cpg (npM (M.2.2 203 r 0) k M) r q = cpg M r q := by
      intro q hq
      unfold cpg
      rw [r3]
      exact npM_old W _ _ _ hPl (by decide) (fun z => hq z.2.2)
    have w1 : ∀ b, b < fm_nx M → (npM (M.2.2 203 r 0) k M).2.2 201 b 0 = M.2.2 201 b 0 := fun b hb => npM_old W _ _ _ hb (by decide) (by omega)
    have pl : ∀ q, q < 1024 → cpg M r q ≠ 0 → cpg M r q < fm_nx M ∧ M.2.2 201 (cpg M r q) 0 < fm_nx M := by
      intro q hq hz
      have := cpg_is T n hq hz
      exact ⟨wf_lt W (fm_ist (lo := 72) rfl this), wf_lt W (fm_ist (lo := 902) rfl (tN_201 T.1 this))⟩
    refine ⟨?_, c1, by omega, ?_, rfl, rfl, r3, npM_old W _ _ _ hrl (by decide) (by omega), npM_old W _ _ _ hrl (by decide) (by omega), ?_, c2⟩
    · intro p q hp hq h1 h2 h3
      by_cases ep : p = k <;> by_cases eq : q = k
      · rw [ep, eq]
      · rw [ep, c1, npM_w W] at h3
        rw [c2 q eq] at h2 h3
        obtain ⟨l1, l2⟩ := pl q hq h2
        rw [w1 _ l1] at h3
        omega
      · rw [eq, c1, npM_w W] at h3
        rw [c2 p ep] at h1 h3
        obtain ⟨l1, l2⟩ := pl p hp h1
        rw [w1 _ l1] at h3
        omega
      · rw [c2 p ep] at h1 h3
        rw [c2 q eq] at h2 h3
        rw [w1 _ (pl p hp h1).1, w1 _ (pl q hq h2).1] at h3
        exact PI p q hp hq h1 h2 h3
    · intro i hi
      by_cases ek : i / 32768 = k
      · rw [cmb_0 (M := M) (by rw [ek]; exact h0), cmb_1 (by rw [ek, c1]; omega), ek, c1, npM_w W]
        show lb (M.2.1 3 (fm_nx M + 1) _) _ = false
        rw [(W.1 (fm_nx M + 1) (by omega) 3 _).2.1]
        exact lb_0 _
      · by_cases hz : cpg M r (i / 32768) = 0
        · rw [cmb_0 hz, cmb_0 (by rw [c2 _ ek]; exact hz)]
        · rw [cmb_1 hz, cmb_1 (by rw [c2 _ ek]; exact hz), c2 _ ek, w1 _ (pl _ (by omega) hz).1]
          rfl
    · intro p
      unfold rsv
      rw [npM_old W 205 r 0 hrl (by decide) (by omega), npM_old W 3 _ _ hQl (by decide) (fun z => hPQ z.2.1)]
  · rw [show mdM r k M = M from if_neg h0, show mdg r k M = cpg M r k from if_neg h0]
    exact ⟨PI, rfl, h0, fun _ _ => rfl, rfl, rfl, rfl, rfl, rfl, fun _ => rfl, fun _ _ => rfl⟩
end Pm
