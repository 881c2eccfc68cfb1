/-! the machine: feeding and cutting the tape, both sides -/
set_option maxRecDepth 100000
theorem upf_4 {B X : Nat → Nat} {n c : Nat} {v : Int32} (h : ∀ i, i < 4 → B (c + i) = bN v i) : upf (bN v) (upf B X n c) (n + c) 4 = upf B X n (c + 4) := by
  show updX (updX (updX (updX (upf B X n c) (n + c + 0) (bN v 0)) (n + c + 1) (bN v 1)) (n + c + 2) (bN v 2)) (n + c + 3) (bN v 3) =
    updX (updX (updX (updX (upf B X n c) (n + c) (B c)) (n + (c + 1)) (B (c + 1))) (n + (c + 2)) (B (c + 2))) (n + (c + 3)) (B (c + 3))
  rw [h 1 (by decide), h 2 (by decide), h 3 (by decide), show B c = bN v 0 from h 0 (by decide)]
  rfl
section Tf
variable {t m n : Nat} {M : FM} {X B : Nat → Nat} {e1 e2 e3 e4 e5 : Int32}
def sel (e1 e2 e3 e4 e5 : Int32) (i : Nat) : Int32 := if i < 4 then e1 else if i < 8 then e2 else if i < 12 then e3 else if i < 16 then e4 else e5
def bF (e1 e2 e3 e4 e5 : Int32) (i : Nat) : Nat := bN (sel e1 e2 e3 e4 e5 i) (i % 4)
theorem bF_4 (v : Int32) {c : Nat} (hc : c % 4 = 0) (h : ∀ i, i < 4 → sel e1 e2 e3 e4 e5 (c + i) = v) : ∀ i, i < 4 → bF e1 e2 e3 e4 e5 (c + i) = bN v i := fun i hi => by
  unfold bF
  rw [h i hi, show (c + i) % 4 = i by omega]
theorem shf {i : Nat} (hi : i < 20) : Int32.ofInt 24 - Int32.ofInt 8 * (nI i - nI i / Int32.ofInt 4 * Int32.ofInt 4) = nI (24 - 8 * (i % 4)) := by
  rw [show Int32.ofInt 4 = nI 4 from rfl, n_rest (by omega) (by decide)]
  have e : i % 4 = 0 ∨ i % 4 = 1 ∨ i % 4 = 2 ∨ i % 4 = 3 := by omega
  rcases e with e | e | e | e <;> rw [e] <;> decide
theorem tf_86 {i k : Nat} (hi : i < 20) (hk : k < 65536) {Y : Nat → Nat} (T : Ty M) (h : TpT m M Y k) : HX92_feed_86 m e1 e2 e3 e4 e5 (nI i) (sel e1 e2 e3 e4 e5 i) M ∧
    ∃ N, GX92_feed_86 m e1 e2 e3 e4 e5 (nI i) (sel e1 e2 e3 e4 e5 i) M = .inl (m, e1, e2, e3, e4, e5, nI (i + 1), N) ∧ TpT m N (updX Y k (bF e1 e2 e3 e4 e5 i)) (k + 1) ∧ Ty N ∧ N.2 = M.2 ∧ N.1 296 m 0 = M.1 296 m 0 := by
  obtain ⟨n92, h309, h308⟩ := h
  constructor
  · unfold HX92_feed_86
    try dsimp only
    rw [h309]
    exact ⟨in_nI (tL_308 T.1 n92) hk (by decide), trivial⟩
  · have e : GX92_feed_86 m e1 e2 e3 e4 e5 (nI i) (sel e1 e2 e3 e4 e5 i) M = .inl (m, e1, e2, e3, e4, e5, nI (i + 1), fm_sI (fm_sI M 3 (M.2.2 308 m 0) k (nI (bF e1 e2 e3 e4 e5 i))) 309 m 0 (nI (k + 1))) := by
      unfold GX92_feed_86 bF bN
      try dsimp only
      rw [shf hi, i255, h309, o_cl (by omega), rIf (by decide), h309, nI_s (by omega), nI_s (by omega)]
    refine ⟨_, e, ⟨n92, ?_, fun j hj => ?_⟩, ⟨T.1, tyb_sI rfl (tyb_s3 (t := 901) rfl T.2 (tN_308 T.1 n92))⟩, rfl, ?_⟩
    · rw [rIe]
    · show (fm_sI (fm_sI M 3 (M.2.2 308 m 0) k (nI (bF e1 e2 e3 e4 e5 i))) 309 m 0 (nI (k + 1))).1 3 (M.2.2 308 m 0) j = nI (updX Y k (bF e1 e2 e3 e4 e5 i) j)
      unfold updX
      rw [rIf (by decide)]
      by_cases c : j = k
      · rw [if_pos c, c, rIe]
      · rw [if_neg c, rI, if_neg (fun q => c q.2.2)]
        exact h308 j hj
    · rw [rIf (by decide), rIf (by decide)]
theorem tf_33 {i : Nat} (hi : i < 20) : (HX92_feed_86 m e1 e2 e3 e4 e5 (nI i) (sel e1 e2 e3 e4 e5 i) M → HX92_feed_33 m e1 e2 e3 e4 e5 (nI i) M) ∧ GX92_feed_33 m e1 e2 e3 e4 e5 (nI i) M = GX92_feed_86 m e1 e2 e3 e4 e5 (nI i) (sel e1 e2 e3 e4 e5 i) M := by
  have le := fun (c : Nat) (hc : c < 100) => n_le (a := c) (b := i) (by omega) (by omega)
  have c20 : (Int32.ofInt 20 ≤ nI i) = (20 ≤ i) := propext (le 20 (by decide))
  have c4 : (Int32.ofInt 4 ≤ nI i) = (4 ≤ i) := propext (le 4 (by decide))
  have c8 : (Int32.ofInt 8 ≤ nI i) = (8 ≤ i) := propext (le 8 (by decide))
  have c12 : (Int32.ofInt 12 ≤ nI i) = (12 ≤ i) := propext (le 12 (by decide))
  have c16 : (Int32.ofInt 16 ≤ nI i) = (16 ≤ i) := propext (le 16 (by decide))
  unfold HX92_feed_33 GX92_feed_33 sel
  rw [c20, c4, c8, c12, c16, fi_neg (show ¬ 20 ≤ i by omega)]
  by_cases d4 : i < 4
  · rw [if_pos d4, fi_neg (show ¬ 4 ≤ i by omega)]
    exact ⟨fun h => ⟨fun q => by omega, fun _ => ⟨fun q => by omega, fun _ => h⟩⟩, rfl⟩
  rw [if_neg d4, fi_pos (show 4 ≤ i by omega)]
  by_cases d8 : i < 8
  · rw [if_pos d8, fi_neg (show ¬ 8 ≤ i by omega)]
    exact ⟨fun h => ⟨fun q => by omega, fun _ => ⟨fun _ => ⟨fun q => by omega, fun _ => h⟩, fun q => by omega⟩⟩, rfl⟩
  rw [if_neg d8, fi_pos (show 8 ≤ i by omega)]
  by_cases d12 : i < 12
  · rw [if_pos d12, fi_neg (show ¬ 12 ≤ i by omega)]
    exact ⟨fun h => ⟨fun q => by omega, fun _ => ⟨fun _ => ⟨fun _ => ⟨fun q => by omega, fun _ => h⟩, fun q => by omega⟩, fun q => by omega⟩⟩, rfl⟩
  rw [if_neg d12, fi_pos (show 12 ≤ i by omega)]
  by_cases d16 : i < 16
  · rw [if_pos d16, fi_neg (show ¬ 16 ≤ i by omega)]
    exact ⟨fun h => ⟨fun q => by omega, fun _ => ⟨fun _ => ⟨fun _ => ⟨fun _ => ⟨fun q => by omega, fun _ => h⟩, fun q => by omega⟩, fun q => by omega⟩, fun q => by omega⟩⟩, rfl⟩
  rw [if_neg d16, fi_pos (show 16 ≤ i by omega)]
  exact ⟨fun h => ⟨fun q => by omega, fun _ => ⟨fun _ => ⟨fun _ => ⟨fun _ => ⟨fun _ => h, fun q => by omega⟩, fun q => by omega⟩, fun q => by omega⟩, fun q => by omega⟩⟩, rfl⟩
theorem tf_L (hn : n + 20 ≤ 65536) : ∀ (k i : Nat) (M : FM), i + k = 20 → Ty M → TpT m M (upf (bF e1 e2 e3 e4 e5) X n i) (n + i) → ∀ j, k < j →
    ∃ N, FX92_feed_L33 fN j m e1 e2 e3 e4 e5 (nI i) M = some (nI (n + 20), N) ∧ TpT m N (upf (bF e1 e2 e3 e4 e5) X n 20) (n + 20) ∧ Ty N ∧ N.2 = M.2 ∧ N.1 296 m 0 = M.1 296 m 0
  | 0, i, M, hi, T, h, j, hj => by
    obtain ⟨j, rfl⟩ : ∃ z, j = z + 1 := ⟨j - 1, by omega⟩
    have e : i = 20 := by omega
    subst e
    have c : Int32.ofInt 20 ≤ nI 20 := by decide
    refine ⟨M, ?_, h, T, rfl, rfl⟩
    have G := (gX92_feed_33 (FX92_feed_L33 fN j) m e1 e2 e3 e4 e5 (nI 20) M T h.1 ⟨fun _ => trivial, fun q => absurd c q⟩).1
    show FX92_feed_33 fN (FX92_feed_L33 fN j) m e1 e2 e3 e4 e5 (nI 20) M = _
    rw [G]
    unfold GX92_feed_33
    try dsimp only
    rw [fi_pos c, h.2.1]
    rfl
  | k + 1, i, M, hi, T, h, j, hj => by
    obtain ⟨j, rfl⟩ : ∃ z, j = z + 1 := ⟨j - 1, by omega⟩
    obtain ⟨a1, N, a2, a3, a4, a5, a6⟩ := tf_86 (e1 := e1) (e2 := e2) (e3 := e3) (e4 := e4) (e5 := e5) (i := i) (by omega) (by omega) T h
    obtain ⟨b1, b2⟩ := tf_33 (m := m) (M := M) (e1 := e1) (e2 := e2) (e3 := e3) (e4 := e4) (e5 := e5) (i := i) (by omega)
    obtain ⟨N2, c1, c2, c3, c4, c5⟩ := tf_L hn k (i + 1) N (by omega) a4 a3 j (by omega)
    refine ⟨N2, ?_, c2, c3, c4.trans a5, c5.trans a6⟩
    have G := (gX92_feed_33 (FX92_feed_L33 fN j) m e1 e2 e3 e4 e5 (nI i) M T h.1 (b1 a1)).1
    show FX92_feed_33 fN (FX92_feed_L33 fN j) m e1 e2 e3 e4 e5 (nI i) M = _
    rw [G, b2, a2]
    exact c1
end Tf
section Fe
variable {bd hv m hq s dd x dk q rq r sg bl cr np mc : Nat} {B Bk Vv x1 ld n : Nat} {Mc Mt : FM} {X : Nat → Nat} {e1 e2 e3 e4 e5 z : Int32}
/-- the tape, both sides -/
theorem relL_t (L : RelL mc ld m r cr Mc Mt) : ∃ X n, TpR (Mc.2.2 191 mc 0) Mc X n ∧ TpT m Mt X n ∧ TpX X n := by
  obtain ⟨h1, h2, ⟨X, n, h3⟩, h4⟩ := L
  refine ⟨X, n, ?_, h3.2.2.2.1.2.1, h3.2.1.2.2.2.1⟩
  rw [h2]
  exact h3.2.1.2.2.1
/-- the tape is another, the rest is as it was -/
theorem relL_n {Nc Nt : FM} {X' : Nat → Nat} {n' : Nat} (L : RelL mc ld m r cr Mc Mt) (RR : RelRam r cr Nc Nt) (h2 : Nc.2.2 = Mc.2.2) (hL : Nc.2.1 = Mc.2.1) (g2 : Nt.2 = Mt.2)
    (a1 : TpR (Mc.2.2 191 mc 0) Nc X' n') (a2 : TpT m Nt X' n') (a3 : TpX X' n') : RelL mc ld m r cr Nc Nt := by
  obtain ⟨k1, k2, ⟨X, n, ⟨_, v1, v2, v3, v4⟩⟩, k5, k6⟩ := L
  obtain ⟨u1, u2, u3, u4, u5⟩ := v1
  refine ⟨by rw [h2]; exact k1, by rw [h2]; exact k2, ⟨X', n', RR, ⟨RR.1.1, ?_, ?_, a3, ?_⟩, by rw [h2]; exact v2, ⟨RR.2.1.1, a2, a3⟩, by rw [g2]; exact v4⟩, ?_⟩
  · unfold fm_is at *
    rw [h2]
    exact u2
  · rw [h2, ← k2]
    exact a1
  · rw [h2, v2]
    exact RR.2.2.1
  · rw [hL, g2]
    exact ⟨k5, k6⟩
theorem O_feed (R : RelM bd hv m hq s dd x dk q rq r sg bl cr np mc B Bk Vv Mc Mt) (Q : RelR mc m B Mc Mt) (L : RelL mc ld m r cr Mc Mt) (xm : XM x1 mc Mc) :
    (∃ v Nc Nt, (HX1_feed x1 e1 e2 e3 e4 e5 Mc ∧ GX1_feed x1 e1 e2 e3 e4 e5 Mc = (v, Nc)) ∧ (HX92_feed m e1 e2 e3 e4 e5 Mt ∧ GX92_feed m e1 e2 e3 e4 e5 Mt = (v, Nt)) ∧ RelM bd hv m hq s dd x dk q rq r sg bl cr np mc B Bk Vv Nc Nt ∧ RelR mc m B Nc Nt ∧ RelL mc ld m r cr Nc Nt ∧
      Nt.1 296 m 0 = 0 ∧ Sm m sg Nt Mt ∧ WK lX1_feed Mc Nc ∧ WK lX92_feed Mt Nt ∧ RamQ r Mc Nc) ∨
    (¬ Mc.1 262 (Mc.2.2 191 mc 0) 0 + Int32.ofInt 20 ≤ Int32.ofInt 65536 ∧ HX92_feed m e1 e2 e3 e4 e5 Mt ∧ GX92_feed m e1 e2 e3 e4 e5 Mt = (Int32.ofInt 0, fm_sI Mt 296 m 0 (Int32.ofInt 1))) := by
  have RR := relM_ram R
  have n92 := (relM_m R).1
  obtain ⟨X, n, t1, t2, ⟨hX, hn⟩⟩ := relL_t L
  have s262 : Mc.1 262 (Mc.2.2 191 mc 0) 0 + Int32.ofInt 20 = nI (n + 20) := by
    rw [t1.2.2.1]
    exact ui_inj (by rw [ui_add, ui_nI, ui_nI, show ui (Int32.ofInt 20) = 20 from rfl]; omega)
  have s309 : Mt.1 309 m 0 + Int32.ofInt 20 = nI (n + 20) := by
    rw [t2.2.1]
    exact ui_inj (by rw [ui_add, ui_nI, ui_nI, show ui (Int32.ofInt 20) = 20 from rfl]; omega)
  have c65 : nI (n + 20) ≤ Int32.ofInt 65536 ↔ n + 20 ≤ 65536 := n_le (b := 65536) (by omega) (by decide)
  have G0 := (gX92_feed_0 (FX92_feed_L33 fN fN) m e1 e2 e3 e4 e5 Mt RR.2.1.1 n92).1
  by_cases c : n + 20 ≤ 65536
  · left
    -- the twin
    obtain ⟨R1, k1⟩ := ob_296 R (Int32.ofInt 0)
    have RR1 := relM_ram R1
    have t2' : TpT m (fm_sI Mt 296 m 0 (Int32.ofInt 0)) X n := ⟨n92, (rIf (by decide)).trans t2.2.1, fun j hj => (rIf (by decide)).trans (t2.2.2 j hj)⟩
    obtain ⟨Nt, w1_, w2_, w3_, w4_, w5_⟩ := tf_L (e1 := e1) (e2 := e2) (e3 := e3) (e4 := e4) (e5 := e5) (m := m) c 20 0 (fm_sI Mt 296 m 0 (Int32.ofInt 0)) rfl RR1.2.1.1 t2' fN (by unfold fN; omega)
    have Ax : FX92_feed fN m e1 e2 e3 e4 e5 Mt = some (nI (n + 20), Nt) := by
      show FX92_feed_0 fN (FX92_feed_L33 fN fN) m e1 e2 e3 e4 e5 Mt = _
      rw [G0]
      unfold GX92_feed_0 GX92_feed_18
      try dsimp only
      rw [s309, fi_pos (c65.mpr c), fi_pos (show (fm_sI Mt 296 m 0 (Int32.ofInt 0)).1 296 m 0 ≤ 0 by rw [rIe]; decide)]
      exact w1_
    have kt : WK lX92_feed Mt Nt := wX92_feed (SL lX92_feed) (fun _ => True) (fun _ h => h) fN m e1 e2 e3 e4 e5 Mt (wi_N RR.2.1.2.1) trivial _ Ax
    obtain ⟨f1, f2⟩ := op_of (d := ((0 : Int32), Mt)) Ax (P := OkR Mt) ⟨w3_, wk_ext RR.2.1.2.1 kt⟩
    -- the component
    have bl := fun (v : Int32) (c : Nat) (hc : c % 4 = 0) h => upf_4 (X := X) (n := n) (c := c) (bF_4 (e1 := e1) (e2 := e2) (e3 := e3) (e4 := e4) (e5 := e5) v hc h)
    obtain ⟨a1, a2, a3, a4⟩ := tp_num RR.1.1 t1 (by omega) e1
    rw [show upf (bN e1) X n 4 = upf (bF e1 e2 e3 e4 e5) X n 4 from bl e1 0 rfl (fun i hi => if_pos (by omega))] at a2
    obtain ⟨b1, b2, b3, b4⟩ := tp_num a3 a2 (by omega) e2
    rw [bl e2 4 rfl (fun i hi => by unfold sel; rw [if_neg (by omega), if_pos (by omega)])] at b2
    obtain ⟨c1, c2, c3, c4⟩ := tp_num b3 b2 (by omega) e3
    rw [show n + 4 + 4 = n + 8 from rfl, bl e3 8 rfl (fun i hi => by unfold sel; rw [if_neg (by omega), if_neg (by omega), if_pos (by omega)])] at c2
    obtain ⟨d1, d2, d3, d4⟩ := tp_num c3 c2 (by omega) e4
    rw [show n + 8 + 4 = n + 12 from rfl, bl e4 12 rfl (fun i hi => by unfold sel; rw [if_neg (by omega), if_neg (by omega), if_neg (by omega), if_pos (by omega)])] at d2
    obtain ⟨g1, g2, g3, g4⟩ := tp_num d3 d2 (by omega) e5
    rw [show n + 12 + 4 = n + 16 from rfl, bl e5 16 rfl (fun i hi => by unfold sel; rw [if_neg (by omega), if_neg (by omega), if_neg (by omega), if_neg (by omega)])] at g2
    generalize hA : GX3_addNumber (Mc.2.2 191 mc 0) e1 Mc = MA at *
    generalize hB : GX3_addNumber (Mc.2.2 191 mc 0) e2 MA = MB at *
    generalize hC : GX3_addNumber (Mc.2.2 191 mc 0) e3 MB = MC at *
    generalize hD : GX3_addNumber (Mc.2.2 191 mc 0) e4 MC = MD at *
    generalize hE : GX3_addNumber (Mc.2.2 191 mc 0) e5 MD = ME at *
    have z2 : MA.2.2 = Mc.2.2 := by rw [a4]
    have z3 : MB.2.2 = Mc.2.2 := by rw [b4]; exact z2
    have z4 : MC.2.2 = Mc.2.2 := by rw [c4]; exact z3
    have z5 : MD.2.2 = Mc.2.2 := by rw [d4]; exact z4
    have z6' : ME.2 = Mc.2 := g4.trans (d4.trans (c4.trans (b4.trans a4)))
    have z6 : ME.2.2 = Mc.2.2 := by rw [z6']
    have hG : GX1_feed x1 e1 e2 e3 e4 e5 Mc = (nI (n + 20), ME) := by
      unfold GX1_feed GX1_feed_0
      try dsimp only
      rw [xm.2, s262, fi_pos (c65.mpr c), hA, z2, xm.2, hB, z3, xm.2, hC, z4, xm.2, hD, z5, xm.2, hE, z6, xm.2, g2.2.2.1]
    have hH : HX1_feed x1 e1 e2 e3 e4 e5 Mc := by
      unfold HX1_feed HX1_feed_0
      try dsimp only
      rw [xm.2, s262]
      refine ⟨fun _ => ⟨a1, ?_⟩, fun q => absurd (c65.mpr c) q⟩
      try dsimp only
      rw [hA, z2, xm.2]
      refine ⟨b1, ?_⟩
      try dsimp only
      rw [hB, z3, xm.2]
      refine ⟨c1, ?_⟩
      try dsimp only
      rw [hC, z4, xm.2]
      refine ⟨d1, ?_⟩
      try dsimp only
      rw [hD, z5, xm.2]
      exact ⟨g1, trivial⟩
    have gf := gX1_feed x1 e1 e2 e3 e4 e5 Mc RR.1.1 xm.1 hH
    rw [hG] at gf
    have kc : WK lX1_feed Mc ME := wX1_feed (SL lX1_feed) (fun _ => True) (fun _ h => h) fN x1 e1 e2 e3 e4 e5 Mc (wi_N RR.1.2.1) trivial _ gf.1
    obtain ⟨_, _, _, _, _, ⟨ow, Ow⟩, ⟨ow', Ow'⟩, _⟩ := id R
    have gt2 : Nt.2 = Mt.2 := w4_
    obtain ⟨R2, rq⟩ := M_k R kc kt (by decide) (by decide) g3 w3_ ⟨_, own_n z6 Ow⟩ ⟨_, own_n (by rw [gt2]) Ow'⟩
    have Q2 := relR_k (B' := B) kc kt (by decide) (by decide) RR.1.1 RR.1.2.1 RR.2.1.1 RR.2.1.2.1 R.1 n92 (Nat.le_refl _) Q
    have L2 : RelL mc ld m r cr ME Nt := relL_n L (relM_ram R2) z6 (by rw [z6']) gt2 g2 w2_ ⟨fun k => upf_lt hX (fun i => Nat.mod_lt _ (by decide)) 20 k, by omega⟩
    exact ⟨nI (n + 20), ME, Nt, ⟨hH, hG⟩, ⟨f1, f2⟩, R2, Q2, L2, w5_.trans (rIe _), ⟨by rw [gt2], by rw [gt2]⟩, kc, kt, rq⟩
  · right
    obtain ⟨R1, k1⟩ := ob_296 R (Int32.ofInt 1)
    have cc : ¬ nI (n + 20) ≤ Int32.ofInt 65536 := fun q => c (c65.mp q)
    refine ⟨by rw [s262]; exact cc, ?_⟩
    have Ax : FX92_feed fN m e1 e2 e3 e4 e5 Mt = some (Int32.ofInt 0, fm_sI Mt 296 m 0 (Int32.ofInt 1)) := by
      show FX92_feed_0 fN (FX92_feed_L33 fN fN) m e1 e2 e3 e4 e5 Mt = _
      rw [G0]
      unfold GX92_feed_0 GX92_feed_18
      try dsimp only
      rw [s309, fi_neg cc, fi_neg (show ¬ (fm_sI Mt 296 m 0 (Int32.ofInt 1)).1 296 m 0 ≤ 0 by rw [rIe]; decide)]
      rfl
    exact op_of (d := ((0 : Int32), Mt)) Ax (P := OkR Mt) ⟨(relM_ram R1).2.1.1, wk_ext RR.2.1.2.1 k1⟩
end Fe
