/-! disks: the name is copied -/
set_option maxRecDepth 100000
def nmL : List Nat := [98, 108, 111, 99, 107]
def nmKd (k : Nat) : Nat := nmL.getD k 0
theorem nm5 {k : Nat} (h : 5 ≤ k) : nmKd k = 0 := by
  unfold nmKd
  rw [List.getD_eq_getElem?_getD, List.getElem?_eq_none (by exact h)]
  rfl
section Nm
variable {rq dk x r b c s many : Nat} {ea : Int64}
theorem nm_t {k : Nat} (hk : k < many) (hm : many ≤ 20) {a : Int64} {M X : FM} (u1 : GX95_nextByte b M = (a, X)) : GX95_request_272 b (Int32.ofInt 0) (lN many) (lN k) M = GX95_request_358 b (Int32.ofInt 0) (lN many) (lN k) b a (Int32.ofInt 1) (lN (nmKd k)) X ∧
    (HX95_nextByte b M → HX95_request_358 b (Int32.ofInt 0) (lN many) (lN k) b a (Int32.ofInt 1) (lN (nmKd k)) X → HX95_request_272 b (Int32.ofInt 0) (lN many) (lN k) M) := by
  have b2 : ¬ 0 ≤ lg_cmp (lN k) (lN many) := by rw [o_ge (by omega) (by omega)]; omega
  have e : ∀ i : Nat, i < 20 → (lg_cmp (lN k) (lN i) = 0 ↔ k = i) := fun i hi => o_eq (by omega) (by omega)
  have e0 : (lg_cmp (lN k) (Int64.ofInt 0) = 0) = (k = 0) := propext (e 0 (by decide))
  have e1 : (lg_cmp (lN k) (Int64.ofInt 1) = 0) = (k = 1) := propext (e 1 (by decide))
  have e2 : (lg_cmp (lN k) (Int64.ofInt 2) = 0) = (k = 2) := propext (e 2 (by decide))
  have e3 : (lg_cmp (lN k) (Int64.ofInt 3) = 0) = (k = 3) := propext (e 3 (by decide))
  have e4 : (lg_cmp (lN k) (Int64.ofInt 4) = 0) = (k = 4) := propext (e 4 (by decide))
  unfold GX95_request_272 HX95_request_272
  rw [fi_neg b2, u1, e0, e1, e2, e3, e4]
  dsimp only
  by_cases h0 : k = 0
  · rw [fi_pos h0]
    refine ⟨by rw [h0]; rfl, fun a1 a2 => ⟨fun q => absurd q b2, fun _ => ⟨a1, fun _ => by rw [h0] at a2 ⊢; exact a2, fun q => absurd h0 q⟩⟩⟩
  rw [fi_neg h0]
  by_cases h1 : k = 1
  · rw [fi_pos h1]
    refine ⟨by rw [h1]; rfl, fun a1 a2 => ⟨fun q => absurd q b2, fun _ => ⟨a1, fun q => absurd q h0, fun _ => ⟨fun _ => by rw [h1] at a2 ⊢; exact a2, fun q => absurd h1 q⟩⟩⟩⟩
  rw [fi_neg h1]
  by_cases h2 : k = 2
  · rw [fi_pos h2]
    refine ⟨by rw [h2]; rfl, fun a1 a2 => ⟨fun q => absurd q b2, fun _ => ⟨a1, fun q => absurd q h0, fun _ => ⟨fun q => absurd q h1, fun _ => ⟨fun _ => by rw [h2] at a2 ⊢; exact a2, fun q => absurd h2 q⟩⟩⟩⟩⟩
  rw [fi_neg h2]
  by_cases h3 : k = 3
  · rw [fi_pos h3]
    refine ⟨by rw [h3]; rfl, fun a1 a2 => ⟨fun q => absurd q b2, fun _ => ⟨a1, fun q => absurd q h0, fun _ => ⟨fun q => absurd q h1, fun _ => ⟨fun q => absurd q h2, fun _ => ⟨fun _ => by rw [h3] at a2 ⊢; exact a2, fun q => absurd h3 q⟩⟩⟩⟩⟩⟩
  rw [fi_neg h3]
  by_cases h4 : k = 4
  · rw [fi_pos h4]
    refine ⟨by rw [h4]; rfl, fun a1 a2 => ⟨fun q => absurd q b2, fun _ => ⟨a1, fun q => absurd q h0, fun _ => ⟨fun q => absurd q h1, fun _ => ⟨fun q => absurd q h2, fun _ => ⟨fun q => absurd q h3, fun _ => ⟨fun _ => by rw [h4] at a2 ⊢; exact a2, fun q => absurd h4 q⟩⟩⟩⟩⟩⟩⟩
  rw [fi_neg h4, nm5 (k := k) (by omega)]
  exact ⟨rfl, fun a1 a2 => ⟨fun q => absurd q b2, fun _ => ⟨a1, fun q => absurd q h0, fun _ => ⟨fun q => absurd q h1, fun _ => ⟨fun q => absurd q h2, fun _ => ⟨fun q => absurd q h3, fun _ => ⟨fun q => absurd q h4, fun _ => a2⟩⟩⟩⟩⟩⟩⟩
/-- the name to memory -/
theorem nm_L (hm : many ≤ 20) (hea : inR ea 1) : ∀ m j k L p Mc Mt, m < j → k + m = many → CpI 79 rq dk x r b c s ea L p Mc Mt → Txt 105 nmL Mc → okS L → p ≤ hdL L → p + (m + 1) ≤ totS L →
    ∃ Nc Nt, FX28_run_L20 fN j rq x (lN many) (nI k) Mc = some (Int32.ofInt 0, fm_sL Nc 84 rq 0 (Nc.2.1 84 rq 0 + lN many)) ∧
      (FX95_request_L fN j).2.2 b (Int32.ofInt 0) (lN many) (lN k) Mt = some (lN many + Int64.ofInt 1, GX93_put c ea (vb (Int32.ofInt 0).toInt64 0) Nt) ∧
      (∃ L' p', CpI 79 rq dk x r b c s ea L' p' Nc Nt) ∧ Evo r m Mc Nc ∧ Wk SRd (fun _ => True) 0 (fm_nx Mc) Mc Nc ∧ Frm (PTw b c Mt) Mt Nt := by
  intro m
  induction m with
  | zero =>
    intro j k L p Mc Mt hj hk C tx ok hp ht
    obtain ⟨j, rfl⟩ : ∃ y, j = y + 1 := ⟨j - 1, by omega⟩
    have C0 := C
    obtain ⟨R, ⟨hfs, c1, c2, c3, c4, c5, c6⟩, ⟨d1, d2, d3⟩, S, P, K⟩ := C
    have b1 : 0 ≤ lg_cmp (nI k).toInt64 (lN many) := by rw [o_64 (by omega), o_ge (by omega) (by omega)]; omega
    have b2 : 0 ≤ lg_cmp (lN k) (lN many) := by rw [o_ge (by omega) (by omega)]; omega
    obtain ⟨e1, e2⟩ := r384 R.2.1 d1 d2 d3 hea (Int32.ofInt 0) (lN many)
    refine ⟨Mc, Mt, ?_, ?_, ⟨L, p, C0⟩, evo_r r 0 Mc, wk_r (wi_N R.1.2.1), frm_r⟩
    · show FX28_run_20 fN (FX28_run_L20 fN j) rq x (lN many) (nI k) Mc = _
      rw [(gX28_run_20 (FX28_run_L20 fN j) rq x (lN many) (nI k) Mc R.1.1 c1 c3 ⟨fun _ => trivial, fun z => absurd b1 z⟩).1]
      unfold GX28_run_20
      rw [fi_pos b1]
      rfl
    · show FX95_request_272 fN (FX95_request_L fN j).1 (FX95_request_L fN j).2.1 (FX95_request_L fN j).2.2 b (Int32.ofInt 0) (lN many) (lN k) Mt = _
      rw [(gX95_request_272 (FX95_request_L fN j).1 (FX95_request_L fN j).2.1 (FX95_request_L fN j).2.2 b (Int32.ofInt 0) (lN many) (lN k) Mt R.2.1.1 d1 ⟨fun _ => e1, fun z => absurd b2 z⟩).1]
      unfold GX95_request_272
      rw [fi_pos b2, e2]
      rfl
  | succ m ih =>
    intro j k L p Mc Mt hj hk C tx ok hp ht
    obtain ⟨j, rfl⟩ : ∃ y, j = y + 1 := ⟨j - 1, by omega⟩
    have hd := hd_lt ok
    obtain ⟨a, L', p', w1, w2, w3, w4, w5, w6, _⟩ := nxt_ok L p ok hp (by omega)
    obtain ⟨h1, t1, N, X, n1, u1, C1, n2, u2⟩ := cp_next C ok (by omega) w1
    obtain ⟨R, ⟨hfs, c1, c2, c3, c4, c5, c6⟩, ⟨d1, d2, d3⟩, S, P, K⟩ := C
    have C1' := C1
    obtain ⟨R1, ⟨_, c1', c2', c3', c4', c5', c6'⟩, ⟨d1', d2', d3'⟩, S1, P1, K1⟩ := C1
    have b1 : ¬ 0 ≤ lg_cmp (nI k).toInt64 (lN many) := by rw [o_64 (by omega), o_ge (by omega) (by omega)]; omega
    have kn0 := pnx_k n2 R.1.2.1 c5
    have tx1 : Txt 105 nmL N := txt_k R.1.1 R.1.2.1 kn0 (by decide) tx
    obtain ⟨p1, p2, C2, ev, kw, fw⟩ := cp_wr (a := a) (w := nI (nmKd k)) (u := vb (nI (nmKd k)).toInt64 0) C1' w6 (fun i hi => vb_0 _ i hi)
    have tx2 := txt_k R1.1.1 R1.1.2.1 kw (by decide) tx1
    have eL : (nI (nmKd k)).toInt64 = lN (nmKd k) := o_64 (by
      by_cases z : k < 5
      · have : ∀ y : Nat, y < 5 → nmKd y < 2147483648 := by decide
        exact this k z
      · rw [nm5 (by omega)]; decide)
    rw [eL] at p2 C2 fw
    obtain ⟨f1, f2⟩ := X95_put1 (v := lN (nmKd k)) R1.2.1 d1' d2' w6
    have l5 : GJ1_length 105 N = (nI 5, N) := J1_length tx1
    obtain ⟨T1, T2⟩ := nm_t (b := b) (many := many) (k := k) (by omega) hm u1
    have c58 : HX28_run_58 rq x (lN many) (nI k) x a (nI (nmKd k)) N ∧ GX28_run_58 rq x (lN many) (nI k) x a (nI (nmKd k)) N = .inl (rq, x, lN many, nI (k + 1), GX19_put x a (nI (nmKd k)) N) := by
      unfold HX28_run_58 GX28_run_58
      dsimp only
      rw [up_b (by omega)]
      exact ⟨⟨p1, trivial⟩, rfl⟩
    have HG : HX28_run_20 rq x (lN many) (nI k) Mc ∧ GX28_run_20 rq x (lN many) (nI k) Mc = .inl (rq, x, lN many, nI (k + 1), GX19_put x a (nI (nmKd k)) N) := by
      unfold HX28_run_20 GX28_run_20
      rw [fi_neg b1]
      dsimp only
      rw [c6, n1]
      dsimp only
      rw [l5]
      dsimp only
      by_cases z : 5 ≤ k
      · have z1 : nI 5 ≤ nI k := (n_le (by decide) (by omega)).mpr z
        rw [nm5 z] at c58 ⊢
        rw [fi_pos z1]
        exact ⟨⟨fun q => absurd q b1, fun _ => ⟨h1, tx1.1, fun _ => c58.1, fun q => absurd z1 q⟩⟩, c58.2⟩
      · have z1 : ¬ nI 5 ≤ nI k := fun q => z ((n_le (by decide) (by omega)).mp q)
        obtain ⟨y1, y2⟩ := J1_charAt tx1 (k := k) (show k < 5 by omega)
        rw [fi_neg z1, y2]
        exact ⟨⟨fun q => absurd q b1, fun _ => ⟨h1, tx1.1, fun q => absurd q z1, fun _ => ⟨tx1.1, y1, c58.1⟩⟩⟩, c58.2⟩
    have t58 : HX95_request_358 b (Int32.ofInt 0) (lN many) (lN k) b a (Int32.ofInt 1) (lN (nmKd k)) X ∧ GX95_request_358 b (Int32.ofInt 0) (lN many) (lN k) b a (Int32.ofInt 1) (lN (nmKd k)) X = .inr (.inr (.inl (b, Int32.ofInt 0, lN many, lN (k + 1), GX93_put c a (vb (lN (nmKd k)) 0) X))) := by
      unfold HX95_request_358 GX95_request_358
      dsimp only
      rw [f2, upl_b]
      exact ⟨⟨f1, trivial⟩, rfl⟩
    have E1 : FX28_run_L20 fN (j + 1) rq x (lN many) (nI k) Mc = FX28_run_L20 fN j rq x (lN many) (nI (k + 1)) (GX19_put x a (nI (nmKd k)) N) := by
      show FX28_run_20 fN (FX28_run_L20 fN j) rq x (lN many) (nI k) Mc = _
      rw [(gX28_run_20 (FX28_run_L20 fN j) rq x (lN many) (nI k) Mc R.1.1 c1 c3 HG.1).1, HG.2]
      rfl
    have E2 : (FX95_request_L fN (j + 1)).2.2 b (Int32.ofInt 0) (lN many) (lN k) Mt = (FX95_request_L fN j).2.2 b (Int32.ofInt 0) (lN many) (lN (k + 1)) (GX93_put c a (vb (lN (nmKd k)) 0) X) := by
      show FX95_request_272 fN (FX95_request_L fN j).1 (FX95_request_L fN j).2.1 (FX95_request_L fN j).2.2 b (Int32.ofInt 0) (lN many) (lN k) Mt = _
      rw [(gX95_request_272 (FX95_request_L fN j).1 (FX95_request_L fN j).2.1 (FX95_request_L fN j).2.2 b (Int32.ofInt 0) (lN many) (lN k) Mt R.2.1.1 d1 (T2 t1 t58.1)).1, T1, t58.2]
      rfl
    have Qn := ramQ_k kn0 (by unfold RFr; decide) R1.1.1 R.1
    have kn := wk_sub (S' := SRd) (me_s rfl) kn0
    rw [E1, E2]
    generalize GX19_put x a (nI (nmKd k)) N = N1 at *
    generalize GX93_put c a (vb (lN (nmKd k)) 0) X = X1 at *
    obtain ⟨Nc, Nt, q1, q2, q3, q4, q5, q6⟩ := ih j (k + 1) L' p' N1 X1 (by omega) (by omega) C2 tx2 w2 w3 (by omega)
    refine ⟨Nc, Nt, q1, q2, q3, evo_w (evo_t (evo_q Qn ev) q4) (by omega), wk_tt (wk_tt kn (wk_sub (me_s rfl) kw)) q5, ptw_t (ptw_t (ptw_x u2) (ptw_m fw)) q6⟩
end Nm
