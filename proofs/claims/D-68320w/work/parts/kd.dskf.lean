/-! disks: bytes are copied on both sides -/
set_option maxRecDepth 100000
def PTw (b c : Nat) (M : FM) (f y : Nat) : Prop := PTx b f y ∨ PRm c M f y
abbrev SRd : Nat → Prop := fun y => fe_mem [89, 90, 208, 1201, 1203, 1204] y = true
theorem ptw_x {b c : Nat} {M N : FM} (h : Frm (PTx b) M N) : Frm (PTw b c M) M N := frm_w h (fun _ _ q => Or.inl q)
theorem ptw_m {b c : Nat} {M N : FM} (h : Frm (PRm c M) M N) : Frm (PTw b c M) M N := frm_w h (fun _ _ q => Or.inr q)
theorem ptw_t {b c : Nat} {M N X : FM} (h : Frm (PTw b c M) M N) (k : Frm (PTw b c N) N X) : Frm (PTw b c M) M X :=
  frm_t h (frm_w k (fun f y q => q.elim Or.inl (fun z => Or.inr (prm_w h.1 f y z))))
theorem hd_lt {L : List Seg} (h : okS L) : hdL L ≤ 4294967296 := by
  cases L with
  | nil => exact Nat.zero_le _
  | cons x t =>
    have := (h.2 x (List.mem_cons.mpr (Or.inl rfl))).1
    show ul x.2 ≤ _
    omega
theorem gtb_c {w w' : Nat → Int64} {k : Nat} (h : w (k / 8) = w' (k / 8)) : gtb w k = gtb w' k := by
  unfold gtb
  rw [h]
theorem ix_t {q k : Nat} (h : q * 512 + k < 1048576) : ((Int64.ofInt 512 * lN q) + lN k).toInt32 = nI (q * 512 + k) := by
  rw [show Int64.ofInt 512 = lN 512 from rfl, o_mul (by decide) (by omega), o_add (by omega) (by omega), o_32 (by omega), Nat.mul_comm 512 q]
section Cl
variable {rq dk x r b c s q many : Nat} {ea : Int64}
/-- disk to memory -/
theorem rd_L (hq : q * 512 + many ≤ 1048576) (hea : inR ea 1) : ∀ m j k L p Mc Mt, m < j → k + m = many → CpI 79 rq dk x r b c s ea L p Mc Mt → okS L → p ≤ hdL L → totS L = p + (m + 1) →
    ∃ Nc Nt, FX25_run_L40 fN j rq dk x (lN many) (nI (q * 512)) (nI k) Mc = some (Int32.ofInt 0, fm_sL Nc 84 rq 0 (Nc.2.1 84 rq 0 + lN many)) ∧
      (FX95_request_L fN j).1 b (lN q) (Int32.ofInt 0) (lN many) (lN k) Mt = some (lN many + Int64.ofInt 1, GX93_put c ea (vb (Int32.ofInt 0).toInt64 0) Nt) ∧
      (∃ L' p', CpI 79 rq dk x r b c s ea L' p' Nc Nt) ∧ Evo r m Mc Nc ∧ Wk SRd (fun _ => True) 0 (fm_nx Mc) Mc Nc ∧ Frm (PTw b c Mt) Mt Nt := by
  intro m
  induction m with
  | zero =>
    intro j k L p Mc Mt hj hk C ok hp ht
    obtain ⟨j, rfl⟩ : ∃ y, j = y + 1 := ⟨j - 1, by omega⟩
    have C0 := C
    obtain ⟨R, ⟨hfs, c1, c2, c3, c4, c5, c6⟩, ⟨d1, d2, d3⟩, S, P, K⟩ := C
    have b1 : 0 ≤ lg_cmp (nI k).toInt64 (lN many) := by rw [o_64 (by omega), o_ge (by omega) (by omega)]; omega
    have b2 : 0 ≤ lg_cmp (lN k) (lN many) := by rw [o_ge (by omega) (by omega)]; omega
    obtain ⟨e1, e2⟩ := r384 R.2.1 d1 d2 d3 hea (Int32.ofInt 0) (lN many)
    refine ⟨Mc, Mt, ?_, ?_, ⟨L, p, C0⟩, evo_r r 0 Mc, wk_r (wi_N R.1.2.1), frm_r⟩
    · show FX25_run_40 fN (FX25_run_L40 fN j) rq dk x (lN many) (nI (q * 512)) (nI k) Mc = _
      rw [(gX25_run_40 (FX25_run_L40 fN j) rq dk x (lN many) (nI (q * 512)) (nI k) Mc R.1.1 c1 c2 c3 ⟨fun _ => trivial, fun z => absurd b1 z⟩).1]
      unfold GX25_run_40
      rw [fi_pos b1]
      rfl
    · show FX95_request_93 fN (FX95_request_L fN j).1 (FX95_request_L fN j).2.1 (FX95_request_L fN j).2.2 b (lN q) (Int32.ofInt 0) (lN many) (lN k) Mt = _
      rw [(gX95_request_93 (FX95_request_L fN j).1 (FX95_request_L fN j).2.1 (FX95_request_L fN j).2.2 b (lN q) (Int32.ofInt 0) (lN many) (lN k) Mt R.2.1.1 d1 ⟨fun _ => e1, fun z => absurd b2 z⟩).1]
      unfold GX95_request_93
      rw [fi_pos b2, e2]
      rfl
  | succ m ih =>
    intro j k L p Mc Mt hj hk C ok hp ht
    obtain ⟨j, rfl⟩ : ∃ y, j = y + 1 := ⟨j - 1, by omega⟩
    have hd := hd_lt ok
    obtain ⟨a, L', p', w1, w2, w3, w4, w5, w6, _⟩ := nxt_ok L p ok hp (by omega)
    obtain ⟨h1, t1, N, X, n1, u1, C1, n2, u2⟩ := cp_next C ok (by omega) w1
    obtain ⟨R, ⟨hfs, c1, c2, c3, c4, c5, c6⟩, ⟨d1, d2, d3⟩, S, P, K⟩ := C
    have C1' := C1
    obtain ⟨R1, ⟨_, c1', c2', c3', c4', c5', c6'⟩, ⟨d1', d2', d3'⟩, S1, P1, K1⟩ := C1
    have b1 : ¬ 0 ≤ lg_cmp (nI k).toInt64 (lN many) := by rw [o_64 (by omega), o_ge (by omega) (by omega)]; omega
    have b2 : ¬ 0 ≤ lg_cmp (lN k) (lN many) := by rw [o_ge (by omega) (by omega)]; omega
    obtain ⟨g1, g2⟩ := X23_get (k := q * 512 + k) R1.1.1 c2' (by omega)
    obtain ⟨g3, g4⟩ := X95_byteOf (b := X.2.2 327 b 0) (k := q * 512 + k) (tL_327 R1.2.1.1.1 d1') (by omega)
    have eb : gtb (fun i => N.2.1 3 (N.2.2 69 dk 0) i) (q * 512 + k) = gtb (fun i => X.2.1 3 (X.2.2 327 b 0) i) (q * 512 + k) := gtb_c (K1 _ (by omega))
    rw [← eb] at g4
    generalize gtb (fun i => N.2.1 3 (N.2.2 69 dk 0) i) (q * 512 + k) = v at *
    obtain ⟨p1, p2, C2, ev, kw, fw⟩ := cp_wr (a := a) (w := v) (u := vb v.toInt64 0) C1' w6 (fun i hi => vb_0 v i hi)
    obtain ⟨f1, f2⟩ := X95_put1 (v := v.toInt64) R1.2.1 d1' d2' w6
    have HC : HX25_run_40 rq dk x (lN many) (nI (q * 512)) (nI k) Mc := by
      unfold HX25_run_40
      refine ⟨fun z => absurd z b1, fun _ => ?_⟩
      dsimp only
      rw [c6, n1]
      dsimp only
      rw [nI_a, g2]
      exact ⟨h1, g1, p1, trivial⟩
    have GC : GX25_run_40 rq dk x (lN many) (nI (q * 512)) (nI k) Mc = .inl (rq, dk, x, lN many, nI (q * 512), nI (k + 1), GX19_put x a v N) := by
      unfold GX25_run_40
      rw [fi_neg b1]
      dsimp only
      rw [c6, n1]
      dsimp only
      rw [nI_a, g2, up_b (by omega)]
    have HT : HX95_request_93 b (lN q) (Int32.ofInt 0) (lN many) (lN k) Mt := by
      unfold HX95_request_93
      refine ⟨fun z => absurd z b2, fun _ => ?_⟩
      rw [u1]
      dsimp only
      rw [ix_t (by omega), g4]
      exact ⟨t1, g3, f1, trivial⟩
    have GT : GX95_request_93 b (lN q) (Int32.ofInt 0) (lN many) (lN k) Mt = .inl (b, lN q, Int32.ofInt 0, lN many, lN (k + 1), GX93_put c a (vb v.toInt64 0) X) := by
      unfold GX95_request_93
      rw [fi_neg b2, u1]
      dsimp only
      rw [ix_t (by omega), g4]
      dsimp only
      rw [f2, upl_b]
    have E1 : FX25_run_L40 fN (j + 1) rq dk x (lN many) (nI (q * 512)) (nI k) Mc = FX25_run_L40 fN j rq dk x (lN many) (nI (q * 512)) (nI (k + 1)) (GX19_put x a v N) := by
      show FX25_run_40 fN (FX25_run_L40 fN j) rq dk x (lN many) (nI (q * 512)) (nI k) Mc = _
      rw [(gX25_run_40 (FX25_run_L40 fN j) rq dk x (lN many) (nI (q * 512)) (nI k) Mc R.1.1 c1 c2 c3 HC).1, GC]
      rfl
    have E2 : (FX95_request_L fN (j + 1)).1 b (lN q) (Int32.ofInt 0) (lN many) (lN k) Mt = (FX95_request_L fN j).1 b (lN q) (Int32.ofInt 0) (lN many) (lN (k + 1)) (GX93_put c a (vb v.toInt64 0) X) := by
      show FX95_request_93 fN (FX95_request_L fN j).1 (FX95_request_L fN j).2.1 (FX95_request_L fN j).2.2 b (lN q) (Int32.ofInt 0) (lN many) (lN k) Mt = _
      rw [(gX95_request_93 (FX95_request_L fN j).1 (FX95_request_L fN j).2.1 (FX95_request_L fN j).2.2 b (lN q) (Int32.ofInt 0) (lN many) (lN k) Mt R.2.1.1 d1 HT).1, GT]
      rfl
    have Qn := ramQ_k (pnx_k n2 R.1.2.1 c5) (by unfold RFr; decide) R1.1.1 R.1
    have kn := wk_sub (S' := SRd) (me_s rfl) (pnx_k n2 R.1.2.1 c5)
    rw [E1, E2]
    generalize GX19_put x a v N = N1 at *
    generalize GX93_put c a (vb v.toInt64 0) X = X1 at *
    obtain ⟨Nc, Nt, q1, q2, q3, q4, q5, q6⟩ := ih j (k + 1) L' p' N1 X1 (by omega) (by omega) C2 w2 w3 (by omega)
    refine ⟨Nc, Nt, q1, q2, q3, evo_w (evo_t (evo_q Qn ev) q4) (by omega), wk_tt (wk_tt kn (wk_sub (me_s rfl) kw)) q5, ptw_t (ptw_t (ptw_x u2) (ptw_m fw)) q6⟩
/-- a byte of memory, read as a number of one byte -/
theorem by_eq {N X : FM} {a : Int64} (R : RelRam r c N X) (hr : N.2.2 222 x 0 = r) (nb : fm_is X 93 93 b = true) (hc : X.2.2 326 b 0 = c) (ha : inR a 1) :
    ∃ v u, HX19_get x a N ∧ GX19_get x a N = (v, N) ∧ HX95_number b a (Int32.ofInt 1) X ∧ GX95_number b a (Int32.ofInt 1) X = (u, X) ∧ u.toInt32 = v := by
  obtain ⟨o, ho⟩ : ∃ o, ul a = 2147483648 + o := ⟨ul a - 2147483648, by unfold inR at ha; omega⟩
  have hb : o < 4194304 := by unfold inR at ha; omega
  obtain ⟨g1, v, g2, g3, g4⟩ := X19_get R.1 hr ho hb
  obtain ⟨k1, u, k2, k3⟩ := X95_number (s := 1) R.2.1.1 nb R.2.1.2.2.1 hc ha (by decide)
  refine ⟨v, u, g1, g2, k1, k2, ib_ext fun i hi => ?_⟩
  rw [ib_low, k3, decide_eq_true hi, Bool.true_and]
  by_cases h : i < 8
  · rw [decide_eq_true (by omega), Bool.true_and, g4 i h, R.2.2.2.2.1 _ (by omega)]
    rw [show ul a - 2147483648 = o by omega]
  · rw [decide_eq_false (by omega), Bool.false_and]
    unfold ib
    exact (tb_big (k := 8) g3 (by omega)).symm
abbrev SWd : Nat → Prop := fun y => fe_mem [89, 90, 1069] y = true
def PWt (b : Nat) (M : FM) (f y : Nat) : Prop := PTx b f y ∨ (f = 3 ∧ y = M.2.2 327 b 0)
theorem pwt_t {b : Nat} {M N X : FM} (h : Frm (PWt b M) M N) (k : Frm (PWt b N) N X) : Frm (PWt b M) M X :=
  frm_t h (frm_w k (fun f y q => q.elim Or.inl (fun z => Or.inr ⟨z.1, by rw [z.2, h.1]⟩)))
theorem d512 {many : Nat} (h : many < 2147483648) : (lN many).toInt32 / Int32.ofInt 512 = nI (many / 512) ∧ (lN many / Int64.ofInt 512).toInt32 = nI (many / 512) := by
  constructor
  · rw [o_32 h]
    refine ui_inj ?_
    rw [i_div (by rw [ui_nI]; omega) (by decide), ui_nI, ui_nI, show ui (Int32.ofInt 512) = 512 from rfl]
    omega
  · rw [sc_d (by omega), o_32 (by omega)]
/-- memory to disk -/
theorem wr_L (hq : q * 512 + many ≤ 1048576) (hea : inR ea 1) : ∀ m j k L p Mc Mt, m < j → k + m = many → CpI 78 rq dk x r b c s ea L p Mc Mt → okS L → p ≤ hdL L → totS L = p + m →
    ∃ Nc Nt, FX26_run_L38 fN j rq dk x (lN many) (nI (q * 512)) (nI k) Mc = some (Int32.ofInt 0, fm_sI Nc 70 dk 0 (Nc.1 70 dk 0 + nI (many / 512))) ∧
      (FX95_request_L fN j).2.1 b (lN q) (lN many) (Int32.ofInt 0) (Int64.ofInt 0) (lN k) Mt = some (Int64.ofInt 0 + Int64.ofInt 1, GX93_put c ea (vb (Int32.ofInt 0).toInt64 0) (fm_sI Nt 338 b 0 (Nt.1 338 b 0 + nI (many / 512)))) ∧
      (∃ L' p', CpI 78 rq dk x r b c s ea L' p' Nc Nt) ∧ RamQ r Mc Nc ∧ Wk SWd (fun _ => True) 0 (fm_nx Mc) Mc Nc ∧ Frm (PWt b Mt) Mt Nt := by
  intro m
  induction m with
  | zero =>
    intro j k L p Mc Mt hj hk C ok hp ht
    obtain ⟨j, rfl⟩ : ∃ y, j = y + 1 := ⟨j - 1, by omega⟩
    have C0 := C
    obtain ⟨R, ⟨hfs, c1, c2, c3, c4, c5, c6⟩, ⟨d1, d2, d3⟩, S, P, K⟩ := C
    have b1 : 0 ≤ lg_cmp (nI k).toInt64 (lN many) := by rw [o_64 (by omega), o_ge (by omega) (by omega)]; omega
    have b2 : 0 ≤ lg_cmp (lN k) (lN many) := by rw [o_ge (by omega) (by omega)]; omega
    obtain ⟨z1, z2⟩ := d512 (many := many) (by omega)
    have kt' : Wk (fun y => fe_mem [338] y = true) (fun _ => True) 0 (fm_nx Mt) Mt (fm_sI Mt 338 b 0 (Mt.1 338 b 0 + nI (many / 512))) := wk_I (wk_r (wi_N R.2.1.2.1)) (lo := 93) (hi := 93) rfl d1 trivial (Or.inr rfl) (Nat.le_refl _)
    have Q2 := trQ_k kt' (by unfold TFr; decide) ⟨R.2.1.1.1, tyb_sI rfl R.2.1.1.2⟩ R.2.1
    obtain ⟨e1, e2⟩ := r384 (M := fm_sI Mt 338 b 0 (Mt.1 338 b 0 + nI (many / 512))) Q2.1 d1 d2 (endT_w d3 (oI (fun q => absurd q.1 (by decide))) rfl (fun _ => rfl) (fun _ => rfl)) hea (Int32.ofInt 0) (Int64.ofInt 0)
    refine ⟨Mc, Mt, ?_, ?_, ⟨L, p, C0⟩, ramQ_r R.1, wk_r (wi_N R.1.2.1), frm_r⟩
    · show FX26_run_38 fN (FX26_run_L38 fN j) rq dk x (lN many) (nI (q * 512)) (nI k) Mc = _
      rw [(gX26_run_38 (FX26_run_L38 fN j) rq dk x (lN many) (nI (q * 512)) (nI k) Mc R.1.1 c2 c1 c3 ⟨fun _ => trivial, fun z => absurd b1 z⟩).1]
      unfold GX26_run_38
      rw [fi_pos b1, z1]
      rfl
    · show FX95_request_175 fN (FX95_request_L fN j).1 (FX95_request_L fN j).2.1 (FX95_request_L fN j).2.2 b (lN q) (lN many) (Int32.ofInt 0) (Int64.ofInt 0) (lN k) Mt = _
      have H : HX95_request_175 b (lN q) (lN many) (Int32.ofInt 0) (Int64.ofInt 0) (lN k) Mt := by
        unfold HX95_request_175
        rw [z2]
        exact ⟨fun _ => e1, fun z => absurd b2 z⟩
      rw [(gX95_request_175 (FX95_request_L fN j).1 (FX95_request_L fN j).2.1 (FX95_request_L fN j).2.2 b (lN q) (lN many) (Int32.ofInt 0) (Int64.ofInt 0) (lN k) Mt R.2.1.1 d1 H).1]
      unfold GX95_request_175
      rw [fi_pos b2, z2]
      dsimp only
      rw [e2]
      rfl
  | succ m ih =>
    intro j k L p Mc Mt hj hk C ok hp ht
    obtain ⟨j, rfl⟩ : ∃ y, j = y + 1 := ⟨j - 1, by omega⟩
    have hd := hd_lt ok
    obtain ⟨a, L', p', w1, w2, w3, w4, w5, w6, _⟩ := nxt_ok L p ok hp (by omega)
    obtain ⟨h1, t1, N, X, n1, u1, C1, n2, u2⟩ := cp_next C ok (by omega) w1
    obtain ⟨R, ⟨hfs, c1, c2, c3, c4, c5, c6⟩, ⟨d1, d2, d3⟩, S, P, K⟩ := C
    have C1' := C1
    obtain ⟨R1, ⟨_, c1', c2', c3', c4', c5', c6'⟩, ⟨d1', d2', d3'⟩, S1, P1, K1⟩ := C1
    have b1 : ¬ 0 ≤ lg_cmp (nI k).toInt64 (lN many) := by rw [o_64 (by omega), o_ge (by omega) (by omega)]; omega
    have b2 : ¬ 0 ≤ lg_cmp (lN k) (lN many) := by rw [o_ge (by omega) (by omega)]; omega
    obtain ⟨v, u, g1, g2, g3, g4, g5⟩ := by_eq R1 c4' d1' d2' w6
    obtain ⟨p1, p2⟩ := X23_put (k := q * 512 + k) (v := v) R1.1.1 c2' (by omega)
    obtain ⟨p3, p4⟩ := X95_putByte (b := X.2.2 327 b 0) (k := q * 512 + k) (v := v) (tL_327 R1.2.1.1.1 d1') (by omega)
    have e327 : Mt.2.2 327 b 0 = X.2.2 327 b 0 := by rw [u2.1]
    rw [← K1 _ (show (q * 512 + k) / 8 < 131072 by omega)] at p4
    generalize pbw (N.2.1 3 (N.2.2 69 dk 0) ((q * 512 + k) / 8)) (q * 512 + k) v = y at *
    obtain ⟨C2, kw⟩ := cp_dk (j := (q * 512 + k) / 8) (v := y) C1'
    have HC : HX26_run_38 rq dk x (lN many) (nI (q * 512)) (nI k) Mc := by
      unfold HX26_run_38
      refine ⟨fun z => absurd z b1, fun _ => ?_⟩
      dsimp only
      rw [c6, n1]
      dsimp only
      rw [nI_a, g2]
      exact ⟨h1, g1, p1, trivial⟩
    have GC : GX26_run_38 rq dk x (lN many) (nI (q * 512)) (nI k) Mc = .inl (rq, dk, x, lN many, nI (q * 512), nI (k + 1), fm_sL N 3 (N.2.2 69 dk 0) ((q * 512 + k) / 8) y) := by
      unfold GX26_run_38
      rw [fi_neg b1]
      dsimp only
      rw [c6, n1]
      dsimp only
      rw [nI_a, g2, up_b (by omega)]
      dsimp only
      rw [p2]
    have HT : HX95_request_175 b (lN q) (lN many) (Int32.ofInt 0) (Int64.ofInt 0) (lN k) Mt := by
      unfold HX95_request_175
      refine ⟨fun z => absurd z b2, fun _ => ?_⟩
      rw [u1]
      dsimp only
      rw [g4]
      dsimp only
      rw [ix_t (by omega), g5, e327]
      exact ⟨t1, g3, p3, trivial⟩
    have GT : GX95_request_175 b (lN q) (lN many) (Int32.ofInt 0) (Int64.ofInt 0) (lN k) Mt = .inr (.inl (b, lN q, lN many, Int32.ofInt 0, Int64.ofInt 0, lN (k + 1), fm_sL X 3 (X.2.2 327 b 0) ((q * 512 + k) / 8) y)) := by
      unfold GX95_request_175
      rw [fi_neg b2, u1]
      dsimp only
      rw [g4]
      dsimp only
      rw [ix_t (by omega), g5, e327, p4, upl_b]
    have E1 : FX26_run_L38 fN (j + 1) rq dk x (lN many) (nI (q * 512)) (nI k) Mc = FX26_run_L38 fN j rq dk x (lN many) (nI (q * 512)) (nI (k + 1)) (fm_sL N 3 (N.2.2 69 dk 0) ((q * 512 + k) / 8) y) := by
      show FX26_run_38 fN (FX26_run_L38 fN j) rq dk x (lN many) (nI (q * 512)) (nI k) Mc = _
      rw [(gX26_run_38 (FX26_run_L38 fN j) rq dk x (lN many) (nI (q * 512)) (nI k) Mc R.1.1 c2 c1 c3 HC).1, GC]
      rfl
    have E2 : (FX95_request_L fN (j + 1)).2.1 b (lN q) (lN many) (Int32.ofInt 0) (Int64.ofInt 0) (lN k) Mt = (FX95_request_L fN j).2.1 b (lN q) (lN many) (Int32.ofInt 0) (Int64.ofInt 0) (lN (k + 1)) (fm_sL X 3 (X.2.2 327 b 0) ((q * 512 + k) / 8) y) := by
      show FX95_request_175 fN (FX95_request_L fN j).1 (FX95_request_L fN j).2.1 (FX95_request_L fN j).2.2 b (lN q) (lN many) (Int32.ofInt 0) (Int64.ofInt 0) (lN k) Mt = _
      rw [(gX95_request_175 (FX95_request_L fN j).1 (FX95_request_L fN j).2.1 (FX95_request_L fN j).2.2 b (lN q) (lN many) (Int32.ofInt 0) (Int64.ofInt 0) (lN k) Mt R.2.1.1 d1 HT).1, GT]
      rfl
    have Qn := ramQ_k (pnx_k n2 R.1.2.1 c5) (by unfold RFr; decide) R1.1.1 R.1
    have Qw := ramQ_k kw (by unfold RFr; decide) C2.1.1.1 R1.1
    have kn := wk_sub (S' := SWd) (me_s rfl) (pnx_k n2 R.1.2.1 c5)
    have fw : Frm (PWt b X) X (fm_sL X 3 (X.2.2 327 b 0) ((q * 512 + k) / 8) y) := frm_L frm_r (Or.inr ⟨rfl, rfl⟩)
    rw [E1, E2]
    generalize fm_sL N 3 (N.2.2 69 dk 0) ((q * 512 + k) / 8) y = N1 at *
    generalize fm_sL X 3 (X.2.2 327 b 0) ((q * 512 + k) / 8) y = X1 at *
    obtain ⟨Nc, Nt, q1, q2, q3, q4, q5, q6⟩ := ih j (k + 1) L' p' N1 X1 (by omega) (by omega) C2 w2 w3 (by omega)
    refine ⟨Nc, Nt, q1, q2, q3, ramQ_t (ramQ_t Qn Qw) q4, wk_tt (wk_tt kn (wk_sub (me_s rfl) kw)) q5, pwt_t (pwt_t (frm_w u2 (fun _ _ q => Or.inl q)) fw) q6⟩
end Cl
