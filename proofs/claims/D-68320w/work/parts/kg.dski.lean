/-! disks: a request is done on both sides -/
set_option maxRecDepth 100000
section Fw
variable {M : FM} {lo hi f a i r c : Nat}
theorem wq_fL {v : Int64} (W : Wf M) (g : fm_is M lo hi a = true) (hlo : Nat.ble 1 lo = true) (hf : f ≠ 3) : Wk (fun y => y = f) (fun _ => True) 0 (fm_nx M) M (fm_sL M f a i v) :=
  wk_L (wk_r (wi_N W)) hlo g trivial (Or.inr (by unfold lcn; rw [if_neg hf])) (Nat.le_refl _)
theorem wq_fI {v : Int32} (W : Wf M) (g : fm_is M lo hi a = true) (hlo : Nat.ble 1 lo = true) (hf : f ≠ 3) : Wk (fun y => y = f) (fun _ => True) 0 (fm_nx M) M (fm_sI M f a i v) :=
  wk_I (wk_r (wi_N W)) hlo g trivial (Or.inr (by unfold lcn; rw [if_neg hf])) (Nat.le_refl _)
end Fw
/-- the component before a request is done -/
def RqC (rq dk x r : Nat) (M : FM) (l : List Blk) (sec : Int64) : Prop :=
  (fm_is M 29 29 rq = true ∧ fm_is M 23 23 dk = true ∧ fm_is M 76 76 x = true ∧ M.2.2 222 x 0 = r ∧ M.1 68 dk 0 = Int32.ofInt 2048) ∧ Txt 105 nmL M ∧
  StrV (M.2.2 78 rq 0) M (clL l) ∧ StrV (M.2.2 79 rq 0) M (opL l) ∧ M.2.1 82 rq 0 = sec ∧ M.2.1 84 rq 0 = Int64.ofInt 1
abbrev SRn : Nat → Prop := fun y => fe_mem [70, 84, 89, 90, 208, 1069, 1201, 1203, 1204] y = true
/-- what a request leaves -/
def OutR (rq dk r c b : Nat) (Mc Mt Nc Nt : FM) (w : Int64) : Prop := RelRam r c Nc Nt ∧ RelDk dk b Nc Nt ∧ Nc.1 70 dk 0 = Nt.1 338 b 0 ∧ Nc.2.1 84 rq 0 = w ∧ Evo r 32768 Mc Nc ∧ Wk SRn (fun _ => True) 0 (fm_nx Mc) Mc Nc ∧ Nt.2.2 = Mt.2.2
section Ex
variable {b c : Nat} {M : FM} {ea : Int64}
theorem ex_93 (I : TrI c M) (n : fm_is M 93 93 b = true) (hc : M.2.2 326 b 0 = c) (E : EndT b ea M) (ha : inR ea 1) (sec : Int64) (res : Int32) : ∀ J, 0 < J →
    (FX95_request_L fN J).1 b sec res (Int64.ofInt 0) (Int64.ofInt 0) M = some (Int64.ofInt 0 + Int64.ofInt 1, GX93_put c ea (vb res.toInt64 0) M) := by
  intro J hJ
  obtain ⟨J, rfl⟩ : ∃ y, J = y + 1 := ⟨J - 1, by omega⟩
  have b2 : 0 ≤ lg_cmp (Int64.ofInt 0) (Int64.ofInt 0) := by decide
  obtain ⟨e1, e2⟩ := r384 I n hc E ha res (Int64.ofInt 0)
  show FX95_request_93 fN (FX95_request_L fN J).1 (FX95_request_L fN J).2.1 (FX95_request_L fN J).2.2 b sec res (Int64.ofInt 0) (Int64.ofInt 0) M = _
  rw [(gX95_request_93 (FX95_request_L fN J).1 (FX95_request_L fN J).2.1 (FX95_request_L fN J).2.2 b sec res (Int64.ofInt 0) (Int64.ofInt 0) M I.1 n ⟨fun _ => e1, fun z => absurd b2 z⟩).1]
  unfold GX95_request_93
  rw [fi_pos b2, e2]
  rfl
/-- the twin's request, once its kind is looked at -/
theorem rq_F {l : List Blk} {kd : Nat} {sec : Int64} (T : Ty M) (n : fm_is M 93 93 b = true) (G : GX95_request_0 b M = rqG b M l kd sec ∧ (rqH b M l kd sec → HX95_request_0 b M)) (H : rqH b M l kd sec) :
    FX95_request fN b M = kX95_request (FX95_request_L fN fN).1 (FX95_request_L fN fN).2.1 (FX95_request_L fN fN).2.2 (rqG b M l kd sec) := by
  show FX95_request_0 fN (FX95_request_L fN fN).1 (FX95_request_L fN fN).2.1 (FX95_request_L fN fN).2.2 b M = _
  rw [(gX95_request_0 (FX95_request_L fN fN).1 (FX95_request_L fN fN).2.1 (FX95_request_L fN fN).2.2 b M T n (G.2 H)).1, G.1]
theorem fN0 : 0 < fN := by unfold fN; decide
end Ex
theorem J5_min2 {n m : Nat} (hn : n < 1099511627776) (hm : m < 1099511627776) (M : FM) : GJ5_min_2 (lN n) (lN m) M = (lN (min n m), M) := by
  unfold GJ5_min_2 GJ5_min_2_0
  unfold GJ5_min_2_11
  have e : lg_cmp (lN n) (lN m) ≤ 0 ↔ n ≤ m := b_le (by omega) (by omega)
  have e2 : 0 < lg_cmp (lN n) (lN m) ↔ m < n := b_gt (by omega) (by omega)
  by_cases h : n ≤ m
  · first
      | rw [fi_pos (e.mpr h), Nat.min_eq_left h]
      | rw [fi_neg (fun q => by have := e2.mp q; omega), Nat.min_eq_left h]
  · first
      | rw [fi_neg (fun q => h (e.mp q)), Nat.min_eq_right (by omega)]
      | rw [fi_pos (e2.mpr (by omega)), Nat.min_eq_right (by omega)]
section Rq3
variable {rq dk x r b c : Nat} {Mc Mt : FM} {l : List Blk} {sec : Int64}
theorem tot_37 {L : List Seg} (h : okS L) : totS L < 1099511627776 := by
  have h1 := totS_lt h
  have h2 := h.1
  have : L.length * 4294967296 ≤ 16 * 4294967296 := Nat.mul_le_mul_right _ h2
  omega
theorem tk_338 {v : Int32} (n : fm_is Mt 93 93 b = true) (I : TrI c Mt) : TrQ c Mt (fm_sI Mt 338 b 0 v) := trQ_k (wq_fI I.2.1 n rfl (by decide)) (by unfold TFr; decide) ⟨I.1.1, tyb_sI rfl I.1.2⟩ I
/-- reading from the disk -/
theorem req_rd (R : RelRam r c Mc Mt) (Q : Rq b c Mt l) (Cq : RqC rq dk x r Mc l sec) (K : RelDk dk b Mc Mt) (h70 : Mc.1 70 dk 0 = Mt.1 338 b 0) (o : Nat)
    (G : GX95_request_0 b Mt = rqG b Mt l 0 sec ∧ (rqH b Mt l 0 sec → HX95_request_0 b Mt)) :
    ∃ res Nc Nt w, FX25_run fN o rq dk x Mc = some (res, Nc) ∧ FX95_request fN b Mt = some (w, GX93_put c (eaL l) (vb res.toInt64 0) Nt) ∧ OutR rq dk r c b Mc Mt Nc Nt w ∧ EndT b (eaL l) Nt := by
  obtain ⟨h0, cl, op, el, e1, e2, hop, hh, ecl, eop, ht, okc, oko, hE, hea⟩ := rq_s Q
  obtain ⟨I, ⟨n, hc, hs⟩, g, h16, hg, ho, hl, hr⟩ := Q
  obtain ⟨⟨c1, c2, c3, c4, c5⟩, tx, Vc, Vo, c82, c84⟩ := Cq
  have T := R.1.1
  have W := R.1.2.1
  have n79 := tN_79 T.1 c1
  have to37 := tot_37 oko
  rw [el] at g h16
  have g' : Gt b Mt (h0 :: (cl ++ (op ++ []))) := by rw [List.append_nil]; exact g
  have h16' : (h0 :: (cl ++ (op ++ []))).length ≤ 16 := by rw [List.append_nil]; exact h16
  obtain ⟨b1, N1, b2, b3, b4, b5⟩ := X95_begin (o := true) I.1 n g' h16' (fun y hy => e1 y hy) e2 hop
  rw [show bz (true = true) = Int32.ofInt 1 from bz_t rfl] at b1 b2
  have Q2 := trQ_k (ptx_k b3 I.2.1 n) (by unfold TFr; decide) b4 I
  have E1 : EndT b (eaL l) N1 := endT_w hE (b3.2 339 b 0 (fun q => by have := q.2; omega)).1 b3.1 (fun j => (b3.2 3 _ j (fun q => by have := q.2; omega)).2) (fun j => (b3.2 3 _ j (fun q => by have := q.2; omega)).2)
  have n1 := frm_is b3 n
  have hc1 : N1.2.2 326 b 0 = c := by rw [b3.1]; exact hc
  have d1 : N1.1 338 b 0 = Mt.1 338 b 0 := (b3.2 338 b 0 (fun q => by have := q.2; omega)).1
  rw [eop] at Vo
  have K1 : RelDk dk b Mc N1 := fun j hj => by
    rw [b3.1, (b3.2 3 _ j (fun q => by have := q.2; omega)).2]
    exact K j hj
  have C : CpI 79 rq dk x r b c (Mc.2.2 79 rq 0) (eaL l) (sgLk op) 0 Mc N1 := ⟨rel_tq R Q2, ⟨Or.inr rfl, c1, c2, c3, c4, n79, rfl⟩, ⟨n1, hc1, E1⟩, strP_v oko.1 Vo, b5, K1⟩
  have em : Mc.2.1 88 (Mc.2.2 79 rq 0) 0 - Int64.ofInt 1 = lN (totS (sgLk op) - 1) := by rw [Vo.2.1, smL_t, l_sub1 ht]
  have X0 : FX25_run fN o rq dk x Mc = kX25_run (FX25_run_L40 fN fN) (GX25_run_0 o rq dk x Mc) := by
    show FX25_run_0 fN (FX25_run_L40 fN fN) o rq dk x Mc = _
    exact (gX25_run_0 (FX25_run_L40 fN fN) o rq dk x Mc T c1 c2).1
  have gh := X23_has (d := dk) (sec := sec) (M := Mc) (n := totS (sgLk op) - 1) c5 (by omega)
  by_cases hk : okD sec (totS (sgLk op) - 1)
  · have hk' := hk
    unfold okD at hk'
    obtain ⟨k1, k2, k3, k4, k5⟩ := hk'
    obtain ⟨q, hq⟩ : ∃ q, ul sec = q := ⟨_, rfl⟩
    have es : sec = lN q := by rw [← hq, lN_ul]
    rw [hq] at k5
    have hb := rd_L (q := q) (many := totS (sgLk op) - 1) (by omega) hea (totS (sgLk op) - 1) fN 0 (sgLk op) 0 Mc N1 (by unfold fN; omega) (by omega) C oko (Nat.zero_le _) (by omega)
    obtain ⟨Nc, Nt, f1, f2, ⟨L', p', C'⟩, f4, f5, f6⟩ := hb
    obtain ⟨R', ⟨_, c1', c2', c3', c4', c5', c6'⟩, ⟨d1', d2', d3'⟩, S', P', K'⟩ := C'
    have k84 := wq_fL (f := 84) (i := 0) (v := Nc.2.1 84 rq 0 + lN (totS (sgLk op) - 1)) R'.1.2.1 c1' rfl (by decide)
    have Q4 := ramQ_k k84 (by unfold RFr; decide) ⟨R'.1.1.1, R'.1.1.2⟩ R'.1
    have l1 := wf_lt W (fm_ist rfl c1)
    have l2 := wf_lt W (fm_ist rfl c2)
    refine ⟨Int32.ofInt 0, fm_sL Nc 84 rq 0 (Nc.2.1 84 rq 0 + lN (totS (sgLk op) - 1)), Nt, lN (totS (sgLk op) - 1) + Int64.ofInt 1, ?_, ?_, ⟨rel_q R' Q4, K', ?_, ?_, evo_w (evo_q' f4 Q4) (by omega), wk_tt (wk_sub (me_s rfl) f5) (wk_sub (fun y (q : y = 84) => by rw [q]; rfl) k84), f6.1.trans b3.1⟩, d3'⟩
    · rw [X0]
      unfold GX25_run_0
      dsimp only
      rw [em, c82, gh]
      dsimp only
      rw [fi_neg (by rw [bz_t hk]; decide)]
      have e6 : sec.toInt32 * Int32.ofInt 512 = nI (q * 512) := by rw [es, o_32 (by omega)]; exact nI_m
      rw [c82, e6]
      exact f1
    · have H70 : HX95_request_70 b sec (lN (totS (sgLk op) - 1)) (bz (¬ okD sec (totS (sgLk op) - 1))) Mt := by
        unfold HX95_request_70 HX95_request_83
        exact ⟨fun _ => ⟨b1, trivial⟩, fun _ => ⟨b1, trivial⟩⟩
      have H : rqH b Mt l 0 sec := ⟨fun _ => by rw [eop]; exact H70, fun q => absurd q (by decide), fun q => absurd q (by decide), fun q => absurd q (by decide), fun q => absurd rfl q⟩
      rw [rq_F I.1 n G H]
      unfold rqG GX95_request_70 GX95_request_83
      rw [fi_pos rfl, bz_f (fun q => q (by rw [eop]; exact hk)), fi_pos (show Int32.ofInt 0 = 0 from rfl), b2, eop, es]
      exact f2
    · show Nc.1 70 dk 0 = Nt.1 338 b 0
      rw [(kf f5 rfl (by decide) l2).1, (f6.2 338 b 0 (fun q => by rcases q with q | q <;> have := q.1 <;> first | omega | (have := q.2; omega))).1, d1]
      exact h70
    · show (fm_sL Nc 84 rq 0 _).2.1 84 rq 0 = _
      rw [rL, if_pos ⟨rfl, rfl, rfl⟩, (kf f5 rfl (by decide) l1).2.1, c84, Int64.add_comm]
  · refine ⟨Int32.ofInt 1, Mc, N1, Int64.ofInt 0 + Int64.ofInt 1, ?_, ?_, ⟨rel_tq R Q2, K1, h70.trans d1.symm, c84, evo_w (evo_r r 0 Mc) (by omega), wk_r (wi_N W), b3.1⟩, E1⟩
    · rw [X0]
      unfold GX25_run_0
      dsimp only
      rw [em, c82, gh]
      dsimp only
      rw [fi_pos (by rw [bz_f hk]; rfl)]
      rfl
    · have H70 : HX95_request_70 b sec (lN (totS (sgLk op) - 1)) (bz (¬ okD sec (totS (sgLk op) - 1))) Mt := by
        unfold HX95_request_70 HX95_request_83
        exact ⟨fun _ => ⟨b1, trivial⟩, fun _ => ⟨b1, trivial⟩⟩
      have H : rqH b Mt l 0 sec := ⟨fun _ => by rw [eop]; exact H70, fun q => absurd q (by decide), fun q => absurd q (by decide), fun q => absurd q (by decide), fun q => absurd rfl q⟩
      rw [rq_F I.1 n G H]
      unfold rqG GX95_request_70 GX95_request_83
      rw [fi_pos rfl, bz_t (by rw [eop]; exact hk), fi_neg (by decide), b2]
      exact ex_93 Q2.1 n1 hc1 E1 hea sec (Int32.ofInt 1) fN fN0
/-- writing to the disk -/
theorem req_wr (R : RelRam r c Mc Mt) (Q : Rq b c Mt l) (Cq : RqC rq dk x r Mc l sec) (K : RelDk dk b Mc Mt) (h70 : Mc.1 70 dk 0 = Mt.1 338 b 0) (o : Nat)
    (G : GX95_request_0 b Mt = rqG b Mt l 1 sec ∧ (rqH b Mt l 1 sec → HX95_request_0 b Mt)) :
    ∃ res Nc Nt w, FX26_run fN o rq dk x Mc = some (res, Nc) ∧ FX95_request fN b Mt = some (w, GX93_put c (eaL l) (vb res.toInt64 0) Nt) ∧ OutR rq dk r c b Mc Mt Nc Nt w ∧ EndT b (eaL l) Nt := by
  obtain ⟨h0, cl, op, el, e1, e2, hop, hh, ecl, eop, ht, okc, oko, hE, hea⟩ := rq_s Q
  obtain ⟨I, ⟨n, hc, hs⟩, g, h16, hg, ho, hl, hr⟩ := Q
  obtain ⟨⟨c1, c2, c3, c4, c5⟩, tx, Vc, Vo, c82, c84⟩ := Cq
  have T := R.1.1
  have W := R.1.2.1
  have n78 := tN_78 T.1 c1
  have to37 := tot_37 okc
  rw [ecl] at Vc
  have em : Mc.2.1 88 (Mc.2.2 78 rq 0) 0 = lN (totS (sgLk cl)) := by rw [Vc.2.1, smL_t]
  have X0 : FX26_run fN o rq dk x Mc = kX26_run (FX26_run_L38 fN fN) (GX26_run_0 o rq dk x Mc) := by
    show FX26_run_0 fN (FX26_run_L38 fN fN) o rq dk x Mc = _
    exact (gX26_run_0 (FX26_run_L38 fN fN) o rq dk x Mc T c1 c2).1
  have gh := X23_has (d := dk) (sec := sec) (M := Mc) (n := totS (sgLk cl)) c5 (by omega)
  by_cases hk : okD sec (totS (sgLk cl))
  · have hk' := hk
    unfold okD at hk'
    obtain ⟨k1, k2, k3, k4, k5⟩ := hk'
    have hcl : cl ≠ [] := fun z => by rw [z] at k1; exact absurd k1 (by decide)
    rw [el] at g h16
    have g' : Gt b Mt (h0 :: ([] ++ (cl ++ op))) := g
    obtain ⟨b1, N1, b2, b3, b4, b5⟩ := X95_begin (o := false) I.1 n g' h16 (fun y hy => by cases hy) e1 hcl
    rw [show bz (false = true) = Int32.ofInt 0 from bz_f (by decide)] at b1 b2
    have Q2 := trQ_k (ptx_k b3 I.2.1 n) (by unfold TFr; decide) b4 I
    have E1 : EndT b (eaL l) N1 := endT_w hE (b3.2 339 b 0 (fun q => by have := q.2; omega)).1 b3.1 (fun j => (b3.2 3 _ j (fun q => by have := q.2; omega)).2) (fun j => (b3.2 3 _ j (fun q => by have := q.2; omega)).2)
    have n1 := frm_is b3 n
    have hc1 : N1.2.2 326 b 0 = c := by rw [b3.1]; exact hc
    have d1 : N1.1 338 b 0 = Mt.1 338 b 0 := (b3.2 338 b 0 (fun q => by have := q.2; omega)).1
    have K1 : RelDk dk b Mc N1 := fun j hj => by
      rw [b3.1, (b3.2 3 _ j (fun q => by have := q.2; omega)).2]
      exact K j hj
    have C : CpI 78 rq dk x r b c (Mc.2.2 78 rq 0) (eaL l) (sgLk cl) 0 Mc N1 := ⟨rel_tq R Q2, ⟨Or.inl rfl, c1, c2, c3, c4, n78, rfl⟩, ⟨n1, hc1, E1⟩, strP_v okc.1 Vc, b5, K1⟩
    obtain ⟨q, hq⟩ : ∃ q, ul sec = q := ⟨_, rfl⟩
    have es : sec = lN q := by rw [← hq, lN_ul]
    rw [hq] at k5
    have hb := wr_L (q := q) (many := totS (sgLk cl)) (by omega) hea (totS (sgLk cl)) fN 0 (sgLk cl) 0 Mc N1 (by unfold fN; omega) (by omega) C okc (Nat.zero_le _) (by omega)
    obtain ⟨Nc, Nt, f1, f2, ⟨L', p', C'⟩, f4, f5, f6⟩ := hb
    obtain ⟨R', ⟨_, c1', c2', c3', c4', c5', c6'⟩, ⟨d1', d2', d3'⟩, S', P', K'⟩ := C'
    have k70 := wq_fI (f := 70) (i := 0) (v := Nc.1 70 dk 0 + nI (totS (sgLk cl) / 512)) R'.1.2.1 c2' rfl (by decide)
    have Q4 := ramQ_k k70 (by unfold RFr; decide) ⟨R'.1.1.1, tyb_sI rfl R'.1.1.2⟩ R'.1
    have Q5 := tk_338 (v := Nt.1 338 b 0 + nI (totS (sgLk cl) / 512)) d1' R'.2.1
    have l1 := wf_lt W (fm_ist rfl c1)
    have l2 := wf_lt W (fm_ist rfl c2)
    refine ⟨Int32.ofInt 0, fm_sI Nc 70 dk 0 (Nc.1 70 dk 0 + nI (totS (sgLk cl) / 512)), fm_sI Nt 338 b 0 (Nt.1 338 b 0 + nI (totS (sgLk cl) / 512)), Int64.ofInt 0 + Int64.ofInt 1, ?_, ?_, ⟨rel_tq (rel_q R' Q4) Q5, K', ?_, ?_, evo_w (evo_q' (evo_q f4 (evo_r r 0 Nc)) Q4) (by omega), wk_tt (wk_sub (me_s rfl) f5) (wk_sub (fun y (q : y = 70) => by rw [q]; rfl) k70), f6.1.trans b3.1⟩, endT_w d3' (oI (fun q => absurd q.1 (by decide))) rfl (fun _ => rfl) (fun _ => rfl)⟩
    · rw [X0]
      unfold GX26_run_0
      dsimp only
      rw [em, c82, gh]
      dsimp only
      rw [fi_neg (by rw [bz_t hk]; decide)]
      have e6 : sec.toInt32 * Int32.ofInt 512 = nI (q * 512) := by rw [es, o_32 (by omega)]; exact nI_m
      rw [c82, e6]
      exact f1
    · have H160 : HX95_request_160 b sec (lN (totS (sgLk cl))) (Int64.ofInt 0) (bz (¬ okD sec (totS (sgLk cl)))) Mt := by
        unfold HX95_request_160
        rw [bz_f (fun q => q hk)]
        exact ⟨fun _ => ⟨b1, trivial⟩, fun q => absurd rfl q⟩
      have H : rqH b Mt l 1 sec := ⟨fun q => absurd q (by decide), fun _ => by rw [ecl]; exact H160, fun q => absurd q (by decide), fun q => absurd q (by decide), fun _ q => absurd rfl q⟩
      rw [rq_F I.1 n G H]
      unfold rqG GX95_request_160
      rw [fi_neg (by decide), fi_pos rfl, bz_f (fun q => q (by rw [ecl]; exact hk)), fi_pos (show Int32.ofInt 0 = 0 from rfl), b2, ecl, es]
      exact f2
    · show (fm_sI Nc 70 dk 0 _).1 70 dk 0 = (fm_sI Nt 338 b 0 _).1 338 b 0
      rw [rI, rI, if_pos ⟨rfl, rfl, rfl⟩, if_pos ⟨rfl, rfl, rfl⟩, (kf f5 rfl (by decide) l2).1, (f6.2 338 b 0 (fun q => by rcases q with q | q <;> have := q.1 <;> first | omega | (have := q.2; omega))).1, d1, h70]
    · show Nc.2.1 84 rq 0 = _
      rw [(kf f5 rfl (by decide) l1).2.1, c84]
      rfl
  · refine ⟨Int32.ofInt 1, Mc, Mt, Int64.ofInt 0 + Int64.ofInt 1, ?_, ?_, ⟨R, K, h70, c84, evo_w (evo_r r 0 Mc) (by omega), wk_r (wi_N W), rfl⟩, hE⟩
    · rw [X0]
      unfold GX26_run_0
      dsimp only
      rw [em, c82, gh]
      dsimp only
      rw [fi_pos (by rw [bz_f hk]; rfl)]
      rfl
    · obtain ⟨r1, r2⟩ := r384 I n hc hE hea (Int32.ofInt 1) (Int64.ofInt 0)
      have H160 : HX95_request_160 b sec (lN (totS (sgLk cl))) (Int64.ofInt 0) (bz (¬ okD sec (totS (sgLk cl)))) Mt := by
        unfold HX95_request_160
        rw [bz_t hk]
        exact ⟨fun q => absurd q (by decide), fun _ => r1⟩
      have H : rqH b Mt l 1 sec := ⟨fun q => absurd q (by decide), fun _ => by rw [ecl]; exact H160, fun q => absurd q (by decide), fun q => absurd q (by decide), fun _ q => absurd rfl q⟩
      rw [rq_F I.1 n G H]
      unfold rqG GX95_request_160
      rw [fi_neg (by decide), fi_pos rfl, bz_t (by rw [ecl]; exact hk), fi_neg (by decide), r2]
      rfl
/-- the name -/
theorem req_nm (R : RelRam r c Mc Mt) (Q : Rq b c Mt l) (Cq : RqC rq dk x r Mc l sec) (K : RelDk dk b Mc Mt) (h70 : Mc.1 70 dk 0 = Mt.1 338 b 0) (o : Nat)
    (G : GX95_request_0 b Mt = rqG b Mt l 8 sec ∧ (rqH b Mt l 8 sec → HX95_request_0 b Mt)) :
    ∃ res Nc Nt w, FX28_run fN o rq dk x Mc = some (res, Nc) ∧ FX95_request fN b Mt = some (w, GX93_put c (eaL l) (vb res.toInt64 0) Nt) ∧ OutR rq dk r c b Mc Mt Nc Nt w ∧ EndT b (eaL l) Nt := by
  obtain ⟨h0, cl, op, el, e1, e2, hop, hh, ecl, eop, ht, okc, oko, hE, hea⟩ := rq_s Q
  obtain ⟨I, ⟨n, hc, hs⟩, g, h16, hg, ho, hl, hr⟩ := Q
  obtain ⟨⟨c1, c2, c3, c4, c5⟩, tx, Vc, Vo, c82, c84⟩ := Cq
  have T := R.1.1
  have W := R.1.2.1
  have n79 := tN_79 T.1 c1
  have to37 := tot_37 oko
  rw [el] at g h16
  have g' : Gt b Mt (h0 :: (cl ++ (op ++ []))) := by rw [List.append_nil]; exact g
  have h16' : (h0 :: (cl ++ (op ++ []))).length ≤ 16 := by rw [List.append_nil]; exact h16
  obtain ⟨b1, N1, b2, b3, b4, b5⟩ := X95_begin (o := true) I.1 n g' h16' (fun y hy => e1 y hy) e2 hop
  rw [show bz (true = true) = Int32.ofInt 1 from bz_t rfl] at b1 b2
  have Q2 := trQ_k (ptx_k b3 I.2.1 n) (by unfold TFr; decide) b4 I
  have E1 : EndT b (eaL l) N1 := endT_w hE (b3.2 339 b 0 (fun q => by have := q.2; omega)).1 b3.1 (fun j => (b3.2 3 _ j (fun q => by have := q.2; omega)).2) (fun j => (b3.2 3 _ j (fun q => by have := q.2; omega)).2)
  have n1 := frm_is b3 n
  have hc1 : N1.2.2 326 b 0 = c := by rw [b3.1]; exact hc
  have d1 : N1.1 338 b 0 = Mt.1 338 b 0 := (b3.2 338 b 0 (fun q => by have := q.2; omega)).1
  rw [eop] at Vo
  have K1 : RelDk dk b Mc N1 := fun j hj => by
    rw [b3.1, (b3.2 3 _ j (fun q => by have := q.2; omega)).2]
    exact K j hj
  have C : CpI 79 rq dk x r b c (Mc.2.2 79 rq 0) (eaL l) (sgLk op) 0 Mc N1 := ⟨rel_tq R Q2, ⟨Or.inr rfl, c1, c2, c3, c4, n79, rfl⟩, ⟨n1, hc1, E1⟩, strP_v oko.1 Vo, b5, K1⟩
  have em : Mc.2.1 88 (Mc.2.2 79 rq 0) 0 - Int64.ofInt 1 = lN (totS (sgLk op) - 1) := by rw [Vo.2.1, smL_t, l_sub1 ht]
  have X0 : FX28_run fN o rq dk x Mc = kX28_run (FX28_run_L20 fN fN) (GX28_run_0 o rq dk x Mc) := by
    show FX28_run_0 fN (FX28_run_L20 fN fN) o rq dk x Mc = _
    exact (gX28_run_0 (FX28_run_L20 fN fN) o rq dk x Mc T c1).1
  have gm := J5_min2 (n := 20) (m := totS (sgLk op) - 1) (by decide) (by omega) Mc
  obtain ⟨many, hmany⟩ : ∃ many, min 20 (totS (sgLk op) - 1) = many := ⟨_, rfl⟩
  have hm20 : many ≤ 20 := by omega
  have hb := nm_L (many := many) hm20 hea many fN 0 (sgLk op) 0 Mc N1 (by unfold fN; omega) (by omega) C tx oko (Nat.zero_le _) (by omega)
  obtain ⟨Nc, Nt, f1, f2, ⟨L', p', C'⟩, f4, f5, f6⟩ := hb
  obtain ⟨R', ⟨_, c1', c2', c3', c4', c5', c6'⟩, ⟨d1', d2', d3'⟩, S', P', K'⟩ := C'
  have k84 := wq_fL (f := 84) (i := 0) (v := Nc.2.1 84 rq 0 + lN many) R'.1.2.1 c1' rfl (by decide)
  have Q4 := ramQ_k k84 (by unfold RFr; decide) ⟨R'.1.1.1, R'.1.1.2⟩ R'.1
  have l1 := wf_lt W (fm_ist rfl c1)
  have l2 := wf_lt W (fm_ist rfl c2)
  refine ⟨Int32.ofInt 0, fm_sL Nc 84 rq 0 (Nc.2.1 84 rq 0 + lN many), Nt, lN many + Int64.ofInt 1, ?_, ?_, ⟨rel_q R' Q4, K', ?_, ?_, evo_w (evo_q' f4 Q4) (by omega), wk_tt (wk_sub (me_s rfl) f5) (wk_sub (fun y (q : y = 84) => by rw [q]; rfl) k84), f6.1.trans b3.1⟩, d3'⟩
  · rw [X0]
    unfold GX28_run_0
    dsimp only
    rw [em, show Int64.ofInt 20 = lN 20 from rfl, gm, hmany]
    exact f1
  · have H262 : HX95_request_262 b (Int32.ofInt 0) (lN many) Mt := by
      unfold HX95_request_262
      exact ⟨b1, trivial⟩
    have H : rqH b Mt l 8 sec := ⟨fun q => absurd q (by decide), fun q => absurd q (by decide), fun _ => by rw [eop, hmany]; exact H262, fun q => absurd q (by decide), fun _ _ q => absurd rfl q⟩
    rw [rq_F I.1 n G H]
    unfold rqG GX95_request_262
    rw [fi_neg (by decide), fi_neg (by decide), fi_pos rfl, b2, eop, hmany]
    exact f2
  · show Nc.1 70 dk 0 = Nt.1 338 b 0
    rw [(kf f5 rfl (by decide) l2).1, (f6.2 338 b 0 (fun q => by rcases q with q | q <;> have := q.1 <;> first | omega | (have := q.2; omega))).1, d1]
    exact h70
  · show (fm_sL Nc 84 rq 0 _).2.1 84 rq 0 = _
    rw [rL, if_pos ⟨rfl, rfl, rfl⟩, (kf f5 rfl (by decide) l1).2.1, c84, Int64.add_comm]
/-- other kinds -/
theorem req_ot (I : TrI c Mt) (Q : Rq b c Mt l) {kd : Nat} {res : Int32} (hk : kd ≠ 0 ∧ kd ≠ 1 ∧ kd ≠ 8) (hr : (kd = 4 ∧ res = Int32.ofInt 0) ∨ (kd ≠ 4 ∧ res = Int32.ofInt 2))
    (G : GX95_request_0 b Mt = rqG b Mt l kd sec ∧ (rqH b Mt l kd sec → HX95_request_0 b Mt)) :
    FX95_request fN b Mt = some (Int64.ofInt 0 + Int64.ofInt 1, GX93_put c (eaL l) (vb res.toInt64 0) Mt) ∧ EndT b (eaL l) Mt := by
  obtain ⟨h0, cl, op, el, e1, e2, hop, hh, ecl, eop, ht, okc, oko, hE, hea⟩ := rq_s Q
  obtain ⟨I, ⟨n, hc, hs⟩, _⟩ := Q
  obtain ⟨r1, r2⟩ := r384 I n hc hE hea (Int32.ofInt 0) (Int64.ofInt 0)
  obtain ⟨r3, r4⟩ := r384 I n hc hE hea (Int32.ofInt 2) (Int64.ofInt 0)
  have H : rqH b Mt l kd sec := ⟨fun q => absurd q hk.1, fun q => absurd q hk.2.1, fun q => absurd q hk.2.2, fun _ => r1, fun _ _ _ _ => r3⟩
  refine ⟨?_, hE⟩
  rw [rq_F I.1 n G H]
  unfold rqG
  rw [fi_neg hk.1, fi_neg hk.2.1, fi_neg hk.2.2]
  rcases hr with ⟨z1, z2⟩ | ⟨z1, z2⟩
  · rw [fi_pos z1, r2, z2]
    rfl
  · rw [fi_neg z1, r4, z2]
    rfl
end Rq3
