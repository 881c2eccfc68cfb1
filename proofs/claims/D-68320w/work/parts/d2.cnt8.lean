/-! the controller: the twin's writes -/
set_option maxRecDepth 100000
theorem low7 (v : Int64) : (v &&& Int64.ofInt 7).toInt32 = v.toInt32 &&& Int32.ofInt 7 := by
  apply ib_ext
  intro i hi
  rw [ib_low, lb_and, ib_and, ib_low, lb_mask (k := 3) (Int64.ofInt 7) rfl, ib_mask (k := 3) (Int32.ofInt 7) rfl, decide_eq_true hi]
  simp
section Cn
variable {m p n : Nat} {M : FM} {K : Kr}
theorem X96_isSource (x : Int64) (h : ul x < 4294967296) : GX96_isSource x M = (bz (0 < ul x ∧ ul x < 32), M) := by
  have tx : x.toInt = ul x := by rw [tl, if_pos (by omega)]
  have c1 : lg_cmp x (Int64.ofInt 0) ≤ 0 ↔ ¬ 0 < ul x := by rw [cl_le, tx]; show (ul x : Int) ≤ 0 ↔ _; omega
  have c2 : 0 ≤ lg_cmp x (Int64.ofInt 32) ↔ ¬ ul x < 32 := by rw [cl_ge, tx]; show (32 : Int) ≤ ul x ↔ _; omega
  unfold GX96_isSource GX96_isSource_0 GX96_isSource_18 GX96_isSource_19
  rw [propext c1, propext c2]
  by_cases h1 : 0 < ul x
  · rw [fi_neg (fun y => y h1)]
    by_cases h2 : ul x < 32
    · rw [fi_neg (fun y => y h2), bz_t ⟨h1, h2⟩]
    · rw [fi_pos h2, bz_f (fun q => h2 q.2)]
  · rw [fi_pos h1, bz_f (fun q => h1 q.1)]
theorem vkt_pr (T : Ty M) (W : Wf M) (mm : fm_is M 99 99 m = true) (V : VKt m M K) (k : Nat) (v : Int32) : VKt m (fm_sI M 3 (M.2.2 402 m 0) k v) (K.1, K.2.1, K.2.2.1, updS K.2.2.2.1 k v, K.2.2.2.2) ∧ FrK m M (fm_sI M 3 (M.2.2 402 m 0) k v) ∧ Ty (fm_sI M 3 (M.2.2 402 m 0) k v) := by
  obtain ⟨⟨d1, d2, d3⟩, ⟨d4, d5, d6⟩, d7⟩ := t_ne6 T W mm
  obtain ⟨v1, v2, v3, v4, v5, v6⟩ := V
  have rd : ∀ x i, x ≠ M.2.2 402 m 0 → (fm_sI M 3 (M.2.2 402 m 0) k v).1 3 x i = M.1 3 x i := fun x i h => by rw [rI, if_neg (fun q => h q.2.1)]
  refine ⟨⟨fun s hs => ?_, fun s hs => ?_, fun s hs => ?_, fun s hs => ?_, fun s hs => ?_, fun s hs => ?_⟩, frK_A (frK_r m M) (by simp), T.1, tyb_s3 (t := 901) rfl T.2 (tN_402 T.1 mm)⟩
  · exact (rd _ _ (d7 _ (Or.inl rfl)).1).trans (v1 s hs)
  · exact (rd _ _ (d7 _ (Or.inr (Or.inl rfl))).1).trans (v2 s hs)
  · exact (rd _ _ (d7 _ (Or.inr (Or.inr rfl))).1).trans (v3 s hs)
  · show (fm_sI M 3 (M.2.2 402 m 0) k v).1 3 (M.2.2 402 m 0) s = updS K.2.2.2.1 k v s
    unfold updS
    rw [rI]
    by_cases e : s = k
    · rw [if_pos ⟨rfl, rfl, e⟩, if_pos e]
    · rw [if_neg (fun q => e q.2.2), if_neg e]
      exact v4 s hs
  · exact (rd _ _ d4.symm).trans (v5 s hs)
  · exact (rd _ _ d5.symm).trans (v6 s hs)
theorem vkt_en (T : Ty M) (W : Wf M) (mm : fm_is M 99 99 m = true) (V : VKt m M K) (k : Nat) (v : Int32) : VKt m (fm_sI M 3 (M.2.2 403 m 0) k v) (K.1, K.2.1, K.2.2.1, K.2.2.2.1, updS K.2.2.2.2.1 k v, K.2.2.2.2.2) ∧ FrK m M (fm_sI M 3 (M.2.2 403 m 0) k v) ∧ Ty (fm_sI M 3 (M.2.2 403 m 0) k v) := by
  obtain ⟨⟨d1, d2, d3⟩, ⟨d4, d5, d6⟩, d7⟩ := t_ne6 T W mm
  obtain ⟨v1, v2, v3, v4, v5, v6⟩ := V
  have rd : ∀ x i, x ≠ M.2.2 403 m 0 → (fm_sI M 3 (M.2.2 403 m 0) k v).1 3 x i = M.1 3 x i := fun x i h => by rw [rI, if_neg (fun q => h q.2.1)]
  refine ⟨⟨fun s hs => ?_, fun s hs => ?_, fun s hs => ?_, fun s hs => ?_, fun s hs => ?_, fun s hs => ?_⟩, frK_A (frK_r m M) (by simp), T.1, tyb_s3 (t := 901) rfl T.2 (tN_403 T.1 mm)⟩
  · exact (rd _ _ (d7 _ (Or.inl rfl)).2.1).trans (v1 s hs)
  · exact (rd _ _ (d7 _ (Or.inr (Or.inl rfl))).2.1).trans (v2 s hs)
  · exact (rd _ _ (d7 _ (Or.inr (Or.inr rfl))).2.1).trans (v3 s hs)
  · exact (rd _ _ d4).trans (v4 s hs)
  · show (fm_sI M 3 (M.2.2 403 m 0) k v).1 3 (M.2.2 403 m 0) s = updS K.2.2.2.2.1 k v s
    unfold updS
    rw [rI]
    by_cases e : s = k
    · rw [if_pos ⟨rfl, rfl, e⟩, if_pos e]
    · rw [if_neg (fun q => e q.2.2), if_neg e]
      exact v5 s hs
  · exact (rd _ _ d6.symm).trans (v6 s hs)
theorem vkt_th (T : Ty M) (W : Wf M) (mm : fm_is M 99 99 m = true) (V : VKt m M K) (k : Nat) (v : Int32) : VKt m (fm_sI M 3 (M.2.2 404 m 0) k v) (K.1, K.2.1, K.2.2.1, K.2.2.2.1, K.2.2.2.2.1, updS K.2.2.2.2.2 k v) ∧ FrK m M (fm_sI M 3 (M.2.2 404 m 0) k v) ∧ Ty (fm_sI M 3 (M.2.2 404 m 0) k v) := by
  obtain ⟨⟨d1, d2, d3⟩, ⟨d4, d5, d6⟩, d7⟩ := t_ne6 T W mm
  obtain ⟨v1, v2, v3, v4, v5, v6⟩ := V
  have rd : ∀ x i, x ≠ M.2.2 404 m 0 → (fm_sI M 3 (M.2.2 404 m 0) k v).1 3 x i = M.1 3 x i := fun x i h => by rw [rI, if_neg (fun q => h q.2.1)]
  refine ⟨⟨fun s hs => ?_, fun s hs => ?_, fun s hs => ?_, fun s hs => ?_, fun s hs => ?_, fun s hs => ?_⟩, frK_A (frK_r m M) (by simp), T.1, tyb_s3 (t := 901) rfl T.2 (tN_404 T.1 mm)⟩
  · exact (rd _ _ (d7 _ (Or.inl rfl)).2.2).trans (v1 s hs)
  · exact (rd _ _ (d7 _ (Or.inr (Or.inl rfl))).2.2).trans (v2 s hs)
  · exact (rd _ _ (d7 _ (Or.inr (Or.inr rfl))).2.2).trans (v3 s hs)
  · exact (rd _ _ d5).trans (v4 s hs)
  · exact (rd _ _ d6).trans (v5 s hs)
  · show (fm_sI M 3 (M.2.2 404 m 0) k v).1 3 (M.2.2 404 m 0) s = updS K.2.2.2.2.2 k v s
    unfold updS
    rw [rI]
    by_cases e : s = k
    · rw [if_pos ⟨rfl, rfl, e⟩, if_pos e]
    · rw [if_neg (fun q => e q.2.2), if_neg e]
      exact v6 s hs
theorem vkt_sv (T : Ty M) (W : Wf M) (mm : fm_is M 99 99 m = true) (V : VKt m M K) {k : Nat} (hk : k < 32) : VKt m (fm_sI M 3 (M.2.2 401 m 0) k (Int32.ofInt 0)) (K.1, K.2.1, off1 K.2.2.1 k, K.2.2.2) ∧ FrK m M (fm_sI M 3 (M.2.2 401 m 0) k (Int32.ofInt 0)) ∧ Ty (fm_sI M 3 (M.2.2 401 m 0) k (Int32.ofInt 0)) := by
  obtain ⟨⟨d1, d2, d3⟩, ⟨d4, d5, d6⟩, d7⟩ := t_ne6 T W mm
  obtain ⟨v1, v2, v3, v4, v5, v6⟩ := V
  have rd : ∀ x i, x ≠ M.2.2 401 m 0 → (fm_sI M 3 (M.2.2 401 m 0) k (Int32.ofInt 0)).1 3 x i = M.1 3 x i := fun x i h => by rw [rI, if_neg (fun q => h q.2.1)]
  obtain ⟨q1, q2, q3⟩ := d7 _ (Or.inr (Or.inr rfl))
  refine ⟨⟨fun s hs => ?_, fun s hs => ?_, fun s hs => ?_, fun s hs => ?_, fun s hs => ?_, fun s hs => ?_⟩, frK_A (frK_r m M) (by simp), T.1, tyb_s3' T.2 (fun _ => Or.inl rfl)⟩
  · exact (rd _ _ d2).trans (v1 s hs)
  · exact (rd _ _ d3).trans (v2 s hs)
  · show (fm_sI M 3 (M.2.2 401 m 0) k (Int32.ofInt 0)).1 3 (M.2.2 401 m 0) s = bz (ib (off1 K.2.2.1 k) s = true)
    rw [rI, ib_off hk hs]
    by_cases e : s = k
    · rw [if_pos ⟨rfl, rfl, e⟩, decide_eq_true e, bz_f (by simp)]
    · rw [if_neg (fun q => e q.2.2), decide_eq_false e, v3 s hs]
      simp
  · exact (rd _ _ q1.symm).trans (v4 s hs)
  · exact (rd _ _ q2.symm).trans (v5 s hs)
  · exact (rd _ _ q3.symm).trans (v6 s hs)
theorem X96_wc107 (T : Ty M) (W : Wf M) (mm : fm_is M 99 99 m = true) (hp : M.1 395 m 0 = nI p) (h4 : p ≤ 4) (hn : n < 2147483648) (V : VKt m M K) (v : Int64) :
    ∃ M', (HX96_writeController_107 m (lN n) v M ∧ GX96_writeController_107 m (lN n) v M = M') ∧ VKt m M' (match cxt p 2097156 4096 0 n with | some c => kCm c v K | none => K) ∧ FrK m M M' ∧ Ty M' := by
  have c3 := X96_contextAt (m := m) (M := M) (n := n) hp h4 hn (show 2097156 < 2147483648 by decide) (show 0 < 4096 ∧ 4096 < 2147483648 by decide)
  have l3 : ∀ k, cxt p 2097156 4096 0 n = some k → k < 8 := fun k h => by have := cxt_lt h; omega
  have n3 := wC_neg (cxt p 2097156 4096 0 n) (fun k h => by have := l3 k h; omega)
  have lo := and_lo v
  unfold HX96_writeController_107 GX96_writeController_107 GX96_writeController_161
  dsimp only
  rw [show GX96_contextAt m (lN n) (Int64.ofInt 2097156) (Int64.ofInt 4096) M = _ from c3.2]
  dsimp only
  generalize hx : v &&& Int64.ofInt 4294967295 = x at *
  have hs : ul x < 4294967296 := by rw [lo]; exact Nat.mod_lt _ (by decide)
  have x32 : x.toInt32 = nI (ul x) := by
    apply ui_inj
    rw [ui_low, ui_nI]
  rw [X96_isSource x hs, propext n3, x32]
  dsimp only
  cases x3 : cxt p 2097156 4096 0 n with
  | none =>
    rw [fi_pos (show (none : Option Nat) = none from rfl)]
    exact ⟨M, ⟨⟨c3.1, fun _ => trivial, fun y => absurd rfl y⟩, rfl⟩, V, frK_r m M, T⟩
  | some c =>
    have hc := l3 c x3
    rw [fi_neg (show ¬ some c = none by simp), fi_bz]
    dsimp only
    unfold kCm
    rw [← lo]
    by_cases h1 : 0 < ul x ∧ ul x < 32
    · have en := X96_enables (c := c) T mm hc (s := ul x) h1.2
      rw [fi_pos h1, bz_t h1, show GX96_enables m (wC (some c)) (nI (ul x)) M = _ from en.2]
      dsimp only
      rw [fi_bz, V.2.2.2.2.1 c hc, o_cl (by omega)]
      by_cases h3 : ib (K.2.2.2.2.1 c) (ul x) = true
      · rw [fi_pos h3, if_pos ⟨h1.1, h1.2, h3⟩]
        exact ⟨_, ⟨⟨c3.1, fun y => (by cases y), fun _ => ⟨fun y => absurd y (by decide), fun _ => ⟨en.1, fun _ => trivial, fun _ => ⟨in_nI (tL_401 T.1 mm) h1.2 (by decide), trivial⟩⟩⟩⟩, rfl⟩, vkt_sv T W mm V h1.2⟩
      · rw [fi_neg h3, if_neg (fun q => h3 q.2.2)]
        exact ⟨M, ⟨⟨c3.1, fun y => (by cases y), fun _ => ⟨fun y => absurd y (by decide), fun _ => ⟨en.1, fun _ => trivial, fun _ => ⟨in_nI (tL_401 T.1 mm) h1.2 (by decide), trivial⟩⟩⟩⟩, rfl⟩, V, frK_r m M, T⟩
    · rw [fi_neg h1, bz_f h1, if_neg (fun q => h1 ⟨q.1, q.2.1⟩)]
      exact ⟨M, ⟨⟨c3.1, fun y => (by cases y), fun _ => ⟨fun _ => trivial, fun y => absurd rfl y⟩⟩, rfl⟩, V, frK_r m M, T⟩
theorem X96_writeController (T : Ty M) (W : Wf M) (mm : fm_is M 99 99 m = true) (hp : M.1 395 m 0 = nI p) (h4 : p ≤ 4) (hn : n < 2147483648) (V : VKt m M K) (v : Int64) :
    ∃ M', (HX96_writeController m (lN n) v M ∧ GX96_writeController m (lN n) v M = M') ∧ VKt m M' (kWr kCm p n v K) ∧ FrK m M M' ∧ Ty M' := by
  have l1 : ∀ k, cxt p 8192 128 0 n = some k → k < 8 := fun k h => by have := cxt_lt h; omega
  have l2 : ∀ k, cxt p 2097152 4096 0 n = some k → k < 8 := fun k h => by have := cxt_lt h; omega
  have n1 := wC_neg (cxt p 8192 128 0 n) (fun k h => by have := l1 k h; omega)
  have n2 := wC_neg (cxt p 2097152 4096 0 n) (fun k h => by have := l2 k h; omega)
  have g128 : 0 ≤ lg_cmp (lN n) (Int64.ofInt 128) ↔ ¬ n < 128 := (o_ge hn (show 128 < 2147483648 by decide)).trans (by omega)
  have r4 := o_r hn 4 (by decide)
  rw [o_div hn (by decide)] at r4
  -- the second context
  have w76 : ∀ (N : FM) (K' : Kr), Ty N → Wf N → fm_is N 99 99 m = true → N.1 395 m 0 = nI p → VKt m N K' → ∃ M', (HX96_writeController_76 m (lN n) v N ∧ GX96_writeController_76 m (lN n) v N = M') ∧
      VKt m M' (match cxt p 2097152 4096 0 n with | some c => (K'.1, K'.2.1, K'.2.2.1, K'.2.2.2.1, K'.2.2.2.2.1, updS K'.2.2.2.2.2 c (v.toInt32 &&& Int32.ofInt 7)) | none => match cxt p 2097156 4096 0 n with | some c => kCm c v K' | none => K') ∧ FrK m N M' ∧ Ty M' := fun N K' TN WN nN hN VN => by
    have c2 := X96_contextAt (m := m) (M := N) (n := n) hN h4 hn (show 2097152 < 2147483648 by decide) (show 0 < 4096 ∧ 4096 < 2147483648 by decide)
    unfold HX96_writeController_76 GX96_writeController_76
    dsimp only
    rw [show GX96_contextAt m (lN n) (Int64.ofInt 2097152) (Int64.ofInt 4096) N = _ from c2.2]
    dsimp only
    rw [propext n2]
    cases x2 : cxt p 2097152 4096 0 n with
    | none =>
      rw [fi_pos (show (none : Option Nat) = none from rfl)]
      obtain ⟨M', ⟨y1, y2⟩, y3⟩ := X96_wc107 TN WN nN hN h4 hn VN v
      exact ⟨M', ⟨⟨c2.1, fun _ => y1, fun y => absurd rfl y⟩, y2⟩, y3⟩
    | some k =>
      have hk := l2 k x2
      rw [fi_neg (show ¬ some k = none by simp), show (wC (some k)).toNatClampNeg = k from o_cl (by omega), low7]
      obtain ⟨z1, z2, z3⟩ := vkt_th TN WN nN VN k (v.toInt32 &&& Int32.ofInt 7)
      obtain ⟨M', ⟨y1, y2⟩, y3, y4, y5⟩ := X96_wc107 z3 (wf_sI (lo := 901) (hi := 901) WN rfl (tN_404 TN.1 nN)) nN (by rw [rIf (by decide)]; exact hN) h4 hn z1 v
      rw [cxt_x2 x2] at y3
      exact ⟨M', ⟨⟨c2.1, fun y => (by cases y), fun _ => ⟨in_nI (tL_404 TN.1 nN) hk (by decide), y1⟩⟩, y2⟩, y3, frK_t z2 y4, y5⟩
  -- the first context
  have w46 : ∀ (N : FM) (K' : Kr), Ty N → Wf N → fm_is N 99 99 m = true → N.1 395 m 0 = nI p → VKt m N K' → ∃ M', (HX96_writeController_46 m (lN n) v N ∧ GX96_writeController_46 m (lN n) v N = M') ∧
      VKt m M' (match cxt p 8192 128 0 n with | some c => (K'.1, K'.2.1, K'.2.2.1, K'.2.2.2.1, updS K'.2.2.2.2.1 c (v.toInt32 &&& Int32.ofInt (-2)), K'.2.2.2.2.2) | none => match cxt p 2097152 4096 0 n with | some c => (K'.1, K'.2.1, K'.2.2.1, K'.2.2.2.1, K'.2.2.2.2.1, updS K'.2.2.2.2.2 c (v.toInt32 &&& Int32.ofInt 7)) | none => match cxt p 2097156 4096 0 n with | some c => kCm c v K' | none => K') ∧ FrK m N M' ∧ Ty M' := fun N K' TN WN nN hN VN => by
    have c1 := X96_contextAt (m := m) (M := N) (n := n) hN h4 hn (show 8192 < 2147483648 by decide) (show 0 < 128 ∧ 128 < 2147483648 by decide)
    unfold HX96_writeController_46 GX96_writeController_46
    dsimp only
    rw [show GX96_contextAt m (lN n) (Int64.ofInt 8192) (Int64.ofInt 128) N = _ from c1.2]
    dsimp only
    rw [propext n1]
    cases x1 : cxt p 8192 128 0 n with
    | none =>
      rw [fi_pos (show (none : Option Nat) = none from rfl)]
      obtain ⟨M', ⟨y1, y2⟩, y3⟩ := w76 N K' TN WN nN hN VN
      exact ⟨M', ⟨⟨c1.1, fun _ => y1, fun y => absurd rfl y⟩, y2⟩, y3⟩
    | some k =>
      have hk := l1 k x1
      rw [fi_neg (show ¬ some k = none by simp), show (wC (some k)).toNatClampNeg = k from o_cl (by omega)]
      obtain ⟨z1, z2, z3⟩ := vkt_en TN WN nN VN k (v.toInt32 &&& Int32.ofInt (-2))
      obtain ⟨M', ⟨y1, y2⟩, y3, y4, y5⟩ := w76 _ _ z3 (wf_sI (lo := 901) (hi := 901) WN rfl (tN_403 TN.1 nN)) nN (by rw [rIf (by decide)]; exact hN) z1
      rw [(cxt_x1 h4 x1).1, (cxt_x1 h4 x1).2] at y3
      exact ⟨M', ⟨⟨c1.1, fun y => (by cases y), fun _ => ⟨in_nI (tL_403 TN.1 nN) hk (by decide), y1⟩⟩, y2⟩, y3, frK_t z2 y4, y5⟩
  unfold HX96_writeController HX96_writeController_0 GX96_writeController GX96_writeController_0
  have d4 : ul (lN (n / 4)) < 4294967296 := by rw [ul_o (by omega)]; omega
  dsimp only
  rw [propext g128, show Int64.ofInt 4 = lN 4 from rfl, o_div hn (by decide), propext r4, X96_isSource _ d4, ul_o (by omega), o_32 (by omega), o_cl (by omega), low7]
  dsimp only
  obtain ⟨M0, ⟨x1, x2⟩, x3, x4, x5⟩ := w46 M K T W mm hp V
  by_cases hb : n < 128
  · rw [fi_neg (fun y => y hb)]
    by_cases n4 : n % 4 = 0
    · rw [fi_pos n4, fi_bz]
      by_cases s0 : 0 < n / 4 ∧ n / 4 < 32
      · rw [fi_pos s0, bz_t s0]
        obtain ⟨z1, z2, z3⟩ := vkt_pr T W mm V (n / 4) (v.toInt32 &&& Int32.ofInt 7)
        obtain ⟨M', ⟨y1, y2⟩, y3, y4, y5⟩ := w46 _ _ z3 (wf_sI (lo := 901) (hi := 901) W rfl (tN_402 T.1 mm)) mm (by rw [rIf (by decide)]; exact hp) z1
        rw [cxt_0 (show n < 8192 by omega), cxt_0 (show n < 2097152 by omega), cxt_0 (show n < 2097156 by omega)] at y3
        refine ⟨M', ⟨⟨fun y => absurd hb y, fun _ => ⟨fun _ => ⟨fun y => absurd y (by decide), fun _ => ⟨in_nI (tL_402 T.1 mm) s0.2 (by decide), y1⟩⟩, fun y => absurd n4 y⟩⟩, y2⟩, ?_, frK_t z2 y4, y5⟩
        unfold kWr
        rw [if_pos ⟨by omega, hb, n4⟩]
        exact y3
      · rw [fi_neg s0, bz_f s0]
        refine ⟨M0, ⟨⟨fun y => absurd hb y, fun _ => ⟨fun _ => ⟨fun _ => x1, fun y => absurd rfl y⟩, fun y => absurd n4 y⟩⟩, x2⟩, ?_, x4, x5⟩
        unfold kWr
        rw [if_neg (by omega)]
        exact x3
    · rw [fi_neg n4]
      refine ⟨M0, ⟨⟨fun y => absurd hb y, fun _ => ⟨fun y => absurd y n4, fun _ => x1⟩⟩, x2⟩, ?_, x4, x5⟩
      unfold kWr
      rw [if_neg (by omega)]
      exact x3
  · rw [fi_pos hb]
    refine ⟨M0, ⟨⟨fun _ => x1, fun y => absurd hb y⟩, x2⟩, ?_, x4, x5⟩
    unfold kWr
    rw [if_neg (by omega)]
    exact x3
end Cn
