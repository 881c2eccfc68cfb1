/-! the board against the twin's windows: what is held against what; reads -/
set_option maxRecDepth 100000
/-- the windows' places in their row -/
def WinO (M : FM) : Prop := ∀ k, k < 5 → M.1 10 (37 + k) 0 = nI k
def StB (bd r s d : Nat) (M : FM) : Prop := BdW bd M ∧ WinO M ∧ M.2.2 18 bd 0 = r ∧ M.2.2 19 bd 0 = s ∧ M.2.2 20 bd 0 = d
def StTw (m cr bl sg : Nat) (M : FM) : Prop := fm_is M 92 92 m = true ∧ M.2.2 298 m 0 = cr ∧ M.2.2 300 m 0 = bl ∧ M.2.2 301 m 0 = sg
/-- whether the machine came to its end, and the code -/
def EnB (bd m : Nat) (Mc Mt : FM) : Prop := Mc.1 23 bd 0 = Mt.1 315 m 0 ∧ Mc.1 22 bd 0 = bz (¬ Mt.1 315 m 0 = Int32.ofInt (-1))
def RelB (bd s d x dk q rq r m sg bl cr np B : Nat) (Mc Mt : FM) : Prop :=
  (StB bd r s d Mc ∧ StTw m cr bl sg Mt) ∧ (RelG s sg np B Mc Mt ∧ RelD d x dk q rq bl r cr Mc Mt) ∧ EnB bd m Mc Mt
def uB : List Nat := [10, 13, 14, 18, 19, 20, 21, 1021]
def uBt : List Nat := [298, 300, 301]
section Bd
variable {bd s d x dk q rq r m sg bl cr np B k n z : Nat} {S S' : List Nat} {M N Mc Nc Mt Nt : FM} {p : Int64}
theorem stB_k (k : WK S M N) (h : dj uB S = true) (T : Ty M) (W : Wf M) (V : StB bd r s d M) : StB bd r s d N := by
  obtain ⟨⟨n, l, rw_, wc⟩, wo, h1, h2, h3⟩ := V
  have lb := wf_lt W (fm_ist rfl n)
  have e := fun (f : Nat) (hf : Nat.ble 4 f = true) (hl : fe_mem uB f = true) => congrFun (kf (f := f) k hf (dj_n h f hl) lb).2.2 0
  have n21 := tN_21 T.1 n
  have l21 := wf_lt W (fm_ist rfl n21)
  have r21 := (ka k (sS_21 W n) (wf_n0 W (fm_ist rfl n21)) (dj_n h 1021 rfl) l21).2.2
  have nx := W.2.2.2
  have ec := fun (f y : Nat) (hy : y < 42) (hf : Nat.ble 4 f = true) (hl : fe_mem uB f = true) => kf (f := f) (a := y) k hf (dj_n h f hl) (by omega)
  refine ⟨⟨kis k W rfl n, ?_, fun j hj => ?_, fun j h1 h2 => ?_⟩, fun j hj => (congrFun (ec 10 (37 + j) (by omega) rfl rfl).1 0).trans (wo j hj), (e 18 rfl rfl).trans h1, (e 19 rfl rfl).trans h2, (e 20 rfl rfl).trans h3⟩
  · rw [e 21 rfl rfl, congrFun (kt k l21).2 0]
    exact l
  · rw [e 21 rfl rfl, r21]
    exact rw_ j hj
  · rw [(ec 13 j (by omega) rfl rfl).2.1, (ec 14 j (by omega) rfl rfl).2.1]
    exact wc j h1 h2
theorem stTw_k (k : WK S M N) (h : dj uBt S = true) (W : Wf M) (V : StTw m cr bl sg M) : StTw m cr bl sg N := by
  obtain ⟨n, h1, h2, h3⟩ := V
  have lb := wf_lt W (fm_ist rfl n)
  have e := fun (f : Nat) (hf : Nat.ble 4 f = true) (hl : fe_mem uBt f = true) => congrFun (kf (f := f) k hf (dj_n h f hl) lb).2.2 0
  exact ⟨kis k W rfl n, (e 298 rfl rfl).trans h1, (e 300 rfl rfl).trans h2, (e 301 rfl rfl).trans h3⟩
theorem enB_k (k : WK S Mc Nc) (k' : WK S' Mt Nt) (h : dj [22, 23] S = true) (h' : dj [315] S' = true) (W : Wf Mc) (W' : Wf Mt) (n : fm_is Mc 11 11 bd = true) (n' : fm_is Mt 92 92 m = true) (E : EnB bd m Mc Mt) : EnB bd m Nc Nt := by
  have lb := wf_lt W (fm_ist rfl n)
  have lm := wf_lt W' (fm_ist rfl n')
  unfold EnB
  rw [(kf (f := 22) k rfl (dj_n h 22 rfl) lb).1, (kf (f := 23) k rfl (dj_n h 23 rfl) lb).1, (kf (f := 315) k' rfl (dj_n h' 315 rfl) lm).1]
  exact E
/-- the board where others write, but for the memory -/
theorem wrB (k : WK S Mc Nc) (k' : WK S' Mt Nt) (h : dj (uB ++ ([22, 23] ++ (lG ++ uD))) S = true) (h' : dj (uBt ++ ([315] ++ (lGt ++ lDt))) S' = true) (RR : RelRam r cr Nc Nt) (R : RelB bd s d x dk q rq r m sg bl cr np B Mc Mt) : RelB bd s d x dk q rq r m sg bl cr np B Nc Nt := by
  obtain ⟨⟨a, b⟩, ⟨g, D⟩, e⟩ := R
  have T := D.1.1.1
  have W := D.1.1.2.1
  have T' := D.1.2.1.1
  have W' := D.1.2.1.2.1
  have sub := fun (L L' X : List Nat) (h : dj (L ++ L') X = true) => show dj L X = true ∧ dj L' X = true by
    unfold dj at h ⊢
    rw [List.all_append, Bool.and_eq_true] at h
    exact h
  obtain ⟨i1, i2⟩ := sub _ _ _ h
  obtain ⟨i2, i3⟩ := sub _ _ _ i2
  obtain ⟨i3, i4⟩ := sub _ _ _ i3
  obtain ⟨j1, j2⟩ := sub _ _ _ h'
  obtain ⟨j2, j3⟩ := sub _ _ _ j2
  obtain ⟨j3, j4⟩ := sub _ _ _ j3
  exact ⟨⟨stB_k k i1 T W a, stTw_k k' j1 W' b⟩, ⟨wrG k k' i3 j3 T W T' W' g, wrD k k' i4 j4 RR D⟩, enB_k k k' i2 j2 W W' a.1.1 b.1 e⟩
theorem z4_p (h : z4 (nI z)) : 0 < z := by
  rcases Nat.eq_zero_or_pos z with e | e
  · rw [e] at h
    exact absurd h (by unfold z4; decide)
  · exact e
theorem off_e (hk : k < 5) (hp : ul p < 4611686018427387904) (h0 : 0 < z) (h : inW p z k) : ∃ n, n < 4194304 ∧ (k = 4 → n < 4096) ∧ p - lN (winF (37 + k)).1 = lN n := by
  obtain ⟨h1, h2⟩ := h
  have e : k = 0 ∨ k = 1 ∨ k = 2 ∨ k = 3 ∨ k = 4 := by omega
  refine ⟨ul p - (winF (37 + k)).1, ?_, ?_, ul_inj ?_⟩
  · rcases e with rfl | rfl | rfl | rfl | rfl <;> simp (decide := true) only [winF, if_true, if_false] at h1 h2 ⊢ <;> omega
  · rintro rfl
    simp (decide := true) only [winF, if_true, if_false] at h1 h2 ⊢
    omega
  · have b := winF_b k
    rw [ul_sub, ul_lN, ul_o (by omega)]
    omega
theorem reg_c (hn : n < 4194304) (hs : z ≤ 8) : GX10_isRegister (lN n) (nI z) M = (bz (z = 4 ∧ n % 4 = 0 ∧ n < 512), M) := by
  have e4 : (nI z = Int32.ofInt 4) = (z = 4) := nI_e (a := z) (b := 4) (by omega) (by omega)
  have e3 : lg_cmp (lN n &&& Int64.ofInt 3) (Int64.ofInt 0) = 0 ↔ n % 4 = 0 := by
    have := o_and (n := n) (by omega) 2 (by decide)
    rw [show (Int64.ofInt 3 : Int64) = lN (2 ^ 2 - 1) from rfl, this, show (Int64.ofInt 0 : Int64) = lN 0 from rfl, o_eq (by omega) (by omega)]
  have e5 : 0 ≤ lg_cmp (lN n) (Int64.ofInt 512) ↔ 512 ≤ n := o_ge (k := 512) (by omega) (by omega)
  unfold GX10_isRegister GX10_isRegister_0 GX10_isRegister_27 GX10_isRegister_28
  rw [e4]
  by_cases c1 : z = 4
  · rw [fi_pos c1]
    by_cases c2 : n % 4 = 0
    · rw [fi_pos (e3.mpr c2)]
      by_cases c3 : 512 ≤ n
      · rw [fi_pos (e5.mpr c3), bz_f (by omega)]
      · rw [fi_neg (fun q => c3 (e5.mp q)), bz_t (by omega)]
    · rw [fi_neg (fun q => c2 (e3.mp q)), bz_f (by omega)]
  · rw [fi_neg c1, bz_f (by omega)]
theorem reg_t (hn : n < 4194304) (hs : z ≤ 8) : GX92_isDiskRegister (lN n) (nI z) M = (bz (z = 4 ∧ n % 4 = 0 ∧ n < 512), M) := by
  have e4 : (nI z = Int32.ofInt 4) = (z = 4) := nI_e (a := z) (b := 4) (by omega) (by omega)
  have e3 : lg_cmp (lN n - lN n / Int64.ofInt 4 * Int64.ofInt 4) (Int64.ofInt 0) = 0 ↔ n % 4 = 0 := by
    rw [show (Int64.ofInt 4 : Int64) = lN 4 from rfl, o_rest (by omega) (by omega), show (Int64.ofInt 0 : Int64) = lN 0 from rfl, o_eq (by omega) (by omega)]
  have e5 : 0 < lg_cmp (lN n) (Int64.ofInt 508) ↔ 508 < n := o_gt (k := 508) (by omega) (by omega)
  unfold GX92_isDiskRegister GX92_isDiskRegister_0 GX92_isDiskRegister_27 GX92_isDiskRegister_28
  rw [e4]
  by_cases c1 : z = 4
  · rw [fi_pos c1]
    by_cases c2 : n % 4 = 0
    · rw [fi_pos (e3.mpr c2)]
      by_cases c3 : 508 < n
      · rw [fi_pos (e5.mpr c3), bz_f (by omega)]
      · rw [fi_neg (fun q => c3 (e5.mp q)), bz_t (by omega)]
    · rw [fi_neg (fun q => c2 (e3.mp q)), bz_f (by omega)]
  · rw [fi_neg c1, bz_f (by omega)]
theorem rel_bread (R : RelB bd s d x dk q rq r m sg bl cr np B Mc Mt) (hp : ul p < 4611686018427387904) (hz : z4 (nI z)) (h8 : z ≤ 8) (hw : wnX p z ≠ 5) :
    ∃ v X Y, (HX10_read bd (wcd (wnX p z)) p (nI z) Mc ∧ GX10_read bd (wcd (wnX p z)) p (nI z) Mc = (v, X)) ∧ (HX92_readWindow m p (nI z) Mt ∧ GX92_readWindow m p (nI z) Mt = (v, Y)) ∧ RelB bd s d x dk q rq r m sg bl cr np B X Y ∧ RelRam r cr X Y ∧ Evo r 0 Mc X := by
  have R0 := R
  obtain ⟨⟨⟨⟨nb, wl, wr, wc⟩, wo, b18, b19, b20⟩, ⟨nm, m298, m300, m301⟩⟩, ⟨G, D⟩, E⟩ := R
  have T := D.1.1.1
  have W := D.1.1.2.1
  have T' := D.1.2.1.1
  have W' := D.1.2.1.2.1
  obtain ⟨hk, hi⟩ := wnX_in hw
  have ow := X92_windowOf (M := Mt) T' hp h8
  unfold wtw at ow
  rw [if_neg hw] at ow
  unfold wcd
  rw [if_neg hw]
  generalize wnX p z = k at *
  obtain ⟨n, n1, n2, n3⟩ := off_e hk hp (z4_p hz) hi
  have ho : GJ0_ordinal (37 + k) Mc = (nI k, Mc) := by
    rw [← wo k hk]
    rfl
  have h13 := (wc (37 + k) (by omega) (by omega)).1
  have hb := X92_baseOf (M := Mt) hk
  have ne := fun (a b : Nat) (ha : a < 100) (hb : b < 100) => nI_e (a := a) (b := b) (by omega) (by omega)
  have le := fun (a b : Nat) (ha : a < 100) (hb : b < 100) => n_le (a := a) (b := b) (by omega) (by omega)
  unfold HX10_read HX10_read_0 GX10_read GX10_read_0 HX92_readWindow HX92_readWindow_0 GX92_readWindow GX92_readWindow_0
  dsimp only
  rw [h13, n3, ho, ow.2]
  dsimp only
  rw [hb]
  dsimp only
  rw [n3, b19, m301]
  by_cases c0 : k = 0
  · subst c0
    refine ⟨Int64.ofInt 0, Mc, Mt, ⟨⟨fun q => absurd q (by decide), fun _ => ⟨fun q => absurd q (by decide), fun _ => ⟨fun q => absurd q (by decide), fun _ => trivial⟩⟩⟩, ?_⟩, ⟨⟨ow.1, fun _ => trivial, fun q => absurd (show nI 0 ≤ 0 by decide) q⟩, ?_⟩, R0, D.1, evo_r r 0 Mc⟩
    · rw [fi_neg (by decide), fi_neg (by decide), fi_neg (by decide), fi_neg (by decide)]
    · rw [fi_pos (by decide)]
      unfold GX92_readWindow_42 GX92_readWindow_75 GX92_readWindow_76
      rw [fi_neg (by decide)]
  by_cases c4 : k = 4
  · subst c4
    have n512 := n2 rfl
    have hc : ¬ nI 4 ≤ 0 := by decide
    have hc4 : Int32.ofInt 4 ≤ nI 4 := by decide
    by_cases cr_ : z = 4 ∧ n % 4 = 0 ∧ n < 512
    · obtain ⟨e1, D1⟩ := rel_dread D (o := n) cr_.2.2 cr_.2.1
      have kt' : WK lX95_read Mt (GX95_read bl (nI n) Mt).2 := wX95_read (SL lX95_read) (fun _ => True) (fun _ h => h) bl (nI n) Mt (wi_N W') trivial _ (gX95_read bl (nI n) Mt T' D.2.2.1.1).1
      have kc : WK [] Mc Mc := WK_r W
      refine ⟨((GX95_read bl (nI n) Mt).1.toInt64 &&& Int64.ofInt 4294967295), Mc, (GX95_read bl (nI n) Mt).2, ⟨⟨fun q => absurd q (by decide), fun _ => ⟨fun q => absurd q (by decide), fun _ => ⟨fun q => absurd q (by decide), fun _ => trivial⟩⟩⟩, ?_⟩, ⟨⟨ow.1, fun q => absurd q hc, fun _ => ⟨fun _ => trivial, fun q => absurd hc4 q⟩⟩, ?_⟩,
        ⟨⟨⟨⟨nb, wl, wr, wc⟩, wo, b18, b19, b20⟩, stTw_k kt' (by decide) W' ⟨nm, m298, m300, m301⟩⟩, ⟨wrG kc kt' (by decide) (by decide) T W T' W' G, D1⟩, enB_k kc kt' (by decide) (by decide) W W' nb nm E⟩, D1.1, evo_r r 0 Mc⟩
      · rw [fi_neg (by decide), fi_neg (by decide), fi_neg (by decide), fi_pos (by decide), reg_c n1 h8, bz_t cr_]
        dsimp only
        rw [fi_neg (by decide), b20, o_32 (by omega), e1]
        rfl
      · rw [fi_neg hc, fi_pos hc4]
        unfold GX92_readWindow_42
        rw [fi_pos (by decide), reg_t n1 h8, bz_t cr_]
        dsimp only
        rw [fi_neg (by decide), m300, o_32 (by omega)]
        rfl
    · refine ⟨Int64.ofInt 0, Mc, Mt, ⟨⟨fun q => absurd q (by decide), fun _ => ⟨fun q => absurd q (by decide), fun _ => ⟨fun q => absurd q (by decide), fun _ => trivial⟩⟩⟩, ?_⟩, ⟨⟨ow.1, fun q => absurd q hc, fun _ => ⟨fun _ => trivial, fun q => absurd hc4 q⟩⟩, ?_⟩, R0, D.1, evo_r r 0 Mc⟩
      · rw [fi_neg (by decide), fi_neg (by decide), fi_neg (by decide), fi_pos (by decide), reg_c n1 h8, bz_f cr_]
        dsimp only
        rw [fi_pos (show Int32.ofInt 0 = 0 from rfl)]
        rfl
      · rw [fi_neg hc, fi_pos hc4]
        unfold GX92_readWindow_42
        rw [fi_pos (by decide), reg_t n1 h8, bz_f cr_]
        dsimp only
        rw [fi_pos (show Int32.ofInt 0 = 0 from rfl)]
        rfl
  · -- one of the three
    obtain ⟨j, hj, rfl⟩ : ∃ j, j < 3 ∧ k = j + 1 := ⟨k - 1, by omega, by omega⟩
    obtain ⟨v, X, Y, ⟨x1, x2⟩, ⟨y1, y2⟩, G1⟩ := rel_gread (n := n) (z := nI z) T W T' W' G hj (by omega) hz
    obtain ⟨_, _, _, _, ns, nsg, _⟩ := id G
    have gx := gX30_read s (nI j) (lN n) (nI z) Mc T ns x1
    have gy := gX96_read sg (nI j) (lN n) (nI z) Mt T' nsg y1
    have kc : WK lX30_read Mc X := by
      have h := wX30_read (SL lX30_read) (fun _ => True) (fun _ h => h) fN s (nI j) (lN n) (nI z) Mc (wi_N W) trivial _ gx.1
      rw [x2] at h
      exact h
    have kt : WK lX96_read Mt Y := by
      have h := wX96_read (SL lX96_read) (fun _ => True) (fun _ h => h) fN sg (nI j) (lN n) (nI z) Mt (wi_N W') trivial _ gy.1
      rw [y2] at h
      exact h
    have TX : Ty X := by
      have h := gx.2.1
      rw [x2] at h
      exact h
    have TY : Ty Y := by
      have h := gy.2.1
      rw [y2] at h
      exact h
    obtain ⟨RR, rq', tq'⟩ := wrR kc kt (by decide) (by decide) TX TY D.1
    have res : RelB bd s d x dk q rq r m sg bl cr np B X Y :=
      ⟨⟨stB_k kc (by decide) T W ⟨⟨nb, wl, wr, wc⟩, wo, b18, b19, b20⟩, stTw_k kt (by decide) W' ⟨nm, m298, m300, m301⟩⟩, ⟨G1, wrD kc kt (by decide) (by decide) RR D⟩, enB_k kc kt (by decide) (by decide) W W' nb nm E⟩
    have ev : Evo r 0 Mc X := evo_same (fun p _ => rq'.2.2.2.2.1 p) rq'.2.2.2.1
    have e : j = 0 ∨ j = 1 ∨ j = 2 := by omega
    rcases e with rfl | rfl | rfl
    · refine ⟨v, X, Y, ⟨⟨fun _ => ⟨x1, trivial⟩, fun q => absurd rfl q⟩, ?_⟩, ⟨⟨ow.1, fun q => absurd q (by decide), fun _ => ⟨fun q => absurd q (by decide), fun _ => ⟨y1, trivial⟩⟩⟩, ?_⟩, res, RR, ev⟩
      · rw [fi_pos (show nI (0 + 1) = Int32.ofInt 1 from rfl), show Int32.ofInt 0 = nI 0 from rfl, x2]
      · rw [fi_neg (by decide), fi_neg (by decide), show nI (0 + 1) - Int32.ofInt 1 = nI 0 from rfl, y2]
    · refine ⟨v, X, Y, ⟨⟨fun q => absurd q (by decide), fun _ => ⟨fun _ => ⟨x1, trivial⟩, fun q => absurd rfl q⟩⟩, ?_⟩, ⟨⟨ow.1, fun q => absurd q (by decide), fun _ => ⟨fun q => absurd q (by decide), fun _ => ⟨y1, trivial⟩⟩⟩, ?_⟩, res, RR, ev⟩
      · rw [fi_neg (by decide), fi_pos (show nI (1 + 1) = Int32.ofInt 2 from rfl), show Int32.ofInt 1 = nI 1 from rfl, x2]
      · rw [fi_neg (by decide), fi_neg (by decide), show nI (1 + 1) - Int32.ofInt 1 = nI 1 from rfl, y2]
    · refine ⟨v, X, Y, ⟨⟨fun q => absurd q (by decide), fun _ => ⟨fun q => absurd q (by decide), fun _ => ⟨fun _ => ⟨x1, trivial⟩, fun q => absurd rfl q⟩⟩⟩, ?_⟩, ⟨⟨ow.1, fun q => absurd q (by decide), fun _ => ⟨fun q => absurd q (by decide), fun _ => ⟨y1, trivial⟩⟩⟩, ?_⟩, res, RR, ev⟩
      · rw [fi_neg (by decide), fi_neg (by decide), fi_pos (show nI (2 + 1) = Int32.ofInt 3 from rfl), show Int32.ofInt 2 = nI 2 from rfl, x2]
      · rw [fi_neg (by decide), fi_neg (by decide), show nI (2 + 1) - Int32.ofInt 1 = nI 2 from rfl, y2]
end Bd
