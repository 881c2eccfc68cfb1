/-! the serial line: the twin's reads -/
set_option maxRecDepth 100000
theorem site_ne {M : FM} (W : Wf M) {a b s t : Nat} (sa : Sf M a s) (sb : Sf M b t) (h : s ≠ t) (ha : M.2.2 0 a 0 ≠ 0) : a ≠ b := fun e => by
  have z0 := W.2.2.1
  rw [← e] at sb
  rcases sa with z | z
  · rw [z] at ha
    exact ha z0
  · rcases sb with y | y
    · rw [y] at ha
      exact ha z0
    · exact h (z.2.symm.trans y.2)
theorem tag0 {M : FM} {lo hi a : Nat} (hlo : Nat.ble 1 lo = true) (g : fm_is M lo hi a = true) : M.2.2 0 a 0 ≠ 0 := fm_ist hlo g
def FrT (m : Nat) (M M' : FM) : Prop := M'.2.2 = M.2.2 ∧ (∀ f b i, ¬ ((b = m ∧ 407 ≤ f ∧ f ≤ 413) ∨ (f = 3 ∧ (b = M.2.2 405 m 0 ∨ b = M.2.2 406 m 0 ∨ b = M.2.2 410 m 0 ∨ b = M.2.2 412 m 0))) → M'.1 f b i = M.1 f b i ∧ M'.2.1 f b i = M.2.1 f b i)
theorem frT_r (m : Nat) (M : FM) : FrT m M M := ⟨rfl, fun _ _ _ _ => ⟨rfl, rfl⟩⟩
theorem frT_I {m f : Nat} {v : Int32} {M N : FM} (h : FrT m M N) (hf : 407 ≤ f ∧ f ≤ 413) : FrT m M (fm_sI N f m 0 v) :=
  ⟨h.1, fun g b i z => ⟨by rw [rI, if_neg (fun q => z (Or.inl ⟨q.2.1, by rw [q.1]; exact hf⟩))]; exact (h.2 g b i z).1, (h.2 g b i z).2⟩⟩
theorem frT_L {m f : Nat} {v : Int64} {M N : FM} (h : FrT m M N) (hf : 407 ≤ f ∧ f ≤ 413) : FrT m M (fm_sL N f m 0 v) :=
  ⟨h.1, fun g b i z => ⟨(h.2 g b i z).1, by rw [rL, if_neg (fun q => z (Or.inl ⟨q.2.1, by rw [q.1]; exact hf⟩))]; exact (h.2 g b i z).2⟩⟩
theorem frT_A {m a k : Nat} {v : Int32} {M N : FM} (h : FrT m M N) (ha : a = M.2.2 405 m 0 ∨ a = M.2.2 406 m 0 ∨ a = M.2.2 410 m 0 ∨ a = M.2.2 412 m 0) : FrT m M (fm_sI N 3 a k v) :=
  ⟨h.1, fun g b i z => ⟨by rw [rI, if_neg (fun q => z (Or.inr ⟨q.1, by rw [q.2.1]; exact ha⟩))]; exact (h.2 g b i z).1, (h.2 g b i z).2⟩⟩
theorem frT_t {m : Nat} {M N X : FM} (h : FrT m M N) (k : FrT m N X) : FrT m M X := ⟨k.1.trans h.1, fun f b i z => by
  have k2 := k.2 f b i (by rw [h.1]; exact z)
  have h2 := h.2 f b i z
  exact ⟨k2.1.trans h2.1, k2.2.trans h2.2⟩⟩
section Sc
variable {m B : Nat} {M : FM} {S : Sr}
/-- the twin's four rows are four -/
theorem t_ne4 (T : Ty M) (W : Wf M) (n : fm_is M 99 99 m = true) : M.2.2 405 m 0 ≠ M.2.2 406 m 0 ∧ M.2.2 405 m 0 ≠ M.2.2 410 m 0 ∧ M.2.2 405 m 0 ≠ M.2.2 412 m 0 ∧ M.2.2 406 m 0 ≠ M.2.2 410 m 0 ∧ M.2.2 406 m 0 ≠ M.2.2 412 m 0 ∧ M.2.2 410 m 0 ≠ M.2.2 412 m 0 := by
  have n1 := fm_ist (lo := 901) rfl (tN_405 T.1 n)
  have n2 := fm_ist (lo := 901) rfl (tN_406 T.1 n)
  have n3 := fm_ist (lo := 901) rfl (tN_410 T.1 n)
  have s1 : Sf M (M.2.2 405 m 0) 405 := W.2.1.1 (99, 99, 405, 405) (by decide) m n
  have s2 : Sf M (M.2.2 406 m 0) 406 := W.2.1.1 (99, 99, 406, 406) (by decide) m n
  have s3 : Sf M (M.2.2 410 m 0) 410 := W.2.1.1 (99, 99, 410, 410) (by decide) m n
  have s4 : Sf M (M.2.2 412 m 0) 412 := W.2.1.1 (99, 99, 412, 412) (by decide) m n
  exact ⟨site_ne W s1 s2 (by decide) n1, site_ne W s1 s3 (by decide) n1, site_ne W s1 s4 (by decide) n1, site_ne W s2 s3 (by decide) n2, site_ne W s2 s4 (by decide) n2, site_ne W s3 s4 (by decide) n3⟩
/-- one place less: all that came moves on -/
theorem X96_takeOut_L (n : fm_is M 99 99 m = true) (b : Int32) (r : Nat) (hr : r < 16) : ∀ (d s j : Nat) (N : FM), Ty N → fm_is N 99 99 m = true → N.1 411 m 0 = nI r → s + d = r → d < j →
    ∃ X, FX96_takeOut_L28 fN j m b (nI s) N = some (b, X) ∧ Ty X ∧ X.2 = N.2 ∧ ∀ f c i, X.1 f c i = if f = 3 ∧ c = N.2.2 410 m 0 ∧ s ≤ i ∧ i < r then N.1 3 (N.2.2 410 m 0) (i + 1) else N.1 f c i := by
  intro d
  induction d with
  | zero =>
    intro s j N TN nN h hs hj
    obtain ⟨j, rfl⟩ : ∃ i, j = i + 1 := ⟨j - 1, by omega⟩
    have le : N.1 411 m 0 ≤ nI s := by rw [h, show s = r by omega]; exact Int32.le_refl _
    refine ⟨N, ?_, TN, rfl, fun f c i => by rw [if_neg (by omega)]⟩
    show FX96_takeOut_28 fN (FX96_takeOut_L28 fN j) m b (nI s) N = _
    rw [(gX96_takeOut_28 _ _ _ _ N TN nN ⟨fun _ => trivial, fun q => absurd le q⟩).1]
    unfold GX96_takeOut_28
    rw [fi_pos le]
    rfl
  | succ d ih =>
    intro s j N TN nN h hs hj
    obtain ⟨j, rfl⟩ : ∃ i, j = i + 1 := ⟨j - 1, by omega⟩
    have nle : ¬ N.1 411 m 0 ≤ nI s := fun q => by
      rw [h, le_ti, ti, ti, ui_nI, ui_nI, if_pos (by omega), if_pos (by omega)] at q
      omega
    have up := up_1 (s := s) (by omega)
    have in1 : fm_in N (N.2.2 410 m 0) (nI (s + 1)) = true := in_nI (tL_410 TN.1 nN) (by omega) (by decide)
    have in2 : fm_in N (N.2.2 410 m 0) (nI s) = true := in_nI (tL_410 TN.1 nN) (by omega) (by decide)
    have hH : HX96_takeOut_28 m b (nI s) N := ⟨fun q => absurd q nle, fun _ => by
      dsimp only
      rw [up]
      exact ⟨in1, in2, trivial⟩⟩
    have eG := (gX96_takeOut_28 (FX96_takeOut_L28 fN j) m b (nI s) N TN nN hH).1
    unfold GX96_takeOut_28 at eG
    rw [fi_neg nle] at eG
    dsimp only at eG
    rw [up, o_cl (by omega), o_cl (by omega)] at eG
    have T1 : Ty (fm_sI N 3 (N.2.2 410 m 0) s (N.1 3 (N.2.2 410 m 0) (s + 1))) := ⟨TN.1, tyb_s3 (t := 901) rfl TN.2 (tN_410 TN.1 nN)⟩
    obtain ⟨X, e, TX, e2, e3⟩ := ih (s + 1) j (fm_sI N 3 (N.2.2 410 m 0) s (N.1 3 (N.2.2 410 m 0) (s + 1))) T1 nN (by rw [rIf (by decide)]; exact h) (by omega) (by omega)
    refine ⟨X, eG.trans e, TX, e2, fun f c i => ?_⟩
    rw [e3 f c i]
    show (if f = 3 ∧ c = N.2.2 410 m 0 ∧ s + 1 ≤ i ∧ i < r then (fm_sI N 3 (N.2.2 410 m 0) s (N.1 3 (N.2.2 410 m 0) (s + 1))).1 3 (N.2.2 410 m 0) (i + 1) else (fm_sI N 3 (N.2.2 410 m 0) s (N.1 3 (N.2.2 410 m 0) (s + 1))).1 f c i) = _
    rw [rI, rI]
    by_cases z : f = 3 ∧ c = N.2.2 410 m 0 ∧ s + 1 ≤ i ∧ i < r
    · rw [if_pos z, if_neg (by omega), if_pos (by omega)]
    · rw [if_neg z]
      by_cases y : f = 3 ∧ c = N.2.2 410 m 0 ∧ i = s
      · rw [if_pos y, if_pos ⟨y.1, y.2.1, by omega, by omega⟩, y.2.2]
      · rw [if_neg y, if_neg (by omega)]
theorem X96_takeOut (T : Ty M) (W : Wf M) (n : fm_is M 99 99 m = true) (V : VSt m M S) (I : VSi B S) : ∃ M', (HX96_takeOut m M ∧ GX96_takeOut m M = ((sTk S).1, M')) ∧ VSt m M' (sTk S).2 ∧ FrT m M M' := by
  obtain ⟨d1, d2, d3, d4, d5, d6⟩ := t_ne4 T W n
  obtain ⟨h, q, qd, ov, em, out, sent⟩ := S
  obtain ⟨v1, v2, v3, v4, v5, v6, v7, v8, v9⟩ := V
  have hl := I.1
  dsimp only at v1 v2 v3 v4 v5 v6 v7 v8 v9 hl
  have h16 := rm_le qd
  cases q with
  | nil =>
    have z : M.1 411 m 0 = 0 := v3
    have e0 : FX96_takeOut fN m M = some (Int32.ofInt 0, M) := by
      show FX96_takeOut_0 fN (FX96_takeOut_L28 fN fN) m M = _
      rw [(gX96_takeOut_0 _ _ M T n).1]
      unfold GX96_takeOut_0
      rw [fi_pos z]
      rfl
    exact ⟨M, op_of (P := OkR M) (d := (0, M)) e0 ⟨T, fun _ _ => ⟨rfl, rfl⟩⟩, ⟨v1, v2, v3, v4, v5, v6, v7, v8, v9⟩, frT_r m M⟩
  | cons b q =>
    have lq : q.length + 1 ≤ 16 := Nat.le_trans hl h16
    have c : M.1 411 m 0 = nI (q.length + 1) := v3
    have z : ¬ M.1 411 m 0 = 0 := fun y => by
      rw [c] at y
      have := nI_j (b := 0) (by omega) (by decide) y
      omega
    have cd : M.1 411 m 0 - Int32.ofInt 1 = nI q.length := by rw [c, n_dn (by omega)]
    have e1 : M.1 3 (M.2.2 410 m 0) 0 = b := v4 0 (Nat.zero_lt_succ _)
    obtain ⟨X, e, TX, x2, x3⟩ := X96_takeOut_L n b q.length (by omega) q.length 0 fN (fm_sI M 411 m 0 (nI q.length)) ⟨T.1, tyb_sI (f := 411) rfl T.2⟩ n (by rw [rI, if_pos ⟨rfl, rfl, rfl⟩]) (by omega) (by unfold fN; omega)
    have x22 : X.2.2 = M.2.2 := congrArg Prod.snd x2
    have x21 : X.2.1 = M.2.1 := congrArg Prod.fst x2
    have xf : ∀ f c i, X.1 f c i = if f = 3 ∧ c = M.2.2 410 m 0 ∧ i < q.length then M.1 3 (M.2.2 410 m 0) (i + 1) else if f = 411 ∧ c = m ∧ i = 0 then nI q.length else M.1 f c i := fun f c i => by
      rw [x3 f c i]
      show (if f = 3 ∧ c = M.2.2 410 m 0 ∧ 0 ≤ i ∧ i < q.length then (fm_sI M 411 m 0 (nI q.length)).1 3 (M.2.2 410 m 0) (i + 1) else (fm_sI M 411 m 0 (nI q.length)).1 f c i) = _
      rw [rIf (by decide), rI]
      by_cases y : f = 3 ∧ c = M.2.2 410 m 0 ∧ i < q.length
      · rw [if_pos y, if_pos ⟨y.1, y.2.1, Nat.zero_le _, y.2.2⟩]
      · rw [if_neg y, if_neg (fun w => y ⟨w.1, w.2.1, w.2.2.2⟩)]
    have e0 : FX96_takeOut fN m M = some (b, X) := by
      show FX96_takeOut_0 fN (FX96_takeOut_L28 fN fN) m M = _
      rw [(gX96_takeOut_0 _ _ M T n).1]
      unfold GX96_takeOut_0
      rw [fi_neg z]
      dsimp only
      rw [cd, show (Int32.ofInt 0).toNatClampNeg = 0 from rfl, e1]
      exact e
    have ex : Ext M X := fun b _ => ⟨by rw [x22], by rw [x22]⟩
    refine ⟨X, op_of (P := OkR M) (d := (0, M)) e0 ⟨TX, ex⟩, ?_, x22, fun f c i w => ⟨?_, by rw [x21]⟩⟩
    · refine ⟨fun k hk => ?_, fun k hk => ?_, ?_, fun i hi => ?_, ?_, ?_, ?_, fun k hk => ?_, by rw [x21]; exact v9⟩
      · rw [x22, xf, if_neg (fun w => d2 w.2.1), if_neg (by omega)]
        exact v1 k hk
      · rw [x22, xf, if_neg (fun w => d4 w.2.1), if_neg (by omega)]
        exact v2 k hk
      · rw [xf, if_neg (by omega), if_pos ⟨rfl, rfl, rfl⟩]
        rfl
      · rw [x22, xf, if_pos ⟨rfl, rfl, hi⟩]
        exact v4 (i + 1) (Nat.succ_lt_succ hi)
      · rw [xf, if_neg (by omega), if_neg (by omega)]
        exact v5
      · rw [xf, if_neg (by omega), if_neg (by omega)]
        exact v6
      · rw [xf, if_neg (by omega), if_neg (by omega)]
        exact v7
      · rw [x22, xf, if_neg (fun w => d6 w.2.1.symm), if_neg (by omega)]
        exact v8 k hk
    · rw [xf, if_neg (fun y => w (Or.inr ⟨y.1, Or.inr (Or.inr (Or.inl y.2.1))⟩)), if_neg (fun y => w (Or.inl ⟨y.2.1, by omega⟩))]
end Sc
