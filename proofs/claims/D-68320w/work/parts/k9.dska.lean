/-! disks: numbers are put; bytes of the disk -/
set_option maxRecDepth 100000
/-- where a byte of the twin's memory is written -/
def PRm (c : Nat) (M : FM) (f b : Nat) : Prop := f = 3 ∧ (b = M.2.2 388 c 0 ∨ b = M.2.2 389 c 0 ∨ b = M.2.2 391 c 0)
abbrev SPt : Nat → Prop := fun x => fe_mem [208, 1201, 1203, 1204] x = true
theorem wi_le {M : FM} {N : Nat} (h : N ≤ fm_nx M) (W : Wf M) : WI (fun _ => True) 0 N M := ⟨W, fun _ _ _ _ _ _ => trivial, h, fun _ _ => trivial, fun _ _ => trivial⟩
theorem n_le {a b : Nat} (ha : a < 2147483648) (hb : b < 2147483648) : nI a ≤ nI b ↔ a ≤ b := by
  rw [i_le (by rw [ui_nI]; omega) (by rw [ui_nI]; omega), ui_nI, ui_nI]
  omega
theorem up_b {s : Nat} (hs : s < 2147483647) : nI s + Int32.ofInt 1 = nI (s + 1) := ui_inj (by rw [ui_add, ui_nI, ui_nI, show ui (Int32.ofInt 1) = 1 from rfl]; omega)
theorem upl_b {s : Nat} : lN s + Int64.ofInt 1 = lN (s + 1) := ul_inj (by rw [ul_add, ul_lN, ul_lN, show ul (Int64.ofInt 1) = 1 from rfl]; omega)
theorem frm_pb {c : Nat} {a : Int64} {o : Nat} {v : Int32} {M : FM} : Frm (PRm c M) M (pbM c a o v M) := by
  refine ⟨rfl, fun f b i z => ⟨?_, ?_⟩⟩
  · unfold pbM clr
    dsimp only
    rw [rI, if_neg (fun q => z ⟨q.1, Or.inr (Or.inr q.2.1)⟩)]
    rfl
  · unfold pbM clr
    dsimp only
    rw [fi_neg (fun q => z ⟨q.1, Or.inr (Or.inl q.2.1)⟩)]
    show (fm_sL M 3 (M.2.2 388 c 0) (o / 8) _).2.1 f b i = _
    rw [rL, if_neg (fun q => z ⟨q.1, Or.inl q.2.1⟩)]
theorem prm_w {c : Nat} {M N : FM} (h : N.2.2 = M.2.2) (f b : Nat) (k : PRm c N f b) : PRm c M f b := by
  unfold PRm at *
  rw [h] at k
  exact k
theorem and_255 (y : Int32) (i : Nat) (hi : i < 8) : ib (y &&& Int32.ofInt 255) i = ib y i := by
  unfold ib
  rw [ui_and, Nat.testBit_and, show ui (Int32.ofInt 255) = 2 ^ 8 - 1 from rfl, Nat.testBit_two_pow_sub_one, decide_eq_true hi, Bool.and_true]
section Pn
variable {x r b c s : Nat} {a v : Int64}
/-- one byte is put on both sides: frames -/
theorem rel_byteF {Mc Mt : FM} {w u : Int32} (R : RelRam r c Mc Mt) (n : fm_is Mc 76 76 x = true) (hr : Mc.2.2 222 x 0 = r) (ha : inR a 1) (hv : ∀ i, i < 8 → ib u i = ib w i) :
    HX19_put x a w Mc ∧ HX93_put c a u Mt ∧ RelRam r c (GX19_put x a w Mc) (GX93_put c a u Mt) ∧ Evo r 1 Mc (GX19_put x a w Mc) ∧
    (∀ N, N ≤ fm_nx Mc → Wk SPt (fun _ => True) 0 N Mc (GX19_put x a w Mc)) ∧ Frm (PRm c Mt) Mt (GX93_put c a u Mt) := by
  obtain ⟨p1, p2, p3, p4⟩ := rel_byte R hr ha (v := w) (u := u) hv
  refine ⟨p1, p2, p3, p4, fun N hN => ?_, ?_⟩
  · exact wX19_put SPt (fun _ => True) (fun _ q => q) fN x a w Mc (wi_le hN R.1.2.1) trivial _ (gX19_put x a w Mc R.1.1 n p1).1
  · obtain ⟨o, ho⟩ : ∃ o, ul a = 2147483648 + o := ⟨ul a - 2147483648, by unfold inR at ha; omega⟩
    rw [(X93_put R.2.1.1 R.2.1.2.2.1 ho (by unfold inR at ha; omega) u).2]
    exact frm_pb
theorem rel_num_L (ha : inR a s) (h8 : s ≤ 8) : ∀ m j Mc Mt, m < j → m ≤ s → RelRam r c Mc Mt → fm_is Mc 76 76 x = true → Mc.2.2 222 x 0 = r → fm_is Mt 93 93 b = true → Mt.2.2 326 b 0 = c →
    ∃ Nc Nt, FX107_putNumber_L3 fN j x a (nI s) v (nI (s - m)) Mc = some Nc ∧ FX95_put_L3 fN j b a (nI s) v (nI (s - m)) Mt = some Nt ∧ RelRam r c Nc Nt ∧ Evo r m Mc Nc ∧
      (∀ N, N ≤ fm_nx Mc → Wk SPt (fun _ => True) 0 N Mc Nc) ∧ Frm (PRm c Mt) Mt Nt := by
  intro m
  induction m with
  | zero =>
    intro j Mc Mt hj hm R n hr nb hc
    obtain ⟨j, rfl⟩ : ∃ i, j = i + 1 := ⟨j - 1, by omega⟩
    have hle : nI s ≤ nI (s - 0) := (n_le (by omega) (by omega)).mpr (by omega)
    refine ⟨Mc, Mt, ?_, ?_, R, evo_r r 0 Mc, fun N hN => wk_r (wi_le hN R.1.2.1), frm_r⟩
    · show FX107_putNumber_3 fN (FX107_putNumber_L3 fN j) x a (nI s) v (nI (s - 0)) Mc = _
      rw [(gX107_putNumber_3 (FX107_putNumber_L3 fN j) x a (nI s) v (nI (s - 0)) Mc R.1.1 n ⟨fun _ => trivial, fun q => absurd hle q⟩).1]
      unfold GX107_putNumber_3
      rw [fi_pos hle]
      rfl
    · show FX95_put_3 fN (FX95_put_L3 fN j) b a (nI s) v (nI (s - 0)) Mt = _
      rw [(gX95_put_3 (FX95_put_L3 fN j) b a (nI s) v (nI (s - 0)) Mt R.2.1.1 nb ⟨fun _ => trivial, fun q => absurd hle q⟩).1]
      unfold GX95_put_3
      rw [fi_pos hle]
      rfl
  | succ m ih =>
    intro j Mc Mt hj hm R n hr nb hc
    obtain ⟨j, rfl⟩ : ∃ i, j = i + 1 := ⟨j - 1, by omega⟩
    obtain ⟨k, hk⟩ : ∃ k, s - (m + 1) = k := ⟨_, rfl⟩
    have hk1 : s - m = k + 1 := by omega
    have hlt : ¬ nI s ≤ nI k := fun q => by
      have := (n_le (by omega) (by omega)).mp q
      omega
    have h1 : inR (a + (nI k).toInt64) 1 := by
      unfold inR at *
      rw [ul_add, o_64 (by omega), ul_o (by omega)]
      omega
    obtain ⟨p1, p2, p3, p4, p5, p6⟩ := rel_byteF (a := a + (nI k).toInt64) (w := vb v k &&& Int32.ofInt 255) (u := vb v k) R n hr h1 (fun i hi => (and_255 _ i hi).symm)
    have kk := p5 (fm_nx Mc) (Nat.le_refl _)
    have hx : x < fm_nx Mc := wf_lt R.1.2.1 (fm_ist rfl n)
    have nx : fm_is (GX19_put x (a + (nI k).toInt64) (vb v k &&& Int32.ofInt 255) Mc) 76 76 x = true := kis kk R.1.2.1 rfl n
    have hr' : (GX19_put x (a + (nI k).toInt64) (vb v k &&& Int32.ofInt 255) Mc).2.2 222 x 0 = r := by rw [(kf kk rfl (by decide) hx).2.2]; exact hr
    have nb' : fm_is (GX93_put c (a + (nI k).toInt64) (vb v k) Mt) 93 93 b = true := frm_is p6 nb
    have hc' : (GX93_put c (a + (nI k).toInt64) (vb v k) Mt).2.2 326 b 0 = c := by rw [p6.1]; exact hc
    have HC : HX107_putNumber_3 x a (nI s) v (nI k) Mc := by
      unfold HX107_putNumber_3
      exact ⟨fun q => absurd q hlt, fun _ => ⟨p1, trivial⟩⟩
    have HT : HX95_put_3 b a (nI s) v (nI k) Mt := by
      unfold HX95_put_3
      dsimp only
      rw [hc]
      exact ⟨fun q => absurd q hlt, fun _ => ⟨p2, trivial⟩⟩
    have GC : GX107_putNumber_3 x a (nI s) v (nI k) Mc = .inl (x, a, nI s, v, nI (k + 1), GX19_put x (a + (nI k).toInt64) (vb v k &&& Int32.ofInt 255) Mc) := by
      unfold GX107_putNumber_3
      rw [fi_neg hlt]
      dsimp only
      rw [up_b (by omega)]
      rfl
    have GT : GX95_put_3 b a (nI s) v (nI k) Mt = .inl (b, a, nI s, v, nI (k + 1), GX93_put c (a + (nI k).toInt64) (vb v k) Mt) := by
      unfold GX95_put_3
      rw [fi_neg hlt]
      dsimp only
      rw [up_b (by omega), hc]
      rfl
    have E1 : FX107_putNumber_L3 fN (j + 1) x a (nI s) v (nI k) Mc = FX107_putNumber_L3 fN j x a (nI s) v (nI (k + 1)) (GX19_put x (a + (nI k).toInt64) (vb v k &&& Int32.ofInt 255) Mc) := by
      show FX107_putNumber_3 fN (FX107_putNumber_L3 fN j) x a (nI s) v (nI k) Mc = _
      rw [(gX107_putNumber_3 (FX107_putNumber_L3 fN j) x a (nI s) v (nI k) Mc R.1.1 n HC).1, GC]
      rfl
    have E2 : FX95_put_L3 fN (j + 1) b a (nI s) v (nI k) Mt = FX95_put_L3 fN j b a (nI s) v (nI (k + 1)) (GX93_put c (a + (nI k).toInt64) (vb v k) Mt) := by
      show FX95_put_3 fN (FX95_put_L3 fN j) b a (nI s) v (nI k) Mt = _
      rw [(gX95_put_3 (FX95_put_L3 fN j) b a (nI s) v (nI k) Mt R.2.1.1 nb HT).1, GT]
      rfl
    rw [hk, E1, E2]
    generalize GX19_put x (a + (nI k).toInt64) (vb v k &&& Int32.ofInt 255) Mc = Mc1 at *
    generalize GX93_put c (a + (nI k).toInt64) (vb v k) Mt = Mt1 at *
    obtain ⟨Nc, Nt, q1, q2, q3, q4, q5, q6⟩ := ih j Mc1 Mt1 (by omega) (by omega) p3 nx hr' nb' hc'
    rw [hk1] at q1 q2
    refine ⟨Nc, Nt, q1, q2, q3, evo_w (evo_t p4 q4) (by omega), fun N hN => wk_t (p5 N hN) (q5 N (Nat.le_trans hN kk.2.1)) hN, ?_⟩
    exact frm_t p6 (frm_w q6 (prm_w p6.1))
/-- a number is put on both sides -/
theorem rel_num {Mc Mt : FM} (R : RelRam r c Mc Mt) (n : fm_is Mc 76 76 x = true) (hr : Mc.2.2 222 x 0 = r) (nb : fm_is Mt 93 93 b = true) (hc : Mt.2.2 326 b 0 = c) (ha : inR a s) (h8 : s ≤ 8) :
    HX107_putNumber x a (nI s) v Mc ∧ HX95_put b a (nI s) v Mt ∧ RelRam r c (GX107_putNumber x a (nI s) v Mc) (GX95_put b a (nI s) v Mt) ∧ Evo r s Mc (GX107_putNumber x a (nI s) v Mc) ∧
      (∀ N, N ≤ fm_nx Mc → Wk SPt (fun _ => True) 0 N Mc (GX107_putNumber x a (nI s) v Mc)) ∧ Frm (PRm c Mt) Mt (GX95_put b a (nI s) v Mt) := by
  obtain ⟨Nc, Nt, q1, q2, q3, q4, q5, q6⟩ := rel_num_L (x := x) (r := r) (b := b) (c := c) (a := a) (v := v) ha h8 s fN Mc Mt (by unfold fN; omega) (Nat.le_refl _) R n hr nb hc
  rw [Nat.sub_self] at q1 q2
  have e1 : FX107_putNumber fN x a (nI s) v Mc = some Nc := by
    show FX107_putNumber_0 fN (FX107_putNumber_L3 fN fN) x a (nI s) v Mc = _
    rw [(gX107_putNumber_0 (FX107_putNumber_L3 fN fN) x a (nI s) v Mc R.1.1).1]
    exact q1
  have e2 : FX95_put fN b a (nI s) v Mt = some Nt := by
    show FX95_put_0 fN (FX95_put_L3 fN fN) b a (nI s) v Mt = _
    rw [(gX95_put_0 (FX95_put_L3 fN fN) b a (nI s) v Mt R.2.1.1).1]
    exact q2
  have x1 : Ext Mc Nc := fun a' ha' => by
    obtain ⟨c1, c2⟩ := kt (q5 (fm_nx Mc) (Nat.le_refl _)) (wf_lt R.1.2.1 ha')
    rw [c1, c2]
    exact ⟨rfl, rfl⟩
  obtain ⟨h1, g1⟩ := op_of (d := Mc) e1 (P := OkV Mc) ⟨q3.1.1, x1⟩
  obtain ⟨h2, g2⟩ := op_of (d := Mt) e2 (P := OkV Mt) ⟨q3.2.1.1, frm_ext q6⟩
  have g1 : GX107_putNumber x a (nI s) v Mc = Nc := g1
  have g2 : GX95_put b a (nI s) v Mt = Nt := g2
  rw [g1, g2]
  exact ⟨h1, h2, q3, q4, q5, q6⟩
end Pn
/-- byte k of a row of words -/
noncomputable def gtb (w : Nat → Int64) (k : Nat) : Int32 := (((w (k / 8)).toUInt64 >>> ((nI (8 * (k % 8))).toInt64.toUInt64 &&& Int64.toUInt64 63)).toInt64).toInt32 &&& (Int32.ofInt 255)
theorem gtb_255 (w : Nat → Int64) (k : Nat) : ui (gtb w k) < 256 := by
  unfold gtb
  rw [ui_and, show ui (Int32.ofInt 255) = 2 ^ 8 - 1 from rfl, Nat.and_two_pow_sub_one_eq_mod]
  omega
theorem k_3 {k : Nat} (hk : k < 1048576) : nI k >>> (Int32.ofInt 3 &&& 31) = nI (k / 8) := ui_inj (by
  rw [ui_sar0 _ _ (by rw [ui_nI]; omega), ui_nI, ui_nI, show ui (Int32.ofInt 3) % 32 = 3 from rfl]
  omega)
theorem k_7 {k : Nat} (hk : k < 1048576) : Int32.ofInt 8 * (nI k &&& Int32.ofInt 7) = nI (8 * (k % 8)) := ui_inj (by
  rw [ui_mul, ui_and, ui_nI, ui_nI, show ui (Int32.ofInt 7) = 2 ^ 3 - 1 from rfl, show ui (Int32.ofInt 8) = 8 from rfl, Nat.and_two_pow_sub_one_eq_mod]
  omega)
theorem k_8 {k : Nat} (hk : k < 1048576) : nI k / Int32.ofInt 8 = nI (k / 8) ∧ Int32.ofInt 8 * (nI k - nI k / Int32.ofInt 8 * Int32.ofInt 8) = nI (8 * (k % 8)) := by
  obtain ⟨h1, h2, h3⟩ := tr_8 (o := k) (x := nI k) (by rw [ui_nI]; omega) (by omega)
  exact ⟨ui_inj (by rw [h1, ui_nI]; omega), ui_inj (by rw [h3, ui_nI]; omega)⟩
section By
variable {d b k : Nat} {M : FM} {v : Int32}
theorem X23_get (T : Ty M) (n : fm_is M 23 23 d = true) (hk : k < 1048576) : HX23_get d (nI k) M ∧ GX23_get d (nI k) M = (gtb (fun j => M.2.1 3 (M.2.2 69 d 0) j) k, M) := by
  unfold HX23_get HX23_get_0 GX23_get GX23_get_0
  dsimp only
  rw [k_3 hk, k_7 hk, o_cl (by omega)]
  exact ⟨⟨in_nI (N := 131072) (tL_69 T.1 n) (by omega) (by decide), trivial⟩, rfl⟩
theorem X23_put (T : Ty M) (n : fm_is M 23 23 d = true) (hk : k < 1048576) : HX23_put d (nI k) v M ∧ GX23_put d (nI k) v M = fm_sL M 3 (M.2.2 69 d 0) (k / 8) (pbw (M.2.1 3 (M.2.2 69 d 0) (k / 8)) k v) := by
  unfold HX23_put HX23_put_0 GX23_put GX23_put_0
  dsimp only
  rw [k_3 hk, k_7 hk, o_cl (by omega)]
  have i1 : fm_in M (M.2.2 69 d 0) (nI (k / 8)) = true := in_nI (N := 131072) (tL_69 T.1 n) (by omega) (by decide)
  exact ⟨⟨i1, i1, trivial⟩, rfl⟩
theorem X95_byteOf (h : M.2.2 1 b 0 = 131072) (hk : k < 1048576) : HX95_byteOf b (nI k) M ∧ GX95_byteOf b (nI k) M = (gtb (fun j => M.2.1 3 b j) k, M) := by
  unfold HX95_byteOf HX95_byteOf_0 GX95_byteOf GX95_byteOf_0
  dsimp only
  obtain ⟨e1, e2⟩ := k_8 hk
  rw [e2, e1, o_cl (by omega)]
  exact ⟨⟨in_nI (N := 131072) h (by omega) (by decide), trivial⟩, rfl⟩
theorem X95_putByte (h : M.2.2 1 b 0 = 131072) (hk : k < 1048576) : HX95_putByte b (nI k) v M ∧ GX95_putByte b (nI k) v M = fm_sL M 3 b (k / 8) (pbw (M.2.1 3 b (k / 8)) k v) := by
  unfold HX95_putByte HX95_putByte_0 GX95_putByte GX95_putByte_0
  dsimp only
  obtain ⟨e1, e2⟩ := k_8 hk
  rw [e2, e1, o_cl (by omega)]
  have i1 : fm_in M b (nI (k / 8)) = true := in_nI (N := 131072) h (by omega) (by decide)
  exact ⟨⟨i1, i1, trivial⟩, rfl⟩
end By
