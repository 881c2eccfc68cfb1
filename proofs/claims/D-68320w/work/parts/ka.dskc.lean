/-! frames put together; texts; the twin's memory where others write -/
set_option maxRecDepth 100000
section Wk2
variable {S S' : Nat → Prop} {hx N N' : Nat} {M0 M M1 : FM}
theorem wk_le (h : N' ≤ N) (k : Wk S (fun _ => True) hx N M0 M) : Wk S (fun _ => True) hx N' M0 M :=
  ⟨⟨k.1.1, k.1.2.1, Nat.le_trans h k.1.2.2.1, fun _ _ => trivial, fun _ _ => trivial⟩, k.2.1, k.2.2.1, fun f a ha hf hs => k.2.2.2 f a (Nat.lt_of_lt_of_le ha h) hf hs⟩
theorem wk_sub (h : ∀ x, S x → S' x) (k : Wk S (fun _ => True) hx N M0 M) : Wk S' (fun _ => True) hx N M0 M :=
  ⟨k.1, k.2.1, ⟨k.2.2.1.1, fun a z q => h _ (k.2.2.1.2 a z q)⟩, fun f a ha hf hs => k.2.2.2 f a ha hf (fun q => hs (h _ q))⟩
theorem wk_tt (w : Wk S (fun _ => True) hx (fm_nx M0) M0 M) (k : Wk S (fun _ => True) hx (fm_nx M) M M1) : Wk S (fun _ => True) hx (fm_nx M0) M0 M1 := wk_t w (wk_le w.2.1 k) (Nat.le_refl _)
theorem wk_ext {Z : Nat → Prop} (W : Wf M0) (k : Wk S Z hx N M0 M) : Ext M0 M := fun a ha => by
  obtain ⟨c1, c2⟩ := kt k (wf_lt W ha)
  rw [c1, c2]
  exact ⟨rfl, rfl⟩
theorem me_s {l l' : List Nat} (h : fe_sub l l' = true) : ∀ x, fe_mem l x = true → fe_mem l' x = true := sb (S := fun x => fe_mem l' x = true) h (fun _ q => q)
end Wk2
/-- the twin's memory is not written -/
def TFr (S : Nat → Prop) : Prop := ¬ S 388 ∧ ¬ S 389 ∧ ¬ S 390 ∧ ¬ S 391 ∧ ¬ S 392 ∧ ¬ S 393 ∧ ¬ S 1388 ∧ ¬ S 1389 ∧ ¬ S 1390 ∧ ¬ S 1391 ∧ ¬ S 1392
/-- the twin's memory shows the same -/
def TrQ (c : Nat) (M N : FM) : Prop := TrI c N ∧ (∀ i, tmb N c i = tmb M c i) ∧ (∀ p, N.2.1 3 (N.2.2 389 c 0) p = M.2.1 3 (M.2.2 389 c 0) p) ∧ (∀ p, N.1 3 (N.2.2 390 c 0) p = M.1 3 (M.2.2 390 c 0) p)
section Tq
variable {r c hx : Nat} {Mc M N X : FM} {S Z : Nat → Prop}
theorem trQ_r (I : TrI c M) : TrQ c M M := ⟨I, fun _ => rfl, fun _ => rfl, fun _ => rfl⟩
theorem trQ_t (h : TrQ c M N) (k : TrQ c N X) : TrQ c M X := ⟨k.1, fun i => (k.2.1 i).trans (h.2.1 i), fun i => (k.2.2.1 i).trans (h.2.2.1 i), fun i => (k.2.2.2 i).trans (h.2.2.2 i)⟩
theorem trQ_k (k : Wk S Z hx (fm_nx M) M N) (hS : TFr S) (TN : Ty N) (I : TrI c M) : TrQ c M N := by
  obtain ⟨s8, s9, s0, s1, s2, s3, a8, a9, a0, a1, a2⟩ := hS
  obtain ⟨T, W, n, b3, P⟩ := I
  have lc : c < fm_nx M := wf_lt W (fm_ist rfl n)
  have e := fun f (hf : Nat.ble 4 f = true) (hs : ¬ S f) => kf (f := f) (a := c) k hf hs lc
  have e8 := congrFun (e 388 rfl s8).2.2 0
  have e9 := congrFun (e 389 rfl s9).2.2 0
  have e0 := congrFun (e 390 rfl s0).2.2 0
  have e1 := congrFun (e 391 rfl s1).2.2 0
  have e2 := congrFun (e 392 rfl s2).2.2 0
  have e3 := congrFun (e 393 rfl s3).2.1 0
  have n8 := fm_ist rfl (tN_388 T.1 n)
  have n9 := fm_ist rfl (tN_389 T.1 n)
  have n0 := fm_ist rfl (tN_390 T.1 n)
  have n1 := fm_ist rfl (tN_391 T.1 n)
  have n2 := fm_ist rfl (tN_392 T.1 n)
  have k8 := ka k (sS_388 W n) (wf_n0 W n8) a8 (wf_lt W n8)
  have k9 := ka k (sS_389 W n) (wf_n0 W n9) a9 (wf_lt W n9)
  have k0 := ka k (sS_390 W n) (wf_n0 W n0) a0 (wf_lt W n0)
  have k1 := ka k (sS_391 W n) (wf_n0 W n1) a1 (wf_lt W n1)
  have k2 := ka k (sS_392 W n) (wf_n0 W n2) a2 (wf_lt W n2)
  refine ⟨⟨TN, k.1.1, kis k W rfl n, e3.trans b3, fun p hp => ?_⟩, fun i => ?_, fun p => ?_, fun p => ?_⟩
  · rw [e9, e1, e2, k9.2.1, k1.1, k2.1]
    exact P p hp
  · unfold tmb
    rw [e8, k8.2.1]
  · rw [e9, k9.2.1]
  · rw [e0, k0.1]
theorem rel_tq (R : RelRam r c Mc M) (Q : TrQ c M N) : RelRam r c Mc N := by
  obtain ⟨r1, r2, r3, r4, r5, r6⟩ := R
  obtain ⟨q1, q2, q3, q4⟩ := Q
  refine ⟨r1, q1, r3, r4, fun i hi => (r5 i hi).trans (q2 i).symm, fun p hp => ?_⟩
  rw [q3, q4]
  exact r6 p hp
end Tq
/-- a text of the program: its letters -/
def Txt (s : Nat) (cs : List Nat) (M : FM) : Prop := fm_is M 7 7 s = true ∧ M.1 16 s 0 = 0 ∧ M.2.2 1 (M.2.2 15 s 0) 0 = cs.length ∧ cs.length < 4096 ∧ (∀ x, x ∈ cs → x < 128) ∧ (∀ k, k < cs.length → (M.1 3 (M.2.2 15 s 0) k = nI (cs.getD k 0))) ∧ Sf M (M.2.2 15 s 0) 15
theorem shr_0 (x : Int32) : x >>> (0 &&& 31) = x := by
  rw [show (0 : Int32) &&& 31 = 0 by decide]
  apply Int32.toBitVec_inj.mp
  rw [Int32.toBitVec_shiftRight]
  rw [show ((0 : Int32).toBitVec.smod 32) = 0#32 by decide]
  simp [BitVec.sshiftRight']
section Tx
variable {s k : Nat} {cs : List Nat} {M : FM}
theorem txt_k {S Z : Nat → Prop} {hx : Nat} {N : FM} (T : Ty M) (W : Wf M) (k : Wk S Z hx (fm_nx M) M N) (hS : ¬ S 15 ∧ ¬ S 16 ∧ ¬ S 1015) (h : Txt s cs M) : Txt s cs N := by
  obtain ⟨h1, h2, h3, h4, h5, h6, h7⟩ := h
  have ls := wf_lt W (fm_ist rfl h1)
  have r15 := tN_15 T.1 h1
  have lr := wf_lt W (fm_ist rfl r15)
  have e15 := congrFun (kf k (f := 15) rfl hS.1 ls).2.2 0
  have e16 := congrFun (kf k (f := 16) rfl hS.2.1 ls).1 0
  have er := ka k h7 (wf_n0 W (fm_ist rfl r15)) hS.2.2 lr
  obtain ⟨t0, t1⟩ := kt k lr
  refine ⟨kis k W rfl h1, e16.trans h2, ?_, h4, h5, fun j hj => ?_, ?_⟩
  · rw [e15, t1]
    exact h3
  · rw [e15, er.1]
    exact h6 j hj
  · rw [e15]
    rcases h7 with z | z
    · exact Or.inl z
    · right
      rw [t0]
      exact z
theorem J1_length (h : Txt s cs M) : GJ1_length s M = (nI cs.length, M) := by
  unfold GJ1_length GJ1_length_0 GJ1_coder GJ1_coder_0 GJ1_coder_14
  dsimp only
  rw [fi_neg (by decide), h.2.1, h.2.2.1]
  dsimp only
  rw [shr_0]
  rfl
theorem J1_charAt (h : Txt s cs M) (hk : k < cs.length) : HJ1_charAt s (nI k) M ∧ GJ1_charAt s (nI k) M = (nI (cs.getD k 0), M) := by
  obtain ⟨h1, h2, h3, h4, h5, h6, _⟩ := h
  have e1 : GJ1_isLatin1 s M = (Int32.ofInt 1, M) := by
    unfold GJ1_isLatin1 GJ1_isLatin1_0 GJ1_isLatin1_17 GJ1_isLatin1_18
    rw [fi_neg (by decide), h2, fi_pos rfl]
  have c1 : ¬ (nI k) < 0 := fun q => by
    rw [lt_ti, ti, ui_nI, if_pos (by omega)] at q
    have : (0 : Int32).toInt = 0 := by decide
    omega
  have c2 : nI k < Int32.ofNat cs.length := by
    show nI k < nI cs.length
    rw [i_lt (by rw [ui_nI]; omega) (by rw [ui_nI]; omega), ui_nI, ui_nI]
    omega
  have h7 : HJ1_checkIndex (nI k) (Int32.ofNat cs.length) M ∧ GJ1_checkIndex (nI k) (Int32.ofNat cs.length) M = M := by
    unfold HJ1_checkIndex HJ1_checkIndex_0 HJ3_checkIndex HJ3_checkIndex_0 GJ1_checkIndex GJ1_checkIndex_0 GJ3_checkIndex GJ3_checkIndex_0
    rw [fi_neg c1, fi_pos c2]
    exact ⟨⟨⟨fun q => absurd q c1, fun _ => ⟨fun _ => trivial, fun q => absurd c2 q⟩⟩, trivial⟩, rfl⟩
  have ec : cs.getD k 0 < 128 := by
    rw [List.getD_eq_getElem?_getD, List.getElem?_eq_getElem hk]
    exact h5 _ (List.getElem_mem hk)
  have h8 : HJ2_charAt (M.2.2 15 s 0) (nI k) M ∧ GJ2_charAt (M.2.2 15 s 0) (nI k) M = (nI (cs.getD k 0), M) := by
    unfold HJ2_charAt HJ2_charAt_0 GJ2_charAt GJ2_charAt_0
    dsimp only
    rw [h3, h7.2]
    refine ⟨⟨h7.1, in_nI (N := cs.length) h3 hk (by omega), trivial⟩, ?_⟩
    rw [o_cl (by omega), h6 k hk]
    congr 1
    apply ui_inj
    generalize cs.getD k 0 = y at *
    have e2 : ui (nI y &&& Int32.ofInt 255) = y := by
      rw [ui_and, ui_nI, show ui (Int32.ofInt 255) = 2 ^ 8 - 1 from rfl, Nat.and_two_pow_sub_one_eq_mod]
      omega
    show ((nI y &&& Int32.ofInt 255).toUInt32 % 65536).toNat = _
    rw [UInt32.toNat_mod]
    show ui (nI y &&& Int32.ofInt 255) % 65536 = _
    rw [e2, ui_nI]
    omega
  unfold HJ1_charAt HJ1_charAt_0 GJ1_charAt GJ1_charAt_0
  dsimp only
  rw [e1]
  dsimp only
  rw [fi_neg (by decide), h8.2]
  exact ⟨⟨fun q => absurd q (by decide), fun _ => ⟨h8.1, trivial⟩⟩, rfl⟩
end Tx
