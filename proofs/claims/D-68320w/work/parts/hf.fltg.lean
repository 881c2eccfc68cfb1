/-! floats: the twin reads; whether something is no number; what is infinite -/
set_option maxRecDepth 100000
abbrev UU : Type := Nat × Bool × Nat × Int
/-- what was read into a slot -/
def SV (f i : Nat) (M : FM) (x : UU) : Prop := M.1 3 (M.2.2 375 f 0) i = nI x.1 ∧ M.1 3 (M.2.2 376 f 0) i = bz (x.2.1 = true) ∧ M.2.1 3 (M.2.2 377 f 0) i = lN x.2.2.1 ∧ M.1 3 (M.2.2 378 f 0) i = Int32.ofInt x.2.2.2
def upk (t : Nat) (b : Int64) : UU := (uK t b, uS' t b, uZ t b, uP t b)
/-- the bits of a register in a format -/
noncomputable def bO (t : Nat) (v : Int64) : Int64 := fi (t = 1) v (fi (ul v / 4294967296 = 4294967295) (v &&& Int64.ofInt 4294967295) (lN (qN 0)))
section Rr
variable {M N : FM} {f i j t r A : Nat} {x : UU}
theorem sv_a {a : Nat} (o : FlO f M) (ha : a = M.2.2 379 f 0 ∨ a = M.2.2 380 f 0) (h : AOk a M N) (v : SV f i M x) : SV f i N x := by
  have d := o.2.2.1
  have n5 : M.2.2 375 f 0 ≠ a := by rcases ha with e | e <;> rw [e] <;> exact d _ (by decide) _ (by decide) (by decide)
  have n6 : M.2.2 376 f 0 ≠ a := by rcases ha with e | e <;> rw [e] <;> exact d _ (by decide) _ (by decide) (by decide)
  have n8 : M.2.2 378 f 0 ≠ a := by rcases ha with e | e <;> rw [e] <;> exact d _ (by decide) _ (by decide) (by decide)
  unfold SV
  rw [h.2.1, h.2.2 3 _ _ (fun q => n5 q.2), h.2.2 3 _ _ (fun q => n6 q.2), h.2.2 3 _ _ (fun q => n8 q.2)]
  exact v
theorem sv_i {g : Nat} {w : Int32} (hg : g ≠ 3) (v : SV f i M x) : SV f i (fm_sI M g f 0 w) x :=
  ⟨(oI (fun q => hg q.1.symm)).trans v.1, (oI (fun q => hg q.1.symm)).trans v.2.1, v.2.2.1, (oI (fun q => hg q.1.symm)).trans v.2.2.2⟩
theorem X99_quiet (ht : t ≤ 1) : GX99_quiet (nI t) M = (lN (qN t), M) := by
  unfold GX99_quiet GX99_quiet_0 GX99_quiet_14
  rcases (show t = 0 ∨ t = 1 by omega) with e | e <;> subst e
  · rw [fi_neg (show ¬ nI 0 = Int32.ofInt 1 by decide)]
    rfl
  · rw [fi_pos (show nI 1 = Int32.ofInt 1 from rfl)]
    rfl
theorem X99_bitsOf (o : FlO f M) (ht : t ≤ 1) (hr : r < 32) : HX99_bitsOf f (nI r) (nI t) M ∧ GX99_bitsOf f (nI r) (nI t) M = (bO t (M.2.1 3 (M.2.2 367 f 0) r), M) := by
  have i0 : fm_in M (M.2.2 367 f 0) (nI r) = true := in_nI (tL_367 o.1.1 o.2.1) (by omega) (by decide)
  refine ⟨⟨fun _ => ⟨i0, trivial⟩, fun _ => ⟨i0, fun _ => ⟨i0, trivial⟩, fun _ => trivial⟩⟩, ?_⟩
  unfold GX99_bitsOf GX99_bitsOf_0 GX99_bitsOf_47
  dsimp only
  rw [o_cl (by omega)]
  generalize M.2.1 3 (M.2.2 367 f 0) r = v
  have e : lg_cmp ((v.toUInt64 >>> ((Int32.ofInt 32).toInt64.toUInt64 &&& Int64.toUInt64 63)).toInt64) (Int64.ofInt 4294967295) = 0 ↔ ul v / 4294967296 = 4294967295 := by
    rw [cl_eq, ul_ushr]
    exact Iff.rfl
  have z : GX99_quiet (Int32.ofInt 0) M = (lN (qN 0), M) := X99_quiet (t := 0) (by decide)
  rw [propext e, z]
  unfold bO
  rcases (show t = 0 ∨ t = 1 by omega) with e | e <;> subst e
  · rw [fi_neg (show ¬ nI 0 = Int32.ofInt 1 by decide), fi_neg (show ¬ (0 : Nat) = 1 by decide)]
    by_cases q : ul v / 4294967296 = 4294967295
    · rw [fi_pos q, fi_pos q]
    · rw [fi_neg q, fi_neg q]
  · rw [fi_pos (show nI 1 = Int32.ofInt 1 from rfl), fi_pos rfl]
/-- a slot is written -/
noncomputable def rdM (f i : Nat) (x : UU) (M : FM) : FM :=
  fm_sI (fm_sI (fm_sL (fm_sI M 3 (M.2.2 376 f 0) i (bz (x.2.1 = true))) 3 (M.2.2 377 f 0) i (lN x.2.2.1)) 3 (M.2.2 378 f 0) i (Int32.ofInt x.2.2.2)) 3 (M.2.2 375 f 0) i (nI x.1)
theorem rdM_f (o : FlO f M) : Rs f 0 M (rdM f i x M) := by
  have T := o.1
  have n := o.2.1
  refine ⟨⟨⟨T.1, ?_⟩, rfl, fun g b k q => ?_, fun g b k q => ?_⟩, ?_, ?_⟩
  · exact tyb_s3 (t := 901) (by rfl) (tyb_s3 (t := 901) (by rfl) (tyb_s3 (t := 901) (by rfl) T.2 (tN_376 T.1 n)) (tN_378 T.1 n)) (tN_375 T.1 n)
  · unfold rdM
    rw [oI (fun z => q (Or.inr ⟨z.1, Or.inl z.2.1⟩)), oI (fun z => q (Or.inr ⟨z.1, Or.inr (Or.inr (Or.inl z.2.1))⟩))]
    exact oI (fun z => q (Or.inr ⟨z.1, Or.inr (Or.inl z.2.1)⟩))
  · exact oL (M := fm_sI M 3 (M.2.2 376 f 0) i (bz (x.2.1 = true))) (fun z => q (Or.inr ⟨z.1, z.2.1⟩))
  · rw [or_n0]
    unfold rdM
    rw [oI (fun z => by omega), oI (fun z => by omega)]
    exact oI (M := M) (f := 3) (f' := 368) (a' := f) (i' := 0) (a := M.2.2 376 f 0) (i := i) (v := bz (x.2.1 = true)) (fun z => by omega)
  · rw [fi_pos rfl]
    unfold rdM
    rw [oI (fun z => by omega), oI (fun z => by omega)]
    exact oI (M := M) (f := 3) (f' := 371) (a' := f) (i' := 0) (a := M.2.2 376 f 0) (i := i) (v := bz (x.2.1 = true)) (fun z => by omega)
theorem rdM_v (o : FlO f M) : SV f i (rdM f i x M) x := by
  have d := o.2.2.1
  have n56 := d 375 (by decide) 376 (by decide) (by decide)
  have n58 := d 375 (by decide) 378 (by decide) (by decide)
  have n86 := d 378 (by decide) 376 (by decide) (by decide)
  refine ⟨sI_at _ _ _ _ _, ?_, ?_, ?_⟩
  · show (rdM f i x M).1 3 (M.2.2 376 f 0) i = _
    unfold rdM
    rw [oI (fun z => n56 z.2.1.symm), oI (fun z => n86 z.2.1.symm)]
    exact sI_at M _ _ _ _
  · exact sL_at (fm_sI M 3 (M.2.2 376 f 0) i (bz (x.2.1 = true))) _ _ _ _
  · show (rdM f i x M).1 3 (M.2.2 378 f 0) i = _
    unfold rdM
    rw [oI (fun z => n58 z.2.1.symm)]
    exact sI_at _ _ _ _ _
theorem rdM_o (o : FlO f M) (h : j ≠ i) {y : UU} (v : SV f j M y) : SV f j (rdM f i x M) y := by
  have e1 : ∀ b, (rdM f i x M).1 3 b j = M.1 3 b j := fun b => by
    unfold rdM
    rw [oI (fun z => h z.2.2), oI (fun z => h z.2.2)]
    exact oI (fun z => h z.2.2)
  have e2 : ∀ b, (rdM f i x M).2.1 3 b j = M.2.1 3 b j := fun b => oL (M := fm_sI M 3 (M.2.2 376 f 0) i (bz (x.2.1 = true))) (fun z => h z.2.2)
  exact ⟨(e1 _).trans v.1, (e1 _).trans v.2.1, (e2 _).trans v.2.2.1, (e1 _).trans v.2.2.2⟩
theorem X99_read (o : FlO f M) (ht : t ≤ 1) (hr : r < 32) (hi : i < 3) : HX99_read f (nI i) (nI r) (nI t) M ∧ GX99_read f (nI i) (nI r) (nI t) M = rdM f i (upk t (bO t (M.2.1 3 (M.2.2 367 f 0) r))) M := by
  obtain ⟨p, -⟩ := p2F ht
  obtain ⟨b1, b2⟩ := X99_bitsOf o ht hr
  generalize bO t (M.2.1 3 (M.2.2 367 f 0) r) = b at *
  have T := o.1
  have n := o.2.1
  have d := o.2.2.1
  have i2 : fm_in M (M.2.2 372 f 0) (nI t) = true := in_nI (tL_372 T.1 n) (by omega) (by decide)
  have i3 : fm_in M (M.2.2 373 f 0) (nI t) = true := in_nI (tL_373 T.1 n) (by omega) (by decide)
  have i4 : fm_in M (M.2.2 374 f 0) (nI t) = true := in_nI (tL_374 T.1 n) (by omega) (by decide)
  have i5 : fm_in M (M.2.2 375 f 0) (nI i) = true := in_nI (tL_375 T.1 n) (by omega) (by decide)
  have i6 : fm_in M (M.2.2 376 f 0) (nI i) = true := in_nI (tL_376 T.1 n) (by omega) (by decide)
  have i7 : fm_in M (M.2.2 377 f 0) (nI i) = true := in_nI (tL_377 T.1 n) (by omega) (by decide)
  have i8 : fm_in M (M.2.2 378 f 0) (nI i) = true := in_nI (tL_378 T.1 n) (by omega) (by decide)
  have iR : ∀ (R : FM) (a : Nat) (v : Int32), R.2.2 = M.2.2 → fm_in M a v = true → fm_in R a v = true := fun R a v e h => by
    unfold fm_in at *
    rw [e]
    exact h
  have h189 : ∀ (R : FM), R.2.2 = M.2.2 → ∀ K, HX99_read_189 (R.2.2 375 f 0) (nI i) K R := fun R e _ => by
    rw [e]
    exact ⟨iR R _ _ e i5, trivial⟩
  have h144 : ∀ (R : FM), R.2.2 = M.2.2 → ∀ (a6 : Int32) (a7 a9 : Int64), HX99_read_144 f (nI t) a6 a7 a9 (R.2.2 375 f 0) (nI i) R := fun R e _ _ _ =>
    ⟨by rw [e]; exact iR R _ _ e i4, fun _ => ⟨fun _ => h189 R e _, fun _ => ⟨fun _ => h189 R e _, fun _ => h189 R e _⟩⟩, fun _ => h189 R e _⟩
  have h110 : ∀ (R : FM), R.2.2 = M.2.2 → ∀ (a6 : Int32) (a7 a9 : Int64) (s2 : Int32), HX99_read_110 f (nI i) (nI t) a6 a7 a9 (R.2.2 378 f 0) (nI i) s2 R := fun R e a6 a7 a9 s2 => by
    unfold HX99_read_110
    dsimp only
    have e2 : ∀ v, (fm_sI R 3 (R.2.2 378 f 0) (nI i).toNatClampNeg v).2.2 = M.2.2 := fun _ => e
    generalize hv : s2 - R.1 3 (R.2.2 373 f 0) (nI t).toNatClampNeg - a6 = v
    have e3 := e2 v
    generalize fm_sI R 3 (R.2.2 378 f 0) (nI i).toNatClampNeg v = R' at *
    refine ⟨by rw [e]; exact iR R _ _ e i3, by rw [e]; exact iR R _ _ e i8, fun _ => ⟨fun _ => ?_, fun _ => ?_⟩, fun _ => ?_⟩
    · exact h189 R' e3 _
    · exact h144 R' e3 a6 a7 a9
    · exact h144 R' e3 a6 a7 a9
  have h90 : ∀ (R : FM), R.2.2 = M.2.2 → ∀ (a6 : Int32) (a7 a9 : Int64) (s2 : Int64), HX99_read_90 f (nI i) (nI t) a6 a7 a9 (R.2.2 377 f 0) (nI i) s2 R := fun R e a6 a7 a9 s2 => by
    unfold HX99_read_90
    dsimp only
    have e2 : (fm_sL R 3 (R.2.2 377 f 0) (nI i).toNatClampNeg s2).2.2 = M.2.2 := e
    generalize fm_sL R 3 (R.2.2 377 f 0) (nI i).toNatClampNeg s2 = R' at *
    refine ⟨by rw [e]; exact iR R _ _ e i7, fun _ => ?_, fun _ => ?_⟩
    · exact h110 R' e2 a6 a7 a9 _
    · exact h110 R' e2 a6 a7 a9 _
  have h61 : ∀ (a6 : Int32) (a7 a9 : Int64) (s2 : Int64) (s3 : Int32), HX99_read_61 f (nI i) (nI t) a6 a7 a9 (M.2.2 376 f 0) (nI i) s2 s3 M := fun a6 a7 a9 s2 s3 => by
    unfold HX99_read_61
    dsimp only
    generalize hv : ((s2.toUInt64 >>> (s3.toInt64.toUInt64 &&& Int64.toUInt64 63)).toInt64).toInt32 &&& Int32.ofInt 1 = v
    have e2 : (fm_sI M 3 (M.2.2 376 f 0) (nI i).toNatClampNeg v).2.2 = M.2.2 := rfl
    generalize fm_sI M 3 (M.2.2 376 f 0) (nI i).toNatClampNeg v = R' at *
    refine ⟨i6, fun _ => ?_, fun _ => ?_⟩
    · exact h90 R' e2 a6 a7 a9 _
    · exact h90 R' e2 a6 a7 a9 _
  refine ⟨?_, ?_⟩
  · unfold HX99_read HX99_read_0
    dsimp only
    rw [b2]
    exact ⟨b1, i2, i4, fun _ => h61 _ _ _ _ _, fun _ => h61 _ _ _ _ _⟩
  · have bF := uF_lt t b
    have bE := uE_lt t b
    -- the sign
    have es : ((b.toUInt64 >>> ((Int32.ofInt (fS t : Int)).toInt64.toUInt64 &&& Int64.toUInt64 63)).toInt64).toInt32 &&& Int32.ofInt 1 = bz (uS' t b = true) := by
      rw [odd_i, ul_ushr, iz_ui0 (by omega), show fS t % 64 = fS t by omega]
      refine bz_c ?_
      unfold uS' lb
      rw [Nat.testBit_eq_decide_div_mod_eq]
      exact ⟨fun q => decide_eq_true q, fun q => of_decide_eq_true q⟩
    -- kind, behind the rest
    have k144 : ∀ (K : FM), K.2.2 = M.2.2 → (∀ k, K.1 3 (M.2.2 374 f 0) k = M.1 3 (M.2.2 374 f 0) k) → (uE t b = 0 → uF t b ≠ 0) → GX99_read_144 f (nI t) (Int32.ofInt (fF t)) (lN (uE t b)) (lN (uF t b)) (M.2.2 375 f 0) (nI i) K = fm_sI K 3 (M.2.2 375 f 0) i (nI (uK t b)) := fun K e1 e2 hnz => by
      unfold GX99_read_144 GX99_read_189
      dsimp only
      have sh : lg_cmp (lN (uF t b) >>> ((Int32.ofInt (fF t : Int) - Int32.ofInt 1).toInt64 &&& 63)) (Int64.ofInt 1) = 0 ↔ uF t b / 2 ^ (fF t - 1) = 1 := by
        rw [cl_eq, ul_sar0 _ _ (by rw [l_big (by omega)]; omega), l_big (by omega), iz_s, show ((fF t : Nat) : Int) - 1 = ((fF t - 1 : Nat) : Int) by omega, iz_ui0 (by omega), show (fF t - 1) % 64 = fF t - 1 by omega]
        exact Iff.rfl
      rw [e1, o_cl (by omega), o_cl (by omega), e2, fl_gr o ht, iz_64 (by omega), propext (b_ge (n := uE t b) (k := ((2 * fG t + 1 : Nat) : Int).toNat) (by omega) (by omega)), propext (l0 _), l_big (by omega), propext sh]
      unfold uK
      by_cases q : uE t b = 2 * fG t + 1
      · rw [fi_pos (by omega), if_pos q]
        by_cases q2 : uF t b = 0
        · rw [fi_pos q2, if_pos q2]
          rfl
        · rw [fi_neg q2, if_neg q2]
          by_cases q3 : uF t b / 2 ^ (fF t - 1) = 1
          · rw [fi_pos q3, if_pos q3]
            rfl
          · rw [fi_neg q3, if_neg q3]
            rfl
      · rw [fi_neg (by omega), if_neg q, if_neg (fun z => hnz z.1 z.2)]
        rfl
    have ne : ∀ g, g ∈ [376, 378] → ∀ g', g' ∈ [373, 374] → M.2.2 g' f 0 ≠ M.2.2 g f 0 := fun g hg g' hg' => d g' (by
      simp only [List.mem_cons, List.not_mem_nil, or_false] at hg'
      unfold flL
      simp only [List.mem_cons, List.not_mem_nil, or_false]
      omega) g (by
      simp only [List.mem_cons, List.not_mem_nil, or_false] at hg
      unfold flL
      simp only [List.mem_cons, List.not_mem_nil, or_false]
      omega) (by
      simp only [List.mem_cons, List.not_mem_nil, or_false] at hg hg'
      omega)
    have k61 : GX99_read_61 f (nI i) (nI t) (Int32.ofInt (fF t)) (lN (uE t b)) (lN (uF t b)) (M.2.2 376 f 0) (nI i) b (Int32.ofInt (fS t)) M = rdM f i (upk t b) M := by
      unfold GX99_read_61 GX99_read_90 GX99_read_110
      dsimp only
      rw [o_cl (by omega), o_cl (by omega), es]
      have e3 : ∀ (v : Int64) (k : Nat), (fm_sL (fm_sI M 3 (M.2.2 376 f 0) i (bz (uS' t b = true))) 3 (M.2.2 377 f 0) i v).1 3 (M.2.2 373 f 0) k = M.1 3 (M.2.2 373 f 0) k := fun v k => oI (fun z => ne 376 (by decide) 373 (by decide) z.2.1)
      have e4 : ∀ (v : Int64) (w : Int32) (k : Nat), (fm_sI (fm_sL (fm_sI M 3 (M.2.2 376 f 0) i (bz (uS' t b = true))) 3 (M.2.2 377 f 0) i v) 3 (M.2.2 378 f 0) i w).1 3 (M.2.2 374 f 0) k = M.1 3 (M.2.2 374 f 0) k := fun v w k => (oI (fun z => ne 378 (by decide) 374 (by decide) z.2.1)).trans (oI (fun z => ne 376 (by decide) 374 (by decide) z.2.1))
      rw [propext (l0 (lN (uE t b))), l_big (by omega), propext (l0 (lN (uF t b))), l_big (by omega), shl1 ht, l_a (by omega)]
      have r2 : ∀ (v : Int64) (g : Nat), (fm_sL (fm_sI M 3 (M.2.2 376 f 0) i (bz (uS' t b = true))) 3 (M.2.2 377 f 0) i v).2.2 g f 0 = M.2.2 g f 0 := fun _ _ => rfl
      have r1 : ∀ (g : Nat), (fm_sI M 3 (M.2.2 376 f 0) i (bz (uS' t b = true))).2.2 g f 0 = M.2.2 g f 0 := fun _ => rfl
      have r3 : ∀ (v : Int64) (w : Int32) (g : Nat), (fm_sI (fm_sL (fm_sI M 3 (M.2.2 376 f 0) i (bz (uS' t b = true))) 3 (M.2.2 377 f 0) i v) 3 (M.2.2 378 f 0) i w).2.2 g f 0 = M.2.2 g f 0 := fun _ _ _ => rfl
      rw [r1]
      by_cases q : uE t b = 0
      · rw [fi_pos q, fi_pos q, fi_pos q, r2, r2, e3, fl_sh o ht, iz_s, iz_s, r3]
        have hz : uZ t b = uF t b := by unfold uZ; rw [if_pos q]
        have hp : (1 : Int) - fG t - fF t = uP t b := by unfold uP; rw [if_pos q]
        unfold rdM upk
        dsimp only
        rw [hz, hp]
        by_cases q2 : uF t b = 0
        · have hk : uK t b = 0 := by
            unfold uK
            rw [if_neg (by omega), if_pos ⟨q, q2⟩]
          rw [fi_pos q2, hk]
          unfold GX99_read_189
          dsimp only
          rw [o_cl (by omega)]
          rfl
        · rw [fi_neg q2]
          exact k144 _ rfl (fun k => e4 _ _ k) (fun _ => q2)
      · have hz : uZ t b = uF t b + 2 ^ fF t := by unfold uZ; rw [if_neg q]
        have hp : ((uE t b : Nat) : Int) - fG t - fF t = uP t b := by unfold uP; rw [if_neg q]
        rw [fi_neg q, fi_neg q, fi_neg q, r2, r2, e3, fl_sh o ht, o_32 (by omega), iz_nI (uE t b), iz_s, iz_s, r3, hp]
        unfold rdM upk
        dsimp only
        rw [hz]
        exact k144 _ rfl (fun k => e4 _ _ k) (fun z => absurd z q)
    unfold GX99_read GX99_read_0
    dsimp only
    rw [b2]
    dsimp only
    rw [o_cl (by omega), fl_fr o ht, fl_gr o ht, uE_l ht, shl1 ht, uF_e ht, ← k61]
    rcases (show t = 0 ∨ t = 1 by omega) with e | e <;> subst e
    · rw [fi_neg (show ¬ nI 0 = Int32.ofInt 1 by decide)]
      rfl
    · rw [fi_pos (show nI 1 = Int32.ofInt 1 from rfl)]
      rfl
end Rr
