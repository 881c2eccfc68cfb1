/-! disks: bytes are copied on both sides: what stays -/
set_option maxRecDepth 100000
/-- where the result of the request goes, the twin's -/
def EndT (b : Nat) (ea : Int64) (M : FM) : Prop := ∃ q, 0 < q ∧ q ≤ 16 ∧ M.1 339 b 0 = nI q ∧ (M.2.1 3 (M.2.2 340 b 0) (q - 1) + M.2.1 3 (M.2.2 341 b 0) (q - 1)) - Int64.ofInt 1 = ea
/-- both disks have the same bytes -/
def RelDk (dk b : Nat) (Mc Mt : FM) : Prop := ∀ k, k < 131072 → Mc.2.1 3 (Mc.2.2 69 dk 0) k = Mt.2.1 3 (Mt.2.2 327 b 0) k
/-- while bytes are copied -/
def CpI (fs rq dk x r b c s : Nat) (ea : Int64) (L : List Seg) (p : Nat) (Mc Mt : FM) : Prop :=
  RelRam r c Mc Mt ∧ ((fs = 78 ∨ fs = 79) ∧ fm_is Mc 29 29 rq = true ∧ fm_is Mc 23 23 dk = true ∧ fm_is Mc 76 76 x = true ∧ Mc.2.2 222 x 0 = r ∧ fm_is Mc 30 30 s = true ∧ Mc.2.2 fs rq 0 = s) ∧
  (fm_is Mt 93 93 b = true ∧ Mt.2.2 326 b 0 = c ∧ EndT b ea Mt) ∧ StrP s Mc L p ∧ TwP b Mt L p ∧ RelDk dk b Mc Mt
theorem strP_w {s : Nat} {M N : FM} {L : List Seg} {p : Nat} (V : StrP s M L p) (e1 : N.1 89 s 0 = M.1 89 s 0) (e2 : N.2.1 90 s 0 = M.2.1 90 s 0) (e3 : N.2.2 85 s 0 = M.2.2 85 s 0) (e4 : N.2.2 86 s 0 = M.2.2 86 s 0)
    (e5 : ∀ j, N.2.1 3 (M.2.2 85 s 0) j = M.2.1 3 (M.2.2 85 s 0) j) (e6 : ∀ j, N.2.1 3 (M.2.2 86 s 0) j = M.2.1 3 (M.2.2 86 s 0) j) : StrP s N L p := by
  obtain ⟨b, v1, v2, v3, v4⟩ := V
  refine ⟨b, v1, e1.trans v2, e2.trans v3, fun j hj => ?_⟩
  rw [e3, e4, e5, e6]
  exact v4 j hj
theorem twP_w {b : Nat} {M N : FM} {L : List Seg} {p : Nat} (V : TwP b M L p) (e1 : N.1 343 b 0 = M.1 343 b 0) (e2 : N.2.1 344 b 0 = M.2.1 344 b 0) (e3 : N.2.2 = M.2.2)
    (e5 : ∀ j, N.2.1 3 (M.2.2 340 b 0) j = M.2.1 3 (M.2.2 340 b 0) j) (e6 : ∀ j, N.2.1 3 (M.2.2 341 b 0) j = M.2.1 3 (M.2.2 341 b 0) j) : TwP b N L p := by
  obtain ⟨i, v1, v2, v3, v4⟩ := V
  refine ⟨i, v1, e1.trans v2, e2.trans v3, fun j hj => ?_⟩
  rw [e3, e5, e6]
  exact v4 j hj
theorem endT_w {b : Nat} {M N : FM} {ea : Int64} (V : EndT b ea M) (e1 : N.1 339 b 0 = M.1 339 b 0) (e3 : N.2.2 = M.2.2)
    (e5 : ∀ j, N.2.1 3 (M.2.2 340 b 0) j = M.2.1 3 (M.2.2 340 b 0) j) (e6 : ∀ j, N.2.1 3 (M.2.2 341 b 0) j = M.2.1 3 (M.2.2 341 b 0) j) : EndT b ea N := by
  obtain ⟨q, v1, v2, v3, v4⟩ := V
  refine ⟨q, v1, v2, e1.trans v3, ?_⟩
  rw [e3, e5, e6]
  exact v4
/-- the twin's rows are no part of its memory -/
theorem prm_x {b c : Nat} {M : FM} (T : Ty M) (W : Wf M) (n : fm_is M 93 93 b = true) (nc : fm_is M 98 98 c = true) :
    ¬ PRm c M 3 (M.2.2 340 b 0) ∧ ¬ PRm c M 3 (M.2.2 341 b 0) ∧ ¬ PRm c M 3 (M.2.2 342 b 0) ∧ ¬ PRm c M 3 (M.2.2 327 b 0) ∧ ¬ PRm c M 3 (M.2.2 334 b 0) := by
  have s8 := sS_388 W nc
  have s9 := sS_389 W nc
  have s1 := sS_391 W nc
  refine ⟨fun q => ?_, fun q => ?_, fun q => ?_, fun q => ?_, fun q => ?_⟩
  · have n1 := tN_340 T.1 n
    rcases q.2 with q | q | q
    · exact sf_ne W (sS_340 W n) s8 (lo := 902) rfl n1 (by decide) q
    · exact sf_ne W (sS_340 W n) s9 (lo := 902) rfl n1 (by decide) q
    · exact sf_ne W (sS_340 W n) s1 (lo := 902) rfl n1 (by decide) q
  · have n1 := tN_341 T.1 n
    rcases q.2 with q | q | q
    · exact sf_ne W (sS_341 W n) s8 (lo := 902) rfl n1 (by decide) q
    · exact sf_ne W (sS_341 W n) s9 (lo := 902) rfl n1 (by decide) q
    · exact sf_ne W (sS_341 W n) s1 (lo := 902) rfl n1 (by decide) q
  · have n1 := tN_342 T.1 n
    rcases q.2 with q | q | q
    · exact sf_ne W (sS_342 W n) s8 (lo := 904) rfl n1 (by decide) q
    · exact sf_ne W (sS_342 W n) s9 (lo := 904) rfl n1 (by decide) q
    · exact sf_ne W (sS_342 W n) s1 (lo := 904) rfl n1 (by decide) q
  · have n1 := tN_327 T.1 n
    rcases q.2 with q | q | q
    · exact sf_ne W (sS_327 W n) s8 (lo := 902) rfl n1 (by decide) q
    · exact sf_ne W (sS_327 W n) s9 (lo := 902) rfl n1 (by decide) q
    · exact sf_ne W (sS_327 W n) s1 (lo := 902) rfl n1 (by decide) q
  · have n1 := tN_334 T.1 n
    rcases q.2 with q | q | q
    · exact sf_ne W (sS_334 W n) s8 (lo := 902) rfl n1 (by decide) q
    · exact sf_ne W (sS_334 W n) s9 (lo := 902) rfl n1 (by decide) q
    · exact sf_ne W (sS_334 W n) s1 (lo := 902) rfl n1 (by decide) q
section Cp
variable {fs rq dk x r b c s p : Nat} {ea a : Int64} {L : List Seg} {Mc Mt : FM}
/-- a byte is written into memory -/
theorem cp_wr {w u : Int32} (C : CpI fs rq dk x r b c s ea L p Mc Mt) (ha : inR a 1) (hv : ∀ i, i < 8 → ib u i = ib w i) :
    HX19_put x a w Mc ∧ HX93_put c a u Mt ∧ CpI fs rq dk x r b c s ea L p (GX19_put x a w Mc) (GX93_put c a u Mt) ∧ Evo r 1 Mc (GX19_put x a w Mc) ∧
    Wk SPt (fun _ => True) 0 (fm_nx Mc) Mc (GX19_put x a w Mc) ∧ Frm (PRm c Mt) Mt (GX93_put c a u Mt) := by
  obtain ⟨R, ⟨hfs, c1, c2, c3, c4, c5, c6⟩, ⟨d1, d2, d3⟩, S, P, K⟩ := C
  obtain ⟨p1, p2, p3, p4, p5, p6⟩ := rel_byteF R c3 c4 ha hv
  have k := p5 (fm_nx Mc) (Nat.le_refl _)
  generalize GX19_put x a w Mc = N at *
  generalize GX93_put c a u Mt = X at *
  have W := R.1.2.1
  have T := R.1.1
  have l1 := wf_lt W (fm_ist rfl c1)
  have l2 := wf_lt W (fm_ist rfl c2)
  have l3 := wf_lt W (fm_ist rfl c3)
  have l5 := wf_lt W (fm_ist rfl c5)
  have r85 := tN_85 T.1 c5
  have r86 := tN_86 T.1 c5
  have r69 := tN_69 T.1 c2
  have k85 := ka k (sS_85 W c5) (wf_n0 W (fm_ist rfl r85)) (by decide) (wf_lt W (fm_ist rfl r85))
  have k86 := ka k (sS_86 W c5) (wf_n0 W (fm_ist rfl r86)) (by decide) (wf_lt W (fm_ist rfl r86))
  have k69 := ka k (sS_69 W c2) (wf_n0 W (fm_ist rfl r69)) (by decide) (wf_lt W (fm_ist rfl r69))
  obtain ⟨x0, x1, x2, x3, x4⟩ := prm_x R.2.1.1 R.2.1.2.1 d1 R.2.1.2.2.1
  have ff : ∀ f y i, f ≠ 3 → X.1 f y i = Mt.1 f y i ∧ X.2.1 f y i = Mt.2.1 f y i := fun f y i hf => p6.2 f y i (fun q => hf q.1)
  refine ⟨p1, p2, ⟨p3, ⟨hfs, kis k W rfl c1, kis k W rfl c2, kis k W rfl c3, ?_, kis k W rfl c5, ?_⟩, ⟨frm_is p6 d1, by rw [p6.1]; exact d2, endT_w d3 (ff 339 b 0 (by decide)).1 p6.1 (fun j => (p6.2 3 _ j x0).2) (fun j => (p6.2 3 _ j x1).2)⟩,
    strP_w S (by rw [(kf k rfl (by decide) l5).1]) (by rw [(kf k rfl (by decide) l5).2.1]) (by rw [(kf k rfl (by decide) l5).2.2]) (by rw [(kf k rfl (by decide) l5).2.2]) (fun j => by rw [k85.2.1]) (fun j => by rw [k86.2.1]),
    twP_w P (ff 343 b 0 (by decide)).1 (ff 344 b 0 (by decide)).2 p6.1 (fun j => (p6.2 3 _ j x0).2) (fun j => (p6.2 3 _ j x1).2), fun j hj => ?_⟩, p4, k, p6⟩
  · rw [(kf k rfl (by decide) l3).2.2]
    exact c4
  · rcases hfs with rfl | rfl
    · rw [(kf k rfl (by decide) l1).2.2]
      exact c6
    · rw [(kf k rfl (by decide) l1).2.2]
      exact c6
  · rw [(kf k rfl (by decide) l2).2.2, k69.2.1, p6.1, (p6.2 3 _ j x3).2]
    exact K j hj
abbrev SNx : Nat → Prop := fun y => fe_mem [89, 90] y = true
abbrev STx : Nat → Prop := fun y => fe_mem [343, 344] y = true
theorem pnx_k {M N : FM} (h : Frm (PNx s) M N) (W : Wf M) (n : fm_is M 30 30 s = true) : Wk SNx (fun _ => True) 0 (fm_nx M) M N :=
  frm_k h (fun f y q => by rw [q.1]; exact fm_ist rfl n) (fun f y q => by
    unfold lcn
    rw [if_neg (by have := q.2; omega)]
    have : f = 89 ∨ f = 90 := by have := q.2; omega
    rcases this with z | z <;> rw [z] <;> rfl) W
theorem ptx_k {M N : FM} (h : Frm (PTx b) M N) (W : Wf M) (n : fm_is M 93 93 b = true) : Wk STx (fun _ => True) 0 (fm_nx M) M N :=
  frm_k h (fun f y q => by rw [q.1]; exact fm_ist rfl n) (fun f y q => by
    unfold lcn
    rw [if_neg (by have := q.2; omega)]
    have : f = 343 ∨ f = 344 := by have := q.2; omega
    rcases this with z | z <;> rw [z] <;> rfl) W
/-- the next byte's place, on both sides -/
theorem cp_next {L' : List Seg} {p' : Nat} (C : CpI fs rq dk x r b c s ea L p Mc Mt) (ok : okS L) (hp : p ≤ 4294967296) (h : nxtS L p = some (a, L', p')) :
    HX22_next s Mc ∧ HX95_nextByte b Mt ∧ ∃ N X, GX22_next s Mc = (a, N) ∧ GX95_nextByte b Mt = (a, X) ∧ CpI fs rq dk x r b c s ea L' p' N X ∧ Frm (PNx s) Mc N ∧ Frm (PTx b) Mt X := by
  obtain ⟨R, ⟨hfs, c1, c2, c3, c4, c5, c6⟩, ⟨d1, d2, d3⟩, S, P, K⟩ := C
  obtain ⟨h1, N, n1, n2, n3, n4⟩ := X22_nextH R.1.1 c5 ok hp S h
  obtain ⟨t1, X, u1, u2, u3, u4⟩ := X95_nextH R.2.1.1 d1 ok hp P h
  have Q := ramQ_k (pnx_k n2 R.1.2.1 c5) (by unfold RFr; decide) n3 R.1
  have Q2 := trQ_k (ptx_k u2 R.2.1.2.1 d1) (by unfold TFr; decide) u3 R.2.1
  refine ⟨h1, t1, N, X, n1, u1, ⟨rel_tq (rel_q R Q) Q2, ⟨hfs, frm_is n2 c1, frm_is n2 c2, frm_is n2 c3, by rw [n2.1]; exact c4, frm_is n2 c5, by rw [n2.1]; exact c6⟩, ⟨frm_is u2 d1, by rw [u2.1]; exact d2, ?_⟩, n4, u4, fun j hj => ?_⟩, n2, u2⟩
  · exact endT_w d3 (u2.2 339 b 0 (fun q => by have := q.2; omega)).1 u2.1 (fun j => (u2.2 3 _ j (fun q => by have := q.2; omega)).2) (fun j => (u2.2 3 _ j (fun q => by have := q.2; omega)).2)
  · rw [n2.1, u2.1, (n2.2 3 _ j (fun q => by have := q.2; omega)).2, (u2.2 3 _ j (fun q => by have := q.2; omega)).2]
    exact K j hj
/-- a word of both disks is written -/
theorem cp_dk {j : Nat} {v : Int64} (C : CpI fs rq dk x r b c s ea L p Mc Mt) : CpI fs rq dk x r b c s ea L p (fm_sL Mc 3 (Mc.2.2 69 dk 0) j v) (fm_sL Mt 3 (Mt.2.2 327 b 0) j v) ∧
    Wk (fun y => fe_mem [1069] y = true) (fun _ => True) 0 (fm_nx Mc) Mc (fm_sL Mc 3 (Mc.2.2 69 dk 0) j v) := by
  obtain ⟨R, ⟨hfs, c1, c2, c3, c4, c5, c6⟩, ⟨d1, d2, d3⟩, S, P, K⟩ := C
  have W := R.1.2.1
  have T := R.1.1
  have W' := R.2.1.2.1
  have T' := R.2.1.1
  have r69 := tN_69 T.1 c2
  have r327 := tN_327 T'.1 d1
  have lc : lcn Mc 3 (Mc.2.2 69 dk 0) = 1069 := by
    unfold lcn
    rw [if_pos rfl]
    rcases sS_69 W c2 with z | z
    · exact absurd z (wf_n0 W (fm_ist rfl r69))
    · rw [z.2]
  have lt : lcn Mt 3 (Mt.2.2 327 b 0) = 1327 := by
    unfold lcn
    rw [if_pos rfl]
    rcases sS_327 W' d1 with z | z
    · exact absurd z (wf_n0 W' (fm_ist rfl r327))
    · rw [z.2]
  have kc : Wk (fun y => fe_mem [1069] y = true) (fun _ => True) 0 (fm_nx Mc) Mc (fm_sL Mc 3 (Mc.2.2 69 dk 0) j v) := wk_L (wk_r (wi_N W)) (lo := 902) (hi := 902) rfl r69 trivial (Or.inr (by rw [lc]; rfl)) (Nat.le_refl _)
  have kt' : Wk (fun y => fe_mem [1327] y = true) (fun _ => True) 0 (fm_nx Mt) Mt (fm_sL Mt 3 (Mt.2.2 327 b 0) j v) := wk_L (wk_r (wi_N W')) (lo := 902) (hi := 902) rfl r327 trivial (Or.inr (by rw [lt]; rfl)) (Nat.le_refl _)
  have Q := ramQ_k kc (by unfold RFr; decide) ⟨T.1, T.2⟩ R.1
  have Q2 := trQ_k kt' (by unfold TFr; decide) ⟨T'.1, T'.2⟩ R.2.1
  have y5 : Mc.2.2 85 s 0 ≠ Mc.2.2 69 dk 0 := sf_ne W (sS_85 W c5) (sS_69 W c2) (lo := 902) rfl (tN_85 T.1 c5) (by decide)
  have y6 : Mc.2.2 86 s 0 ≠ Mc.2.2 69 dk 0 := sf_ne W (sS_86 W c5) (sS_69 W c2) (lo := 902) rfl (tN_86 T.1 c5) (by decide)
  have z0 : Mt.2.2 340 b 0 ≠ Mt.2.2 327 b 0 := sf_ne W' (sS_340 W' d1) (sS_327 W' d1) (lo := 902) rfl (tN_340 T'.1 d1) (by decide)
  have z1 : Mt.2.2 341 b 0 ≠ Mt.2.2 327 b 0 := sf_ne W' (sS_341 W' d1) (sS_327 W' d1) (lo := 902) rfl (tN_341 T'.1 d1) (by decide)
  refine ⟨⟨rel_tq (rel_q R Q) Q2, ⟨hfs, c1, c2, c3, c4, c5, c6⟩, ⟨d1, d2, endT_w d3 rfl rfl (fun i => oL (fun q => z0 q.2.1)) (fun i => oL (fun q => z1 q.2.1))⟩,
    strP_w S rfl (oL (fun q => absurd q.1 (by decide))) rfl rfl (fun i => oL (fun q => y5 q.2.1)) (fun i => oL (fun q => y6 q.2.1)), twP_w P rfl (oL (fun q => absurd q.1 (by decide))) rfl (fun i => oL (fun q => z0 q.2.1)) (fun i => oL (fun q => z1 q.2.1)), fun i hi => ?_⟩, kc⟩
  show (fm_sL Mc 3 (Mc.2.2 69 dk 0) j v).2.1 3 (Mc.2.2 69 dk 0) i = (fm_sL Mt 3 (Mt.2.2 327 b 0) j v).2.1 3 (Mt.2.2 327 b 0) i
  rw [rL, rL, K i hi]
  by_cases e : i = j
  · rw [if_pos ⟨rfl, rfl, e⟩, if_pos ⟨rfl, rfl, e⟩]
  · rw [if_neg (fun q => e q.2.2), if_neg (fun q => e q.2.2)]
end Cp
/-- one byte alone is put by the twin -/
theorem X95_put1_L {b c : Nat} {M : FM} {a v : Int64} (I : TrI c M) (n : fm_is M 93 93 b = true) (hc : M.2.2 326 b 0 = c) (ha : inR a 1) : ∀ J, FX95_put_L3 fN (J + 2) b a (Int32.ofInt 1) v (Int32.ofInt 0) M = some (GX93_put c a (vb v 0) M) := by
  intro J
  obtain ⟨o, ho⟩ : ∃ o, ul a = 2147483648 + o := ⟨ul a - 2147483648, by unfold inR at ha; omega⟩
  obtain ⟨p1, p2⟩ := X93_put (a := a) I.1 I.2.2.1 ho (by unfold inR at ha; omega) (vb v 0)
  have e0 : a + (Int32.ofInt 0).toInt64 = a := Int64.add_zero _
  have c1 : ¬ Int32.ofInt 1 ≤ Int32.ofInt 0 := by decide
  have c2 : Int32.ofInt 1 ≤ Int32.ofInt 1 := by decide
  have H : HX95_put_3 b a (Int32.ofInt 1) v (Int32.ofInt 0) M := by
    unfold HX95_put_3
    dsimp only
    rw [hc, e0]
    exact ⟨fun q => absurd q c1, fun _ => ⟨p1, trivial⟩⟩
  have G : GX95_put_3 b a (Int32.ofInt 1) v (Int32.ofInt 0) M = .inl (b, a, Int32.ofInt 1, v, Int32.ofInt 1, GX93_put c a (vb v 0) M) := by
    unfold GX95_put_3
    rw [fi_neg c1]
    dsimp only
    rw [hc, e0]
    rfl
  show FX95_put_3 fN (FX95_put_L3 fN (J + 1)) b a (Int32.ofInt 1) v (Int32.ofInt 0) M = _
  rw [(gX95_put_3 (FX95_put_L3 fN (J + 1)) b a (Int32.ofInt 1) v (Int32.ofInt 0) M I.1 n H).1, G]
  show FX95_put_3 fN (FX95_put_L3 fN J) b a (Int32.ofInt 1) v (Int32.ofInt 1) (GX93_put c a (vb v 0) M) = _
  rw [p2]
  rw [(gX95_put_3 (FX95_put_L3 fN J) b a (Int32.ofInt 1) v (Int32.ofInt 1) (pbM c a o (vb v 0) M) (pbM_ty I.1 I.2.2.1 _) (by unfold fm_is; rw [pbM_R]; exact n) ⟨fun _ => trivial, fun q => absurd c2 q⟩).1]
  unfold GX95_put_3
  rw [fi_pos c2]
  rfl
theorem X95_put1 {b c : Nat} {M : FM} {a v : Int64} (I : TrI c M) (n : fm_is M 93 93 b = true) (hc : M.2.2 326 b 0 = c) (ha : inR a 1) : HX95_put b a (Int32.ofInt 1) v M ∧ GX95_put b a (Int32.ofInt 1) v M = GX93_put c a (vb v 0) M := by
  obtain ⟨o, ho⟩ : ∃ o, ul a = 2147483648 + o := ⟨ul a - 2147483648, by unfold inR at ha; omega⟩
  have p2 := (X93_put (a := a) I.1 I.2.2.1 ho (by unfold inR at ha; omega) (vb v 0)).2
  have A : FX95_put fN b a (Int32.ofInt 1) v M = some (GX93_put c a (vb v 0) M) := by
    show FX95_put_0 fN (FX95_put_L3 fN fN) b a (Int32.ofInt 1) v M = _
    rw [(gX95_put_0 (FX95_put_L3 fN fN) b a (Int32.ofInt 1) v M I.1).1]
    exact X95_put1_L I n hc ha 99999998
  exact op_of (d := M) A (P := OkV M) ⟨by rw [p2]; exact pbM_ty I.1 I.2.2.1 _, by rw [p2]; exact frm_ext frm_pb⟩
theorem vb_0 (y : Int32) (i : Nat) (hi : i < 8) : ib (vb y.toInt64 0) i = ib y i := by
  rw [vb_b _ (by decide), decide_eq_true (by omega), Bool.true_and, lb_sext _ _ (by omega), if_pos (by omega)]
  rfl
/-- the twin ends a request -/
theorem r384 {b c : Nat} {M : FM} {ea : Int64} (I : TrI c M) (n : fm_is M 93 93 b = true) (hc : M.2.2 326 b 0 = c) (E : EndT b ea M) (ha : inR ea 1) (res : Int32) (w : Int64) :
    HX95_request_384 b res w M ∧ GX95_request_384 b res w M = .inr (.inr (.inr (w + Int64.ofInt 1, GX93_put c ea (vb res.toInt64 0) M))) := by
  obtain ⟨q, q1, q2, q3, q4⟩ := E
  obtain ⟨p1, p2⟩ := X95_put1 (v := res.toInt64) I n hc ha
  have e1 : nI q - Int32.ofInt 1 = nI (q - 1) := by
    have := n_dn (n := q - 1) (by omega)
    rw [show q - 1 + 1 = q by omega] at this
    exact this
  have ec : (nI (q - 1)).toNatClampNeg = q - 1 := o_cl (by omega)
  unfold HX95_request_384 GX95_request_384
  dsimp only
  rw [q3, e1, ec, q4, p2]
  exact ⟨⟨in_nI (N := 16) (tL_340 I.1.1 n) (by omega) (by decide), in_nI (N := 16) (tL_341 I.1.1 n) (by omega) (by decide), p1, trivial⟩, rfl⟩
