/-! the machine: bytes into memory, whole; sectors, whole -/
set_option maxRecDepth 100000
section Lb
variable {bd hv m hq s dd x dk q rq r sg bl cr np mc : Nat} {B Bk Vv ld : Nat} {Mc Mt : FM} {X : Nat → Nat} {n : Nat} {a : Int64}
theorem O_bytes (R : RelM bd hv m hq s dd x dk q rq r sg bl cr np mc B Bk Vv Mc Mt) (Q : RelR mc m B Mc Mt) (L : RelL mc ld m r cr Mc Mt) (LD : RelLd ld m r cr Mc Mt X n) (hr : inR a n ∨ n = 0) : ∃ Nc Nt, (HX2_bytes mc a Mc ∧ GX2_bytes mc a Mc = (nI n, Nc)) ∧
    FX92_load_L156 fN fN m (Int32.ofInt 0) a (nI n) (nI 0) Mt = some (nI n, Nt) ∧ RelM bd hv m hq s dd x dk q rq r sg bl cr np mc B (Bk + 65536) Vv Nc Nt ∧ RelR mc m B Nc Nt ∧ RelL mc ld m r cr Nc Nt ∧ Nt.1 296 m 0 = Mt.1 296 m 0 ∧ Sm m sg Nt Mt ∧ WK lX2_bytes Mc Nc ∧ WK [309, 1388, 1389, 1391] Mt Nt := by
  have RR := relM_ram R
  have RB := relM_b R
  have T0 := RR.1.1
  have W := RR.1.2.1
  have Tm := RR.2.1.1
  have W' := RR.2.1.2.1
  have n92 := (relM_m R).1
  have n67 := R.1
  obtain ⟨l1, l2, _, l3, l4⟩ := id L
  obtain ⟨_, _, _, _, _, ⟨ow, Ow⟩, ⟨ow', Ow'⟩, _⟩ := id R
  have n66 := LD.2.1.2.1
  have hn : n ≤ 65536 := LD.2.1.2.2.2.1.2
  have tp := LD.2.1.2.2.1
  rw [← l2] at tp
  have P : PmM mc bd ld (Mc.2.2 191 mc 0) r Mc := ⟨n67, RB.1.1.1.1, n66, R.2.1, rfl, RB.1.1.2.2.1, l2.symm⟩
  obtain ⟨Nc, Nt, c1, c2, LD2, P2, c5, c6, c7⟩ := byt_L (a := a) hr n 0 Mc Mt (by omega) LD P fN fN (by unfold fN; omega) (by unfold fN; omega)
  have RR1 := LD2.1
  have w1_ : FX2_bytes fN mc a Mc = some (nI n, fm_sI Nc 262 (Mc.2.2 191 mc 0) 0 (Int32.ofInt 0)) := by
    have G := (gX2_bytes_0 (FX2_bytes_L11 fN fN) mc a Mc T0 n67).1
    show FX2_bytes_0 fN (FX2_bytes_L11 fN fN) mc a Mc = _
    rw [G]
    unfold GX2_bytes_0
    try dsimp only
    rw [tp.2.2.1]
    exact c1
  have kc : WK lX2_bytes Mc (fm_sI Nc 262 (Mc.2.2 191 mc 0) 0 (Int32.ofInt 0)) := wX2_bytes (SL lX2_bytes) (fun _ => True) (fun _ h => h) fN mc a Mc (wi_N W) trivial _ w1_
  have kc' : Wk (SL lX2_bytes) (Zo ow (fm_nx Mc) 0) 0 (fm_nx Mc) Mc (fm_sI Nc 262 (Mc.2.2 191 mc 0) 0 (Int32.ofInt 0)) := wX2_bytes (SL lX2_bytes) (Zo ow (fm_nx Mc) 0) (fun _ h => h) fN mc a Mc (own_wi Ow T0 W) (Or.inr (Or.inl (own_sh Ow n67 rfl))) _ w1_
  have OX := own_k Ow T0 W kc' (xs_dj (by decide))
  have kt' : Wk (SL lX92_load) (Zo ow' (fm_nx Mt) 0) 0 (fm_nx Mt) Mt (fm_sI Nt 309 m 0 (Int32.ofInt 0)) := wX92_load_L (SL lX92_load) (Zo ow' (fm_nx Mt) 0) (fun _ h => h) fN fN m (Int32.ofInt 0) a (nI n) (nI 0) Mt (own_wi Ow' Tm W') (Or.inr (Or.inl (own_sh Ow' n92 rfl))) _ c2
  have OY := own_k Ow' Tm W' kt' (xs_dj (by decide))
  have n92' := LD2.2.2.2.1.2.1.1
  have k2 := WK_I RR1.2.1.2.1 n92' (f := 309) rfl rfl (Int32.ofInt 0)
  have kt2 : WK [309, 1388, 1389, 1391] Mt (fm_sI Nt 309 m 0 (Int32.ofInt 0)) := WK_t (WK_s (by decide) c7) (WK_s (by decide) k2)
  have tp2 := LD2.2.1.2.2.1
  rw [P2.2.2.2.2.2.2] at tp2
  have k3 := WK_I RR1.1.2.1 tp2.1 (f := 262) rfl rfl (Int32.ofInt 0)
  have TN : Ty (fm_sI Nc 262 (Mc.2.2 191 mc 0) 0 (Int32.ofInt 0)) := ⟨RR1.1.1.1, tyb_sI rfl RR1.1.1.2⟩
  have TN' : Ty (fm_sI Nt 309 m 0 (Int32.ofInt 0)) := ⟨RR1.2.1.1.1, tyb_sI rfl RR1.2.1.1.2⟩
  obtain ⟨RR2, rqq, _⟩ := wrR k3 k2 (by decide) (by decide) TN TN' RR1
  have RB2 : RelB bd s dd x dk q rq r m sg bl cr np B (fm_sI Nc 262 (Mc.2.2 191 mc 0) 0 (Int32.ofInt 0)) (fm_sI Nt 309 m 0 (Int32.ofInt 0)) := wrB kc kt2 (by decide) (by decide) RR2 RB
  have R2 := M_b (e := 65536) R kc kt2 (by decide) (by decide) RB2 (evo_w (evo_q' c5 rqq) (by omega)) ⟨_, OX⟩ ⟨_, OY⟩
  have lc := wf_lt W (fm_ist rfl n67)
  have ll := wf_lt W (fm_ist rfl n66)
  have lm := wf_lt W' (fm_ist rfl n92)
  have L1 : RelL mc ld m r cr Nc Nt := ⟨(congrFun (kf (f := 192) c6 rfl (dj_n (L := [192]) (by decide) 192 rfl) lc).2.2 0).trans l1, P2.2.2.2.2.1.trans P2.2.2.2.2.2.2.symm, ⟨X, n, LD2⟩, by
    rw [congrFun (kf (f := 188) c6 rfl (dj_n (L := [188]) (by decide) 188 rfl) ll).2.1 0, congrFun (kf (f := 313) c7 rfl (dj_n (L := [313]) (by decide) 313 rfl) lm).2.1 0]
    exact ⟨l3, l4⟩⟩
  have e191 : Nc.2.2 191 mc 0 = Mc.2.2 191 mc 0 := P2.2.2.2.2.1
  have tt2 := LD2.2.2.2.1.2.1
  have L2 : RelL mc ld m r cr (fm_sI Nc 262 (Mc.2.2 191 mc 0) 0 (Int32.ofInt 0)) (fm_sI Nt 309 m 0 (Int32.ofInt 0)) :=
    relL_n L1 RR2 rfl rfl rfl (X' := X) (n' := 0) (by
      rw [e191]
      exact ⟨tp2.1, tp2.2.1, rIe _, fun j hj => (rIf (by decide)).trans (tp2.2.2.2 j hj)⟩) ⟨tt2.1, rIe _, fun j hj => (rIf (by decide)).trans (tt2.2.2 j hj)⟩ ⟨LD2.2.1.2.2.2.1.1, by omega⟩
  obtain ⟨f1, f2⟩ := op_of (d := ((0 : Int32), Mc)) w1_ (P := OkR Mc) ⟨TN, wk_ext W kc⟩
  exact ⟨_, _, ⟨f1, f2⟩, c2, R2, relR_k kc kt2 (by decide) (by decide) T0 W Tm W' n67 n92 (Nat.le_refl _) Q, L2, congrFun (kf (f := 296) kt2 rfl (dj_n (L := [296]) (by decide) 296 rfl) lm).1 0, sm_k kt2 (by decide) R, kc, kt2⟩
end Lb
