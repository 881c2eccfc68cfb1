/-! the machine: an image is loaded, both sides -/
set_option maxRecDepth 100000
section Im
variable {bd hv m hq s dd x dk q rq r sg bl cr np mc : Nat} {B Bk Vv ld : Nat} {Mc Mt : FM}
theorem O_image (R : RelM bd hv m hq s dd x dk q rq r sg bl cr np mc B Bk Vv Mc Mt) (Q : RelR mc m B Mc Mt) (L : RelL mc ld m r cr Mc Mt) : ∃ v Nc Nt, (HX2_image mc Mc ∧ GX2_image mc Mc = (v, Nc)) ∧ (HX92_loadImage m Mt ∧ GX92_loadImage m Mt = (v, Nt)) ∧
    RelM bd hv m hq s dd x dk q rq r sg bl cr np mc B (Bk + 134217728) Vv Nc (fm_sI Nt 309 m 0 (Int32.ofInt 0)) ∧ RelR mc m B Nc (fm_sI Nt 309 m 0 (Int32.ofInt 0)) ∧ RelL mc ld m r cr Nc (fm_sI Nt 309 m 0 (Int32.ofInt 0)) ∧
    Nt.1 296 m 0 = Mt.1 296 m 0 ∧ Sm m sg Nt Mt ∧ WK lX2_image Mc Nc ∧ WK (309 :: lX92_loadImage) Mt (fm_sI Nt 309 m 0 (Int32.ofInt 0)) := by
  have RR := relM_ram R
  have RB := relM_b R
  have T0 := RR.1.1
  have W := RR.1.2.1
  have Tm := RR.2.1.1
  have W' := RR.2.1.2.1
  have n92 := (relM_m R).1
  have n67 := R.1
  obtain ⟨l1, l2, ⟨X, n, LD⟩, l3, l4⟩ := id L
  obtain ⟨_, _, _, _, _, ⟨ow, Ow⟩, ⟨ow', Ow'⟩, _⟩ := id R
  obtain ⟨a1, b1, Nc, Nt, a2, b2, LD2, E2, ev⟩ := rel_image LD ⟨l3, l4⟩
  have n66 := LD.2.1.2.1
  have gL := gX90_load ld Mc a1
  rw [a2] at gL
  have k90 : WK lX90_load Mc Nc := wX90_load (SL lX90_load) (fun _ => True) (fun _ h => h) fN ld Mc (wi_N W) trivial _ gL.1
  have e191 : Nc.2.2 191 mc 0 = Mc.2.2 191 mc 0 := congrFun (kf (f := 191) k90 rfl (dj_n (L := [191]) (by decide) 191 rfl) (wf_lt W (fm_ist rfl n67))).2.2 0
  have e192 : Nc.2.2 192 mc 0 = Mc.2.2 192 mc 0 := congrFun (kf (f := 192) k90 rfl (dj_n (L := [192]) (by decide) 192 rfl) (wf_lt W (fm_ist rfl n67))).2.2 0
  have e186 : Nc.2.2 186 ld 0 = Mc.2.2 186 ld 0 := congrFun (kf (f := 186) k90 rfl (dj_n (L := [186]) (by decide) 186 rfl) (wf_lt W (fm_ist rfl n66))).2.2 0
  have L1 : RelL mc ld m r cr Nc Nt := ⟨e192.trans l1, by rw [e191, e186]; exact l2, ⟨X, n, LD2⟩, E2⟩
  have H : HX2_image mc Mc := by
    unfold HX2_image HX2_image_0
    try dsimp only
    rw [l1]
    exact ⟨a1, trivial⟩
  have G : GX2_image mc Mc = (nI (imF X n), fm_sI Nc 262 (Nc.2.2 191 mc 0) 0 (Int32.ofInt 0)) := by
    unfold GX2_image GX2_image_0
    try dsimp only
    rw [l1, a2]
  have gI := gX2_image mc Mc T0 n67 H
  rw [G] at gI
  have kc : WK lX2_image Mc (fm_sI Nc 262 (Nc.2.2 191 mc 0) 0 (Int32.ofInt 0)) := wX2_image (SL lX2_image) (fun _ => True) (fun _ h => h) fN mc Mc (wi_N W) trivial _ gI.1
  have kc' : Wk (SL lX2_image) (Zo ow (fm_nx Mc) 0) 0 (fm_nx Mc) Mc (fm_sI Nc 262 (Nc.2.2 191 mc 0) 0 (Int32.ofInt 0)) := wX2_image (SL lX2_image) (Zo ow (fm_nx Mc) 0) (fun _ h => h) fN mc Mc (own_wi Ow T0 W) (Or.inr (Or.inl (own_sh Ow n67 rfl))) _ gI.1
  have OX := own_k Ow T0 W kc' (xs_dj (by decide))
  have gT := gX92_loadImage m Mt b1
  rw [b2] at gT
  have kt : WK lX92_loadImage Mt Nt := wX92_loadImage (SL lX92_loadImage) (fun _ => True) (fun _ h => h) fN m Mt (wi_N W') trivial _ gT.1
  have kt' : Wk (SL lX92_loadImage) (Zo ow' (fm_nx Mt) 0) 0 (fm_nx Mt) Mt Nt := wX92_loadImage (SL lX92_loadImage) (Zo ow' (fm_nx Mt) 0) (fun _ h => h) fN m Mt (own_wi Ow' Tm W') (Or.inr (Or.inl (own_sh Ow' n92 rfl))) _ gT.1
  have OY := own_k Ow' Tm W' kt' (xs_dj (by decide))
  have n92' : fm_is Nt 92 92 m = true := kis kt W' rfl n92
  have k2 := WK_I kt.1.1 n92' (f := 309) rfl rfl (Int32.ofInt 0)
  have kt2 : WK (309 :: lX92_loadImage) Mt (fm_sI Nt 309 m 0 (Int32.ofInt 0)) := WK_t (WK_s (by decide) kt) (WK_s (by decide) k2)
  have RR1 := LD2.1
  have n86 : fm_is Nc 86 86 (Nc.2.2 191 mc 0) = true := tN_191 RR1.1.1.1 (kis k90 W rfl n67)
  have k3 := WK_I RR1.1.2.1 n86 (f := 262) rfl rfl (Int32.ofInt 0)
  have TN : Ty (fm_sI Nc 262 (Nc.2.2 191 mc 0) 0 (Int32.ofInt 0)) := gI.2.1
  have TN' : Ty (fm_sI Nt 309 m 0 (Int32.ofInt 0)) := ⟨RR1.2.1.1.1, tyb_sI rfl RR1.2.1.1.2⟩
  obtain ⟨RR2, rqq, _⟩ := wrR k3 k2 (by decide) (by decide) TN TN' RR1
  have RB2 : RelB bd s dd x dk q rq r m sg bl cr np B (fm_sI Nc 262 (Nc.2.2 191 mc 0) 0 (Int32.ofInt 0)) (fm_sI Nt 309 m 0 (Int32.ofInt 0)) := wrB kc kt2 (by decide) (by decide) RR2 RB
  have R2 := M_b (e := 134217728) R kc kt2 (by decide) (by decide) RB2 (evo_q' ev rqq) ⟨_, OX⟩ ⟨_, own_n rfl OY⟩
  obtain ⟨X1, n1, t1, t2, hX1⟩ := relL_t L1
  have L2 : RelL mc ld m r cr (fm_sI Nc 262 (Nc.2.2 191 mc 0) 0 (Int32.ofInt 0)) (fm_sI Nt 309 m 0 (Int32.ofInt 0)) :=
    relL_n L1 RR2 rfl rfl rfl (X' := X1) (n' := 0) ⟨t1.1, t1.2.1, rIe _, fun j hj => (rIf (by decide)).trans (t1.2.2.2 j hj)⟩ ⟨t2.1, rIe _, fun j hj => (rIf (by decide)).trans (t2.2.2 j hj)⟩ ⟨hX1.1, by omega⟩
  refine ⟨_, _, Nt, ⟨H, G⟩, ⟨b1, b2⟩, R2, relR_k kc kt2 (by decide) (by decide) T0 W Tm W' n67 n92 (Nat.le_refl _) Q, L2, ?_, sm_k kt (by decide) R, kc, kt2⟩
  exact congrFun (kf (f := 296) kt rfl (dj_n (L := [296]) (by decide) 296 rfl) (wf_lt W' (fm_ist rfl n92))).1 0
end Im
