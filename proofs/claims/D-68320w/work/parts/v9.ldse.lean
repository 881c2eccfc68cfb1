/-! the machine: sectors, whole -/
set_option maxRecDepth 100000
def lD1 : List Nat := [63, 64, 65, 66, 69, 70, 71, 72, 73, 74, 75, 76, 77]
def lD2 : List Nat := [325, 326, 327, 328, 329, 330, 331, 332, 333, 334, 335, 336, 338, 1334]
/-- the disk's bytes are others on both sides, the rest of the disk is as it was -/
theorem relD_dk {d x dk q rq b r c : Nat} {S S' : List Nat} {Mc Mt Nc Nt : FM} (k : WK S Mc Nc) (k' : WK S' Mt Nt) (hS : dj lD1 S = true) (hD : dj [58, 59, 60, 61, 62, 68, 78, 79, 85, 86, 222, 1062, 15, 16, 1015] S = true) (hS' : dj lD2 S' = true) (R : RelRam r c Nc Nt) (K : RelDk dk b Nc Nt)
    (h : RelD d x dk q rq b r c Mc Mt) : RelD d x dk q rq b r c Nc Nt := by
  obtain ⟨R0, C, D, size, tk, gv, ⟨a1, a2, a3, a4⟩, ⟨b1, b2, b3, b4⟩, c1, ⟨e1, e2, e3⟩, ⟨g1, g2, g3⟩, ⟨i1, i2, i3⟩, j1, j2⟩ := h
  have T := R0.1.1
  have W := R0.1.2.1
  have T' := R0.2.1.1
  have W' := R0.2.1.2.1
  obtain ⟨nx, ndk, nq, nrq⟩ := dk_is T C
  have eD := fun (f : Nat) (hf : Nat.ble 4 f = true) (hl : fe_mem lD1 f = true) => kf (f := f) k hf (dj_n hS f hl) (wf_lt W (fm_ist rfl C.1.1))
  have eQ := fun (f : Nat) (hf : Nat.ble 4 f = true) (hl : fe_mem lD1 f = true) => kf (f := f) k hf (dj_n hS f hl) (wf_lt W (fm_ist rfl nq))
  have eK := fun (f : Nat) (hf : Nat.ble 4 f = true) (hl : fe_mem lD1 f = true) => kf (f := f) k hf (dj_n hS f hl) (wf_lt W (fm_ist rfl ndk))
  have eB := fun (f : Nat) (hf : Nat.ble 4 f = true) (hl : fe_mem lD2 f = true) => kf (f := f) k' hf (dj_n hS' f hl) (wf_lt W' (fm_ist rfl D.1))
  have n334 := tN_334 T'.1 D.1
  have r334 := (ka k' (sS_334 W' D.1) (wf_n0 W' (fm_ist rfl n334)) (dj_n hS' 1334 rfl) (wf_lt W' (fm_ist rfl n334))).2.1
  have hDF : DFr (SL S) := ⟨⟨dj_n hD 58 rfl, dj_n hD 59 rfl, dj_n hD 60 rfl, dj_n hD 61 rfl, dj_n hD 62 rfl, dj_n hD 68 rfl, dj_n hD 78 rfl, dj_n hD 79 rfl, dj_n hD 85 rfl, dj_n hD 86 rfl, dj_n hD 222 rfl, dj_n hD 1062 rfl⟩, dj_n hD 15 rfl, dj_n hD 16 rfl, dj_n hD 1015 rfl⟩
  refine ⟨R, dkC_k T W k hDF C, dkT_k W' k' ⟨dj_n hS' 325 rfl, dj_n hS' 326 rfl⟩ D, size, tk, gv, ?_⟩
  unfold DkV
  rw [(eD 63 rfl rfl).1, (eD 64 rfl rfl).1, (eD 65 rfl rfl).1, (eD 66 rfl rfl).1, (eQ 71 rfl rfl).1, (eQ 72 rfl rfl).1, (eQ 73 rfl rfl).2.1, (eQ 74 rfl rfl).2.1, (eQ 75 rfl rfl).2.1, (eQ 76 rfl rfl).1, (eQ 77 rfl rfl).1, (eK 70 rfl rfl).1,
    (eB 329 rfl rfl).1, (eB 328 rfl rfl).1, (eB 333 rfl rfl).1, (eB 332 rfl rfl).1, (eB 330 rfl rfl).1, (eB 331 rfl rfl).1, (eB 334 rfl rfl).2.2, r334, (eB 335 rfl rfl).1, (eB 336 rfl rfl).1, (eB 338 rfl rfl).1]
  exact ⟨⟨a1, a2, a3, a4⟩, ⟨b1, b2, b3, b4⟩, c1, ⟨e1, e2, e3⟩, ⟨g1, g2, g3⟩, ⟨i1, i2, i3⟩, j1, K⟩
section Ls
variable {bd hv m hq s dd x dk q rq r sg bl cr np mc : Nat} {B Bk Vv ld : Nat} {Mc Mt : FM} {X : Nat → Nat} {n sv : Nat} {a : Int64}
theorem O_sect (R : RelM bd hv m hq s dd x dk q rq r sg bl cr np mc B Bk Vv Mc Mt) (Q : RelR mc m B Mc Mt) (L : RelL mc ld m r cr Mc Mt) (LD : RelLd ld m r cr Mc Mt X n) (hs : n = 0 ∨ (a = lN sv ∧ 512 * sv + n ≤ 1048576)) : ∃ Nc Nt, (HX2_sectors mc a Mc ∧ GX2_sectors mc a Mc = (nI n, Nc)) ∧
    FX92_load_L156 fN fN m (Int32.ofInt 2) a (nI n) (nI 0) Mt = some (nI n, Nt) ∧ RelM bd hv m hq s dd x dk q rq r sg bl cr np mc B Bk Vv Nc Nt ∧ RelR mc m B Nc Nt ∧ RelL mc ld m r cr Nc Nt ∧ Nt.1 296 m 0 = Mt.1 296 m 0 ∧ Sm m sg Nt Mt ∧ WK lX2_sectors Mc Nc ∧ WK [309, 324, 1327] Mt Nt := by
  have RR := relM_ram R
  have RB := relM_b R
  have T0 := RR.1.1
  have W := RR.1.2.1
  have Tm := RR.2.1.1
  have W' := RR.2.1.2.1
  have n92 := (relM_m R).1
  have n67 := R.1
  have l2 := L.2.1
  obtain ⟨_, _, _, _, _, ⟨ow, Ow⟩, ⟨ow', Ow'⟩, _⟩ := id R
  have hn : n ≤ 65536 := LD.2.1.2.2.2.1.2
  have hX := LD.2.1.2.2.2.1.1
  have tp := LD.2.1.2.2.1
  rw [← l2] at tp
  have tt := LD.2.2.2.1.2.1
  obtain ⟨_, ⟨⟨n22, _, e59, _⟩, _, _⟩, ⟨n93, _, e325⟩, _, _, _, _, _, _, _, _, _, _, hdk⟩ := id RB.2.1.2
  have n23 : fm_is Mc 23 23 dk = true := by
    have := tN_59 T0.1 n22
    rw [e59] at this
    exact this
  obtain ⟨Nc, Nt, c1, c2, c3, c4, c5, c6, c7, c8, c9, kM, kN⟩ := sec_L (a := a) (sv := sv) hX hn hs n67 R.2.1 RB.1.1.2.2.2.2 rfl e59 n23 tp tt RB.1.2.2.2.1 n93 e325 n 0 Mc Mt (by omega) rfl rfl T0 rfl (fun _ _ => rfl) Tm hdk (WK_r W) (WK_r W') fN fN (by unfold fN; omega) (by unfold fN; omega)
  have w1_ : FX2_sectors fN mc a Mc = some (nI n, fm_sI Nc 262 (Mc.2.2 191 mc 0) 0 (Int32.ofInt 0)) := by
    have G := (gX2_sectors_0 (FX2_sectors_L11 fN fN) mc a Mc T0 n67).1
    show FX2_sectors_0 fN (FX2_sectors_L11 fN fN) mc a Mc = _
    rw [G]
    unfold GX2_sectors_0
    try dsimp only
    rw [tp.2.2.1]
    exact c1
  have n86 : fm_is Nc 86 86 (Mc.2.2 191 mc 0) = true := kis kM W rfl tp.1
  have n92' : fm_is Nt 92 92 m = true := kis kN W' rfl n92
  have k3 := WK_I kM.1.1 n86 (f := 262) rfl rfl (Int32.ofInt 0)
  have k2 := WK_I kN.1.1 n92' (f := 309) rfl rfl (Int32.ofInt 0)
  have kc : WK lX2_sectors Mc (fm_sI Nc 262 (Mc.2.2 191 mc 0) 0 (Int32.ofInt 0)) := WK_t (WK_s (by decide) kM) (WK_s (by decide) k3)
  have kt2 : WK [309, 324, 1327] Mt (fm_sI Nt 309 m 0 (Int32.ofInt 0)) := WK_t (WK_s (by decide) kN) (WK_s (by decide) k2)
  obtain ⟨RR1, q1, _⟩ := wrR kM kN (by decide) (by decide) c5 c8 RR
  have TN : Ty (fm_sI Nc 262 (Mc.2.2 191 mc 0) 0 (Int32.ofInt 0)) := ⟨c5.1, tyb_sI rfl c5.2⟩
  have TN' : Ty (fm_sI Nt 309 m 0 (Int32.ofInt 0)) := ⟨c8.1, tyb_sI rfl c8.2⟩
  obtain ⟨RR2, q2, _⟩ := wrR k3 k2 (by decide) (by decide) TN TN' RR1
  have RD := relD_dk kc kt2 (by decide) (by decide) (by decide) RR2 (show RelDk dk bl (fm_sI Nc 262 (Mc.2.2 191 mc 0) 0 (Int32.ofInt 0)) (fm_sI Nt 309 m 0 (Int32.ofInt 0)) from c9) RB.2.1.2
  have RB2 : RelB bd s dd x dk q rq r m sg bl cr np B (fm_sI Nc 262 (Mc.2.2 191 mc 0) 0 (Int32.ofInt 0)) (fm_sI Nt 309 m 0 (Int32.ofInt 0)) :=
    ⟨⟨stB_k kc (by decide) T0 W RB.1.1, stTw_k kt2 (by decide) W' RB.1.2⟩, ⟨wrG kc kt2 (by decide) (by decide) T0 W Tm W' RB.2.1.1, RD⟩, enB_k kc kt2 (by decide) (by decide) W W' RB.1.1.1.1 RB.1.2.1 RB.2.2⟩
  have R2 : RelM bd hv m hq s dd x dk q rq r sg bl cr np mc B (Bk + 0) Vv _ _ := M_b (e := 0) R kc kt2 (by decide) (by decide) RB2 (evo_q' (evo_q' (evo_r r 0 Mc) q1) q2) ⟨_, own_n c4 Ow⟩ ⟨_, own_n (show (fm_sI Nt 309 m 0 (Int32.ofInt 0)).2.2 = Mt.2.2 from c6) Ow'⟩
  have L1 := relL_k kM kN (by decide) (by decide) W W' n67 RR1 L
  have L2 : RelL mc ld m r cr (fm_sI Nc 262 (Mc.2.2 191 mc 0) 0 (Int32.ofInt 0)) (fm_sI Nt 309 m 0 (Int32.ofInt 0)) :=
    relL_n L1 RR2 rfl rfl rfl (X' := X) (n' := 0) (by
      rw [show Nc.2.2 191 mc 0 = Mc.2.2 191 mc 0 by rw [c4]]
      refine ⟨n86, ?_, rIe _, fun j hj => (rIf (by decide)).trans ?_⟩
      · show Nc.2.2 1 (Nc.2.2 261 (Mc.2.2 191 mc 0) 0) 0 = _
        rw [c4]
        exact tp.2.1
      · show Nc.1 3 (Nc.2.2 261 (Mc.2.2 191 mc 0) 0) j = _
        rw [c3, c4]
        exact tp.2.2.2 j hj) ⟨n92', rIe _, fun j hj => (rIf (by decide)).trans (by
      show Nt.1 3 (Nt.2.2 308 m 0) j = _
      rw [c6, c7 3 (by decide)]
      exact tt.2.2 j hj)⟩ ⟨hX, by omega⟩
  obtain ⟨f1, f2⟩ := op_of (d := ((0 : Int32), Mc)) w1_ (P := OkR Mc) ⟨TN, wk_ext W kc⟩
  exact ⟨_, _, ⟨f1, f2⟩, c2, R2, relR_k kc kt2 (by decide) (by decide) T0 W Tm W' n67 n92 (Nat.le_refl _) Q, L2, (rIf (by decide)).trans (congrFun (congrFun (c7 296 (by decide)) m) 0), sm_k kt2 (by decide) R, kc, kt2⟩
end Ls
