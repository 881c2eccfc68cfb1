/-! disks: registers are written and read on both sides (printed by gen/kk.py) -/
set_option maxRecDepth 100000
abbrev SWr : Nat → Prop := fun y => fe_mem [63, 64, 65, 66, 71, 72, 73, 74, 75, 76, 77] y = true
abbrev STr : Nat → Prop := fun y => fe_mem [324, 328, 329, 330, 331, 332, 333, 335, 336, 1334] y = true
section Rg
variable {d x dk q rq b r c : Nat} {Mc Mt Nc Nt M : FM}
theorem relD_set (D : RelD d x dk q rq b r c Mc Mt) (kc : Wk SWr (fun _ => True) 0 (fm_nx Mc) Mc Nc) (kt : Wk STr (fun _ => True) 0 (fm_nx Mt) Mt Nt) (Tc : Ty Nc) (Tt : Ty Nt)
    (V : ∃ size tk gv, (Nc.1 63 d 0 = Nt.1 329 b 0 ∧ Nc.1 64 d 0 = Nt.1 328 b 0 ∧ Nc.1 65 d 0 = Nt.1 333 b 0 ∧ Nc.1 66 d 0 = Nt.1 332 b 0) ∧ (Nc.1 71 q 0 = nI size ∧ Nt.1 330 b 0 = nI size ∧ 0 < size ∧ size ≤ 16) ∧ Nc.1 72 q 0 = Nt.1 331 b 0 ∧
      (Nc.2.1 73 q 0 = Nt.2.1 3 (Nt.2.2 334 b 0) 0 ∧ Nc.2.1 74 q 0 = Nt.2.1 3 (Nt.2.2 334 b 0) 1 ∧ Nc.2.1 75 q 0 = Nt.2.1 3 (Nt.2.2 334 b 0) 2) ∧ (Nc.1 76 q 0 = nI tk ∧ Nt.1 335 b 0 = nI tk ∧ tk < 65536) ∧ (Nc.1 77 q 0 = nI gv ∧ Nt.1 336 b 0 = nI gv ∧ gv < 65536)) :
    RelD d x dk q rq b r c Nc Nt ∧ RamQ r Mc Nc ∧ TrQ c Mt Nt := by
  obtain ⟨R, C, TT, _, _, _, _, _, _, _, _, _, h70, K⟩ := D
  obtain ⟨size, tk, gv, V1, V2, V3, V4, V5, V6⟩ := V
  have T := R.1.1
  have W := R.1.2.1
  have T' := R.2.1.1
  have W' := R.2.1.2.1
  obtain ⟨nx, ndk, nq, nrq⟩ := dk_is T C
  have ldk := wf_lt W (fm_ist rfl ndk)
  have nb := TT.1
  have lb := wf_lt W' (fm_ist rfl nb)
  have n69 := tN_69 T.1 ndk
  have e69 := ka kc (sS_69 W ndk) (wf_n0 W (fm_ist rfl n69)) (by decide) (wf_lt W (fm_ist rfl n69))
  have n327 := tN_327 T'.1 nb
  have e327 := ka kt (sS_327 W' nb) (wf_n0 W' (fm_ist rfl n327)) (by decide) (wf_lt W' (fm_ist rfl n327))
  have Q := ramQ_k kc (by unfold RFr; decide) Tc R.1
  have Q' := trQ_k kt (by unfold TFr; decide) Tt R.2.1
  refine ⟨⟨rel_tq (rel_q R Q) Q', dkC_k T W kc (by unfold DFr; decide) C, dkT_k W' kt (by decide) TT, size, tk, gv, V1, V2, V3, V4, V5, V6, ?_, fun j hj => ?_⟩, Q, Q'⟩
  · rw [(kf kc rfl (by decide) ldk).1, (kf kt rfl (by decide) lb).1]
    exact h70
  · rw [(kf kc (f := 69) rfl (by decide) ldk).2.2, e69.2.1, (kf kt (f := 327) rfl (by decide) lb).2.2, e327.2.1]
    exact K j hj
theorem wI_c {f a : Nat} {v : Int32} (k : Wk SWr (fun _ => True) 0 (fm_nx Mc) Mc M) (h : M.2.2 0 a 0 ≠ 0) (hf : fe_mem [63, 64, 65, 66, 71, 72, 76, 77] f = true) : Wk SWr (fun _ => True) 0 (fm_nx Mc) Mc (fm_sI M f a 0 v) := by
  have f3 : f ≠ 3 := fun z => by rw [z] at hf; cases hf
  exact wk_tt k (wk_sub (S' := SWr) (fun y (z : y = f) => by
    rw [z]
    exact sb (S := fun y => fe_mem [63, 64, 65, 66, 71, 72, 73, 74, 75, 76, 77] y = true) (s := [63, 64, 65, 66, 71, 72, 76, 77]) (t := [63, 64, 65, 66, 71, 72, 73, 74, 75, 76, 77]) rfl (fun _ q => q) f hf) (wq_fI (lo := M.2.2 0 a 0) (hi := M.2.2 0 a 0) k.1.1 (fm_isi (Nat.le_refl _) (Nat.le_refl _)) (Nat.ble_eq.mpr (Nat.pos_of_ne_zero h)) f3))
theorem wL_c {f a : Nat} {v : Int64} (k : Wk SWr (fun _ => True) 0 (fm_nx Mc) Mc M) (h : M.2.2 0 a 0 ≠ 0) (hf : fe_mem [73, 74, 75] f = true) : Wk SWr (fun _ => True) 0 (fm_nx Mc) Mc (fm_sL M f a 0 v) := by
  have f3 : f ≠ 3 := fun z => by rw [z] at hf; cases hf
  exact wk_tt k (wk_sub (S' := SWr) (fun y (z : y = f) => by
    rw [z]
    exact sb (S := fun y => fe_mem [63, 64, 65, 66, 71, 72, 73, 74, 75, 76, 77] y = true) (s := [73, 74, 75]) (t := [63, 64, 65, 66, 71, 72, 73, 74, 75, 76, 77]) rfl (fun _ q => q) f hf) (wq_fL (lo := M.2.2 0 a 0) (hi := M.2.2 0 a 0) k.1.1 (fm_isi (Nat.le_refl _) (Nat.le_refl _)) (Nat.ble_eq.mpr (Nat.pos_of_ne_zero h)) f3))
theorem wI_t {f a : Nat} {v : Int32} (k : Wk STr (fun _ => True) 0 (fm_nx Mt) Mt M) (h : M.2.2 0 a 0 ≠ 0) (hf : fe_mem [324, 328, 329, 330, 331, 332, 333, 335, 336] f = true) : Wk STr (fun _ => True) 0 (fm_nx Mt) Mt (fm_sI M f a 0 v) := by
  have f3 : f ≠ 3 := fun z => by rw [z] at hf; cases hf
  exact wk_tt k (wk_sub (S' := STr) (fun y (z : y = f) => by
    rw [z]
    exact sb (S := fun y => fe_mem [324, 328, 329, 330, 331, 332, 333, 335, 336, 1334] y = true) (s := [324, 328, 329, 330, 331, 332, 333, 335, 336]) (t := [324, 328, 329, 330, 331, 332, 333, 335, 336, 1334]) rfl (fun _ q => q) f hf) (wq_fI (lo := M.2.2 0 a 0) (hi := M.2.2 0 a 0) k.1.1 (fm_isi (Nat.le_refl _) (Nat.le_refl _)) (Nat.ble_eq.mpr (Nat.pos_of_ne_zero h)) f3))
/-- the row of places -/
theorem wR_t {i : Nat} {v : Int64} (k : Wk STr (fun _ => True) 0 (fm_nx Mt) Mt M) (T : Ty M) (n : fm_is M 93 93 b = true) : Wk STr (fun _ => True) 0 (fm_nx Mt) Mt (fm_sL M 3 (M.2.2 334 b 0) i v) := by
  have W := k.1.1
  have n334 := tN_334 T.1 n
  have lc : lcn M 3 (M.2.2 334 b 0) = 1334 := by
    unfold lcn
    rw [if_pos rfl]
    rcases sS_334 W n with z | z
    · exact absurd z (wf_n0 W (fm_ist rfl n334))
    · rw [z.2]
  exact wk_tt k (wk_L (wk_r (wi_N W)) (lo := 902) (hi := 902) rfl n334 trivial (Or.inr (by rw [lc]; rfl)) (Nat.le_refl _))
theorem X95_noOffset {o : Nat} (ho : o < 512) (h4 : o % 4 = 0) : GX95_noOffset b (nI o) M = (Int32.ofInt 0, fm_sI M 324 b 0 (Int32.ofInt 0)) := by
  have c1 : ¬ nI o < 0 := fun q => by
    rw [show (0 : Int32) = nI 0 from rfl, n_lt (by omega) (by decide)] at q
    omega
  have c2 : ¬ Int32.ofInt 508 < nI o := fun q => by
    rw [show Int32.ofInt 508 = nI 508 from rfl, n_lt (by decide) (by omega)] at q
    omega
  have c3 : nI o - nI o / Int32.ofInt 4 * Int32.ofInt 4 = 0 := ui_inj (by
    rw [i_rem (by rw [ui_nI]; omega) (by decide), ui_nI, show ui (Int32.ofInt 4) = 4 from rfl, show ui (0 : Int32) = 0 by decide]
    omega)
  have c4 : (fm_sI M 324 b 0 (Int32.ofInt 0)).1 324 b 0 ≤ 0 := by
    rw [rI, if_pos ⟨rfl, rfl, rfl⟩]
    decide
  unfold GX95_noOffset GX95_noOffset_0
  rw [fi_neg c1, fi_neg c2, fi_pos c3]
  unfold GX95_noOffset_23 GX95_noOffset_38
  dsimp only
  rw [fi_pos c4]
theorem nI_e {a b : Nat} (ha : a < 2147483648) (hb : b < 2147483648) : (nI a = nI b) = (a = b) := propext ⟨fun h => by
  have := congrArg ui h
  rw [ui_nI, ui_nI] at this
  omega, fun h => by rw [h]⟩
theorem set63 (D : RelD d x dk q rq b r c Mc Mt) {v : Int32} : RelD d x dk q rq b r c (fm_sI Mc 63 d 0 v) (fm_sI Mt 329 b 0 v) ∧ RamQ r Mc (fm_sI Mc 63 d 0 v) ∧ TrQ c Mt (fm_sI Mt 329 b 0 v) := by
  have D0 := D
  obtain ⟨R, C, TT, size, tk, gv, ⟨v1, v2, v3, v4⟩, ⟨v5, v6, v7, v8⟩, v9, ⟨v10, v11, v12⟩, ⟨v13, v14, v15⟩, ⟨v16, v17, v18⟩, v19, v20⟩ := D
  refine relD_set D0 (wI_c (wk_r (wi_N R.1.2.1)) (fm_ist rfl C.1.1) rfl) (wI_t (wk_r (wi_N R.2.1.2.1)) (fm_ist rfl TT.1) rfl) ⟨D0.1.1.1.1, tyb_sI rfl D0.1.1.1.2⟩ ⟨D0.1.2.1.1.1, tyb_sI rfl D0.1.2.1.1.2⟩ ⟨size, tk, gv, ⟨(if_pos ⟨rfl, rfl, rfl⟩).trans (if_pos ⟨rfl, rfl, rfl⟩).symm, (oI (fun z => absurd z.1 (by decide))).trans (v2.trans (oI (fun z => absurd z.1 (by decide))).symm), (oI (fun z => absurd z.1 (by decide))).trans (v3.trans (oI (fun z => absurd z.1 (by decide))).symm), (oI (fun z => absurd z.1 (by decide))).trans (v4.trans (oI (fun z => absurd z.1 (by decide))).symm)⟩, ⟨(oI (fun z => absurd z.1 (by decide))).trans v5, (oI (fun z => absurd z.1 (by decide))).trans v6, v7, v8⟩, (oI (fun z => absurd z.1 (by decide))).trans (v9.trans (oI (fun z => absurd z.1 (by decide))).symm), ⟨v10, v11, v12⟩, ⟨(oI (fun z => absurd z.1 (by decide))).trans v13, (oI (fun z => absurd z.1 (by decide))).trans v14, v15⟩, ⟨(oI (fun z => absurd z.1 (by decide))).trans v16, (oI (fun z => absurd z.1 (by decide))).trans v17, v18⟩⟩
theorem set64 (D : RelD d x dk q rq b r c Mc Mt) {v : Int32} : RelD d x dk q rq b r c (fm_sI Mc 64 d 0 v) (fm_sI Mt 328 b 0 v) ∧ RamQ r Mc (fm_sI Mc 64 d 0 v) ∧ TrQ c Mt (fm_sI Mt 328 b 0 v) := by
  have D0 := D
  obtain ⟨R, C, TT, size, tk, gv, ⟨v1, v2, v3, v4⟩, ⟨v5, v6, v7, v8⟩, v9, ⟨v10, v11, v12⟩, ⟨v13, v14, v15⟩, ⟨v16, v17, v18⟩, v19, v20⟩ := D
  refine relD_set D0 (wI_c (wk_r (wi_N R.1.2.1)) (fm_ist rfl C.1.1) rfl) (wI_t (wk_r (wi_N R.2.1.2.1)) (fm_ist rfl TT.1) rfl) ⟨D0.1.1.1.1, tyb_sI rfl D0.1.1.1.2⟩ ⟨D0.1.2.1.1.1, tyb_sI rfl D0.1.2.1.1.2⟩ ⟨size, tk, gv, ⟨(oI (fun z => absurd z.1 (by decide))).trans (v1.trans (oI (fun z => absurd z.1 (by decide))).symm), (if_pos ⟨rfl, rfl, rfl⟩).trans (if_pos ⟨rfl, rfl, rfl⟩).symm, (oI (fun z => absurd z.1 (by decide))).trans (v3.trans (oI (fun z => absurd z.1 (by decide))).symm), (oI (fun z => absurd z.1 (by decide))).trans (v4.trans (oI (fun z => absurd z.1 (by decide))).symm)⟩, ⟨(oI (fun z => absurd z.1 (by decide))).trans v5, (oI (fun z => absurd z.1 (by decide))).trans v6, v7, v8⟩, (oI (fun z => absurd z.1 (by decide))).trans (v9.trans (oI (fun z => absurd z.1 (by decide))).symm), ⟨v10, v11, v12⟩, ⟨(oI (fun z => absurd z.1 (by decide))).trans v13, (oI (fun z => absurd z.1 (by decide))).trans v14, v15⟩, ⟨(oI (fun z => absurd z.1 (by decide))).trans v16, (oI (fun z => absurd z.1 (by decide))).trans v17, v18⟩⟩
theorem set65 (D : RelD d x dk q rq b r c Mc Mt) {v : Int32} : RelD d x dk q rq b r c (fm_sI Mc 65 d 0 v) (fm_sI Mt 333 b 0 v) ∧ RamQ r Mc (fm_sI Mc 65 d 0 v) ∧ TrQ c Mt (fm_sI Mt 333 b 0 v) := by
  have D0 := D
  obtain ⟨R, C, TT, size, tk, gv, ⟨v1, v2, v3, v4⟩, ⟨v5, v6, v7, v8⟩, v9, ⟨v10, v11, v12⟩, ⟨v13, v14, v15⟩, ⟨v16, v17, v18⟩, v19, v20⟩ := D
  refine relD_set D0 (wI_c (wk_r (wi_N R.1.2.1)) (fm_ist rfl C.1.1) rfl) (wI_t (wk_r (wi_N R.2.1.2.1)) (fm_ist rfl TT.1) rfl) ⟨D0.1.1.1.1, tyb_sI rfl D0.1.1.1.2⟩ ⟨D0.1.2.1.1.1, tyb_sI rfl D0.1.2.1.1.2⟩ ⟨size, tk, gv, ⟨(oI (fun z => absurd z.1 (by decide))).trans (v1.trans (oI (fun z => absurd z.1 (by decide))).symm), (oI (fun z => absurd z.1 (by decide))).trans (v2.trans (oI (fun z => absurd z.1 (by decide))).symm), (if_pos ⟨rfl, rfl, rfl⟩).trans (if_pos ⟨rfl, rfl, rfl⟩).symm, (oI (fun z => absurd z.1 (by decide))).trans (v4.trans (oI (fun z => absurd z.1 (by decide))).symm)⟩, ⟨(oI (fun z => absurd z.1 (by decide))).trans v5, (oI (fun z => absurd z.1 (by decide))).trans v6, v7, v8⟩, (oI (fun z => absurd z.1 (by decide))).trans (v9.trans (oI (fun z => absurd z.1 (by decide))).symm), ⟨v10, v11, v12⟩, ⟨(oI (fun z => absurd z.1 (by decide))).trans v13, (oI (fun z => absurd z.1 (by decide))).trans v14, v15⟩, ⟨(oI (fun z => absurd z.1 (by decide))).trans v16, (oI (fun z => absurd z.1 (by decide))).trans v17, v18⟩⟩
theorem set66 (D : RelD d x dk q rq b r c Mc Mt) {v : Int32} : RelD d x dk q rq b r c (fm_sI Mc 66 d 0 v) (fm_sI Mt 332 b 0 v) ∧ RamQ r Mc (fm_sI Mc 66 d 0 v) ∧ TrQ c Mt (fm_sI Mt 332 b 0 v) := by
  have D0 := D
  obtain ⟨R, C, TT, size, tk, gv, ⟨v1, v2, v3, v4⟩, ⟨v5, v6, v7, v8⟩, v9, ⟨v10, v11, v12⟩, ⟨v13, v14, v15⟩, ⟨v16, v17, v18⟩, v19, v20⟩ := D
  refine relD_set D0 (wI_c (wk_r (wi_N R.1.2.1)) (fm_ist rfl C.1.1) rfl) (wI_t (wk_r (wi_N R.2.1.2.1)) (fm_ist rfl TT.1) rfl) ⟨D0.1.1.1.1, tyb_sI rfl D0.1.1.1.2⟩ ⟨D0.1.2.1.1.1, tyb_sI rfl D0.1.2.1.1.2⟩ ⟨size, tk, gv, ⟨(oI (fun z => absurd z.1 (by decide))).trans (v1.trans (oI (fun z => absurd z.1 (by decide))).symm), (oI (fun z => absurd z.1 (by decide))).trans (v2.trans (oI (fun z => absurd z.1 (by decide))).symm), (oI (fun z => absurd z.1 (by decide))).trans (v3.trans (oI (fun z => absurd z.1 (by decide))).symm), (if_pos ⟨rfl, rfl, rfl⟩).trans (if_pos ⟨rfl, rfl, rfl⟩).symm⟩, ⟨(oI (fun z => absurd z.1 (by decide))).trans v5, (oI (fun z => absurd z.1 (by decide))).trans v6, v7, v8⟩, (oI (fun z => absurd z.1 (by decide))).trans (v9.trans (oI (fun z => absurd z.1 (by decide))).symm), ⟨v10, v11, v12⟩, ⟨(oI (fun z => absurd z.1 (by decide))).trans v13, (oI (fun z => absurd z.1 (by decide))).trans v14, v15⟩, ⟨(oI (fun z => absurd z.1 (by decide))).trans v16, (oI (fun z => absurd z.1 (by decide))).trans v17, v18⟩⟩
theorem set71 (D : RelD d x dk q rq b r c Mc Mt) {v : Int32} {s : Nat} (hv : v = nI s) (hs : 0 < s ∧ s ≤ 16) : RelD d x dk q rq b r c (fm_sI Mc 71 q 0 v) (fm_sI Mt 330 b 0 v) ∧ RamQ r Mc (fm_sI Mc 71 q 0 v) ∧ TrQ c Mt (fm_sI Mt 330 b 0 v) := by
  have D0 := D
  obtain ⟨R, C, TT, size, tk, gv, ⟨v1, v2, v3, v4⟩, ⟨v5, v6, v7, v8⟩, v9, ⟨v10, v11, v12⟩, ⟨v13, v14, v15⟩, ⟨v16, v17, v18⟩, v19, v20⟩ := D
  refine relD_set D0 (wI_c (wk_r (wi_N R.1.2.1)) (fm_ist rfl (dk_is R.1.1 C).2.2.1) rfl) (wI_t (wk_r (wi_N R.2.1.2.1)) (fm_ist rfl TT.1) rfl) ⟨D0.1.1.1.1, tyb_sI rfl D0.1.1.1.2⟩ ⟨D0.1.2.1.1.1, tyb_sI rfl D0.1.2.1.1.2⟩ ⟨s, tk, gv, ⟨(oI (fun z => absurd z.1 (by decide))).trans (v1.trans (oI (fun z => absurd z.1 (by decide))).symm), (oI (fun z => absurd z.1 (by decide))).trans (v2.trans (oI (fun z => absurd z.1 (by decide))).symm), (oI (fun z => absurd z.1 (by decide))).trans (v3.trans (oI (fun z => absurd z.1 (by decide))).symm), (oI (fun z => absurd z.1 (by decide))).trans (v4.trans (oI (fun z => absurd z.1 (by decide))).symm)⟩, ⟨(if_pos ⟨rfl, rfl, rfl⟩).trans hv, (if_pos ⟨rfl, rfl, rfl⟩).trans hv, hs.1, hs.2⟩, (oI (fun z => absurd z.1 (by decide))).trans (v9.trans (oI (fun z => absurd z.1 (by decide))).symm), ⟨v10, v11, v12⟩, ⟨(oI (fun z => absurd z.1 (by decide))).trans v13, (oI (fun z => absurd z.1 (by decide))).trans v14, v15⟩, ⟨(oI (fun z => absurd z.1 (by decide))).trans v16, (oI (fun z => absurd z.1 (by decide))).trans v17, v18⟩⟩
theorem set72 (D : RelD d x dk q rq b r c Mc Mt) {v : Int32} (hz : v = 0 ∨ v = 1) : RelD d x dk q rq b r c (fm_sI Mc 72 q 0 v) (fm_sI Mt 331 b 0 v) ∧ RamQ r Mc (fm_sI Mc 72 q 0 v) ∧ TrQ c Mt (fm_sI Mt 331 b 0 v) := by
  have D0 := D
  obtain ⟨R, C, TT, size, tk, gv, ⟨v1, v2, v3, v4⟩, ⟨v5, v6, v7, v8⟩, v9, ⟨v10, v11, v12⟩, ⟨v13, v14, v15⟩, ⟨v16, v17, v18⟩, v19, v20⟩ := D
  refine relD_set D0 (wI_c (wk_r (wi_N R.1.2.1)) (fm_ist rfl (dk_is R.1.1 C).2.2.1) rfl) (wI_t (wk_r (wi_N R.2.1.2.1)) (fm_ist rfl TT.1) rfl) ⟨D0.1.1.1.1, tyb_sIb rfl D0.1.1.1.2 hz⟩ ⟨D0.1.2.1.1.1, tyb_sIb rfl D0.1.2.1.1.2 hz⟩ ⟨size, tk, gv, ⟨(oI (fun z => absurd z.1 (by decide))).trans (v1.trans (oI (fun z => absurd z.1 (by decide))).symm), (oI (fun z => absurd z.1 (by decide))).trans (v2.trans (oI (fun z => absurd z.1 (by decide))).symm), (oI (fun z => absurd z.1 (by decide))).trans (v3.trans (oI (fun z => absurd z.1 (by decide))).symm), (oI (fun z => absurd z.1 (by decide))).trans (v4.trans (oI (fun z => absurd z.1 (by decide))).symm)⟩, ⟨(oI (fun z => absurd z.1 (by decide))).trans v5, (oI (fun z => absurd z.1 (by decide))).trans v6, v7, v8⟩, (if_pos ⟨rfl, rfl, rfl⟩).trans (if_pos ⟨rfl, rfl, rfl⟩).symm, ⟨v10, v11, v12⟩, ⟨(oI (fun z => absurd z.1 (by decide))).trans v13, (oI (fun z => absurd z.1 (by decide))).trans v14, v15⟩, ⟨(oI (fun z => absurd z.1 (by decide))).trans v16, (oI (fun z => absurd z.1 (by decide))).trans v17, v18⟩⟩
theorem set76 (D : RelD d x dk q rq b r c Mc Mt) {v : Int32} {s : Nat} (hv : v = nI s) (hs : s < 65536) : RelD d x dk q rq b r c (fm_sI Mc 76 q 0 v) (fm_sI Mt 335 b 0 v) ∧ RamQ r Mc (fm_sI Mc 76 q 0 v) ∧ TrQ c Mt (fm_sI Mt 335 b 0 v) := by
  have D0 := D
  obtain ⟨R, C, TT, size, tk, gv, ⟨v1, v2, v3, v4⟩, ⟨v5, v6, v7, v8⟩, v9, ⟨v10, v11, v12⟩, ⟨v13, v14, v15⟩, ⟨v16, v17, v18⟩, v19, v20⟩ := D
  refine relD_set D0 (wI_c (wk_r (wi_N R.1.2.1)) (fm_ist rfl (dk_is R.1.1 C).2.2.1) rfl) (wI_t (wk_r (wi_N R.2.1.2.1)) (fm_ist rfl TT.1) rfl) ⟨D0.1.1.1.1, tyb_sI rfl D0.1.1.1.2⟩ ⟨D0.1.2.1.1.1, tyb_sI rfl D0.1.2.1.1.2⟩ ⟨size, s, gv, ⟨(oI (fun z => absurd z.1 (by decide))).trans (v1.trans (oI (fun z => absurd z.1 (by decide))).symm), (oI (fun z => absurd z.1 (by decide))).trans (v2.trans (oI (fun z => absurd z.1 (by decide))).symm), (oI (fun z => absurd z.1 (by decide))).trans (v3.trans (oI (fun z => absurd z.1 (by decide))).symm), (oI (fun z => absurd z.1 (by decide))).trans (v4.trans (oI (fun z => absurd z.1 (by decide))).symm)⟩, ⟨(oI (fun z => absurd z.1 (by decide))).trans v5, (oI (fun z => absurd z.1 (by decide))).trans v6, v7, v8⟩, (oI (fun z => absurd z.1 (by decide))).trans (v9.trans (oI (fun z => absurd z.1 (by decide))).symm), ⟨v10, v11, v12⟩, ⟨(if_pos ⟨rfl, rfl, rfl⟩).trans hv, (if_pos ⟨rfl, rfl, rfl⟩).trans hv, hs⟩, ⟨(oI (fun z => absurd z.1 (by decide))).trans v16, (oI (fun z => absurd z.1 (by decide))).trans v17, v18⟩⟩
theorem set77 (D : RelD d x dk q rq b r c Mc Mt) {v : Int32} {s : Nat} (hv : v = nI s) (hs : s < 65536) : RelD d x dk q rq b r c (fm_sI Mc 77 q 0 v) (fm_sI Mt 336 b 0 v) ∧ RamQ r Mc (fm_sI Mc 77 q 0 v) ∧ TrQ c Mt (fm_sI Mt 336 b 0 v) := by
  have D0 := D
  obtain ⟨R, C, TT, size, tk, gv, ⟨v1, v2, v3, v4⟩, ⟨v5, v6, v7, v8⟩, v9, ⟨v10, v11, v12⟩, ⟨v13, v14, v15⟩, ⟨v16, v17, v18⟩, v19, v20⟩ := D
  refine relD_set D0 (wI_c (wk_r (wi_N R.1.2.1)) (fm_ist rfl (dk_is R.1.1 C).2.2.1) rfl) (wI_t (wk_r (wi_N R.2.1.2.1)) (fm_ist rfl TT.1) rfl) ⟨D0.1.1.1.1, tyb_sI rfl D0.1.1.1.2⟩ ⟨D0.1.2.1.1.1, tyb_sI rfl D0.1.2.1.1.2⟩ ⟨size, tk, s, ⟨(oI (fun z => absurd z.1 (by decide))).trans (v1.trans (oI (fun z => absurd z.1 (by decide))).symm), (oI (fun z => absurd z.1 (by decide))).trans (v2.trans (oI (fun z => absurd z.1 (by decide))).symm), (oI (fun z => absurd z.1 (by decide))).trans (v3.trans (oI (fun z => absurd z.1 (by decide))).symm), (oI (fun z => absurd z.1 (by decide))).trans (v4.trans (oI (fun z => absurd z.1 (by decide))).symm)⟩, ⟨(oI (fun z => absurd z.1 (by decide))).trans v5, (oI (fun z => absurd z.1 (by decide))).trans v6, v7, v8⟩, (oI (fun z => absurd z.1 (by decide))).trans (v9.trans (oI (fun z => absurd z.1 (by decide))).symm), ⟨v10, v11, v12⟩, ⟨(oI (fun z => absurd z.1 (by decide))).trans v13, (oI (fun z => absurd z.1 (by decide))).trans v14, v15⟩, ⟨(if_pos ⟨rfl, rfl, rfl⟩).trans hv, (if_pos ⟨rfl, rfl, rfl⟩).trans hv, hs⟩⟩
theorem set73 (D : RelD d x dk q rq b r c Mc Mt) {v : Int64} : RelD d x dk q rq b r c (fm_sL Mc 73 q 0 v) (fm_sL Mt 3 (Mt.2.2 334 b 0) 0 v) ∧ RamQ r Mc (fm_sL Mc 73 q 0 v) ∧ TrQ c Mt (fm_sL Mt 3 (Mt.2.2 334 b 0) 0 v) := by
  have D0 := D
  obtain ⟨R, C, TT, size, tk, gv, ⟨v1, v2, v3, v4⟩, ⟨v5, v6, v7, v8⟩, v9, ⟨v10, v11, v12⟩, ⟨v13, v14, v15⟩, ⟨v16, v17, v18⟩, v19, v20⟩ := D
  refine relD_set D0 (wL_c (wk_r (wi_N R.1.2.1)) (fm_ist rfl (dk_is R.1.1 C).2.2.1) rfl) (wR_t (wk_r (wi_N R.2.1.2.1)) R.2.1.1 TT.1) ⟨D0.1.1.1.1, D0.1.1.1.2⟩ ⟨D0.1.2.1.1.1, D0.1.2.1.1.2⟩ ⟨size, tk, gv, ⟨v1, v2, v3, v4⟩, ⟨v5, v6, v7, v8⟩, v9, ⟨(if_pos ⟨rfl, rfl, rfl⟩).trans (if_pos ⟨rfl, rfl, rfl⟩).symm, (oL (fun z => absurd z.1 (by decide))).trans (v11.trans (oL (fun z => absurd z.2.2 (by decide))).symm), (oL (fun z => absurd z.1 (by decide))).trans (v12.trans (oL (fun z => absurd z.2.2 (by decide))).symm)⟩, ⟨v13, v14, v15⟩, ⟨v16, v17, v18⟩⟩
theorem set74 (D : RelD d x dk q rq b r c Mc Mt) {v : Int64} : RelD d x dk q rq b r c (fm_sL Mc 74 q 0 v) (fm_sL Mt 3 (Mt.2.2 334 b 0) 1 v) ∧ RamQ r Mc (fm_sL Mc 74 q 0 v) ∧ TrQ c Mt (fm_sL Mt 3 (Mt.2.2 334 b 0) 1 v) := by
  have D0 := D
  obtain ⟨R, C, TT, size, tk, gv, ⟨v1, v2, v3, v4⟩, ⟨v5, v6, v7, v8⟩, v9, ⟨v10, v11, v12⟩, ⟨v13, v14, v15⟩, ⟨v16, v17, v18⟩, v19, v20⟩ := D
  refine relD_set D0 (wL_c (wk_r (wi_N R.1.2.1)) (fm_ist rfl (dk_is R.1.1 C).2.2.1) rfl) (wR_t (wk_r (wi_N R.2.1.2.1)) R.2.1.1 TT.1) ⟨D0.1.1.1.1, D0.1.1.1.2⟩ ⟨D0.1.2.1.1.1, D0.1.2.1.1.2⟩ ⟨size, tk, gv, ⟨v1, v2, v3, v4⟩, ⟨v5, v6, v7, v8⟩, v9, ⟨(oL (fun z => absurd z.1 (by decide))).trans (v10.trans (oL (fun z => absurd z.2.2 (by decide))).symm), (if_pos ⟨rfl, rfl, rfl⟩).trans (if_pos ⟨rfl, rfl, rfl⟩).symm, (oL (fun z => absurd z.1 (by decide))).trans (v12.trans (oL (fun z => absurd z.2.2 (by decide))).symm)⟩, ⟨v13, v14, v15⟩, ⟨v16, v17, v18⟩⟩
theorem set75 (D : RelD d x dk q rq b r c Mc Mt) {v : Int64} : RelD d x dk q rq b r c (fm_sL Mc 75 q 0 v) (fm_sL Mt 3 (Mt.2.2 334 b 0) 2 v) ∧ RamQ r Mc (fm_sL Mc 75 q 0 v) ∧ TrQ c Mt (fm_sL Mt 3 (Mt.2.2 334 b 0) 2 v) := by
  have D0 := D
  obtain ⟨R, C, TT, size, tk, gv, ⟨v1, v2, v3, v4⟩, ⟨v5, v6, v7, v8⟩, v9, ⟨v10, v11, v12⟩, ⟨v13, v14, v15⟩, ⟨v16, v17, v18⟩, v19, v20⟩ := D
  refine relD_set D0 (wL_c (wk_r (wi_N R.1.2.1)) (fm_ist rfl (dk_is R.1.1 C).2.2.1) rfl) (wR_t (wk_r (wi_N R.2.1.2.1)) R.2.1.1 TT.1) ⟨D0.1.1.1.1, D0.1.1.1.2⟩ ⟨D0.1.2.1.1.1, D0.1.2.1.1.2⟩ ⟨size, tk, gv, ⟨v1, v2, v3, v4⟩, ⟨v5, v6, v7, v8⟩, v9, ⟨(oL (fun z => absurd z.1 (by decide))).trans (v10.trans (oL (fun z => absurd z.2.2 (by decide))).symm), (oL (fun z => absurd z.1 (by decide))).trans (v11.trans (oL (fun z => absurd z.2.2 (by decide))).symm), (if_pos ⟨rfl, rfl, rfl⟩).trans (if_pos ⟨rfl, rfl, rfl⟩).symm⟩, ⟨v13, v14, v15⟩, ⟨v16, v17, v18⟩⟩
/-- the twin's own code of errors -/
theorem set324 (D : RelD d x dk q rq b r c Mc Mt) {v : Int32} : RelD d x dk q rq b r c Mc (fm_sI Mt 324 b 0 v) ∧ TrQ c Mt (fm_sI Mt 324 b 0 v) := by
  have D0 := D
  obtain ⟨R, C, TT, size, tk, gv, ⟨v1, v2, v3, v4⟩, ⟨v5, v6, v7, v8⟩, v9, ⟨v10, v11, v12⟩, ⟨v13, v14, v15⟩, ⟨v16, v17, v18⟩, v19, v20⟩ := D
  have h := relD_set D0 (wk_r (wi_N R.1.2.1)) (wI_t (f := 324) (v := v) (wk_r (wi_N R.2.1.2.1)) (fm_ist rfl TT.1) rfl) R.1.1 ⟨D0.1.2.1.1.1, tyb_sI rfl D0.1.2.1.1.2⟩ ⟨size, tk, gv, ⟨v1.trans (oI (fun z => absurd z.1 (by decide))).symm, v2.trans (oI (fun z => absurd z.1 (by decide))).symm, v3.trans (oI (fun z => absurd z.1 (by decide))).symm, v4.trans (oI (fun z => absurd z.1 (by decide))).symm⟩, ⟨v5, (oI (fun z => absurd z.1 (by decide))).trans v6, v7, v8⟩, v9.trans (oI (fun z => absurd z.1 (by decide))).symm, ⟨v10, v11, v12⟩, ⟨v13, (oI (fun z => absurd z.1 (by decide))).trans v14, v15⟩, ⟨v16, (oI (fun z => absurd z.1 (by decide))).trans v17, v18⟩⟩
  exact ⟨h.1, h.2.2⟩
end Rg
