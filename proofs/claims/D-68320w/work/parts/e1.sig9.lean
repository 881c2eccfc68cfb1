/-! the signals: bytes that come, the disk's signal, lines, time, what went out -/
set_option maxRecDepth 100000
section Rg
variable {s m p B : Nat} {M Mc Mt X Y : FM} {K : Kr} {S : Sr} {soft : Nat → Int32} {num : Nat → Int64}
theorem rel_gcome (T : Ty Mc) (W : Wf Mc) (Tt : Ty Mt) (Wt : Wf Mt) (h : RelG s m p B Mc Mt) (b : Int32) :
    ∃ v X Y, (HX30_come s b Mc ∧ GX30_come s b Mc = (v, X)) ∧ (HX96_come m b Mt ∧ GX96_come m b Mt = (v, Y)) ∧ RelG s m p B X Y := by
  obtain ⟨soft, num, K, S, ns, nm, Vc, Vt, I⟩ := h
  obtain ⟨i1, i4, i0, iK, iS, i10⟩ := I
  have nt := tN_240 T.1 ns
  have nC := tN_241 T.1 ns
  have nL := tN_242 T.1 ns
  obtain ⟨v1, v2, v3, v4, v5⟩ := Vc
  obtain ⟨X1, ⟨a1, a2⟩, a3, a4⟩ := X31_come T W nL v4 iS b
  have TX1 : Ty X1 := by
    have := (gX31_come (Mc.2.2 242 s 0) b Mc T nL a1).2.1
    rw [a2] at this
    exact this
  have V1 : VUc s p X1 soft num K (sCo b S).2 := by
    have y1 := frS_tm T W nt nC nL a4 v1
    have y2 := frS_k T W nt nC nL a4 v2
    have y3 := (frS_23 T W nt nC nL a4).trans v3
    unfold VUc
    rw [a4.1]
    exact ⟨y1, y2, y3, a3, v5⟩
  have nX1 : fm_is X1 79 79 s = true := by unfold fm_is at ns ⊢; rw [a4.1]; exact ns
  obtain ⟨X, ⟨x1, x2⟩, x3⟩ := c_after TX1 (wf_frS T W nL a4) nX1 V1 (vsi_co iS b)
  have Tn := ty_94 (m := m) Tt (Int32.ofInt 0)
  have Wn := wf_sI (f := 394) (i := 0) (v := Int32.ofInt 0) (lo := 99) (hi := 99) Wt rfl nm
  have nn : fm_is (fm_sI Mt 394 m 0 (Int32.ofInt 0)) 99 99 m = true := nm
  have Vn := vut_94 Vt (Int32.ofInt 0)
  obtain ⟨Y1, ⟨b1', b2⟩, b3, b4⟩ := X96_takeIn Tn Wn nn Vn.2.2 iS b
  have TY1 : Ty Y1 := by
    have := (gX96_takeIn m b _ Tn nn b1').2.1
    rw [b2] at this
    exact this
  have nY1 : fm_is Y1 99 99 m = true := by unfold fm_is at nn ⊢; rw [b4.1]; exact nn
  obtain ⟨Y, ⟨y1, y2⟩, y3⟩ := t_after TY1 (wf_frT Tn Wn nn b4) nY1 ⟨frT_tm Tn Wn nn b4 Vn.1, frT_k Tn Wn nn b4 Vn.2.1, b3⟩ iK (vsi_co iS b)
  have hc : HX30_come s b Mc := by
    unfold HX30_come HX30_come_0
    dsimp only
    rw [a2]
    exact ⟨a1, x1, trivial⟩
  have gc : GX30_come s b Mc = ((sCo b S).1, X) := by
    unfold GX30_come GX30_come_0
    dsimp only
    rw [a2]
    dsimp only
    rw [x2]
  have ht : HX96_come m b Mt := by
    unfold HX96_come HX96_come_0
    dsimp only
    rw [b2]
    exact ⟨b1', y1, trivial⟩
  have gt : GX96_come m b Mt = ((sCo b S).1, Y) := by
    unfold GX96_come GX96_come_0
    dsimp only
    rw [b2]
    dsimp only
    rw [y2]
  have nX : fm_is X 79 79 s = true := by
    have e := (gX30_come s b Mc T ns hc).2.2.1
    rw [gc] at e
    exact ext_is e (by decide) ns
  have nY : fm_is Y 99 99 m = true := by
    have e := (gX96_come m b Mt Tt nm ht).2.2.1
    rw [gt] at e
    exact ext_is e (by decide) nm
  exact ⟨_, X, Y, ⟨hc, gc⟩, ⟨ht, gt⟩, soft, num, _, _, nX, nY, x3, y3, vui_se i1 i4 i0 iK (vsi_co iS b)⟩
/-- the disk's signal -/
theorem rel_gsig (T : Ty Mc) (W : Wf Mc) (Tt : Ty Mt) (Wt : Wf Mt) (h : RelG s m p B Mc Mt) (P : Prop) :
    HX96_signal m (Int32.ofInt 1) (bz P) Mt ∧ RelG s m p B (GX33_signal (Mc.2.2 241 s 0) (Int32.ofInt 1) (bz P) Mc) (GX96_signal m (Int32.ofInt 1) (bz P) Mt) := by
  obtain ⟨soft, num, K, S, ns, nm, Vc, Vt, I⟩ := h
  obtain ⟨i1, i4, i0, iK, iS, i10⟩ := I
  have nt := tN_240 T.1 ns
  have nC := tN_241 T.1 ns
  have nL := tN_242 T.1 ns
  obtain ⟨v1, v2, v3, v4, v5⟩ := Vc
  -- the bit
  have sb : ∀ {i}, i < 32 → (ib (fi P (K.1 ||| b1 1) (off1 K.1 1)) i = true ↔ if i = 1 then P else ib K.1 i = true) := fun {i} hi => by
    by_cases q : P
    · rw [fi_pos q, ib_or, ib_b1 (by decide), decide_eq_true hi]
      by_cases e : i = 1
      · rw [if_pos e, decide_eq_true e]
        simp [q]
      · rw [if_neg e, decide_eq_false e]
        simp
    · rw [fi_neg q, ib_off (by decide) hi]
      by_cases e : i = 1
      · rw [if_pos e, decide_eq_true e]
        simp [q]
      · rw [if_neg e, decide_eq_false e]
        simp
  have k10 : ib (fi P (K.1 ||| b1 1) (off1 K.1 1)) 10 = true ↔ ¬ cs S = Int32.ofInt 1 := by
    rw [sb (by decide), if_neg (by decide)]
    exact i10
  have iK1 : VKi (fi P (K.1 ||| b1 1) (off1 K.1 1), K.2) := by
    refine ⟨?_, iK.2.1, iK.2.2⟩
    have := sb (i := 0) (by decide)
    rw [if_neg (by decide), iK.1] at this
    show ib (fi P (K.1 ||| b1 1) (off1 K.1 1)) 0 = false
    cases h : ib (fi P (K.1 ||| b1 1) (off1 K.1 1)) 0 with
    | false => rfl
    | true => exact absurd (this.mp h) (by simp)
  have eS := kSe_eq (z := ¬ cs S = Int32.ofInt 1) (K := (fi P (K.1 ||| b1 1) (off1 K.1 1), K.2)) k10
  -- the component
  obtain ⟨k1, k2, k3, k4, k5, k6⟩ := v2
  have e26 : ∀ x, GX33_signal_26 (Mc.2.2 241 s 0) (Mc.2.2 241 s 0) x Mc = fm_sI (fm_sI Mc 227 (Mc.2.2 241 s 0) 0 x) 228 (Mc.2.2 241 s 0) 0 (K.2.1 ||| (x &&& (K.2.2.1 ^^^ Int32.ofInt (-1)))) := fun x => by
    unfold GX33_signal_26 GX33_look GX33_look_0
    dsimp only
    rw [show (fm_sI Mc 227 (Mc.2.2 241 s 0) 0 x).1 228 (Mc.2.2 241 s 0) 0 = K.2.1 from (rIf (by decide)).trans k2, show (fm_sI Mc 227 (Mc.2.2 241 s 0) 0 x).1 227 (Mc.2.2 241 s 0) 0 = x by rw [rI, if_pos ⟨rfl, rfl, rfl⟩], show (fm_sI Mc 227 (Mc.2.2 241 s 0) 0 x).1 229 (Mc.2.2 241 s 0) 0 = K.2.2.1 from (rIf (by decide)).trans k3]
  have eG : GX33_signal (Mc.2.2 241 s 0) (Int32.ofInt 1) (bz P) Mc = fm_sI (fm_sI Mc 227 (Mc.2.2 241 s 0) 0 (fi P (K.1 ||| b1 1) (off1 K.1 1))) 228 (Mc.2.2 241 s 0) 0 (K.2.1 ||| (fi P (K.1 ||| b1 1) (off1 K.1 1) &&& (K.2.2.1 ^^^ Int32.ofInt (-1)))) := by
    unfold GX33_signal GX33_signal_0
    rw [fi_bz, e26, e26, k1]
    by_cases h : P
    · rw [fi_pos h, fi_pos h]
      rfl
    · rw [fi_neg h, fi_neg h]
      rfl
  have F : FrC (Mc.2.2 241 s 0) Mc (GX33_signal (Mc.2.2 241 s 0) (Int32.ofInt 1) (bz P) Mc) := by
    rw [eG]
    exact frC_I (frC_I (frC_r _ Mc) (by decide)) (by decide)
  have VX : VUc s p (GX33_signal (Mc.2.2 241 s 0) (Int32.ofInt 1) (bz P) Mc) soft num (kLk (fi P (K.1 ||| b1 1) (off1 K.1 1), K.2)) S := by
    have y1 := frC_tm T W nt nC nL F v1
    have y4 := frC_s T W nt nC nL F v4
    have y3 : (GX33_signal (Mc.2.2 241 s 0) (Int32.ofInt 1) (bz P) Mc).1 223 (Mc.2.2 241 s 0) 0 = nI (2 * p) := by
      rw [F.2.1 223 _ 0 (by omega)]
      exact v3
    have y2 : VKc (Mc.2.2 241 s 0) (GX33_signal (Mc.2.2 241 s 0) (Int32.ofInt 1) (bz P) Mc) (kLk (fi P (K.1 ||| b1 1) (off1 K.1 1), K.2)) := by
      rw [eG]
      refine ⟨?_, ?_, ?_, k4, k5, k6⟩
      · rw [rIf (by decide), rI, if_pos ⟨rfl, rfl, rfl⟩]
        rfl
      · rw [rI, if_pos ⟨rfl, rfl, rfl⟩]
        rfl
      · rw [rIf (by decide), rIf (by decide)]
        exact k3
    unfold VUc
    rw [F.1]
    exact ⟨y1, y2, y3, y4, v5⟩
  -- the twin
  have Tn := ty_94 (m := m) Tt (Int32.ofInt 0)
  have Wn := wf_sI (f := 394) (i := 0) (v := Int32.ofInt 0) (lo := 99) (hi := 99) Wt rfl nm
  have nn : fm_is (fm_sI Mt 394 m 0 (Int32.ofInt 0)) 99 99 m = true := nm
  have Vn := vut_94 Vt (Int32.ofInt 0)
  have i9 : fm_in (fm_sI Mt 394 m 0 (Int32.ofInt 0)) (Mt.2.2 399 m 0) (Int32.ofInt 1) = true := in_nI (k := 1) (tL_399 Tt.1 nm) (by decide) (by decide)
  obtain ⟨⟨d1, d2, d3⟩, d0, d7⟩ := t_ne6 Tt Wt nm
  have pb : bz P &&& 1 = bz P := by rcases bz_z P with h | h <;> rw [h] <;> rfl
  have T2 : Ty (fm_sI (fm_sI Mt 394 m 0 (Int32.ofInt 0)) 3 (Mt.2.2 399 m 0) 1 (bz P)) := ⟨Tn.1, tyb_s3' Tn.2 (fun _ => bz_z _)⟩
  have W2 := wf_sI (f := 3) (i := 1) (v := bz P) (lo := 904) (hi := 904) Wn rfl (tN_399 Tt.1 nm)
  have F2 : FrK m (fm_sI Mt 394 m 0 (Int32.ofInt 0)) (fm_sI (fm_sI Mt 394 m 0 (Int32.ofInt 0)) 3 (Mt.2.2 399 m 0) 1 (bz P)) := frK_A (frK_r m _) (Or.inl rfl)
  have V2 : VKt m (fm_sI (fm_sI Mt 394 m 0 (Int32.ofInt 0)) 3 (Mt.2.2 399 m 0) 1 (bz P)) (fi P (K.1 ||| b1 1) (off1 K.1 1), K.2) := by
    obtain ⟨q1, q2, q3, q4, q5, q6⟩ := Vn.2.1
    have rd : ∀ x i, x ≠ Mt.2.2 399 m 0 → (fm_sI (fm_sI Mt 394 m 0 (Int32.ofInt 0)) 3 (Mt.2.2 399 m 0) 1 (bz P)).1 3 x i = (fm_sI Mt 394 m 0 (Int32.ofInt 0)).1 3 x i := fun x i h => by rw [rI, if_neg (fun q => h q.2.1)]
    refine ⟨fun i hi => ?_, fun i hi => (rd _ _ d1.symm).trans (q2 i hi), fun i hi => (rd _ _ d2.symm).trans (q3 i hi), fun i hi => (rd _ _ (d7 _ (Or.inl rfl)).1.symm).trans (q4 i hi), fun i hi => (rd _ _ (d7 _ (Or.inl rfl)).2.1.symm).trans (q5 i hi), fun i hi => (rd _ _ (d7 _ (Or.inl rfl)).2.2.symm).trans (q6 i hi)⟩
    show (fm_sI (fm_sI Mt 394 m 0 (Int32.ofInt 0)) 3 (Mt.2.2 399 m 0) 1 (bz P)).1 3 (Mt.2.2 399 m 0) i = bz (ib (fi P (K.1 ||| b1 1) (off1 K.1 1)) i = true)
    rw [rI, bz_c (sb hi)]
    by_cases e : i = 1
    · rw [if_pos ⟨rfl, rfl, e⟩, if_pos e]
    · rw [if_neg (fun q => e q.2.2), if_neg e]
      exact q1 i hi
  obtain ⟨Y, ⟨y1, y2⟩, y3⟩ := t_after T2 W2 nn ⟨frK_tm Tn Wn nn F2 Vn.1, V2, frK_s Tn Wn nn F2 Vn.2.2⟩ iK1 iS
  rw [eS] at y3
  have so : GX96_isSource (Int32.ofInt 1).toInt64 Mt = (Int32.ofInt 1, Mt) := by
    rw [X96_isSource _ (by decide), bz_t (by decide)]
  have p94 : (fm_sI Mt 394 m 0 (Int32.ofInt 0)).1 394 m 0 = 0 := by rw [rI, if_pos ⟨rfl, rfl, rfl⟩]; rfl
  have hH : HX96_signal m (Int32.ofInt 1) (bz P) Mt := by
    unfold HX96_signal HX96_signal_0 HX96_signal_15 HX96_signal_20
    dsimp only
    rw [so, pb, show (Int32.ofInt 1).toNatClampNeg = 1 from rfl]
    exact ⟨fun y => absurd (show Int32.ofInt 1 = 0 from y) (by decide), fun _ => ⟨fun y => absurd (show Int32.ofInt 1 = Int32.ofInt 10 from y) (by decide), fun _ => ⟨fun _ => ⟨i9, y1, trivial⟩, fun y => absurd p94 y⟩⟩⟩
  have eT : GX96_signal m (Int32.ofInt 1) (bz P) Mt = Y := by
    unfold GX96_signal GX96_signal_0 GX96_signal_20 GX96_signal_41
    dsimp only
    rw [so, pb, show (Int32.ofInt 1).toNatClampNeg = 1 from rfl]
    dsimp only
    rw [fi_neg (show ¬ Int32.ofInt 1 = 0 by decide), fi_neg (show ¬ Int32.ofInt 1 = Int32.ofInt 10 by decide), fi_pos p94]
    exact y2
  have nY : fm_is Y 99 99 m = true := by
    have e := (gX96_signal m (Int32.ofInt 1) (bz P) Mt Tt nm hH).2.2
    rw [eT] at e
    exact ext_is e (by decide) nm
  refine ⟨hH, soft, num, _, _, ?_, ?_, VX, ?_, i1, i4, i0, ?_, iS, ?_⟩
  · unfold fm_is at ns ⊢
    rw [F.1]
    exact ns
  · rw [eT]; exact nY
  · rw [eT]; exact y3
  · rw [← eS]
    exact vki_se iK1
  · exact k10
end Rg
