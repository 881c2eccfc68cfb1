/-! disks: a request from its offer to its answer, both sides -/
set_option maxRecDepth 100000
abbrev SSv : Nat → Prop := fun y => fe_mem lX18_serve y = true
abbrev STv : Nat → Prop := fun y => fe_mem lX95_oneMore y = true
section Sv3
variable {d x dk q rq b r c : Nat} {Mc Mt Nc Nt M N : FM}
theorem pbk_k (h : Frm (PBk b M) M N) (T : Ty M) (W : Wf M) (n : fm_is M 93 93 b = true) : Wk (fun y => fe_mem [339, 340, 341, 342, 343, 344, 1340, 1341, 1342] y = true) (fun _ => True) 0 (fm_nx M) M N :=
  fr_wk h W (fun f y z => by
    refine ⟨pbk_h0 T n f y z, ?_⟩
    have lc : ∀ a s, Sf M a s → M.2.2 0 a 0 ≠ 0 → lcn M 3 a = 1000 + s := fun a s h1 h2 => by
      unfold lcn
      rw [if_pos rfl]
      rcases h1 with q | q
      · exact absurd q (wf_n0 W h2)
      · rw [q.2]
    rcases z with ⟨z1, z2, z3⟩ | ⟨z1, z⟩
    · unfold lcn
      rw [if_neg (by omega)]
      have : f = 339 ∨ f = 340 ∨ f = 341 ∨ f = 342 ∨ f = 343 ∨ f = 344 := by omega
      rcases this with y | y | y | y | y | y <;> rw [y] <;> rfl
    · rw [z1]
      rcases z with z | z | z
      · rw [z, lc _ 340 (sS_340 W n) (fm_ist rfl (tN_340 T.1 n))]; rfl
      · rw [z, lc _ 341 (sS_341 W n) (fm_ist rfl (tN_341 T.1 n))]; rfl
      · rw [z, lc _ 342 (sS_342 W n) (fm_ist rfl (tN_342 T.1 n))]; rfl)
theorem relD_mk (D : RelD d x dk q rq b r c Mc Mt) (kc : Wk SSv (fun _ => True) 0 (fm_nx Mc) Mc Nc) (kt : Wk STv (fun _ => True) 0 (fm_nx Mt) Mt Nt) (R : RelRam r c Nc Nt)
    (h76 : ∃ tk, Nc.1 76 q 0 = nI tk ∧ Nt.1 335 b 0 = nI tk ∧ tk < 65536) (h77 : ∃ gv, Nc.1 77 q 0 = nI gv ∧ Nt.1 336 b 0 = nI gv ∧ gv < 65536) (h70 : Nc.1 70 dk 0 = Nt.1 338 b 0) (K : RelDk dk b Nc Nt) : RelD d x dk q rq b r c Nc Nt := by
  obtain ⟨R0, C, TT, size, tk, gv, ⟨v1, v2, v3, v4⟩, ⟨v5, v6, v7, v8⟩, v9, ⟨v10, v11, v12⟩, _, _, _, _⟩ := D
  obtain ⟨tk', h76⟩ := h76
  obtain ⟨gv', h77⟩ := h77
  have T := R0.1.1
  have W := R0.1.2.1
  have T' := R0.2.1.1
  have W' := R0.2.1.2.1
  obtain ⟨nx, ndk, nq, nrq⟩ := dk_is T C
  have ld := wf_lt W (fm_ist rfl C.1.1)
  have lq := wf_lt W (fm_ist rfl nq)
  have nb := TT.1
  have lb := wf_lt W' (fm_ist rfl nb)
  have n334 := tN_334 T'.1 nb
  have k334 := ka kt (sS_334 W' nb) (wf_n0 W' (fm_ist rfl n334)) (by decide) (wf_lt W' (fm_ist rfl n334))
  have e334 : Nt.2.2 334 b 0 = Mt.2.2 334 b 0 := by rw [(kf kt rfl (by decide) lb).2.2]
  refine ⟨R, dkC_k T W kc (by unfold DFr; decide) C, dkT_k W' kt (by decide) TT, size, tk', gv', ⟨?_, ?_, ?_, ?_⟩, ⟨?_, ?_, v7, v8⟩, ?_, ⟨?_, ?_, ?_⟩, h76, h77, h70, K⟩
  · rw [(kf kc rfl (by decide) ld).1, (kf kt rfl (by decide) lb).1]; exact v1
  · rw [(kf kc rfl (by decide) ld).1, (kf kt rfl (by decide) lb).1]; exact v2
  · rw [(kf kc rfl (by decide) ld).1, (kf kt rfl (by decide) lb).1]; exact v3
  · rw [(kf kc rfl (by decide) ld).1, (kf kt rfl (by decide) lb).1]; exact v4
  · rw [(kf kc rfl (by decide) lq).1]; exact v5
  · rw [(kf kt rfl (by decide) lb).1]; exact v6
  · rw [(kf kc rfl (by decide) lq).1, (kf kt rfl (by decide) lb).1]; exact v9
  · rw [(kf kc rfl (by decide) lq).2.1, e334, k334.2.1]; exact v10
  · rw [(kf kc rfl (by decide) lq).2.1, e334, k334.2.1]; exact v11
  · rw [(kf kc rfl (by decide) lq).2.1, e334, k334.2.1]; exact v12
theorem n_lt {a b : Nat} (ha : a < 2147483648) (hb : b < 2147483648) : nI a < nI b ↔ a < b := by
  rw [i_lt (by rw [ui_nI]; omega) (by rw [ui_nI]; omega), ui_nI, ui_nI]
  omega
theorem rel_serve (D : RelD d x dk q rq b r c Mc Mt) {ah : Nat} (hah : ah < 65536) {size : Nat} (hsz : Mc.1 71 q 0 = nI size) (hs16 : 0 < size ∧ size ≤ 16) :
    (size < ah → HX18_serve d (nI ah) Mc ∧ GX18_serve d (nI ah) Mc = (Int32.ofInt 0, Mc)) ∧
    (¬ size < ah → HX18_serve d (nI ah) Mc ∧ HX95_oneMore b Mt ∧ ∃ (o : Prop) (Nc Nt : FM), GX18_serve d (nI ah) Mc = (bz o, Nc) ∧ GX95_oneMore b Mt = (bz o, Nt) ∧ RelD d x dk q rq b r c Nc Nt ∧ Evo r 40000 Mc Nc ∧
      Wk SSv (fun _ => True) 0 (fm_nx Mc) Mc Nc ∧ (o → Nc.1 67 d 0 = Mc.1 67 d 0 + Int32.ofInt 1) ∧ (¬ o → Nc.1 67 d 0 = Mc.1 67 d 0)) := by
  have D0 := D
  obtain ⟨R, C, TT, size', tk, gv, ⟨v1, v2, v3, v4⟩, ⟨v5, v6, v7, v8⟩, v9, ⟨v10, v11, v12⟩, ⟨v13, v14, v15⟩, ⟨v16, v17, v18⟩, h70, K⟩ := D
  have es : size' = size := nI_j (by omega) (by omega) (v5.symm.trans hsz)
  subst es
  have T := R.1.1
  have W := R.1.2.1
  have T' := R.2.1.1
  have W' := R.2.1.2.1
  have C0 := C
  obtain ⟨nx, ndk, nq, nrq⟩ := dk_is T C
  obtain ⟨⟨c1, c2, c3, c4, c5⟩, ⟨c6, c7, c8⟩, c9, ct⟩ := C
  have nb := TT.1
  have hc := TT.2.1
  have a71 : (Mc.1 71 q 0 < nI ah) = (size' < ah) := propext (by rw [v5, n_lt (by omega) (by omega)])
  constructor
  · intro h
    unfold HX18_serve HX18_serve_0 GX18_serve GX18_serve_0 GX18_serve_33
    dsimp only
    rw [c4, a71, fi_pos h]
    exact ⟨⟨fun _ => trivial, fun z => absurd h z⟩, rfl⟩
  intro h
  -- what both sides have in common
  obtain ⟨off, hoff⟩ : ∃ off, Mc.2.1 74 q 0 = off := ⟨_, rfl⟩
  obtain ⟨an, han⟩ : ∃ an, Mc.2.1 75 q 0 = an := ⟨_, rfl⟩
  obtain ⟨bl, hbl⟩ : ∃ bl, Mc.2.1 73 q 0 = bl := ⟨_, rfl⟩
  rw [hoff] at v11
  rw [han] at v12
  rw [hbl] at v10
  obtain ⟨o1, o2⟩ := X20_offer (M := Mc) v5 hs16 hoff v13 v15
  have hh := X19_has (x := x) (a := ofA off tk size') (b := Int64.ofInt 2) (M := Mc) c6 R.2.2.1 (by decide)
  have ht := X95_isThere (a := ofA off tk size') (b := Int64.ofInt 2) (M := Mt) (by decide)
  have et : (Int64.ofInt 2 = 0 ∨ inR (ofA off tk size') (ul (Int64.ofInt 2))) = inR (ofA off tk size') 2 := propext ⟨fun z => z.elim (fun z => absurd z (by decide)) (fun z => z), Or.inr⟩
  rw [et] at ht
  have hh : GX19_has x (ofA off tk size') (Int64.ofInt 2) Mc = (bz (inR (ofA off tk size') 2), Mc) := hh
  have z1 : (Int32.ofInt 1).toNatClampNeg = 1 := by decide
  have z2 : (Int32.ofInt 2).toNatClampNeg = 2 := by decide
  have eT : ((Mt.2.1 3 (Mt.2.2 334 b 0) 1 + Int64.ofInt 4) + Int64.ofInt 2 * (Mt.1 335 b 0 - Mt.1 335 b 0 / Mt.1 330 b 0 * Mt.1 330 b 0).toInt64) = ofA off tk size' := by
    rw [← v11, v14, v6, nI_mod v15 hs16.1 hs16.2]
    rfl
  have eA : ∀ X : FM, X.2.1 3 (X.2.2 334 b 0) 2 = an → X.1 336 b 0 = nI gv → X.1 330 b 0 = nI size' → ((X.2.1 3 (X.2.2 334 b 0) 2 + Int64.ofInt 4) + Int64.ofInt 8 * (X.1 336 b 0 - X.1 336 b 0 / X.1 330 b 0 * X.1 330 b 0).toInt64) = anA an gv size' := fun X e1 e2 e3 => by
    rw [e1, e2, e3, nI_mod v18 hs16.1 hs16.2]
    rfl
  have n330 : ¬ Mt.1 330 b 0 = 0 := by rw [v6]; exact nI_n0 hs16.1 hs16.2
  by_cases hof : inR (ofA off tk size') 2
  · -- the head
    obtain ⟨m1, m2⟩ := nuC_e (s := 2) R.1 nx c6 hof (by decide)
    obtain ⟨m3, m4⟩ := nuT_e (s := 2) T' nb R.2.1.2.2.1 hc hof (by decide)
    have m5 := nu_e (s := 2) R nx c6 nb hc hof (by decide)
    have m6 := nuC_lt (s := 2) R.1 nx c6 hof (by decide)
    rw [← m5] at m4
    have m1 : HX107_number x (ofA off tk size') (Int32.ofInt 2) Mc := m1
    have m2 : GX107_number x (ofA off tk size') (Int32.ofInt 2) Mc = (nuC x Mc (ofA off tk size') 2, Mc) := m2
    have m3 : HX95_number b (ofA off tk size') (Int32.ofInt 2) Mt := m3
    have m4 : GX95_number b (ofA off tk size') (Int32.ofInt 2) Mt = (nuC x Mc (ofA off tk size') 2, Mt) := m4
    obtain ⟨k, hk⟩ : ∃ k, ul (nuC x Mc (ofA off tk size') 2) = k := ⟨_, rfl⟩
    have hk6 : k < 65536 := by rw [← hk]; exact m6
    have ek : (nuC x Mc (ofA off tk size') 2).toInt32 = nI k := ui_inj (by rw [ui_low, hk, ui_nI])
    -- gathering
    have V : VQc q x r rq Mc size' bl an gv := ⟨R.1, R.2.2.1, nq, nx, c6, nrq, c8, v5, hbl, han, v16, v18, hs16⟩
    obtain ⟨N1, g1, g2, g3, g4, g5⟩ := X20_gather V hk6
    have V' : WbV b c Mt size' bl := ⟨nb, hc, R.2.1.2.2.1, v6, v10.symm, hs16⟩
    obtain ⟨T1, t1, t2, t3, t4, t5⟩ := X95_gather W' T' V' hk6
    have nuE : ∀ a s, s ≤ 8 → inR a s → nuT b Mt a s = nuC x Mc a s := fun a s h8 ha => (nu_e R nx c6 nb hc ha h8).symm
    have gE := gth_c (size := size') (bl := bl) nuE size' k false
    rw [gE] at t4 t5
    have kN1 := prq_k g1 nrq T W
    have QN1 := prq_q g1 nrq R.1
    have kT1 := pbk_k t1 T' W' nb
    have QT1 := trQ_k kT1 (by unfold TFr; decide) t2 R.2.1
    have R1 := rel_tq (rel_q R QN1) QT1
    have ld := wf_lt W (fm_ist rfl c1)
    have lq := wf_lt W (fm_ist rfl nq)
    have ldk := wf_lt W (fm_ist rfl ndk)
    have lrq := wf_lt W (fm_ist rfl nrq)
    have lb := wf_lt W' (fm_ist rfl nb)
    have n69 := tN_69 T.1 ndk
    have l69 := wf_lt W (fm_ist rfl n69)
    have e69 := ka kN1 (sS_69 W ndk) (wf_n0 W (fm_ist rfl n69)) (by decide) l69
    have n327 := tN_327 T'.1 nb
    have e327 := ka kT1 (sS_327 W' nb) (wf_n0 W' (fm_ist rfl n327)) (by decide) (wf_lt W' (fm_ist rfl n327))
    have n334 := tN_334 T'.1 nb
    have e334 := ka kT1 (sS_334 W' nb) (wf_n0 W' (fm_ist rfl n334)) (by decide) (wf_lt W' (fm_ist rfl n334))
    have K1 : RelDk dk b N1 T1 := fun j hj => by
      rw [(kf kN1 (f := 69) rfl (by decide) ldk).2.2, e69.2.1, t1.1, e327.2.1]
      exact K j hj
    have f76 : N1.1 76 q 0 = nI tk := by rw [(kf kN1 rfl (by decide) lq).1]; exact v13
    have f77 : N1.1 77 q 0 = nI gv := by rw [(kf kN1 rfl (by decide) lq).1]; exact v16
    have f71 : N1.1 71 q 0 = nI size' := by rw [(kf kN1 rfl (by decide) lq).1]; exact v5
    have f75 : N1.2.1 75 q 0 = an := by rw [(kf kN1 rfl (by decide) lq).2.1]; exact han
    have f67 : N1.1 67 d 0 = Mc.1 67 d 0 := by rw [(kf kN1 rfl (by decide) ld).1]
    have f70 : N1.1 70 dk 0 = T1.1 338 b 0 := by rw [(kf kN1 rfl (by decide) ldk).1, (kf kT1 rfl (by decide) lb).1]; exact h70
    have f335 : T1.1 335 b 0 = nI tk := by rw [(kf kT1 rfl (by decide) lb).1]; exact v14
    have f336 : T1.1 336 b 0 = nI gv := by rw [(kf kT1 rfl (by decide) lb).1]; exact v17
    have f2 : T1.2.1 3 (T1.2.2 334 b 0) 2 = an := by rw [t1.1, e334.2.1]; exact v12.symm
    have C1 := dkC_k T W kN1 (by unfold DFr; decide) C0
    have nb1 := frm_is t1 nb
    have hc1 : T1.2.2 326 b 0 = c := by rw [t1.1]; exact hc
    have hs1 : T1.1 325 b 0 = Int32.ofInt 2048 := by rw [(kf kT1 rfl (by decide) lb).1]; exact TT.2.2
    have i8 := X95_isThere (a := anA an gv size') (b := Int64.ofInt 8) (M := T1) (by decide)
    have e8 : (Int64.ofInt 8 = 0 ∨ inR (anA an gv size') (ul (Int64.ofInt 8))) = inR (anA an gv size') 8 := propext ⟨fun z => z.elim (fun z => absurd z (by decide)) (fun z => z), Or.inr⟩
    rw [e8] at i8
    have i2 := X95_isThere (a := an + Int64.ofInt 2) (b := Int64.ofInt 2) (M := T1) (by decide)
    have e2 : (Int64.ofInt 2 = 0 ∨ inR (an + Int64.ofInt 2) (ul (Int64.ofInt 2))) = inR (an + Int64.ofInt 2) 2 := propext ⟨fun z => z.elim (fun z => absurd z (by decide)) (fun z => z), Or.inr⟩
    rw [e2] at i2
    -- the component up to the kind
    by_cases hg : ∃ l, gthL (nuC x Mc) size' bl size' k false = some l ∧ okG l ∧ ansP an gv size'
    · obtain ⟨l, l1, l2, l3⟩ := hg
      obtain ⟨w1, w2, w3⟩ := gth_ok size' k false l l1
      obtain ⟨w4, w5⟩ := t5 l l1
      have Gc1 := g4 l l1 l2
      have Q : Rq b c T1 l := ⟨QT1.1, ⟨nb1, hc1, hs1⟩, w4, by omega, l2, w3, w5, w2⟩
      have Q0 := rq_s Q
      obtain ⟨h0, cl, op, el, _, _, _, hh16, ecl, eop, hto, okc, oko, hE, hea⟩ := Q0
      have lne : l ≠ [] := by rw [el]; exact fun z => by cases z
      have e0 : l.getD 0 (0, 0, false) = h0 := by rw [el]; rfl
      obtain ⟨Gcl, Gop, Gr⟩ := Gc1
      obtain ⟨q81, q82, q83⟩ := Gr lne
      have q83 : N1.2.1 83 rq 0 = eaL l := q83
      rw [e0] at q81 q82
      have i4h : inR h0.1 4 := by unfold inR at *; omega
      have i8h : inR (h0.1 + Int64.ofInt 8) 8 := by
        unfold inR at *
        rw [ul_add, show ul (Int64.ofInt 8) = 8 from rfl]
        omega
      obtain ⟨kd, hkd⟩ : ∃ kd, ul (nuC x Mc h0.1 4) = kd := ⟨_, rfl⟩
      have hkd32 : kd < 4294967296 := by rw [← hkd]; exact nuC_lt (s := 4) R.1 nx c6 i4h (by decide)
      have q81' : N1.1 81 rq 0 = nI kd := by rw [q81]; exact ui_inj (by rw [ui_low, hkd, ui_nI])
      have nuS : ∀ a s, s ≤ 8 → inR a s → nuT b T1 a s = nuC x Mc a s := fun a s h8 ha => (nuT_s T' nb R.2.1.2.2.1 hc t2 nb1 QT1.1.2.2.1 hc1 QT1.2.1 ha h8).trans (nuE a s h8 ha)
      have hk1 : ul (nuT b T1 (l.getD 0 (0, 0, false)).1 4) = kd := by rw [e0, nuS _ 4 (by decide) i4h]; exact hkd
      have hs2 : nuT b T1 ((l.getD 0 (0, 0, false)).1 + Int64.ofInt 8) 8 = N1.2.1 82 rq 0 := by rw [e0, nuS _ 8 (by decide) i8h, q82]
      -- the component's memory with one byte written
      have nrq1 := frm_is g1 nrq
      obtain ⟨nx1, ndk1, nq1, _⟩ := dk_is R1.1.1 C1
      have k84 := wq_fL (f := 84) (i := 0) (v := Int64.ofInt 1) R1.1.2.1 nrq1 rfl (by decide)
      have Q84 := ramQ_k k84 (by unfold RFr; decide) ⟨R1.1.1.1, R1.1.1.2⟩ R1.1
      have F84 : Frm (fun f _ => f = 84) N1 (fm_sL N1 84 rq 0 (Int64.ofInt 1)) := frm_L frm_r rfl
      have C2 := dkC_k R1.1.1 R1.1.2.1 k84 (by unfold DFr; decide) C1
      have st : ∀ s L, StrV s N1 L → StrV s (fm_sL N1 84 rq 0 (Int64.ofInt 1)) L := fun s L z => strV_o F84 (fun f y p w => by
        rcases w with w | w
        · have := w.2
          omega
        · have := w.1
          omega) z
      have Cq : RqC rq dk x r (fm_sL N1 84 rq 0 (Int64.ofInt 1)) l (N1.2.1 82 rq 0) := ⟨⟨nrq1, ndk1, nx1, C2.2.1.1, C2.2.1.2.1⟩, C2.2.2.2, st _ _ Gcl, st _ _ Gop, oL (fun z => absurd z.1 (by decide)), if_pos ⟨rfl, rfl, rfl⟩⟩
      have R2 : RelRam r c (fm_sL N1 84 rq 0 (Int64.ofInt 1)) T1 := rel_q R1 Q84
      have K2 : RelDk dk b (fm_sL N1 84 rq 0 (Int64.ofInt 1)) T1 := fun j hj => (oL (fun z => absurd z.1 (by decide))).trans (K1 j hj)
      have h70' : (fm_sL N1 84 rq 0 (Int64.ofInt 1)).1 70 dk 0 = T1.1 338 b 0 := f70
      have kC2 := wk_tt (wk_sub (S' := SSv) (me_s rfl) kN1) (wk_sub (S' := SSv) (fun y (z : y = 84) => by rw [z]; rfl) k84)
      -- the request, by its kind
      have key : ∃ s0 res Mq Mt' w, (N1.1 81 rq 0 < 0 → s0 = 0) ∧ (¬ N1.1 81 rq 0 < 0 → Int32.ofNat (N1.2.2 1 (N1.2.2 62 d 0) 0) ≤ N1.1 81 rq 0 → s0 = 0) ∧
          (¬ N1.1 81 rq 0 < 0 → ¬ Int32.ofNat (N1.2.2 1 (N1.2.2 62 d 0) 0) ≤ N1.1 81 rq 0 → fm_in N1 (N1.2.2 62 d 0) (N1.1 81 rq 0) = true ∧ s0 = N1.2.2 3 (N1.2.2 62 d 0) (N1.1 81 rq 0).toNatClampNeg) ∧
          (HX18_serve_132 d rq res Mq → HX18_serve_105 d rq s0 N1) ∧ GX18_serve_105 d rq s0 N1 = GX18_serve_132 d rq res Mq ∧
          FX95_request fN b T1 = some (w, GX93_put c (eaL l) (vb res.toInt64 0) Mt') ∧ OutR rq dk r c b (fm_sL N1 84 rq 0 (Int64.ofInt 1)) T1 Mq Mt' w ∧ EndT b (eaL l) Mt' := by
        have l9 : N1.2.2 1 (N1.2.2 62 d 0) 0 = 9 := tL_62 R1.1.1.1 C1.1.1
        have c9' : (N1.1 81 rq 0 < 0) = (2147483648 ≤ kd) := propext (by
          rw [q81', lt_ti, ti, ui_nI, show (0 : Int32).toInt = 0 by decide]
          split <;> omega)
        by_cases hs4 : kd = 0 ∨ kd = 1 ∨ kd = 4 ∨ kd = 8
        · have k9 : kd < 9 := by omega
          obtain ⟨s0, es0⟩ : ∃ s0, s0 = N1.2.2 3 (N1.2.2 62 d 0) kd := ⟨_, rfl⟩
          obtain ⟨y0, res, Mq, Mt', w, y1, y2, y3, y4, y5⟩ := rel_run (d := d) R2 Q Cq K2 h70' C2.2.2.1 kd C2.1.2.1 C2.1.2.2.1 hk1 hs2 hs4 s0 es0
          refine ⟨s0, res, Mq, Mt', w, fun z => ?_, fun _ z => ?_, fun _ _ => ⟨?_, ?_⟩, fun z => ?_, ?_, y3, y4, y5⟩
          · rw [c9'] at z
            omega
          · rw [l9, q81'] at z
            have := (n_le (a := 9) (b := kd) (by decide) (by omega)).mp z
            omega
          · rw [q81']
            exact in_nI (N := 9) l9 k9 (by decide)
          · rw [q81', o_cl (by omega)]
            exact es0
          · unfold HX18_serve_105
            refine ⟨fun q => absurd q y0, fun _ => ⟨y1, ?_⟩⟩
            have y2' : (fi (fm_is (fm_sL N1 84 rq 0 (Int64.ofInt 1)) 24 24 s0 = true) (GX27_run s0 rq ((fm_sL N1 84 rq 0 (Int64.ofInt 1)).2.2 59 d 0) ((fm_sL N1 84 rq 0 (Int64.ofInt 1)).2.2 58 d 0) (fm_sL N1 84 rq 0 (Int64.ofInt 1))) ((fi (fm_is (fm_sL N1 84 rq 0 (Int64.ofInt 1)) 25 25 s0 = true) (GX28_run s0 rq ((fm_sL N1 84 rq 0 (Int64.ofInt 1)).2.2 59 d 0) ((fm_sL N1 84 rq 0 (Int64.ofInt 1)).2.2 58 d 0) (fm_sL N1 84 rq 0 (Int64.ofInt 1))) ((fi (fm_is (fm_sL N1 84 rq 0 (Int64.ofInt 1)) 26 26 s0 = true) (GX25_run s0 rq ((fm_sL N1 84 rq 0 (Int64.ofInt 1)).2.2 59 d 0) ((fm_sL N1 84 rq 0 (Int64.ofInt 1)).2.2 58 d 0) (fm_sL N1 84 rq 0 (Int64.ofInt 1))) (GX26_run s0 rq ((fm_sL N1 84 rq 0 (Int64.ofInt 1)).2.2 59 d 0) ((fm_sL N1 84 rq 0 (Int64.ofInt 1)).2.2 58 d 0) (fm_sL N1 84 rq 0 (Int64.ofInt 1)))))))) = (res, Mq) := y2
            rw [y2']
            exact z
          · unfold GX18_serve_105
            dsimp only
            rw [fi_neg y0]
            show GX18_serve_132 d rq (rnG d rq s0 (fm_sL N1 84 rq 0 (Int64.ofInt 1))).1 (rnG d rq s0 (fm_sL N1 84 rq 0 (Int64.ofInt 1))).2 = _
            rw [y2]
        · obtain ⟨y1, y2⟩ := rel_run0 R2 Q kd hk1 hs2 hs4
          refine ⟨0, Int32.ofInt 2, fm_sL N1 84 rq 0 (Int64.ofInt 1), T1, _, fun _ => rfl, fun _ _ => rfl, fun z1 z2 => ?_, fun z => ?_, ?_, y1, ⟨R2, K2, h70', ?_, evo_w (evo_r r 0 _) (by omega), wk_r (wi_N R2.1.2.1), rfl⟩, y2⟩
          · rw [c9'] at z1
            have k9 : kd < 9 := by
              rcases Nat.lt_or_ge kd 9 with z | z
              · exact z
              · exact absurd (by rw [l9, q81']; exact (n_le (a := 9) (b := kd) (by decide) (by omega)).mpr z) z2
            rw [q81', o_cl (by omega)]
            exact ⟨in_nI (N := 9) l9 k9 (by decide), (C1.2.2.1.2 kd k9 (by omega) (by omega) (by omega) (by omega)).symm⟩
          · unfold HX18_serve_105
            exact ⟨fun _ => z, fun q => absurd rfl q⟩
          · unfold GX18_serve_105
            dsimp only
            rw [fi_pos rfl]
          · exact if_pos ⟨rfl, rfl, rfl⟩
      obtain ⟨s0, res, Mq, Mt', w, s1, s2, s3, s4, s5, s6, ⟨o3, o4, o5, o6, o7, o8, o9⟩, s8⟩ := key
      obtain ⟨r1, r2⟩ := op_of (d := ((0 : Int64), T1)) s6 (P := OkR T1) (by
        obtain ⟨o, ho⟩ : ∃ o, ul (eaL l) = 2147483648 + o := ⟨ul (eaL l) - 2147483648, by unfold inR at hea; omega⟩
        have p2 := (X93_put (a := eaL l) o3.2.1.1 o3.2.1.2.2.1 ho (by unfold inR at hea; omega) (vb res.toInt64 0)).2
        refine ⟨by rw [p2]; exact pbM_ty o3.2.1.1 o3.2.1.2.2.1 _, fun a ha => ?_⟩
        rw [p2]
        show (pbM _ _ _ _ _).2.2 0 a 0 = _ ∧ (pbM _ _ _ _ _).2.2 1 a 0 = _
        rw [pbM_R, o9]
        exact ⟨rfl, rfl⟩)
      have r1 : HX95_request b T1 := r1
      have r2 : GX95_request b T1 = (w, GX93_put c (eaL l) (vb res.toInt64 0) Mt') := r2
      -- the end
      have kq := wk_tt kC2 (wk_sub (S' := SSv) (me_s rfl) o8)
      have lx2 : ∀ {a : Nat}, a < fm_nx Mc → a < fm_nx (fm_sL N1 84 rq 0 (Int64.ofInt 1)) := fun {a} z => Nat.lt_of_lt_of_le z kC2.2.1
      have Cm := dkC_k R2.1.1 R2.1.2.1 o8 (by unfold DFr; decide) C2
      have nrq2 := kis o8 R2.1.2.1 rfl (show fm_is (fm_sL N1 84 rq 0 (Int64.ofInt 1)) 29 29 rq = true from nrq1)
      have b83 : Mq.2.1 83 rq 0 = eaL l := by rw [(kf o8 rfl (by decide) (lx2 lrq)).2.1]; exact (oL (fun z => absurd z.1 (by decide))).trans q83
      have b80 : Mq.1 80 rq 0 = nI k := by rw [(kf o8 rfl (by decide) (lx2 lrq)).1]; exact g5
      have b71 : Mq.1 71 q 0 = nI size' := by rw [(kf o8 rfl (by decide) (lx2 lq)).1]; exact f71
      have b75 : Mq.2.1 75 q 0 = an := by rw [(kf o8 rfl (by decide) (lx2 lq)).2.1]; exact (oL (fun z => absurd z.1 (by decide))).trans f75
      have b76 : Mq.1 76 q 0 = nI tk := by rw [(kf o8 rfl (by decide) (lx2 lq)).1]; exact f76
      have b77 : Mq.1 77 q 0 = nI gv := by rw [(kf o8 rfl (by decide) (lx2 lq)).1]; exact f77
      have b67 : Mq.1 67 d 0 = Mc.1 67 d 0 := by rw [(kf o8 rfl (by decide) (lx2 ld)).1]; exact f67
      -- the twin's memory behind the request
      have kRq := wX95_request (fun y => fe_mem lX95_request y = true) (fun _ => True) (fun y z => z) fN b T1 (wi_N QT1.1.2.1) trivial _ s6
      have kRq : Wk (fun y => fe_mem lX95_request y = true) (fun _ => True) 0 (fm_nx T1) T1 (GX93_put c (eaL l) (vb res.toInt64 0) Mt') := kRq
      have lb1 := wf_lt QT1.1.2.1 (fm_ist rfl nb1)
      have nb' : fm_is Mt' 93 93 b = true := by unfold fm_is; rw [o9]; exact nb1
      have hc' : Mt'.2.2 326 b 0 = c := by rw [o9]; exact hc1
      obtain ⟨_, _, _, _, xr⟩ := prm_x o3.2.1.1 o3.2.1.2.1 nb' o3.2.1.2.2.1
      obtain ⟨oo, hoo⟩ : ∃ o, ul (eaL l) = 2147483648 + o := ⟨ul (eaL l) - 2147483648, by unfold inR at hea; omega⟩
      have pp := (X93_put (a := eaL l) o3.2.1.1 o3.2.1.2.2.1 hoo (by unfold inR at hea; omega) (vb res.toInt64 0)).2
      have fp : Frm (PRm c Mt') Mt' (GX93_put c (eaL l) (vb res.toInt64 0) Mt') := by rw [pp]; exact frm_pb
      have b335 : Mt'.1 335 b 0 = nI tk := by rw [← (fp.2 335 b 0 (fun z => absurd z.1 (by decide))).1, (kf kRq rfl (by decide) lb1).1]; exact f335
      have b336 : Mt'.1 336 b 0 = nI gv := by rw [← (fp.2 336 b 0 (fun z => absurd z.1 (by decide))).1, (kf kRq rfl (by decide) lb1).1]; exact f336
      have n334' := tN_334 QT1.1.1.1 nb1
      have k334' := ka kRq (sS_334 QT1.1.2.1 nb1) (wf_n0 QT1.1.2.1 (fm_ist rfl n334')) (by decide) (wf_lt QT1.1.2.1 (fm_ist rfl n334'))
      have b2 : Mt'.2.1 3 (Mt'.2.2 334 b 0) 2 = an := by
        rw [← (fp.2 3 _ 2 xr).2, o9, k334'.2.1]
        exact f2
      obtain ⟨E1, E2, Nc, Nt, E3, E4, E5, E6, E7, E8, ⟨E9, E10, E11⟩, E12, E13⟩ := rel_end o3 Cm.1.1 nrq2 Cm.1.2.1 Cm.1.2.2.2.1 Cm.2.1.1 b83 b80 o6 b71 hs16 b75 b77 v18 b76 v15 nb' hc' b335 b336 b2 hea l3 res
      have hg : ∃ l, gthL (nuC x Mc) size' bl size' k false = some l ∧ okG l ∧ ansP an gv size' := ⟨l, l1, l2, l3⟩
      have hg' : ∃ l, gthL (nuC x Mc) size' bl size' k false = some l ∧ okG l := ⟨l, l1, l2⟩
      have b0 : ∀ {P : Prop}, P → ¬ bz P = 0 := fun z => by rw [bz_t z]; decide
      have G1 : HX18_serve d (nI ah) Mc ∧ GX18_serve d (nI ah) Mc = (Int32.ofInt 1, Nc) := by
        constructor
        · unfold HX18_serve HX18_serve_0 HX18_serve_104
          dsimp only
          rw [c4, a71, o2]
          dsimp only
          rw [c2, hh]
          dsimp only
          rw [c5, c4, o2]
          dsimp only
          rw [c2, m2]
          dsimp only
          rw [ek, g3]
          dsimp only
          refine ⟨fun z => absurd z h, fun _ => ⟨o1, fun z => absurd z (b0 hof), fun _ => ⟨o1, m1, g2, fun z => absurd z (b0 hg), fun _ => ⟨fun z => ?_, fun z => ⟨fun y => ?_, fun y => ⟨(s3 z y).1, ?_⟩⟩⟩⟩⟩⟩
          · rw [← s1 z]
            exact s4 E1
          · rw [← s2 z y]
            exact s4 E1
          · rw [← (s3 z y).2]
            exact s4 E1
        · unfold GX18_serve GX18_serve_0 GX18_serve_104
          dsimp only
          rw [c4, a71, fi_neg h, o2]
          dsimp only
          rw [c2, hh]
          dsimp only
          rw [fi_neg (b0 hof), c5, c4, o2]
          dsimp only
          rw [c2, m2]
          dsimp only
          rw [ek, g3]
          dsimp only
          rw [fi_neg (b0 hg), ← E3, ← s5]
          by_cases z : N1.1 81 rq 0 < 0
          · rw [fi_pos z, ← s1 z]
          · rw [fi_neg z]
            by_cases y : Int32.ofNat (N1.2.2 1 (N1.2.2 62 d 0) 0) ≤ N1.1 81 rq 0
            · rw [fi_pos y, ← s2 z y]
            · rw [fi_neg y, ← (s3 z y).2]
      have G2 : HX95_oneMore b Mt ∧ GX95_oneMore b Mt = (Int32.ofInt 1, Nt) := by
        constructor
        · unfold HX95_oneMore HX95_oneMore_0
          dsimp only
          rw [z1, eT, ht]
          dsimp only
          rw [m4]
          dsimp only
          rw [ek, z2, eA Mt v12.symm v17 v6, t4]
          dsimp only
          rw [i8]
          dsimp only
          rw [f2, i2]
          dsimp only
          rw [r2]
          dsimp only
          exact ⟨n330, fun z => absurd z (b0 hof), fun _ => ⟨m3, n330, t3, fun z => absurd z (b0 hg'), fun _ => ⟨fun z => absurd z (b0 l3.1), fun _ => ⟨fun z => absurd z (b0 l3.2), fun _ => ⟨r1, E2⟩⟩⟩⟩⟩
        · unfold GX95_oneMore GX95_oneMore_0
          dsimp only
          rw [z1, eT, ht]
          dsimp only
          rw [fi_neg (b0 hof), m4]
          dsimp only
          rw [ek, z2, eA Mt v12.symm v17 v6, t4]
          dsimp only
          rw [fi_neg (b0 hg'), i8]
          dsimp only
          rw [fi_neg (b0 l3.1), f2, i2]
          dsimp only
          rw [fi_neg (b0 l3.2), r2]
          dsimp only
          rw [← E4]
          rfl
      have kc : Wk SSv (fun _ => True) 0 (fm_nx Mc) Mc Nc := wk_tt kq (wk_sub (S' := SSv) (me_s rfl) E7)
      have ktw := wX95_oneMore STv (fun _ => True) (fun y z => z) fN b Mt (wi_N W') trivial _ (gX95_oneMore b Mt T' nb G2.1).1
      rw [G2.2] at ktw
      have ktw : Wk STv (fun _ => True) 0 (fm_nx Mt) Mt Nt := ktw
      have lqq : q < fm_nx Mq := Nat.lt_of_lt_of_le (lx2 lq) o8.2.1
      have ldkq : dk < fm_nx Mq := Nat.lt_of_lt_of_le (lx2 ldk) o8.2.1
      have n69q := tN_69 o3.1.1.1 (dk_is o3.1.1 Cm).2.1
      have k69q := ka E7 (sS_69 o3.1.2.1 (dk_is o3.1.1 Cm).2.1) (wf_n0 o3.1.2.1 (fm_ist rfl n69q)) (by decide) (wf_lt o3.1.2.1 (fm_ist rfl n69q))
      have kpe := pen_k E8 o3.2.1.1 o3.2.1.2.1 nb' o3.2.1.2.2.1
      have lbq := wf_lt o3.2.1.2.1 (fm_ist rfl nb')
      have n327q := tN_327 o3.2.1.1.1 nb'
      have k327q := ka kpe (sS_327 o3.2.1.2.1 nb') (wf_n0 o3.2.1.2.1 (fm_ist rfl n327q)) (by decide) (wf_lt o3.2.1.2.1 (fm_ist rfl n327q))
      refine ⟨G1.1, G2.1, True, Nc, Nt, by rw [G1.2, bz_t trivial], by rw [G2.2, bz_t trivial], relD_mk D0 kc ktw E5 ⟨(tk + 1) % 65536, E9, E12, Nat.mod_lt _ (by decide)⟩ ⟨(gv + 1) % 65536, E10, E13, Nat.mod_lt _ (by decide)⟩ ?_ (fun j hj => ?_), ?_, kc, fun _ => by rw [E11, b67], fun z => absurd trivial z⟩
      · rw [(kf E7 rfl (by decide) ldkq).1, (kf kpe rfl (by decide) lbq).1]
        exact o5
      · rw [(kf E7 (f := 69) rfl (by decide) ldkq).2.2, k69q.2.1, (kf kpe (f := 327) rfl (by decide) lbq).2.2, k327q.2.1]
        exact o4 j hj
      · exact evo_w (evo_t (evo_q (ramQ_t QN1 Q84) o7) E6) (by omega)
    · have b0 : ∀ {P : Prop}, P → ¬ bz P = 0 := fun z => by rw [bz_t z]; decide
      have b9 : ∀ {P : Prop}, ¬ P → bz P = 0 := fun z => by rw [bz_f z]; rfl
      have G1 : HX18_serve d (nI ah) Mc ∧ GX18_serve d (nI ah) Mc = (Int32.ofInt 0, N1) := by
        unfold HX18_serve HX18_serve_0 GX18_serve GX18_serve_0
        dsimp only
        rw [c4, a71, fi_neg h, o2]
        dsimp only
        rw [c2, hh]
        dsimp only
        rw [fi_neg (b0 hof), c5, c4, o2]
        dsimp only
        rw [c2, m2]
        dsimp only
        rw [ek, g3]
        dsimp only
        rw [fi_pos (b9 hg)]
        exact ⟨⟨fun z => absurd z h, fun _ => ⟨o1, fun z => absurd z (b0 hof), fun _ => ⟨o1, m1, g2, fun _ => trivial, fun z => absurd (b9 hg) z⟩⟩⟩, rfl⟩
      have G2 : HX95_oneMore b Mt ∧ GX95_oneMore b Mt = (Int32.ofInt 0, T1) := by
        by_cases y1 : ∃ l, gthL (nuC x Mc) size' bl size' k false = some l ∧ okG l
        · by_cases y2 : inR (anA an gv size') 8
          · have y3 : ¬ inR (an + Int64.ofInt 2) 2 := fun z => by
              obtain ⟨l, l1, l2⟩ := y1
              exact hg ⟨l, l1, l2, y2, z⟩
            unfold HX95_oneMore HX95_oneMore_0 GX95_oneMore GX95_oneMore_0 GX95_oneMore_111
            dsimp only
            rw [z1, eT, ht]
            dsimp only
            rw [fi_neg (b0 hof), m4]
            dsimp only
            rw [ek, z2, eA Mt v12.symm v17 v6, t4]
            dsimp only
            rw [fi_neg (b0 y1), i8]
            dsimp only
            rw [fi_neg (b0 y2), f2, i2]
            dsimp only
            rw [fi_pos (b9 y3)]
            exact ⟨⟨n330, fun z => absurd z (b0 hof), fun _ => ⟨m3, n330, t3, fun z => absurd z (b0 y1), fun _ => ⟨fun z => absurd z (b0 y2), fun _ => ⟨fun _ => trivial, fun z => absurd (b9 y3) z⟩⟩⟩⟩, rfl⟩
          · unfold HX95_oneMore HX95_oneMore_0 GX95_oneMore GX95_oneMore_0 GX95_oneMore_111
            dsimp only
            rw [z1, eT, ht]
            dsimp only
            rw [fi_neg (b0 hof), m4]
            dsimp only
            rw [ek, z2, eA Mt v12.symm v17 v6, t4]
            dsimp only
            rw [fi_neg (b0 y1), i8]
            dsimp only
            rw [fi_pos (b9 y2)]
            exact ⟨⟨n330, fun z => absurd z (b0 hof), fun _ => ⟨m3, n330, t3, fun z => absurd z (b0 y1), fun _ => ⟨fun _ => trivial, fun z => absurd (b9 y2) z⟩⟩⟩, rfl⟩
        · unfold HX95_oneMore HX95_oneMore_0 GX95_oneMore GX95_oneMore_0 GX95_oneMore_111
          dsimp only
          rw [z1, eT, ht]
          dsimp only
          rw [fi_neg (b0 hof), m4]
          dsimp only
          rw [ek, z2, eA Mt v12.symm v17 v6, t4]
          dsimp only
          rw [fi_pos (b9 y1)]
          exact ⟨⟨n330, fun z => absurd z (b0 hof), fun _ => ⟨m3, n330, t3, fun _ => trivial, fun z => absurd (b9 y1) z⟩⟩, rfl⟩
      have ktw := wX95_oneMore STv (fun _ => True) (fun y z => z) fN b Mt (wi_N W') trivial _ (gX95_oneMore b Mt T' nb G2.1).1
      rw [G2.2] at ktw
      have ktw : Wk STv (fun _ => True) 0 (fm_nx Mt) Mt T1 := ktw
      refine ⟨G1.1, G2.1, False, N1, T1, by rw [G1.2, bz_f id], by rw [G2.2, bz_f id], relD_mk D0 (wk_sub (me_s rfl) kN1) ktw R1 ⟨tk, f76, f335, v15⟩ ⟨gv, f77, f336, v18⟩ f70 K1, evo_w (evo_q QN1 (evo_r r 0 N1)) (by omega), wk_sub (me_s rfl) kN1, fun z => z.elim, fun _ => f67⟩
  · have G1 : HX18_serve d (nI ah) Mc ∧ GX18_serve d (nI ah) Mc = (Int32.ofInt 0, Mc) := by
      unfold HX18_serve HX18_serve_0 GX18_serve GX18_serve_0 GX18_serve_33
      dsimp only
      rw [c4, a71, fi_neg h, o2]
      dsimp only
      rw [c2, hh]
      dsimp only
      rw [fi_pos (by rw [bz_f hof]; rfl)]
      exact ⟨⟨fun z => absurd z h, fun _ => ⟨o1, fun _ => trivial, fun z => absurd (by rw [bz_f hof]; rfl) z⟩⟩, rfl⟩
    have G2 : HX95_oneMore b Mt ∧ GX95_oneMore b Mt = (Int32.ofInt 0, Mt) := by
      unfold HX95_oneMore HX95_oneMore_0 GX95_oneMore GX95_oneMore_0
      dsimp only
      rw [z1, eT, ht]
      dsimp only
      rw [fi_pos (by rw [bz_f hof]; rfl)]
      exact ⟨⟨n330, fun _ => trivial, fun z => absurd (by rw [bz_f hof]; rfl) z⟩, rfl⟩
    refine ⟨G1.1, G2.1, False, Mc, Mt, by rw [G1.2, bz_f id], by rw [G2.2, bz_f id], D0, evo_w (evo_r r 0 Mc) (by omega), wk_r (wi_N W), fun z => z.elim, fun _ => rfl⟩
end Sv3
