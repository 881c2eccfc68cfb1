/-! disks: a request is answered on both sides -/
set_option maxRecDepth 100000
/-- the twin's end of a request -/
noncomputable def tlG (b : Nat) (an : Int64) (x7 : Int32) (w : Int64) (M : FM) : FM :=
  let M17 : FM := GX95_put b an (Int32.ofInt 4) x7.toInt64 M
  let M18 : FM := GX95_put b (an + (Int64.ofInt 4)) (Int32.ofInt 4) w M17
  let x19 : Int32 := ((M18.1 335 b 0) + (Int32.ofInt 1))
  let M20 : FM := fm_sI M18 335 b 0 (x19 - x19 / (Int32.ofInt 65536) * (Int32.ofInt 65536))
  let x21 : Int32 := ((M20.1 336 b 0) + (Int32.ofInt 1))
  let M22 : FM := fm_sI M20 336 b 0 (x21 - x21 / (Int32.ofInt 65536) * (Int32.ofInt 65536))
  let x23 : Nat := (M22.2.2 334 b 0)
  let M24 : FM := GX95_put b ((M22.2.1 3 x23 (Int32.ofInt 2).toNatClampNeg) + (Int64.ofInt 2)) (Int32.ofInt 2) ((M22.1 336 b 0).toInt64) M22
  fm_sI M24 337 b 0 ((M24.1 337 b 0) + (Int32.ofInt 1))
def tlH (b : Nat) (an : Int64) (x7 : Int32) (w : Int64) (M : FM) : Prop :=
  (HX95_put b an (Int32.ofInt 4) x7.toInt64 M ∧ let M17 : FM := GX95_put b an (Int32.ofInt 4) x7.toInt64 M; (HX95_put b (an + (Int64.ofInt 4)) (Int32.ofInt 4) w M17 ∧ let M18 : FM := GX95_put b (an + (Int64.ofInt 4)) (Int32.ofInt 4) w M17; let x19 : Int32 := ((M18.1 335 b 0) + (Int32.ofInt 1)); let M20 : FM := fm_sI M18 335 b 0 (x19 - x19 / (Int32.ofInt 65536) * (Int32.ofInt 65536)); let x21 : Int32 := ((M20.1 336 b 0) + (Int32.ofInt 1)); let M22 : FM := fm_sI M20 336 b 0 (x21 - x21 / (Int32.ofInt 65536) * (Int32.ofInt 65536)); let x23 : Nat := (M22.2.2 334 b 0); (HX95_put b ((M22.2.1 3 x23 (Int32.ofInt 2).toNatClampNeg) + (Int64.ofInt 2)) (Int32.ofInt 2) ((M22.1 336 b 0).toInt64) M22 ∧ True)))
abbrev SEn : Nat → Prop := fun y => fe_mem [67, 76, 77, 208, 1201, 1203, 1204] y = true
def PEn (b c : Nat) (M : FM) (f y : Nat) : Prop := PRm c M f y ∨ (y = b ∧ 335 ≤ f ∧ f ≤ 337)
theorem pen_t {b c : Nat} {M N X : FM} (h : Frm (PEn b c M) M N) (k : Frm (PEn b c N) N X) : Frm (PEn b c M) M X :=
  frm_t h (frm_w k (fun f y q => q.elim (fun z => Or.inl (prm_w h.1 f y z)) Or.inr))
theorem inc16 {t : Nat} (h : t < 65536) : (nI t + Int32.ofInt 1) &&& Int32.ofInt 65535 = nI ((t + 1) % 65536) ∧ (nI t + Int32.ofInt 1) - (nI t + Int32.ofInt 1) / Int32.ofInt 65536 * Int32.ofInt 65536 = nI ((t + 1) % 65536) := by
  rw [up_b (by omega)]
  constructor
  · refine ui_inj ?_
    rw [ui_and, ui_nI, ui_nI, show ui (Int32.ofInt 65535) = 2 ^ 16 - 1 from rfl, Nat.and_two_pow_sub_one_eq_mod]
    omega
  · refine ui_inj ?_
    rw [i_rem (by rw [ui_nI]; omega) (by decide), ui_nI, ui_nI, show ui (Int32.ofInt 65536) = 65536 from rfl]
    omega
theorem nI_mod {gv size : Nat} (h : gv < 65536) (h1 : 0 < size) (h2 : size ≤ 16) : nI gv - nI gv / nI size * nI size = nI (gv % size) := by
  apply ui_inj
  rw [i_rem (by rw [ui_nI]; omega) (by rw [ui_nI]; omega), ui_nI, ui_nI, ui_nI]
  have := Nat.mod_lt gv h1
  rw [Nat.mod_eq_of_lt (show gv < 4294967296 by omega), Nat.mod_eq_of_lt (show size < 4294967296 by omega), Nat.mod_eq_of_lt (show gv % size < 4294967296 by omega)]
theorem nI_n0 {size : Nat} (h1 : 0 < size) (h2 : size ≤ 16) : ¬ nI size = 0 := fun z => by
  have := nI_j (a := size) (b := 0) (by omega) (by decide) z
  omega
theorem X20_answer' {q size gv : Nat} {an : Int64} {M : FM} (h71 : M.1 71 q 0 = nI size) (hs : 0 < size ∧ size ≤ 16) (h75 : M.2.1 75 q 0 = an) (h77 : M.1 77 q 0 = nI gv) (hg : gv < 65536) : HX20_answer q M ∧ GX20_answer q M = (anA an gv size, M) := by
  unfold HX20_answer HX20_answer_0 GX20_answer GX20_answer_0
  dsimp only
  rw [h71, h75, h77, nI_mod hg hs.1 hs.2]
  exact ⟨⟨nI_n0 hs.1 hs.2, trivial⟩, rfl⟩
section En
variable {d x dk q rq b r c size gv tk k : Nat} {ea an w : Int64} {Mc Mt : FM}
theorem ty_I {M : FM} {f a i : Nat} {v : Int32} (h : ty_nb f = true) (T : Ty M) : Ty (fm_sI M f a i v) := ⟨T.1, tyb_sI h T.2⟩
theorem rel_end (R : RelRam r c Mc Mt) (nd : fm_is Mc 22 22 d = true) (nrq : fm_is Mc 29 29 rq = true) (h58 : Mc.2.2 58 d 0 = x) (h60 : Mc.2.2 60 d 0 = q) (hr : Mc.2.2 222 x 0 = r) (h83 : Mc.2.1 83 rq 0 = ea) (h80 : Mc.1 80 rq 0 = nI k) (h84 : Mc.2.1 84 rq 0 = w)
    (h71 : Mc.1 71 q 0 = nI size) (hsz : 0 < size ∧ size ≤ 16) (h75 : Mc.2.1 75 q 0 = an) (h77 : Mc.1 77 q 0 = nI gv) (hgv : gv < 65536) (h76 : Mc.1 76 q 0 = nI tk) (htk : tk < 65536)
    (nb : fm_is Mt 93 93 b = true) (hc : Mt.2.2 326 b 0 = c) (t335 : Mt.1 335 b 0 = nI tk) (t336 : Mt.1 336 b 0 = nI gv) (t2 : Mt.2.1 3 (Mt.2.2 334 b 0) 2 = an) (hea : inR ea 1) (hans : ansP an gv size) (res : Int32) :
    HX18_serve_132 d rq res Mc ∧ tlH b (anA an gv size) (nI k) w (GX93_put c ea (vb res.toInt64 0) Mt) ∧ ∃ Nc Nt, GX18_serve_132 d rq res Mc = (Int32.ofInt 1, Nc) ∧ tlG b (anA an gv size) (nI k) w (GX93_put c ea (vb res.toInt64 0) Mt) = Nt ∧
      RelRam r c Nc Nt ∧ Evo r 16 Mc Nc ∧ Wk SEn (fun _ => True) 0 (fm_nx Mc) Mc Nc ∧ Frm (PEn b c Mt) Mt Nt ∧ (Nc.1 76 q 0 = nI ((tk + 1) % 65536) ∧ Nc.1 77 q 0 = nI ((gv + 1) % 65536) ∧ Nc.1 67 d 0 = Mc.1 67 d 0 + Int32.ofInt 1) ∧
      Nt.1 335 b 0 = nI ((tk + 1) % 65536) ∧ Nt.1 336 b 0 = nI ((gv + 1) % 65536) := by
  have T := R.1.1
  have nx : fm_is Mc 76 76 x = true := by rw [← h58]; exact tN_58 T.1 nd
  have nq : fm_is Mc 28 28 q = true := by rw [← h60]; exact tN_60 T.1 nd
  obtain ⟨a1, a2⟩ := hans
  have i4 : inR (anA an gv size) 4 := by unfold inR at *; omega
  have i5 : inR (anA an gv size + Int64.ofInt 4) 4 := by
    unfold inR at *
    rw [ul_add, show ul (Int64.ofInt 4) = 4 from rfl]
    omega
  -- the result
  obtain ⟨p1, p2, p3, p4, p5, p6⟩ := rel_byteF (w := res) (u := vb res.toInt64 0) R nx hr hea (fun i hi => vb_0 res i hi)
  have k1 := p5 (fm_nx Mc) (Nat.le_refl _)
  have f58 : ∀ {N : FM}, Wk SEn (fun _ => True) 0 (fm_nx Mc) Mc N → N.2.2 58 d 0 = x ∧ N.2.2 60 d 0 = q ∧ N.2.2 222 x 0 = r ∧ fm_is N 76 76 x = true ∧ fm_is N 28 28 q = true ∧ fm_is N 22 22 d = true ∧ N.1 80 rq 0 = nI k ∧ N.2.1 84 rq 0 = w ∧ N.1 71 q 0 = nI size ∧ N.2.1 75 q 0 = an := fun {N} kk => by
    have W := R.1.2.1
    have ld := wf_lt W (fm_ist rfl nd)
    have lx := wf_lt W (fm_ist rfl nx)
    have lq := wf_lt W (fm_ist rfl nq)
    have lr := wf_lt W (fm_ist rfl nrq)
    refine ⟨?_, ?_, ?_, kis kk W rfl nx, kis kk W rfl nq, kis kk W rfl nd, ?_, ?_, ?_, ?_⟩
    · rw [(kf kk rfl (by decide) ld).2.2]; exact h58
    · rw [(kf kk rfl (by decide) ld).2.2]; exact h60
    · rw [(kf kk rfl (by decide) lx).2.2]; exact hr
    · rw [(kf kk rfl (by decide) lr).1]; exact h80
    · rw [(kf kk rfl (by decide) lr).2.1]; exact h84
    · rw [(kf kk rfl (by decide) lq).1]; exact h71
    · rw [(kf kk rfl (by decide) lq).2.1]; exact h75
  have lq := wf_lt R.1.2.1 (fm_ist rfl nq)
  have ld := wf_lt R.1.2.1 (fm_ist rfl nd)
  have k1' := wk_sub (S' := SEn) (me_s rfl) k1
  obtain ⟨x1, x2, x3, x4, x5, x5d, x6, x7, x8, x9⟩ := f58 k1'
  have m76 : (GX19_put x ea res Mc).1 76 q 0 = nI tk := by rw [(kf k1 rfl (by decide) lq).1]; exact h76
  have m77 : (GX19_put x ea res Mc).1 77 q 0 = nI gv := by rw [(kf k1 rfl (by decide) lq).1]; exact h77
  have m67 : (GX19_put x ea res Mc).1 67 d 0 = Mc.1 67 d 0 := by rw [(kf k1 rfl (by decide) ld).1]
  have nb1 := frm_is p6 nb
  have hc1 : (GX93_put c ea (vb res.toInt64 0) Mt).2.2 326 b 0 = c := by rw [p6.1]; exact hc
  obtain ⟨_, _, _, _, xr⟩ := prm_x R.2.1.1 R.2.1.2.1 nb R.2.1.2.2.1
  have u335 : (GX93_put c ea (vb res.toInt64 0) Mt).1 335 b 0 = nI tk := by rw [(p6.2 335 b 0 (fun z => absurd z.1 (by decide))).1]; exact t335
  have u336 : (GX93_put c ea (vb res.toInt64 0) Mt).1 336 b 0 = nI gv := by rw [(p6.2 336 b 0 (fun z => absurd z.1 (by decide))).1]; exact t336
  have u2 : (GX93_put c ea (vb res.toInt64 0) Mt).2.1 3 ((GX93_put c ea (vb res.toInt64 0) Mt).2.2 334 b 0) 2 = an := by rw [p6.1, (p6.2 3 _ 2 xr).2]; exact t2
  have F1 : Frm (PEn b c Mt) Mt (GX93_put c ea (vb res.toInt64 0) Mt) := frm_w p6 (fun _ _ z => Or.inl z)
  unfold HX18_serve_132 GX18_serve_132
  dsimp only
  rw [h58, h83]
  generalize GX19_put x ea res Mc = C1 at *
  generalize GX93_put c ea (vb res.toInt64 0) Mt = D1 at *
  rw [x2]
  obtain ⟨an1, an2⟩ := X20_answer' x8 hsz x9 m77 hgv
  rw [an2]
  dsimp only
  rw [x1, x6]
  -- the head
  obtain ⟨q1, q2, q3, q4, q5, q6⟩ := rel_num (s := 4) (v := (nI k).toInt64) p3 x4 x3 nb1 hc1 i4 (by decide)
  have q1 : HX107_putNumber x (anA an gv size) (Int32.ofInt 4) (nI k).toInt64 C1 := q1
  have q2 : HX95_put b (anA an gv size) (Int32.ofInt 4) (nI k).toInt64 D1 := q2
  have q3 : RelRam r c (GX107_putNumber x (anA an gv size) (Int32.ofInt 4) (nI k).toInt64 C1) (GX95_put b (anA an gv size) (Int32.ofInt 4) (nI k).toInt64 D1) := q3
  have q4 : Evo r 4 C1 (GX107_putNumber x (anA an gv size) (Int32.ofInt 4) (nI k).toInt64 C1) := q4
  have q5 : ∀ N, N ≤ fm_nx C1 → Wk SPt (fun _ => True) 0 N C1 (GX107_putNumber x (anA an gv size) (Int32.ofInt 4) (nI k).toInt64 C1) := q5
  have q6 : Frm (PRm c D1) D1 (GX95_put b (anA an gv size) (Int32.ofInt 4) (nI k).toInt64 D1) := q6
  have k2 := q5 (fm_nx C1) (Nat.le_refl _)
  have k2' := wk_tt k1' (wk_sub (S' := SEn) (me_s rfl) k2)
  obtain ⟨y1, y2, y3, y4, y5, y5d, y6, y7, y8, y9⟩ := f58 k2'
  have lq1 : q < fm_nx C1 := Nat.lt_of_lt_of_le lq k1.2.1
  have ld1 : d < fm_nx C1 := Nat.lt_of_lt_of_le ld k1.2.1
  have o76 : (GX107_putNumber x (anA an gv size) (Int32.ofInt 4) (nI k).toInt64 C1).1 76 q 0 = nI tk := by rw [(kf k2 rfl (by decide) lq1).1]; exact m76
  have o77 : (GX107_putNumber x (anA an gv size) (Int32.ofInt 4) (nI k).toInt64 C1).1 77 q 0 = nI gv := by rw [(kf k2 rfl (by decide) lq1).1]; exact m77
  have o67 : (GX107_putNumber x (anA an gv size) (Int32.ofInt 4) (nI k).toInt64 C1).1 67 d 0 = Mc.1 67 d 0 := by rw [(kf k2 rfl (by decide) ld1).1]; exact m67
  have nb2 := frm_is q6 nb1
  have hc2 : (GX95_put b (anA an gv size) (Int32.ofInt 4) (nI k).toInt64 D1).2.2 326 b 0 = c := by rw [q6.1]; exact hc1
  obtain ⟨_, _, _, _, xr1⟩ := prm_x p3.2.1.1 p3.2.1.2.1 nb1 p3.2.1.2.2.1
  have v335 : (GX95_put b (anA an gv size) (Int32.ofInt 4) (nI k).toInt64 D1).1 335 b 0 = nI tk := by rw [(q6.2 335 b 0 (fun z => absurd z.1 (by decide))).1]; exact u335
  have v336 : (GX95_put b (anA an gv size) (Int32.ofInt 4) (nI k).toInt64 D1).1 336 b 0 = nI gv := by rw [(q6.2 336 b 0 (fun z => absurd z.1 (by decide))).1]; exact u336
  have v2 : (GX95_put b (anA an gv size) (Int32.ofInt 4) (nI k).toInt64 D1).2.1 3 ((GX95_put b (anA an gv size) (Int32.ofInt 4) (nI k).toInt64 D1).2.2 334 b 0) 2 = an := by rw [q6.1, (q6.2 3 _ 2 xr1).2]; exact u2
  have F2 : Frm (PEn b c Mt) Mt (GX95_put b (anA an gv size) (Int32.ofInt 4) (nI k).toInt64 D1) := pen_t F1 (frm_w q6 (fun _ _ z => Or.inl z))
  unfold tlH tlG
  dsimp only
  generalize GX107_putNumber x (anA an gv size) (Int32.ofInt 4) (nI k).toInt64 C1 = C2 at *
  generalize GX95_put b (anA an gv size) (Int32.ofInt 4) (nI k).toInt64 D1 = D2 at *
  rw [y2]
  obtain ⟨an3, an4⟩ := X20_answer' y8 hsz y9 o77 hgv
  rw [an4]
  dsimp only
  rw [y1, y7]
  -- how much was written
  obtain ⟨r1, r2, r3, r4, r5, r6⟩ := rel_num (s := 4) (v := w) q3 y4 y3 nb2 hc2 i5 (by decide)
  have r1 : HX107_putNumber x (anA an gv size + Int64.ofInt 4) (Int32.ofInt 4) w C2 := r1
  have r2 : HX95_put b (anA an gv size + Int64.ofInt 4) (Int32.ofInt 4) w D2 := r2
  have r3 : RelRam r c (GX107_putNumber x (anA an gv size + Int64.ofInt 4) (Int32.ofInt 4) w C2) (GX95_put b (anA an gv size + Int64.ofInt 4) (Int32.ofInt 4) w D2) := r3
  have r4 : Evo r 4 C2 (GX107_putNumber x (anA an gv size + Int64.ofInt 4) (Int32.ofInt 4) w C2) := r4
  have r5 : ∀ N, N ≤ fm_nx C2 → Wk SPt (fun _ => True) 0 N C2 (GX107_putNumber x (anA an gv size + Int64.ofInt 4) (Int32.ofInt 4) w C2) := r5
  have r6 : Frm (PRm c D2) D2 (GX95_put b (anA an gv size + Int64.ofInt 4) (Int32.ofInt 4) w D2) := r6
  have k3 := r5 (fm_nx C2) (Nat.le_refl _)
  have k3' := wk_tt k2' (wk_sub (S' := SEn) (me_s rfl) k3)
  obtain ⟨z1, z2, z3, z4, z5, z5d, z6, z7, z8, z9⟩ := f58 k3'
  have lq2 : q < fm_nx C2 := Nat.lt_of_lt_of_le lq1 k2.2.1
  have ld2 : d < fm_nx C2 := Nat.lt_of_lt_of_le ld1 k2.2.1
  have s76 : (GX107_putNumber x (anA an gv size + Int64.ofInt 4) (Int32.ofInt 4) w C2).1 76 q 0 = nI tk := by rw [(kf k3 rfl (by decide) lq2).1]; exact o76
  have s77 : (GX107_putNumber x (anA an gv size + Int64.ofInt 4) (Int32.ofInt 4) w C2).1 77 q 0 = nI gv := by rw [(kf k3 rfl (by decide) lq2).1]; exact o77
  have s67 : (GX107_putNumber x (anA an gv size + Int64.ofInt 4) (Int32.ofInt 4) w C2).1 67 d 0 = Mc.1 67 d 0 := by rw [(kf k3 rfl (by decide) ld2).1]; exact o67
  have nb3 := frm_is r6 nb2
  have hc3 : (GX95_put b (anA an gv size + Int64.ofInt 4) (Int32.ofInt 4) w D2).2.2 326 b 0 = c := by rw [r6.1]; exact hc2
  obtain ⟨_, _, _, _, xr2⟩ := prm_x q3.2.1.1 q3.2.1.2.1 nb2 q3.2.1.2.2.1
  have w335 : (GX95_put b (anA an gv size + Int64.ofInt 4) (Int32.ofInt 4) w D2).1 335 b 0 = nI tk := by rw [(r6.2 335 b 0 (fun z => absurd z.1 (by decide))).1]; exact v335
  have w336 : (GX95_put b (anA an gv size + Int64.ofInt 4) (Int32.ofInt 4) w D2).1 336 b 0 = nI gv := by rw [(r6.2 336 b 0 (fun z => absurd z.1 (by decide))).1]; exact v336
  have w2 : (GX95_put b (anA an gv size + Int64.ofInt 4) (Int32.ofInt 4) w D2).2.1 3 ((GX95_put b (anA an gv size + Int64.ofInt 4) (Int32.ofInt 4) w D2).2.2 334 b 0) 2 = an := by rw [r6.1, (r6.2 3 _ 2 xr2).2]; exact v2
  have F3 : Frm (PEn b c Mt) Mt (GX95_put b (anA an gv size + Int64.ofInt 4) (Int32.ofInt 4) w D2) := pen_t F2 (frm_w r6 (fun _ _ z => Or.inl z))
  have ev3 := evo_t (evo_t p4 q4) r4
  have p1' := p1
  clear k1 k2 k3 p1 p4 p5 q4 q5 r4 r5 p6 q6 r6
  generalize GX107_putNumber x (anA an gv size + Int64.ofInt 4) (Int32.ofInt 4) w C2 = C3 at *
  generalize GX95_put b (anA an gv size + Int64.ofInt 4) (Int32.ofInt 4) w D2 = D3 at *
  obtain ⟨c16, t16⟩ := inc16 htk
  obtain ⟨c17, t17⟩ := inc16 hgv
  rw [z2, s76, c16]
  have z2' : (fm_sI C3 76 q 0 (nI ((tk + 1) % 65536))).2.2 60 d 0 = q := z2
  rw [z2']
  have s77' : (fm_sI C3 76 q 0 (nI ((tk + 1) % 65536))).1 77 q 0 = nI gv := (oI (fun z => absurd z.1 (by decide))).trans s77
  rw [s77', c17, w335, t16]
  have w336' : (fm_sI D3 335 b 0 (nI ((tk + 1) % 65536))).1 336 b 0 = nI gv := (oI (fun z => absurd z.1 (by decide))).trans w336
  rw [w336', t17]
  -- memory behind the counts
  have kC1 := wq_fI (f := 76) (i := 0) (v := nI ((tk + 1) % 65536)) r3.1.2.1 z5 rfl (by decide)
  have QC1 := ramQ_k kC1 (by unfold RFr; decide) (ty_I rfl r3.1.1) r3.1
  have kC2 := wq_fI (M := fm_sI C3 76 q 0 (nI ((tk + 1) % 65536))) (f := 77) (a := q) (i := 0) (v := nI ((gv + 1) % 65536)) QC1.1.2.1 z5 rfl (by decide)
  have QC2 := ramQ_k kC2 (by unfold RFr; decide) (ty_I rfl QC1.1.1) QC1.1
  have kT1 := wq_fI (f := 335) (i := 0) (v := nI ((tk + 1) % 65536)) r3.2.1.2.1 nb3 rfl (by decide)
  have QT1 := trQ_k kT1 (by unfold TFr; decide) (ty_I rfl r3.2.1.1) r3.2.1
  have kT2 := wq_fI (M := fm_sI D3 335 b 0 (nI ((tk + 1) % 65536))) (f := 336) (a := b) (i := 0) (v := nI ((gv + 1) % 65536)) QT1.1.2.1 nb3 rfl (by decide)
  have QT2 := trQ_k kT2 (by unfold TFr; decide) (ty_I rfl QT1.1.1) QT1.1
  have R4 := rel_tq (rel_q r3 (ramQ_t QC1 QC2)) (trQ_t QT1 QT2)
  have ev4 := evo_q' ev3 (ramQ_t QC1 QC2)
  have k4' := wk_tt (wk_tt k3' (wk_sub (S' := SEn) (fun y (z : y = 76) => by rw [z]; rfl) kC1)) (wk_sub (S' := SEn) (fun y (z : y = 77) => by rw [z]; rfl) kC2)
  obtain ⟨a1', a2', a3', a4', a5', a5d', a6', a7', a8', a9'⟩ := f58 k4'
  have F4 : Frm (PEn b c Mt) Mt (fm_sI (fm_sI D3 335 b 0 (nI ((tk + 1) % 65536))) 336 b 0 (nI ((gv + 1) % 65536))) := frm_I (frm_I F3 (Or.inr ⟨rfl, by decide, by decide⟩)) (Or.inr ⟨rfl, by decide, by decide⟩)
  have nb4 : fm_is (fm_sI (fm_sI D3 335 b 0 (nI ((tk + 1) % 65536))) 336 b 0 (nI ((gv + 1) % 65536))) 93 93 b = true := nb3
  have hc4 : (fm_sI (fm_sI D3 335 b 0 (nI ((tk + 1) % 65536))) 336 b 0 (nI ((gv + 1) % 65536))).2.2 326 b 0 = c := hc3
  have v4 : (fm_sI (fm_sI D3 335 b 0 (nI ((tk + 1) % 65536))) 336 b 0 (nI ((gv + 1) % 65536))).2.1 3 ((fm_sI (fm_sI D3 335 b 0 (nI ((tk + 1) % 65536))) 336 b 0 (nI ((gv + 1) % 65536))).2.2 334 b 0) 2 = an := w2
  have e77 : (fm_sI (fm_sI C3 76 q 0 (nI ((tk + 1) % 65536))) 77 q 0 (nI ((gv + 1) % 65536))).1 77 q 0 = nI ((gv + 1) % 65536) := if_pos ⟨rfl, rfl, rfl⟩
  have e76 : (fm_sI (fm_sI C3 76 q 0 (nI ((tk + 1) % 65536))) 77 q 0 (nI ((gv + 1) % 65536))).1 76 q 0 = nI ((tk + 1) % 65536) := (oI (fun z => absurd z.1 (by decide))).trans (if_pos ⟨rfl, rfl, rfl⟩)
  have e67 : (fm_sI (fm_sI C3 76 q 0 (nI ((tk + 1) % 65536))) 77 q 0 (nI ((gv + 1) % 65536))).1 67 d 0 = Mc.1 67 d 0 := ((oI (fun z => absurd z.1 (by decide))).trans (oI (fun z => absurd z.1 (by decide)))).trans s67
  have g336 : (fm_sI (fm_sI D3 335 b 0 (nI ((tk + 1) % 65536))) 336 b 0 (nI ((gv + 1) % 65536))).1 336 b 0 = nI ((gv + 1) % 65536) := if_pos ⟨rfl, rfl, rfl⟩
  have g335 : (fm_sI (fm_sI D3 335 b 0 (nI ((tk + 1) % 65536))) 336 b 0 (nI ((gv + 1) % 65536))).1 335 b 0 = nI ((tk + 1) % 65536) := (oI (fun z => absurd z.1 (by decide))).trans (if_pos ⟨rfl, rfl, rfl⟩)
  have z0 : (Int32.ofInt 2).toNatClampNeg = 2 := by decide
  rw [z0]
  generalize fm_sI (fm_sI C3 76 q 0 (nI ((tk + 1) % 65536))) 77 q 0 (nI ((gv + 1) % 65536)) = C4 at *
  generalize fm_sI (fm_sI D3 335 b 0 (nI ((tk + 1) % 65536))) 336 b 0 (nI ((gv + 1) % 65536)) = D4 at *
  rw [a1', a2', e77, a9', g336, v4]
  obtain ⟨h1, h2, h3, h4, h5, h6⟩ := rel_num (s := 2) (v := (nI ((gv + 1) % 65536)).toInt64) R4 a4' a3' nb4 hc4 a2 (by decide)
  have h1 : HX107_putNumber x (an + Int64.ofInt 2) (Int32.ofInt 2) (nI ((gv + 1) % 65536)).toInt64 C4 := h1
  have h2 : HX95_put b (an + Int64.ofInt 2) (Int32.ofInt 2) (nI ((gv + 1) % 65536)).toInt64 D4 := h2
  have h3 : RelRam r c (GX107_putNumber x (an + Int64.ofInt 2) (Int32.ofInt 2) (nI ((gv + 1) % 65536)).toInt64 C4) (GX95_put b (an + Int64.ofInt 2) (Int32.ofInt 2) (nI ((gv + 1) % 65536)).toInt64 D4) := h3
  have h4 : Evo r 2 C4 (GX107_putNumber x (an + Int64.ofInt 2) (Int32.ofInt 2) (nI ((gv + 1) % 65536)).toInt64 C4) := h4
  have h5 := h5 (fm_nx C4) (Nat.le_refl _)
  have h5 : Wk SPt (fun _ => True) 0 (fm_nx C4) C4 (GX107_putNumber x (an + Int64.ofInt 2) (Int32.ofInt 2) (nI ((gv + 1) % 65536)).toInt64 C4) := h5
  have h6 : Frm (PRm c D4) D4 (GX95_put b (an + Int64.ofInt 2) (Int32.ofInt 2) (nI ((gv + 1) % 65536)).toInt64 D4) := h6
  have lq4 : q < fm_nx C4 := Nat.lt_of_lt_of_le lq k4'.2.1
  have ld4 : d < fm_nx C4 := Nat.lt_of_lt_of_le ld k4'.2.1
  have i76 := (kf h5 (f := 76) rfl (by decide) lq4).1
  have i77 := (kf h5 (f := 77) rfl (by decide) lq4).1
  have i67 := (kf h5 (f := 67) rfl (by decide) ld4).1
  have nd5 := kis h5 R4.1.2.1 rfl a5d'
  have j335 := (h6.2 335 b 0 (fun z => absurd z.1 (by decide))).1
  have j336 := (h6.2 336 b 0 (fun z => absurd z.1 (by decide))).1
  have nb5 := frm_is h6 nb4
  have F5 : Frm (PEn b c Mt) Mt (GX95_put b (an + Int64.ofInt 2) (Int32.ofInt 2) (nI ((gv + 1) % 65536)).toInt64 D4) := pen_t F4 (frm_w h6 (fun _ _ z => Or.inl z))
  have ev5 := evo_t ev4 h4
  have k5' := wk_tt k4' (wk_sub (S' := SEn) (me_s rfl) h5)
  clear h4 h5 h6
  generalize GX107_putNumber x (an + Int64.ofInt 2) (Int32.ofInt 2) (nI ((gv + 1) % 65536)).toInt64 C4 = C5 at *
  generalize GX95_put b (an + Int64.ofInt 2) (Int32.ofInt 2) (nI ((gv + 1) % 65536)).toInt64 D4 = D5 at *
  have kC5 := wq_fI (f := 67) (i := 0) (v := C5.1 67 d 0 + Int32.ofInt 1) h3.1.2.1 nd5 rfl (by decide)
  have QC5 := ramQ_k kC5 (by unfold RFr; decide) (ty_I rfl h3.1.1) h3.1
  have kT5 := wq_fI (f := 337) (i := 0) (v := D5.1 337 b 0 + Int32.ofInt 1) h3.2.1.2.1 nb5 rfl (by decide)
  have QT5 := trQ_k kT5 (by unfold TFr; decide) (ty_I rfl h3.2.1.1) h3.2.1
  refine ⟨⟨p1', an1, q1, an3, r1, h1, trivial⟩, ⟨q2, r2, h2, trivial⟩, _, _, rfl, rfl, rel_tq (rel_q h3 QC5) QT5, evo_w (evo_q' ev5 QC5) (by decide), wk_tt k5' (wk_sub (S' := SEn) (fun y (z : y = 67) => by rw [z]; rfl) kC5), frm_I F5 (Or.inr ⟨rfl, by decide, by decide⟩), ⟨?_, ?_, ?_⟩, ?_, ?_⟩
  · exact (oI (fun z => absurd z.1 (by decide))).trans (by rw [i76, e76])
  · exact (oI (fun z => absurd z.1 (by decide))).trans (by rw [i77, e77])
  · exact (if_pos ⟨rfl, rfl, rfl⟩).trans (by rw [i67, e67])
  · exact (oI (fun z => absurd z.1 (by decide))).trans (by rw [j335, g335])
  · exact (oI (fun z => absurd z.1 (by decide))).trans (by rw [j336, g336])
end En
