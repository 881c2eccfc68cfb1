/-! control registers: traps -/
set_option maxRecDepth 100000
theorem isT {M : FM} {x t : Nat} (h : M.2.2 0 x 0 = t) {lo hi : Nat} (h1 : lo ≤ t) (h2 : t ≤ hi) : fm_is M lo hi x = true := fm_isi (by rw [h]; exact h1) (by rw [h]; exact h2)
theorem isN {M : FM} {x t : Nat} (h : M.2.2 0 x 0 = t) {s : Nat} (hs : s ≠ t) : ¬ fm_is M s s x = true := fun q => hs (by have := fm_isd q; omega)
theorem tg_of {u : Nat} {M : FM} (s1 : ∀ q ∈ cH, M.2.2 0 (tbl M u q.1) 0 = q.2.1) {n t : Nat} (h : (cH.any fun q => Nat.beq q.1 n && Nat.beq q.2.1 t) = true) : M.2.2 0 (tbl M u n) 0 = t := by
  obtain ⟨q, hq, e⟩ := List.any_eq_true.mp h
  rw [Bool.and_eq_true] at e
  rw [← Nat.eq_of_beq_eq_true e.1, ← Nat.eq_of_beq_eq_true e.2]
  exact s1 q hq
section Ds
variable {M : FM} {x : Nat}
theorem d14s (h : M.2.2 0 x 0 = 14) : (fi (fm_is M 14 14 x = true) (GX77_show x M) ((fi (fm_is M 15 15 x = true) (GX79_show x M) ((fi (fm_is M 16 16 x = true) (GX78_show x M) (GX77_show x M)))))) = (M.2.1 41 x 0, M) := fi_pos (isT h (by decide) (by decide))
theorem d14w (h : M.2.2 0 x 0 = 14) (v : Int64) : (fi (fm_is M 14 14 x = true) (GX77_write x v M) ((fi (fm_is M 15 15 x = true) (GX77_write x v M) ((fi (fm_is M 16 16 x = true) (GX78_write x v M) (GX82_write x v M)))))) = fm_sL M 41 x 0 (((M.2.1 41 x 0) &&& ((M.2.1 42 x 0) ^^^ Int64.ofInt (-1))) ||| (v &&& (M.2.1 42 x 0))) := fi_pos (isT h (by decide) (by decide))
end Ds
theorem thr_all (x v : Int64) : (x &&& (Int64.ofInt (-1) ^^^ Int64.ofInt (-1))) ||| (v &&& Int64.ofInt (-1)) = v := by
  refine lb_ext fun i hi => ?_
  rw [lb_or, lb_and, lb_and, lb_xor, lb_m1 i hi]
  simp
theorem lb_m2 (i : Nat) (hi : i < 64) : lb (Int64.ofInt (-2)) i = decide (i ≠ 0) := by
  have e : Int64.ofInt (-2) = Int64.ofInt (-1) ^^^ Int64.ofInt 1 := by decide
  rw [e, lb_xor, lb_m1 i hi, lb_one]
  by_cases h : i = 0
  · rw [h]
    rfl
  · rw [decide_eq_false h, decide_eq_true h]
    rfl
theorem thr_m2 {x : Int64} (hx : lb x 0 = false) (v : Int64) : (x &&& (Int64.ofInt (-2) ^^^ Int64.ofInt (-1))) ||| (v &&& Int64.ofInt (-2)) = v &&& Int64.ofInt (-2) := by
  refine lb_ext fun i hi => ?_
  rw [lb_or, lb_and, lb_and, lb_xor, lb_m1 i hi, lb_m2 i hi]
  by_cases h : i = 0
  · rw [h, hx]
    simp
  · simp [h]
/-- where a trap goes -/
noncomputable def bg (w : Int64) (i c : Int32) : Int64 := fi (i = 0) (w &&& Int64.ofInt (-4)) (fi (lg_cmp (w &&& Int64.ofInt 1) (Int64.ofInt 1) = 0) ((w &&& Int64.ofInt (-4)) + (Int64.ofInt 4 * c.toInt64)) (w &&& Int64.ofInt (-4)))
noncomputable def tld (i c : Int32) : Int64 := fi (i = 0) c.toInt64 (c.toInt64 ||| Int64.ofInt (-9223372036854775808))
theorem X100_beginning (w : Int64) (i c : Int32) (M : FM) : GX100_beginning w i c M = (bg w i c, M) := by
  unfold GX100_beginning GX100_beginning_0 GX100_beginning_31 GX100_beginning_33 bg
  by_cases h : i = 0
  · rw [fi_pos h, fi_pos h]
  · rw [fi_neg h, fi_neg h]
    by_cases q : lg_cmp (w &&& Int64.ofInt 1) (Int64.ofInt 1) = 0
    · rw [fi_pos q, fi_pos q]
    · rw [fi_neg q, fi_neg q]
theorem X80_take {b P C V Wv : Nat} {M : FM} (hP : M.2.2 51 b 0 = P) (hC : M.2.2 52 b 0 = C) (hV : M.2.2 53 b 0 = V) (hW : M.2.2 49 b 0 = Wv) (tP : M.2.2 0 P 0 = 14) (tC : M.2.2 0 C 0 = 14) (tV : M.2.2 0 V 0 = 14) (tW : M.2.2 0 Wv 0 = 14)
    (mP : M.2.1 42 P 0 = Int64.ofInt (-2)) (mC : M.2.1 42 C 0 = Int64.ofInt (-1)) (mV : M.2.1 42 V 0 = Int64.ofInt (-1)) (nP : Wv ≠ P) (nC : Wv ≠ C) (nV : Wv ≠ V) (ev : lb (M.2.1 41 P 0) 0 = false) (i c : Int32) (v p : Int64) :
    GX80_take b i c v p M = (bg (M.2.1 41 Wv 0) i c, fm_sL (fm_sL (fm_sL M 41 P 0 (p &&& Int64.ofInt (-2))) 41 C 0 (tld i c)) 41 V 0 v) := by
  have k28 : ∀ s, GX80_take_28 b i c v C s (fm_sL M 41 P 0 (p &&& Int64.ofInt (-2))) = (bg (M.2.1 41 Wv 0) i c, fm_sL (fm_sL (fm_sL M 41 P 0 (p &&& Int64.ofInt (-2))) 41 C 0 s) 41 V 0 v) := by
    intro s
    have e1 : (fm_sL M 41 P 0 (p &&& Int64.ofInt (-2))).2.1 42 C 0 = Int64.ofInt (-1) := (rLf (by decide)).trans mC
    have e2 : (fm_sL (fm_sL M 41 P 0 (p &&& Int64.ofInt (-2))) 41 C 0 s).2.1 42 V 0 = Int64.ofInt (-1) := (rLf (by decide)).trans ((rLf (by decide)).trans mV)
    have e3 : (fm_sL (fm_sL (fm_sL M 41 P 0 (p &&& Int64.ofInt (-2))) 41 C 0 s) 41 V 0 v).2.1 41 Wv 0 = M.2.1 41 Wv 0 := by
      rw [rL, if_neg (fun z => nV z.2.1), rL, if_neg (fun z => nC z.2.1), rL, if_neg (fun z => nP z.2.1)]
    unfold GX80_take_28 GX80_take_82 GX80_take_84
    rw [d14w (M := fm_sL M 41 P 0 (p &&& Int64.ofInt (-2))) tC, e1, thr_all]
    try dsimp only
    rw [show (fm_sL (fm_sL M 41 P 0 (p &&& Int64.ofInt (-2))) 41 C 0 s).2.2 53 b 0 = V from hV]
    rw [d14w (M := fm_sL (fm_sL M 41 P 0 (p &&& Int64.ofInt (-2))) 41 C 0 s) tV, e2, thr_all]
    rw [show (fm_sL (fm_sL (fm_sL M 41 P 0 (p &&& Int64.ofInt (-2))) 41 C 0 s) 41 V 0 v).2.2 49 b 0 = Wv from hW]
    rw [d14s (M := fm_sL (fm_sL (fm_sL M 41 P 0 (p &&& Int64.ofInt (-2))) 41 C 0 s) 41 V 0 v) tW]
    try dsimp only
    rw [show (fm_sL (fm_sL (fm_sL M 41 P 0 (p &&& Int64.ofInt (-2))) 41 C 0 s) 41 V 0 v).2.2 49 b 0 = Wv from hW]
    rw [d14s (M := fm_sL (fm_sL (fm_sL M 41 P 0 (p &&& Int64.ofInt (-2))) 41 C 0 s) 41 V 0 v) tW]
    try dsimp only
    rw [e3]
    unfold bg
    by_cases h : i = 0
    · rw [fi_pos h, fi_pos h]
    · rw [fi_neg h, fi_neg h]
      by_cases q : lg_cmp (M.2.1 41 Wv 0 &&& Int64.ofInt 1) (Int64.ofInt 1) = 0
      · rw [fi_pos q, fi_pos q]
      · rw [fi_neg q, fi_neg q]
  unfold GX80_take GX80_take_0
  try dsimp only
  rw [hP, d14w tP, mP, thr_m2 ev]
  try dsimp only
  rw [show (fm_sL M 41 P 0 (p &&& Int64.ofInt (-2))).2.2 52 b 0 = C from hC, k28, k28]
  unfold tld
  by_cases h : i = 0
  · rw [fi_pos h, fi_pos h]
  · rw [fi_neg h, fi_neg h]
/-- the status behind a trap: to the machine, to the supervisor -/
noncomputable def trM (x : Int64) (m : Int32) : Int64 := tp (tp (tp2 x (Int32.ofInt 11) m) (Int32.ofInt 7) (bz (lb (tp2 x (Int32.ofInt 11) m) 3 = true))) (Int32.ofInt 3) (bz False)
noncomputable def trS (x : Int64) (m : Int32) : Int64 := tp (tp (tp x (Int32.ofInt 8) (bz (m = Int32.ofInt 1))) (Int32.ofInt 5) (bz (lb (tp x (Int32.ofInt 8) (bz (m = Int32.ofInt 1))) 1 = true))) (Int32.ofInt 1) (bz False)
/-- the memories behind a trap -/
noncomputable def ctM (u P C V st md : Nat) (i c : Int32) (v p b s : Int64) (M : FM) : FM := fm_sI (fm_sL (fm_sL (fm_sL (fm_sL (fm_sL M 41 P 0 (p &&& Int64.ofInt (-2))) 41 C 0 (tld i c)) 41 V 0 v) 39 u 0 b) 41 st 0 s) 37 u 0 (nI md)
noncomputable def ttM (d P C V md : Nat) (i c : Int32) (v p b s : Int64) (M : FM) : FM := fm_sL (fm_sI (fm_sL (fm_sL (fm_sL (fm_sL (fm_sI M 358 d 0 (Int32.ofInt 0)) 3 (M.2.2 361 d 0) P (p &&& Int64.ofInt (-2))) 3 (M.2.2 361 d 0) C (tld i c)) 3 (M.2.2 361 d 0) V v) 3 (M.2.2 361 d 0) 768 s) 360 d 0 (nI md)) 365 d 0 b
section Tr
variable {u d : Nat} {k : Int32} {Mc Mt : FM}
theorem X78_put' {s : Nat} {b v : Int32} {c : Prop} {M : FM} (hv : v = bz c) (hb : ui b < 64) : GX78_put s b v M = fm_sL M 41 s 0 (tp (M.2.1 41 s 0) b v) := by
  rw [hv]
  exact X78_put hb
/-- the component's trap -/
theorem X74_trap (R : RelC u d k Mc Mt) (i c : Int32) {kc : Nat} (hc : ui c = kc) (hk : kc < 64) (v p : Int64) :
    GX74_trap u i c v p Mc = fi (¬ Mc.1 37 u 0 = Int32.ofInt 3 ∧ lb (fi (i = 0) (Mc.2.1 41 (tbl Mc u 770) 0) (Mc.2.1 41 (tbl Mc u 771) 0)) kc = true)
      (bg (Mc.2.1 41 (tbl Mc u 261) 0) i c, ctM u (tbl Mc u 321) (tbl Mc u 322) (tbl Mc u 323) (tbl Mc u 768) 1 i c v p (bg (Mc.2.1 41 (tbl Mc u 261) 0) i c) (trS (Mc.2.1 41 (tbl Mc u 768) 0) (Mc.1 37 u 0)) Mc)
      (bg (Mc.2.1 41 (tbl Mc u 773) 0) i c, ctM u (tbl Mc u 833) (tbl Mc u 834) (tbl Mc u 835) (tbl Mc u 768) 3 i c v p (bg (Mc.2.1 41 (tbl Mc u 773) 0) i c) (trM (Mc.2.1 41 (tbl Mc u 768) 0) (Mc.1 37 u 0)) Mc) := by
  obtain ⟨⟨Tc, nu, S, K⟩, ⟨Tt, nd, VZ, I1, I2, I3, I4⟩, v1, vl, ⟨vm, hm⟩, vc⟩ := R
  obtain ⟨s1, s2, ⟨e27, e28, e29, e30, e31, e34, e35⟩, ⟨b49, b54, b50, b51, b52, b53⟩, ⟨c49, c54, c50, c51, c52, c53⟩, -⟩ := S
  have tg : ∀ q ∈ cH, Mc.2.2 0 (tbl Mc u q.1) 0 = q.2.1 := s1
  have mk := K.1
  have ne : ∀ {a b : Nat}, cN a → cN b → a ≠ b → tbl Mc u a ≠ tbl Mc u b := fun ⟨x, hx, ex⟩ ⟨y, hy, ey⟩ h z => h (by rw [← ex, ← ey] at z ⊢; exact s2 x hx y hy z)
  have ev : lb (Mc.2.1 41 (tbl Mc u 833) 0) 0 = false := by rw [v1_at v1 (cn_of rfl)]; exact I2
  have ev2 : lb (Mc.2.1 41 (tbl Mc u 321) 0) 0 = false := by rw [v1_at v1 (cn_of rfl)]; exact I3
  have k113 : GX74_trap_113 u i c v p Mc = (bg (Mc.2.1 41 (tbl Mc u 773) 0) i c, ctM u (tbl Mc u 833) (tbl Mc u 834) (tbl Mc u 835) (tbl Mc u 768) 3 i c v p (bg (Mc.2.1 41 (tbl Mc u 773) 0) i c) (trM (Mc.2.1 41 (tbl Mc u 768) 0) (Mc.1 37 u 0)) Mc) := by
    have t := X80_take (M := Mc) b51 b52 b53 b49 (tg_of s1 rfl) (tg_of s1 rfl) (tg_of s1 rfl) (tg_of s1 rfl) (mk (833, 14, Int64.ofInt (-2)) (by decide)) (mk (834, 14, Int64.ofInt (-1)) (by decide)) (mk (835, 14, Int64.ofInt (-1)) (by decide)) (ne (cn_of rfl) (cn_of rfl) (by decide)) (ne (cn_of rfl) (cn_of rfl) (by decide)) (ne (cn_of rfl) (cn_of rfl) (by decide)) ev i c v p
    have e768 : ∀ b, (fm_sL (fm_sL (fm_sL (fm_sL Mc 41 (tbl Mc u 833) 0 (p &&& Int64.ofInt (-2))) 41 (tbl Mc u 834) 0 (tld i c)) 41 (tbl Mc u 835) 0 v) 39 u 0 b).2.1 41 (tbl Mc u 768) 0 = Mc.2.1 41 (tbl Mc u 768) 0 := fun b => by
      rw [rLf (by decide), rL, if_neg (fun z => ne (a := 768) (b := 835) (cn_of rfl) (cn_of rfl) (by decide) z.2.1), rL, if_neg (fun z => ne (a := 768) (b := 834) (cn_of rfl) (cn_of rfl) (by decide) z.2.1), rL, if_neg (fun z => ne (a := 768) (b := 833) (cn_of rfl) (cn_of rfl) (by decide) z.2.1)]
    unfold GX74_trap_113 GX74_trap_173
    dsimp only
    rw [t]
    try dsimp only
    rw [show ∀ b, (fm_sL (fm_sL (fm_sL (fm_sL Mc 41 (tbl Mc u 833) 0 (p &&& Int64.ofInt (-2))) 41 (tbl Mc u 834) 0 (tld i c)) 41 (tbl Mc u 835) 0 v) 39 u 0 b).2.2 27 u 0 = tbl Mc u 768 from fun _ => e27]
    rw [show ∀ b, (fm_sL (fm_sL (fm_sL (fm_sL Mc 41 (tbl Mc u 833) 0 (p &&& Int64.ofInt (-2))) 41 (tbl Mc u 834) 0 (tld i c)) 41 (tbl Mc u 835) 0 v) 39 u 0 b).1 37 u 0 = Mc.1 37 u 0 from fun _ => rfl]
    rw [X78_putTwo (k := 11) (b := Int32.ofInt 11) (by rw [← vm] at hm; exact hm) rfl (by decide), e768]
    rw [show ∀ x, (fm_sL (fm_sL (fm_sL (fm_sL (fm_sL Mc 41 (tbl Mc u 833) 0 (p &&& Int64.ofInt (-2))) 41 (tbl Mc u 834) 0 (tld i c)) 41 (tbl Mc u 835) 0 v) 39 u 0 (bg (Mc.2.1 41 (tbl Mc u 773) 0) i c)) 41 (tbl Mc u 768) 0 x).2.2 27 u 0 = tbl Mc u 768 from fun _ => e27]
    rw [X78_has (k := 3) rfl (by decide), sL_at]
    try dsimp only
    rw [X78_put (by decide), sL_at, sL_same]
    rw [show ∀ x, (fm_sL (fm_sL (fm_sL (fm_sL (fm_sL Mc 41 (tbl Mc u 833) 0 (p &&& Int64.ofInt (-2))) 41 (tbl Mc u 834) 0 (tld i c)) 41 (tbl Mc u 835) 0 v) 39 u 0 (bg (Mc.2.1 41 (tbl Mc u 773) 0) i c)) 41 (tbl Mc u 768) 0 x).2.2 27 u 0 = tbl Mc u 768 from fun _ => e27]
    rw [X78_put' bz0 (by decide), sL_at, sL_same, bz0]
    refine Prod.ext ?_ rfl
    dsimp only
    rw [rI1, rLf (by decide), sL_at]
  have kS : ∀ g, g = bz (Mc.1 37 u 0 = Int32.ofInt 1) → GX74_trap_77 u (tbl Mc u 768) (Int32.ofInt 8) g (fm_sL (fm_sL (fm_sL (fm_sL Mc 41 (tbl Mc u 321) 0 (p &&& Int64.ofInt (-2))) 41 (tbl Mc u 322) 0 (tld i c)) 41 (tbl Mc u 323) 0 v) 39 u 0 (bg (Mc.2.1 41 (tbl Mc u 261) 0) i c)) = (bg (Mc.2.1 41 (tbl Mc u 261) 0) i c, ctM u (tbl Mc u 321) (tbl Mc u 322) (tbl Mc u 323) (tbl Mc u 768) 1 i c v p (bg (Mc.2.1 41 (tbl Mc u 261) 0) i c) (trS (Mc.2.1 41 (tbl Mc u 768) 0) (Mc.1 37 u 0)) Mc) := by
    intro g hg
    have e768 : (fm_sL (fm_sL (fm_sL (fm_sL Mc 41 (tbl Mc u 321) 0 (p &&& Int64.ofInt (-2))) 41 (tbl Mc u 322) 0 (tld i c)) 41 (tbl Mc u 323) 0 v) 39 u 0 (bg (Mc.2.1 41 (tbl Mc u 261) 0) i c)).2.1 41 (tbl Mc u 768) 0 = Mc.2.1 41 (tbl Mc u 768) 0 := by
      rw [rLf (by decide), rL, if_neg (fun z => ne (a := 768) (b := 323) (cn_of rfl) (cn_of rfl) (by decide) z.2.1), rL, if_neg (fun z => ne (a := 768) (b := 322) (cn_of rfl) (cn_of rfl) (by decide) z.2.1), rL, if_neg (fun z => ne (a := 768) (b := 321) (cn_of rfl) (cn_of rfl) (by decide) z.2.1)]
    unfold GX74_trap_77 GX74_trap_173
    rw [X78_put' hg (by decide), e768, hg]
    try dsimp only
    rw [show ∀ x, (fm_sL (fm_sL (fm_sL (fm_sL (fm_sL Mc 41 (tbl Mc u 321) 0 (p &&& Int64.ofInt (-2))) 41 (tbl Mc u 322) 0 (tld i c)) 41 (tbl Mc u 323) 0 v) 39 u 0 (bg (Mc.2.1 41 (tbl Mc u 261) 0) i c)) 41 (tbl Mc u 768) 0 x).2.2 27 u 0 = tbl Mc u 768 from fun _ => e27]
    rw [X78_has (k := 1) rfl (by decide), sL_at]
    try dsimp only
    rw [X78_put (by decide), sL_at, sL_same]
    rw [show ∀ x, (fm_sL (fm_sL (fm_sL (fm_sL (fm_sL Mc 41 (tbl Mc u 321) 0 (p &&& Int64.ofInt (-2))) 41 (tbl Mc u 322) 0 (tld i c)) 41 (tbl Mc u 323) 0 v) 39 u 0 (bg (Mc.2.1 41 (tbl Mc u 261) 0) i c)) 41 (tbl Mc u 768) 0 x).2.2 27 u 0 = tbl Mc u 768 from fun _ => e27]
    rw [X78_put' bz0 (by decide), sL_at, sL_same, bz0]
    refine Prod.ext ?_ rfl
    dsimp only
    rw [rI1, rLf (by decide), sL_at]
  have k21 : ∀ s, GX74_trap_21 u i c v p s Mc = fi (¬ Mc.1 37 u 0 = Int32.ofInt 3 ∧ lb s kc = true)
      (bg (Mc.2.1 41 (tbl Mc u 261) 0) i c, ctM u (tbl Mc u 321) (tbl Mc u 322) (tbl Mc u 323) (tbl Mc u 768) 1 i c v p (bg (Mc.2.1 41 (tbl Mc u 261) 0) i c) (trS (Mc.2.1 41 (tbl Mc u 768) 0) (Mc.1 37 u 0)) Mc)
      (bg (Mc.2.1 41 (tbl Mc u 773) 0) i c, ctM u (tbl Mc u 833) (tbl Mc u 834) (tbl Mc u 835) (tbl Mc u 768) 3 i c v p (bg (Mc.2.1 41 (tbl Mc u 773) 0) i c) (trM (Mc.2.1 41 (tbl Mc u 768) 0) (Mc.1 37 u 0)) Mc) := by
    intro s
    unfold GX74_trap_21
    by_cases h3 : Mc.1 37 u 0 = Int32.ofInt 3
    · rw [fi_pos h3, fi_neg (fun z => z.1 h3), k113]
    · rw [fi_neg h3]
      by_cases hb : lb s kc = true
      · rw [fi_pos ((bit_c1 s hc hk).mpr hb), fi_pos (c := ¬ Mc.1 37 u 0 = Int32.ofInt 3 ∧ lb s kc = true) ⟨h3, hb⟩]
        have t := X80_take (M := Mc) c51 c52 c53 c49 (tg_of s1 rfl) (tg_of s1 rfl) (tg_of s1 rfl) (tg_of s1 rfl) (mk (321, 14, Int64.ofInt (-2)) (by decide)) (mk (322, 14, Int64.ofInt (-1)) (by decide)) (mk (323, 14, Int64.ofInt (-1)) (by decide)) (ne (cn_of rfl) (cn_of rfl) (by decide)) (ne (cn_of rfl) (cn_of rfl) (by decide)) (ne (cn_of rfl) (cn_of rfl) (by decide)) ev2 i c v p
        try dsimp only
        rw [t]
        try dsimp only
        rw [show ∀ b, (fm_sL (fm_sL (fm_sL (fm_sL Mc 41 (tbl Mc u 321) 0 (p &&& Int64.ofInt (-2))) 41 (tbl Mc u 322) 0 (tld i c)) 41 (tbl Mc u 323) 0 v) 39 u 0 b).2.2 27 u 0 = tbl Mc u 768 from fun _ => e27]
        by_cases h1 : Mc.1 37 u 0 = Int32.ofInt 1
        · have h1' : (fm_sL (fm_sL (fm_sL (fm_sL Mc 41 (tbl Mc u 321) 0 (p &&& Int64.ofInt (-2))) 41 (tbl Mc u 322) 0 (tld i c)) 41 (tbl Mc u 323) 0 v) 39 u 0 (bg (Mc.2.1 41 (tbl Mc u 261) 0) i c)).1 37 u 0 = Int32.ofInt 1 := h1
          rw [fi_pos h1', kS _ (bz_t h1).symm]
        · have h1' : ¬ (fm_sL (fm_sL (fm_sL (fm_sL Mc 41 (tbl Mc u 321) 0 (p &&& Int64.ofInt (-2))) 41 (tbl Mc u 322) 0 (tld i c)) 41 (tbl Mc u 323) 0 v) 39 u 0 (bg (Mc.2.1 41 (tbl Mc u 261) 0) i c)).1 37 u 0 = Int32.ofInt 1 := h1
          rw [fi_neg h1', kS _ (bz_f h1).symm]
      · rw [fi_neg (fun z => hb ((bit_c1 s hc hk).mp z)), fi_neg (fun z => hb z.2), k113]
  unfold GX74_trap GX74_trap_0
  rw [e28, e29]
  by_cases h : i = 0
  · rw [fi_pos h]
    try dsimp only
    rw [d14s (tg (770, 14, Int64.ofInt 46079) (by decide)), k21, fi_pos h]
  · rw [fi_neg h]
    try dsimp only
    rw [d14s (tg (771, 14, Int64.ofInt 546) (by decide)), k21, fi_neg h]
end Tr
