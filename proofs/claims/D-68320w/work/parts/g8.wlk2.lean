/-! walks: the twin's walk -/
set_option maxRecDepth 100000
theorem lb_ushr9 (d : Nat) : Int32.ofInt 9 * nI d = nI (9 * d) := nI_m
section Ph
variable {a : Int64} {d b : Nat}
theorem mod_w (a d : Nat) : a % 2 ^ (12 + 9 * d) = 4096 * (a / 4096 % 2 ^ (9 * d)) + a % 4096 := by
  rw [Nat.pow_add, show (2 : Nat) ^ 12 = 4096 from rfl, Nat.mod_mul]
  omega
theorem p9 (hd : d ≤ 3) : 2 ^ (9 * d) ≤ 134217728 ∧ 0 < 2 ^ (9 * d) := ⟨Nat.le_trans (Nat.pow_le_pow_right (by decide) (show 9 * d ≤ 27 by omega)) (by decide), Nat.two_pow_pos _⟩
theorem ph_t (a : Int64) (hd : d ≤ 3) (hb : b < 2 ^ 44) : Int64.ofInt 4096 * lN b + (a &&& (Int64.ofInt 4096 * lN (2 ^ (9 * d) - 1) + Int64.ofInt 4095)) = lN (4096 * b + 4096 * (ul a / 4096 % 2 ^ (9 * d)) + ul a % 4096) := by
  obtain ⟨q1, q2⟩ := p9 hd
  have p44 : (2 : Nat) ^ 44 = 17592186044416 := by decide
  rw [show Int64.ofInt 4096 = lN 4096 from rfl, show Int64.ofInt 4095 = lN 4095 from rfl, l_m (by omega) (by omega) (by omega), l_m (by omega) (by omega) (by omega), l_a (by omega)]
  have e : a &&& lN (4096 * (2 ^ (9 * d) - 1) + 4095) = lN (4096 * (ul a / 4096 % 2 ^ (9 * d)) + ul a % 4096) := by
    have m := Nat.mod_lt (ul a / 4096) q2
    apply ul_inj
    rw [ul_and, l_big (by omega), l_big (by omega), show 4096 * (2 ^ (9 * d) - 1) + 4095 = 2 ^ (12 + 9 * d) - 1 by rw [Nat.pow_add]; omega, Nat.and_two_pow_sub_one_eq_mod, mod_w]
  have m := Nat.mod_lt (ul a / 4096) q2
  rw [e, l_a (by omega), Nat.add_assoc]
theorem ph_c (a : Int64) (hd : d ≤ 3) (hb : b < 2 ^ 44) (hz : b % 2 ^ (9 * d) = 0) : (lN b <<< ((Int32.ofInt 12).toInt64 &&& 63)) ||| lN (ul a / 2 ^ 0 % 2 ^ (12 + 9 * d)) = lN (4096 * b + 4096 * (ul a / 4096 % 2 ^ (9 * d)) + ul a % 4096) := by
  obtain ⟨q1, q2⟩ := p9 hd
  have p44 : (2 : Nat) ^ 44 = 17592186044416 := by decide
  have m := Nat.mod_lt (ul a / 4096) q2
  have m2 : ul a % 2 ^ (12 + 9 * d) < 2 ^ (12 + 9 * d) := Nat.mod_lt _ (Nat.two_pow_pos _)
  have p12 : 2 ^ (12 + 9 * d) = 4096 * 2 ^ (9 * d) := by rw [Nat.pow_add]
  apply ul_inj
  rw [ul_or, ul_shl, l_big (by omega), Nat.pow_zero, Nat.div_one, l_big (n := ul a % 2 ^ (12 + 9 * d)) (by omega), l_big (by omega), show ui (Int32.ofInt 12) % 64 = 12 from rfl, Nat.mod_eq_of_lt (by omega)]
  have e : b * 2 ^ 12 = (b / 2 ^ (9 * d)) <<< (12 + 9 * d) := by
    rw [Nat.shiftLeft_eq, p12]
    have := Nat.div_add_mod b (2 ^ (9 * d))
    rw [hz, Nat.add_zero] at this
    rw [show b / 2 ^ (9 * d) * (4096 * 2 ^ (9 * d)) = 4096 * (2 ^ (9 * d) * (b / 2 ^ (9 * d))) by rw [Nat.mul_left_comm, Nat.mul_comm (b / 2 ^ (9 * d))], this]
    omega
  have e2 : (b / 2 ^ (9 * d)) <<< (12 + 9 * d) + ul a % 2 ^ (12 + 9 * d) = b * 2 ^ 12 + ul a % 2 ^ (12 + 9 * d) := by rw [e]
  rw [e, ← Nat.shiftLeft_add_eq_or_of_lt m2, e2, mod_w]
  omega
theorem vp (a : Int64) (hd : d ≤ 3) : ul a / 2 ^ (12 + 9 * d) % 2 ^ 9 = ul a / 4096 / 2 ^ (9 * d) % 512 := by
  rw [Nat.pow_add, ← Nat.div_div_eq_div_mul]
theorem eat_lt {A pg : Nat} (hp : pg < 2 ^ 44) : eat A d pg < 2 ^ 57 := by
  unfold eat
  have p44 : (2 : Nat) ^ 44 = 17592186044416 := by decide
  have p57 : (2 : Nat) ^ 57 = 144115188075855872 := by decide
  omega
theorem al0 (hd : d ≤ 3) (hb : b < 2 ^ 44) : lg_cmp (lN b &&& lN (2 ^ (9 * d) - 1)) (Int64.ofInt 0) = 0 ↔ b % 2 ^ (9 * d) = 0 := by
  obtain ⟨q1, q2⟩ := p9 hd
  have p44 : (2 : Nat) ^ 44 = 17592186044416 := by decide
  rw [cl_eq, ul_and, l_big (by omega), l_big (by omega), Nat.and_two_pow_sub_one_eq_mod]
  exact Iff.rfl
end Ph
/-- what the twin reads -/
noncomputable def ldT (c : Nat) (M : FM) (x : Nat) : Int64 := (GX93_number c (lN x) (Int32.ofInt 8) M).1
noncomputable def wrT (c : Nat) (o : Option (Nat × Int64)) (M : FM) : FM := match o with
  | none => M
  | some q => GX93_keep c (lN q.1) (Int32.ofInt 8) q.2 M
def okR (x : Nat) : Prop := inR (lN x) 8
theorem okR_o {x : Nat} (h : okR x) : ∃ o, ul (lN x) = 2147483648 + o ∧ o + 8 ≤ 4194304 := ⟨ul (lN x) - 2147483648, by unfold okR inR at h; omega, by unfold okR inR at h; omega⟩
section Wt
variable {w c : Nat} {M : FM} {K : Rg} {F T : Nat → Nat} {rt ac md : Int32} {a : Int64}
theorem ldT_e (Tm : Ty M) (n : fm_is M 98 98 c = true) {x : Nat} (h : okR x) : HX93_number c (lN x) (Int32.ofInt 8) M ∧ GX93_number c (lN x) (Int32.ofInt 8) M = (ldT c M x, M) := by
  obtain ⟨o, h1, h2⟩ := okR_o h
  obtain ⟨a1, v, a2, a3⟩ := X93_number Tm n (sz := Int32.ofInt 8) rfl h1 (by decide) h2
  refine ⟨a1, ?_⟩
  unfold ldT
  rw [a2]
theorem ldT_s {N : FM} (Tm : Ty M) (n : fm_is M 98 98 c = true) (TN : Ty N) (nN : fm_is N 98 98 c = true) (hb : ∀ i, i < 33554432 → tmb N c i = tmb M c i) {x : Nat} (h : okR x) : ldT c N x = ldT c M x := by
  obtain ⟨o, h1, h2⟩ := okR_o h
  obtain ⟨_, v, a2, a3⟩ := X93_number Tm n (sz := Int32.ofInt 8) rfl h1 (by decide) h2
  obtain ⟨_, u, b2, b3⟩ := X93_number TN nN (sz := Int32.ofInt 8) rfl h1 (by decide) h2
  unfold ldT
  rw [a2, b2]
  refine lb_ext fun i hi => ?_
  rw [a3, b3, hb _ (by omega)]
theorem frW_tmb {N : FM} (h : FrW w M N) (i : Nat) : tmb N c i = tmb M c i := by
  unfold tmb
  rw [h.2.1, h.2.2 3 _ _ (fun q => by omega)]
/-- the books of the twin's walk: what stands in it -/
def WtV (w c : Nat) (M : FM) (K : Rg) (rt : Int32) (tb : Int64) : Prop := fm_is M 101 101 w = true ∧ M.2.2 423 w 0 = c ∧ fm_is M 98 98 c = true ∧ VGt w M K ∧ M.1 425 w 0 = bz (ib rt 0 = true) ∧ M.1 426 w 0 = bz (ib rt 1 = true) ∧ M.2.1 424 w 0 = tb
theorem frW_W {N : FM} {tb : Int64} (h : FrW w M N) (V : WtV w c M K rt tb) : WtV w c N K rt tb :=
  ⟨frW_is h V.1, by rw [h.2.1]; exact V.2.1, frW_is h V.2.2.1, frW_V h V.2.2.2.1, by rw [h.1]; exact V.2.2.2.2.1, by rw [h.1]; exact V.2.2.2.2.2.1, by rw [h.2.2 424 w 0 (fun q => by omega)]; exact V.2.2.2.2.2.2⟩
def okLw (F T : Nat → Nat) (K : Rg) (x : Nat) : Prop := okR x ∧ letS F T K.1 x 8 (Int32.ofInt 1) (Int32.ofInt 1) 8 0
def okSw (F T : Nat → Nat) (K : Rg) (x : Nat) : Prop := letS F T K.1 x 8 (Int32.ofInt 2) (Int32.ofInt 1) 8 0
theorem X101_last {tb : Int64} (Tm : Ty M) (V : WtV w c M K rt tb) (I : VGi K) (C : covR K F T) (hm : md = 0 ∨ md = Int32.ofInt 1) {x d : Nat} (hx : x < 2 ^ 57) (ok : okR x) (hd : d ≤ 3) :
    ∃ N, FrW w M N ∧ HX101_last w a ac md (lN x) (nI d) M ∧ GX101_last w a ac md (lN x) (nI d) M = (wval (lst (okSw F T K) rt ac md (ul a / 4096) x (ldT c M x) d) (ul a % 4096), wrT c (lst (okSw F T K) rt ac md (ul a / 4096) x (ldT c M x) d).2.1 N) := by
  have V0 := V
  obtain ⟨n, hc, nc, v, h5, h6, _⟩ := V
  obtain ⟨l1, l2⟩ := ldT_e (c := c) Tm nc ok
  obtain ⟨q1, q2⟩ := p9 hd
  generalize hE : ldT c M x = e at *
  have mk : (Int64.ofInt 1 <<< ((Int32.ofInt 9 * nI d).toInt64 &&& 63)) - Int64.ofInt 1 = lN (2 ^ (9 * d) - 1) := ul_inj (by rw [lb_ushr9, msk _ (by omega), l_big (by omega)])
  have rf := X101_refuses h5 h6 e ac hm
  have b6 := X101_bit (M := M) e (k := 6) (by decide)
  have b7 := X101_bit (M := M) e (k := 7) (by decide)
  obtain ⟨N, ⟨i1, i2⟩, fr⟩ := X101_isLet (ac := Int32.ofInt 2) (md := Int32.ofInt 1) (s := 8) (by decide) I C hx Tm n v
  have TN := frW_ty fr Tm
  obtain ⟨o, h1, h2⟩ := okR_o ok
  have kp := fun v : Int64 => X93_keep (v := v) TN (frW_is fr nc) (sz := Int32.ofInt 8) rfl h1 (by decide) h2
  have al := al0 hd (nin_lt e)
  have e125 : ∀ X : FM, GX101_last_125 a e (lN (2 ^ (9 * d) - 1)) X = (lN (4096 * nin e + 4096 * (ul a / 4096 % 2 ^ (9 * d)) + ul a % 4096), X) := fun X => by
    unfold GX101_last_125
    dsimp only
    rw [X101_numberIn, ph_t a hd (nin_lt e)]
  have r79 : HX101_last_79 w a ac (lN x) e (lN (2 ^ (9 * d) - 1)) M ∧ GX101_last_79 w a ac (lN x) e (lN (2 ^ (9 * d) - 1)) M = fi (okSw F T K x) (lN (4096 * nin e + 4096 * (ul a / 4096 % 2 ^ (9 * d)) + ul a % 4096), GX93_keep c (lN x) (Int32.ofInt 8) (e ||| mrk ac) N) (acF ac, N) := by
    have hN : N.2.2 423 w 0 = c := by rw [fr.2.1]; exact hc
    constructor
    · unfold HX101_last_79 HX101_last_121
      rw [show Int32.ofInt 8 = nI 8 from rfl]
      dsimp only
      rw [i2]
      dsimp only
      rw [hN]
      exact ⟨i1, fun _ => trivial, fun _ => ⟨fun _ => ⟨(kp _).1, trivial⟩, fun _ => ⟨(kp _).1, trivial⟩⟩⟩
    · unfold GX101_last_79 GX101_last_121
      rw [show Int32.ofInt 8 = nI 8 from rfl]
      dsimp only
      rw [i2]
      dsimp only
      rw [fi_bz, X101_accessFault, hN, e125, e125]
      unfold mrk okSw
      by_cases h : ac = Int32.ofInt 2
      · rw [fi_pos h, fi_pos h]
      · rw [fi_neg h, fi_neg h]
  have H : HX101_last w a ac md (lN x) (nI d) M := by
    unfold HX101_last HX101_last_0
    dsimp only
    rw [hc, l2]
    dsimp only
    rw [X101_numberIn, rf, mk]
    dsimp only
    rw [show Int32.ofInt 6 = nI 6 from rfl, show Int32.ofInt 7 = nI 7 from rfl, b6]
    dsimp only
    rw [b7]
    exact ⟨l1, fun _ => ⟨fun _ => ⟨fun _ => r79.1, fun _ => ⟨fun _ => ⟨fun _ => r79.1, fun _ => trivial⟩, fun _ => trivial⟩⟩, fun _ => trivial⟩, fun _ => trivial⟩
  have G : GX101_last w a ac md (lN x) (nI d) M = fi (nin e % 2 ^ (9 * d) = 0) (fi (rfs rt e ac md) (pgF ac, M) (fi (lb e 6 = true) (fi (ac = Int32.ofInt 2) (fi (lb e 7 = true) (lN (4096 * nin e + 4096 * (ul a / 4096 % 2 ^ (9 * d)) + ul a % 4096), M) (fi (okSw F T K x) (lN (4096 * nin e + 4096 * (ul a / 4096 % 2 ^ (9 * d)) + ul a % 4096), GX93_keep c (lN x) (Int32.ofInt 8) (e ||| mrk ac) N) (acF ac, N))) (lN (4096 * nin e + 4096 * (ul a / 4096 % 2 ^ (9 * d)) + ul a % 4096), M)) (fi (okSw F T K x) (lN (4096 * nin e + 4096 * (ul a / 4096 % 2 ^ (9 * d)) + ul a % 4096), GX93_keep c (lN x) (Int32.ofInt 8) (e ||| mrk ac) N) (acF ac, N)))) (pgF ac, M) := by
    unfold GX101_last GX101_last_0 GX101_last_49
    dsimp only
    rw [hc, l2]
    dsimp only
    rw [X101_numberIn, mk]
    dsimp only
    rw [propext al, rf]
    dsimp only
    rw [show Int32.ofInt 6 = nI 6 from rfl, show Int32.ofInt 7 = nI 7 from rfl, b6]
    dsimp only
    rw [b7]
    dsimp only
    rw [fi_bz, fi_bz, fi_bz, X101_pageFault, r79.2, e125]
  rw [G]
  unfold lst mkd
  by_cases k1 : nin e % 2 ^ (9 * d) = 0
  · rw [fi_pos k1]
    by_cases k2 : rfs rt e ac md
    · rw [fi_pos k2, fi_neg (show ¬ (nin e % 2 ^ (9 * d) = 0 ∧ ¬ rfs rt e ac md) from fun z => z.2 k2)]
      exact ⟨M, frW_r w M, H, rfl⟩
    · rw [fi_neg k2, fi_pos (show (nin e % 2 ^ (9 * d) = 0 ∧ ¬ rfs rt e ac md) from ⟨k1, k2⟩)]
      have A1 : ∃ N', FrW w M N' ∧ HX101_last w a ac md (lN x) (nI d) M ∧ fi (okSw F T K x) (lN (4096 * nin e + 4096 * (ul a / 4096 % 2 ^ (9 * d)) + ul a % 4096), GX93_keep c (lN x) (Int32.ofInt 8) (e ||| mrk ac) N) (acF ac, N) =
          (wval (fi (okSw F T K x) (.inr (4096 * nin e + 4096 * (ul a / 4096 % 2 ^ (9 * d))), some (x, e ||| mrk ac), [x]) (.inl (acF ac), none, [x])) (ul a % 4096), wrT c (fi (okSw F T K x) (.inr (4096 * nin e + 4096 * (ul a / 4096 % 2 ^ (9 * d))), some (x, e ||| mrk ac), [x]) (.inl (acF ac), none, [x]) : WO).2.1 N') := by
        by_cases k : okSw F T K x
        · rw [fi_pos k, fi_pos k]
          exact ⟨N, fr, H, rfl⟩
        · rw [fi_neg k, fi_neg k]
          exact ⟨N, fr, H, rfl⟩
      by_cases k6 : lb e 6 = true
      · rw [fi_pos k6]
        by_cases h2 : ac = Int32.ofInt 2
        · rw [fi_pos h2]
          by_cases k7 : lb e 7 = true
          · rw [fi_pos k7, fi_pos (show (lb e 6 = true ∧ (ac = Int32.ofInt 2 → lb e 7 = true)) from ⟨k6, fun _ => k7⟩)]
            exact ⟨M, frW_r w M, H, rfl⟩
          · rw [fi_neg k7, fi_neg (show ¬ (lb e 6 = true ∧ (ac = Int32.ofInt 2 → lb e 7 = true)) from fun z => k7 (z.2 h2))]
            exact A1
        · rw [fi_neg h2, fi_pos (show (lb e 6 = true ∧ (ac = Int32.ofInt 2 → lb e 7 = true)) from ⟨k6, fun z => absurd z h2⟩)]
          exact ⟨M, frW_r w M, H, rfl⟩
      · rw [fi_neg k6, fi_neg (show ¬ (lb e 6 = true ∧ (ac = Int32.ofInt 2 → lb e 7 = true)) from fun z => k6 z.1)]
        exact A1
  · rw [fi_neg k1, fi_neg (show ¬ (nin e % 2 ^ (9 * d) = 0 ∧ ¬ rfs rt e ac md) from fun z => k1 z.1)]
    exact ⟨M, frW_r w M, H, rfl⟩
end Wt
