/-! walks: a walk made again, and what is kept of it -/
set_option maxRecDepth 100000
section Wg
variable {ld ld' : Nat → Int64} {okL okS : Nat → Prop} {rt ac md : Int32} {A : Nat}
theorem wlk_8 : ∀ (d pg : Nat), pg < 2 ^ 44 → (wlk ld okL okS rt ac md A d pg).2.2.length ≤ d ∧ ∀ x, x ∈ (wlk ld okL okS rt ac md A d pg).2.2 → x % 8 = 0 ∧ x < 2 ^ 57 := by
  intro d
  induction d with
  | zero => exact fun pg _ => ⟨Nat.le_refl _, fun x h => (by cases h)⟩
  | succ d ih =>
    intro pg hp
    unfold wlk
    have one : [eat A d pg].length ≤ d + 1 ∧ ∀ x, x ∈ [eat A d pg] → x % 8 = 0 ∧ x < 2 ^ 57 := ⟨by show 1 ≤ d + 1; omega, fun x hx => by rw [List.mem_singleton.mp hx]; exact ⟨eat_8, eat_lt hp⟩⟩
    by_cases h1 : okL (eat A d pg)
    · rw [fi_pos h1]
      by_cases h2 : brk (ld (eat A d pg))
      · rw [fi_pos h2]
        exact one
      · rw [fi_neg h2]
        by_cases h3 : lea (ld (eat A d pg))
        · rw [fi_pos h3, lst_w.2]
          exact one
        · rw [fi_neg h3]
          by_cases h4 : d = 0 ∨ stp (ld (eat A d pg))
          · rw [fi_pos h4]
            exact one
          · rw [fi_neg h4]
            obtain ⟨i1, i2⟩ := ih (nin (ld (eat A d pg))) (nin_lt _)
            refine ⟨Nat.succ_le_succ i1, fun x hx => ?_⟩
            rcases List.mem_cons.mp hx with h | h
            · rw [h]; exact ⟨eat_8, eat_lt hp⟩
            · exact i2 x h
    · rw [fi_neg h1]
      exact ⟨Nat.zero_le _, fun x h => (by cases h)⟩
theorem lb_mrk (ac : Int32) {i : Nat} (h6 : i ≠ 6) (h7 : i ≠ 7) (hi : i < 64) : lb (mrk ac) i = false := by
  have b64 : ∀ i, i < 64 → lb (Int64.ofInt 64) i = decide (i = 6) := by decide
  have b192 : ∀ i, i < 64 → lb (Int64.ofInt 192) i = (decide (i = 6) || decide (i = 7)) := by decide
  unfold mrk
  by_cases h : ac = Int32.ofInt 2
  · rw [fi_pos h, b192 i hi, decide_eq_false h6, decide_eq_false h7]; rfl
  · rw [fi_neg h, b64 i hi, decide_eq_false h6]
theorem mrk_lt (ac : Int32) : ul (mrk ac) < 2 ^ 8 := by
  unfold mrk
  by_cases h : ac = Int32.ofInt 2
  · rw [fi_pos h]; decide
  · rw [fi_neg h]; decide
theorem or_mrk (e : Int64) (ac : Int32) {i : Nat} (h6 : i ≠ 6) (h7 : i ≠ 7) (hi : i < 64) : lb (e ||| mrk ac) i = lb e i := by
  rw [lb_or, lb_mrk ac h6 h7 hi, Bool.or_false]
theorem or_div (e : Int64) (ac : Int32) : ul (e ||| mrk ac) / 2 ^ 8 = ul e / 2 ^ 8 := by
  rw [ul_or, ← Nat.shiftRight_eq_div_pow, Nat.shiftRight_or_distrib, Nat.shiftRight_eq_div_pow, Nat.shiftRight_eq_div_pow, Nat.div_eq_of_lt (mrk_lt ac), Nat.or_zero]
theorem or_nin (e : Int64) (ac : Int32) : nin (e ||| mrk ac) = nin e := by
  have h := or_div e ac
  have p8 : (2 : Nat) ^ 8 = 256 := by decide
  unfold nin
  omega
theorem or_brk (e : Int64) (ac : Int32) : brk (e ||| mrk ac) ↔ brk e := by
  have h := or_div e ac
  have p8 : (2 : Nat) ^ 8 = 256 := by decide
  have p54 : (2 : Nat) ^ 54 = 18014398509481984 := by decide
  have e54 : ul (e ||| mrk ac) / 2 ^ 54 = ul e / 2 ^ 54 := by omega
  unfold brk
  rw [or_mrk e ac (by decide) (by decide) (by decide), or_mrk e ac (by decide) (by decide) (by decide), or_mrk e ac (by decide) (by decide) (by decide), e54]
theorem or_lea (e : Int64) (ac : Int32) : lea (e ||| mrk ac) ↔ lea e := by
  unfold lea
  rw [or_mrk e ac (by decide) (by decide) (by decide), or_mrk e ac (by decide) (by decide) (by decide)]
theorem or_rfs (e : Int64) (x : Int32) : rfs rt (e ||| mrk x) ac md ↔ rfs rt e ac md := by
  unfold rfs
  rw [or_mrk e x (by decide) (by decide) (by decide), or_mrk e x (by decide) (by decide) (by decide), or_mrk e x (by decide) (by decide) (by decide), or_mrk e x (by decide) (by decide) (by decide)]
theorem or_mkd (e : Int64) (ac : Int32) : mkd (e ||| mrk ac) ac := by
  unfold mkd
  rw [lb_or, lb_or]
  unfold mrk
  by_cases h : ac = Int32.ofInt 2
  · rw [fi_pos h, show lb (Int64.ofInt 192) 6 = true from by decide, show lb (Int64.ofInt 192) 7 = true from by decide, Bool.or_true, Bool.or_true]
    exact ⟨rfl, fun _ => rfl⟩
  · rw [fi_neg h, show lb (Int64.ofInt 64) 6 = true from by decide, Bool.or_true]
    exact ⟨rfl, fun z => absurd z h⟩
/-- the memory's words behind what is written -/
noncomputable def lwr (o : Option (Nat × Int64)) (ld : Nat → Int64) : Nat → Int64 := fun x => match o with
  | none => ld x
  | some q => if x = q.1 then q.2 else ld x
theorem lst_again {x d b : Nat} {e : Int64} (h : (lst okS rt ac md A x e d).1 = .inr b) : lst okS rt ac md A x (lwr (lst okS rt ac md A x e d).2.1 (fun _ => e) x) d = (.inr b, none, [x]) := by
  have w := lst_w (okS := okS) (rt := rt) (ac := ac) (md := md) (A := A) (x := x) (e := e) (d := d)
  have key : ∀ e', nin e' = nin e → (rfs rt e' ac md ↔ rfs rt e ac md) → mkd e' ac → lst okS rt ac md A x e' d = (.inr b, none, [x]) := by
    intro e' h1 h2 h3
    unfold lst at h ⊢
    rw [h1, propext h2]
    by_cases k : nin e % 2 ^ (9 * d) = 0 ∧ ¬ rfs rt e ac md
    · rw [fi_pos k] at h
      rw [fi_pos k, fi_pos h3]
      by_cases m : mkd e ac
      · rw [fi_pos m] at h
        rw [Sum.inr.inj h]
      · rw [fi_neg m] at h
        by_cases o : okS x
        · rw [fi_pos o] at h
          rw [Sum.inr.inj h]
        · rw [fi_neg o] at h
          cases h
    · rw [fi_neg k] at h
      cases h
  rcases w.1 with q | q
  · rw [q]
    show lst okS rt ac md A x e d = _
    refine key e rfl Iff.rfl ?_
    unfold lst at h q
    by_cases k : nin e % 2 ^ (9 * d) = 0 ∧ ¬ rfs rt e ac md
    · rw [fi_pos k] at h q
      by_cases m : mkd e ac
      · exact m
      · rw [fi_neg m] at h q
        by_cases o : okS x
        · rw [fi_pos o] at q
          cases q
        · rw [fi_neg o] at h
          cases h
    · rw [fi_neg k] at h
      cases h
  · rw [q]
    show lst okS rt ac md A x (if x = x then e ||| mrk ac else e) d = _
    rw [if_pos rfl]
    exact key _ (or_nin e ac) (or_rfs e ac) (or_mkd e ac)
theorem wlk_w : ∀ (d pg : Nat) (q : Nat × Int64), (wlk ld okL okS rt ac md A d pg).2.1 = some q → lea (ld q.1) ∧ q.2 = ld q.1 ||| mrk ac ∧ q.1 ∈ (wlk ld okL okS rt ac md A d pg).2.2 := by
  intro d
  induction d with
  | zero => intro pg q h; cases h
  | succ d ih =>
    intro pg q h
    unfold wlk at h ⊢
    by_cases h1 : okL (eat A d pg)
    · rw [fi_pos h1] at h ⊢
      by_cases h2 : brk (ld (eat A d pg))
      · rw [fi_pos h2] at h
        cases h
      · rw [fi_neg h2] at h ⊢
        by_cases h3 : lea (ld (eat A d pg))
        · rw [fi_pos h3] at h ⊢
          have lw := lst_w (okS := okS) (rt := rt) (ac := ac) (md := md) (A := A) (x := eat A d pg) (e := ld (eat A d pg)) (d := d)
          rcases lw.1 with k | k
          · rw [k] at h
            cases h
          · rw [k] at h
            cases h
            rw [lw.2]
            exact ⟨h3, rfl, List.mem_singleton.mpr rfl⟩
        · rw [fi_neg h3] at h ⊢
          by_cases h4 : d = 0 ∨ stp (ld (eat A d pg))
          · rw [fi_pos h4] at h
            cases h
          · rw [fi_neg h4] at h ⊢
            obtain ⟨i1, i2, i3⟩ := ih _ q h
            exact ⟨i1, i2, List.mem_cons.mpr (Or.inr i3)⟩
    · rw [fi_neg h1] at h
      cases h
/-- made again behind its own write it gives the same, and writes nothing -/
theorem wlk_again {b : Nat} : ∀ (d pg : Nat) (o : Option (Nat × Int64)), (wlk ld okL okS rt ac md A d pg).2.1 = o → (wlk ld okL okS rt ac md A d pg).1 = .inr b →
    wlk (lwr o ld) okL okS rt ac md A d pg = (.inr b, none, (wlk ld okL okS rt ac md A d pg).2.2) := by
  intro d
  induction d with
  | zero => intro pg o _ h; cases h
  | succ d ih =>
    intro pg o ho h
    have hw := wlk_w (ld := ld) (okL := okL) (okS := okS) (rt := rt) (ac := ac) (md := md) (A := A) (d + 1) pg
    rw [ho] at hw
    unfold wlk at h ho ⊢
    by_cases h1 : okL (eat A d pg)
    · rw [fi_pos h1] at h ho
      rw [fi_pos h1, fi_pos h1]
      by_cases h2 : brk (ld (eat A d pg))
      · rw [fi_pos h2] at h
        cases h
      · rw [fi_neg h2] at h ho
        rw [fi_neg h2]
        by_cases h3 : lea (ld (eat A d pg))
        · rw [fi_pos h3] at h ho
          rw [fi_pos h3]
          have lw := lst_w (okS := okS) (rt := rt) (ac := ac) (md := md) (A := A) (x := eat A d pg) (e := ld (eat A d pg)) (d := d)
          have la := lst_again h
          have e1 : lwr (lst okS rt ac md A (eat A d pg) (ld (eat A d pg)) d).2.1 (fun _ => ld (eat A d pg)) (eat A d pg) = lwr o ld (eat A d pg) := by
            rw [ho]
            cases o with
            | none => rfl
            | some q => rfl
          rw [e1] at la
          have e2 : lwr o ld (eat A d pg) = ld (eat A d pg) ∨ lwr o ld (eat A d pg) = ld (eat A d pg) ||| mrk ac := by
            rcases lw.1 with k | k
            · rw [k] at ho
              subst ho
              exact Or.inl rfl
            · rw [k] at ho
              subst ho
              right
              show (if eat A d pg = eat A d pg then _ else _) = _
              rw [if_pos rfl]
          have n2 : ¬ brk (lwr o ld (eat A d pg)) := by
            rcases e2 with k | k
            · rw [k]; exact h2
            · rw [k, or_brk]; exact h2
          have n3 : lea (lwr o ld (eat A d pg)) := by
            rcases e2 with k | k
            · rw [k]; exact h3
            · rw [k, or_lea]; exact h3
          rw [fi_neg n2, fi_pos n3, la, lw.2]
        · rw [fi_neg h3] at h ho
          have el : lwr o ld (eat A d pg) = ld (eat A d pg) := by
            cases o with
            | none => rfl
            | some q =>
              show (if eat A d pg = q.1 then q.2 else ld (eat A d pg)) = _
              rw [if_neg (fun z => h3 (by rw [z]; exact (hw q rfl).1))]
          rw [el, fi_neg h2, fi_neg h3, fi_neg h3]
          by_cases h4 : d = 0 ∨ stp (ld (eat A d pg))
          · rw [fi_pos h4] at h
            cases h
          · rw [fi_neg h4] at h ho
            rw [fi_neg h4, fi_neg h4, ih _ o ho h]
    · rw [fi_neg h1] at h
      cases h
theorem wlk0_again {a tb : Int64} {b : Nat} (h : (wlk0 ld okL okS rt ac md a tb).1 = .inr b) : wlk0 (lwr (wlk0 ld okL okS rt ac md a tb).2.1 ld) okL okS rt ac md a tb = (.inr b, none, (wlk0 ld okL okS rt ac md a tb).2.2) := by
  unfold wlk0 at h ⊢
  by_cases h1 : can a (9 * dps tb + 11)
  · rw [fi_pos h1] at h
    rw [fi_pos h1, fi_pos h1]
    exact wlk_again _ _ _ rfl h
  · rw [fi_neg h1] at h
    cases h
theorem wlk0_8 {a tb : Int64} : (wlk0 ld okL okS rt ac md a tb).2.2.length ≤ 4 ∧ ∀ x, x ∈ (wlk0 ld okL okS rt ac md a tb).2.2 → x % 8 = 0 ∧ x < 2 ^ 57 := by
  unfold wlk0
  by_cases h1 : can a (9 * dps tb + 11)
  · rw [fi_pos h1]
    obtain ⟨q1, q2⟩ := wlk_8 (ld := ld) (okL := okL) (okS := okS) (rt := rt) (ac := ac) (md := md) (A := ul a / 4096) (dps tb) (ul tb % 2 ^ 44) (Nat.mod_lt _ (Nat.two_pow_pos 44))
    exact ⟨Nat.le_trans q1 (dps_le tb), q2⟩
  · rw [fi_neg h1]
    exact ⟨Nat.zero_le _, fun x h => (by cases h)⟩
theorem wlk0_w {a tb : Int64} (q : Nat × Int64) (h : (wlk0 ld okL okS rt ac md a tb).2.1 = some q) : lea (ld q.1) ∧ q.2 = ld q.1 ||| mrk ac ∧ q.1 ∈ (wlk0 ld okL okS rt ac md a tb).2.2 := by
  unfold wlk0 at h ⊢
  by_cases h1 : can a (9 * dps tb + 11)
  · rw [fi_pos h1] at h ⊢
    exact wlk_w _ _ q h
  · rw [fi_neg h1] at h
    cases h
theorem wlk0_c {a tb : Int64} (h : ∀ x, x ∈ (wlk0 ld okL okS rt ac md a tb).2.2 → ld' x = ld x) : wlk0 ld' okL okS rt ac md a tb = wlk0 ld okL okS rt ac md a tb := by
  unfold wlk0 at h ⊢
  by_cases h1 : can a (9 * dps tb + 11)
  · rw [fi_pos h1] at h
    rw [fi_pos h1, fi_pos h1]
    exact wlk_c _ _ h
  · rw [fi_neg h1, fi_neg h1]
/-- it depends on the page alone -/
theorem pg_A (a : Int64) : ul a / 4096 = ul (a >>> ((Int32.ofInt 12).toInt64 &&& 63)) % 2 ^ 52 := by
  have p52 : (2 : Nat) ^ 52 = 4503599627370496 := by decide
  have la := ul_lt a
  by_cases h : ul a < 9223372036854775808
  · rw [ul_sar0 a _ h, show ui (Int32.ofInt 12) % 64 = 12 from rfl, show (2 : Nat) ^ 12 = 4096 from rfl]
    omega
  · rw [ul_sar1 a _ (by omega), show ui (Int32.ofInt 12) % 64 = 12 from rfl, show (2 : Nat) ^ 12 = 4096 from rfl]
    omega
theorem wlk0_pg {a b tb : Int64} (h : a >>> ((Int32.ofInt 12).toInt64 &&& 63) = b >>> ((Int32.ofInt 12).toInt64 &&& 63)) : wlk0 ld okL okS rt ac md a tb = wlk0 ld okL okS rt ac md b tb := by
  have hb : ∀ i, 12 ≤ i → i < 64 → lb a i = lb b i := fun i h1 h2 => by
    have q1 := lb_sar a (Int32.ofInt 12) (k := 12) rfl (i - 12) (by omega)
    have q2 := lb_sar b (Int32.ofInt 12) (k := 12) rfl (i - 12) (by omega)
    rw [if_pos (by omega), show i - 12 + 12 = i by omega] at q1 q2
    rw [← q1, ← q2, h]
  have hc : can a (9 * dps tb + 11) ↔ can b (9 * dps tb + 11) := by
    have d3 : 3 ≤ dps tb := by
      unfold dps
      by_cases h : srt tb = 8
      · rw [fi_pos h]; exact Nat.le_refl _
      · rw [fi_neg h]; decide
    have d4 := dps_le tb
    unfold can
    exact ⟨fun q i h1 h2 => by rw [← hb i (by omega) h2, ← hb _ (by omega) (by omega)]; exact q i h1 h2, fun q i h1 h2 => by rw [hb i (by omega) h2, hb _ (by omega) (by omega)]; exact q i h1 h2⟩
  unfold wlk0
  rw [propext hc, pg_A a, pg_A b, h]
end Wg
/-- the count of writes of an entry's page -/
def pgn (x : Nat) : Nat := (x - 2147483648) / 4096
theorem okR_x {x : Nat} (hx : x < 18446744073709551616) (h : okR x) : 2147483648 ≤ x ∧ x + 8 ≤ 2151677952 ∧ pgn x < 1024 := by
  unfold okR inR at h
  rw [l_big hx] at h
  unfold pgn
  omega
section Lp
variable {r : Nat} {M N : FM} {x : Nat}
/-- what stands in a page that stays -/
theorem ldC_p (R : RamI r M) (RN : RamI r N) (hx : x < 18446744073709551616) (h : okR x) (h8 : x % 8 = 0) (hb : ∀ i, i / 32768 = pgn x → cmb N r i = cmb M r i) : ldC r N x = ldC r M x := by
  obtain ⟨o, h1, h2⟩ := okR_o h
  obtain ⟨_, v, a2, a3⟩ := X11_load R.1 R.2.2.1 h1 (sz := Int32.ofInt 8) (s := 8) rfl (by decide) (by decide) h2
  obtain ⟨_, u, b2, b3⟩ := X11_load RN.1 RN.2.2.1 h1 (sz := Int32.ofInt 8) (s := 8) rfl (by decide) (by decide) h2
  unfold ldC
  rw [a2, b2]
  rw [l_big hx] at h1
  refine lb_ext fun i hi => ?_
  rw [a3, b3, hb _ (by unfold pgn; omega)]
theorem X85_writes {y : Nat} (hr : M.2.2 247 y 0 = r) (R : RamI r M) (hx : x < 18446744073709551616) (h : okR x) : HX85_writes y (lN x) M ∧ GX85_writes y (lN x) M = (cwr M r (pgn x), M) := by
  obtain ⟨o, h1, h2⟩ := okR_o h
  obtain ⟨p, p1, p2⟩ := X11_pageOf h1 (by omega) M
  have hp := okR_x hx h
  rw [l_big hx] at h1
  have ep : p = nI (pgn x) := ui_inj (by rw [p2, ui_nI]; unfold pgn; omega)
  unfold HX85_writes HX85_writes_0 GX85_writes GX85_writes_0
  dsimp only
  rw [hr, p1, ep]
  dsimp only
  rw [o_cl (by omega)]
  exact ⟨⟨in_nI (tL_204 R.1.1 R.2.2.1) hp.2.2 (by decide), trivial⟩, rfl⟩
/-- what is read behind a store -/
theorem ldC_st (R : RamI r M) {y : Nat} {v : Int64} {N : FM} (hx : x < 18446744073709551616) (h : okR x) (h8 : x % 8 = 0) (hy : y < 18446744073709551616) (oy : okR y) (y8 : y % 8 = 0) (S : StOk r (lN y) (y - 2147483648) 8 v M N) : ldC r N x = if x = y then v else ldC r M x := by
  obtain ⟨o, h1, h2⟩ := okR_o h
  obtain ⟨RN, _, cb, _⟩ := S
  obtain ⟨_, w, a2, a3⟩ := X11_load R.1 R.2.2.1 h1 (sz := Int32.ofInt 8) (s := 8) rfl (by decide) (by decide) h2
  obtain ⟨_, u, b2, b3⟩ := X11_load RN.1 RN.2.2.1 h1 (sz := Int32.ofInt 8) (s := 8) rfl (by decide) (by decide) h2
  have ox := okR_x hx h
  have ox2 := okR_x hy oy
  unfold ldC
  rw [a2, b2]
  rw [l_big hx] at h1
  show u = if x = y then v else w
  refine lb_ext fun i hi => ?_
  rw [b3, cb _ (by omega)]
  by_cases q : x = y
  · rw [if_pos q, if_pos (by omega), decide_eq_true (by omega), Bool.true_and, show 8 * o + i - 8 * (y - 2147483648) = i by omega]
  · rw [if_neg q, if_neg (by omega), a3]
end Lp
