/-! integers: the counter stays even, register 0 stays 0; registers from outside -/
set_option maxRecDepth 100000
def ev (x : Int64) : Prop := ul x % 2 = 0
theorem ev_a {x y : Int64} (hx : ev x) (hy : ev y) : ev (x + y) := by
  unfold ev at *
  rw [ul_add]
  omega
theorem ev_n {x : Int64} (hx : ev x) : ev (-x) := by
  have := ul_lt x
  unfold ev at *
  rw [ul_neg]
  omega
theorem ev_fi {p : Prop} {x y : Int64} (hx : p → ev x) (hy : ¬ p → ev y) : ev (fi p x y) := by
  by_cases h : p
  · rw [fi_pos h]; exact hx h
  · rw [fi_neg h]; exact hy h
theorem ev_i {x : Int32} (h : ui x % 2 = 0) : ev x.toInt64 := by
  unfold ev
  rw [ul_sext]
  split <;> omega
theorem ev_len {len : Int32} (hl : len = Int32.ofInt 2 ∨ len = Int32.ofInt 4) : ev len.toInt64 := by
  rcases hl with rfl | rfl <;> rfl
theorem ev_mul {k : Int32} {n : Nat} (hk : ui k % 2 = 0) : ev (k * nI n).toInt64 := by
  refine ev_i ?_
  have e : ui k * ui (nI n) % 2 = 0 := by
    rw [Nat.mul_mod, hk]
    simp
  rw [ui_mul]
  omega
theorem ev_sgn {w : Int32} {a : Int64} (h : ev a) : ev (sgn w a) := ev_fi (fun _ => rfl) (fun _ => ev_n h)
theorem ev_iB (w : Int32) : ev (iB w) := by
  unfold iB
  exact ev_a (ev_a (ev_a (ev_sgn rfl) (ev_mul rfl)) (ev_mul rfl)) (ev_mul rfl)
theorem ev_iJ (w : Int32) : ev (iJ w) := by
  unfold iJ
  exact ev_a (ev_a (ev_a (ev_sgn rfl) (ev_mul rfl)) (ev_mul rfl)) (ev_mul rfl)
theorem ev_m1 (x : Int64) : ev (x - (x &&& Int64.ofInt 1)) := by
  have := ul_lt x
  unfold ev
  rw [ul_sub, ul_and, show ul (Int64.ofInt 1) = 2 ^ 1 - 1 from rfl, Nat.and_two_pow_sub_one_eq_mod]
  omega
theorem ev_cval {o : Option Int64} {d : Nat} {nx pc : Int64} (h1 : ev nx) (h2 : ev pc) : ev (cval o d nx pc).2.2.2.1 := by
  cases o
  · exact h2
  · exact h1
theorem ev_cwt {o : Option Wt} {pc : Int64} (h : ev pc) : ev (cwt o pc).2.2.2.1 := by cases o <;> exact h
theorem cx_ev {R : Nat → Int64} {pc : Int64} {w len : Int32} (hp : ev pc) (hl : len = Int32.ofInt 2 ∨ len = Int32.ofInt 4) : ev (cx R pc w len).2.2.2.1 := by
  have F : ∀ {c : Prop} {t e : CR}, ev t.2.2.2.1 → ev e.2.2.2.1 → ev (fi c t e).2.2.2.1 := by
    intro c t e h k
    by_cases q : c
    · rw [fi_pos q]
      exact h
    · rw [fi_neg q]
      exact k
  have nx : ev (pc + len.toInt64) := ev_a hp (ev_len hl)
  unfold cx
  exact F (ev_cval nx hp) (F (ev_cval nx hp) (F (ev_cval nx hp) (F (ev_cval nx hp) (F (ev_cval nx hp) (F (ev_cval nx hp) (F (F hp (ev_a hp (ev_fi (fun _ => ev_iB w) (fun _ => ev_len hl)))) (F (F (ev_m1 _) hp) (F (ev_a hp (ev_iJ w)) (F (F hp nx) (ev_cwt hp))))))))))
/-- what check() of the model asks of the twin's core -/
def EvT (c : Nat) (M : FM) : Prop := M.2.1 3 (M.2.2 346 c 0) 0 = Int64.ofInt 0 ∧ ev (M.2.1 347 c 0)
section Ev
variable {a c : Nat} {Mc Mt X Y : FM} {o : Option Wt}
theorem ev_run (Tt : Ty Mt) (Wt : Wf Mt) (nt : fm_is Mt 94 94 c = true) (h : EvT c Mt) (w : Int32) {len : Int32} (hl : len = Int32.ofInt 2 ∨ len = Int32.ofInt 4) : EvT c (GX98_run c w len Mt).2 := by
  obtain ⟨t1, t2, t3⟩ := tc_ne Tt Wt nt
  obtain ⟨eH, Y, eY, y1, y2, y3, yR, yP, yN, yS⟩ := X98_run Tt nt t1 t2 t3 w hl
  rw [eY]
  refine ⟨?_, ?_⟩
  · show Y.2.1 3 (Y.2.2 346 c 0) 0 = _
    rw [y1, yR 0, if_neg (by omega)]
    exact h.1
  · show ev (Y.2.1 347 c 0)
    rw [yP]
    exact cx_ev h.2 hl
theorem ev_jump (v : Int64) (h : EvT c Mt) : EvT c (GX98_jump c v Mt) := by
  refine ⟨?_, ?_⟩
  · unfold GX98_jump GX98_jump_0
    show (fm_sL (fm_sI Mt 345 c 0 _) 347 c 0 _).2.1 3 (Mt.2.2 346 c 0) 0 = _
    rw [rL, if_neg (by omega)]
    exact h.1
  · unfold GX98_jump GX98_jump_0
    show ev ((fm_sL (fm_sI Mt 345 c 0 _) 347 c 0 _).2.1 347 c 0)
    rw [rL, if_pos ⟨rfl, rfl, rfl⟩]
    exact ev_m1 v
/-- the end of an instruction, too: its length is 2 or 4 -/
theorem ev_end {Q : FM} {dk : Nat} {x : Int64} (h : EvT c Mt) (q1 : ∀ f b, f ≠ 345 → Q.1 f b = Mt.1 f b) (q2 : Q.2.2 = Mt.2.2) (q3 : ∀ f b j, Q.2.1 f b j = if f = 3 ∧ b = Mt.2.2 346 c 0 ∧ j = dk ∧ 0 < dk then x else Mt.2.1 f b j)
    (hl : Mt.1 354 c 0 = Int32.ofInt 2 ∨ Mt.1 354 c 0 = Int32.ofInt 4) : EvT c (tend c Q) := by
  refine ⟨?_, ?_⟩
  · unfold tend
    show (fm_sL (fm_sL Q 347 c 0 _) 348 c 0 _).2.1 3 (Q.2.2 346 c 0) 0 = _
    rw [rL, if_neg (by omega), rL, if_neg (by omega), q2, q3, if_neg (by omega)]
    exact h.1
  · have k2 : (tend c Q).2.1 347 c 0 = Mt.2.1 347 c 0 + (Mt.1 354 c 0).toInt64 := by
      unfold tend
      show (fm_sL (fm_sL Q 347 c 0 _) 348 c 0 _).2.1 347 c 0 = _
      rw [rL, if_neg (by omega), rL, if_pos ⟨rfl, rfl, rfl⟩, q3, if_neg (by omega), q1 354 c (by decide)]
    rw [k2]
    exact ev_a h.2 (ev_len hl)
/-- a register is read from outside -/
theorem rel_iget (T : Ty Mc) (Tt : Ty Mt) (h : RelI a c Mc Mt o) {k : Nat} (hk : k < 32) :
    fm_in Mc (rgI a Mc) (nI k) = true ∧ HX98_get c (nI k) Mt ∧ GX98_get c (nI k) Mt = (Mc.2.1 3 (rgI a Mc) k, fm_sI Mt 345 c 0 (Int32.ofInt 0)) := by
  have nt := h.2.1
  have k0 : ¬ nI k < 0 := nI0 (by omega)
  have k32 : ¬ Int32.ofInt 32 ≤ nI k := fun q => by have := (nge (n := k) (by omega) 32 (by decide)).mp q; omega
  have ir : GX98_isRegister (nI k) Mt = (Int32.ofInt 1, Mt) := by
    unfold GX98_isRegister GX98_isRegister_0 GX98_isRegister_15
    rw [fi_neg k0, fi_neg k32]
  have e0 : (fm_sI Mt 345 c 0 (Int32.ofInt 0)).1 345 c 0 = 0 := by rw [rI, if_pos ⟨rfl, rfl, rfl⟩]; rfl
  have i0 : ¬ Int32.ofInt 1 = 0 := by decide
  have inn : fm_in (fm_sI Mt 345 c 0 (Int32.ofInt 0)) (Mt.2.2 346 c 0) (nI k) = true := in_nI (tL_346 Tt.1 nt) hk (by decide)
  refine ⟨in_nI (tL_178 T.1 (tN_171 T.1 h.1.1)) hk (by decide), ?_, ?_⟩
  · unfold HX98_get HX98_get_0
    dsimp only
    rw [ir]
    exact ⟨fun y => absurd y i0, fun _ => ⟨fun _ => ⟨inn, trivial⟩, fun _ => trivial⟩⟩
  · unfold GX98_get GX98_get_0 GX98_get_13 GX98_get_33
    dsimp only
    rw [ir]
    dsimp only
    rw [fi_neg i0, fi_pos e0, o_cl (by omega), h.2.2.1 k]
    rfl
end Ev
