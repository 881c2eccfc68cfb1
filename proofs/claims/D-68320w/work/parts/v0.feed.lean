/-! the machine: bytes are fed, the tape is cut -/
set_option maxRecDepth 100000
def updX (X : Nat → Nat) (n b : Nat) : Nat → Nat := fun k => if k = n then b else X k
/-- so many bytes laid behind each other -/
def upf (B : Nat → Nat) (X : Nat → Nat) (n : Nat) : Nat → (Nat → Nat)
  | 0 => X
  | i + 1 => updX (upf B X n i) (n + i) (B i)
theorem upf_lt {B X : Nat → Nat} {n : Nat} (hX : ∀ k, X k < 256) (hB : ∀ i, B i < 256) : ∀ i k, upf B X n i k < 256
  | 0, k => hX k
  | i + 1, k => by
    show (if k = n + i then B i else upf B X n i k) < 256
    split
    · exact hB i
    · exact upf_lt hX hB i k
theorem i255 (x : Int32) : x &&& Int32.ofInt 255 = nI (ui x % 256) := ui_inj (by
  rw [ui_and, show ui (Int32.ofInt 255) = 2 ^ 8 - 1 from rfl, Nat.and_two_pow_sub_one_eq_mod, ui_nI]
  omega)
section Tp
variable {t m n : Nat} {M : FM} {X : Nat → Nat}
theorem tp_add (T : Ty M) (h : TpR t M X n) (hn : n < 65536) (v : Int32) : HX3_add t v M ∧ TpR t (GX3_add t v M) (updX X n (ui v % 256)) (n + 1) ∧ Ty (GX3_add t v M) ∧ (GX3_add t v M).2 = M.2 := by
  obtain ⟨a1, a2, a3, a4⟩ := h
  have H : HX3_add t v M := by
    unfold HX3_add HX3_add_0
    try dsimp only
    rw [a3]
    exact ⟨in_nI a2 hn (by decide), trivial⟩
  have e : GX3_add t v M = fm_sI (fm_sI M 262 t 0 (nI (n + 1))) 3 (M.2.2 261 t 0) n (sb8 (ui v % 256)) := by
    unfold GX3_add GX3_add_0
    try dsimp only
    rw [a3, nI_s (by omega), o_cl (by omega), (sb8_d v).1]
  refine ⟨H, ?_, (gX3_add t v M T a1 H).2.1, by rw [e]; rfl⟩
  rw [e]
  refine ⟨a1, a2, ?_, fun k hk => ?_⟩
  · rw [rIf (by decide), rIe]
  · show (fm_sI (fm_sI M 262 t 0 (nI (n + 1))) 3 (M.2.2 261 t 0) n (sb8 (ui v % 256))).1 3 (M.2.2 261 t 0) k = sb8 (updX X n (ui v % 256) k)
    unfold updX
    by_cases c : k = n
    · rw [if_pos c, c, rIe]
    · rw [if_neg c, rI, if_neg (fun q => c q.2.2), rIf (by decide)]
      exact a4 k hk
/-- the bytes of a number, the highest first -/
def bN (v : Int32) (i : Nat) : Nat := ui (v >>> (nI (24 - 8 * i) &&& 31)) % 256
theorem tp_num (T : Ty M) (h : TpR t M X n) (hn : n + 4 ≤ 65536) (v : Int32) : HX3_addNumber t v M ∧ TpR t (GX3_addNumber t v M) (upf (bN v) X n 4) (n + 4) ∧ Ty (GX3_addNumber t v M) ∧ (GX3_addNumber t v M).2 = M.2 := by
  have st : ∀ (i : Nat) (Y : Nat → Nat) (N : FM) (j : Nat), i < 4 → Ty N → TpR t N Y (n + i) → ∃ N', FX3_addNumber_L3 fN (j + 1) t v (nI (24 - 8 * i)) N = FX3_addNumber_L3 fN j t v (nI (24 - 8 * i) + Int32.ofInt (-8)) N' ∧ TpR t N' (updX Y (n + i) (bN v i)) (n + i + 1) ∧ Ty N' ∧ N'.2 = N.2 := fun i Y N j hi TN hY => by
    obtain ⟨x1, x2, x3, x4⟩ := tp_add TN hY (by omega) (v >>> (nI (24 - 8 * i) &&& 31))
    have c : ¬ nI (24 - 8 * i) < 0 := nI0 (by omega)
    have G := (gX3_addNumber_3 (FX3_addNumber_L3 fN j) t v (nI (24 - 8 * i)) N TN hY.1 ⟨fun q => absurd q c, fun _ => ⟨x1, trivial⟩⟩).1
    refine ⟨GX3_add t (v >>> (nI (24 - 8 * i) &&& 31)) N, ?_, x2, x3, x4⟩
    show FX3_addNumber_3 fN (FX3_addNumber_L3 fN j) t v (nI (24 - 8 * i)) N = _
    rw [G]
    unfold GX3_addNumber_3
    try dsimp only
    rw [fi_neg c]
    rfl
  obtain ⟨N1, a1, a2, a3, a4⟩ := st 0 X M 99999999 (by decide) T h
  obtain ⟨N2, b1, b2, b3, b4⟩ := st 1 _ N1 99999998 (by decide) a3 a2
  obtain ⟨N3, c1, c2, c3, c4⟩ := st 2 _ N2 99999997 (by decide) b3 b2
  obtain ⟨N4, d1, d2, d3, d4⟩ := st 3 _ N3 99999996 (by decide) c3 c2
  have e0 : nI (24 - 8 * 0) + Int32.ofInt (-8) = nI (24 - 8 * 1) := by decide
  have e1 : nI (24 - 8 * 1) + Int32.ofInt (-8) = nI (24 - 8 * 2) := by decide
  have e2 : nI (24 - 8 * 2) + Int32.ofInt (-8) = nI (24 - 8 * 3) := by decide
  have e3 : (nI (24 - 8 * 3) + Int32.ofInt (-8)) < 0 := by decide
  rw [e0] at a1
  rw [e1] at b1
  rw [e2] at c1
  have Ax : FX3_addNumber fN t v M = some N4 := by
    have G := (gX3_addNumber_0 (FX3_addNumber_L3 fN fN) t v M T).1
    show FX3_addNumber_0 fN (FX3_addNumber_L3 fN fN) t v M = _
    rw [G]
    have G4 := (gX3_addNumber_3 (FX3_addNumber_L3 fN 99999995) t v (nI (24 - 8 * 3) + Int32.ofInt (-8)) N4 d3 d2.1 ⟨fun _ => trivial, fun q => absurd e3 q⟩).1
    have fin : FX3_addNumber_L3 fN (99999995 + 1) t v (nI (24 - 8 * 3) + Int32.ofInt (-8)) N4 = some N4 := by
      show FX3_addNumber_3 fN (FX3_addNumber_L3 fN 99999995) t v (nI (24 - 8 * 3) + Int32.ofInt (-8)) N4 = _
      rw [G4]
      unfold GX3_addNumber_3
      try dsimp only
      rw [fi_pos e3]
      rfl
    exact a1.trans (b1.trans (c1.trans (d1.trans fin)))
  obtain ⟨f1, f2⟩ := op_of (d := M) Ax (P := OkV M) ⟨d3, fun a _ => by
    rw [show N4.2 = M.2 from d4.trans (c4.trans (b4.trans a4))]
    exact ⟨rfl, rfl⟩⟩
  rw [show GX3_addNumber t v M = N4 from f2]
  exact ⟨f1, d2, d3, d4.trans (c4.trans (b4.trans a4))⟩
end Tp
