/-! floats: the component's unit: comparing -/
set_option maxRecDepth 100000
def szU (X Y : UU) : Int :=
  if X.1 = 2 ∨ Y.1 = 2 then (if X.1 = Y.1 then 0 else if X.1 = 2 then 1 else -1)
  else if X.2.2.2 + (bln X.2.2.1 : Int) = Y.2.2.2 + (bln Y.2.2.1 : Int) then (if X.2.2.1 * 2 ^ (62 - bln X.2.2.1) < Y.2.2.1 * 2 ^ (62 - bln Y.2.2.1) then -1 else if Y.2.2.1 * 2 ^ (62 - bln Y.2.2.1) < X.2.2.1 * 2 ^ (62 - bln X.2.2.1) then 1 else 0)
  else if Y.2.2.2 + (bln Y.2.2.1 : Int) ≤ X.2.2.2 + (bln X.2.2.1 : Int) then 1 else -1
/-- which of two is the less -/
def ordU (X Y : UU) : Int :=
  if X.1 = 0 ∧ Y.1 = 0 then 0 else if X.1 = 0 ∨ Y.1 = 0 ∨ X.2.1 ≠ Y.2.1 then (if (if X.1 = 0 then Y.2.1 = false else X.2.1 = true) then -1 else 1)
  else if X.2.1 = true then -szU X Y else szU X Y
section Cq
variable {u rg b md t : Nat} {c : Nat → Nat} {M N K : FM} {s : Fs} {w : Int32} {X Y : UU} {S : Nat → Prop}
theorem szU_b (X Y : UU) : -1 ≤ szU X Y ∧ szU X Y ≤ 1 := by
  unfold szU
  split
  · split
    · decide
    · split <;> decide
  · split
    · split
      · decide
      · split <;> decide
    · split <;> decide
theorem ordU_b (X Y : UU) : -1 ≤ ordU X Y ∧ ordU X Y ≤ 1 := by
  have := szU_b X Y
  unfold ordU
  split
  · decide
  · split
    · by_cases q : (if X.1 = 0 then Y.2.1 = false else X.2.1 = true)
      · rw [if_pos q]
        decide
      · rw [if_neg q]
        decide
    · split <;> omega
theorem X71_cmpSize (o : FlC u c M) (va : Tk c 0 M X) (vb : Tk c 1 M Y) (hX : X.1 = 1 ∨ X.1 = 2) (hY : Y.1 = 1 ∨ Y.1 = 2) (gX : gdU X) (gY : gdU Y) :
    ∃ N, (HX71_compareSize (c 0) (c 1) M ∧ GX71_compareSize (c 0) (c 1) M = (Int32.ofInt (szU X Y), N)) ∧ Cf c (fun j => j < 2) 0 M N ∧ TkV c 0 N X.1 X.2.1 ∧ N.2.1 118 (c 0) 0 = M.2.1 118 (c 0) 0 ∧ N.2.1 118 (c 1) 0 = M.2.1 118 (c 1) 0 := by
  unfold HX71_compareSize HX71_compareSize_0 GX71_compareSize GX71_compareSize_0 GX71_compareSize_20 GX71_compareSize_50 GX71_compareSize_90 GX71_compareSize_128
  rw [X71_is2 va.1]
  dsimp only
  rw [X71_is2 vb.1]
  dsimp only
  rw [X71_is2 va.1, va.1.1, vb.1.1]
  dsimp only
  rw [fi_bz, fi_bz, show (6 + X.1 = 6 + Y.1) = (X.1 = Y.1) from propext ⟨fun y => by omega, fun y => by omega⟩, fi_bz]
  have T0 := cf_r (S := fun j => j < 2) (c := c) o.1
  have r20 : X.1 = 2 ∨ Y.1 = 2 → fi (X.1 = Y.1) (Int32.ofInt 0, M) (fi (X.1 = 2) (Int32.ofInt 1, M) (Int32.ofInt (-1), M)) = (Int32.ofInt (szU X Y), M) := fun y => by
    unfold szU
    rw [if_pos y]
    by_cases y1 : X.1 = Y.1
    · rw [fi_pos y1, if_pos y1]
    · rw [fi_neg y1, if_neg y1]
      by_cases y2 : X.1 = 2
      · rw [fi_pos y2, if_pos y2]
      · rw [fi_neg y2, if_neg y2]
  by_cases q1 : X.1 = 2
  · rw [fi_pos q1, bz_t q1]
    rw [fi_pos q1] at r20
    exact ⟨M, ⟨⟨fun y => absurd y (by decide), fun _ => trivial⟩, by rw [fi_pos q1]; exact r20 (Or.inl q1)⟩, T0, va.1, rfl, rfl⟩
  · rw [fi_neg q1, bz_f q1]
    by_cases q2 : Y.1 = 2
    · rw [fi_pos q2, bz_t q2]
      exact ⟨M, ⟨⟨fun _ => ⟨fun y => absurd y (by decide), fun _ => trivial⟩, fun y => absurd rfl y⟩, r20 (Or.inr q2)⟩, T0, va.1, rfl, rfl⟩
    · rw [fi_neg q2, bz_f q2]
      have ga := (gW_g gX).2.1 (by omega)
      have gb := (gW_g gY).2.1 (by omega)
      have bX := gdb gX
      have bY := gdb gY
      have pX := gX.2.2.1
      have pY := gY.2.2.1
      have p54 : (2 : Nat) ^ 54 < w128 := by rw [w128_p]; decide
      obtain ⟨h1, c1, n1, k1, t1⟩ := X71_lift (S := fun j => j = 0) (p := 61) (e := X.2.2.2) (V := X.2.2.1) o (show 0 < 4 by decide) rfl (va.2 (by omega)) (Nat.lt_trans gX.2.1 p54) (by omega) (by omega)
      rw [show ((61 : Nat) : Int) = 61 from rfl] at h1 c1 n1 k1 t1
      have o1 := cf_o o c1
      have vb1 := tk_k o c1 (show 1 < 4 by decide) (by decide) vb
      have u1 := frC_b o c1.1 (show 1 < 4 by decide) (by decide)
      have va1 := k1 _ _ va.1
      generalize GX71_lift (c 0) (Int32.ofInt 61) M = M1 at *
      obtain ⟨h2, c2, n2, k2, t2⟩ := X71_lift (S := fun j => j = 1) (p := 61) (e := Y.2.2.2) (V := Y.2.2.1) o1 (show 1 < 4 by decide) rfl (vb1.2 (by omega)) (Nat.lt_trans gY.2.1 p54) (by omega) (by omega)
      rw [show ((61 : Nat) : Int) = 61 from rfl] at h2 c2 n2 k2 t2
      have o2 := cf_o o1 c2
      have n1' := frC_n o1 c2.1 (show 0 < 4 by decide) (by decide) n1
      have va2 := frC_k o1 c2.1 (show 0 < 4 by decide) (by decide) va1
      have u2 := frC_b o1 c2.1 (show 0 < 4 by decide) (by decide)
      generalize GX71_lift (c 1) (Int32.ofInt 61) M1 = M2 at *
      have l0' : M2.2.2 117 (c 0) 0 = c 4 := (o2.2.2.2.1 0 (by decide)).2.1
      have l1' : M2.2.2 117 (c 1) 0 = c 5 := (o2.2.2.2.1 1 (by decide)).2.1
      have w0 : wv M2 (c 4) = X.2.2.1 * 2 ^ (62 - bln X.2.2.1) := n1'.2
      have w1 : wv M2 (c 5) = Y.2.2.1 * 2 ^ (62 - bln Y.2.2.1) := n2.2
      rw [n1'.1, n2.1, l0', l1', X62_isBelow, w0, w1]
      dsimp only
      rw [l1', l0', X62_isBelow, w0, w1]
      dsimp only
      rw [fi_bz, fi_bz]
      have ceq : (Int32.ofInt (X.2.2.2 - ((61 + 1 - bln X.2.2.1 : Nat) : Int)) = Int32.ofInt (Y.2.2.2 - ((61 + 1 - bln Y.2.2.1 : Nat) : Int))) = (X.2.2.2 + (bln X.2.2.1 : Int) = Y.2.2.2 + (bln Y.2.2.1 : Int)) := propext (by
        rw [iz_eq (by omega)]
        omega)
      have cle : (Int32.ofInt (Y.2.2.2 - ((61 + 1 - bln Y.2.2.1 : Nat) : Int)) ≤ Int32.ofInt (X.2.2.2 - ((61 + 1 - bln X.2.2.1 : Nat) : Int))) = (Y.2.2.2 + (bln Y.2.2.1 : Int) ≤ X.2.2.2 + (bln X.2.2.1 : Int)) := propext (by
        rw [iz_le (by omega)]
        omega)
      rw [ceq, cle]
      refine ⟨M2, ⟨⟨fun _ => ⟨fun _ => ⟨h1, h2, trivial⟩, fun y => absurd rfl y⟩, fun y => absurd rfl y⟩, ?_⟩, cf_0t (cf_w c1 (fun k hk => by omega)) (cf_w c2 (fun k hk => by omega)), va2, u2.trans t1, t2.trans u1⟩
      unfold szU
      rw [if_neg (fun y => y.elim q1 q2)]
      by_cases y1 : X.2.2.2 + (bln X.2.2.1 : Int) = Y.2.2.2 + (bln Y.2.2.1 : Int)
      · rw [fi_pos y1, if_pos y1]
        by_cases y2 : X.2.2.1 * 2 ^ (62 - bln X.2.2.1) < Y.2.2.1 * 2 ^ (62 - bln Y.2.2.1)
        · rw [fi_pos y2, if_pos y2]
        · rw [fi_neg y2, if_neg y2]
          by_cases y3 : Y.2.2.1 * 2 ^ (62 - bln Y.2.2.1) < X.2.2.1 * 2 ^ (62 - bln X.2.2.1)
          · rw [fi_pos y3, if_pos y3]
          · rw [fi_neg y3, if_neg y3]
      · rw [fi_neg y1, if_neg y1]
        by_cases y2 : Y.2.2.2 + (bln Y.2.2.1 : Int) ≤ X.2.2.2 + (bln X.2.2.1 : Int)
        · rw [fi_pos y2, if_pos y2]
        · rw [fi_neg y2, if_neg y2]
theorem X71_compare (o : FlC u c M) (va : Tk c 0 M X) (vb : Tk c 1 M Y) (hX : X.1 ≤ 2) (hY : Y.1 ≤ 2) (gX : gdU X) (gY : gdU Y) :
    ∃ N, (HX71_compare (c 0) (c 1) M ∧ GX71_compare (c 0) (c 1) M = (Int32.ofInt (ordU X Y), N)) ∧ Cf c (fun j => j < 2) 0 M N ∧ TkV c 0 N X.1 X.2.1 ∧ N.2.1 118 (c 0) 0 = M.2.1 118 (c 0) 0 ∧ N.2.1 118 (c 1) 0 = M.2.1 118 (c 1) 0 := by
  have T0 := cf_r (S := fun j => j < 2) (c := c) o.1
  have R63 : ¬ (X.1 = 0 ∧ Y.1 = 0) → (X.1 = 0 ∨ Y.1 = 0 ∨ X.2.1 ≠ Y.2.1) → GX71_compare_63 (c 0) (c 1) M = (Int32.ofInt (ordU X Y), M) := fun q q2 => by
    unfold GX71_compare_63 GX71_compare_94 GX71_compare_90 GX71_compare_95
    rw [X71_is0 va.1]
    dsimp only
    rw [fi_bz, va.1.2, vb.1.2, fi_bz, fi_bz]
    unfold ordU
    rw [if_neg q, if_pos q2]
    by_cases y1 : X.1 = 0
    · rw [fi_pos y1]
      cases h : Y.2.1
      · rw [fi_neg (show ¬ false = true by decide), if_pos (by rw [if_pos y1])]
      · rw [fi_pos (show true = true from rfl), if_neg (by rw [if_pos y1]; decide)]
    · rw [fi_neg y1]
      cases h : X.2.1
      · rw [fi_neg (show ¬ false = true by decide), if_neg (by rw [if_neg y1]; decide)]
      · rw [fi_pos (show true = true from rfl), if_pos (by rw [if_neg y1])]
  have R25 : ¬ (X.1 = 0 ∧ Y.1 = 0) → ∃ N, (HX71_compare_25 (c 0) (c 1) (Int32.ofInt 0) M ∧ GX71_compare_25 (c 0) (c 1) (Int32.ofInt 0) M = (Int32.ofInt (ordU X Y), N)) ∧ Cf c (fun j => j < 2) 0 M N ∧ TkV c 0 N X.1 X.2.1 ∧ N.2.1 118 (c 0) 0 = M.2.1 118 (c 0) 0 ∧ N.2.1 118 (c 1) 0 = M.2.1 118 (c 1) 0 := fun q => by
    unfold HX71_compare_25 GX71_compare_25 GX71_compare_115
    rw [fi_pos (show Int32.ofInt 0 = 0 from rfl), X71_is0 va.1]
    dsimp only
    rw [X71_is0 vb.1]
    dsimp only
    rw [fi_bz, fi_bz, va.1.2, vb.1.2, propext (bz_ii (s := X.2.1) (z := Y.2.1))]
    by_cases y1 : X.1 = 0
    · rw [fi_pos y1, bz_t y1]
      exact ⟨M, ⟨⟨fun _ => ⟨fun y => absurd y (by decide), fun _ => trivial⟩, fun y => absurd rfl y⟩, R63 q (Or.inl y1)⟩, T0, va.1, rfl, rfl⟩
    · rw [fi_neg y1, bz_f y1]
      by_cases y2 : Y.1 = 0
      · rw [fi_pos y2, bz_t y2]
        exact ⟨M, ⟨⟨fun _ => ⟨fun _ => ⟨fun y => absurd y (by decide), fun _ => trivial⟩, fun y => absurd rfl y⟩, fun y => absurd rfl y⟩, R63 q (Or.inr (Or.inl y2))⟩, T0, va.1, rfl, rfl⟩
      · rw [fi_neg y2, bz_f y2]
        by_cases y3 : X.2.1 = Y.2.1
        · rw [fi_pos y3]
          obtain ⟨N, ⟨h, e⟩, r, tk, r1, r2⟩ := X71_cmpSize o va vb (by omega) (by omega) gX gY
          rw [e]
          dsimp only
          rw [tk.2, fi_bz]
          refine ⟨N, ⟨⟨fun _ => ⟨fun _ => ⟨fun _ => ⟨fun _ => ⟨h, trivial⟩, fun y => absurd y3 y⟩, fun y => absurd rfl y⟩, fun y => absurd rfl y⟩, fun y => absurd rfl y⟩, ?_⟩, r, tk, r1, r2⟩
          unfold ordU
          rw [if_neg q, if_neg (show ¬ (X.1 = 0 ∨ Y.1 = 0 ∨ X.2.1 ≠ Y.2.1) from fun y => y.elim y1 (fun y => y.elim y2 (fun z => z y3)))]
          by_cases y4 : X.2.1 = true
          · rw [fi_pos y4, if_pos y4, iz_n]
          · rw [fi_neg y4, if_neg y4]
        · rw [fi_neg y3]
          exact ⟨M, ⟨⟨fun _ => ⟨fun _ => ⟨fun _ => ⟨fun y => absurd y y3, fun _ => trivial⟩, fun y => absurd rfl y⟩, fun y => absurd rfl y⟩, fun y => absurd rfl y⟩, R63 q (Or.inr (Or.inr y3))⟩, T0, va.1, rfl, rfl⟩
  unfold HX71_compare HX71_compare_0 GX71_compare GX71_compare_0 HX71_compare_24 GX71_compare_24
  rw [X71_is0 va.1]
  dsimp only
  rw [X71_is0 vb.1]
  dsimp only
  rw [fi_bz, fi_bz]
  by_cases q1 : X.1 = 0
  · rw [fi_pos q1, bz_t q1]
    by_cases q2 : Y.1 = 0
    · rw [fi_pos q2, bz_t q2]
      refine ⟨M, ⟨⟨fun y => absurd y (by decide), fun _ => ⟨fun y => absurd y (by decide), fun _ => ⟨fun y => absurd y (by decide), fun _ => trivial⟩⟩⟩, ?_⟩, T0, va.1, rfl, rfl⟩
      unfold GX71_compare_25 ordU
      rw [fi_neg (show ¬ Int32.ofInt 1 = 0 by decide), if_pos ⟨q1, q2⟩]
    · rw [fi_neg q2, bz_f q2]
      obtain ⟨N, ⟨h, e⟩, r⟩ := R25 (fun y => q2 y.2)
      exact ⟨N, ⟨⟨fun y => absurd y (by decide), fun _ => ⟨fun _ => h, fun y => absurd rfl y⟩⟩, e⟩, r⟩
  · rw [fi_neg q1, bz_f q1]
    obtain ⟨N, ⟨h, e⟩, r⟩ := R25 (fun y => q1 y.1)
    exact ⟨N, ⟨⟨fun _ => h, fun y => absurd rfl y⟩, e⟩, r⟩
end Cq
