/-! floats: the order of numbers is that of their bits -/
set_option maxRecDepth 100000
/-- bits without the sign -/
def mg (t : Nat) (b : Int64) : Nat := ul b % 2 ^ fS t
def cmpI (p q : Int) : Int := if p < q then -1 else if q < p then 1 else 0
theorem mg_e {t : Nat} (ht : t ≤ 1) (b : Int64) : mg t b = uE t b * 2 ^ fF t + uF t b := by
  unfold mg uE uF
  rcases (show t = 0 ∨ t = 1 by omega) with q | q <;> subst q
  · rw [show fS 0 = 31 from rfl, show fF 0 = 23 from rfl, show fG 0 = 127 from rfl]
    omega
  · rw [show fS 1 = 63 from rfl, show fF 1 = 52 from rfl, show fG 1 = 1023 from rfl]
    omega
theorem mg_b {t : Nat} (ht : t ≤ 1) {x y : Int64} (hx : t = 0 → ul x < 4294967296) (hy : t = 0 → ul y < 4294967296) (h : mg t x = mg t y) (s : uS' t x = uS' t y) : x = y := by
  apply ul_inj
  unfold mg at h
  unfold uS' lb at s
  rw [Nat.testBit_eq_decide_div_mod_eq, Nat.testBit_eq_decide_div_mod_eq] at s
  have s' : (ul x / 2 ^ fS t % 2 = 1) ↔ (ul y / 2 ^ fS t % 2 = 1) := decide_eq_decide.mp s
  have bx := ul_lt x
  have by' := ul_lt y
  rcases (show t = 0 ∨ t = 1 by omega) with q | q <;> subst q
  · rw [show fS 0 = 31 from rfl] at h s'
    have := hx rfl
    have := hy rfl
    omega
  · rw [show fS 1 = 63 from rfl] at h s'
    omega
section Or
variable {t : Nat} {x y : Int64}
theorem uK_1 : uK t x = 1 → uE t x ≠ 2 * fG t + 1 ∧ ¬ (uE t x = 0 ∧ uF t x = 0) := by
  unfold uK
  intro h
  by_cases q : uE t x = 2 * fG t + 1
  · rw [if_pos q] at h
    split at h
    · exact absurd h (by decide)
    · split at h <;> exact absurd h (by decide)
  · rw [if_neg q] at h
    by_cases q2 : uE t x = 0 ∧ uF t x = 0
    · rw [if_pos q2] at h
      exact absurd h (by decide)
    · exact ⟨q, q2⟩
theorem uK_2 : uK t x = 2 → uE t x = 2 * fG t + 1 ∧ uF t x = 0 := by
  unfold uK
  intro h
  by_cases q : uE t x = 2 * fG t + 1
  · rw [if_pos q] at h
    by_cases q2 : uF t x = 0
    · exact ⟨q, q2⟩
    · rw [if_neg q2] at h
      split at h <;> exact absurd h (by decide)
  · rw [if_neg q] at h
    split at h <;> exact absurd h (by decide)
theorem uK_0 : uK t x = 0 → uE t x = 0 ∧ uF t x = 0 := by
  unfold uK
  intro h
  by_cases q : uE t x = 2 * fG t + 1
  · rw [if_pos q] at h
    split at h
    · exact absurd h (by decide)
    · split at h <;> exact absurd h (by decide)
  · rw [if_neg q] at h
    by_cases q2 : uE t x = 0 ∧ uF t x = 0
    · exact q2
    · rw [if_neg q2] at h
      exact absurd h (by decide)
theorem mg_0 (ht : t ≤ 1) (h : uK t x ≤ 2) : mg t x = 0 ↔ uK t x = 0 := by
  have p := (p2F ht).1
  rw [mg_e ht]
  have pF := Nat.two_pow_pos (fF t)
  constructor
  · intro e
    have e2 : uF t x = 0 := by omega
    have e1 : uE t x = 0 := by
      have : uE t x * 2 ^ fF t = 0 := by omega
      exact (Nat.mul_eq_zero.mp this).elim id (fun z => by omega)
    rcases (show uK t x = 0 ∨ uK t x = 1 ∨ uK t x = 2 by omega) with q | q | q
    · exact q
    · exact absurd ⟨e1, e2⟩ (uK_1 q).2
    · have := (uK_2 q).1
      omega
  · intro e
    obtain ⟨e1, e2⟩ := uK_0 e
    rw [e1, e2, Nat.zero_mul]
/-- a number: where its highest bit stands, and its bits laid to the top, against its bits as they stand -/
theorem num_o {B F G E1 F1 E2 F2 V1 V2 : Nat} {e1 e2 : Int} (hB : B = 2 ^ F) (hF : F ≤ 52) (f1 : F1 < B) (f2 : F2 < B) (n1 : ¬ (E1 = 0 ∧ F1 = 0)) (n2 : ¬ (E2 = 0 ∧ F2 = 0))
    (v1 : V1 = if E1 = 0 then F1 else F1 + B) (v2 : V2 = if E2 = 0 then F2 else F2 + B) (h1 : e1 = (if E1 = 0 then 1 else (E1 : Int)) - G - F) (h2 : e2 = (if E2 = 0 then 1 else (E2 : Int)) - G - F) :
    (if e1 + (bln V1 : Int) = e2 + (bln V2 : Int) then (if V1 * 2 ^ (62 - bln V1) < V2 * 2 ^ (62 - bln V2) then -1 else if V2 * 2 ^ (62 - bln V2) < V1 * 2 ^ (62 - bln V1) then 1 else 0) else if e2 + (bln V2 : Int) ≤ e1 + (bln V1 : Int) then 1 else -1) =
      cmpI ((E1 * B + F1 : Nat) : Int) ((E2 * B + F2 : Nat) : Int) := by
  have bV : ∀ {E F' V : Nat}, F' < B → V = (if E = 0 then F' else F' + B) → (E = 0 → V = F' ∧ bln V ≤ F) ∧ (E ≠ 0 → V = F' + B ∧ bln V = F + 1) := fun {E F' V} hf hv => by
    constructor
    · intro q
      rw [if_pos q] at hv
      refine ⟨hv, ?_⟩
      rw [hv]
      exact bln_le (by rw [← hB]; exact hf)
    · intro q
      rw [if_neg q] at hv
      refine ⟨hv, ?_⟩
      rw [hv]
      refine bln_u ?_ (Or.inr ?_)
      · rw [Nat.pow_succ, ← hB]
        omega
      · rw [Nat.add_sub_cancel, ← hB]
        omega
  obtain ⟨a1, a2⟩ := bV f1 v1
  obtain ⟨b1, b2⟩ := bV f2 v2
  have sh : ∀ {V W k : Nat}, (V * 2 ^ k < W * 2 ^ k) ↔ V < W := fun {V W k} => ⟨fun h => Nat.lt_of_mul_lt_mul_right h, fun h => Nat.mul_lt_mul_of_pos_right h (Nat.two_pow_pos k)⟩
  have mul_lt : ∀ {P Q : Nat}, P < Q → P * B + B ≤ Q * B := fun {P Q} h => by
    have := Nat.mul_le_mul_right B (show P + 1 ≤ Q from h)
    rw [Nat.add_mul, Nat.one_mul] at this
    exact this
  unfold cmpI
  rcases (show (E1 = 0 ∧ E2 = 0) ∨ (E1 = 0 ∧ E2 ≠ 0) ∨ (E1 ≠ 0 ∧ E2 = 0) ∨ (E1 ≠ 0 ∧ E2 ≠ 0 ∧ E1 = E2) ∨ (E1 ≠ 0 ∧ E2 ≠ 0 ∧ E1 < E2) ∨ (E1 ≠ 0 ∧ E2 ≠ 0 ∧ E2 < E1) by omega) with q | q | q | q | q | q
  · obtain ⟨q1, q2⟩ := q
    obtain ⟨x1, -⟩ := a1 q1
    obtain ⟨y1, -⟩ := b1 q2
    rw [if_pos q1] at h1
    rw [if_pos q2] at h2
    subst q1
    subst q2
    rw [Nat.zero_mul, Nat.zero_add, Nat.zero_add, ← x1, ← y1]
    by_cases z : bln V1 = bln V2
    · rw [if_pos (show e1 + (bln V1 : Int) = e2 + (bln V2 : Int) by omega), z]
      simp only [sh, Int.ofNat_lt]
    · rw [if_neg (show ¬ e1 + (bln V1 : Int) = e2 + (bln V2 : Int) by omega)]
      have lt_b : ∀ {V W : Nat}, W ≠ 0 → bln V < bln W → V < W := fun {V W} hw hl => by
        have c1 := bln_lt V
        have c2 := bln_ge hw
        have c3 : 2 ^ bln V ≤ 2 ^ (bln W - 1) := Nat.pow_le_pow_right (by decide) (by omega)
        omega
      by_cases z2 : bln V2 ≤ bln V1
      · have := lt_b (V := V2) (W := V1) (by omega) (by omega)
        rw [if_pos (by omega), if_neg (by omega), if_pos (by omega)]
      · have := lt_b (V := V1) (W := V2) (by omega) (by omega)
        rw [if_neg (by omega), if_pos (by omega)]
  · obtain ⟨q1, q2⟩ := q
    obtain ⟨x1, x2⟩ := a1 q1
    obtain ⟨y1, y2⟩ := b2 q2
    rw [if_pos q1] at h1
    rw [if_neg q2] at h2
    have := mul_lt (P := 0) (Q := E2) (by omega)
    subst q1
    rw [if_neg (by omega), if_neg (by omega), if_pos (by omega)]
  · obtain ⟨q1, q2⟩ := q
    obtain ⟨x1, x2⟩ := a2 q1
    obtain ⟨y1, y2⟩ := b1 q2
    rw [if_neg q1] at h1
    rw [if_pos q2] at h2
    have := mul_lt (P := 0) (Q := E1) (by omega)
    subst q2
    rw [if_neg (by omega), if_pos (by omega), if_neg (by omega), if_pos (by omega)]
  · obtain ⟨q1, q2, q3⟩ := q
    obtain ⟨x1, x2⟩ := a2 q1
    obtain ⟨y1, y2⟩ := b2 q2
    rw [if_neg q1] at h1
    rw [if_neg q2] at h2
    subst q3
    rw [if_pos (by omega), x2, y2]
    simp only [sh, Int.ofNat_lt]
    have c1 : (V1 < V2) = (E1 * B + F1 < E1 * B + F2) := propext (by omega)
    have c2 : (V2 < V1) = (E1 * B + F2 < E1 * B + F1) := propext (by omega)
    simp only [c1, c2]
  · obtain ⟨q1, q2, q3⟩ := q
    obtain ⟨x1, x2⟩ := a2 q1
    obtain ⟨y1, y2⟩ := b2 q2
    rw [if_neg q1] at h1
    rw [if_neg q2] at h2
    have := mul_lt q3
    rw [if_neg (by omega), if_neg (by omega), if_pos (by omega)]
  · obtain ⟨q1, q2, q3⟩ := q
    obtain ⟨x1, x2⟩ := a2 q1
    obtain ⟨y1, y2⟩ := b2 q2
    rw [if_neg q1] at h1
    rw [if_neg q2] at h2
    have := mul_lt q3
    rw [if_neg (by omega), if_pos (by omega), if_neg (by omega), if_pos (by omega)]
theorem szU_m (ht : t ≤ 1) (hx : uK t x = 1 ∨ uK t x = 2) (hy : uK t y = 1 ∨ uK t y = 2) : szU (upk t x) (upk t y) = cmpI (mg t x) (mg t y) := by
  have p := (p2F ht).1
  have fx := uF_lt t x
  have fy := uF_lt t y
  have ex := uE_lt t x
  have ey := uE_lt t y
  rw [mg_e ht, mg_e ht]
  unfold szU upk
  dsimp only
  have mul_lt : ∀ {P Q : Nat}, P < Q → P * 2 ^ fF t + 2 ^ fF t ≤ Q * 2 ^ fF t := fun {P Q} h => by
    have := Nat.mul_le_mul_right (2 ^ fF t) (show P + 1 ≤ Q from h)
    rw [Nat.add_mul, Nat.one_mul] at this
    exact this
  by_cases q : uK t x = 2 ∨ uK t y = 2
  · rw [if_pos q]
    unfold cmpI
    by_cases q1 : uK t x = 2
    · obtain ⟨a1, a2⟩ := uK_2 q1
      by_cases q2 : uK t y = 2
      · obtain ⟨b1, b2⟩ := uK_2 q2
        rw [if_pos (q1.trans q2.symm), a1, a2, b1, b2, if_neg (by omega), if_neg (by omega)]
      · have b := (uK_1 (by omega : uK t y = 1)).1
        have := mul_lt (P := uE t y) (Q := uE t x) (by omega)
        rw [if_neg (by omega), if_pos q1, if_neg (by omega), if_pos (by omega)]
    · have b := (uK_1 (by omega : uK t x = 1)).1
      obtain ⟨b1, b2⟩ := uK_2 (by omega : uK t y = 2)
      have := mul_lt (P := uE t x) (Q := uE t y) (by omega)
      rw [if_neg (by omega), if_neg q1, if_pos (by omega)]
  · rw [if_neg q]
    have n1 := (uK_1 (by omega : uK t x = 1)).2
    have n2 := (uK_1 (by omega : uK t y = 1)).2
    exact num_o (B := 2 ^ fF t) (F := fF t) (G := fG t) (E1 := uE t x) (F1 := uF t x) (E2 := uE t y) (F2 := uF t y) rfl (by omega) fx fy n1 n2 rfl rfl rfl rfl
/-- signed -/
def sgI (sg : Bool) (m : Nat) : Int := if sg = true then -(m : Int) else m
theorem ordU_m (ht : t ≤ 1) (hx : uK t x ≤ 2) (hy : uK t y ≤ 2) : ordU (upk t x) (upk t y) = if mg t x = 0 ∧ mg t y = 0 then 0 else cmpI (sgI (uS' t x) (mg t x)) (sgI (uS' t y) (mg t y)) := by
  have m1 := mg_0 ht hx
  have m2 := mg_0 ht hy
  unfold ordU
  rw [show (upk t x).1 = uK t x from rfl, show (upk t y).1 = uK t y from rfl, show (upk t x).2.1 = uS' t x from rfl, show (upk t y).2.1 = uS' t y from rfl]
  by_cases q : uK t x = 0 ∧ uK t y = 0
  · rw [if_pos q, if_pos ⟨m1.mpr q.1, m2.mpr q.2⟩]
  · rw [if_neg q, if_neg (show ¬ (mg t x = 0 ∧ mg t y = 0) from fun z => q ⟨m1.mp z.1, m2.mp z.2⟩)]
    have sz := szU_m (x := x) (y := y) ht
    generalize mg t x = m at *
    generalize mg t y = n at *
    generalize uS' t x = a at *
    generalize uS' t y = b at *
    generalize szU (upk t x) (upk t y) = z at *
    generalize uK t x = k at *
    generalize uK t y = l at *
    unfold cmpI at sz ⊢
    unfold sgI
    by_cases q1 : k = 0
    · have m0 := m1.mpr q1
      have n0 : n ≠ 0 := fun y => q ⟨q1, m2.mp y⟩
      rw [if_pos (Or.inl q1)]
      cases b
      · rw [if_pos (by rw [if_pos q1]), if_pos (by cases a <;> simp <;> omega)]
      · rw [if_neg (by rw [if_pos q1]; decide), if_neg (by cases a <;> simp <;> omega), if_pos (by cases a <;> simp <;> omega)]
    · by_cases q2 : l = 0
      · have n0 := m2.mpr q2
        have m0 : m ≠ 0 := fun y => q1 (m1.mp y)
        rw [if_pos (Or.inr (Or.inl q2))]
        cases a
        · rw [if_neg (by rw [if_neg q1]; decide), if_neg (by cases b <;> simp <;> omega), if_pos (by cases b <;> simp <;> omega)]
        · rw [if_pos (by rw [if_neg q1]), if_pos (by cases b <;> simp <;> omega)]
      · have m0 : m ≠ 0 := fun y => q1 (m1.mp y)
        have n0 : n ≠ 0 := fun y => q2 (m2.mp y)
        have sz := sz (by omega) (by omega)
        by_cases q3 : a = b
        · rw [if_neg (fun w => w.elim q1 (fun w => w.elim q2 (fun w => w q3))), sz, ← q3]
          cases a
          · simp only [Bool.false_eq_true, if_false]
          · simp only [if_true]
            by_cases c1 : (m : Int) < n
            · rw [if_pos c1, if_neg (by omega), if_pos (by omega)]
              rfl
            · by_cases c2 : (n : Int) < m
              · rw [if_neg c1, if_pos c2, if_pos (by omega)]
              · rw [if_neg c1, if_neg c2, if_neg (by omega), if_neg (by omega)]
                rfl
        · rw [if_pos (Or.inr (Or.inr q3))]
          cases a
          · cases b
            · exact absurd rfl q3
            · rw [if_neg (by rw [if_neg q1]; decide), if_neg (by simp <;> omega), if_pos (by simp <;> omega)]
          · cases b
            · rw [if_pos (by rw [if_neg q1]), if_pos (by simp <;> omega)]
            · exact absurd rfl q3
end Or
