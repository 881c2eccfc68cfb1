/-! floats: the component's roots by kinds; operations run; bits of what came out -/
set_option maxRecDepth 100000
section Lu
variable {u i j k md t : Nat} {c : Nat → Nat} {S : Nat → Prop} {M N : FM} {X Y : UU}
theorem X69_dig (o : FlC u c M) (hi : i < 3) (hS : S 3) (hSi : S i) (va : Tk c i M X) (hX : X.1 = 1) (gX : gdU X) :
    ∃ m0 : Nat, (bln X.2.2.1 + m0 = 62 ∨ bln X.2.2.1 + m0 = 63) ∧ (X.2.2.2 - (m0 : Int)) % 2 = 0 ∧ ∃ N, (HX69_dig (c i) (c 3) M ∧ GX69_dig (c i) (c 3) M = N) ∧ Cf c S 0 M N ∧
      TkN c 3 N ((X.2.2.2 - (m0 : Int) - 52) / 2 - 1) (2 * sqF 58 (X.2.2.1 * 2 ^ m0 * 2 ^ 52) + (if X.2.2.1 * 2 ^ m0 * 2 ^ 52 ≠ sqF 58 (X.2.2.1 * 2 ^ m0 * 2 ^ 52) * sqF 58 (X.2.2.1 * 2 ^ m0 * 2 ^ 52) then 1 else 0)) ∧
      (∀ kd sg, TkV c 3 M kd sg → TkV c 3 N kd sg) := by
  obtain ⟨kx, s, A, p⟩ := X
  replace hX : kx = 1 := hX
  subst hX
  obtain ⟨-, sA, pA, zA⟩ := gX
  dsimp only at sA pA zA va ⊢
  have x0 : A ≠ 0 := fun y => absurd ((zA (by decide)).mp y) (by decide)
  have bA : bln A ≤ 54 := bln_le sA
  have p54 : (2 : Nat) ^ 54 < w128 := by rw [w128_p]; decide
  have p63 : (2 : Nat) ^ 63 = 9223372036854775808 := by decide
  have p62 : (2 : Nat) ^ 62 = 4611686018427387904 := by decide
  have p58 : (2 : Nat) ^ 58 = 288230376151711744 := by decide
  obtain ⟨h1, a1, a2, a3, -⟩ := X71_lift (p := 61) (e := p) (V := A) o (show i < 4 by omega) hSi (va.2 rfl) (by omega) (by omega) (by omega)
  have l1 := X71_lift (S := fun k => k = i) (p := 61) (e := p) (V := A) o (show i < 4 by omega) rfl (va.2 rfl) (by omega) (by omega) (by omega)
  have q3 : ∀ kd sg, TkV c 3 M kd sg → TkV c 3 (GX71_lift (c i) (Int32.ofInt ((61 : Nat) : Int)) M) kd sg := fun kd sg v => frC_k o l1.2.1.1 (by decide) (show ¬ 3 = i by omega) v
  have o1 := cf_o o a1
  clear l1
  rw [show ((61 : Nat) : Int) = 61 from rfl] at h1 a1 a2 a3 o1 q3
  have G0 := fun (k51 : Nat → Nat → Int64 → Int64 → Int64 → Int32 → FM → Option (FM)) (h : HX69_dig_0 (c i) (c 3) M) => (gX69_dig_0 k51 (c i) (c 3) M o.1 ((o.2.2.2.1 i (by omega)).2.2.1) h).1
  have hH : HX69_dig_0 (c i) (c 3) M = (HX71_lift (c i) (Int32.ofInt 61) M ∧ True) := rfl
  rw [hH] at G0
  unfold GX69_dig_0 GX69_dig_34 at G0
  dsimp only at G0
  have eH : ∀ N, (HX69_dig (c i) (c 3) M ∧ GX69_dig (c i) (c 3) M = N) = ((∃ r, FX69_dig fN (c i) (c 3) M = some r ∧ OkV M r) ∧ (FX69_dig fN (c i) (c 3) M).getD M = N) := fun N => rfl
  generalize GX71_lift (c i) (Int32.ofInt 61) M = M1 at *
  have gA : bln (A * 2 ^ (62 - bln A)) = 62 := by rw [bln_mul x0]; omega
  have A2 : A * 2 ^ (62 - bln A) < 2 ^ 62 := by
    have := bln_lt (A * 2 ^ (62 - bln A))
    rw [gA] at this
    exact this
  obtain ⟨-, li, ni, -⟩ := o1.2.2.2.1 i (by omega)
  obtain ⟨-, l3, n3, -⟩ := o1.2.2.2.1 3 (by omega)
  have g := G0 (FX69_dig_L51 fN fN) ⟨h1, trivial⟩
  rw [a2.1, propext (iz_odd (z := p - ((62 - bln A : Nat) : Int)) (by omega)), li] at g
  have rest : ∀ (m0 : Nat) (M2 : FM), (bln A + m0 = 62 ∨ bln A + m0 = 63) → (p - (m0 : Int)) % 2 = 0 → Cf c S 0 M M2 → TkN c i M2 (p - (m0 : Int)) (A * 2 ^ m0) → (∀ kd sg, TkV c 3 M kd sg → TkV c 3 M2 kd sg) →
      FX69_dig_0 fN (FX69_dig_L51 fN fN) (c i) (c 3) M = FX69_dig_L51 fN fN (c i) (c 3) (M2.2.1 120 (c (4 + i)) 0) (Int64.ofInt 0) (Int64.ofInt 0) (Int32.ofInt 0) M2 →
      ∃ m0 : Nat, (bln A + m0 = 62 ∨ bln A + m0 = 63) ∧ (p - (m0 : Int)) % 2 = 0 ∧ ∃ N, (HX69_dig (c i) (c 3) M ∧ GX69_dig (c i) (c 3) M = N) ∧ Cf c S 0 M N ∧
      TkN c 3 N ((p - (m0 : Int) - 52) / 2 - 1) (2 * sqF 58 (A * 2 ^ m0 * 2 ^ 52) + (if A * 2 ^ m0 * 2 ^ 52 ≠ sqF 58 (A * 2 ^ m0 * 2 ^ 52) * sqF 58 (A * 2 ^ m0 * 2 ^ 52) then 1 else 0)) ∧
      (∀ kd sg, TkV c 3 M kd sg → TkV c 3 N kd sg) := fun m0 M2 hm hp cM v w3 eF => by
    have o2 := cf_o o cM
    obtain ⟨-, l3, n3, -⟩ := o2.2.2.2.1 3 (by omega)
    obtain ⟨-, -, ni, -⟩ := o2.2.2.2.1 i (by omega)
    have bl : bln (A * 2 ^ m0) = bln A + m0 := bln_mul x0
    have S2 : A * 2 ^ m0 < 2 ^ 63 := by
      have := bln_lt (A * 2 ^ m0)
      rcases hm with y | y <;> rw [bl, y] at this <;> omega
    have L := dig_L o2.1 n3 ni (z := A * 2 ^ m0) (R := A * 2 ^ m0 * 2 ^ 52) (by omega) rfl 58 0 fN (by decide) (by decide)
    have hR : A * 2 ^ m0 * 2 ^ 52 / 4 ^ 58 = 0 := Nat.div_eq_of_lt (by
      have p116 : (4 : Nat) ^ 58 = 2 ^ 64 * 2 ^ 52 := by decide
      have p64 : (2 : Nat) ^ 64 = 18446744073709551616 := by decide
      rw [p116]
      exact Nat.mul_lt_mul_of_pos_right (by omega) (by decide))
    rw [hR, show sqF 0 0 = 0 from rfl, l3, v.1, iz_s, iz_sar (by omega), iz_s] at L
    rw [wv_l, v.2, Nat.mod_eq_of_lt (show A * 2 ^ m0 < 18446744073709551616 by omega)] at eF
    have sb := sq_b 58 (A * 2 ^ m0 * 2 ^ 52)
    have hV : 2 * sqF 58 (A * 2 ^ m0 * 2 ^ 52) + (if A * 2 ^ m0 * 2 ^ 52 ≠ sqF 58 (A * 2 ^ m0 * 2 ^ 52) * sqF 58 (A * 2 ^ m0 * 2 ^ 52) then 1 else 0) < w128 := by
      rw [w128_e]
      split <;> omega
    generalize hVe : 2 * sqF 58 (A * 2 ^ m0 * 2 ^ 52) + (if A * 2 ^ m0 * 2 ^ 52 ≠ sqF 58 (A * 2 ^ m0 * 2 ^ 52) * sqF 58 (A * 2 ^ m0 * 2 ^ 52) then 1 else 0) = V at *
    have c1 := cf_W (S := S) o2 (show 3 < 4 by decide) V hS
    have c2 := cf_I6 (S := S) (cf_o o2 c1) (show 3 < 4 by decide) (Int32.ofInt ((p - (m0 : Int) - 52) / 2 - 1)) hS
    have cc := cf_0t cM (cf_0t c1 c2)
    refine ⟨m0, hm, hp, _, ?_, cc, ⟨sI_at _ _ _ _ _, (wv_wS hV).trans hVe.symm⟩, fun kd sg y => ⟨(w3 kd sg y).1, (oI (fun q => by omega)).trans (w3 kd sg y).2⟩⟩
    rw [eH]
    exact op_of (eF.trans L) ⟨cc.1.1, frC_ext cc.1⟩
  by_cases q : (p - ((62 - bln A : Nat) : Int)) % 2 = 1
  · rw [fi_pos q] at g
    have hL := X62_left (M := M1) (w := c (4 + i)) (n := 1) (by decide)
    rw [show ((1 : Nat) : Int) = 1 from rfl, a2.2, Nat.pow_one, Nat.mod_eq_of_lt (show A * 2 ^ (62 - bln A) * 2 < w128 by rw [w128_e]; omega), Nat.mul_assoc, ← Nat.pow_succ, show (62 - bln A).succ = 63 - bln A by omega] at hL
    rw [hL] at g
    have b1 := cf_W (S := S) o1 (show i < 4 by omega) (A * 2 ^ (63 - bln A)) hSi
    have b2 := cf_I6 (S := S) (cf_o o1 b1) (show i < 4 by omega) (Int32.ofInt (p - ((63 - bln A : Nat) : Int))) hSi
    have bl : bln (A * 2 ^ (63 - bln A)) = 63 := by rw [bln_mul x0]; omega
    have S2 : A * 2 ^ (63 - bln A) < 2 ^ 63 := by
      have := bln_lt (A * 2 ^ (63 - bln A))
      rw [bl] at this
      exact this
    have e1 : (wSF (c (4 + i)) (A * 2 ^ (63 - bln A)) M1).1 116 (c i) 0 - Int32.ofInt 1 = Int32.ofInt (p - ((63 - bln A : Nat) : Int)) := by
      show M1.1 116 (c i) 0 - Int32.ofInt 1 = _
      rw [a2.1, iz_s]
      congr 1
      omega
    rw [e1] at g
    have li' : (fm_sI (wSF (c (4 + i)) (A * 2 ^ (63 - bln A)) M1) 116 (c i) 0 (Int32.ofInt (p - ((63 - bln A : Nat) : Int)))).2.2 117 (c i) 0 = c (4 + i) := li
    rw [li'] at g
    refine rest (63 - bln A) _ (by omega) (by omega) (cf_0t a1 (cf_0t b1 b2)) ⟨sI_at _ _ _ _ _, wv_wS (by rw [w128_e]; omega)⟩ (fun kd sg y => ⟨(q3 kd sg y).1, (oI (fun q => by omega)).trans (q3 kd sg y).2⟩) g
  · rw [fi_neg q] at g
    exact rest (62 - bln A) _ (by omega) (by omega) a1 a2 q3 g
theorem X69_work (o : FlC u c M) (hi : i < 3) (hS : S 3) (hSi : S i) {op x m : Nat} (va : Tk c i M X) (hX : X.1 ≤ 2) (gX : gdU X) :
    ∃ N, (HX69_work op (c i) x m (c 12) (c 3) M ∧ GX69_work op (c i) x m (c 12) (c 3) M = N) ∧ Cf c S (rootR X).2 M N ∧ Ou c 3 md N (rootR X).1 := by
  have R27 : (X.2.1 = true → X.1 = 0) → ∃ N, (HX69_work_27 (c i) (c 3) M ∧ GX69_work_27 (c i) (c 3) M = N) ∧ Cf c S (rootR X).2 M N ∧ Ou c 3 md N (rootR X).1 := fun q => by
    unfold HX69_work_27 GX69_work_27
    rw [X71_is1 va.1]
    dsimp only
    rw [fi_bz]
    by_cases q1 : X.1 = 1
    · have s0 : X.2.1 = false := by
        cases h : X.2.1
        · rfl
        · have := q h
          omega
      obtain ⟨b1, b2, b3, -⟩ := X71_become (S := S) (kd := 1) (sg := false) o (show 3 < 4 by decide) (by decide) hS
      obtain ⟨b1', -, -, -⟩ := X71_become (S := fun k => k = 3) (kd := 1) (sg := false) o (show 3 < 4 by decide) (by decide) rfl
      have va1 := tk_k o b1' (show i < 4 by omega) (show ¬ i = 3 by omega) va
      have o1 := cf_o o b1
      rw [bz_f (c := (false = true)) (by decide)] at b1 b2 va1 o1
      rw [fi_pos q1, bz_t q1]
      obtain ⟨m0, hm, hp, N, ⟨h, e⟩, c1, c2, c3⟩ := X69_dig o1 hi hS hSi va1 q1 gX
      have x0 : X.2.2.1 ≠ 0 := fun y => by have := (gX.2.2.2 (by omega)).mp y; omega
      have bX := gdb gX
      have pA := gX.2.2.1
      have hrb : rb X = m0 + 54 := by
        unfold rb
        have b0 := bln_pos x0
        split <;> omega
      have eR : rootR X = ((1, false, sqF 59 (X.2.2.1 * 2 ^ (m0 + 54)), (X.2.2.2 - ((m0 + 54 : Nat) : Int)) / 2, decide (X.2.2.1 * 2 ^ (m0 + 54) ≠ sqF 59 (X.2.2.1 * 2 ^ (m0 + 54)) * sqF 59 (X.2.2.1 * 2 ^ (m0 + 54)))), 0) := by
        unfold rootR
        rw [if_neg (by omega), if_neg (by omega), s0, if_neg (by decide), hrb]
      rw [eR]
      have sb := sq_b 58 (X.2.2.1 * 2 ^ m0 * 2 ^ 52)
      have f := fun t ht => rt_f (t := t) (md := md) ht (p := X.2.2.2) (m0 := m0) x0 hm hp
      have hne : 2 * sqF 58 (X.2.2.1 * 2 ^ m0 * 2 ^ 52) + (if X.2.2.1 * 2 ^ m0 * 2 ^ 52 ≠ sqF 58 (X.2.2.1 * 2 ^ m0 * 2 ^ 52) * sqF 58 (X.2.2.1 * 2 ^ m0 * 2 ^ 52) then 1 else 0) ≠ 0 := fun y => by
        by_cases w : X.2.2.1 * 2 ^ m0 * 2 ^ 52 ≠ sqF 58 (X.2.2.1 * 2 ^ m0 * 2 ^ 52) * sqF 58 (X.2.2.1 * 2 ^ m0 * 2 ^ 52)
        · rw [if_pos w] at y
          omega
        · rw [if_neg w] at y
          have z : sqF 58 (X.2.2.1 * 2 ^ m0 * 2 ^ 52) = 0 := by omega
          rw [z] at w
          have w2 : X.2.2.1 * 2 ^ m0 * 2 ^ 52 = 0 := Classical.byContradiction (fun y => w y)
          rcases Nat.mul_eq_zero.mp w2 with w3 | w3
          · rcases Nat.mul_eq_zero.mp w3 with w4 | w4
            · exact x0 w4
            · have := Nat.two_pow_pos m0
              omega
          · exact absurd w3 (by decide)
      have hlt : 2 * sqF 58 (X.2.2.1 * 2 ^ m0 * 2 ^ 52) + (if X.2.2.1 * 2 ^ m0 * 2 ^ 52 ≠ sqF 58 (X.2.2.1 * 2 ^ m0 * 2 ^ 52) * sqF 58 (X.2.2.1 * 2 ^ m0 * 2 ^ 52) then 1 else 0) < 2 ^ 60 := by
        have p58 : (2 : Nat) ^ 58 = 288230376151711744 := by decide
        have p60 : (2 : Nat) ^ 60 = 1152921504606846976 := by decide
        split <;> omega
      refine ⟨N, ⟨⟨fun y => absurd y (by decide), fun _ => ⟨h, trivial⟩⟩, e⟩, cf_0t b1 c1, (1, false, _, _), ⟨c3 _ _ b2, fun _ => c2⟩, (show (1 : Nat) ≤ 4 by decide), fun _ => ⟨hne, Nat.le_trans (bln_le hlt) (by decide), ?_, ?_⟩, fun t ht => ?_⟩
      · dsimp only
        omega
      · dsimp only
        omega
      · dsimp only
        rw [fin_1, fin_1]
        exact f t ht
    · rw [fi_neg q1, bz_f q1, va.1.1, va.1.2]
      obtain ⟨b1, b2, b3, -⟩ := X71_become (S := S) (kd := X.1) (sg := X.2.1) o (show 3 < 4 by decide) (by omega) hS
      have eR : rootR X = ((X.1, X.2.1, 0, 0, false), 0) := by
        unfold rootR
        by_cases y : X.1 = 0
        · rw [if_pos y, y]
        · have s0 : ¬ X.2.1 = true := fun z => y (q z)
          rw [if_neg y, if_pos ⟨by omega, s0⟩, show X.1 = 2 by omega, show X.2.1 = false by cases h : X.2.1 <;> simp_all]
      rw [eR]
      exact ⟨_, ⟨⟨fun _ => trivial, fun y => absurd rfl y⟩, rfl⟩, b1, ou_k b2 (by omega) q1 (fun t _ => rfl)⟩
  unfold HX69_work HX69_work_0 GX69_work GX69_work_0
  rw [X71_is0 va.1, va.1.2]
  dsimp only
  rw [fi_bz, fi_bz]
  by_cases q : X.2.1 = true
  · rw [fi_pos q, bz_t q]
    by_cases q1 : X.1 = 0
    · rw [fi_pos q1, bz_t q1]
      obtain ⟨N, ⟨h, e⟩, r⟩ := R27 (fun _ => q1)
      exact ⟨N, ⟨⟨fun y => absurd y (by decide), fun _ => ⟨fun y => absurd y (by decide), fun _ => h⟩⟩, e⟩, r⟩
    · rw [fi_neg q1, bz_f q1]
      obtain ⟨h, b1, b2⟩ := X65_refuse (S := S) o hS
      have eR : rootR X = ((3, false, 0, 0, false), 16) := by
        unfold rootR
        rw [if_neg q1, if_neg (fun y => y.2 q), if_pos q]
      rw [eR]
      exact ⟨_, ⟨⟨fun y => absurd y (by decide), fun _ => ⟨fun _ => ⟨h, trivial⟩, fun y => absurd rfl y⟩⟩, rfl⟩, b1, ou_k b2 (by decide) (by decide) (fun t _ => rfl)⟩
  · rw [fi_neg q, bz_f q]
    obtain ⟨N, ⟨h, e⟩, r⟩ := R27 (fun y => absurd y q)
    exact ⟨N, ⟨⟨fun _ => h, fun y => absurd rfl y⟩, e⟩, r⟩
end Lu
