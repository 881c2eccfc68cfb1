/-! floats: the component's quotients by kinds; roots -/
set_option maxRecDepth 100000
section Lr
variable {u i j md : Nat} {c : Nat → Nat} {S : Nat → Prop} {M N : FM} {X Y : UU}
theorem X68_work (o : FlC u c M) (hi : i < 3) (hj : j < 3) (hij : i ≠ j) (hS : S 3) (hSi : S i) (hSj : S j) {op m : Nat} (va : Tk c i M X) (vb : Tk c j M Y) (hX : X.1 ≤ 2) (hY : Y.1 ≤ 2) (gX : gdU X) (gY : gdU Y) :
    ∃ N, (HX68_work op (c i) (c j) m (c 12) (c 3) M ∧ GX68_work op (c i) (c j) m (c 12) (c 3) M = N) ∧ Cf c S (divR X Y).2 M N ∧ Ou c 3 md N (divR X Y).1 := by
  have hsx : (bz (X.2.1 = true) = bz (Y.2.1 = true)) ↔ ¬ (X.2.1 ^^ Y.2.1) = true := by
    rw [bz_ii]
    cases X.2.1 <;> cases Y.2.1 <;> decide
  have K16 : ∀ z : Bool, z = (X.2.1 ^^ Y.2.1) → ∃ N, (HX68_work_16 (c i) (c j) (c 12) (c 3) (bz (z = true)) M ∧ GX68_work_16 (c i) (c j) (c 12) (c 3) (bz (z = true)) M = N) ∧ Cf c S (divR X Y).2 M N ∧ Ou c 3 md N (divR X Y).1 := fun z hz => by
    have R117 : ∀ fl kd, fl < 4294967296 → (kd = if X.1 = 2 ∨ Y.1 = 0 then 2 else 0) → divR X Y = ((kd, z, 0, 0, false), fl) →
        ∃ N, (HX68_work_117 (c i) (c j) (c 3) (bz (z = true)) (c 12) (nI fl) M ∧ GX68_work_117 (c i) (c j) (c 3) (bz (z = true)) (c 12) (nI fl) M = N) ∧ Cf c S (divR X Y).2 M N ∧ Ou c 3 md N (divR X Y).1 := fun fl kd hf hk e => by
      obtain ⟨h, b⟩ := cf_f (S := S) (fl := fl) o hf
      obtain ⟨_, b'⟩ := cf_f (S := fun _ => False) (fl := fl) o hf
      have va1 := tk_k o b' (show i < 4 by omega) (fun y => y) va
      have vb1 := tk_k o b' (show j < 4 by omega) (fun y => y) vb
      have o1 := cf_o o b
      unfold HX68_work_117 GX68_work_117 GX68_work_142 GX68_work_151 GX68_work_156
      dsimp only
      generalize GX60_raise (c 12) (nI fl) M = K at *
      rw [X71_is2 va1.1]
      dsimp only
      rw [X71_is0 vb1.1]
      dsimp only
      rw [fi_bz, fi_bz, e]
      have fi2 : fi (X.1 = 2) (GX71_become (c 3) 8 (bz (z = true)) K) (fi (Y.1 = 0) (GX71_become (c 3) 8 (bz (z = true)) K) (GX71_become (c 3) 6 (bz (z = true)) K)) = GX71_become (c 3) (6 + kd) (bz (z = true)) K := by
        rw [hk]
        by_cases y1 : X.1 = 2
        · rw [fi_pos y1, if_pos (Or.inl y1)]
        · rw [fi_neg y1]
          by_cases y2 : Y.1 = 0
          · rw [fi_pos y2, if_pos (Or.inr y2)]
          · rw [fi_neg y2, if_neg (fun y => y.elim y1 y2)]
      rw [fi2]
      have k02 : kd = 2 ∨ kd = 0 := by
        rw [hk]
        split
        · exact Or.inl rfl
        · exact Or.inr rfl
      obtain ⟨b1, b2, -, -⟩ := X71_become (S := S) (kd := kd) (sg := z) o1 (show 3 < 4 by decide) (by omega) hS
      exact ⟨_, ⟨⟨h, trivial⟩, rfl⟩, cf_t0 b b1, ou_k b2 (by omega) (by omega) (fun t _ => rfl)⟩
    have R89 : ¬ (X.1 = Y.1 ∧ X.1 ≠ 1) → ¬ (X.1 = 1 ∧ Y.1 = 1) → ∃ N, (HX68_work_89 (c i) (c j) (c 12) (c 3) (bz (z = true)) M ∧ GX68_work_89 (c i) (c j) (c 12) (c 3) (bz (z = true)) M = N) ∧ Cf c S (divR X Y).2 M N ∧ Ou c 3 md N (divR X Y).1 := fun q q1 => by
      unfold HX68_work_89 GX68_work_89 HX68_work_116 GX68_work_116
      rw [X71_is1 va.1]
      dsimp only
      rw [X71_is0 vb.1]
      dsimp only
      rw [fi_bz, fi_bz]
      have e0 : ¬ (X.1 = 1 ∧ Y.1 = 0) → divR X Y = ((if X.1 = 2 ∨ Y.1 = 0 then 2 else 0, z, 0, 0, false), 0) := fun y => by
        unfold divR
        rw [if_neg q]
        by_cases y1 : X.1 = 2
        · rw [if_pos y1, if_pos (Or.inl y1), hz]
        · rw [if_neg y1, if_neg (by omega), if_pos (by omega), if_neg (by omega), hz]
      by_cases q2 : X.1 = 1
      · rw [fi_pos q2, bz_t q2]
        by_cases q3 : Y.1 = 0
        · rw [fi_pos q3, bz_t q3]
          obtain ⟨N, ⟨h, e⟩, r⟩ := R117 8 2 (by decide) (by rw [if_pos (Or.inr q3)]) (by
            unfold divR
            rw [if_neg q, if_neg (by omega), if_pos q3, hz])
          exact ⟨N, ⟨⟨fun y => absurd y (by decide), fun _ => ⟨fun y => absurd y (by decide), fun _ => h⟩⟩, e⟩, r⟩
        · rw [fi_neg q3, bz_f q3]
          obtain ⟨N, ⟨h, e⟩, r⟩ := R117 0 _ (by decide) rfl (e0 (fun y => q3 y.2))
          exact ⟨N, ⟨⟨fun y => absurd y (by decide), fun _ => ⟨fun _ => h, fun y => absurd rfl y⟩⟩, e⟩, r⟩
      · rw [fi_neg q2, bz_f q2]
        obtain ⟨N, ⟨h, e⟩, r⟩ := R117 0 _ (by decide) rfl (e0 (fun y => q2 y.1))
        exact ⟨N, ⟨⟨fun _ => h, fun y => absurd rfl y⟩, e⟩, r⟩
    have R49 : ¬ (X.1 = Y.1 ∧ X.1 ≠ 1) → ∃ N, (HX68_work_49 (c i) (c j) (c 12) (c 3) (bz (z = true)) M ∧ GX68_work_49 (c i) (c j) (c 12) (c 3) (bz (z = true)) M = N) ∧ Cf c S (divR X Y).2 M N ∧ Ou c 3 md N (divR X Y).1 := fun q => by
      unfold HX68_work_49 GX68_work_49
      rw [X71_is1 va.1]
      dsimp only
      rw [X71_is1 vb.1]
      dsimp only
      rw [fi_bz, fi_bz]
      by_cases q1 : X.1 = 1
      · rw [fi_pos q1, bz_t q1]
        by_cases q2 : Y.1 = 1
        · rw [fi_pos q2, bz_t q2]
          obtain ⟨K, ⟨h, e⟩, b1, b2⟩ := X68_divide o hi hj hij hS hSi hSj va vb q1 q2 gX gY
          rw [e]
          obtain ⟨d1, d2, d3, -⟩ := X71_become (S := S) (kd := 1) (sg := z) (cf_o o b1) (show 3 < 4 by decide) (by decide) hS
          have eR : divR X Y = ((1, z, X.2.2.1 * 2 ^ 120 / Y.2.2.1, X.2.2.2 - 120 - Y.2.2.2, decide (X.2.2.1 * 2 ^ 120 % Y.2.2.1 ≠ 0)), 0) := by
            unfold divR
            rw [if_neg q, if_neg (by omega), if_neg (by omega), if_neg (by omega), hz]
          rw [eR]
          have x0 : X.2.2.1 ≠ 0 := fun y => by have := (gX.2.2.2 (by omega)).mp y; omega
          have y0 : Y.2.2.1 ≠ 0 := fun y => by have := (gY.2.2.2 (by omega)).mp y; omega
          have bX := gdb gX
          have bY := gdb gY
          have p1 := gX.2.2.1
          have p2 := gY.2.2.1
          have b3 := bln_pos x0
          have b4 := bln_pos y0
          have gA : bln (X.2.2.1 * 2 ^ (62 - bln X.2.2.1)) = 62 := by rw [bln_mul x0]; omega
          have gB : bln (Y.2.2.1 * 2 ^ (62 - bln Y.2.2.1)) = 62 := by rw [bln_mul y0]; omega
          have f := fun t ht => dv_f (t := t) (md := md) (sg := z) ht (p := X.2.2.2) (q := Y.2.2.2) x0 y0 (show bln X.2.2.1 + (62 - bln X.2.2.1) = 62 by omega) (show bln Y.2.2.1 + (62 - bln Y.2.2.1) = 62 by omega) bX.1 bY.1
          have p62 : (2 : Nat) ^ 62 = 4611686018427387904 := by decide
          have p61 : (2 : Nat) ^ 61 = 2305843009213693952 := by decide
          have p127 : (2 : Nat) ^ 127 = 170141183460469231731687303715884105728 := by decide
          have A2 : X.2.2.1 * 2 ^ (62 - bln X.2.2.1) < 2 ^ 62 := by
            have := bln_lt (X.2.2.1 * 2 ^ (62 - bln X.2.2.1))
            rw [gA] at this
            exact this
          have A3 : 2 ^ 61 ≤ X.2.2.1 * 2 ^ (62 - bln X.2.2.1) := by
            have := bln_ge (N := X.2.2.1 * 2 ^ (62 - bln X.2.2.1)) (fun y => by rw [y] at gA; exact absurd gA (by decide))
            rw [gA] at this
            exact this
          have B2 : Y.2.2.1 * 2 ^ (62 - bln Y.2.2.1) < 2 ^ 62 := by
            have := bln_lt (Y.2.2.1 * 2 ^ (62 - bln Y.2.2.1))
            rw [gB] at this
            exact this
          have B0 : 0 < Y.2.2.1 * 2 ^ (62 - bln Y.2.2.1) := Nat.mul_pos (Nat.pos_of_ne_zero y0) (Nat.two_pow_pos _)
          have hq : 1 ≤ X.2.2.1 * 2 ^ (62 - bln X.2.2.1) * 2 ^ 60 / (Y.2.2.1 * 2 ^ (62 - bln Y.2.2.1)) := by
            rw [Nat.le_div_iff_mul_le B0]
            omega
          have hq2 : X.2.2.1 * 2 ^ (62 - bln X.2.2.1) * 2 ^ 60 / (Y.2.2.1 * 2 ^ (62 - bln Y.2.2.1)) ≤ X.2.2.1 * 2 ^ (62 - bln X.2.2.1) * 2 ^ 60 := Nat.div_le_self _ _
          have hs : (if X.2.2.1 * 2 ^ (62 - bln X.2.2.1) * 2 ^ 60 % (Y.2.2.1 * 2 ^ (62 - bln Y.2.2.1)) ≠ 0 then 1 else 0) ≤ 1 := by split <;> omega
          refine ⟨_, ⟨⟨fun y => absurd y (by decide), fun _ => ⟨fun y => absurd y (by decide), fun _ => ⟨h, trivial⟩⟩⟩, rfl⟩, cf_0t b1 d1, (1, z, _, _), ⟨d2, fun _ => d3 _ _ b2⟩, (show (1 : Nat) ≤ 4 by decide), fun _ => ⟨?_, bln_le ?_, ?_, ?_⟩, fun t ht => ?_⟩
          · dsimp only
            omega
          · dsimp only
            omega
          · dsimp only
            omega
          · dsimp only
            omega
          · dsimp only
            rw [fin_1, fin_1]
            exact f t ht
        · rw [fi_neg q2, bz_f q2]
          obtain ⟨N, ⟨h, e⟩, r⟩ := R89 q (fun y => q2 y.2)
          exact ⟨N, ⟨⟨fun y => absurd y (by decide), fun _ => ⟨fun _ => h, fun y => absurd rfl y⟩⟩, e⟩, r⟩
      · rw [fi_neg q1, bz_f q1]
        obtain ⟨N, ⟨h, e⟩, r⟩ := R89 q (fun y => q1 y.1)
        exact ⟨N, ⟨⟨fun _ => h, fun y => absurd rfl y⟩, e⟩, r⟩
    unfold HX68_work_16 GX68_work_16
    dsimp only
    rw [va.1.1, vb.1.1, X71_is1 va.1, show (6 + X.1 = 6 + Y.1) = (X.1 = Y.1) from propext ⟨fun y => by omega, fun y => by omega⟩]
    dsimp only
    rw [fi_bz]
    by_cases q1 : X.1 = Y.1
    · rw [fi_pos q1]
      by_cases q2 : X.1 = 1
      · rw [fi_pos q2, bz_t q2]
        obtain ⟨N, ⟨h, e⟩, r⟩ := R49 (fun y => y.2 q2)
        exact ⟨N, ⟨⟨fun _ => ⟨fun y => absurd y (by decide), fun _ => h⟩, fun y => absurd q1 y⟩, e⟩, r⟩
      · rw [fi_neg q2, bz_f q2]
        obtain ⟨h, b1, b2⟩ := X65_refuse (S := S) o hS
        have eR : divR X Y = ((3, false, 0, 0, false), 16) := by
          unfold divR
          rw [if_pos ⟨q1, q2⟩]
        rw [eR]
        exact ⟨_, ⟨⟨fun _ => ⟨fun _ => ⟨h, trivial⟩, fun y => absurd rfl y⟩, fun y => absurd q1 y⟩, rfl⟩, b1, ou_k b2 (by decide) (by decide) (fun t _ => rfl)⟩
    · rw [fi_neg q1]
      obtain ⟨N, ⟨h, e⟩, r⟩ := R49 (fun y => q1 y.1)
      exact ⟨N, ⟨⟨fun y => absurd y q1, fun _ => h⟩, e⟩, r⟩
  unfold HX68_work HX68_work_0 GX68_work GX68_work_0
  rw [va.1.2, vb.1.2, propext hsx]
  by_cases q : (X.2.1 ^^ Y.2.1) = true
  · rw [fi_neg (fun y => y q)]
    obtain ⟨N, ⟨h, e⟩, r⟩ := K16 true q.symm
    rw [bz_t (show true = true from rfl)] at h e
    exact ⟨N, ⟨⟨fun y => absurd q y, fun _ => h⟩, e⟩, r⟩
  · rw [fi_pos q]
    obtain ⟨N, ⟨h, e⟩, r⟩ := K16 false (by cases hh : (X.2.1 ^^ Y.2.1) <;> simp_all)
    rw [bz_f (show ¬ false = true by decide)] at h e
    exact ⟨N, ⟨⟨fun _ => h, fun y => absurd q y⟩, e⟩, r⟩
end Lr
