/-! floats: the component's sums by kinds -/
set_option maxRecDepth 100000
section Ld
variable {u i j md : Nat} {c : Nat → Nat} {S : Nat → Prop} {M N : FM} {X Y : UU}
theorem X66_add (o : FlC u c M) (hi : i < 3) (hj : j < 3) (hij : i ≠ j) (hS : S 3) (hSi : S i) (hSj : S j) (va : Tk c i M X) (vb : Tk c j M Y) (hX : X.1 ≤ 2) (hY : Y.1 ≤ 2) (gX : gW X) (gY : gW Y) :
    ∃ N, (HX66_add (c i) (c j) (1 + md) (c 12) (c 3) M ∧ GX66_add (c i) (c j) (1 + md) (c 12) (c 3) M = N) ∧ Cf c S (addR md X Y).2 M N ∧ Ou c 3 md N (addR md X Y).1 := by
  have bec : ∀ (kd : Nat) (z : Bool), kd ≤ 4 → kd ≠ 1 → addR md X Y = ((kd, z, 0, 0, false), 0) → ∃ N, GX71_become (c 3) (6 + kd) (bz (z = true)) M = N ∧ Cf c S (addR md X Y).2 M N ∧ Ou c 3 md N (addR md X Y).1 := fun kd z h4 h1 e => by
    obtain ⟨b1, b2, -, -⟩ := X71_become (S := S) (kd := kd) (sg := z) o (show 3 < 4 by decide) h4 hS
    rw [e]
    exact ⟨_, rfl, b1, ou_k b2 h4 h1 (fun t _ => rfl)⟩
  have cpy : ∀ (g : Nat) (Z : UU), g < 3 → Tk c g M Z → gW Z → Z.1 = 1 → addR md X Y = ((1, Z.2.1, Z.2.2.1, Z.2.2.2, false), 0) → ∃ N, GX71_copy (c 3) (c g) M = N ∧ Cf c S (addR md X Y).2 M N ∧ Ou c 3 md N (addR md X Y).1 := fun g Z hg vz gz h1 e => by
    obtain ⟨b1, b2, b3⟩ := X71_copy (S := S) o (show g < 4 by omega) (show 3 < 4 by decide) (by omega) hS gz.1 vz.1
    rw [e]
    have gg := gz.2.1 h1
    refine ⟨_, rfl, b1, Z, ⟨b2, fun y => b3 _ _ (vz.2 y)⟩, by omega, fun _ => ⟨gg.1, by omega, by omega, by omega⟩, fun t _ => by rw [h1]⟩
  have R204 : ∀ K, GX66_add_204 K = K := fun _ => rfl
  have R60 : ¬ (X.1 = 2 ∧ Y.1 = 2 ∧ X.2.1 ≠ Y.2.1) → (X.1 = 2 ∨ Y.1 = 2) → ∃ N, GX66_add_60 (c i) (c j) (c 3) M = N ∧ Cf c S (addR md X Y).2 M N ∧ Ou c 3 md N (addR md X Y).1 := fun q q2 => by
    unfold GX66_add_60 GX66_add_86
    rw [X71_is2 va.1]
    dsimp only
    rw [fi_bz, va.1.2, vb.1.2]
    by_cases q3 : X.1 = 2
    · rw [fi_pos q3]
      exact bec 2 X.2.1 (by decide) (by decide) (by unfold addR; rw [if_neg q, if_pos q3])
    · rw [fi_neg q3]
      exact bec 2 Y.2.1 (by decide) (by decide) (by unfold addR; rw [if_neg q, if_neg q3, if_pos (by omega)])
  have R153 : X.1 ≤ 1 → Y.1 ≤ 1 → ¬ (X.1 = 0 ∧ Y.1 = 0) → ∃ N, (HX66_add_153 (c i) (c j) (1 + md) (c 3) M ∧ GX66_add_153 (c i) (c j) (1 + md) (c 3) M = N) ∧ Cf c S (addR md X Y).2 M N ∧ Ou c 3 md N (addR md X Y).1 := fun x1 y1 q => by
    unfold HX66_add_153 GX66_add_153 GX66_add_173 GX66_add_190
    rw [X71_is0 va.1]
    dsimp only
    rw [X71_is0 vb.1]
    dsimp only
    rw [X71_is0 va.1]
    dsimp only
    rw [fi_bz, fi_bz, fi_bz]
    have eR : addR md X Y = (adN md X.2.1 X.2.2.1 X.2.2.2 Y.2.1 Y.2.2.1 Y.2.2.2, 0) := by
      unfold addR
      rw [if_neg (by omega), if_neg (by omega), if_neg (by omega)]
    by_cases q1 : X.1 = 0
    · rw [fi_pos q1, fi_pos q1, bz_t q1]
      have A0 := gX.2.2 q1
      have g1 := gY.2.1 (by omega)
      obtain ⟨N, e, r⟩ := cpy j Y hj vb gY (by omega) (by
        rw [eR]
        unfold adN
        rw [if_neg (fun y => g1.1 y.2), if_pos A0])
      exact ⟨N, ⟨⟨fun y => absurd y (by decide), fun _ => trivial⟩, e⟩, r⟩
    · rw [fi_neg q1, bz_f q1]
      have f1 := gX.2.1 (by omega)
      by_cases q2 : Y.1 = 0
      · rw [fi_pos q2, bz_t q2, fi_neg q1]
        have B0 := gY.2.2 q2
        obtain ⟨N, e, r⟩ := cpy i X hi va gX (by omega) (by
          rw [eR]
          unfold adN
          rw [if_neg (fun y => f1.1 y.1), if_neg f1.1, if_pos B0])
        exact ⟨N, ⟨⟨fun _ => ⟨fun y => absurd y (by decide), fun _ => trivial⟩, fun y => absurd rfl y⟩, e⟩, r⟩
      · rw [fi_neg q2, bz_f q2]
        have g1 := gY.2.1 (by omega)
        obtain ⟨N, ⟨h, e⟩, b, r⟩ := X66_lay (md := md) o hi hj hij hS hSi hSj va vb (by omega) (by omega) gX gY
        rw [eR]
        unfold adN
        rw [if_neg (fun y => f1.1 y.1), if_neg f1.1, if_neg g1.1]
        exact ⟨N, ⟨⟨fun _ => ⟨fun _ => ⟨h, trivial⟩, fun y => absurd rfl y⟩, fun y => absurd rfl y⟩, e⟩, b, r⟩
  have R40 : ¬ (X.1 = 2 ∧ Y.1 = 2 ∧ X.2.1 ≠ Y.2.1) → ∃ N, (HX66_add_40 (c i) (c j) (1 + md) (c 3) M ∧ GX66_add_40 (c i) (c j) (1 + md) (c 3) M = N) ∧ Cf c S (addR md X Y).2 M N ∧ Ou c 3 md N (addR md X Y).1 := fun q => by
    unfold HX66_add_40 GX66_add_40 GX66_add_147
    rw [X71_is2 va.1]
    dsimp only
    rw [X71_is2 vb.1]
    dsimp only
    rw [X71_is0 va.1]
    dsimp only
    rw [X71_is0 vb.1]
    dsimp only
    rw [fi_bz, fi_bz, fi_bz, fi_bz, va.1.2, vb.1.2, propext bz_ii]
    by_cases q1 : X.1 = 2
    · rw [fi_pos q1, bz_t q1]
      obtain ⟨N, e, r⟩ := R60 q (Or.inl q1)
      exact ⟨N, ⟨⟨fun y => absurd y (by decide), fun _ => trivial⟩, e⟩, r⟩
    · rw [fi_neg q1, bz_f q1]
      by_cases q2 : Y.1 = 2
      · rw [fi_pos q2, bz_t q2]
        obtain ⟨N, e, r⟩ := R60 q (Or.inr q2)
        exact ⟨N, ⟨⟨fun _ => ⟨fun y => absurd y (by decide), fun _ => trivial⟩, fun y => absurd rfl y⟩, e⟩, r⟩
      · rw [fi_neg q2, bz_f q2]
        by_cases q3 : X.1 = 0
        · rw [fi_pos q3, bz_t q3]
          by_cases q4 : Y.1 = 0
          · rw [fi_pos q4, bz_t q4]
            have eR : addR md X Y = ((0, if X.2.1 = Y.2.1 then X.2.1 else decide (md = 2), 0, 0, false), 0) := by
              unfold addR adN
              rw [if_neg q, if_neg q1, if_neg q2, if_pos ⟨gX.2.2 q3, gY.2.2 q4⟩]
            have key : ∃ N, fi (X.2.1 = Y.2.1) (GX71_become (c 3) 6 (bz (X.2.1 = true)) M) (fi (1 + md = 3) (GX71_become (c 3) 6 (Int32.ofInt 1) M) (GX71_become (c 3) 6 (Int32.ofInt 0) M)) = N ∧ Cf c S (addR md X Y).2 M N ∧ Ou c 3 md N (addR md X Y).1 := by
              by_cases y1 : X.2.1 = Y.2.1
              · rw [fi_pos y1]
                rw [if_pos y1] at eR
                exact bec 0 X.2.1 (by decide) (by decide) eR
              · rw [fi_neg y1]
                rw [if_neg y1] at eR
                by_cases y2 : md = 2
                · rw [fi_pos (show 1 + md = 3 by omega)]
                  rw [decide_eq_true y2] at eR
                  have := bec 0 true (by decide) (by decide) eR
                  rw [bz_t rfl] at this
                  exact this
                · rw [fi_neg (show ¬ 1 + md = 3 by omega)]
                  rw [decide_eq_false y2] at eR
                  have := bec 0 false (by decide) (by decide) eR
                  rw [bz_f (show ¬ false = true by decide)] at this
                  exact this
            obtain ⟨N, e, r⟩ := key
            exact ⟨N, ⟨⟨fun _ => ⟨fun _ => ⟨fun y => absurd y (by decide), fun _ => ⟨fun y => absurd y (by decide), fun _ => trivial⟩⟩, fun y => absurd rfl y⟩, fun y => absurd rfl y⟩, e⟩, r⟩
          · rw [fi_neg q4, bz_f q4]
            obtain ⟨N, ⟨h, e⟩, r⟩ := R153 (by omega) (by omega) (fun y => q4 y.2)
            exact ⟨N, ⟨⟨fun _ => ⟨fun _ => ⟨fun y => absurd y (by decide), fun _ => ⟨fun _ => h, fun y => absurd rfl y⟩⟩, fun y => absurd rfl y⟩, fun y => absurd rfl y⟩, e⟩, r⟩
        · rw [fi_neg q3, bz_f q3]
          obtain ⟨N, ⟨h, e⟩, r⟩ := R153 (by omega) (by omega) (fun y => q3 y.1)
          exact ⟨N, ⟨⟨fun _ => ⟨fun _ => ⟨fun _ => h, fun y => absurd rfl y⟩, fun y => absurd rfl y⟩, fun y => absurd rfl y⟩, e⟩, r⟩
  unfold HX66_add HX66_add_0 GX66_add GX66_add_0
  rw [X71_is2 va.1]
  dsimp only
  rw [X71_is2 vb.1]
  dsimp only
  rw [fi_bz, fi_bz, va.1.2, vb.1.2, propext bz_ii]
  by_cases q1 : X.1 = 2
  · rw [fi_pos q1, bz_t q1]
    by_cases q2 : Y.1 = 2
    · rw [fi_pos q2, bz_t q2]
      by_cases q3 : X.2.1 = Y.2.1
      · rw [fi_pos q3]
        obtain ⟨N, ⟨h, e⟩, r⟩ := R40 (fun y => y.2.2 q3)
        exact ⟨N, ⟨⟨fun y => absurd y (by decide), fun _ => ⟨fun y => absurd y (by decide), fun _ => ⟨fun _ => h, fun y => absurd q3 y⟩⟩⟩, e⟩, r⟩
      · rw [fi_neg q3]
        obtain ⟨h, b1, b2⟩ := X65_refuse (S := S) o hS
        refine ⟨_, ⟨⟨fun y => absurd y (by decide), fun _ => ⟨fun y => absurd y (by decide), fun _ => ⟨fun y => absurd y q3, fun _ => ⟨h, trivial⟩⟩⟩⟩, rfl⟩, ?_⟩
        have eR : addR md X Y = ((3, false, 0, 0, false), 16) := by
          unfold addR
          rw [if_pos ⟨q1, q2, q3⟩]
        rw [eR]
        exact ⟨b1, ou_k b2 (by decide) (by decide) (fun t _ => rfl)⟩
    · rw [fi_neg q2, bz_f q2]
      obtain ⟨N, ⟨h, e⟩, r⟩ := R40 (fun y => q2 y.2.1)
      exact ⟨N, ⟨⟨fun y => absurd y (by decide), fun _ => ⟨fun _ => h, fun y => absurd rfl y⟩⟩, e⟩, r⟩
  · rw [fi_neg q1, bz_f q1]
    obtain ⟨N, ⟨h, e⟩, r⟩ := R40 (fun y => q1 y.1)
    exact ⟨N, ⟨⟨fun _ => h, fun y => absurd rfl y⟩, e⟩, r⟩
end Ld
