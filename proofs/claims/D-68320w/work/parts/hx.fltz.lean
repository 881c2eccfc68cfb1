/-! floats: the component's unit fuses -/
set_option maxRecDepth 100000
/-- what a product is before a sum -/
def prU (X Y : UU) : UU := exU (nnR X.1 Y.1 (mulR X Y)).1
def fuS (md : Nat) (X Y Z : UU) (a b : Bool) : Rt × Nat := nnR (prU X Y).1 Z.1 (addR md ((prU X Y).1, (prU X Y).2.1 ^^ a, (prU X Y).2.2) (Z.1, Z.2.1 ^^ b, Z.2.2))
theorem pr2 {x n m : Nat} (h : n = m) : (x, n) = (x, m) := by rw [h]
theorem fus_e {t md : Nat} {X Y Z : UU} {a b : Bool} (gX : gdU X) (gY : gdU Y) (gZ : gdU Z) :
    ((finF t md (fuS md X Y Z a b).1).1, (nnR X.1 Y.1 (mulR X Y)).2 ||| ((fuS md X Y Z a b).2 ||| (finF t md (fuS md X Y Z a b).1).2)) = fusR t md X Y Z a b := by
  obtain ⟨kx, sx, vx, ex⟩ := X
  obtain ⟨ky, sy, vy, ey⟩ := Y
  obtain ⟨kz, sz, vz, ez⟩ := Z
  obtain ⟨x1, -, -, x4⟩ := gX
  obtain ⟨y1, -, -, y4⟩ := gY
  obtain ⟨z1, -, -, z4⟩ := gZ
  unfold fusR fuS prU
  dsimp only at x1 x4 y1 y4 z1 z4 ⊢
  by_cases w : kx = 2 ∧ ky = 0 ∨ kx = 0 ∧ ky = 2
  · have e : nnR kx ky (mulR (kx, sx, vx, ex) (ky, sy, vy, ey)) = ((3, false, 0, 0, false), 16) := by
      unfold nnR mulR
      rw [if_neg (by omega), if_pos w]
    rw [e, if_pos w]
    unfold nnR exU
    dsimp only
    rw [if_pos (Or.inl (Nat.le_refl 3))]
    dsimp only
    rw [fin_3]
    by_cases q : kz = 4
    · rw [if_pos (Or.inr q)]
      exact pr2 (show _ = _ from by dsimp only; decide)
    · rw [if_neg (fun y => y.elim (fun z => absurd z (by decide)) q)]
      exact pr2 (show _ = _ from by dsimp only; decide)
  · rw [if_neg w]
    by_cases n : 3 ≤ kx ∨ 3 ≤ ky
    · have e : nnR kx ky (mulR (kx, sx, vx, ex) (ky, sy, vy, ey)) = ((3, false, 0, 0, false), if kx = 4 ∨ ky = 4 then 16 else 0) := by
        unfold nnR
        rw [if_pos n]
      rw [e, if_pos (show 3 ≤ kx ∨ 3 ≤ ky ∨ 3 ≤ kz by omega)]
      unfold nnR exU
      dsimp only
      rw [if_pos (Or.inl (Nat.le_refl 3))]
      dsimp only
      rw [fin_3]
      by_cases q : kx = 4 ∨ ky = 4
      · rw [if_pos q, if_pos (show kx = 4 ∨ ky = 4 ∨ kz = 4 by omega)]
        by_cases q2 : kz = 4
        · rw [if_pos (Or.inr q2)]
          exact pr2 (show _ = _ from by dsimp only; decide)
        · rw [if_neg (fun y => y.elim (fun z => absurd z (by decide)) q2)]
          exact pr2 (show _ = _ from by dsimp only; decide)
      · rw [if_neg q]
        by_cases q2 : kz = 4
        · rw [if_pos (Or.inr q2), if_pos (show kx = 4 ∨ ky = 4 ∨ kz = 4 by omega)]
          exact pr2 (show _ = _ from by dsimp only; decide)
        · rw [if_neg (fun y => y.elim (fun z => absurd z (by decide)) q2), if_neg (show ¬ (kx = 4 ∨ ky = 4 ∨ kz = 4) by omega)]
          exact pr2 (show _ = _ from by dsimp only; decide)
    · have eN : nnR kx ky (mulR (kx, sx, vx, ex) (ky, sy, vy, ey)) = mulR (kx, sx, vx, ex) (ky, sy, vy, ey) := by
        unfold nnR
        rw [if_neg n]
      have e : mulR (kx, sx, vx, ex) (ky, sy, vy, ey) = if kx = 2 ∨ ky = 2 then ((2, sx ^^ sy, 0, 0, false), 0) else if kx = 0 ∨ ky = 0 then ((0, sx ^^ sy, 0, 0, false), 0) else ((1, sx ^^ sy, vx * vy, ex + ey, false), 0) := by
        unfold mulR
        rw [if_neg w]
      rw [eN, e]
      have fin' : ∀ (kp : Nat) (vp : Nat) (ep : Int), kp ≤ 2 → (if kx = 2 ∨ ky = 2 then (((2, sx ^^ sy, 0, 0, false), 0) : Rt × Nat) else if kx = 0 ∨ ky = 0 then ((0, sx ^^ sy, 0, 0, false), 0) else ((1, sx ^^ sy, vx * vy, ex + ey, false), 0)) = ((kp, sx ^^ sy, vp, ep, false), 0) →
          (kp = 2 ↔ kx = 2 ∨ ky = 2) → (¬ (kx = 2 ∨ ky = 2) → ¬ kz = 2 → addR md (kp, (sx ^^ sy) ^^ a, vp, ep) (kz, sz ^^ b, vz, ez) = (adN md ((sx ^^ sy) ^^ a) (vx * vy) (ex + ey) (sz ^^ b) vz ez, 0)) →
          ((finF t md (nnR (exU (if kx = 2 ∨ ky = 2 then (((2, sx ^^ sy, 0, 0, false), 0) : Rt × Nat) else if kx = 0 ∨ ky = 0 then ((0, sx ^^ sy, 0, 0, false), 0) else ((1, sx ^^ sy, vx * vy, ex + ey, false), 0)).1).1 kz (addR md ((exU (if kx = 2 ∨ ky = 2 then (((2, sx ^^ sy, 0, 0, false), 0) : Rt × Nat) else if kx = 0 ∨ ky = 0 then ((0, sx ^^ sy, 0, 0, false), 0) else ((1, sx ^^ sy, vx * vy, ex + ey, false), 0)).1).1, (exU (if kx = 2 ∨ ky = 2 then (((2, sx ^^ sy, 0, 0, false), 0) : Rt × Nat) else if kx = 0 ∨ ky = 0 then ((0, sx ^^ sy, 0, 0, false), 0) else ((1, sx ^^ sy, vx * vy, ex + ey, false), 0)).1).2.1 ^^ a, (exU (if kx = 2 ∨ ky = 2 then (((2, sx ^^ sy, 0, 0, false), 0) : Rt × Nat) else if kx = 0 ∨ ky = 0 then ((0, sx ^^ sy, 0, 0, false), 0) else ((1, sx ^^ sy, vx * vy, ex + ey, false), 0)).1).2.2) (kz, sz ^^ b, vz, ez))).1).1,
            (if kx = 2 ∨ ky = 2 then (((2, sx ^^ sy, 0, 0, false), 0) : Rt × Nat) else if kx = 0 ∨ ky = 0 then ((0, sx ^^ sy, 0, 0, false), 0) else ((1, sx ^^ sy, vx * vy, ex + ey, false), 0)).2 |||
            ((nnR (exU (if kx = 2 ∨ ky = 2 then (((2, sx ^^ sy, 0, 0, false), 0) : Rt × Nat) else if kx = 0 ∨ ky = 0 then ((0, sx ^^ sy, 0, 0, false), 0) else ((1, sx ^^ sy, vx * vy, ex + ey, false), 0)).1).1 kz (addR md ((exU (if kx = 2 ∨ ky = 2 then (((2, sx ^^ sy, 0, 0, false), 0) : Rt × Nat) else if kx = 0 ∨ ky = 0 then ((0, sx ^^ sy, 0, 0, false), 0) else ((1, sx ^^ sy, vx * vy, ex + ey, false), 0)).1).1, (exU (if kx = 2 ∨ ky = 2 then (((2, sx ^^ sy, 0, 0, false), 0) : Rt × Nat) else if kx = 0 ∨ ky = 0 then ((0, sx ^^ sy, 0, 0, false), 0) else ((1, sx ^^ sy, vx * vy, ex + ey, false), 0)).1).2.1 ^^ a, (exU (if kx = 2 ∨ ky = 2 then (((2, sx ^^ sy, 0, 0, false), 0) : Rt × Nat) else if kx = 0 ∨ ky = 0 then ((0, sx ^^ sy, 0, 0, false), 0) else ((1, sx ^^ sy, vx * vy, ex + ey, false), 0)).1).2.2) (kz, sz ^^ b, vz, ez))).2 |||
            (finF t md (nnR (exU (if kx = 2 ∨ ky = 2 then (((2, sx ^^ sy, 0, 0, false), 0) : Rt × Nat) else if kx = 0 ∨ ky = 0 then ((0, sx ^^ sy, 0, 0, false), 0) else ((1, sx ^^ sy, vx * vy, ex + ey, false), 0)).1).1 kz (addR md ((exU (if kx = 2 ∨ ky = 2 then (((2, sx ^^ sy, 0, 0, false), 0) : Rt × Nat) else if kx = 0 ∨ ky = 0 then ((0, sx ^^ sy, 0, 0, false), 0) else ((1, sx ^^ sy, vx * vy, ex + ey, false), 0)).1).1, (exU (if kx = 2 ∨ ky = 2 then (((2, sx ^^ sy, 0, 0, false), 0) : Rt × Nat) else if kx = 0 ∨ ky = 0 then ((0, sx ^^ sy, 0, 0, false), 0) else ((1, sx ^^ sy, vx * vy, ex + ey, false), 0)).1).2.1 ^^ a, (exU (if kx = 2 ∨ ky = 2 then (((2, sx ^^ sy, 0, 0, false), 0) : Rt × Nat) else if kx = 0 ∨ ky = 0 then ((0, sx ^^ sy, 0, 0, false), 0) else ((1, sx ^^ sy, vx * vy, ex + ey, false), 0)).1).2.2) (kz, sz ^^ b, vz, ez))).1).2)) =
          (if 3 ≤ kx ∨ 3 ≤ ky ∨ 3 ≤ kz then (qN t, if kx = 4 ∨ ky = 4 ∨ kz = 4 then 16 else 0)
            else if kx = 2 ∨ ky = 2 then (if kz = 2 ∧ ((sx ^^ sy) ^^ a) ≠ (sz ^^ b) then (qN t, 16) else (pk t ((sx ^^ sy) ^^ a) (2 * fG t + 1) 0, 0))
            else if kz = 2 then (pk t (sz ^^ b) (2 * fG t + 1) 0, 0) else finF t md (adN md ((sx ^^ sy) ^^ a) (vx * vy) (ex + ey) (sz ^^ b) vz ez)) := fun kp vp ep hp eP h2 hA => by
        rw [eP]
        unfold exU
        dsimp only
        by_cases q : 3 ≤ kz
        · have en : ∀ R, nnR kp kz R = ((3, false, 0, 0, false), if kz = 4 then 16 else 0) := fun R => by
            unfold nnR
            rw [if_pos (Or.inr q), ite_c (show kp = 4 ∨ kz = 4 ↔ kz = 4 by omega)]
          rw [en, if_pos (Or.inr (Or.inr q))]
          dsimp only
          rw [fin_3, ite_c (show kx = 4 ∨ ky = 4 ∨ kz = 4 ↔ kz = 4 by omega)]
          dsimp only
          rw [Nat.zero_or, Nat.or_zero]
        · have en : ∀ R, nnR kp kz R = R := fun R => by
            unfold nnR
            rw [if_neg (by omega)]
          rw [en, if_neg (show ¬ (3 ≤ kx ∨ 3 ≤ ky ∨ 3 ≤ kz) by omega)]
          by_cases q2 : kx = 2 ∨ ky = 2
          · rw [if_pos q2]
            have k2 := h2.mpr q2
            unfold addR
            dsimp only
            by_cases q3 : kz = 2 ∧ ((sx ^^ sy) ^^ a) ≠ (sz ^^ b)
            · rw [if_pos q3, if_pos ⟨k2, q3.1, q3.2⟩]
              dsimp only
              rw [fin_3]
              exact pr2 (show _ = _ from by dsimp only; decide)
            · rw [if_neg q3, if_neg (fun y => q3 ⟨y.2.1, y.2.2⟩), if_pos k2]
              dsimp only
              rw [fin_2]
              exact pr2 (show _ = _ from by dsimp only; decide)
          · rw [if_neg q2]
            have k2 : ¬ kp = 2 := fun y => q2 (h2.mp y)
            by_cases q3 : kz = 2
            · rw [if_pos q3]
              unfold addR
              dsimp only
              rw [if_neg (fun y => k2 y.1), if_neg k2, if_pos q3]
              dsimp only
              rw [fin_2]
              exact pr2 (show _ = _ from by dsimp only; decide)
            · rw [if_neg q3, hA q2 q3]
              dsimp only
              rw [Nat.zero_or, Nat.zero_or]
      by_cases q2 : kx = 2 ∨ ky = 2
      · exact fin' 2 0 0 (by decide) (by rw [if_pos q2]) ⟨fun _ => q2, fun _ => rfl⟩ (fun y => absurd q2 y)
      · by_cases q0 : kx = 0 ∨ ky = 0
        · have v0 : vx * vy = 0 := by
            rcases q0 with y | y
            · rw [(x4 (by omega)).mpr y, Nat.zero_mul]
            · rw [(y4 (by omega)).mpr y, Nat.mul_zero]
          refine fin' 0 0 0 (by decide) (by rw [if_neg q2, if_pos q0]) ⟨fun y => absurd y (by decide), fun y => absurd y q2⟩ (fun _ q3 => ?_)
          unfold addR
          dsimp only
          rw [if_neg (fun y => absurd y.1 (by decide)), if_neg (show ¬ (0 : Nat) = 2 by decide), if_neg q3, v0]
          unfold adN
          by_cases y : vz = 0
          · simp only [y, and_self, if_true]
          · simp only [y, and_false, if_false, if_true]
        · refine fin' 1 (vx * vy) (ex + ey) (by decide) (by rw [if_neg q2, if_neg q0]) ⟨fun y => absurd y (by decide), fun y => absurd y q2⟩ (fun _ q3 => ?_)
          unfold addR
          dsimp only
          rw [if_neg (fun y => absurd y.1 (by decide)), if_neg (show ¬ (1 : Nat) = 2 by decide), if_neg q3]
